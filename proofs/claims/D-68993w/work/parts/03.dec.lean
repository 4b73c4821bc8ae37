set_option maxRecDepth 100000
theorem dJ0_init_0 : decode cJ0_init 0 = .ok (.aload_n 0, 1) := by decide +kernel
theorem dJ0_init_1 : decode cJ0_init 1 = .ok (.invokespecial 1, 3) := by decide +kernel
theorem dJ0_init_4 : decode cJ0_init 4 = .ok (.aload_n 0, 1) := by decide +kernel
theorem dJ0_init_5 : decode cJ0_init 5 = .ok (.aload_n 0, 1) := by decide +kernel
theorem dJ0_init_6 : decode cJ0_init 6 = .ok (.putfield 7, 3) := by decide +kernel
theorem dJ0_init_9 : decode cJ0_init 9 = .ok (.aload_n 0, 1) := by decide +kernel
theorem dJ0_init_10 : decode cJ0_init 10 = .ok (.getstatic 13, 3) := by decide +kernel
theorem dJ0_init_13 : decode cJ0_init 13 = .ok (.putfield 17, 3) := by decide +kernel
theorem dJ0_init_16 : decode cJ0_init 16 = .ok (.aload_n 0, 1) := by decide +kernel
theorem dJ0_init_17 : decode cJ0_init 17 = .ok (.getstatic 20, 3) := by decide +kernel
theorem dJ0_init_20 : decode cJ0_init 20 = .ok (.putfield 24, 3) := by decide +kernel
theorem dJ0_init_23 : decode cJ0_init 23 = .ok (.aload_n 0, 1) := by decide +kernel
theorem dJ0_init_24 : decode cJ0_init 24 = .ok (.invokevirtual 27, 3) := by decide +kernel
theorem dJ0_init_27 : decode cJ0_init 27 = .ok (.pop, 1) := by decide +kernel
theorem dJ0_init_28 : decode cJ0_init 28 = .ok (.return_, 1) := by decide +kernel
theorem dJ0_init_2_0 : decode cJ0_init_2 0 = .ok (.aload_n 0, 1) := by decide +kernel
theorem dJ0_init_2_1 : decode cJ0_init_2 1 = .ok (.invokespecial 1, 3) := by decide +kernel
theorem dJ0_init_2_4 : decode cJ0_init_2 4 = .ok (.aload_n 0, 1) := by decide +kernel
theorem dJ0_init_2_5 : decode cJ0_init_2 5 = .ok (.aload_n 0, 1) := by decide +kernel
theorem dJ0_init_2_6 : decode cJ0_init_2 6 = .ok (.putfield 7, 3) := by decide +kernel
theorem dJ0_init_2_9 : decode cJ0_init_2 9 = .ok (.aload_n 0, 1) := by decide +kernel
theorem dJ0_init_2_10 : decode cJ0_init_2 10 = .ok (.getstatic 13, 3) := by decide +kernel
theorem dJ0_init_2_13 : decode cJ0_init_2 13 = .ok (.putfield 17, 3) := by decide +kernel
theorem dJ0_init_2_16 : decode cJ0_init_2 16 = .ok (.aload_n 0, 1) := by decide +kernel
theorem dJ0_init_2_17 : decode cJ0_init_2 17 = .ok (.getstatic 20, 3) := by decide +kernel
theorem dJ0_init_2_20 : decode cJ0_init_2 20 = .ok (.putfield 24, 3) := by decide +kernel
theorem dJ0_init_2_23 : decode cJ0_init_2 23 = .ok (.aload_n 0, 1) := by decide +kernel
theorem dJ0_init_2_24 : decode cJ0_init_2 24 = .ok (.invokevirtual 27, 3) := by decide +kernel
theorem dJ0_init_2_27 : decode cJ0_init_2 27 = .ok (.pop, 1) := by decide +kernel
theorem dJ0_init_2_28 : decode cJ0_init_2 28 = .ok (.aload_n 0, 1) := by decide +kernel
theorem dJ0_init_2_29 : decode cJ0_init_2 29 = .ok (.aload_n 1, 1) := by decide +kernel
theorem dJ0_init_2_30 : decode cJ0_init_2 30 = .ok (.putfield 31, 3) := by decide +kernel
theorem dJ0_init_2_33 : decode cJ0_init_2 33 = .ok (.return_, 1) := by decide +kernel
theorem dJ1_init_0 : decode cJ1_init 0 = .ok (.aload_n 0, 1) := by decide +kernel
theorem dJ1_init_1 : decode cJ1_init 1 = .ok (.invokespecial 1, 3) := by decide +kernel
theorem dJ1_init_4 : decode cJ1_init 4 = .ok (.return_, 1) := by decide +kernel
theorem dJ1_init_2_0 : decode cJ1_init_2 0 = .ok (.aload_n 0, 1) := by decide +kernel
theorem dJ1_init_2_1 : decode cJ1_init_2 1 = .ok (.aload_n 1, 1) := by decide +kernel
theorem dJ1_init_2_2 : decode cJ1_init_2 2 = .ok (.invokespecial 7, 3) := by decide +kernel
theorem dJ1_init_2_5 : decode cJ1_init_2 5 = .ok (.return_, 1) := by decide +kernel
theorem dJ10_init_0 : decode cJ10_init 0 = .ok (.aload_n 0, 1) := by decide +kernel
theorem dJ10_init_1 : decode cJ10_init 1 = .ok (.aload_n 1, 1) := by decide +kernel
theorem dJ10_init_2 : decode cJ10_init 2 = .ok (.invokespecial 7, 3) := by decide +kernel
theorem dJ10_init_5 : decode cJ10_init 5 = .ok (.return_, 1) := by decide +kernel
theorem dJ10_init_2_0 : decode cJ10_init_2 0 = .ok (.aload_n 0, 1) := by decide +kernel
theorem dJ10_init_2_1 : decode cJ10_init_2 1 = .ok (.invokespecial 1, 3) := by decide +kernel
theorem dJ10_init_2_4 : decode cJ10_init_2 4 = .ok (.return_, 1) := by decide +kernel
theorem dJ11_init_0 : decode cJ11_init 0 = .ok (.aload_n 0, 1) := by decide +kernel
theorem dJ11_init_1 : decode cJ11_init 1 = .ok (.aload_n 1, 1) := by decide +kernel
theorem dJ11_init_2 : decode cJ11_init 2 = .ok (.invokespecial 7, 3) := by decide +kernel
theorem dJ11_init_5 : decode cJ11_init 5 = .ok (.return_, 1) := by decide +kernel
theorem dJ11_init_2_0 : decode cJ11_init_2 0 = .ok (.aload_n 0, 1) := by decide +kernel
theorem dJ11_init_2_1 : decode cJ11_init_2 1 = .ok (.invokespecial 1, 3) := by decide +kernel
theorem dJ11_init_2_4 : decode cJ11_init_2 4 = .ok (.return_, 1) := by decide +kernel
theorem dJ12_init_0 : decode cJ12_init 0 = .ok (.aload_n 0, 1) := by decide +kernel
theorem dJ12_init_1 : decode cJ12_init 1 = .ok (.aload_n 1, 1) := by decide +kernel
theorem dJ12_init_2 : decode cJ12_init 2 = .ok (.invokespecial 7, 3) := by decide +kernel
theorem dJ12_init_5 : decode cJ12_init 5 = .ok (.return_, 1) := by decide +kernel
theorem dJ13_init_0 : decode cJ13_init 0 = .ok (.return_, 1) := by decide +kernel
theorem dJ2_init_0 : decode cJ2_init 0 = .ok (.aload_n 0, 1) := by decide +kernel
theorem dJ2_init_1 : decode cJ2_init 1 = .ok (.invokespecial 1, 3) := by decide +kernel
theorem dJ2_init_4 : decode cJ2_init 4 = .ok (.return_, 1) := by decide +kernel
theorem dJ2_init_2_0 : decode cJ2_init_2 0 = .ok (.aload_n 0, 1) := by decide +kernel
theorem dJ2_init_2_1 : decode cJ2_init_2 1 = .ok (.aload_n 1, 1) := by decide +kernel
theorem dJ2_init_2_2 : decode cJ2_init_2 2 = .ok (.invokespecial 7, 3) := by decide +kernel
theorem dJ2_init_2_5 : decode cJ2_init_2 5 = .ok (.return_, 1) := by decide +kernel
theorem dJ3_init_0 : decode cJ3_init 0 = .ok (.aload_n 0, 1) := by decide +kernel
theorem dJ3_init_1 : decode cJ3_init 1 = .ok (.invokespecial 1, 3) := by decide +kernel
theorem dJ3_init_4 : decode cJ3_init 4 = .ok (.return_, 1) := by decide +kernel
theorem dJ4_init_0 : decode cJ4_init 0 = .ok (.aload_n 0, 1) := by decide +kernel
theorem dJ4_init_1 : decode cJ4_init 1 = .ok (.invokespecial 1, 3) := by decide +kernel
theorem dJ4_init_4 : decode cJ4_init 4 = .ok (.return_, 1) := by decide +kernel
theorem dJ5_length_0 : decode cJ5_length 0 = .ok (.aload_n 0, 1) := by decide +kernel
theorem dJ5_length_1 : decode cJ5_length 1 = .ok (.getfield 9, 3) := by decide +kernel
theorem dJ5_length_4 : decode cJ5_length 4 = .ok (.arraylength, 1) := by decide +kernel
theorem dJ5_length_5 : decode cJ5_length 5 = .ok (.aload_n 0, 1) := by decide +kernel
theorem dJ5_length_6 : decode cJ5_length 6 = .ok (.invokevirtual 335, 3) := by decide +kernel
theorem dJ5_length_9 : decode cJ5_length 9 = .ok (.ishr, 1) := by decide +kernel
theorem dJ5_length_10 : decode cJ5_length 10 = .ok (.ireturn, 1) := by decide +kernel
theorem dJ5_coder_0 : decode cJ5_coder 0 = .ok (.getstatic 38, 3) := by decide +kernel
theorem dJ5_coder_3 : decode cJ5_coder 3 = .ok (.ifCond .eq 10, 3) := by decide +kernel
theorem dJ5_coder_6 : decode cJ5_coder 6 = .ok (.aload_n 0, 1) := by decide +kernel
theorem dJ5_coder_7 : decode cJ5_coder 7 = .ok (.getfield 15, 3) := by decide +kernel
theorem dJ5_coder_10 : decode cJ5_coder 10 = .ok (.goto 4, 3) := by decide +kernel
theorem dJ5_coder_13 : decode cJ5_coder 13 = .ok (.iconst 1, 1) := by decide +kernel
theorem dJ5_coder_14 : decode cJ5_coder 14 = .ok (.ireturn, 1) := by decide +kernel
theorem dJ5_charAt_0 : decode cJ5_charAt 0 = .ok (.aload_n 0, 1) := by decide +kernel
theorem dJ5_charAt_1 : decode cJ5_charAt 1 = .ok (.invokevirtual 492, 3) := by decide +kernel
theorem dJ5_charAt_4 : decode cJ5_charAt 4 = .ok (.ifCond .eq 12, 3) := by decide +kernel
theorem dJ5_charAt_7 : decode cJ5_charAt 7 = .ok (.aload_n 0, 1) := by decide +kernel
theorem dJ5_charAt_8 : decode cJ5_charAt 8 = .ok (.getfield 9, 3) := by decide +kernel
theorem dJ5_charAt_11 : decode cJ5_charAt 11 = .ok (.iload_n 1, 1) := by decide +kernel
theorem dJ5_charAt_12 : decode cJ5_charAt 12 = .ok (.invokestatic 495, 3) := by decide +kernel
theorem dJ5_charAt_15 : decode cJ5_charAt 15 = .ok (.ireturn, 1) := by decide +kernel
theorem dJ5_charAt_16 : decode cJ5_charAt 16 = .ok (.aload_n 0, 1) := by decide +kernel
theorem dJ5_charAt_17 : decode cJ5_charAt 17 = .ok (.getfield 9, 3) := by decide +kernel
theorem dJ5_charAt_20 : decode cJ5_charAt 20 = .ok (.iload_n 1, 1) := by decide +kernel
theorem dJ5_charAt_21 : decode cJ5_charAt 21 = .ok (.invokestatic 498, 3) := by decide +kernel
theorem dJ5_charAt_24 : decode cJ5_charAt 24 = .ok (.ireturn, 1) := by decide +kernel
theorem dJ5_isLatin1_0 : decode cJ5_isLatin1 0 = .ok (.getstatic 38, 3) := by decide +kernel
theorem dJ5_isLatin1_3 : decode cJ5_isLatin1 3 = .ok (.ifCond .eq 14, 3) := by decide +kernel
theorem dJ5_isLatin1_6 : decode cJ5_isLatin1 6 = .ok (.aload_n 0, 1) := by decide +kernel
theorem dJ5_isLatin1_7 : decode cJ5_isLatin1 7 = .ok (.getfield 15, 3) := by decide +kernel
theorem dJ5_isLatin1_10 : decode cJ5_isLatin1 10 = .ok (.ifCond .ne 7, 3) := by decide +kernel
theorem dJ5_isLatin1_13 : decode cJ5_isLatin1 13 = .ok (.iconst 1, 1) := by decide +kernel
theorem dJ5_isLatin1_14 : decode cJ5_isLatin1 14 = .ok (.goto 4, 3) := by decide +kernel
theorem dJ5_isLatin1_17 : decode cJ5_isLatin1 17 = .ok (.iconst 0, 1) := by decide +kernel
theorem dJ5_isLatin1_18 : decode cJ5_isLatin1 18 = .ok (.ireturn, 1) := by decide +kernel
theorem dJ5_checkIndex_0 : decode cJ5_checkIndex 0 = .ok (.iload_n 0, 1) := by decide +kernel
theorem dJ5_checkIndex_1 : decode cJ5_checkIndex 1 = .ok (.iload_n 1, 1) := by decide +kernel
theorem dJ5_checkIndex_2 : decode cJ5_checkIndex 2 = .ok (.getstatic 1053, 3) := by decide +kernel
theorem dJ5_checkIndex_5 : decode cJ5_checkIndex 5 = .ok (.invokestatic 1059, 3) := by decide +kernel
theorem dJ5_checkIndex_8 : decode cJ5_checkIndex 8 = .ok (.pop, 1) := by decide +kernel
theorem dJ5_checkIndex_9 : decode cJ5_checkIndex 9 = .ok (.return_, 1) := by decide +kernel
theorem dJ5_equals_0 : decode cJ5_equals 0 = .ok (.aload_n 0, 1) := by decide +kernel
theorem dJ5_equals_1 : decode cJ5_equals 1 = .ok (.aload_n 1, 1) := by decide +kernel
theorem dJ5_equals_2 : decode cJ5_equals 2 = .ok (.if_acmp .ne 5, 3) := by decide +kernel
theorem dJ5_equals_5 : decode cJ5_equals 5 = .ok (.iconst 1, 1) := by decide +kernel
theorem dJ5_equals_6 : decode cJ5_equals 6 = .ok (.ireturn, 1) := by decide +kernel
theorem dJ5_equals_7 : decode cJ5_equals 7 = .ok (.aload_n 1, 1) := by decide +kernel
theorem dJ5_equals_8 : decode cJ5_equals 8 = .ok (.instanceof 10, 3) := by decide +kernel
theorem dJ5_equals_11 : decode cJ5_equals 11 = .ok (.ifCond .eq 43, 3) := by decide +kernel
theorem dJ5_equals_14 : decode cJ5_equals 14 = .ok (.aload_n 1, 1) := by decide +kernel
theorem dJ5_equals_15 : decode cJ5_equals 15 = .ok (.checkcast 10, 3) := by decide +kernel
theorem dJ5_equals_18 : decode cJ5_equals 18 = .ok (.astore_n 2, 1) := by decide +kernel
theorem dJ5_equals_19 : decode cJ5_equals 19 = .ok (.getstatic 38, 3) := by decide +kernel
theorem dJ5_equals_22 : decode cJ5_equals 22 = .ok (.ifCond .eq 14, 3) := by decide +kernel
theorem dJ5_equals_25 : decode cJ5_equals 25 = .ok (.aload_n 0, 1) := by decide +kernel
theorem dJ5_equals_26 : decode cJ5_equals 26 = .ok (.getfield 15, 3) := by decide +kernel
theorem dJ5_equals_29 : decode cJ5_equals 29 = .ok (.aload_n 2, 1) := by decide +kernel
theorem dJ5_equals_30 : decode cJ5_equals 30 = .ok (.getfield 15, 3) := by decide +kernel
theorem dJ5_equals_33 : decode cJ5_equals 33 = .ok (.if_icmp .ne 21, 3) := by decide +kernel
theorem dJ5_equals_36 : decode cJ5_equals 36 = .ok (.aload_n 0, 1) := by decide +kernel
theorem dJ5_equals_37 : decode cJ5_equals 37 = .ok (.getfield 9, 3) := by decide +kernel
theorem dJ5_equals_40 : decode cJ5_equals 40 = .ok (.aload_n 2, 1) := by decide +kernel
theorem dJ5_equals_41 : decode cJ5_equals 41 = .ok (.getfield 9, 3) := by decide +kernel
theorem dJ5_equals_44 : decode cJ5_equals 44 = .ok (.invokestatic 541, 3) := by decide +kernel
theorem dJ5_equals_47 : decode cJ5_equals 47 = .ok (.ifCond .eq 7, 3) := by decide +kernel
theorem dJ5_equals_50 : decode cJ5_equals 50 = .ok (.iconst 1, 1) := by decide +kernel
theorem dJ5_equals_51 : decode cJ5_equals 51 = .ok (.goto 4, 3) := by decide +kernel
theorem dJ5_equals_54 : decode cJ5_equals 54 = .ok (.iconst 0, 1) := by decide +kernel
theorem dJ5_equals_55 : decode cJ5_equals 55 = .ok (.ireturn, 1) := by decide +kernel
theorem dJ6_charAt_0 : decode cJ6_charAt 0 = .ok (.iload_n 1, 1) := by decide +kernel
theorem dJ6_charAt_1 : decode cJ6_charAt 1 = .ok (.aload_n 0, 1) := by decide +kernel
theorem dJ6_charAt_2 : decode cJ6_charAt 2 = .ok (.arraylength, 1) := by decide +kernel
theorem dJ6_charAt_3 : decode cJ6_charAt 3 = .ok (.invokestatic 9, 3) := by decide +kernel
theorem dJ6_charAt_6 : decode cJ6_charAt 6 = .ok (.aload_n 0, 1) := by decide +kernel
theorem dJ6_charAt_7 : decode cJ6_charAt 7 = .ok (.iload_n 1, 1) := by decide +kernel
theorem dJ6_charAt_8 : decode cJ6_charAt 8 = .ok (.baload, 1) := by decide +kernel
theorem dJ6_charAt_9 : decode cJ6_charAt 9 = .ok (.sipush 255, 3) := by decide +kernel
theorem dJ6_charAt_12 : decode cJ6_charAt 12 = .ok (.iand, 1) := by decide +kernel
theorem dJ6_charAt_13 : decode cJ6_charAt 13 = .ok (.i2c, 1) := by decide +kernel
theorem dJ6_charAt_14 : decode cJ6_charAt 14 = .ok (.ireturn, 1) := by decide +kernel
theorem dJ6_equals_0 : decode cJ6_equals 0 = .ok (.aload_n 0, 1) := by decide +kernel
theorem dJ6_equals_1 : decode cJ6_equals 1 = .ok (.arraylength, 1) := by decide +kernel
theorem dJ6_equals_2 : decode cJ6_equals 2 = .ok (.aload_n 1, 1) := by decide +kernel
theorem dJ6_equals_3 : decode cJ6_equals 3 = .ok (.arraylength, 1) := by decide +kernel
theorem dJ6_equals_4 : decode cJ6_equals 4 = .ok (.if_icmp .ne 30, 3) := by decide +kernel
theorem dJ6_equals_7 : decode cJ6_equals 7 = .ok (.iconst 0, 1) := by decide +kernel
theorem dJ6_equals_8 : decode cJ6_equals 8 = .ok (.istore_n 2, 1) := by decide +kernel
theorem dJ6_equals_9 : decode cJ6_equals 9 = .ok (.iload_n 2, 1) := by decide +kernel
theorem dJ6_equals_10 : decode cJ6_equals 10 = .ok (.aload_n 0, 1) := by decide +kernel
theorem dJ6_equals_11 : decode cJ6_equals 11 = .ok (.arraylength, 1) := by decide +kernel
theorem dJ6_equals_12 : decode cJ6_equals 12 = .ok (.if_icmp .ge 20, 3) := by decide +kernel
theorem dJ6_equals_15 : decode cJ6_equals 15 = .ok (.aload_n 0, 1) := by decide +kernel
theorem dJ6_equals_16 : decode cJ6_equals 16 = .ok (.iload_n 2, 1) := by decide +kernel
theorem dJ6_equals_17 : decode cJ6_equals 17 = .ok (.baload, 1) := by decide +kernel
theorem dJ6_equals_18 : decode cJ6_equals 18 = .ok (.aload_n 1, 1) := by decide +kernel
theorem dJ6_equals_19 : decode cJ6_equals 19 = .ok (.iload_n 2, 1) := by decide +kernel
theorem dJ6_equals_20 : decode cJ6_equals 20 = .ok (.baload, 1) := by decide +kernel
theorem dJ6_equals_21 : decode cJ6_equals 21 = .ok (.if_icmp .eq 5, 3) := by decide +kernel
theorem dJ6_equals_24 : decode cJ6_equals 24 = .ok (.iconst 0, 1) := by decide +kernel
theorem dJ6_equals_25 : decode cJ6_equals 25 = .ok (.ireturn, 1) := by decide +kernel
theorem dJ6_equals_26 : decode cJ6_equals 26 = .ok (.iinc 2 1, 3) := by decide +kernel
theorem dJ6_equals_29 : decode cJ6_equals 29 = .ok (.goto (-20), 3) := by decide +kernel
theorem dJ6_equals_32 : decode cJ6_equals 32 = .ok (.iconst 1, 1) := by decide +kernel
theorem dJ6_equals_33 : decode cJ6_equals 33 = .ok (.ireturn, 1) := by decide +kernel
theorem dJ6_equals_34 : decode cJ6_equals 34 = .ok (.iconst 0, 1) := by decide +kernel
theorem dJ6_equals_35 : decode cJ6_equals 35 = .ok (.ireturn, 1) := by decide +kernel
theorem dJ7_checkIndex_0 : decode cJ7_checkIndex 0 = .ok (.iload_n 0, 1) := by decide +kernel
theorem dJ7_checkIndex_1 : decode cJ7_checkIndex 1 = .ok (.ifCond .lt 8, 3) := by decide +kernel
theorem dJ7_checkIndex_4 : decode cJ7_checkIndex 4 = .ok (.iload_n 0, 1) := by decide +kernel
theorem dJ7_checkIndex_5 : decode cJ7_checkIndex 5 = .ok (.iload_n 1, 1) := by decide +kernel
theorem dJ7_checkIndex_6 : decode cJ7_checkIndex 6 = .ok (.if_icmp .lt 10, 3) := by decide +kernel
theorem dJ7_checkIndex_9 : decode cJ7_checkIndex 9 = .ok (.aload_n 2, 1) := by decide +kernel
theorem dJ7_checkIndex_10 : decode cJ7_checkIndex 10 = .ok (.iload_n 0, 1) := by decide +kernel
theorem dJ7_checkIndex_11 : decode cJ7_checkIndex 11 = .ok (.iload_n 1, 1) := by decide +kernel
theorem dJ7_checkIndex_12 : decode cJ7_checkIndex 12 = .ok (.invokestatic 95, 3) := by decide +kernel
theorem dJ7_checkIndex_15 : decode cJ7_checkIndex 15 = .ok (.athrow, 1) := by decide +kernel
theorem dJ7_checkIndex_16 : decode cJ7_checkIndex 16 = .ok (.iload_n 0, 1) := by decide +kernel
theorem dJ7_checkIndex_17 : decode cJ7_checkIndex 17 = .ok (.ireturn, 1) := by decide +kernel
theorem dJ8_charAt_0 : decode cJ8_charAt 0 = .ok (.iload_n 1, 1) := by decide +kernel
theorem dJ8_charAt_1 : decode cJ8_charAt 1 = .ok (.aload_n 0, 1) := by decide +kernel
theorem dJ8_charAt_2 : decode cJ8_charAt 2 = .ok (.invokestatic 67, 3) := by decide +kernel
theorem dJ8_charAt_5 : decode cJ8_charAt 5 = .ok (.aload_n 0, 1) := by decide +kernel
theorem dJ8_charAt_6 : decode cJ8_charAt 6 = .ok (.iload_n 1, 1) := by decide +kernel
theorem dJ8_charAt_7 : decode cJ8_charAt 7 = .ok (.invokestatic 71, 3) := by decide +kernel
theorem dJ8_charAt_10 : decode cJ8_charAt 10 = .ok (.ireturn, 1) := by decide +kernel
theorem dJ8_checkIndex_0 : decode cJ8_checkIndex 0 = .ok (.iload_n 0, 1) := by decide +kernel
theorem dJ8_checkIndex_1 : decode cJ8_checkIndex 1 = .ok (.aload_n 1, 1) := by decide +kernel
theorem dJ8_checkIndex_2 : decode cJ8_checkIndex 2 = .ok (.invokestatic 48, 3) := by decide +kernel
theorem dJ8_checkIndex_5 : decode cJ8_checkIndex 5 = .ok (.invokestatic 414, 3) := by decide +kernel
theorem dJ8_checkIndex_8 : decode cJ8_checkIndex 8 = .ok (.return_, 1) := by decide +kernel
theorem dJ8_length_0 : decode cJ8_length 0 = .ok (.aload_n 0, 1) := by decide +kernel
theorem dJ8_length_1 : decode cJ8_length 1 = .ok (.arraylength, 1) := by decide +kernel
theorem dJ8_length_2 : decode cJ8_length 2 = .ok (.iconst 1, 1) := by decide +kernel
theorem dJ8_length_3 : decode cJ8_length 3 = .ok (.ishr, 1) := by decide +kernel
theorem dJ8_length_4 : decode cJ8_length 4 = .ok (.ireturn, 1) := by decide +kernel
theorem dJ8_getChar_0 : decode cJ8_getChar 0 = .ok (.getstatic 44, 3) := by decide +kernel
theorem dJ8_getChar_3 : decode cJ8_getChar 3 = .ok (.ifCond .ne 25, 3) := by decide +kernel
theorem dJ8_getChar_6 : decode cJ8_getChar 6 = .ok (.iload_n 1, 1) := by decide +kernel
theorem dJ8_getChar_7 : decode cJ8_getChar 7 = .ok (.ifCond .lt 11, 3) := by decide +kernel
theorem dJ8_getChar_10 : decode cJ8_getChar 10 = .ok (.iload_n 1, 1) := by decide +kernel
theorem dJ8_getChar_11 : decode cJ8_getChar 11 = .ok (.aload_n 0, 1) := by decide +kernel
theorem dJ8_getChar_12 : decode cJ8_getChar 12 = .ok (.invokestatic 48, 3) := by decide +kernel
theorem dJ8_getChar_15 : decode cJ8_getChar 15 = .ok (.if_icmp .lt 13, 3) := by decide +kernel
theorem dJ8_getChar_18 : decode cJ8_getChar 18 = .ok (.new 52, 3) := by decide +kernel
theorem dJ8_getChar_21 : decode cJ8_getChar 21 = .ok (.dup, 1) := by decide +kernel
theorem dJ8_getChar_22 : decode cJ8_getChar 22 = .ok (.ldc 54, 2) := by decide +kernel
theorem dJ8_getChar_24 : decode cJ8_getChar 24 = .ok (.invokespecial 56, 3) := by decide +kernel
theorem dJ8_getChar_27 : decode cJ8_getChar 27 = .ok (.athrow, 1) := by decide +kernel
theorem dJ8_getChar_28 : decode cJ8_getChar 28 = .ok (.iload_n 1, 1) := by decide +kernel
theorem dJ8_getChar_29 : decode cJ8_getChar 29 = .ok (.iconst 1, 1) := by decide +kernel
theorem dJ8_getChar_30 : decode cJ8_getChar 30 = .ok (.ishl, 1) := by decide +kernel
theorem dJ8_getChar_31 : decode cJ8_getChar 31 = .ok (.istore_n 1, 1) := by decide +kernel
theorem dJ8_getChar_32 : decode cJ8_getChar 32 = .ok (.aload_n 0, 1) := by decide +kernel
theorem dJ8_getChar_33 : decode cJ8_getChar 33 = .ok (.iload_n 1, 1) := by decide +kernel
theorem dJ8_getChar_34 : decode cJ8_getChar 34 = .ok (.iinc 1 1, 3) := by decide +kernel
theorem dJ8_getChar_37 : decode cJ8_getChar 37 = .ok (.baload, 1) := by decide +kernel
theorem dJ8_getChar_38 : decode cJ8_getChar 38 = .ok (.sipush 255, 3) := by decide +kernel
theorem dJ8_getChar_41 : decode cJ8_getChar 41 = .ok (.iand, 1) := by decide +kernel
theorem dJ8_getChar_42 : decode cJ8_getChar 42 = .ok (.getstatic 59, 3) := by decide +kernel
theorem dJ8_getChar_45 : decode cJ8_getChar 45 = .ok (.ishl, 1) := by decide +kernel
theorem dJ8_getChar_46 : decode cJ8_getChar 46 = .ok (.aload_n 0, 1) := by decide +kernel
theorem dJ8_getChar_47 : decode cJ8_getChar 47 = .ok (.iload_n 1, 1) := by decide +kernel
theorem dJ8_getChar_48 : decode cJ8_getChar 48 = .ok (.baload, 1) := by decide +kernel
theorem dJ8_getChar_49 : decode cJ8_getChar 49 = .ok (.sipush 255, 3) := by decide +kernel
theorem dJ8_getChar_52 : decode cJ8_getChar 52 = .ok (.iand, 1) := by decide +kernel
theorem dJ8_getChar_53 : decode cJ8_getChar 53 = .ok (.getstatic 63, 3) := by decide +kernel
theorem dJ8_getChar_56 : decode cJ8_getChar 56 = .ok (.ishl, 1) := by decide +kernel
theorem dJ8_getChar_57 : decode cJ8_getChar 57 = .ok (.ior, 1) := by decide +kernel
theorem dJ8_getChar_58 : decode cJ8_getChar 58 = .ok (.i2c, 1) := by decide +kernel
theorem dJ8_getChar_59 : decode cJ8_getChar 59 = .ok (.ireturn, 1) := by decide +kernel
theorem dJ9_max_0 : decode cJ9_max 0 = .ok (.iload_n 0, 1) := by decide +kernel
theorem dJ9_max_1 : decode cJ9_max 1 = .ok (.iload_n 1, 1) := by decide +kernel
theorem dJ9_max_2 : decode cJ9_max 2 = .ok (.if_icmp .lt 7, 3) := by decide +kernel
theorem dJ9_max_5 : decode cJ9_max 5 = .ok (.iload_n 0, 1) := by decide +kernel
theorem dJ9_max_6 : decode cJ9_max 6 = .ok (.goto 4, 3) := by decide +kernel
theorem dJ9_max_9 : decode cJ9_max 9 = .ok (.iload_n 1, 1) := by decide +kernel
theorem dJ9_max_10 : decode cJ9_max 10 = .ok (.ireturn, 1) := by decide +kernel
theorem dJ9_min_0 : decode cJ9_min 0 = .ok (.iload_n 0, 1) := by decide +kernel
theorem dJ9_min_1 : decode cJ9_min 1 = .ok (.iload_n 1, 1) := by decide +kernel
theorem dJ9_min_2 : decode cJ9_min 2 = .ok (.if_icmp .gt 7, 3) := by decide +kernel
theorem dJ9_min_5 : decode cJ9_min 5 = .ok (.iload_n 0, 1) := by decide +kernel
theorem dJ9_min_6 : decode cJ9_min 6 = .ok (.goto 4, 3) := by decide +kernel
theorem dJ9_min_9 : decode cJ9_min 9 = .ok (.iload_n 1, 1) := by decide +kernel
theorem dJ9_min_10 : decode cJ9_min 10 = .ok (.ireturn, 1) := by decide +kernel
theorem dL_law_0 : decode cL_law 0 = .ok (.new 8, 3) := by decide +kernel
theorem dL_law_3 : decode cL_law 3 = .ok (.dup, 1) := by decide +kernel
theorem dL_law_4 : decode cL_law 4 = .ok (.invokespecial 46, 3) := by decide +kernel
theorem dL_law_7 : decode cL_law 7 = .ok (.astore_n 1, 1) := by decide +kernel
theorem dL_law_8 : decode cL_law 8 = .ok (.new 47, 3) := by decide +kernel
theorem dL_law_11 : decode cL_law 11 = .ok (.dup, 1) := by decide +kernel
theorem dL_law_12 : decode cL_law 12 = .ok (.invokespecial 49, 3) := by decide +kernel
theorem dL_law_15 : decode cL_law 15 = .ok (.astore_n 2, 1) := by decide +kernel
theorem dL_law_16 : decode cL_law 16 = .ok (.iconst 1, 1) := by decide +kernel
theorem dL_law_17 : decode cL_law 17 = .ok (.newarray .long, 2) := by decide +kernel
theorem dL_law_19 : decode cL_law 19 = .ok (.astore_n 3, 1) := by decide +kernel
theorem dL_law_20 : decode cL_law 20 = .ok (.iconst 0, 1) := by decide +kernel
theorem dL_law_21 : decode cL_law 21 = .ok (.istore 4, 2) := by decide +kernel
theorem dL_law_23 : decode cL_law 23 = .ok (.iload 4, 2) := by decide +kernel
theorem dL_law_25 : decode cL_law 25 = .ok (.aload_n 0, 1) := by decide +kernel
theorem dL_law_26 : decode cL_law 26 = .ok (.arraylength, 1) := by decide +kernel
theorem dL_law_27 : decode cL_law 27 = .ok (.bipush 6, 2) := by decide +kernel
theorem dL_law_29 : decode cL_law 29 = .ok (.isub, 1) := by decide +kernel
theorem dL_law_30 : decode cL_law 30 = .ok (.if_icmp .gt 635, 3) := by decide +kernel
theorem dL_law_33 : decode cL_law 33 = .ok (.aload_n 0, 1) := by decide +kernel
theorem dL_law_34 : decode cL_law 34 = .ok (.iload 4, 2) := by decide +kernel
theorem dL_law_36 : decode cL_law 36 = .ok (.iaload, 1) := by decide +kernel
theorem dL_law_37 : decode cL_law 37 = .ok (.bipush 15, 2) := by decide +kernel
theorem dL_law_39 : decode cL_law 39 = .ok (.iand, 1) := by decide +kernel
theorem dL_law_40 : decode cL_law 40 = .ok (.tableswitch 619 0 14 #[76, 160, 196, 209, 222, 258, 338, 351, 364, 377, 433, 446, 502, 550, 606], 76) := by decide +kernel
theorem dL_law_116 : decode cL_law 116 = .ok (.aload_n 1, 1) := by decide +kernel
theorem dL_law_117 : decode cL_law 117 = .ok (.aload_n 0, 1) := by decide +kernel
theorem dL_law_118 : decode cL_law 118 = .ok (.iload 4, 2) := by decide +kernel
theorem dL_law_120 : decode cL_law 120 = .ok (.iconst 1, 1) := by decide +kernel
theorem dL_law_121 : decode cL_law 121 = .ok (.iadd, 1) := by decide +kernel
theorem dL_law_122 : decode cL_law 122 = .ok (.iaload, 1) := by decide +kernel
theorem dL_law_123 : decode cL_law 123 = .ok (.aload_n 0, 1) := by decide +kernel
theorem dL_law_124 : decode cL_law 124 = .ok (.iload 4, 2) := by decide +kernel
theorem dL_law_126 : decode cL_law 126 = .ok (.iconst 2, 1) := by decide +kernel
theorem dL_law_127 : decode cL_law 127 = .ok (.iadd, 1) := by decide +kernel
theorem dL_law_128 : decode cL_law 128 = .ok (.iaload, 1) := by decide +kernel
theorem dL_law_129 : decode cL_law 129 = .ok (.aload_n 0, 1) := by decide +kernel
theorem dL_law_130 : decode cL_law 130 = .ok (.iload 4, 2) := by decide +kernel
theorem dL_law_132 : decode cL_law 132 = .ok (.iconst 3, 1) := by decide +kernel
theorem dL_law_133 : decode cL_law 133 = .ok (.iadd, 1) := by decide +kernel
theorem dL_law_134 : decode cL_law 134 = .ok (.iaload, 1) := by decide +kernel
theorem dL_law_135 : decode cL_law 135 = .ok (.aload_n 0, 1) := by decide +kernel
theorem dL_law_136 : decode cL_law 136 = .ok (.iload 4, 2) := by decide +kernel
theorem dL_law_138 : decode cL_law 138 = .ok (.iconst 4, 1) := by decide +kernel
theorem dL_law_139 : decode cL_law 139 = .ok (.iadd, 1) := by decide +kernel
theorem dL_law_140 : decode cL_law 140 = .ok (.iaload, 1) := by decide +kernel
theorem dL_law_141 : decode cL_law 141 = .ok (.aload_n 0, 1) := by decide +kernel
theorem dL_law_142 : decode cL_law 142 = .ok (.iload 4, 2) := by decide +kernel
theorem dL_law_144 : decode cL_law 144 = .ok (.iconst 5, 1) := by decide +kernel
theorem dL_law_145 : decode cL_law 145 = .ok (.iadd, 1) := by decide +kernel
theorem dL_law_146 : decode cL_law 146 = .ok (.iaload, 1) := by decide +kernel
theorem dL_law_147 : decode cL_law 147 = .ok (.invokestatic 50, 3) := by decide +kernel
theorem dL_law_150 : decode cL_law 150 = .ok (.istore 5, 2) := by decide +kernel
theorem dL_law_152 : decode cL_law 152 = .ok (.aload_n 2, 1) := by decide +kernel
theorem dL_law_153 : decode cL_law 153 = .ok (.aload_n 0, 1) := by decide +kernel
theorem dL_law_154 : decode cL_law 154 = .ok (.iload 4, 2) := by decide +kernel
theorem dL_law_156 : decode cL_law 156 = .ok (.iconst 1, 1) := by decide +kernel
theorem dL_law_157 : decode cL_law 157 = .ok (.iadd, 1) := by decide +kernel
theorem dL_law_158 : decode cL_law 158 = .ok (.iaload, 1) := by decide +kernel
theorem dL_law_159 : decode cL_law 159 = .ok (.aload_n 0, 1) := by decide +kernel
theorem dL_law_160 : decode cL_law 160 = .ok (.iload 4, 2) := by decide +kernel
theorem dL_law_162 : decode cL_law 162 = .ok (.iconst 2, 1) := by decide +kernel
theorem dL_law_163 : decode cL_law 163 = .ok (.iadd, 1) := by decide +kernel
theorem dL_law_164 : decode cL_law 164 = .ok (.iaload, 1) := by decide +kernel
theorem dL_law_165 : decode cL_law 165 = .ok (.aload_n 0, 1) := by decide +kernel
theorem dL_law_166 : decode cL_law 166 = .ok (.iload 4, 2) := by decide +kernel
theorem dL_law_168 : decode cL_law 168 = .ok (.iconst 3, 1) := by decide +kernel
theorem dL_law_169 : decode cL_law 169 = .ok (.iadd, 1) := by decide +kernel
theorem dL_law_170 : decode cL_law 170 = .ok (.iaload, 1) := by decide +kernel
theorem dL_law_171 : decode cL_law 171 = .ok (.aload_n 0, 1) := by decide +kernel
theorem dL_law_172 : decode cL_law 172 = .ok (.iload 4, 2) := by decide +kernel
theorem dL_law_174 : decode cL_law 174 = .ok (.iconst 4, 1) := by decide +kernel
theorem dL_law_175 : decode cL_law 175 = .ok (.iadd, 1) := by decide +kernel
theorem dL_law_176 : decode cL_law 176 = .ok (.iaload, 1) := by decide +kernel
theorem dL_law_177 : decode cL_law 177 = .ok (.aload_n 0, 1) := by decide +kernel
theorem dL_law_178 : decode cL_law 178 = .ok (.iload 4, 2) := by decide +kernel
theorem dL_law_180 : decode cL_law 180 = .ok (.iconst 5, 1) := by decide +kernel
theorem dL_law_181 : decode cL_law 181 = .ok (.iadd, 1) := by decide +kernel
theorem dL_law_182 : decode cL_law 182 = .ok (.iaload, 1) := by decide +kernel
theorem dL_law_183 : decode cL_law 183 = .ok (.invokevirtual 55, 3) := by decide +kernel
theorem dL_law_186 : decode cL_law 186 = .ok (.aload_n 2, 1) := by decide +kernel
theorem dL_law_187 : decode cL_law 187 = .ok (.invokevirtual 56, 3) := by decide +kernel
theorem dL_law_190 : decode cL_law 190 = .ok (.iload 5, 2) := by decide +kernel
theorem dL_law_192 : decode cL_law 192 = .ok (.if_icmp .eq 5, 3) := by decide +kernel
theorem dL_law_195 : decode cL_law 195 = .ok (.iconst 0, 1) := by decide +kernel
theorem dL_law_196 : decode cL_law 196 = .ok (.ireturn, 1) := by decide +kernel
theorem dL_law_197 : decode cL_law 197 = .ok (.goto 462, 3) := by decide +kernel
theorem dL_law_200 : decode cL_law 200 = .ok (.aload_n 1, 1) := by decide +kernel
theorem dL_law_201 : decode cL_law 201 = .ok (.aload_n 0, 1) := by decide +kernel
theorem dL_law_202 : decode cL_law 202 = .ok (.iload 4, 2) := by decide +kernel
theorem dL_law_204 : decode cL_law 204 = .ok (.iconst 1, 1) := by decide +kernel
theorem dL_law_205 : decode cL_law 205 = .ok (.iadd, 1) := by decide +kernel
theorem dL_law_206 : decode cL_law 206 = .ok (.iaload, 1) := by decide +kernel
theorem dL_law_207 : decode cL_law 207 = .ok (.invokestatic 60, 3) := by decide +kernel
theorem dL_law_210 : decode cL_law 210 = .ok (.istore 5, 2) := by decide +kernel
theorem dL_law_212 : decode cL_law 212 = .ok (.aload_n 2, 1) := by decide +kernel
theorem dL_law_213 : decode cL_law 213 = .ok (.aload_n 0, 1) := by decide +kernel
theorem dL_law_214 : decode cL_law 214 = .ok (.iload 4, 2) := by decide +kernel
theorem dL_law_216 : decode cL_law 216 = .ok (.iconst 1, 1) := by decide +kernel
theorem dL_law_217 : decode cL_law 217 = .ok (.iadd, 1) := by decide +kernel
theorem dL_law_218 : decode cL_law 218 = .ok (.iaload, 1) := by decide +kernel
theorem dL_law_219 : decode cL_law 219 = .ok (.invokevirtual 63, 3) := by decide +kernel
theorem dL_law_222 : decode cL_law 222 = .ok (.aload_n 2, 1) := by decide +kernel
theorem dL_law_223 : decode cL_law 223 = .ok (.invokevirtual 56, 3) := by decide +kernel
theorem dL_law_226 : decode cL_law 226 = .ok (.iload 5, 2) := by decide +kernel
theorem dL_law_228 : decode cL_law 228 = .ok (.if_icmp .eq 5, 3) := by decide +kernel
theorem dL_law_231 : decode cL_law 231 = .ok (.iconst 0, 1) := by decide +kernel
theorem dL_law_232 : decode cL_law 232 = .ok (.ireturn, 1) := by decide +kernel
theorem dL_law_233 : decode cL_law 233 = .ok (.goto 426, 3) := by decide +kernel
theorem dL_law_236 : decode cL_law 236 = .ok (.aload_n 1, 1) := by decide +kernel
theorem dL_law_237 : decode cL_law 237 = .ok (.invokevirtual 64, 3) := by decide +kernel
theorem dL_law_240 : decode cL_law 240 = .ok (.aload_n 2, 1) := by decide +kernel
theorem dL_law_241 : decode cL_law 241 = .ok (.invokevirtual 67, 3) := by decide +kernel
theorem dL_law_244 : decode cL_law 244 = .ok (.if_icmp .eq 415, 3) := by decide +kernel
theorem dL_law_247 : decode cL_law 247 = .ok (.iconst 0, 1) := by decide +kernel
theorem dL_law_248 : decode cL_law 248 = .ok (.ireturn, 1) := by decide +kernel
theorem dL_law_249 : decode cL_law 249 = .ok (.aload_n 1, 1) := by decide +kernel
theorem dL_law_250 : decode cL_law 250 = .ok (.invokevirtual 68, 3) := by decide +kernel
theorem dL_law_253 : decode cL_law 253 = .ok (.aload_n 2, 1) := by decide +kernel
theorem dL_law_254 : decode cL_law 254 = .ok (.invokevirtual 71, 3) := by decide +kernel
theorem dL_law_257 : decode cL_law 257 = .ok (.if_icmp .eq 402, 3) := by decide +kernel
theorem dL_law_260 : decode cL_law 260 = .ok (.iconst 0, 1) := by decide +kernel
theorem dL_law_261 : decode cL_law 261 = .ok (.ireturn, 1) := by decide +kernel
theorem dL_law_262 : decode cL_law 262 = .ok (.aload_n 1, 1) := by decide +kernel
theorem dL_law_263 : decode cL_law 263 = .ok (.aload_n 0, 1) := by decide +kernel
theorem dL_law_264 : decode cL_law 264 = .ok (.iload 4, 2) := by decide +kernel
theorem dL_law_266 : decode cL_law 266 = .ok (.iconst 1, 1) := by decide +kernel
theorem dL_law_267 : decode cL_law 267 = .ok (.iadd, 1) := by decide +kernel
theorem dL_law_268 : decode cL_law 268 = .ok (.iaload, 1) := by decide +kernel
theorem dL_law_269 : decode cL_law 269 = .ok (.invokestatic 72, 3) := by decide +kernel
theorem dL_law_272 : decode cL_law 272 = .ok (.istore 5, 2) := by decide +kernel
theorem dL_law_274 : decode cL_law 274 = .ok (.aload_n 2, 1) := by decide +kernel
theorem dL_law_275 : decode cL_law 275 = .ok (.aload_n 0, 1) := by decide +kernel
theorem dL_law_276 : decode cL_law 276 = .ok (.iload 4, 2) := by decide +kernel
theorem dL_law_278 : decode cL_law 278 = .ok (.iconst 1, 1) := by decide +kernel
theorem dL_law_279 : decode cL_law 279 = .ok (.iadd, 1) := by decide +kernel
theorem dL_law_280 : decode cL_law 280 = .ok (.iaload, 1) := by decide +kernel
theorem dL_law_281 : decode cL_law 281 = .ok (.invokevirtual 74, 3) := by decide +kernel
theorem dL_law_284 : decode cL_law 284 = .ok (.aload_n 2, 1) := by decide +kernel
theorem dL_law_285 : decode cL_law 285 = .ok (.invokevirtual 56, 3) := by decide +kernel
theorem dL_law_288 : decode cL_law 288 = .ok (.iload 5, 2) := by decide +kernel
theorem dL_law_290 : decode cL_law 290 = .ok (.if_icmp .eq 5, 3) := by decide +kernel
theorem dL_law_293 : decode cL_law 293 = .ok (.iconst 0, 1) := by decide +kernel
theorem dL_law_294 : decode cL_law 294 = .ok (.ireturn, 1) := by decide +kernel
theorem dL_law_295 : decode cL_law 295 = .ok (.goto 364, 3) := by decide +kernel
theorem dL_law_298 : decode cL_law 298 = .ok (.aload_n 1, 1) := by decide +kernel
theorem dL_law_299 : decode cL_law 299 = .ok (.aload_n 0, 1) := by decide +kernel
theorem dL_law_300 : decode cL_law 300 = .ok (.iload 4, 2) := by decide +kernel
theorem dL_law_302 : decode cL_law 302 = .ok (.iconst 1, 1) := by decide +kernel
theorem dL_law_303 : decode cL_law 303 = .ok (.iadd, 1) := by decide +kernel
theorem dL_law_304 : decode cL_law 304 = .ok (.iaload, 1) := by decide +kernel
theorem dL_law_305 : decode cL_law 305 = .ok (.aload_n 0, 1) := by decide +kernel
theorem dL_law_306 : decode cL_law 306 = .ok (.iload 4, 2) := by decide +kernel
theorem dL_law_308 : decode cL_law 308 = .ok (.iconst 2, 1) := by decide +kernel
theorem dL_law_309 : decode cL_law 309 = .ok (.iadd, 1) := by decide +kernel
theorem dL_law_310 : decode cL_law 310 = .ok (.iaload, 1) := by decide +kernel
theorem dL_law_311 : decode cL_law 311 = .ok (.aload_n 0, 1) := by decide +kernel
theorem dL_law_312 : decode cL_law 312 = .ok (.iload 4, 2) := by decide +kernel
theorem dL_law_314 : decode cL_law 314 = .ok (.iconst 3, 1) := by decide +kernel
theorem dL_law_315 : decode cL_law 315 = .ok (.iadd, 1) := by decide +kernel
theorem dL_law_316 : decode cL_law 316 = .ok (.iaload, 1) := by decide +kernel
theorem dL_law_317 : decode cL_law 317 = .ok (.aload_n 3, 1) := by decide +kernel
theorem dL_law_318 : decode cL_law 318 = .ok (.invokestatic 75, 3) := by decide +kernel
theorem dL_law_321 : decode cL_law 321 = .ok (.istore 5, 2) := by decide +kernel
theorem dL_law_323 : decode cL_law 323 = .ok (.aload_n 2, 1) := by decide +kernel
theorem dL_law_324 : decode cL_law 324 = .ok (.aload_n 0, 1) := by decide +kernel
theorem dL_law_325 : decode cL_law 325 = .ok (.iload 4, 2) := by decide +kernel
theorem dL_law_327 : decode cL_law 327 = .ok (.iconst 1, 1) := by decide +kernel
theorem dL_law_328 : decode cL_law 328 = .ok (.iadd, 1) := by decide +kernel
theorem dL_law_329 : decode cL_law 329 = .ok (.iaload, 1) := by decide +kernel
theorem dL_law_330 : decode cL_law 330 = .ok (.aload_n 0, 1) := by decide +kernel
theorem dL_law_331 : decode cL_law 331 = .ok (.iload 4, 2) := by decide +kernel
theorem dL_law_333 : decode cL_law 333 = .ok (.iconst 2, 1) := by decide +kernel
theorem dL_law_334 : decode cL_law 334 = .ok (.iadd, 1) := by decide +kernel
theorem dL_law_335 : decode cL_law 335 = .ok (.iaload, 1) := by decide +kernel
theorem dL_law_336 : decode cL_law 336 = .ok (.aload_n 0, 1) := by decide +kernel
theorem dL_law_337 : decode cL_law 337 = .ok (.iload 4, 2) := by decide +kernel
theorem dL_law_339 : decode cL_law 339 = .ok (.iconst 3, 1) := by decide +kernel
theorem dL_law_340 : decode cL_law 340 = .ok (.iadd, 1) := by decide +kernel
theorem dL_law_341 : decode cL_law 341 = .ok (.iaload, 1) := by decide +kernel
theorem dL_law_342 : decode cL_law 342 = .ok (.invokevirtual 78, 3) := by decide +kernel
theorem dL_law_345 : decode cL_law 345 = .ok (.istore 6, 2) := by decide +kernel
theorem dL_law_347 : decode cL_law 347 = .ok (.aload_n 2, 1) := by decide +kernel
theorem dL_law_348 : decode cL_law 348 = .ok (.invokevirtual 56, 3) := by decide +kernel
theorem dL_law_351 : decode cL_law 351 = .ok (.iload 5, 2) := by decide +kernel
theorem dL_law_353 : decode cL_law 353 = .ok (.if_icmp .eq 5, 3) := by decide +kernel
theorem dL_law_356 : decode cL_law 356 = .ok (.iconst 0, 1) := by decide +kernel
theorem dL_law_357 : decode cL_law 357 = .ok (.ireturn, 1) := by decide +kernel
theorem dL_law_358 : decode cL_law 358 = .ok (.iload 5, 2) := by decide +kernel
theorem dL_law_360 : decode cL_law 360 = .ok (.ifCond .ne 15, 3) := by decide +kernel
theorem dL_law_363 : decode cL_law 363 = .ok (.aload_n 3, 1) := by decide +kernel
theorem dL_law_364 : decode cL_law 364 = .ok (.iconst 0, 1) := by decide +kernel
theorem dL_law_365 : decode cL_law 365 = .ok (.laload, 1) := by decide +kernel
theorem dL_law_366 : decode cL_law 366 = .ok (.iload 6, 2) := by decide +kernel
theorem dL_law_368 : decode cL_law 368 = .ok (.i2l, 1) := by decide +kernel
theorem dL_law_369 : decode cL_law 369 = .ok (.lcmp, 1) := by decide +kernel
theorem dL_law_370 : decode cL_law 370 = .ok (.ifCond .eq 5, 3) := by decide +kernel
theorem dL_law_373 : decode cL_law 373 = .ok (.iconst 0, 1) := by decide +kernel
theorem dL_law_374 : decode cL_law 374 = .ok (.ireturn, 1) := by decide +kernel
theorem dL_law_375 : decode cL_law 375 = .ok (.goto 284, 3) := by decide +kernel
theorem dL_law_378 : decode cL_law 378 = .ok (.aload_n 1, 1) := by decide +kernel
theorem dL_law_379 : decode cL_law 379 = .ok (.invokevirtual 79, 3) := by decide +kernel
theorem dL_law_382 : decode cL_law 382 = .ok (.aload_n 2, 1) := by decide +kernel
theorem dL_law_383 : decode cL_law 383 = .ok (.invokevirtual 82, 3) := by decide +kernel
theorem dL_law_386 : decode cL_law 386 = .ok (.if_icmp .eq 273, 3) := by decide +kernel
theorem dL_law_389 : decode cL_law 389 = .ok (.iconst 0, 1) := by decide +kernel
theorem dL_law_390 : decode cL_law 390 = .ok (.ireturn, 1) := by decide +kernel
theorem dL_law_391 : decode cL_law 391 = .ok (.aload_n 1, 1) := by decide +kernel
theorem dL_law_392 : decode cL_law 392 = .ok (.invokevirtual 83, 3) := by decide +kernel
theorem dL_law_395 : decode cL_law 395 = .ok (.aload_n 2, 1) := by decide +kernel
theorem dL_law_396 : decode cL_law 396 = .ok (.invokevirtual 86, 3) := by decide +kernel
theorem dL_law_399 : decode cL_law 399 = .ok (.if_icmp .eq 260, 3) := by decide +kernel
theorem dL_law_402 : decode cL_law 402 = .ok (.iconst 0, 1) := by decide +kernel
theorem dL_law_403 : decode cL_law 403 = .ok (.ireturn, 1) := by decide +kernel
theorem dL_law_404 : decode cL_law 404 = .ok (.aload_n 1, 1) := by decide +kernel
theorem dL_law_405 : decode cL_law 405 = .ok (.invokevirtual 87, 3) := by decide +kernel
theorem dL_law_408 : decode cL_law 408 = .ok (.aload_n 2, 1) := by decide +kernel
theorem dL_law_409 : decode cL_law 409 = .ok (.invokevirtual 90, 3) := by decide +kernel
theorem dL_law_412 : decode cL_law 412 = .ok (.if_icmp .eq 247, 3) := by decide +kernel
theorem dL_law_415 : decode cL_law 415 = .ok (.iconst 0, 1) := by decide +kernel
theorem dL_law_416 : decode cL_law 416 = .ok (.ireturn, 1) := by decide +kernel
theorem dL_law_417 : decode cL_law 417 = .ok (.aload_n 1, 1) := by decide +kernel
theorem dL_law_418 : decode cL_law 418 = .ok (.aload_n 0, 1) := by decide +kernel
theorem dL_law_419 : decode cL_law 419 = .ok (.iload 4, 2) := by decide +kernel
theorem dL_law_421 : decode cL_law 421 = .ok (.iconst 1, 1) := by decide +kernel
theorem dL_law_422 : decode cL_law 422 = .ok (.iadd, 1) := by decide +kernel
theorem dL_law_423 : decode cL_law 423 = .ok (.iaload, 1) := by decide +kernel
theorem dL_law_424 : decode cL_law 424 = .ok (.aload_n 3, 1) := by decide +kernel
theorem dL_law_425 : decode cL_law 425 = .ok (.invokestatic 91, 3) := by decide +kernel
theorem dL_law_428 : decode cL_law 428 = .ok (.istore 5, 2) := by decide +kernel
theorem dL_law_430 : decode cL_law 430 = .ok (.aload_n 2, 1) := by decide +kernel
theorem dL_law_431 : decode cL_law 431 = .ok (.aload_n 0, 1) := by decide +kernel
theorem dL_law_432 : decode cL_law 432 = .ok (.iload 4, 2) := by decide +kernel
theorem dL_law_434 : decode cL_law 434 = .ok (.iconst 1, 1) := by decide +kernel
theorem dL_law_435 : decode cL_law 435 = .ok (.iadd, 1) := by decide +kernel
theorem dL_law_436 : decode cL_law 436 = .ok (.iaload, 1) := by decide +kernel
theorem dL_law_437 : decode cL_law 437 = .ok (.invokevirtual 94, 3) := by decide +kernel
theorem dL_law_440 : decode cL_law 440 = .ok (.istore 6, 2) := by decide +kernel
theorem dL_law_442 : decode cL_law 442 = .ok (.aload_n 2, 1) := by decide +kernel
theorem dL_law_443 : decode cL_law 443 = .ok (.invokevirtual 56, 3) := by decide +kernel
theorem dL_law_446 : decode cL_law 446 = .ok (.iload 5, 2) := by decide +kernel
theorem dL_law_448 : decode cL_law 448 = .ok (.if_icmp .eq 5, 3) := by decide +kernel
theorem dL_law_451 : decode cL_law 451 = .ok (.iconst 0, 1) := by decide +kernel
theorem dL_law_452 : decode cL_law 452 = .ok (.ireturn, 1) := by decide +kernel
theorem dL_law_453 : decode cL_law 453 = .ok (.iload 5, 2) := by decide +kernel
theorem dL_law_455 : decode cL_law 455 = .ok (.ifCond .ne 15, 3) := by decide +kernel
theorem dL_law_458 : decode cL_law 458 = .ok (.aload_n 3, 1) := by decide +kernel
theorem dL_law_459 : decode cL_law 459 = .ok (.iconst 0, 1) := by decide +kernel
theorem dL_law_460 : decode cL_law 460 = .ok (.laload, 1) := by decide +kernel
theorem dL_law_461 : decode cL_law 461 = .ok (.iload 6, 2) := by decide +kernel
theorem dL_law_463 : decode cL_law 463 = .ok (.i2l, 1) := by decide +kernel
theorem dL_law_464 : decode cL_law 464 = .ok (.lcmp, 1) := by decide +kernel
theorem dL_law_465 : decode cL_law 465 = .ok (.ifCond .eq 5, 3) := by decide +kernel
theorem dL_law_468 : decode cL_law 468 = .ok (.iconst 0, 1) := by decide +kernel
theorem dL_law_469 : decode cL_law 469 = .ok (.ireturn, 1) := by decide +kernel
theorem dL_law_470 : decode cL_law 470 = .ok (.goto 189, 3) := by decide +kernel
theorem dL_law_473 : decode cL_law 473 = .ok (.aload_n 1, 1) := by decide +kernel
theorem dL_law_474 : decode cL_law 474 = .ok (.invokevirtual 95, 3) := by decide +kernel
theorem dL_law_477 : decode cL_law 477 = .ok (.aload_n 2, 1) := by decide +kernel
theorem dL_law_478 : decode cL_law 478 = .ok (.invokevirtual 98, 3) := by decide +kernel
theorem dL_law_481 : decode cL_law 481 = .ok (.if_icmp .eq 178, 3) := by decide +kernel
theorem dL_law_484 : decode cL_law 484 = .ok (.iconst 0, 1) := by decide +kernel
theorem dL_law_485 : decode cL_law 485 = .ok (.ireturn, 1) := by decide +kernel
theorem dL_law_486 : decode cL_law 486 = .ok (.aload_n 1, 1) := by decide +kernel
theorem dL_law_487 : decode cL_law 487 = .ok (.aload_n 0, 1) := by decide +kernel
theorem dL_law_488 : decode cL_law 488 = .ok (.iload 4, 2) := by decide +kernel
theorem dL_law_490 : decode cL_law 490 = .ok (.iconst 1, 1) := by decide +kernel
theorem dL_law_491 : decode cL_law 491 = .ok (.iadd, 1) := by decide +kernel
theorem dL_law_492 : decode cL_law 492 = .ok (.iaload, 1) := by decide +kernel
theorem dL_law_493 : decode cL_law 493 = .ok (.aload_n 3, 1) := by decide +kernel
theorem dL_law_494 : decode cL_law 494 = .ok (.invokestatic 99, 3) := by decide +kernel
theorem dL_law_497 : decode cL_law 497 = .ok (.istore 5, 2) := by decide +kernel
theorem dL_law_499 : decode cL_law 499 = .ok (.aload_n 2, 1) := by decide +kernel
theorem dL_law_500 : decode cL_law 500 = .ok (.aload_n 0, 1) := by decide +kernel
theorem dL_law_501 : decode cL_law 501 = .ok (.iload 4, 2) := by decide +kernel
theorem dL_law_503 : decode cL_law 503 = .ok (.iconst 1, 1) := by decide +kernel
theorem dL_law_504 : decode cL_law 504 = .ok (.iadd, 1) := by decide +kernel
theorem dL_law_505 : decode cL_law 505 = .ok (.iaload, 1) := by decide +kernel
theorem dL_law_506 : decode cL_law 506 = .ok (.invokevirtual 101, 3) := by decide +kernel
theorem dL_law_509 : decode cL_law 509 = .ok (.istore 6, 2) := by decide +kernel
theorem dL_law_511 : decode cL_law 511 = .ok (.aload_n 2, 1) := by decide +kernel
theorem dL_law_512 : decode cL_law 512 = .ok (.invokevirtual 56, 3) := by decide +kernel
theorem dL_law_515 : decode cL_law 515 = .ok (.iload 5, 2) := by decide +kernel
theorem dL_law_517 : decode cL_law 517 = .ok (.if_icmp .eq 5, 3) := by decide +kernel
theorem dL_law_520 : decode cL_law 520 = .ok (.iconst 0, 1) := by decide +kernel
theorem dL_law_521 : decode cL_law 521 = .ok (.ireturn, 1) := by decide +kernel
theorem dL_law_522 : decode cL_law 522 = .ok (.iload 5, 2) := by decide +kernel
theorem dL_law_524 : decode cL_law 524 = .ok (.ifCond .ne 15, 3) := by decide +kernel
theorem dL_law_527 : decode cL_law 527 = .ok (.aload_n 3, 1) := by decide +kernel
theorem dL_law_528 : decode cL_law 528 = .ok (.iconst 0, 1) := by decide +kernel
theorem dL_law_529 : decode cL_law 529 = .ok (.laload, 1) := by decide +kernel
theorem dL_law_530 : decode cL_law 530 = .ok (.iload 6, 2) := by decide +kernel
theorem dL_law_532 : decode cL_law 532 = .ok (.i2l, 1) := by decide +kernel
theorem dL_law_533 : decode cL_law 533 = .ok (.lcmp, 1) := by decide +kernel
theorem dL_law_534 : decode cL_law 534 = .ok (.ifCond .eq 5, 3) := by decide +kernel
theorem dL_law_537 : decode cL_law 537 = .ok (.iconst 0, 1) := by decide +kernel
theorem dL_law_538 : decode cL_law 538 = .ok (.ireturn, 1) := by decide +kernel
theorem dL_law_539 : decode cL_law 539 = .ok (.goto 120, 3) := by decide +kernel
theorem dL_law_542 : decode cL_law 542 = .ok (.aload_n 1, 1) := by decide +kernel
theorem dL_law_543 : decode cL_law 543 = .ok (.aload_n 0, 1) := by decide +kernel
theorem dL_law_544 : decode cL_law 544 = .ok (.iload 4, 2) := by decide +kernel
theorem dL_law_546 : decode cL_law 546 = .ok (.iconst 1, 1) := by decide +kernel
theorem dL_law_547 : decode cL_law 547 = .ok (.iadd, 1) := by decide +kernel
theorem dL_law_548 : decode cL_law 548 = .ok (.iaload, 1) := by decide +kernel
theorem dL_law_549 : decode cL_law 549 = .ok (.aload_n 0, 1) := by decide +kernel
theorem dL_law_550 : decode cL_law 550 = .ok (.iload 4, 2) := by decide +kernel
theorem dL_law_552 : decode cL_law 552 = .ok (.iconst 2, 1) := by decide +kernel
theorem dL_law_553 : decode cL_law 553 = .ok (.iadd, 1) := by decide +kernel
theorem dL_law_554 : decode cL_law 554 = .ok (.iaload, 1) := by decide +kernel
theorem dL_law_555 : decode cL_law 555 = .ok (.invokestatic 102, 3) := by decide +kernel
theorem dL_law_558 : decode cL_law 558 = .ok (.istore 5, 2) := by decide +kernel
theorem dL_law_560 : decode cL_law 560 = .ok (.aload_n 2, 1) := by decide +kernel
theorem dL_law_561 : decode cL_law 561 = .ok (.aload_n 0, 1) := by decide +kernel
theorem dL_law_562 : decode cL_law 562 = .ok (.iload 4, 2) := by decide +kernel
theorem dL_law_564 : decode cL_law 564 = .ok (.iconst 1, 1) := by decide +kernel
theorem dL_law_565 : decode cL_law 565 = .ok (.iadd, 1) := by decide +kernel
theorem dL_law_566 : decode cL_law 566 = .ok (.iaload, 1) := by decide +kernel
theorem dL_law_567 : decode cL_law 567 = .ok (.aload_n 0, 1) := by decide +kernel
theorem dL_law_568 : decode cL_law 568 = .ok (.iload 4, 2) := by decide +kernel
theorem dL_law_570 : decode cL_law 570 = .ok (.iconst 2, 1) := by decide +kernel
theorem dL_law_571 : decode cL_law 571 = .ok (.iadd, 1) := by decide +kernel
theorem dL_law_572 : decode cL_law 572 = .ok (.iaload, 1) := by decide +kernel
theorem dL_law_573 : decode cL_law 573 = .ok (.invokevirtual 105, 3) := by decide +kernel
theorem dL_law_576 : decode cL_law 576 = .ok (.aload_n 2, 1) := by decide +kernel
theorem dL_law_577 : decode cL_law 577 = .ok (.invokevirtual 56, 3) := by decide +kernel
theorem dL_law_580 : decode cL_law 580 = .ok (.iload 5, 2) := by decide +kernel
theorem dL_law_582 : decode cL_law 582 = .ok (.if_icmp .eq 5, 3) := by decide +kernel
theorem dL_law_585 : decode cL_law 585 = .ok (.iconst 0, 1) := by decide +kernel
theorem dL_law_586 : decode cL_law 586 = .ok (.ireturn, 1) := by decide +kernel
theorem dL_law_587 : decode cL_law 587 = .ok (.goto 72, 3) := by decide +kernel
theorem dL_law_590 : decode cL_law 590 = .ok (.aload_n 1, 1) := by decide +kernel
theorem dL_law_591 : decode cL_law 591 = .ok (.aload_n 0, 1) := by decide +kernel
theorem dL_law_592 : decode cL_law 592 = .ok (.iload 4, 2) := by decide +kernel
theorem dL_law_594 : decode cL_law 594 = .ok (.iconst 1, 1) := by decide +kernel
theorem dL_law_595 : decode cL_law 595 = .ok (.iadd, 1) := by decide +kernel
theorem dL_law_596 : decode cL_law 596 = .ok (.iaload, 1) := by decide +kernel
theorem dL_law_597 : decode cL_law 597 = .ok (.aload_n 3, 1) := by decide +kernel
theorem dL_law_598 : decode cL_law 598 = .ok (.invokestatic 106, 3) := by decide +kernel
theorem dL_law_601 : decode cL_law 601 = .ok (.istore 5, 2) := by decide +kernel
theorem dL_law_603 : decode cL_law 603 = .ok (.aload_n 2, 1) := by decide +kernel
theorem dL_law_604 : decode cL_law 604 = .ok (.aload_n 0, 1) := by decide +kernel
theorem dL_law_605 : decode cL_law 605 = .ok (.iload 4, 2) := by decide +kernel
theorem dL_law_607 : decode cL_law 607 = .ok (.iconst 1, 1) := by decide +kernel
theorem dL_law_608 : decode cL_law 608 = .ok (.iadd, 1) := by decide +kernel
theorem dL_law_609 : decode cL_law 609 = .ok (.iaload, 1) := by decide +kernel
theorem dL_law_610 : decode cL_law 610 = .ok (.invokevirtual 108, 3) := by decide +kernel
theorem dL_law_613 : decode cL_law 613 = .ok (.istore 6, 2) := by decide +kernel
theorem dL_law_615 : decode cL_law 615 = .ok (.aload_n 2, 1) := by decide +kernel
theorem dL_law_616 : decode cL_law 616 = .ok (.invokevirtual 56, 3) := by decide +kernel
theorem dL_law_619 : decode cL_law 619 = .ok (.iload 5, 2) := by decide +kernel
theorem dL_law_621 : decode cL_law 621 = .ok (.if_icmp .eq 5, 3) := by decide +kernel
theorem dL_law_624 : decode cL_law 624 = .ok (.iconst 0, 1) := by decide +kernel
theorem dL_law_625 : decode cL_law 625 = .ok (.ireturn, 1) := by decide +kernel
theorem dL_law_626 : decode cL_law 626 = .ok (.iload 5, 2) := by decide +kernel
theorem dL_law_628 : decode cL_law 628 = .ok (.ifCond .ne 15, 3) := by decide +kernel
theorem dL_law_631 : decode cL_law 631 = .ok (.aload_n 3, 1) := by decide +kernel
theorem dL_law_632 : decode cL_law 632 = .ok (.iconst 0, 1) := by decide +kernel
theorem dL_law_633 : decode cL_law 633 = .ok (.laload, 1) := by decide +kernel
theorem dL_law_634 : decode cL_law 634 = .ok (.iload 6, 2) := by decide +kernel
theorem dL_law_636 : decode cL_law 636 = .ok (.i2l, 1) := by decide +kernel
theorem dL_law_637 : decode cL_law 637 = .ok (.lcmp, 1) := by decide +kernel
theorem dL_law_638 : decode cL_law 638 = .ok (.ifCond .eq 5, 3) := by decide +kernel
theorem dL_law_641 : decode cL_law 641 = .ok (.iconst 0, 1) := by decide +kernel
theorem dL_law_642 : decode cL_law 642 = .ok (.ireturn, 1) := by decide +kernel
theorem dL_law_643 : decode cL_law 643 = .ok (.goto 16, 3) := by decide +kernel
theorem dL_law_646 : decode cL_law 646 = .ok (.aload_n 1, 1) := by decide +kernel
theorem dL_law_647 : decode cL_law 647 = .ok (.invokevirtual 109, 3) := by decide +kernel
theorem dL_law_650 : decode cL_law 650 = .ok (.aload_n 2, 1) := by decide +kernel
theorem dL_law_651 : decode cL_law 651 = .ok (.invokevirtual 112, 3) := by decide +kernel
theorem dL_law_654 : decode cL_law 654 = .ok (.if_icmp .eq 5, 3) := by decide +kernel
theorem dL_law_657 : decode cL_law 657 = .ok (.iconst 0, 1) := by decide +kernel
theorem dL_law_658 : decode cL_law 658 = .ok (.ireturn, 1) := by decide +kernel
theorem dL_law_659 : decode cL_law 659 = .ok (.iinc 4 6, 3) := by decide +kernel
theorem dL_law_662 : decode cL_law 662 = .ok (.goto (-639), 3) := by decide +kernel
theorem dL_law_665 : decode cL_law 665 = .ok (.iconst 1, 1) := by decide +kernel
theorem dL_law_666 : decode cL_law 666 = .ok (.ireturn, 1) := by decide +kernel
theorem dX0_feed_0 : decode cX0_feed 0 = .ok (.aload_n 0, 1) := by decide +kernel
theorem dX0_feed_1 : decode cX0_feed 1 = .ok (.iload_n 1, 1) := by decide +kernel
theorem dX0_feed_2 : decode cX0_feed 2 = .ok (.iload_n 2, 1) := by decide +kernel
theorem dX0_feed_3 : decode cX0_feed 3 = .ok (.iload_n 3, 1) := by decide +kernel
theorem dX0_feed_4 : decode cX0_feed 4 = .ok (.iload 4, 2) := by decide +kernel
theorem dX0_feed_6 : decode cX0_feed 6 = .ok (.iload 5, 2) := by decide +kernel
theorem dX0_feed_8 : decode cX0_feed 8 = .ok (.invokevirtual 7, 3) := by decide +kernel
theorem dX0_feed_11 : decode cX0_feed 11 = .ok (.goto 7, 3) := by decide +kernel
theorem dX0_feed_14 : decode cX0_feed 14 = .ok (.astore 6, 2) := by decide +kernel
theorem dX0_feed_16 : decode cX0_feed 16 = .ok (.iconst 1, 1) := by decide +kernel
theorem dX0_feed_17 : decode cX0_feed 17 = .ok (.ireturn, 1) := by decide +kernel
theorem dX0_feed_18 : decode cX0_feed 18 = .ok (.iconst 0, 1) := by decide +kernel
theorem dX0_feed_19 : decode cX0_feed 19 = .ok (.ireturn, 1) := by decide +kernel
theorem dX0_end_0 : decode cX0_end 0 = .ok (.aload_n 0, 1) := by decide +kernel
theorem dX0_end_1 : decode cX0_end 1 = .ok (.iload_n 1, 1) := by decide +kernel
theorem dX0_end_2 : decode cX0_end 2 = .ok (.invokevirtual 15, 3) := by decide +kernel
theorem dX0_end_5 : decode cX0_end 5 = .ok (.goto 6, 3) := by decide +kernel
theorem dX0_end_8 : decode cX0_end 8 = .ok (.astore_n 2, 1) := by decide +kernel
theorem dX0_end_9 : decode cX0_end 9 = .ok (.iconst 1, 1) := by decide +kernel
theorem dX0_end_10 : decode cX0_end 10 = .ok (.ireturn, 1) := by decide +kernel
theorem dX0_end_11 : decode cX0_end 11 = .ok (.iconst 0, 1) := by decide +kernel
theorem dX0_end_12 : decode cX0_end 12 = .ok (.ireturn, 1) := by decide +kernel
theorem dX0_input_0 : decode cX0_input 0 = .ok (.aload_n 0, 1) := by decide +kernel
theorem dX0_input_1 : decode cX0_input 1 = .ok (.iload_n 1, 1) := by decide +kernel
theorem dX0_input_2 : decode cX0_input 2 = .ok (.invokevirtual 21, 3) := by decide +kernel
theorem dX0_input_5 : decode cX0_input 5 = .ok (.goto 6, 3) := by decide +kernel
theorem dX0_input_8 : decode cX0_input 8 = .ok (.astore_n 2, 1) := by decide +kernel
theorem dX0_input_9 : decode cX0_input 9 = .ok (.iconst 1, 1) := by decide +kernel
theorem dX0_input_10 : decode cX0_input 10 = .ok (.ireturn, 1) := by decide +kernel
theorem dX0_input_11 : decode cX0_input 11 = .ok (.iconst 0, 1) := by decide +kernel
theorem dX0_input_12 : decode cX0_input 12 = .ok (.ireturn, 1) := by decide +kernel
theorem dX0_run_0 : decode cX0_run 0 = .ok (.aload 4, 2) := by decide +kernel
theorem dX0_run_2 : decode cX0_run 2 = .ok (.iconst 0, 1) := by decide +kernel
theorem dX0_run_3 : decode cX0_run 3 = .ok (.aload_n 0, 1) := by decide +kernel
theorem dX0_run_4 : decode cX0_run 4 = .ok (.iload_n 1, 1) := by decide +kernel
theorem dX0_run_5 : decode cX0_run 5 = .ok (.iload_n 2, 1) := by decide +kernel
theorem dX0_run_6 : decode cX0_run 6 = .ok (.iload_n 3, 1) := by decide +kernel
theorem dX0_run_7 : decode cX0_run 7 = .ok (.invokevirtual 24, 3) := by decide +kernel
theorem dX0_run_10 : decode cX0_run 10 = .ok (.i2l, 1) := by decide +kernel
theorem dX0_run_11 : decode cX0_run 11 = .ok (.lastore, 1) := by decide +kernel
theorem dX0_run_12 : decode cX0_run 12 = .ok (.goto 15, 3) := by decide +kernel
theorem dX0_run_15 : decode cX0_run 15 = .ok (.astore 5, 2) := by decide +kernel
theorem dX0_run_17 : decode cX0_run 17 = .ok (.iconst 1, 1) := by decide +kernel
theorem dX0_run_18 : decode cX0_run 18 = .ok (.ireturn, 1) := by decide +kernel
theorem dX0_run_19 : decode cX0_run 19 = .ok (.astore 5, 2) := by decide +kernel
theorem dX0_run_21 : decode cX0_run 21 = .ok (.iconst 2, 1) := by decide +kernel
theorem dX0_run_22 : decode cX0_run 22 = .ok (.ireturn, 1) := by decide +kernel
theorem dX0_run_23 : decode cX0_run 23 = .ok (.astore 5, 2) := by decide +kernel
theorem dX0_run_25 : decode cX0_run 25 = .ok (.iconst 3, 1) := by decide +kernel
theorem dX0_run_26 : decode cX0_run 26 = .ok (.ireturn, 1) := by decide +kernel
theorem dX0_run_27 : decode cX0_run 27 = .ok (.iconst 0, 1) := by decide +kernel
theorem dX0_run_28 : decode cX0_run 28 = .ok (.ireturn, 1) := by decide +kernel
theorem dX0_paperAt_0 : decode cX0_paperAt 0 = .ok (.aload_n 2, 1) := by decide +kernel
theorem dX0_paperAt_1 : decode cX0_paperAt 1 = .ok (.iconst 0, 1) := by decide +kernel
theorem dX0_paperAt_2 : decode cX0_paperAt 2 = .ok (.aload_n 0, 1) := by decide +kernel
theorem dX0_paperAt_3 : decode cX0_paperAt 3 = .ok (.iload_n 1, 1) := by decide +kernel
theorem dX0_paperAt_4 : decode cX0_paperAt 4 = .ok (.invokevirtual 30, 3) := by decide +kernel
theorem dX0_paperAt_7 : decode cX0_paperAt 7 = .ok (.i2l, 1) := by decide +kernel
theorem dX0_paperAt_8 : decode cX0_paperAt 8 = .ok (.lastore, 1) := by decide +kernel
theorem dX0_paperAt_9 : decode cX0_paperAt 9 = .ok (.goto 6, 3) := by decide +kernel
theorem dX0_paperAt_12 : decode cX0_paperAt 12 = .ok (.astore_n 3, 1) := by decide +kernel
theorem dX0_paperAt_13 : decode cX0_paperAt 13 = .ok (.iconst 1, 1) := by decide +kernel
theorem dX0_paperAt_14 : decode cX0_paperAt 14 = .ok (.ireturn, 1) := by decide +kernel
theorem dX0_paperAt_15 : decode cX0_paperAt 15 = .ok (.iconst 0, 1) := by decide +kernel
theorem dX0_paperAt_16 : decode cX0_paperAt 16 = .ok (.ireturn, 1) := by decide +kernel
theorem dX0_disk_0 : decode cX0_disk 0 = .ok (.aload_n 2, 1) := by decide +kernel
theorem dX0_disk_1 : decode cX0_disk 1 = .ok (.iconst 0, 1) := by decide +kernel
theorem dX0_disk_2 : decode cX0_disk 2 = .ok (.aload_n 0, 1) := by decide +kernel
theorem dX0_disk_3 : decode cX0_disk 3 = .ok (.iload_n 1, 1) := by decide +kernel
theorem dX0_disk_4 : decode cX0_disk 4 = .ok (.invokevirtual 36, 3) := by decide +kernel
theorem dX0_disk_7 : decode cX0_disk 7 = .ok (.i2l, 1) := by decide +kernel
theorem dX0_disk_8 : decode cX0_disk 8 = .ok (.lastore, 1) := by decide +kernel
theorem dX0_disk_9 : decode cX0_disk 9 = .ok (.goto 6, 3) := by decide +kernel
theorem dX0_disk_12 : decode cX0_disk 12 = .ok (.astore_n 3, 1) := by decide +kernel
theorem dX0_disk_13 : decode cX0_disk 13 = .ok (.iconst 1, 1) := by decide +kernel
theorem dX0_disk_14 : decode cX0_disk 14 = .ok (.ireturn, 1) := by decide +kernel
theorem dX0_disk_15 : decode cX0_disk 15 = .ok (.iconst 0, 1) := by decide +kernel
theorem dX0_disk_16 : decode cX0_disk 16 = .ok (.ireturn, 1) := by decide +kernel
theorem dX0_setDisk_0 : decode cX0_setDisk 0 = .ok (.aload_n 0, 1) := by decide +kernel
theorem dX0_setDisk_1 : decode cX0_setDisk 1 = .ok (.iload_n 1, 1) := by decide +kernel
theorem dX0_setDisk_2 : decode cX0_setDisk 2 = .ok (.iload_n 2, 1) := by decide +kernel
theorem dX0_setDisk_3 : decode cX0_setDisk 3 = .ok (.invokevirtual 39, 3) := by decide +kernel
theorem dX0_setDisk_6 : decode cX0_setDisk 6 = .ok (.goto 6, 3) := by decide +kernel
theorem dX0_setDisk_9 : decode cX0_setDisk 9 = .ok (.astore_n 3, 1) := by decide +kernel
theorem dX0_setDisk_10 : decode cX0_setDisk 10 = .ok (.iconst 1, 1) := by decide +kernel
theorem dX0_setDisk_11 : decode cX0_setDisk 11 = .ok (.ireturn, 1) := by decide +kernel
theorem dX0_setDisk_12 : decode cX0_setDisk 12 = .ok (.iconst 0, 1) := by decide +kernel
theorem dX0_setDisk_13 : decode cX0_setDisk 13 = .ok (.ireturn, 1) := by decide +kernel
theorem dX0_variable_0 : decode cX0_variable 0 = .ok (.aload_n 2, 1) := by decide +kernel
theorem dX0_variable_1 : decode cX0_variable 1 = .ok (.iconst 0, 1) := by decide +kernel
theorem dX0_variable_2 : decode cX0_variable 2 = .ok (.aload_n 0, 1) := by decide +kernel
theorem dX0_variable_3 : decode cX0_variable 3 = .ok (.iload_n 1, 1) := by decide +kernel
theorem dX0_variable_4 : decode cX0_variable 4 = .ok (.invokevirtual 43, 3) := by decide +kernel
theorem dX0_variable_7 : decode cX0_variable 7 = .ok (.i2l, 1) := by decide +kernel
theorem dX0_variable_8 : decode cX0_variable 8 = .ok (.lastore, 1) := by decide +kernel
theorem dX0_variable_9 : decode cX0_variable 9 = .ok (.goto 6, 3) := by decide +kernel
theorem dX0_variable_12 : decode cX0_variable 12 = .ok (.astore_n 3, 1) := by decide +kernel
theorem dX0_variable_13 : decode cX0_variable 13 = .ok (.iconst 1, 1) := by decide +kernel
theorem dX0_variable_14 : decode cX0_variable 14 = .ok (.ireturn, 1) := by decide +kernel
theorem dX0_variable_15 : decode cX0_variable 15 = .ok (.iconst 0, 1) := by decide +kernel
theorem dX0_variable_16 : decode cX0_variable 16 = .ok (.ireturn, 1) := by decide +kernel
theorem dX1_init_0 : decode cX1_init 0 = .ok (.aload_n 0, 1) := by decide +kernel
theorem dX1_init_1 : decode cX1_init 1 = .ok (.invokespecial 1, 3) := by decide +kernel
theorem dX1_init_4 : decode cX1_init 4 = .ok (.aload_n 0, 1) := by decide +kernel
theorem dX1_init_5 : decode cX1_init 5 = .ok (.new 7, 3) := by decide +kernel
theorem dX1_init_8 : decode cX1_init 8 = .ok (.dup, 1) := by decide +kernel
theorem dX1_init_9 : decode cX1_init 9 = .ok (.invokespecial 9, 3) := by decide +kernel
theorem dX1_init_12 : decode cX1_init 12 = .ok (.putfield 10, 3) := by decide +kernel
theorem dX1_init_15 : decode cX1_init 15 = .ok (.aload_n 0, 1) := by decide +kernel
theorem dX1_init_16 : decode cX1_init 16 = .ok (.new 16, 3) := by decide +kernel
theorem dX1_init_19 : decode cX1_init 19 = .ok (.dup, 1) := by decide +kernel
theorem dX1_init_20 : decode cX1_init 20 = .ok (.invokespecial 18, 3) := by decide +kernel
theorem dX1_init_23 : decode cX1_init 23 = .ok (.putfield 19, 3) := by decide +kernel
theorem dX1_init_26 : decode cX1_init 26 = .ok (.aload_n 0, 1) := by decide +kernel
theorem dX1_init_27 : decode cX1_init 27 = .ok (.new 23, 3) := by decide +kernel
theorem dX1_init_30 : decode cX1_init 30 = .ok (.dup, 1) := by decide +kernel
theorem dX1_init_31 : decode cX1_init 31 = .ok (.invokespecial 25, 3) := by decide +kernel
theorem dX1_init_34 : decode cX1_init 34 = .ok (.putfield 26, 3) := by decide +kernel
theorem dX1_init_37 : decode cX1_init 37 = .ok (.aload_n 0, 1) := by decide +kernel
theorem dX1_init_38 : decode cX1_init 38 = .ok (.new 30, 3) := by decide +kernel
theorem dX1_init_41 : decode cX1_init 41 = .ok (.dup, 1) := by decide +kernel
theorem dX1_init_42 : decode cX1_init 42 = .ok (.aload_n 0, 1) := by decide +kernel
theorem dX1_init_43 : decode cX1_init 43 = .ok (.getfield 10, 3) := by decide +kernel
theorem dX1_init_46 : decode cX1_init 46 = .ok (.aload_n 0, 1) := by decide +kernel
theorem dX1_init_47 : decode cX1_init 47 = .ok (.getfield 19, 3) := by decide +kernel
theorem dX1_init_50 : decode cX1_init 50 = .ok (.aload_n 0, 1) := by decide +kernel
theorem dX1_init_51 : decode cX1_init 51 = .ok (.getfield 26, 3) := by decide +kernel
theorem dX1_init_54 : decode cX1_init 54 = .ok (.invokespecial 32, 3) := by decide +kernel
theorem dX1_init_57 : decode cX1_init 57 = .ok (.putfield 35, 3) := by decide +kernel
theorem dX1_init_60 : decode cX1_init 60 = .ok (.aload_n 0, 1) := by decide +kernel
theorem dX1_init_61 : decode cX1_init 61 = .ok (.new 39, 3) := by decide +kernel
theorem dX1_init_64 : decode cX1_init 64 = .ok (.dup, 1) := by decide +kernel
theorem dX1_init_65 : decode cX1_init 65 = .ok (.invokespecial 41, 3) := by decide +kernel
theorem dX1_init_68 : decode cX1_init 68 = .ok (.putfield 42, 3) := by decide +kernel
theorem dX1_init_71 : decode cX1_init 71 = .ok (.aload_n 0, 1) := by decide +kernel
theorem dX1_init_72 : decode cX1_init 72 = .ok (.new 46, 3) := by decide +kernel
theorem dX1_init_75 : decode cX1_init 75 = .ok (.dup, 1) := by decide +kernel
theorem dX1_init_76 : decode cX1_init 76 = .ok (.aload_n 0, 1) := by decide +kernel
theorem dX1_init_77 : decode cX1_init 77 = .ok (.getfield 35, 3) := by decide +kernel
theorem dX1_init_80 : decode cX1_init 80 = .ok (.aload_n 0, 1) := by decide +kernel
theorem dX1_init_81 : decode cX1_init 81 = .ok (.getfield 42, 3) := by decide +kernel
theorem dX1_init_84 : decode cX1_init 84 = .ok (.invokespecial 48, 3) := by decide +kernel
theorem dX1_init_87 : decode cX1_init 87 = .ok (.putfield 51, 3) := by decide +kernel
theorem dX1_init_90 : decode cX1_init 90 = .ok (.aload_n 0, 1) := by decide +kernel
theorem dX1_init_91 : decode cX1_init 91 = .ok (.new 55, 3) := by decide +kernel
theorem dX1_init_94 : decode cX1_init 94 = .ok (.dup, 1) := by decide +kernel
theorem dX1_init_95 : decode cX1_init 95 = .ok (.aload_n 0, 1) := by decide +kernel
theorem dX1_init_96 : decode cX1_init 96 = .ok (.getfield 42, 3) := by decide +kernel
theorem dX1_init_99 : decode cX1_init 99 = .ok (.aload_n 0, 1) := by decide +kernel
theorem dX1_init_100 : decode cX1_init 100 = .ok (.getfield 19, 3) := by decide +kernel
theorem dX1_init_103 : decode cX1_init 103 = .ok (.aload_n 0, 1) := by decide +kernel
theorem dX1_init_104 : decode cX1_init 104 = .ok (.getfield 10, 3) := by decide +kernel
theorem dX1_init_107 : decode cX1_init 107 = .ok (.invokespecial 57, 3) := by decide +kernel
theorem dX1_init_110 : decode cX1_init 110 = .ok (.putfield 60, 3) := by decide +kernel
theorem dX1_init_113 : decode cX1_init 113 = .ok (.aload_n 0, 1) := by decide +kernel
theorem dX1_init_114 : decode cX1_init 114 = .ok (.new 64, 3) := by decide +kernel
theorem dX1_init_117 : decode cX1_init 117 = .ok (.dup, 1) := by decide +kernel
theorem dX1_init_118 : decode cX1_init 118 = .ok (.invokespecial 66, 3) := by decide +kernel
theorem dX1_init_121 : decode cX1_init 121 = .ok (.putfield 67, 3) := by decide +kernel
theorem dX1_init_124 : decode cX1_init 124 = .ok (.aload_n 0, 1) := by decide +kernel
theorem dX1_init_125 : decode cX1_init 125 = .ok (.new 71, 3) := by decide +kernel
theorem dX1_init_128 : decode cX1_init 128 = .ok (.dup, 1) := by decide +kernel
theorem dX1_init_129 : decode cX1_init 129 = .ok (.aload_n 0, 1) := by decide +kernel
theorem dX1_init_130 : decode cX1_init 130 = .ok (.getfield 42, 3) := by decide +kernel
theorem dX1_init_133 : decode cX1_init 133 = .ok (.aload_n 0, 1) := by decide +kernel
theorem dX1_init_134 : decode cX1_init 134 = .ok (.getfield 60, 3) := by decide +kernel
theorem dX1_init_137 : decode cX1_init 137 = .ok (.aload_n 0, 1) := by decide +kernel
theorem dX1_init_138 : decode cX1_init 138 = .ok (.getfield 10, 3) := by decide +kernel
theorem dX1_init_141 : decode cX1_init 141 = .ok (.aload_n 0, 1) := by decide +kernel
theorem dX1_init_142 : decode cX1_init 142 = .ok (.getfield 26, 3) := by decide +kernel
theorem dX1_init_145 : decode cX1_init 145 = .ok (.aload_n 0, 1) := by decide +kernel
theorem dX1_init_146 : decode cX1_init 146 = .ok (.getfield 67, 3) := by decide +kernel
theorem dX1_init_149 : decode cX1_init 149 = .ok (.invokespecial 73, 3) := by decide +kernel
theorem dX1_init_152 : decode cX1_init 152 = .ok (.putfield 76, 3) := by decide +kernel
theorem dX1_init_155 : decode cX1_init 155 = .ok (.aload_n 0, 1) := by decide +kernel
theorem dX1_init_156 : decode cX1_init 156 = .ok (.new 80, 3) := by decide +kernel
theorem dX1_init_159 : decode cX1_init 159 = .ok (.dup, 1) := by decide +kernel
theorem dX1_init_160 : decode cX1_init 160 = .ok (.invokespecial 82, 3) := by decide +kernel
theorem dX1_init_163 : decode cX1_init 163 = .ok (.putfield 83, 3) := by decide +kernel
theorem dX1_init_166 : decode cX1_init 166 = .ok (.aload_n 0, 1) := by decide +kernel
theorem dX1_init_167 : decode cX1_init 167 = .ok (.new 23, 3) := by decide +kernel
theorem dX1_init_170 : decode cX1_init 170 = .ok (.dup, 1) := by decide +kernel
theorem dX1_init_171 : decode cX1_init 171 = .ok (.invokespecial 25, 3) := by decide +kernel
theorem dX1_init_174 : decode cX1_init 174 = .ok (.putfield 87, 3) := by decide +kernel
theorem dX1_init_177 : decode cX1_init 177 = .ok (.aload_n 0, 1) := by decide +kernel
theorem dX1_init_178 : decode cX1_init 178 = .ok (.iconst (-1), 1) := by decide +kernel
theorem dX1_init_179 : decode cX1_init 179 = .ok (.putfield 90, 3) := by decide +kernel
theorem dX1_init_182 : decode cX1_init 182 = .ok (.aload_n 0, 1) := by decide +kernel
theorem dX1_init_183 : decode cX1_init 183 = .ok (.ldc 94, 2) := by decide +kernel
theorem dX1_init_185 : decode cX1_init 185 = .ok (.putfield 95, 3) := by decide +kernel
theorem dX1_init_188 : decode cX1_init 188 = .ok (.aload_n 0, 1) := by decide +kernel
theorem dX1_init_189 : decode cX1_init 189 = .ok (.getfield 19, 3) := by decide +kernel
theorem dX1_init_192 : decode cX1_init 192 = .ok (.invokevirtual 98, 3) := by decide +kernel
theorem dX1_init_195 : decode cX1_init 195 = .ok (.return_, 1) := by decide +kernel
theorem dX1_load_0 : decode cX1_load 0 = .ok (.aload_n 0, 1) := by decide +kernel
theorem dX1_load_1 : decode cX1_load 1 = .ok (.getfield 19, 3) := by decide +kernel
theorem dX1_load_4 : decode cX1_load 4 = .ok (.invokevirtual 98, 3) := by decide +kernel
theorem dX1_load_7 : decode cX1_load 7 = .ok (.aload_n 0, 1) := by decide +kernel
theorem dX1_load_8 : decode cX1_load 8 = .ok (.getfield 26, 3) := by decide +kernel
theorem dX1_load_11 : decode cX1_load 11 = .ok (.iconst 0, 1) := by decide +kernel
theorem dX1_load_12 : decode cX1_load 12 = .ok (.invokevirtual 128, 3) := by decide +kernel
theorem dX1_load_15 : decode cX1_load 15 = .ok (.aload_n 0, 1) := by decide +kernel
theorem dX1_load_16 : decode cX1_load 16 = .ok (.getfield 42, 3) := by decide +kernel
theorem dX1_load_19 : decode cX1_load 19 = .ok (.invokevirtual 134, 3) := by decide +kernel
theorem dX1_load_22 : decode cX1_load 22 = .ok (.aload_n 0, 1) := by decide +kernel
theorem dX1_load_23 : decode cX1_load 23 = .ok (.getfield 60, 3) := by decide +kernel
theorem dX1_load_26 : decode cX1_load 26 = .ok (.invokevirtual 135, 3) := by decide +kernel
theorem dX1_load_29 : decode cX1_load 29 = .ok (.aload_n 0, 1) := by decide +kernel
theorem dX1_load_30 : decode cX1_load 30 = .ok (.getfield 83, 3) := by decide +kernel
theorem dX1_load_33 : decode cX1_load 33 = .ok (.iconst 0, 1) := by decide +kernel
theorem dX1_load_34 : decode cX1_load 34 = .ok (.putfield 136, 3) := by decide +kernel
theorem dX1_load_37 : decode cX1_load 37 = .ok (.aload_n 0, 1) := by decide +kernel
theorem dX1_load_38 : decode cX1_load 38 = .ok (.getfield 83, 3) := by decide +kernel
theorem dX1_load_41 : decode cX1_load 41 = .ok (.iconst 0, 1) := by decide +kernel
theorem dX1_load_42 : decode cX1_load 42 = .ok (.putfield 139, 3) := by decide +kernel
theorem dX1_load_45 : decode cX1_load 45 = .ok (.aload_n 0, 1) := by decide +kernel
theorem dX1_load_46 : decode cX1_load 46 = .ok (.iconst 0, 1) := by decide +kernel
theorem dX1_load_47 : decode cX1_load 47 = .ok (.putfield 142, 3) := by decide +kernel
theorem dX1_load_50 : decode cX1_load 50 = .ok (.aload_n 0, 1) := by decide +kernel
theorem dX1_load_51 : decode cX1_load 51 = .ok (.iconst 0, 1) := by decide +kernel
theorem dX1_load_52 : decode cX1_load 52 = .ok (.putfield 146, 3) := by decide +kernel
theorem dX1_load_55 : decode cX1_load 55 = .ok (.aload_n 0, 1) := by decide +kernel
theorem dX1_load_56 : decode cX1_load 56 = .ok (.iconst (-1), 1) := by decide +kernel
theorem dX1_load_57 : decode cX1_load 57 = .ok (.putfield 90, 3) := by decide +kernel
theorem dX1_load_60 : decode cX1_load 60 = .ok (.aload_n 0, 1) := by decide +kernel
theorem dX1_load_61 : decode cX1_load 61 = .ok (.iconst 0, 1) := by decide +kernel
theorem dX1_load_62 : decode cX1_load 62 = .ok (.putfield 149, 3) := by decide +kernel
theorem dX1_load_65 : decode cX1_load 65 = .ok (.aload_n 0, 1) := by decide +kernel
theorem dX1_load_66 : decode cX1_load 66 = .ok (.getfield 87, 3) := by decide +kernel
theorem dX1_load_69 : decode cX1_load 69 = .ok (.invokevirtual 114, 3) := by decide +kernel
theorem dX1_load_72 : decode cX1_load 72 = .ok (.istore_n 1, 1) := by decide +kernel
theorem dX1_load_73 : decode cX1_load 73 = .ok (.aload_n 0, 1) := by decide +kernel
theorem dX1_load_74 : decode cX1_load 74 = .ok (.getfield 35, 3) := by decide +kernel
theorem dX1_load_77 : decode cX1_load 77 = .ok (.aload_n 0, 1) := by decide +kernel
theorem dX1_load_78 : decode cX1_load 78 = .ok (.getfield 87, 3) := by decide +kernel
theorem dX1_load_81 : decode cX1_load 81 = .ok (.invokevirtual 152, 3) := by decide +kernel
theorem dX1_load_84 : decode cX1_load 84 = .ok (.aload_n 0, 1) := by decide +kernel
theorem dX1_load_85 : decode cX1_load 85 = .ok (.invokevirtual 156, 3) := by decide +kernel
theorem dX1_load_88 : decode cX1_load 88 = .ok (.istore_n 2, 1) := by decide +kernel
theorem dX1_load_89 : decode cX1_load 89 = .ok (.aload_n 0, 1) := by decide +kernel
theorem dX1_load_90 : decode cX1_load 90 = .ok (.getfield 87, 3) := by decide +kernel
theorem dX1_load_93 : decode cX1_load 93 = .ok (.iconst 0, 1) := by decide +kernel
theorem dX1_load_94 : decode cX1_load 94 = .ok (.invokevirtual 128, 3) := by decide +kernel
theorem dX1_load_97 : decode cX1_load 97 = .ok (.iload_n 2, 1) := by decide +kernel
theorem dX1_load_98 : decode cX1_load 98 = .ok (.iconst (-1), 1) := by decide +kernel
theorem dX1_load_99 : decode cX1_load 99 = .ok (.if_icmp .ne 18, 3) := by decide +kernel
theorem dX1_load_102 : decode cX1_load 102 = .ok (.aload_n 0, 1) := by decide +kernel
theorem dX1_load_103 : decode cX1_load 103 = .ok (.aload_n 0, 1) := by decide +kernel
theorem dX1_load_104 : decode cX1_load 104 = .ok (.getfield 35, 3) := by decide +kernel
theorem dX1_load_107 : decode cX1_load 107 = .ok (.invokevirtual 157, 3) := by decide +kernel
theorem dX1_load_110 : decode cX1_load 110 = .ok (.iconst 1, 1) := by decide +kernel
theorem dX1_load_111 : decode cX1_load 111 = .ok (.iadd, 1) := by decide +kernel
theorem dX1_load_112 : decode cX1_load 112 = .ok (.putfield 160, 3) := by decide +kernel
theorem dX1_load_115 : decode cX1_load 115 = .ok (.iconst (-1), 1) := by decide +kernel
theorem dX1_load_116 : decode cX1_load 116 = .ok (.ireturn, 1) := by decide +kernel
theorem dX1_load_117 : decode cX1_load 117 = .ok (.aload_n 0, 1) := by decide +kernel
theorem dX1_load_118 : decode cX1_load 118 = .ok (.getfield 60, 3) := by decide +kernel
theorem dX1_load_121 : decode cX1_load 121 = .ok (.iload_n 2, 1) := by decide +kernel
theorem dX1_load_122 : decode cX1_load 122 = .ok (.iconst 0, 1) := by decide +kernel
theorem dX1_load_123 : decode cX1_load 123 = .ok (.iload_n 1, 1) := by decide +kernel
theorem dX1_load_124 : decode cX1_load 124 = .ok (.invokevirtual 163, 3) := by decide +kernel
theorem dX1_load_127 : decode cX1_load 127 = .ok (.aload_n 0, 1) := by decide +kernel
theorem dX1_load_128 : decode cX1_load 128 = .ok (.getfield 60, 3) := by decide +kernel
theorem dX1_load_131 : decode cX1_load 131 = .ok (.invokevirtual 167, 3) := by decide +kernel
theorem dX1_load_134 : decode cX1_load 134 = .ok (.invokevirtual 171, 3) := by decide +kernel
theorem dX1_load_137 : decode cX1_load 137 = .ok (.istore_n 3, 1) := by decide +kernel
theorem dX1_load_138 : decode cX1_load 138 = .ok (.aload_n 0, 1) := by decide +kernel
theorem dX1_load_139 : decode cX1_load 139 = .ok (.iload_n 3, 1) := by decide +kernel
theorem dX1_load_140 : decode cX1_load 140 = .ok (.ifCond .ne 7, 3) := by decide +kernel
theorem dX1_load_143 : decode cX1_load 143 = .ok (.iconst 0, 1) := by decide +kernel
theorem dX1_load_144 : decode cX1_load 144 = .ok (.goto 15, 3) := by decide +kernel
theorem dX1_load_147 : decode cX1_load 147 = .ok (.aload_n 0, 1) := by decide +kernel
theorem dX1_load_148 : decode cX1_load 148 = .ok (.getfield 60, 3) := by decide +kernel
theorem dX1_load_151 : decode cX1_load 151 = .ok (.invokevirtual 167, 3) := by decide +kernel
theorem dX1_load_154 : decode cX1_load 154 = .ok (.invokevirtual 176, 3) := by decide +kernel
theorem dX1_load_157 : decode cX1_load 157 = .ok (.iconst 1, 1) := by decide +kernel
theorem dX1_load_158 : decode cX1_load 158 = .ok (.iadd, 1) := by decide +kernel
theorem dX1_load_159 : decode cX1_load 159 = .ok (.putfield 160, 3) := by decide +kernel
theorem dX1_load_162 : decode cX1_load 162 = .ok (.iload_n 3, 1) := by decide +kernel
theorem dX1_load_163 : decode cX1_load 163 = .ok (.ifCond .ne 12, 3) := by decide +kernel
theorem dX1_load_166 : decode cX1_load 166 = .ok (.aload_n 0, 1) := by decide +kernel
theorem dX1_load_167 : decode cX1_load 167 = .ok (.iload_n 2, 1) := by decide +kernel
theorem dX1_load_168 : decode cX1_load 168 = .ok (.putfield 90, 3) := by decide +kernel
theorem dX1_load_171 : decode cX1_load 171 = .ok (.aload_n 0, 1) := by decide +kernel
theorem dX1_load_172 : decode cX1_load 172 = .ok (.invokevirtual 178, 3) := by decide +kernel
theorem dX1_load_175 : decode cX1_load 175 = .ok (.iload_n 3, 1) := by decide +kernel
theorem dX1_load_176 : decode cX1_load 176 = .ok (.ireturn, 1) := by decide +kernel
theorem dX1_read_0 : decode cX1_read 0 = .ok (.iconst (-1), 1) := by decide +kernel
theorem dX1_read_1 : decode cX1_read 1 = .ok (.istore_n 1, 1) := by decide +kernel
theorem dX1_read_2 : decode cX1_read 2 = .ok (.aload_n 0, 1) := by decide +kernel
theorem dX1_read_3 : decode cX1_read 3 = .ok (.getfield 51, 3) := by decide +kernel
theorem dX1_read_6 : decode cX1_read 6 = .ok (.invokevirtual 131, 3) := by decide +kernel
theorem dX1_read_9 : decode cX1_read 9 = .ok (.istore_n 1, 1) := by decide +kernel
theorem dX1_read_10 : decode cX1_read 10 = .ok (.goto 6, 3) := by decide +kernel
theorem dX1_read_13 : decode cX1_read 13 = .ok (.astore_n 2, 1) := by decide +kernel
theorem dX1_read_14 : decode cX1_read 14 = .ok (.iconst (-1), 1) := by decide +kernel
theorem dX1_read_15 : decode cX1_read 15 = .ok (.istore_n 1, 1) := by decide +kernel
theorem dX1_read_16 : decode cX1_read 16 = .ok (.iload_n 1, 1) := by decide +kernel
theorem dX1_read_17 : decode cX1_read 17 = .ok (.ireturn, 1) := by decide +kernel
theorem dX1_compile_0 : decode cX1_compile 0 = .ok (.aload_n 0, 1) := by decide +kernel
theorem dX1_compile_1 : decode cX1_compile 1 = .ok (.aload_n 0, 1) := by decide +kernel
theorem dX1_compile_2 : decode cX1_compile 2 = .ok (.getfield 60, 3) := by decide +kernel
theorem dX1_compile_5 : decode cX1_compile 5 = .ok (.invokevirtual 181, 3) := by decide +kernel
theorem dX1_compile_8 : decode cX1_compile 8 = .ok (.iconst (-1), 1) := by decide +kernel
theorem dX1_compile_9 : decode cX1_compile 9 = .ok (.invokevirtual 185, 3) := by decide +kernel
theorem dX1_compile_12 : decode cX1_compile 12 = .ok (.putfield 149, 3) := by decide +kernel
theorem dX1_compile_15 : decode cX1_compile 15 = .ok (.aload_n 0, 1) := by decide +kernel
theorem dX1_compile_16 : decode cX1_compile 16 = .ok (.aload_n 0, 1) := by decide +kernel
theorem dX1_compile_17 : decode cX1_compile 17 = .ok (.getfield 76, 3) := by decide +kernel
theorem dX1_compile_20 : decode cX1_compile 20 = .ok (.sipush 4096, 3) := by decide +kernel
theorem dX1_compile_23 : decode cX1_compile 23 = .ok (.invokevirtual 191, 3) := by decide +kernel
theorem dX1_compile_26 : decode cX1_compile 26 = .ok (.putfield 194, 3) := by decide +kernel
theorem dX1_compile_29 : decode cX1_compile 29 = .ok (.aload_n 0, 1) := by decide +kernel
theorem dX1_compile_30 : decode cX1_compile 30 = .ok (.getfield 67, 3) := by decide +kernel
theorem dX1_compile_33 : decode cX1_compile 33 = .ok (.invokevirtual 196, 3) := by decide +kernel
theorem dX1_compile_36 : decode cX1_compile 36 = .ok (.aload_n 0, 1) := by decide +kernel
theorem dX1_compile_37 : decode cX1_compile 37 = .ok (.getfield 76, 3) := by decide +kernel
theorem dX1_compile_40 : decode cX1_compile 40 = .ok (.aload_n 0, 1) := by decide +kernel
theorem dX1_compile_41 : decode cX1_compile 41 = .ok (.getfield 60, 3) := by decide +kernel
theorem dX1_compile_44 : decode cX1_compile 44 = .ok (.invokevirtual 197, 3) := by decide +kernel
theorem dX1_compile_47 : decode cX1_compile 47 = .ok (.invokevirtual 200, 3) := by decide +kernel
theorem dX1_compile_50 : decode cX1_compile 50 = .ok (.aload_n 0, 1) := by decide +kernel
theorem dX1_compile_51 : decode cX1_compile 51 = .ok (.getfield 67, 3) := by decide +kernel
theorem dX1_compile_54 : decode cX1_compile 54 = .ok (.invokevirtual 202, 3) := by decide +kernel
theorem dX1_compile_57 : decode cX1_compile 57 = .ok (.iconst 0, 1) := by decide +kernel
theorem dX1_compile_58 : decode cX1_compile 58 = .ok (.istore_n 1, 1) := by decide +kernel
theorem dX1_compile_59 : decode cX1_compile 59 = .ok (.iload_n 1, 1) := by decide +kernel
theorem dX1_compile_60 : decode cX1_compile 60 = .ok (.aload_n 0, 1) := by decide +kernel
theorem dX1_compile_61 : decode cX1_compile 61 = .ok (.getfield 67, 3) := by decide +kernel
theorem dX1_compile_64 : decode cX1_compile 64 = .ok (.invokevirtual 205, 3) := by decide +kernel
theorem dX1_compile_67 : decode cX1_compile 67 = .ok (.if_icmp .ge 35, 3) := by decide +kernel
theorem dX1_compile_70 : decode cX1_compile 70 = .ok (.aload_n 0, 1) := by decide +kernel
theorem dX1_compile_71 : decode cX1_compile 71 = .ok (.getfield 83, 3) := by decide +kernel
theorem dX1_compile_74 : decode cX1_compile 74 = .ok (.getfield 208, 3) := by decide +kernel
theorem dX1_compile_77 : decode cX1_compile 77 = .ok (.aload_n 0, 1) := by decide +kernel
theorem dX1_compile_78 : decode cX1_compile 78 = .ok (.getfield 194, 3) := by decide +kernel
theorem dX1_compile_81 : decode cX1_compile 81 = .ok (.iconst 4, 1) := by decide +kernel
theorem dX1_compile_82 : decode cX1_compile 82 = .ok (.iload_n 1, 1) := by decide +kernel
theorem dX1_compile_83 : decode cX1_compile 83 = .ok (.imul, 1) := by decide +kernel
theorem dX1_compile_84 : decode cX1_compile 84 = .ok (.iadd, 1) := by decide +kernel
theorem dX1_compile_85 : decode cX1_compile 85 = .ok (.aload_n 0, 1) := by decide +kernel
theorem dX1_compile_86 : decode cX1_compile 86 = .ok (.getfield 67, 3) := by decide +kernel
theorem dX1_compile_89 : decode cX1_compile 89 = .ok (.iload_n 1, 1) := by decide +kernel
theorem dX1_compile_90 : decode cX1_compile 90 = .ok (.invokevirtual 212, 3) := by decide +kernel
theorem dX1_compile_93 : decode cX1_compile 93 = .ok (.invokevirtual 215, 3) := by decide +kernel
theorem dX1_compile_96 : decode cX1_compile 96 = .ok (.iinc 1 1, 3) := by decide +kernel
theorem dX1_compile_99 : decode cX1_compile 99 = .ok (.goto (-40), 3) := by decide +kernel
theorem dX1_compile_102 : decode cX1_compile 102 = .ok (.return_, 1) := by decide +kernel
theorem dX1_place_0 : decode cX1_place 0 = .ok (.aload_n 0, 1) := by decide +kernel
theorem dX1_place_1 : decode cX1_place 1 = .ok (.getfield 160, 3) := by decide +kernel
theorem dX1_place_4 : decode cX1_place 4 = .ok (.ireturn, 1) := by decide +kernel
theorem dX1_value_0 : decode cX1_value 0 = .ok (.aload_n 0, 1) := by decide +kernel
theorem dX1_value_1 : decode cX1_value 1 = .ok (.getfield 83, 3) := by decide +kernel
theorem dX1_value_4 : decode cX1_value 4 = .ok (.getfield 139, 3) := by decide +kernel
theorem dX1_value_7 : decode cX1_value 7 = .ok (.ireturn, 1) := by decide +kernel
theorem dX1_left_0 : decode cX1_left 0 = .ok (.aload_n 0, 1) := by decide +kernel
theorem dX1_left_1 : decode cX1_left 1 = .ok (.getfield 146, 3) := by decide +kernel
theorem dX1_left_4 : decode cX1_left 4 = .ok (.ireturn, 1) := by decide +kernel
theorem dX1_paper_0 : decode cX1_paper 0 = .ok (.aload_n 0, 1) := by decide +kernel
theorem dX1_paper_1 : decode cX1_paper 1 = .ok (.getfield 83, 3) := by decide +kernel
theorem dX1_paper_4 : decode cX1_paper 4 = .ok (.getfield 136, 3) := by decide +kernel
theorem dX1_paper_7 : decode cX1_paper 7 = .ok (.ireturn, 1) := by decide +kernel
theorem dX1_inputs_0 : decode cX1_inputs 0 = .ok (.aload_n 0, 1) := by decide +kernel
theorem dX1_inputs_1 : decode cX1_inputs 1 = .ok (.getfield 83, 3) := by decide +kernel
theorem dX1_inputs_4 : decode cX1_inputs 4 = .ok (.getfield 221, 3) := by decide +kernel
theorem dX1_inputs_7 : decode cX1_inputs 7 = .ok (.ireturn, 1) := by decide +kernel
theorem dX1_life_0 : decode cX1_life 0 = .ok (.aload_n 0, 1) := by decide +kernel
theorem dX1_life_1 : decode cX1_life 1 = .ok (.getfield 95, 3) := by decide +kernel
theorem dX1_life_4 : decode cX1_life 4 = .ok (.ireturn, 1) := by decide +kernel
theorem dX1_feed_0 : decode cX1_feed 0 = .ok (.aload_n 0, 1) := by decide +kernel
theorem dX1_feed_1 : decode cX1_feed 1 = .ok (.getfield 87, 3) := by decide +kernel
theorem dX1_feed_4 : decode cX1_feed 4 = .ok (.invokevirtual 114, 3) := by decide +kernel
theorem dX1_feed_7 : decode cX1_feed 7 = .ok (.bipush 20, 2) := by decide +kernel
theorem dX1_feed_9 : decode cX1_feed 9 = .ok (.iadd, 1) := by decide +kernel
theorem dX1_feed_10 : decode cX1_feed 10 = .ok (.sipush 4096, 3) := by decide +kernel
theorem dX1_feed_13 : decode cX1_feed 13 = .ok (.if_icmp .gt 7, 3) := by decide +kernel
theorem dX1_feed_16 : decode cX1_feed 16 = .ok (.iconst 1, 1) := by decide +kernel
theorem dX1_feed_17 : decode cX1_feed 17 = .ok (.goto 4, 3) := by decide +kernel
theorem dX1_feed_20 : decode cX1_feed 20 = .ok (.iconst 0, 1) := by decide +kernel
theorem dX1_feed_21 : decode cX1_feed 21 = .ok (.invokestatic 118, 3) := by decide +kernel
theorem dX1_feed_24 : decode cX1_feed 24 = .ok (.aload_n 0, 1) := by decide +kernel
theorem dX1_feed_25 : decode cX1_feed 25 = .ok (.iload_n 1, 1) := by decide +kernel
theorem dX1_feed_26 : decode cX1_feed 26 = .ok (.invokevirtual 122, 3) := by decide +kernel
theorem dX1_feed_29 : decode cX1_feed 29 = .ok (.aload_n 0, 1) := by decide +kernel
theorem dX1_feed_30 : decode cX1_feed 30 = .ok (.iload_n 2, 1) := by decide +kernel
theorem dX1_feed_31 : decode cX1_feed 31 = .ok (.invokevirtual 122, 3) := by decide +kernel
theorem dX1_feed_34 : decode cX1_feed 34 = .ok (.aload_n 0, 1) := by decide +kernel
theorem dX1_feed_35 : decode cX1_feed 35 = .ok (.iload_n 3, 1) := by decide +kernel
theorem dX1_feed_36 : decode cX1_feed 36 = .ok (.invokevirtual 122, 3) := by decide +kernel
theorem dX1_feed_39 : decode cX1_feed 39 = .ok (.aload_n 0, 1) := by decide +kernel
theorem dX1_feed_40 : decode cX1_feed 40 = .ok (.iload 4, 2) := by decide +kernel
theorem dX1_feed_42 : decode cX1_feed 42 = .ok (.invokevirtual 122, 3) := by decide +kernel
theorem dX1_feed_45 : decode cX1_feed 45 = .ok (.aload_n 0, 1) := by decide +kernel
theorem dX1_feed_46 : decode cX1_feed 46 = .ok (.iload 5, 2) := by decide +kernel
theorem dX1_feed_48 : decode cX1_feed 48 = .ok (.invokevirtual 122, 3) := by decide +kernel
theorem dX1_feed_51 : decode cX1_feed 51 = .ok (.return_, 1) := by decide +kernel
theorem dX1_ready_0 : decode cX1_ready 0 = .ok (.iload_n 0, 1) := by decide +kernel
theorem dX1_ready_1 : decode cX1_ready 1 = .ok (.ifCond .ne 11, 3) := by decide +kernel
theorem dX1_ready_4 : decode cX1_ready 4 = .ok (.new 105, 3) := by decide +kernel
theorem dX1_ready_7 : decode cX1_ready 7 = .ok (.dup, 1) := by decide +kernel
theorem dX1_ready_8 : decode cX1_ready 8 = .ok (.invokespecial 107, 3) := by decide +kernel
theorem dX1_ready_11 : decode cX1_ready 11 = .ok (.athrow, 1) := by decide +kernel
theorem dX1_ready_12 : decode cX1_ready 12 = .ok (.return_, 1) := by decide +kernel
theorem dX1_feedInt_0 : decode cX1_feedInt 0 = .ok (.bipush 24, 2) := by decide +kernel
theorem dX1_feedInt_2 : decode cX1_feedInt 2 = .ok (.istore_n 2, 1) := by decide +kernel
theorem dX1_feedInt_3 : decode cX1_feedInt 3 = .ok (.iload_n 2, 1) := by decide +kernel
theorem dX1_feedInt_4 : decode cX1_feedInt 4 = .ok (.ifCond .lt 19, 3) := by decide +kernel
theorem dX1_feedInt_7 : decode cX1_feedInt 7 = .ok (.aload_n 0, 1) := by decide +kernel
theorem dX1_feedInt_8 : decode cX1_feedInt 8 = .ok (.getfield 87, 3) := by decide +kernel
theorem dX1_feedInt_11 : decode cX1_feedInt 11 = .ok (.iload_n 1, 1) := by decide +kernel
theorem dX1_feedInt_12 : decode cX1_feedInt 12 = .ok (.iload_n 2, 1) := by decide +kernel
theorem dX1_feedInt_13 : decode cX1_feedInt 13 = .ok (.iushr, 1) := by decide +kernel
theorem dX1_feedInt_14 : decode cX1_feedInt 14 = .ok (.invokevirtual 101, 3) := by decide +kernel
theorem dX1_feedInt_17 : decode cX1_feedInt 17 = .ok (.iinc 2 (-8), 3) := by decide +kernel
theorem dX1_feedInt_20 : decode cX1_feedInt 20 = .ok (.goto (-17), 3) := by decide +kernel
theorem dX1_feedInt_23 : decode cX1_feedInt 23 = .ok (.return_, 1) := by decide +kernel
theorem dX1_end_0 : decode cX1_end 0 = .ok (.iload_n 1, 1) := by decide +kernel
theorem dX1_end_1 : decode cX1_end 1 = .ok (.ifCond .lt 18, 3) := by decide +kernel
theorem dX1_end_4 : decode cX1_end 4 = .ok (.iload_n 1, 1) := by decide +kernel
theorem dX1_end_5 : decode cX1_end 5 = .ok (.aload_n 0, 1) := by decide +kernel
theorem dX1_end_6 : decode cX1_end 6 = .ok (.getfield 87, 3) := by decide +kernel
theorem dX1_end_9 : decode cX1_end 9 = .ok (.invokevirtual 114, 3) := by decide +kernel
theorem dX1_end_12 : decode cX1_end 12 = .ok (.if_icmp .gt 7, 3) := by decide +kernel
theorem dX1_end_15 : decode cX1_end 15 = .ok (.iconst 1, 1) := by decide +kernel
theorem dX1_end_16 : decode cX1_end 16 = .ok (.goto 4, 3) := by decide +kernel
theorem dX1_end_19 : decode cX1_end 19 = .ok (.iconst 0, 1) := by decide +kernel
theorem dX1_end_20 : decode cX1_end 20 = .ok (.invokestatic 125, 3) := by decide +kernel
theorem dX1_end_23 : decode cX1_end 23 = .ok (.aload_n 0, 1) := by decide +kernel
theorem dX1_end_24 : decode cX1_end 24 = .ok (.getfield 87, 3) := by decide +kernel
theorem dX1_end_27 : decode cX1_end 27 = .ok (.iload_n 1, 1) := by decide +kernel
theorem dX1_end_28 : decode cX1_end 28 = .ok (.invokevirtual 128, 3) := by decide +kernel
theorem dX1_end_31 : decode cX1_end 31 = .ok (.return_, 1) := by decide +kernel
theorem dX1_need_0 : decode cX1_need 0 = .ok (.iload_n 0, 1) := by decide +kernel
theorem dX1_need_1 : decode cX1_need 1 = .ok (.ifCond .ne 11, 3) := by decide +kernel
theorem dX1_need_4 : decode cX1_need 4 = .ok (.new 108, 3) := by decide +kernel
theorem dX1_need_7 : decode cX1_need 7 = .ok (.dup, 1) := by decide +kernel
theorem dX1_need_8 : decode cX1_need 8 = .ok (.invokespecial 110, 3) := by decide +kernel
theorem dX1_need_11 : decode cX1_need 11 = .ok (.athrow, 1) := by decide +kernel
theorem dX1_need_12 : decode cX1_need 12 = .ok (.return_, 1) := by decide +kernel
theorem dX1_input_0 : decode cX1_input 0 = .ok (.aload_n 0, 1) := by decide +kernel
theorem dX1_input_1 : decode cX1_input 1 = .ok (.getfield 83, 3) := by decide +kernel
theorem dX1_input_4 : decode cX1_input 4 = .ok (.getfield 221, 3) := by decide +kernel
theorem dX1_input_7 : decode cX1_input 7 = .ok (.bipush 64, 2) := by decide +kernel
theorem dX1_input_9 : decode cX1_input 9 = .ok (.if_icmp .ge 7, 3) := by decide +kernel
theorem dX1_input_12 : decode cX1_input 12 = .ok (.iconst 1, 1) := by decide +kernel
theorem dX1_input_13 : decode cX1_input 13 = .ok (.goto 4, 3) := by decide +kernel
theorem dX1_input_16 : decode cX1_input 16 = .ok (.iconst 0, 1) := by decide +kernel
theorem dX1_input_17 : decode cX1_input 17 = .ok (.invokestatic 118, 3) := by decide +kernel
theorem dX1_input_20 : decode cX1_input 20 = .ok (.aload_n 0, 1) := by decide +kernel
theorem dX1_input_21 : decode cX1_input 21 = .ok (.getfield 83, 3) := by decide +kernel
theorem dX1_input_24 : decode cX1_input 24 = .ok (.getfield 224, 3) := by decide +kernel
theorem dX1_input_27 : decode cX1_input 27 = .ok (.aload_n 0, 1) := by decide +kernel
theorem dX1_input_28 : decode cX1_input 28 = .ok (.getfield 83, 3) := by decide +kernel
theorem dX1_input_31 : decode cX1_input 31 = .ok (.dup, 1) := by decide +kernel
theorem dX1_input_32 : decode cX1_input 32 = .ok (.getfield 221, 3) := by decide +kernel
theorem dX1_input_35 : decode cX1_input 35 = .ok (.dup_x1, 1) := by decide +kernel
theorem dX1_input_36 : decode cX1_input 36 = .ok (.iconst 1, 1) := by decide +kernel
theorem dX1_input_37 : decode cX1_input 37 = .ok (.iadd, 1) := by decide +kernel
theorem dX1_input_38 : decode cX1_input 38 = .ok (.putfield 221, 3) := by decide +kernel
theorem dX1_input_41 : decode cX1_input 41 = .ok (.iload_n 1, 1) := by decide +kernel
theorem dX1_input_42 : decode cX1_input 42 = .ok (.iastore, 1) := by decide +kernel
theorem dX1_input_43 : decode cX1_input 43 = .ok (.return_, 1) := by decide +kernel
theorem dX1_run_0 : decode cX1_run 0 = .ok (.aload_n 0, 1) := by decide +kernel
theorem dX1_run_1 : decode cX1_run 1 = .ok (.getfield 90, 3) := by decide +kernel
theorem dX1_run_4 : decode cX1_run 4 = .ok (.iconst (-1), 1) := by decide +kernel
theorem dX1_run_5 : decode cX1_run 5 = .ok (.if_icmp .eq 7, 3) := by decide +kernel
theorem dX1_run_8 : decode cX1_run 8 = .ok (.iconst 1, 1) := by decide +kernel
theorem dX1_run_9 : decode cX1_run 9 = .ok (.goto 4, 3) := by decide +kernel
theorem dX1_run_12 : decode cX1_run 12 = .ok (.iconst 0, 1) := by decide +kernel
theorem dX1_run_13 : decode cX1_run 13 = .ok (.invokestatic 118, 3) := by decide +kernel
theorem dX1_run_16 : decode cX1_run 16 = .ok (.iload_n 2, 1) := by decide +kernel
theorem dX1_run_17 : decode cX1_run 17 = .ok (.ifCond .lt 25, 3) := by decide +kernel
theorem dX1_run_20 : decode cX1_run 20 = .ok (.iload_n 2, 1) := by decide +kernel
theorem dX1_run_21 : decode cX1_run 21 = .ok (.sipush 2000, 3) := by decide +kernel
theorem dX1_run_24 : decode cX1_run 24 = .ok (.if_icmp .gt 18, 3) := by decide +kernel
theorem dX1_run_27 : decode cX1_run 27 = .ok (.iload_n 3, 1) := by decide +kernel
theorem dX1_run_28 : decode cX1_run 28 = .ok (.ifCond .lt 14, 3) := by decide +kernel
theorem dX1_run_31 : decode cX1_run 31 = .ok (.iload_n 3, 1) := by decide +kernel
theorem dX1_run_32 : decode cX1_run 32 = .ok (.sipush 1024, 3) := by decide +kernel
theorem dX1_run_35 : decode cX1_run 35 = .ok (.if_icmp .gt 7, 3) := by decide +kernel
theorem dX1_run_38 : decode cX1_run 38 = .ok (.iconst 1, 1) := by decide +kernel
theorem dX1_run_39 : decode cX1_run 39 = .ok (.goto 4, 3) := by decide +kernel
theorem dX1_run_42 : decode cX1_run 42 = .ok (.iconst 0, 1) := by decide +kernel
theorem dX1_run_43 : decode cX1_run 43 = .ok (.invokestatic 125, 3) := by decide +kernel
theorem dX1_run_46 : decode cX1_run 46 = .ok (.iload_n 2, 1) := by decide +kernel
theorem dX1_run_47 : decode cX1_run 47 = .ok (.bipush 10, 2) := by decide +kernel
theorem dX1_run_49 : decode cX1_run 49 = .ok (.iadd, 1) := by decide +kernel
theorem dX1_run_50 : decode cX1_run 50 = .ok (.aload_n 0, 1) := by decide +kernel
theorem dX1_run_51 : decode cX1_run 51 = .ok (.getfield 95, 3) := by decide +kernel
theorem dX1_run_54 : decode cX1_run 54 = .ok (.if_icmp .le 11, 3) := by decide +kernel
theorem dX1_run_57 : decode cX1_run 57 = .ok (.new 260, 3) := by decide +kernel
theorem dX1_run_60 : decode cX1_run 60 = .ok (.dup, 1) := by decide +kernel
theorem dX1_run_61 : decode cX1_run 61 = .ok (.invokespecial 262, 3) := by decide +kernel
theorem dX1_run_64 : decode cX1_run 64 = .ok (.athrow, 1) := by decide +kernel
theorem dX1_run_65 : decode cX1_run 65 = .ok (.aload_n 0, 1) := by decide +kernel
theorem dX1_run_66 : decode cX1_run 66 = .ok (.dup, 1) := by decide +kernel
theorem dX1_run_67 : decode cX1_run 67 = .ok (.getfield 95, 3) := by decide +kernel
theorem dX1_run_70 : decode cX1_run 70 = .ok (.iload_n 2, 1) := by decide +kernel
theorem dX1_run_71 : decode cX1_run 71 = .ok (.bipush 10, 2) := by decide +kernel
theorem dX1_run_73 : decode cX1_run 73 = .ok (.iadd, 1) := by decide +kernel
theorem dX1_run_74 : decode cX1_run 74 = .ok (.isub, 1) := by decide +kernel
theorem dX1_run_75 : decode cX1_run 75 = .ok (.putfield 95, 3) := by decide +kernel
theorem dX1_run_78 : decode cX1_run 78 = .ok (.aload_n 0, 1) := by decide +kernel
theorem dX1_run_79 : decode cX1_run 79 = .ok (.invokevirtual 263, 3) := by decide +kernel
theorem dX1_run_82 : decode cX1_run 82 = .ok (.aload_n 0, 1) := by decide +kernel
theorem dX1_run_83 : decode cX1_run 83 = .ok (.getfield 83, 3) := by decide +kernel
theorem dX1_run_86 : decode cX1_run 86 = .ok (.iconst 0, 1) := by decide +kernel
theorem dX1_run_87 : decode cX1_run 87 = .ok (.putfield 139, 3) := by decide +kernel
theorem dX1_run_90 : decode cX1_run 90 = .ok (.aload_n 0, 1) := by decide +kernel
theorem dX1_run_91 : decode cX1_run 91 = .ok (.iconst 1, 1) := by decide +kernel
theorem dX1_run_92 : decode cX1_run 92 = .ok (.putfield 142, 3) := by decide +kernel
theorem dX1_run_95 : decode cX1_run 95 = .ok (.aload_n 0, 1) := by decide +kernel
theorem dX1_run_96 : decode cX1_run 96 = .ok (.getfield 83, 3) := by decide +kernel
theorem dX1_run_99 : decode cX1_run 99 = .ok (.aload_n 0, 1) := by decide +kernel
theorem dX1_run_100 : decode cX1_run 100 = .ok (.getfield 194, 3) := by decide +kernel
theorem dX1_run_103 : decode cX1_run 103 = .ok (.iload_n 1, 1) := by decide +kernel
theorem dX1_run_104 : decode cX1_run 104 = .ok (.iload_n 2, 1) := by decide +kernel
theorem dX1_run_105 : decode cX1_run 105 = .ok (.iload_n 3, 1) := by decide +kernel
theorem dX1_run_106 : decode cX1_run 106 = .ok (.invokevirtual 265, 3) := by decide +kernel
theorem dX1_run_109 : decode cX1_run 109 = .ok (.istore 4, 2) := by decide +kernel
theorem dX1_run_111 : decode cX1_run 111 = .ok (.aload_n 0, 1) := by decide +kernel
theorem dX1_run_112 : decode cX1_run 112 = .ok (.aload_n 0, 1) := by decide +kernel
theorem dX1_run_113 : decode cX1_run 113 = .ok (.getfield 83, 3) := by decide +kernel
theorem dX1_run_116 : decode cX1_run 116 = .ok (.getfield 269, 3) := by decide +kernel
theorem dX1_run_119 : decode cX1_run 119 = .ok (.getfield 273, 3) := by decide +kernel
theorem dX1_run_122 : decode cX1_run 122 = .ok (.bipush 27, 2) := by decide +kernel
theorem dX1_run_124 : decode cX1_run 124 = .ok (.iaload, 1) := by decide +kernel
theorem dX1_run_125 : decode cX1_run 125 = .ok (.putfield 146, 3) := by decide +kernel
theorem dX1_run_128 : decode cX1_run 128 = .ok (.iload 4, 2) := by decide +kernel
theorem dX1_run_130 : decode cX1_run 130 = .ok (.ireturn, 1) := by decide +kernel
theorem dX1_begin_0 : decode cX1_begin 0 = .ok (.iconst 0, 1) := by decide +kernel
theorem dX1_begin_1 : decode cX1_begin 1 = .ok (.istore_n 1, 1) := by decide +kernel
theorem dX1_begin_2 : decode cX1_begin 2 = .ok (.iload_n 1, 1) := by decide +kernel
theorem dX1_begin_3 : decode cX1_begin 3 = .ok (.aload_n 0, 1) := by decide +kernel
theorem dX1_begin_4 : decode cX1_begin 4 = .ok (.getfield 149, 3) := by decide +kernel
theorem dX1_begin_7 : decode cX1_begin 7 = .ok (.if_icmp .ge 27, 3) := by decide +kernel
theorem dX1_begin_10 : decode cX1_begin 10 = .ok (.aload_n 0, 1) := by decide +kernel
theorem dX1_begin_11 : decode cX1_begin 11 = .ok (.getfield 83, 3) := by decide +kernel
theorem dX1_begin_14 : decode cX1_begin 14 = .ok (.getfield 208, 3) := by decide +kernel
theorem dX1_begin_17 : decode cX1_begin 17 = .ok (.sipush 4096, 3) := by decide +kernel
theorem dX1_begin_20 : decode cX1_begin 20 = .ok (.iconst 4, 1) := by decide +kernel
theorem dX1_begin_21 : decode cX1_begin 21 = .ok (.iload_n 1, 1) := by decide +kernel
theorem dX1_begin_22 : decode cX1_begin 22 = .ok (.imul, 1) := by decide +kernel
theorem dX1_begin_23 : decode cX1_begin 23 = .ok (.iadd, 1) := by decide +kernel
theorem dX1_begin_24 : decode cX1_begin 24 = .ok (.iconst 0, 1) := by decide +kernel
theorem dX1_begin_25 : decode cX1_begin 25 = .ok (.invokevirtual 215, 3) := by decide +kernel
theorem dX1_begin_28 : decode cX1_begin 28 = .ok (.iinc 1 1, 3) := by decide +kernel
theorem dX1_begin_31 : decode cX1_begin 31 = .ok (.goto (-29), 3) := by decide +kernel
theorem dX1_begin_34 : decode cX1_begin 34 = .ok (.aload_n 0, 1) := by decide +kernel
theorem dX1_begin_35 : decode cX1_begin 35 = .ok (.getfield 42, 3) := by decide +kernel
theorem dX1_begin_38 : decode cX1_begin 38 = .ok (.aload_n 0, 1) := by decide +kernel
theorem dX1_begin_39 : decode cX1_begin 39 = .ok (.getfield 90, 3) := by decide +kernel
theorem dX1_begin_42 : decode cX1_begin 42 = .ok (.invokevirtual 228, 3) := by decide +kernel
theorem dX1_begin_45 : decode cX1_begin 45 = .ok (.istore_n 1, 1) := by decide +kernel
theorem dX1_begin_46 : decode cX1_begin 46 = .ok (.iload_n 1, 1) := by decide +kernel
theorem dX1_begin_47 : decode cX1_begin 47 = .ok (.iconst (-1), 1) := by decide +kernel
theorem dX1_begin_48 : decode cX1_begin 48 = .ok (.if_icmp .eq 80, 3) := by decide +kernel
theorem dX1_begin_51 : decode cX1_begin 51 = .ok (.aload_n 0, 1) := by decide +kernel
theorem dX1_begin_52 : decode cX1_begin 52 = .ok (.getfield 42, 3) := by decide +kernel
theorem dX1_begin_55 : decode cX1_begin 55 = .ok (.iload_n 1, 1) := by decide +kernel
theorem dX1_begin_56 : decode cX1_begin 56 = .ok (.invokevirtual 231, 3) := by decide +kernel
theorem dX1_begin_59 : decode cX1_begin 59 = .ok (.bipush 6, 2) := by decide +kernel
theorem dX1_begin_61 : decode cX1_begin 61 = .ok (.if_icmp .ne 14, 3) := by decide +kernel
theorem dX1_begin_64 : decode cX1_begin 64 = .ok (.aload_n 0, 1) := by decide +kernel
theorem dX1_begin_65 : decode cX1_begin 65 = .ok (.getfield 42, 3) := by decide +kernel
theorem dX1_begin_68 : decode cX1_begin 68 = .ok (.iload_n 1, 1) := by decide +kernel
theorem dX1_begin_69 : decode cX1_begin 69 = .ok (.invokevirtual 228, 3) := by decide +kernel
theorem dX1_begin_72 : decode cX1_begin 72 = .ok (.goto 4, 3) := by decide +kernel
theorem dX1_begin_75 : decode cX1_begin 75 = .ok (.iconst (-1), 1) := by decide +kernel
theorem dX1_begin_76 : decode cX1_begin 76 = .ok (.istore_n 2, 1) := by decide +kernel
theorem dX1_begin_77 : decode cX1_begin 77 = .ok (.iload_n 2, 1) := by decide +kernel
theorem dX1_begin_78 : decode cX1_begin 78 = .ok (.iconst (-1), 1) := by decide +kernel
theorem dX1_begin_79 : decode cX1_begin 79 = .ok (.if_icmp .eq 37, 3) := by decide +kernel
theorem dX1_begin_82 : decode cX1_begin 82 = .ok (.aload_n 0, 1) := by decide +kernel
theorem dX1_begin_83 : decode cX1_begin 83 = .ok (.iload_n 2, 1) := by decide +kernel
theorem dX1_begin_84 : decode cX1_begin 84 = .ok (.aload_n 0, 1) := by decide +kernel
theorem dX1_begin_85 : decode cX1_begin 85 = .ok (.getfield 42, 3) := by decide +kernel
theorem dX1_begin_88 : decode cX1_begin 88 = .ok (.iload_n 1, 1) := by decide +kernel
theorem dX1_begin_89 : decode cX1_begin 89 = .ok (.invokevirtual 234, 3) := by decide +kernel
theorem dX1_begin_92 : decode cX1_begin 92 = .ok (.iconst 1, 1) := by decide +kernel
theorem dX1_begin_93 : decode cX1_begin 93 = .ok (.if_icmp .ne 7, 3) := by decide +kernel
theorem dX1_begin_96 : decode cX1_begin 96 = .ok (.iconst 1, 1) := by decide +kernel
theorem dX1_begin_97 : decode cX1_begin 97 = .ok (.goto 4, 3) := by decide +kernel
theorem dX1_begin_100 : decode cX1_begin 100 = .ok (.iconst 0, 1) := by decide +kernel
theorem dX1_begin_101 : decode cX1_begin 101 = .ok (.invokevirtual 237, 3) := by decide +kernel
theorem dX1_begin_104 : decode cX1_begin 104 = .ok (.aload_n 0, 1) := by decide +kernel
theorem dX1_begin_105 : decode cX1_begin 105 = .ok (.getfield 42, 3) := by decide +kernel
theorem dX1_begin_108 : decode cX1_begin 108 = .ok (.iload_n 2, 1) := by decide +kernel
theorem dX1_begin_109 : decode cX1_begin 109 = .ok (.invokevirtual 241, 3) := by decide +kernel
theorem dX1_begin_112 : decode cX1_begin 112 = .ok (.istore_n 2, 1) := by decide +kernel
theorem dX1_begin_113 : decode cX1_begin 113 = .ok (.goto (-36), 3) := by decide +kernel
theorem dX1_begin_116 : decode cX1_begin 116 = .ok (.aload_n 0, 1) := by decide +kernel
theorem dX1_begin_117 : decode cX1_begin 117 = .ok (.getfield 42, 3) := by decide +kernel
theorem dX1_begin_120 : decode cX1_begin 120 = .ok (.iload_n 1, 1) := by decide +kernel
theorem dX1_begin_121 : decode cX1_begin 121 = .ok (.invokevirtual 241, 3) := by decide +kernel
theorem dX1_begin_124 : decode cX1_begin 124 = .ok (.istore_n 1, 1) := by decide +kernel
theorem dX1_begin_125 : decode cX1_begin 125 = .ok (.goto (-79), 3) := by decide +kernel
theorem dX1_begin_128 : decode cX1_begin 128 = .ok (.return_, 1) := by decide +kernel
theorem dX1_variable_0 : decode cX1_variable 0 = .ok (.aload_n 0, 1) := by decide +kernel
theorem dX1_variable_1 : decode cX1_variable 1 = .ok (.getfield 76, 3) := by decide +kernel
theorem dX1_variable_4 : decode cX1_variable 4 = .ok (.aload_n 0, 1) := by decide +kernel
theorem dX1_variable_5 : decode cX1_variable 5 = .ok (.getfield 42, 3) := by decide +kernel
theorem dX1_variable_8 : decode cX1_variable 8 = .ok (.iload_n 1, 1) := by decide +kernel
theorem dX1_variable_9 : decode cX1_variable 9 = .ok (.invokevirtual 244, 3) := by decide +kernel
theorem dX1_variable_12 : decode cX1_variable 12 = .ok (.invokevirtual 247, 3) := by decide +kernel
theorem dX1_variable_15 : decode cX1_variable 15 = .ok (.istore_n 3, 1) := by decide +kernel
theorem dX1_variable_16 : decode cX1_variable 16 = .ok (.aload_n 0, 1) := by decide +kernel
theorem dX1_variable_17 : decode cX1_variable 17 = .ok (.getfield 42, 3) := by decide +kernel
theorem dX1_variable_20 : decode cX1_variable 20 = .ok (.iload_n 1, 1) := by decide +kernel
theorem dX1_variable_21 : decode cX1_variable 21 = .ok (.invokevirtual 228, 3) := by decide +kernel
theorem dX1_variable_24 : decode cX1_variable 24 = .ok (.istore 4, 2) := by decide +kernel
theorem dX1_variable_26 : decode cX1_variable 26 = .ok (.aload_n 0, 1) := by decide +kernel
theorem dX1_variable_27 : decode cX1_variable 27 = .ok (.getfield 42, 3) := by decide +kernel
theorem dX1_variable_30 : decode cX1_variable 30 = .ok (.iload_n 1, 1) := by decide +kernel
theorem dX1_variable_31 : decode cX1_variable 31 = .ok (.invokevirtual 234, 3) := by decide +kernel
theorem dX1_variable_34 : decode cX1_variable 34 = .ok (.iconst 1, 1) := by decide +kernel
theorem dX1_variable_35 : decode cX1_variable 35 = .ok (.if_icmp .ne 73, 3) := by decide +kernel
theorem dX1_variable_38 : decode cX1_variable 38 = .ok (.aload_n 0, 1) := by decide +kernel
theorem dX1_variable_39 : decode cX1_variable 39 = .ok (.getfield 42, 3) := by decide +kernel
theorem dX1_variable_42 : decode cX1_variable 42 = .ok (.iload 4, 2) := by decide +kernel
theorem dX1_variable_44 : decode cX1_variable 44 = .ok (.invokevirtual 241, 3) := by decide +kernel
theorem dX1_variable_47 : decode cX1_variable 47 = .ok (.istore 5, 2) := by decide +kernel
theorem dX1_variable_49 : decode cX1_variable 49 = .ok (.aload_n 0, 1) := by decide +kernel
theorem dX1_variable_50 : decode cX1_variable 50 = .ok (.getfield 76, 3) := by decide +kernel
theorem dX1_variable_53 : decode cX1_variable 53 = .ok (.iload 5, 2) := by decide +kernel
theorem dX1_variable_55 : decode cX1_variable 55 = .ok (.iload_n 2, 1) := by decide +kernel
theorem dX1_variable_56 : decode cX1_variable 56 = .ok (.invokevirtual 250, 3) := by decide +kernel
theorem dX1_variable_59 : decode cX1_variable 59 = .ok (.istore 6, 2) := by decide +kernel
theorem dX1_variable_61 : decode cX1_variable 61 = .ok (.iconst 0, 1) := by decide +kernel
theorem dX1_variable_62 : decode cX1_variable 62 = .ok (.istore 7, 2) := by decide +kernel
theorem dX1_variable_64 : decode cX1_variable 64 = .ok (.iload 7, 2) := by decide +kernel
theorem dX1_variable_66 : decode cX1_variable 66 = .ok (.iload 6, 2) := by decide +kernel
theorem dX1_variable_68 : decode cX1_variable 68 = .ok (.if_icmp .ge 37, 3) := by decide +kernel
theorem dX1_variable_71 : decode cX1_variable 71 = .ok (.aload_n 0, 1) := by decide +kernel
theorem dX1_variable_72 : decode cX1_variable 72 = .ok (.getfield 83, 3) := by decide +kernel
theorem dX1_variable_75 : decode cX1_variable 75 = .ok (.getfield 208, 3) := by decide +kernel
theorem dX1_variable_78 : decode cX1_variable 78 = .ok (.iload_n 3, 1) := by decide +kernel
theorem dX1_variable_79 : decode cX1_variable 79 = .ok (.iconst 4, 1) := by decide +kernel
theorem dX1_variable_80 : decode cX1_variable 80 = .ok (.iload 7, 2) := by decide +kernel
theorem dX1_variable_82 : decode cX1_variable 82 = .ok (.imul, 1) := by decide +kernel
theorem dX1_variable_83 : decode cX1_variable 83 = .ok (.iadd, 1) := by decide +kernel
theorem dX1_variable_84 : decode cX1_variable 84 = .ok (.aload_n 0, 1) := by decide +kernel
theorem dX1_variable_85 : decode cX1_variable 85 = .ok (.getfield 76, 3) := by decide +kernel
theorem dX1_variable_88 : decode cX1_variable 88 = .ok (.iload 5, 2) := by decide +kernel
theorem dX1_variable_90 : decode cX1_variable 90 = .ok (.iload_n 2, 1) := by decide +kernel
theorem dX1_variable_91 : decode cX1_variable 91 = .ok (.iload 7, 2) := by decide +kernel
theorem dX1_variable_93 : decode cX1_variable 93 = .ok (.invokevirtual 254, 3) := by decide +kernel
theorem dX1_variable_96 : decode cX1_variable 96 = .ok (.invokevirtual 215, 3) := by decide +kernel
theorem dX1_variable_99 : decode cX1_variable 99 = .ok (.iinc 7 1, 3) := by decide +kernel
theorem dX1_variable_102 : decode cX1_variable 102 = .ok (.goto (-38), 3) := by decide +kernel
theorem dX1_variable_105 : decode cX1_variable 105 = .ok (.goto 49, 3) := by decide +kernel
theorem dX1_variable_108 : decode cX1_variable 108 = .ok (.iload 4, 2) := by decide +kernel
theorem dX1_variable_110 : decode cX1_variable 110 = .ok (.iconst (-1), 1) := by decide +kernel
theorem dX1_variable_111 : decode cX1_variable 111 = .ok (.if_icmp .eq 43, 3) := by decide +kernel
theorem dX1_variable_114 : decode cX1_variable 114 = .ok (.aload_n 0, 1) := by decide +kernel
theorem dX1_variable_115 : decode cX1_variable 115 = .ok (.getfield 83, 3) := by decide +kernel
theorem dX1_variable_118 : decode cX1_variable 118 = .ok (.getfield 208, 3) := by decide +kernel
theorem dX1_variable_121 : decode cX1_variable 121 = .ok (.iload_n 3, 1) := by decide +kernel
theorem dX1_variable_122 : decode cX1_variable 122 = .ok (.iload_n 2, 1) := by decide +kernel
theorem dX1_variable_123 : decode cX1_variable 123 = .ok (.ifCond .eq 19, 3) := by decide +kernel
theorem dX1_variable_126 : decode cX1_variable 126 = .ok (.aload_n 0, 1) := by decide +kernel
theorem dX1_variable_127 : decode cX1_variable 127 = .ok (.getfield 42, 3) := by decide +kernel
theorem dX1_variable_130 : decode cX1_variable 130 = .ok (.iload 4, 2) := by decide +kernel
theorem dX1_variable_132 : decode cX1_variable 132 = .ok (.invokevirtual 258, 3) := by decide +kernel
theorem dX1_variable_135 : decode cX1_variable 135 = .ok (.sipush 255, 3) := by decide +kernel
theorem dX1_variable_138 : decode cX1_variable 138 = .ok (.iand, 1) := by decide +kernel
theorem dX1_variable_139 : decode cX1_variable 139 = .ok (.goto 12, 3) := by decide +kernel
theorem dX1_variable_142 : decode cX1_variable 142 = .ok (.aload_n 0, 1) := by decide +kernel
theorem dX1_variable_143 : decode cX1_variable 143 = .ok (.getfield 42, 3) := by decide +kernel
theorem dX1_variable_146 : decode cX1_variable 146 = .ok (.iload 4, 2) := by decide +kernel
theorem dX1_variable_148 : decode cX1_variable 148 = .ok (.invokevirtual 258, 3) := by decide +kernel
theorem dX1_variable_151 : decode cX1_variable 151 = .ok (.invokevirtual 215, 3) := by decide +kernel
theorem dX1_variable_154 : decode cX1_variable 154 = .ok (.return_, 1) := by decide +kernel
theorem dX1_paperAt_0 : decode cX1_paperAt 0 = .ok (.iload_n 1, 1) := by decide +kernel
theorem dX1_paperAt_1 : decode cX1_paperAt 1 = .ok (.ifCond .lt 24, 3) := by decide +kernel
theorem dX1_paperAt_4 : decode cX1_paperAt 4 = .ok (.iload_n 1, 1) := by decide +kernel
theorem dX1_paperAt_5 : decode cX1_paperAt 5 = .ok (.aload_n 0, 1) := by decide +kernel
theorem dX1_paperAt_6 : decode cX1_paperAt 6 = .ok (.getfield 83, 3) := by decide +kernel
theorem dX1_paperAt_9 : decode cX1_paperAt 9 = .ok (.getfield 136, 3) := by decide +kernel
theorem dX1_paperAt_12 : decode cX1_paperAt 12 = .ok (.sipush 1024, 3) := by decide +kernel
theorem dX1_paperAt_15 : decode cX1_paperAt 15 = .ok (.invokestatic 278, 3) := by decide +kernel
theorem dX1_paperAt_18 : decode cX1_paperAt 18 = .ok (.if_icmp .ge 7, 3) := by decide +kernel
theorem dX1_paperAt_21 : decode cX1_paperAt 21 = .ok (.iconst 1, 1) := by decide +kernel
theorem dX1_paperAt_22 : decode cX1_paperAt 22 = .ok (.goto 4, 3) := by decide +kernel
theorem dX1_paperAt_25 : decode cX1_paperAt 25 = .ok (.iconst 0, 1) := by decide +kernel
theorem dX1_paperAt_26 : decode cX1_paperAt 26 = .ok (.invokestatic 284, 3) := by decide +kernel
theorem dX1_paperAt_29 : decode cX1_paperAt 29 = .ok (.aload_n 0, 1) := by decide +kernel
theorem dX1_paperAt_30 : decode cX1_paperAt 30 = .ok (.getfield 83, 3) := by decide +kernel
theorem dX1_paperAt_33 : decode cX1_paperAt 33 = .ok (.getfield 287, 3) := by decide +kernel
theorem dX1_paperAt_36 : decode cX1_paperAt 36 = .ok (.iload_n 1, 1) := by decide +kernel
theorem dX1_paperAt_37 : decode cX1_paperAt 37 = .ok (.iaload, 1) := by decide +kernel
theorem dX1_paperAt_38 : decode cX1_paperAt 38 = .ok (.ireturn, 1) := by decide +kernel
theorem dX1_within_0 : decode cX1_within 0 = .ok (.iload_n 0, 1) := by decide +kernel
theorem dX1_within_1 : decode cX1_within 1 = .ok (.ifCond .ne 11, 3) := by decide +kernel
theorem dX1_within_4 : decode cX1_within 4 = .ok (.new 111, 3) := by decide +kernel
theorem dX1_within_7 : decode cX1_within 7 = .ok (.dup, 1) := by decide +kernel
theorem dX1_within_8 : decode cX1_within 8 = .ok (.invokespecial 113, 3) := by decide +kernel
theorem dX1_within_11 : decode cX1_within 11 = .ok (.athrow, 1) := by decide +kernel
theorem dX1_within_12 : decode cX1_within 12 = .ok (.return_, 1) := by decide +kernel
theorem dX1_disk_0 : decode cX1_disk 0 = .ok (.iload_n 1, 1) := by decide +kernel
theorem dX1_disk_1 : decode cX1_disk 1 = .ok (.ifCond .lt 14, 3) := by decide +kernel
theorem dX1_disk_4 : decode cX1_disk 4 = .ok (.iload_n 1, 1) := by decide +kernel
theorem dX1_disk_5 : decode cX1_disk 5 = .ok (.sipush 128, 3) := by decide +kernel
theorem dX1_disk_8 : decode cX1_disk 8 = .ok (.if_icmp .ge 7, 3) := by decide +kernel
theorem dX1_disk_11 : decode cX1_disk 11 = .ok (.iconst 1, 1) := by decide +kernel
theorem dX1_disk_12 : decode cX1_disk 12 = .ok (.goto 4, 3) := by decide +kernel
theorem dX1_disk_15 : decode cX1_disk 15 = .ok (.iconst 0, 1) := by decide +kernel
theorem dX1_disk_16 : decode cX1_disk 16 = .ok (.invokestatic 284, 3) := by decide +kernel
theorem dX1_disk_19 : decode cX1_disk 19 = .ok (.aload_n 0, 1) := by decide +kernel
theorem dX1_disk_20 : decode cX1_disk 20 = .ok (.getfield 83, 3) := by decide +kernel
theorem dX1_disk_23 : decode cX1_disk 23 = .ok (.getfield 290, 3) := by decide +kernel
theorem dX1_disk_26 : decode cX1_disk 26 = .ok (.iload_n 1, 1) := by decide +kernel
theorem dX1_disk_27 : decode cX1_disk 27 = .ok (.iaload, 1) := by decide +kernel
theorem dX1_disk_28 : decode cX1_disk 28 = .ok (.ireturn, 1) := by decide +kernel
theorem dX1_setDisk_0 : decode cX1_setDisk 0 = .ok (.iload_n 1, 1) := by decide +kernel
theorem dX1_setDisk_1 : decode cX1_setDisk 1 = .ok (.ifCond .lt 14, 3) := by decide +kernel
theorem dX1_setDisk_4 : decode cX1_setDisk 4 = .ok (.iload_n 1, 1) := by decide +kernel
theorem dX1_setDisk_5 : decode cX1_setDisk 5 = .ok (.sipush 128, 3) := by decide +kernel
theorem dX1_setDisk_8 : decode cX1_setDisk 8 = .ok (.if_icmp .ge 7, 3) := by decide +kernel
theorem dX1_setDisk_11 : decode cX1_setDisk 11 = .ok (.iconst 1, 1) := by decide +kernel
theorem dX1_setDisk_12 : decode cX1_setDisk 12 = .ok (.goto 4, 3) := by decide +kernel
theorem dX1_setDisk_15 : decode cX1_setDisk 15 = .ok (.iconst 0, 1) := by decide +kernel
theorem dX1_setDisk_16 : decode cX1_setDisk 16 = .ok (.invokestatic 284, 3) := by decide +kernel
theorem dX1_setDisk_19 : decode cX1_setDisk 19 = .ok (.aload_n 0, 1) := by decide +kernel
theorem dX1_setDisk_20 : decode cX1_setDisk 20 = .ok (.getfield 83, 3) := by decide +kernel
theorem dX1_setDisk_23 : decode cX1_setDisk 23 = .ok (.getfield 290, 3) := by decide +kernel
theorem dX1_setDisk_26 : decode cX1_setDisk 26 = .ok (.iload_n 1, 1) := by decide +kernel
theorem dX1_setDisk_27 : decode cX1_setDisk 27 = .ok (.iload_n 2, 1) := by decide +kernel
theorem dX1_setDisk_28 : decode cX1_setDisk 28 = .ok (.iastore, 1) := by decide +kernel
theorem dX1_setDisk_29 : decode cX1_setDisk 29 = .ok (.return_, 1) := by decide +kernel
theorem dX1_variable_2_0 : decode cX1_variable_2 0 = .ok (.iload_n 1, 1) := by decide +kernel
theorem dX1_variable_2_1 : decode cX1_variable_2 1 = .ok (.ifCond .lt 15, 3) := by decide +kernel
theorem dX1_variable_2_4 : decode cX1_variable_2 4 = .ok (.iload_n 1, 1) := by decide +kernel
theorem dX1_variable_2_5 : decode cX1_variable_2 5 = .ok (.aload_n 0, 1) := by decide +kernel
theorem dX1_variable_2_6 : decode cX1_variable_2 6 = .ok (.getfield 149, 3) := by decide +kernel
theorem dX1_variable_2_9 : decode cX1_variable_2 9 = .ok (.if_icmp .ge 7, 3) := by decide +kernel
theorem dX1_variable_2_12 : decode cX1_variable_2 12 = .ok (.iconst 1, 1) := by decide +kernel
theorem dX1_variable_2_13 : decode cX1_variable_2 13 = .ok (.goto 4, 3) := by decide +kernel
theorem dX1_variable_2_16 : decode cX1_variable_2 16 = .ok (.iconst 0, 1) := by decide +kernel
theorem dX1_variable_2_17 : decode cX1_variable_2 17 = .ok (.invokestatic 284, 3) := by decide +kernel
theorem dX1_variable_2_20 : decode cX1_variable_2 20 = .ok (.aload_n 0, 1) := by decide +kernel
theorem dX1_variable_2_21 : decode cX1_variable_2 21 = .ok (.getfield 142, 3) := by decide +kernel
theorem dX1_variable_2_24 : decode cX1_variable_2 24 = .ok (.ifCond .eq 23, 3) := by decide +kernel
theorem dX1_variable_2_27 : decode cX1_variable_2 27 = .ok (.aload_n 0, 1) := by decide +kernel
theorem dX1_variable_2_28 : decode cX1_variable_2 28 = .ok (.getfield 83, 3) := by decide +kernel
theorem dX1_variable_2_31 : decode cX1_variable_2 31 = .ok (.getfield 208, 3) := by decide +kernel
theorem dX1_variable_2_34 : decode cX1_variable_2 34 = .ok (.sipush 4096, 3) := by decide +kernel
theorem dX1_variable_2_37 : decode cX1_variable_2 37 = .ok (.iconst 4, 1) := by decide +kernel
theorem dX1_variable_2_38 : decode cX1_variable_2 38 = .ok (.iload_n 1, 1) := by decide +kernel
theorem dX1_variable_2_39 : decode cX1_variable_2 39 = .ok (.imul, 1) := by decide +kernel
theorem dX1_variable_2_40 : decode cX1_variable_2 40 = .ok (.iadd, 1) := by decide +kernel
theorem dX1_variable_2_41 : decode cX1_variable_2 41 = .ok (.invokevirtual 293, 3) := by decide +kernel
theorem dX1_variable_2_44 : decode cX1_variable_2 44 = .ok (.goto 4, 3) := by decide +kernel
theorem dX1_variable_2_47 : decode cX1_variable_2 47 = .ok (.iconst 0, 1) := by decide +kernel
theorem dX1_variable_2_48 : decode cX1_variable_2 48 = .ok (.ireturn, 1) := by decide +kernel
theorem dX10_init_0 : decode cX10_init 0 = .ok (.aload_n 0, 1) := by decide +kernel
theorem dX10_init_1 : decode cX10_init 1 = .ok (.invokespecial 3, 3) := by decide +kernel
theorem dX10_init_4 : decode cX10_init 4 = .ok (.aload_n 0, 1) := by decide +kernel
theorem dX10_init_5 : decode cX10_init 5 = .ok (.sipush 256, 3) := by decide +kernel
theorem dX10_init_8 : decode cX10_init 8 = .ok (.newarray .int, 2) := by decide +kernel
theorem dX10_init_10 : decode cX10_init 10 = .ok (.putfield 9, 3) := by decide +kernel
theorem dX10_init_13 : decode cX10_init 13 = .ok (.aload_n 0, 1) := by decide +kernel
theorem dX10_init_14 : decode cX10_init 14 = .ok (.sipush 256, 3) := by decide +kernel
theorem dX10_init_17 : decode cX10_init 17 = .ok (.newarray .int, 2) := by decide +kernel
theorem dX10_init_19 : decode cX10_init 19 = .ok (.putfield 15, 3) := by decide +kernel
theorem dX10_init_22 : decode cX10_init 22 = .ok (.aload_n 0, 1) := by decide +kernel
theorem dX10_init_23 : decode cX10_init 23 = .ok (.sipush 256, 3) := by decide +kernel
theorem dX10_init_26 : decode cX10_init 26 = .ok (.newarray .int, 2) := by decide +kernel
theorem dX10_init_28 : decode cX10_init 28 = .ok (.putfield 18, 3) := by decide +kernel
theorem dX10_init_31 : decode cX10_init 31 = .ok (.aload_n 0, 1) := by decide +kernel
theorem dX10_init_32 : decode cX10_init 32 = .ok (.sipush 256, 3) := by decide +kernel
theorem dX10_init_35 : decode cX10_init 35 = .ok (.newarray .int, 2) := by decide +kernel
theorem dX10_init_37 : decode cX10_init 37 = .ok (.putfield 21, 3) := by decide +kernel
theorem dX10_init_40 : decode cX10_init 40 = .ok (.aload_n 0, 1) := by decide +kernel
theorem dX10_init_41 : decode cX10_init 41 = .ok (.sipush 256, 3) := by decide +kernel
theorem dX10_init_44 : decode cX10_init 44 = .ok (.newarray .int, 2) := by decide +kernel
theorem dX10_init_46 : decode cX10_init 46 = .ok (.putfield 24, 3) := by decide +kernel
theorem dX10_init_49 : decode cX10_init 49 = .ok (.aload_n 0, 1) := by decide +kernel
theorem dX10_init_50 : decode cX10_init 50 = .ok (.sipush 200, 3) := by decide +kernel
theorem dX10_init_53 : decode cX10_init 53 = .ok (.newarray .int, 2) := by decide +kernel
theorem dX10_init_55 : decode cX10_init 55 = .ok (.putfield 27, 3) := by decide +kernel
theorem dX10_init_58 : decode cX10_init 58 = .ok (.return_, 1) := by decide +kernel
theorem dX10_clear_0 : decode cX10_clear 0 = .ok (.aload_n 0, 1) := by decide +kernel
theorem dX10_clear_1 : decode cX10_clear 1 = .ok (.getfield 24, 3) := by decide +kernel
theorem dX10_clear_4 : decode cX10_clear 4 = .ok (.arraylength, 1) := by decide +kernel
theorem dX10_clear_5 : decode cX10_clear 5 = .ok (.iload_n 1, 1) := by decide +kernel
theorem dX10_clear_6 : decode cX10_clear 6 = .ok (.if_icmp .ge 12, 3) := by decide +kernel
theorem dX10_clear_9 : decode cX10_clear 9 = .ok (.aload_n 0, 1) := by decide +kernel
theorem dX10_clear_10 : decode cX10_clear 10 = .ok (.iconst 2, 1) := by decide +kernel
theorem dX10_clear_11 : decode cX10_clear 11 = .ok (.iload_n 1, 1) := by decide +kernel
theorem dX10_clear_12 : decode cX10_clear 12 = .ok (.imul, 1) := by decide +kernel
theorem dX10_clear_13 : decode cX10_clear 13 = .ok (.newarray .int, 2) := by decide +kernel
theorem dX10_clear_15 : decode cX10_clear 15 = .ok (.putfield 24, 3) := by decide +kernel
theorem dX10_clear_18 : decode cX10_clear 18 = .ok (.iconst 0, 1) := by decide +kernel
theorem dX10_clear_19 : decode cX10_clear 19 = .ok (.istore_n 2, 1) := by decide +kernel
theorem dX10_clear_20 : decode cX10_clear 20 = .ok (.iload_n 2, 1) := by decide +kernel
theorem dX10_clear_21 : decode cX10_clear 21 = .ok (.aload_n 0, 1) := by decide +kernel
theorem dX10_clear_22 : decode cX10_clear 22 = .ok (.getfield 24, 3) := by decide +kernel
theorem dX10_clear_25 : decode cX10_clear 25 = .ok (.arraylength, 1) := by decide +kernel
theorem dX10_clear_26 : decode cX10_clear 26 = .ok (.if_icmp .ge 16, 3) := by decide +kernel
theorem dX10_clear_29 : decode cX10_clear 29 = .ok (.aload_n 0, 1) := by decide +kernel
theorem dX10_clear_30 : decode cX10_clear 30 = .ok (.getfield 24, 3) := by decide +kernel
theorem dX10_clear_33 : decode cX10_clear 33 = .ok (.iload_n 2, 1) := by decide +kernel
theorem dX10_clear_34 : decode cX10_clear 34 = .ok (.iconst (-1), 1) := by decide +kernel
theorem dX10_clear_35 : decode cX10_clear 35 = .ok (.iastore, 1) := by decide +kernel
theorem dX10_clear_36 : decode cX10_clear 36 = .ok (.iinc 2 1, 3) := by decide +kernel
theorem dX10_clear_39 : decode cX10_clear 39 = .ok (.goto (-19), 3) := by decide +kernel
theorem dX10_clear_42 : decode cX10_clear 42 = .ok (.aload_n 0, 1) := by decide +kernel
theorem dX10_clear_43 : decode cX10_clear 43 = .ok (.iconst 0, 1) := by decide +kernel
theorem dX10_clear_44 : decode cX10_clear 44 = .ok (.putfield 30, 3) := by decide +kernel
theorem dX10_clear_47 : decode cX10_clear 47 = .ok (.aload_n 0, 1) := by decide +kernel
theorem dX10_clear_48 : decode cX10_clear 48 = .ok (.iconst 0, 1) := by decide +kernel
theorem dX10_clear_49 : decode cX10_clear 49 = .ok (.putfield 34, 3) := by decide +kernel
theorem dX10_clear_52 : decode cX10_clear 52 = .ok (.aload_n 0, 1) := by decide +kernel
theorem dX10_clear_53 : decode cX10_clear 53 = .ok (.getfield 27, 3) := by decide +kernel
theorem dX10_clear_56 : decode cX10_clear 56 = .ok (.iconst 0, 1) := by decide +kernel
theorem dX10_clear_57 : decode cX10_clear 57 = .ok (.iconst 0, 1) := by decide +kernel
theorem dX10_clear_58 : decode cX10_clear 58 = .ok (.iastore, 1) := by decide +kernel
theorem dX10_clear_59 : decode cX10_clear 59 = .ok (.return_, 1) := by decide +kernel
theorem dX10_add_0 : decode cX10_add 0 = .ok (.aload_n 0, 1) := by decide +kernel
theorem dX10_add_1 : decode cX10_add 1 = .ok (.getfield 30, 3) := by decide +kernel
theorem dX10_add_4 : decode cX10_add 4 = .ok (.aload_n 0, 1) := by decide +kernel
theorem dX10_add_5 : decode cX10_add 5 = .ok (.getfield 9, 3) := by decide +kernel
theorem dX10_add_8 : decode cX10_add 8 = .ok (.arraylength, 1) := by decide +kernel
theorem dX10_add_9 : decode cX10_add 9 = .ok (.if_icmp .ne 47, 3) := by decide +kernel
theorem dX10_add_12 : decode cX10_add 12 = .ok (.aload_n 0, 1) := by decide +kernel
theorem dX10_add_13 : decode cX10_add 13 = .ok (.aload_n 0, 1) := by decide +kernel
theorem dX10_add_14 : decode cX10_add 14 = .ok (.getfield 9, 3) := by decide +kernel
theorem dX10_add_17 : decode cX10_add 17 = .ok (.invokestatic 43, 3) := by decide +kernel
theorem dX10_add_20 : decode cX10_add 20 = .ok (.putfield 9, 3) := by decide +kernel
theorem dX10_add_23 : decode cX10_add 23 = .ok (.aload_n 0, 1) := by decide +kernel
theorem dX10_add_24 : decode cX10_add 24 = .ok (.aload_n 0, 1) := by decide +kernel
theorem dX10_add_25 : decode cX10_add 25 = .ok (.getfield 15, 3) := by decide +kernel
theorem dX10_add_28 : decode cX10_add 28 = .ok (.invokestatic 43, 3) := by decide +kernel
theorem dX10_add_31 : decode cX10_add 31 = .ok (.putfield 15, 3) := by decide +kernel
theorem dX10_add_34 : decode cX10_add 34 = .ok (.aload_n 0, 1) := by decide +kernel
theorem dX10_add_35 : decode cX10_add 35 = .ok (.aload_n 0, 1) := by decide +kernel
theorem dX10_add_36 : decode cX10_add 36 = .ok (.getfield 18, 3) := by decide +kernel
theorem dX10_add_39 : decode cX10_add 39 = .ok (.invokestatic 43, 3) := by decide +kernel
theorem dX10_add_42 : decode cX10_add 42 = .ok (.putfield 18, 3) := by decide +kernel
theorem dX10_add_45 : decode cX10_add 45 = .ok (.aload_n 0, 1) := by decide +kernel
theorem dX10_add_46 : decode cX10_add 46 = .ok (.aload_n 0, 1) := by decide +kernel
theorem dX10_add_47 : decode cX10_add 47 = .ok (.getfield 21, 3) := by decide +kernel
theorem dX10_add_50 : decode cX10_add 50 = .ok (.invokestatic 43, 3) := by decide +kernel
theorem dX10_add_53 : decode cX10_add 53 = .ok (.putfield 21, 3) := by decide +kernel
theorem dX10_add_56 : decode cX10_add 56 = .ok (.aload_n 0, 1) := by decide +kernel
theorem dX10_add_57 : decode cX10_add 57 = .ok (.getfield 9, 3) := by decide +kernel
theorem dX10_add_60 : decode cX10_add 60 = .ok (.aload_n 0, 1) := by decide +kernel
theorem dX10_add_61 : decode cX10_add 61 = .ok (.getfield 30, 3) := by decide +kernel
theorem dX10_add_64 : decode cX10_add 64 = .ok (.iload_n 1, 1) := by decide +kernel
theorem dX10_add_65 : decode cX10_add 65 = .ok (.iastore, 1) := by decide +kernel
theorem dX10_add_66 : decode cX10_add 66 = .ok (.aload_n 0, 1) := by decide +kernel
theorem dX10_add_67 : decode cX10_add 67 = .ok (.getfield 15, 3) := by decide +kernel
theorem dX10_add_70 : decode cX10_add 70 = .ok (.aload_n 0, 1) := by decide +kernel
theorem dX10_add_71 : decode cX10_add 71 = .ok (.getfield 30, 3) := by decide +kernel
theorem dX10_add_74 : decode cX10_add 74 = .ok (.iload_n 2, 1) := by decide +kernel
theorem dX10_add_75 : decode cX10_add 75 = .ok (.iastore, 1) := by decide +kernel
theorem dX10_add_76 : decode cX10_add 76 = .ok (.aload_n 0, 1) := by decide +kernel
theorem dX10_add_77 : decode cX10_add 77 = .ok (.getfield 18, 3) := by decide +kernel
theorem dX10_add_80 : decode cX10_add 80 = .ok (.aload_n 0, 1) := by decide +kernel
theorem dX10_add_81 : decode cX10_add 81 = .ok (.getfield 30, 3) := by decide +kernel
theorem dX10_add_84 : decode cX10_add 84 = .ok (.iload_n 3, 1) := by decide +kernel
theorem dX10_add_85 : decode cX10_add 85 = .ok (.iastore, 1) := by decide +kernel
theorem dX10_add_86 : decode cX10_add 86 = .ok (.aload_n 0, 1) := by decide +kernel
theorem dX10_add_87 : decode cX10_add 87 = .ok (.getfield 21, 3) := by decide +kernel
theorem dX10_add_90 : decode cX10_add 90 = .ok (.aload_n 0, 1) := by decide +kernel
theorem dX10_add_91 : decode cX10_add 91 = .ok (.getfield 30, 3) := by decide +kernel
theorem dX10_add_94 : decode cX10_add 94 = .ok (.aload_n 0, 1) := by decide +kernel
theorem dX10_add_95 : decode cX10_add 95 = .ok (.getfield 24, 3) := by decide +kernel
theorem dX10_add_98 : decode cX10_add 98 = .ok (.iload_n 1, 1) := by decide +kernel
theorem dX10_add_99 : decode cX10_add 99 = .ok (.iaload, 1) := by decide +kernel
theorem dX10_add_100 : decode cX10_add 100 = .ok (.iastore, 1) := by decide +kernel
theorem dX10_add_101 : decode cX10_add 101 = .ok (.aload_n 0, 1) := by decide +kernel
theorem dX10_add_102 : decode cX10_add 102 = .ok (.getfield 24, 3) := by decide +kernel
theorem dX10_add_105 : decode cX10_add 105 = .ok (.iload_n 1, 1) := by decide +kernel
theorem dX10_add_106 : decode cX10_add 106 = .ok (.aload_n 0, 1) := by decide +kernel
theorem dX10_add_107 : decode cX10_add 107 = .ok (.getfield 30, 3) := by decide +kernel
theorem dX10_add_110 : decode cX10_add 110 = .ok (.iastore, 1) := by decide +kernel
theorem dX10_add_111 : decode cX10_add 111 = .ok (.aload_n 0, 1) := by decide +kernel
theorem dX10_add_112 : decode cX10_add 112 = .ok (.dup, 1) := by decide +kernel
theorem dX10_add_113 : decode cX10_add 113 = .ok (.getfield 30, 3) := by decide +kernel
theorem dX10_add_116 : decode cX10_add 116 = .ok (.iconst 1, 1) := by decide +kernel
theorem dX10_add_117 : decode cX10_add 117 = .ok (.iadd, 1) := by decide +kernel
theorem dX10_add_118 : decode cX10_add 118 = .ok (.putfield 30, 3) := by decide +kernel
theorem dX10_add_121 : decode cX10_add 121 = .ok (.return_, 1) := by decide +kernel
theorem dX10_longer_0 : decode cX10_longer 0 = .ok (.iconst 2, 1) := by decide +kernel
theorem dX10_longer_1 : decode cX10_longer 1 = .ok (.aload_n 0, 1) := by decide +kernel
theorem dX10_longer_2 : decode cX10_longer 2 = .ok (.arraylength, 1) := by decide +kernel
theorem dX10_longer_3 : decode cX10_longer 3 = .ok (.imul, 1) := by decide +kernel
theorem dX10_longer_4 : decode cX10_longer 4 = .ok (.newarray .int, 2) := by decide +kernel
theorem dX10_longer_6 : decode cX10_longer 6 = .ok (.astore_n 1, 1) := by decide +kernel
theorem dX10_longer_7 : decode cX10_longer 7 = .ok (.aload_n 0, 1) := by decide +kernel
theorem dX10_longer_8 : decode cX10_longer 8 = .ok (.iconst 0, 1) := by decide +kernel
theorem dX10_longer_9 : decode cX10_longer 9 = .ok (.aload_n 1, 1) := by decide +kernel
theorem dX10_longer_10 : decode cX10_longer 10 = .ok (.iconst 0, 1) := by decide +kernel
theorem dX10_longer_11 : decode cX10_longer 11 = .ok (.aload_n 0, 1) := by decide +kernel
theorem dX10_longer_12 : decode cX10_longer 12 = .ok (.arraylength, 1) := by decide +kernel
theorem dX10_longer_13 : decode cX10_longer 13 = .ok (.invokestatic 37, 3) := by decide +kernel
theorem dX10_longer_16 : decode cX10_longer 16 = .ok (.aload_n 1, 1) := by decide +kernel
theorem dX10_longer_17 : decode cX10_longer 17 = .ok (.areturn, 1) := by decide +kernel
theorem dX10_isHere_0 : decode cX10_isHere 0 = .ok (.aload_n 0, 1) := by decide +kernel
theorem dX10_isHere_1 : decode cX10_isHere 1 = .ok (.getfield 24, 3) := by decide +kernel
theorem dX10_isHere_4 : decode cX10_isHere 4 = .ok (.iload_n 1, 1) := by decide +kernel
theorem dX10_isHere_5 : decode cX10_isHere 5 = .ok (.iaload, 1) := by decide +kernel
theorem dX10_isHere_6 : decode cX10_isHere 6 = .ok (.aload_n 0, 1) := by decide +kernel
theorem dX10_isHere_7 : decode cX10_isHere 7 = .ok (.getfield 27, 3) := by decide +kernel
theorem dX10_isHere_10 : decode cX10_isHere 10 = .ok (.aload_n 0, 1) := by decide +kernel
theorem dX10_isHere_11 : decode cX10_isHere 11 = .ok (.getfield 34, 3) := by decide +kernel
theorem dX10_isHere_14 : decode cX10_isHere 14 = .ok (.iaload, 1) := by decide +kernel
theorem dX10_isHere_15 : decode cX10_isHere 15 = .ok (.if_icmp .lt 7, 3) := by decide +kernel
theorem dX10_isHere_18 : decode cX10_isHere 18 = .ok (.iconst 1, 1) := by decide +kernel
theorem dX10_isHere_19 : decode cX10_isHere 19 = .ok (.goto 4, 3) := by decide +kernel
theorem dX10_isHere_22 : decode cX10_isHere 22 = .ok (.iconst 0, 1) := by decide +kernel
theorem dX10_isHere_23 : decode cX10_isHere 23 = .ok (.ireturn, 1) := by decide +kernel
theorem dX10_find_0 : decode cX10_find 0 = .ok (.aload_n 0, 1) := by decide +kernel
theorem dX10_find_1 : decode cX10_find 1 = .ok (.getfield 24, 3) := by decide +kernel
theorem dX10_find_4 : decode cX10_find 4 = .ok (.iload_n 1, 1) := by decide +kernel
theorem dX10_find_5 : decode cX10_find 5 = .ok (.iaload, 1) := by decide +kernel
theorem dX10_find_6 : decode cX10_find 6 = .ok (.ireturn, 1) := by decide +kernel
theorem dX10_sort_0 : decode cX10_sort 0 = .ok (.aload_n 0, 1) := by decide +kernel
theorem dX10_sort_1 : decode cX10_sort 1 = .ok (.getfield 15, 3) := by decide +kernel
theorem dX10_sort_4 : decode cX10_sort 4 = .ok (.iload_n 1, 1) := by decide +kernel
theorem dX10_sort_5 : decode cX10_sort 5 = .ok (.iaload, 1) := by decide +kernel
theorem dX10_sort_6 : decode cX10_sort 6 = .ok (.ireturn, 1) := by decide +kernel
theorem dX10_value_0 : decode cX10_value 0 = .ok (.aload_n 0, 1) := by decide +kernel
theorem dX10_value_1 : decode cX10_value 1 = .ok (.getfield 18, 3) := by decide +kernel
theorem dX10_value_4 : decode cX10_value 4 = .ok (.iload_n 1, 1) := by decide +kernel
theorem dX10_value_5 : decode cX10_value 5 = .ok (.iaload, 1) := by decide +kernel
theorem dX10_value_6 : decode cX10_value 6 = .ok (.ireturn, 1) := by decide +kernel
theorem dX10_open_0 : decode cX10_open 0 = .ok (.aload_n 0, 1) := by decide +kernel
theorem dX10_open_1 : decode cX10_open 1 = .ok (.dup, 1) := by decide +kernel
theorem dX10_open_2 : decode cX10_open 2 = .ok (.getfield 34, 3) := by decide +kernel
theorem dX10_open_5 : decode cX10_open 5 = .ok (.iconst 1, 1) := by decide +kernel
theorem dX10_open_6 : decode cX10_open 6 = .ok (.iadd, 1) := by decide +kernel
theorem dX10_open_7 : decode cX10_open 7 = .ok (.putfield 34, 3) := by decide +kernel
theorem dX10_open_10 : decode cX10_open 10 = .ok (.aload_n 0, 1) := by decide +kernel
theorem dX10_open_11 : decode cX10_open 11 = .ok (.getfield 27, 3) := by decide +kernel
theorem dX10_open_14 : decode cX10_open 14 = .ok (.aload_n 0, 1) := by decide +kernel
theorem dX10_open_15 : decode cX10_open 15 = .ok (.getfield 34, 3) := by decide +kernel
theorem dX10_open_18 : decode cX10_open 18 = .ok (.aload_n 0, 1) := by decide +kernel
theorem dX10_open_19 : decode cX10_open 19 = .ok (.getfield 30, 3) := by decide +kernel
theorem dX10_open_22 : decode cX10_open 22 = .ok (.iastore, 1) := by decide +kernel
theorem dX10_open_23 : decode cX10_open 23 = .ok (.return_, 1) := by decide +kernel
theorem dX10_close_0 : decode cX10_close 0 = .ok (.aload_n 0, 1) := by decide +kernel
theorem dX10_close_1 : decode cX10_close 1 = .ok (.getfield 30, 3) := by decide +kernel
theorem dX10_close_4 : decode cX10_close 4 = .ok (.aload_n 0, 1) := by decide +kernel
theorem dX10_close_5 : decode cX10_close 5 = .ok (.getfield 27, 3) := by decide +kernel
theorem dX10_close_8 : decode cX10_close 8 = .ok (.aload_n 0, 1) := by decide +kernel
theorem dX10_close_9 : decode cX10_close 9 = .ok (.getfield 34, 3) := by decide +kernel
theorem dX10_close_12 : decode cX10_close 12 = .ok (.iaload, 1) := by decide +kernel
theorem dX10_close_13 : decode cX10_close 13 = .ok (.if_icmp .le 39, 3) := by decide +kernel
theorem dX10_close_16 : decode cX10_close 16 = .ok (.aload_n 0, 1) := by decide +kernel
theorem dX10_close_17 : decode cX10_close 17 = .ok (.dup, 1) := by decide +kernel
theorem dX10_close_18 : decode cX10_close 18 = .ok (.getfield 30, 3) := by decide +kernel
theorem dX10_close_21 : decode cX10_close 21 = .ok (.iconst 1, 1) := by decide +kernel
theorem dX10_close_22 : decode cX10_close 22 = .ok (.isub, 1) := by decide +kernel
theorem dX10_close_23 : decode cX10_close 23 = .ok (.putfield 30, 3) := by decide +kernel
theorem dX10_close_26 : decode cX10_close 26 = .ok (.aload_n 0, 1) := by decide +kernel
theorem dX10_close_27 : decode cX10_close 27 = .ok (.getfield 24, 3) := by decide +kernel
theorem dX10_close_30 : decode cX10_close 30 = .ok (.aload_n 0, 1) := by decide +kernel
theorem dX10_close_31 : decode cX10_close 31 = .ok (.getfield 9, 3) := by decide +kernel
theorem dX10_close_34 : decode cX10_close 34 = .ok (.aload_n 0, 1) := by decide +kernel
theorem dX10_close_35 : decode cX10_close 35 = .ok (.getfield 30, 3) := by decide +kernel
theorem dX10_close_38 : decode cX10_close 38 = .ok (.iaload, 1) := by decide +kernel
theorem dX10_close_39 : decode cX10_close 39 = .ok (.aload_n 0, 1) := by decide +kernel
theorem dX10_close_40 : decode cX10_close 40 = .ok (.getfield 21, 3) := by decide +kernel
theorem dX10_close_43 : decode cX10_close 43 = .ok (.aload_n 0, 1) := by decide +kernel
theorem dX10_close_44 : decode cX10_close 44 = .ok (.getfield 30, 3) := by decide +kernel
theorem dX10_close_47 : decode cX10_close 47 = .ok (.iaload, 1) := by decide +kernel
theorem dX10_close_48 : decode cX10_close 48 = .ok (.iastore, 1) := by decide +kernel
theorem dX10_close_49 : decode cX10_close 49 = .ok (.goto (-49), 3) := by decide +kernel
theorem dX10_close_52 : decode cX10_close 52 = .ok (.aload_n 0, 1) := by decide +kernel
theorem dX10_close_53 : decode cX10_close 53 = .ok (.dup, 1) := by decide +kernel
theorem dX10_close_54 : decode cX10_close 54 = .ok (.getfield 34, 3) := by decide +kernel
theorem dX10_close_57 : decode cX10_close 57 = .ok (.iconst 1, 1) := by decide +kernel
theorem dX10_close_58 : decode cX10_close 58 = .ok (.isub, 1) := by decide +kernel
theorem dX10_close_59 : decode cX10_close 59 = .ok (.putfield 34, 3) := by decide +kernel
theorem dX10_close_62 : decode cX10_close 62 = .ok (.return_, 1) := by decide +kernel
theorem dX11_init_0 : decode cX11_init 0 = .ok (.aload_n 0, 1) := by decide +kernel
theorem dX11_init_1 : decode cX11_init 1 = .ok (.invokespecial 3, 3) := by decide +kernel
theorem dX11_init_4 : decode cX11_init 4 = .ok (.aload_n 0, 1) := by decide +kernel
theorem dX11_init_5 : decode cX11_init 5 = .ok (.sipush 256, 3) := by decide +kernel
theorem dX11_init_8 : decode cX11_init 8 = .ok (.newarray .int, 2) := by decide +kernel
theorem dX11_init_10 : decode cX11_init 10 = .ok (.putfield 9, 3) := by decide +kernel
theorem dX11_init_13 : decode cX11_init 13 = .ok (.aload_n 0, 1) := by decide +kernel
theorem dX11_init_14 : decode cX11_init 14 = .ok (.sipush 256, 3) := by decide +kernel
theorem dX11_init_17 : decode cX11_init 17 = .ok (.newarray .int, 2) := by decide +kernel
theorem dX11_init_19 : decode cX11_init 19 = .ok (.putfield 15, 3) := by decide +kernel
theorem dX11_init_22 : decode cX11_init 22 = .ok (.aload_n 0, 1) := by decide +kernel
theorem dX11_init_23 : decode cX11_init 23 = .ok (.sipush 256, 3) := by decide +kernel
theorem dX11_init_26 : decode cX11_init 26 = .ok (.newarray .int, 2) := by decide +kernel
theorem dX11_init_28 : decode cX11_init 28 = .ok (.putfield 18, 3) := by decide +kernel
theorem dX11_init_31 : decode cX11_init 31 = .ok (.aload_n 0, 1) := by decide +kernel
theorem dX11_init_32 : decode cX11_init 32 = .ok (.bipush 64, 2) := by decide +kernel
theorem dX11_init_34 : decode cX11_init 34 = .ok (.newarray .int, 2) := by decide +kernel
theorem dX11_init_36 : decode cX11_init 36 = .ok (.putfield 21, 3) := by decide +kernel
theorem dX11_init_39 : decode cX11_init 39 = .ok (.return_, 1) := by decide +kernel
theorem dX11_clear_0 : decode cX11_clear 0 = .ok (.aload_n 0, 1) := by decide +kernel
theorem dX11_clear_1 : decode cX11_clear 1 = .ok (.iconst 0, 1) := by decide +kernel
theorem dX11_clear_2 : decode cX11_clear 2 = .ok (.putfield 24, 3) := by decide +kernel
theorem dX11_clear_5 : decode cX11_clear 5 = .ok (.aload_n 0, 1) := by decide +kernel
theorem dX11_clear_6 : decode cX11_clear 6 = .ok (.iconst 0, 1) := by decide +kernel
theorem dX11_clear_7 : decode cX11_clear 7 = .ok (.putfield 28, 3) := by decide +kernel
theorem dX11_clear_10 : decode cX11_clear 10 = .ok (.iconst 0, 1) := by decide +kernel
theorem dX11_clear_11 : decode cX11_clear 11 = .ok (.istore_n 1, 1) := by decide +kernel
theorem dX11_clear_12 : decode cX11_clear 12 = .ok (.iload_n 1, 1) := by decide +kernel
theorem dX11_clear_13 : decode cX11_clear 13 = .ok (.aload_n 0, 1) := by decide +kernel
theorem dX11_clear_14 : decode cX11_clear 14 = .ok (.getfield 21, 3) := by decide +kernel
theorem dX11_clear_17 : decode cX11_clear 17 = .ok (.arraylength, 1) := by decide +kernel
theorem dX11_clear_18 : decode cX11_clear 18 = .ok (.if_icmp .ge 16, 3) := by decide +kernel
theorem dX11_clear_21 : decode cX11_clear 21 = .ok (.aload_n 0, 1) := by decide +kernel
theorem dX11_clear_22 : decode cX11_clear 22 = .ok (.getfield 21, 3) := by decide +kernel
theorem dX11_clear_25 : decode cX11_clear 25 = .ok (.iload_n 1, 1) := by decide +kernel
theorem dX11_clear_26 : decode cX11_clear 26 = .ok (.iconst 0, 1) := by decide +kernel
theorem dX11_clear_27 : decode cX11_clear 27 = .ok (.iastore, 1) := by decide +kernel
theorem dX11_clear_28 : decode cX11_clear 28 = .ok (.iinc 1 1, 3) := by decide +kernel
theorem dX11_clear_31 : decode cX11_clear 31 = .ok (.goto (-19), 3) := by decide +kernel
theorem dX11_clear_34 : decode cX11_clear 34 = .ok (.return_, 1) := by decide +kernel
theorem dX11_size_0 : decode cX11_size 0 = .ok (.aload_n 0, 1) := by decide +kernel
theorem dX11_size_1 : decode cX11_size 1 = .ok (.getfield 15, 3) := by decide +kernel
theorem dX11_size_4 : decode cX11_size 4 = .ok (.iload_n 1, 1) := by decide +kernel
theorem dX11_size_5 : decode cX11_size 5 = .ok (.iaload, 1) := by decide +kernel
theorem dX11_size_6 : decode cX11_size 6 = .ok (.ireturn, 1) := by decide +kernel
theorem dX11_type_0 : decode cX11_type 0 = .ok (.aload_n 0, 1) := by decide +kernel
theorem dX11_type_1 : decode cX11_type 1 = .ok (.getfield 9, 3) := by decide +kernel
theorem dX11_type_4 : decode cX11_type 4 = .ok (.iload_n 1, 1) := by decide +kernel
theorem dX11_type_5 : decode cX11_type 5 = .ok (.iaload, 1) := by decide +kernel
theorem dX11_type_6 : decode cX11_type 6 = .ok (.ireturn, 1) := by decide +kernel
theorem dX11_add_0 : decode cX11_add 0 = .ok (.aload_n 0, 1) := by decide +kernel
theorem dX11_add_1 : decode cX11_add 1 = .ok (.getfield 24, 3) := by decide +kernel
theorem dX11_add_4 : decode cX11_add 4 = .ok (.aload_n 0, 1) := by decide +kernel
theorem dX11_add_5 : decode cX11_add 5 = .ok (.getfield 9, 3) := by decide +kernel
theorem dX11_add_8 : decode cX11_add 8 = .ok (.arraylength, 1) := by decide +kernel
theorem dX11_add_9 : decode cX11_add 9 = .ok (.if_icmp .ne 36, 3) := by decide +kernel
theorem dX11_add_12 : decode cX11_add 12 = .ok (.aload_n 0, 1) := by decide +kernel
theorem dX11_add_13 : decode cX11_add 13 = .ok (.aload_n 0, 1) := by decide +kernel
theorem dX11_add_14 : decode cX11_add 14 = .ok (.getfield 9, 3) := by decide +kernel
theorem dX11_add_17 : decode cX11_add 17 = .ok (.invokestatic 31, 3) := by decide +kernel
theorem dX11_add_20 : decode cX11_add 20 = .ok (.putfield 9, 3) := by decide +kernel
theorem dX11_add_23 : decode cX11_add 23 = .ok (.aload_n 0, 1) := by decide +kernel
theorem dX11_add_24 : decode cX11_add 24 = .ok (.aload_n 0, 1) := by decide +kernel
theorem dX11_add_25 : decode cX11_add 25 = .ok (.getfield 15, 3) := by decide +kernel
theorem dX11_add_28 : decode cX11_add 28 = .ok (.invokestatic 31, 3) := by decide +kernel
theorem dX11_add_31 : decode cX11_add 31 = .ok (.putfield 15, 3) := by decide +kernel
theorem dX11_add_34 : decode cX11_add 34 = .ok (.aload_n 0, 1) := by decide +kernel
theorem dX11_add_35 : decode cX11_add 35 = .ok (.aload_n 0, 1) := by decide +kernel
theorem dX11_add_36 : decode cX11_add 36 = .ok (.getfield 18, 3) := by decide +kernel
theorem dX11_add_39 : decode cX11_add 39 = .ok (.invokestatic 31, 3) := by decide +kernel
theorem dX11_add_42 : decode cX11_add 42 = .ok (.putfield 18, 3) := by decide +kernel
theorem dX11_add_45 : decode cX11_add 45 = .ok (.aload_n 0, 1) := by decide +kernel
theorem dX11_add_46 : decode cX11_add 46 = .ok (.getfield 9, 3) := by decide +kernel
theorem dX11_add_49 : decode cX11_add 49 = .ok (.aload_n 0, 1) := by decide +kernel
theorem dX11_add_50 : decode cX11_add 50 = .ok (.getfield 24, 3) := by decide +kernel
theorem dX11_add_53 : decode cX11_add 53 = .ok (.iload_n 1, 1) := by decide +kernel
theorem dX11_add_54 : decode cX11_add 54 = .ok (.iastore, 1) := by decide +kernel
theorem dX11_add_55 : decode cX11_add 55 = .ok (.aload_n 0, 1) := by decide +kernel
theorem dX11_add_56 : decode cX11_add 56 = .ok (.getfield 15, 3) := by decide +kernel
theorem dX11_add_59 : decode cX11_add 59 = .ok (.aload_n 0, 1) := by decide +kernel
theorem dX11_add_60 : decode cX11_add 60 = .ok (.getfield 24, 3) := by decide +kernel
theorem dX11_add_63 : decode cX11_add 63 = .ok (.iload_n 2, 1) := by decide +kernel
theorem dX11_add_64 : decode cX11_add 64 = .ok (.iastore, 1) := by decide +kernel
theorem dX11_add_65 : decode cX11_add 65 = .ok (.aload_n 0, 1) := by decide +kernel
theorem dX11_add_66 : decode cX11_add 66 = .ok (.getfield 18, 3) := by decide +kernel
theorem dX11_add_69 : decode cX11_add 69 = .ok (.aload_n 0, 1) := by decide +kernel
theorem dX11_add_70 : decode cX11_add 70 = .ok (.getfield 24, 3) := by decide +kernel
theorem dX11_add_73 : decode cX11_add 73 = .ok (.iload_n 3, 1) := by decide +kernel
theorem dX11_add_74 : decode cX11_add 74 = .ok (.iastore, 1) := by decide +kernel
theorem dX11_add_75 : decode cX11_add 75 = .ok (.aload_n 0, 1) := by decide +kernel
theorem dX11_add_76 : decode cX11_add 76 = .ok (.iload_n 3, 1) := by decide +kernel
theorem dX11_add_77 : decode cX11_add 77 = .ok (.aload_n 0, 1) := by decide +kernel
theorem dX11_add_78 : decode cX11_add 78 = .ok (.aload_n 0, 1) := by decide +kernel
theorem dX11_add_79 : decode cX11_add 79 = .ok (.getfield 24, 3) := by decide +kernel
theorem dX11_add_82 : decode cX11_add 82 = .ok (.invokevirtual 41, 3) := by decide +kernel
theorem dX11_add_85 : decode cX11_add 85 = .ok (.invokevirtual 45, 3) := by decide +kernel
theorem dX11_add_88 : decode cX11_add 88 = .ok (.aload_n 0, 1) := by decide +kernel
theorem dX11_add_89 : decode cX11_add 89 = .ok (.dup, 1) := by decide +kernel
theorem dX11_add_90 : decode cX11_add 90 = .ok (.getfield 24, 3) := by decide +kernel
theorem dX11_add_93 : decode cX11_add 93 = .ok (.dup_x1, 1) := by decide +kernel
theorem dX11_add_94 : decode cX11_add 94 = .ok (.iconst 1, 1) := by decide +kernel
theorem dX11_add_95 : decode cX11_add 95 = .ok (.iadd, 1) := by decide +kernel
theorem dX11_add_96 : decode cX11_add 96 = .ok (.putfield 24, 3) := by decide +kernel
theorem dX11_add_99 : decode cX11_add 99 = .ok (.ireturn, 1) := by decide +kernel
theorem dX11_longer_0 : decode cX11_longer 0 = .ok (.iconst 2, 1) := by decide +kernel
theorem dX11_longer_1 : decode cX11_longer 1 = .ok (.aload_n 0, 1) := by decide +kernel
theorem dX11_longer_2 : decode cX11_longer 2 = .ok (.arraylength, 1) := by decide +kernel
theorem dX11_longer_3 : decode cX11_longer 3 = .ok (.imul, 1) := by decide +kernel
theorem dX11_longer_4 : decode cX11_longer 4 = .ok (.newarray .int, 2) := by decide +kernel
theorem dX11_longer_6 : decode cX11_longer 6 = .ok (.astore_n 1, 1) := by decide +kernel
theorem dX11_longer_7 : decode cX11_longer 7 = .ok (.aload_n 0, 1) := by decide +kernel
theorem dX11_longer_8 : decode cX11_longer 8 = .ok (.iconst 0, 1) := by decide +kernel
theorem dX11_longer_9 : decode cX11_longer 9 = .ok (.aload_n 1, 1) := by decide +kernel
theorem dX11_longer_10 : decode cX11_longer 10 = .ok (.iconst 0, 1) := by decide +kernel
theorem dX11_longer_11 : decode cX11_longer 11 = .ok (.aload_n 0, 1) := by decide +kernel
theorem dX11_longer_12 : decode cX11_longer 12 = .ok (.arraylength, 1) := by decide +kernel
theorem dX11_longer_13 : decode cX11_longer 13 = .ok (.invokestatic 35, 3) := by decide +kernel
theorem dX11_longer_16 : decode cX11_longer 16 = .ok (.aload_n 1, 1) := by decide +kernel
theorem dX11_longer_17 : decode cX11_longer 17 = .ok (.areturn, 1) := by decide +kernel
theorem dX11_words_0 : decode cX11_words 0 = .ok (.aload_n 0, 1) := by decide +kernel
theorem dX11_words_1 : decode cX11_words 1 = .ok (.getfield 15, 3) := by decide +kernel
theorem dX11_words_4 : decode cX11_words 4 = .ok (.iload_n 1, 1) := by decide +kernel
theorem dX11_words_5 : decode cX11_words 5 = .ok (.iaload, 1) := by decide +kernel
theorem dX11_words_6 : decode cX11_words 6 = .ok (.istore_n 2, 1) := by decide +kernel
theorem dX11_words_7 : decode cX11_words 7 = .ok (.iload_n 2, 1) := by decide +kernel
theorem dX11_words_8 : decode cX11_words 8 = .ok (.ifCond .ne 7, 3) := by decide +kernel
theorem dX11_words_11 : decode cX11_words 11 = .ok (.iconst 1, 1) := by decide +kernel
theorem dX11_words_12 : decode cX11_words 12 = .ok (.goto 31, 3) := by decide +kernel
theorem dX11_words_15 : decode cX11_words 15 = .ok (.iload_n 2, 1) := by decide +kernel
theorem dX11_words_16 : decode cX11_words 16 = .ok (.iconst (-1), 1) := by decide +kernel
theorem dX11_words_17 : decode cX11_words 17 = .ok (.if_icmp .ne 7, 3) := by decide +kernel
theorem dX11_words_20 : decode cX11_words 20 = .ok (.iconst 2, 1) := by decide +kernel
theorem dX11_words_21 : decode cX11_words 21 = .ok (.goto 22, 3) := by decide +kernel
theorem dX11_words_24 : decode cX11_words 24 = .ok (.aload_n 0, 1) := by decide +kernel
theorem dX11_words_25 : decode cX11_words 25 = .ok (.getfield 9, 3) := by decide +kernel
theorem dX11_words_28 : decode cX11_words 28 = .ok (.iload_n 1, 1) := by decide +kernel
theorem dX11_words_29 : decode cX11_words 29 = .ok (.iaload, 1) := by decide +kernel
theorem dX11_words_30 : decode cX11_words 30 = .ok (.iconst 1, 1) := by decide +kernel
theorem dX11_words_31 : decode cX11_words 31 = .ok (.if_icmp .ne 11, 3) := by decide +kernel
theorem dX11_words_34 : decode cX11_words 34 = .ok (.iload_n 2, 1) := by decide +kernel
theorem dX11_words_35 : decode cX11_words 35 = .ok (.iconst 3, 1) := by decide +kernel
theorem dX11_words_36 : decode cX11_words 36 = .ok (.iadd, 1) := by decide +kernel
theorem dX11_words_37 : decode cX11_words 37 = .ok (.iconst 4, 1) := by decide +kernel
theorem dX11_words_38 : decode cX11_words 38 = .ok (.idiv, 1) := by decide +kernel
theorem dX11_words_39 : decode cX11_words 39 = .ok (.goto 4, 3) := by decide +kernel
theorem dX11_words_42 : decode cX11_words 42 = .ok (.iload_n 2, 1) := by decide +kernel
theorem dX11_words_43 : decode cX11_words 43 = .ok (.ireturn, 1) := by decide +kernel
theorem dX11_sum_0 : decode cX11_sum 0 = .ok (.iload_n 1, 1) := by decide +kernel
theorem dX11_sum_1 : decode cX11_sum 1 = .ok (.iconst (-1), 1) := by decide +kernel
theorem dX11_sum_2 : decode cX11_sum 2 = .ok (.if_icmp .ne 14, 3) := by decide +kernel
theorem dX11_sum_5 : decode cX11_sum 5 = .ok (.aload_n 0, 1) := by decide +kernel
theorem dX11_sum_6 : decode cX11_sum 6 = .ok (.dup, 1) := by decide +kernel
theorem dX11_sum_7 : decode cX11_sum 7 = .ok (.getfield 28, 3) := by decide +kernel
theorem dX11_sum_10 : decode cX11_sum 10 = .ok (.iload_n 2, 1) := by decide +kernel
theorem dX11_sum_11 : decode cX11_sum 11 = .ok (.iadd, 1) := by decide +kernel
theorem dX11_sum_12 : decode cX11_sum 12 = .ok (.putfield 28, 3) := by decide +kernel
theorem dX11_sum_15 : decode cX11_sum 15 = .ok (.return_, 1) := by decide +kernel
theorem dX11_sum_16 : decode cX11_sum 16 = .ok (.iload_n 1, 1) := by decide +kernel
theorem dX11_sum_17 : decode cX11_sum 17 = .ok (.aload_n 0, 1) := by decide +kernel
theorem dX11_sum_18 : decode cX11_sum 18 = .ok (.getfield 21, 3) := by decide +kernel
theorem dX11_sum_21 : decode cX11_sum 21 = .ok (.arraylength, 1) := by decide +kernel
theorem dX11_sum_22 : decode cX11_sum 22 = .ok (.if_icmp .lt 17, 3) := by decide +kernel
theorem dX11_sum_25 : decode cX11_sum 25 = .ok (.aload_n 0, 1) := by decide +kernel
theorem dX11_sum_26 : decode cX11_sum 26 = .ok (.aload_n 0, 1) := by decide +kernel
theorem dX11_sum_27 : decode cX11_sum 27 = .ok (.getfield 21, 3) := by decide +kernel
theorem dX11_sum_30 : decode cX11_sum 30 = .ok (.invokestatic 31, 3) := by decide +kernel
theorem dX11_sum_33 : decode cX11_sum 33 = .ok (.putfield 21, 3) := by decide +kernel
theorem dX11_sum_36 : decode cX11_sum 36 = .ok (.goto (-20), 3) := by decide +kernel
theorem dX11_sum_39 : decode cX11_sum 39 = .ok (.aload_n 0, 1) := by decide +kernel
theorem dX11_sum_40 : decode cX11_sum 40 = .ok (.getfield 21, 3) := by decide +kernel
theorem dX11_sum_43 : decode cX11_sum 43 = .ok (.iload_n 1, 1) := by decide +kernel
theorem dX11_sum_44 : decode cX11_sum 44 = .ok (.dup2, 1) := by decide +kernel
theorem dX11_sum_45 : decode cX11_sum 45 = .ok (.iaload, 1) := by decide +kernel
theorem dX11_sum_46 : decode cX11_sum 46 = .ok (.iload_n 2, 1) := by decide +kernel
theorem dX11_sum_47 : decode cX11_sum 47 = .ok (.iadd, 1) := by decide +kernel
theorem dX11_sum_48 : decode cX11_sum 48 = .ok (.iastore, 1) := by decide +kernel
theorem dX11_sum_49 : decode cX11_sum 49 = .ok (.return_, 1) := by decide +kernel
theorem dX11_wordsOf_0 : decode cX11_wordsOf 0 = .ok (.iload_n 1, 1) := by decide +kernel
theorem dX11_wordsOf_1 : decode cX11_wordsOf 1 = .ok (.iconst (-1), 1) := by decide +kernel
theorem dX11_wordsOf_2 : decode cX11_wordsOf 2 = .ok (.if_icmp .ne 10, 3) := by decide +kernel
theorem dX11_wordsOf_5 : decode cX11_wordsOf 5 = .ok (.aload_n 0, 1) := by decide +kernel
theorem dX11_wordsOf_6 : decode cX11_wordsOf 6 = .ok (.getfield 28, 3) := by decide +kernel
theorem dX11_wordsOf_9 : decode cX11_wordsOf 9 = .ok (.goto 22, 3) := by decide +kernel
theorem dX11_wordsOf_12 : decode cX11_wordsOf 12 = .ok (.iload_n 1, 1) := by decide +kernel
theorem dX11_wordsOf_13 : decode cX11_wordsOf 13 = .ok (.aload_n 0, 1) := by decide +kernel
theorem dX11_wordsOf_14 : decode cX11_wordsOf 14 = .ok (.getfield 21, 3) := by decide +kernel
theorem dX11_wordsOf_17 : decode cX11_wordsOf 17 = .ok (.arraylength, 1) := by decide +kernel
theorem dX11_wordsOf_18 : decode cX11_wordsOf 18 = .ok (.if_icmp .ge 12, 3) := by decide +kernel
theorem dX11_wordsOf_21 : decode cX11_wordsOf 21 = .ok (.aload_n 0, 1) := by decide +kernel
theorem dX11_wordsOf_22 : decode cX11_wordsOf 22 = .ok (.getfield 21, 3) := by decide +kernel
theorem dX11_wordsOf_25 : decode cX11_wordsOf 25 = .ok (.iload_n 1, 1) := by decide +kernel
theorem dX11_wordsOf_26 : decode cX11_wordsOf 26 = .ok (.iaload, 1) := by decide +kernel
theorem dX11_wordsOf_27 : decode cX11_wordsOf 27 = .ok (.goto 4, 3) := by decide +kernel
theorem dX11_wordsOf_30 : decode cX11_wordsOf 30 = .ok (.iconst 0, 1) := by decide +kernel
theorem dX11_wordsOf_31 : decode cX11_wordsOf 31 = .ok (.ireturn, 1) := by decide +kernel
theorem dX11_count_0 : decode cX11_count 0 = .ok (.aload_n 0, 1) := by decide +kernel
theorem dX11_count_1 : decode cX11_count 1 = .ok (.getfield 24, 3) := by decide +kernel
theorem dX11_count_4 : decode cX11_count 4 = .ok (.ireturn, 1) := by decide +kernel
theorem dX11_owner_0 : decode cX11_owner 0 = .ok (.aload_n 0, 1) := by decide +kernel
theorem dX11_owner_1 : decode cX11_owner 1 = .ok (.getfield 18, 3) := by decide +kernel
theorem dX11_owner_4 : decode cX11_owner 4 = .ok (.iload_n 1, 1) := by decide +kernel
theorem dX11_owner_5 : decode cX11_owner 5 = .ok (.iaload, 1) := by decide +kernel
theorem dX11_owner_6 : decode cX11_owner 6 = .ok (.ireturn, 1) := by decide +kernel
theorem dX12_init_0 : decode cX12_init 0 = .ok (.aload_n 0, 1) := by decide +kernel
theorem dX12_init_1 : decode cX12_init 1 = .ok (.invokespecial 3, 3) := by decide +kernel
theorem dX12_init_4 : decode cX12_init 4 = .ok (.aload_n 0, 1) := by decide +kernel
theorem dX12_init_5 : decode cX12_init 5 = .ok (.sipush 1024, 3) := by decide +kernel
theorem dX12_init_8 : decode cX12_init 8 = .ok (.newarray .int, 2) := by decide +kernel
theorem dX12_init_10 : decode cX12_init 10 = .ok (.putfield 9, 3) := by decide +kernel
theorem dX12_init_13 : decode cX12_init 13 = .ok (.aload_n 0, 1) := by decide +kernel
theorem dX12_init_14 : decode cX12_init 14 = .ok (.sipush 256, 3) := by decide +kernel
theorem dX12_init_17 : decode cX12_init 17 = .ok (.newarray .int, 2) := by decide +kernel
theorem dX12_init_19 : decode cX12_init 19 = .ok (.putfield 15, 3) := by decide +kernel
theorem dX12_init_22 : decode cX12_init 22 = .ok (.aload_n 0, 1) := by decide +kernel
theorem dX12_init_23 : decode cX12_init 23 = .ok (.sipush 256, 3) := by decide +kernel
theorem dX12_init_26 : decode cX12_init 26 = .ok (.newarray .int, 2) := by decide +kernel
theorem dX12_init_28 : decode cX12_init 28 = .ok (.putfield 18, 3) := by decide +kernel
theorem dX12_init_31 : decode cX12_init 31 = .ok (.aload_n 0, 1) := by decide +kernel
theorem dX12_init_32 : decode cX12_init 32 = .ok (.sipush 256, 3) := by decide +kernel
theorem dX12_init_35 : decode cX12_init 35 = .ok (.newarray .int, 2) := by decide +kernel
theorem dX12_init_37 : decode cX12_init 37 = .ok (.putfield 21, 3) := by decide +kernel
theorem dX12_init_40 : decode cX12_init 40 = .ok (.return_, 1) := by decide +kernel
theorem dX12_clear_0 : decode cX12_clear 0 = .ok (.aload_n 0, 1) := by decide +kernel
theorem dX12_clear_1 : decode cX12_clear 1 = .ok (.iconst 0, 1) := by decide +kernel
theorem dX12_clear_2 : decode cX12_clear 2 = .ok (.putfield 24, 3) := by decide +kernel
theorem dX12_clear_5 : decode cX12_clear 5 = .ok (.aload_n 0, 1) := by decide +kernel
theorem dX12_clear_6 : decode cX12_clear 6 = .ok (.iconst 0, 1) := by decide +kernel
theorem dX12_clear_7 : decode cX12_clear 7 = .ok (.putfield 28, 3) := by decide +kernel
theorem dX12_clear_10 : decode cX12_clear 10 = .ok (.aload_n 0, 1) := by decide +kernel
theorem dX12_clear_11 : decode cX12_clear 11 = .ok (.iconst 0, 1) := by decide +kernel
theorem dX12_clear_12 : decode cX12_clear 12 = .ok (.putfield 31, 3) := by decide +kernel
theorem dX12_clear_15 : decode cX12_clear 15 = .ok (.return_, 1) := by decide +kernel
theorem dX12_label_0 : decode cX12_label 0 = .ok (.aload_n 0, 1) := by decide +kernel
theorem dX12_label_1 : decode cX12_label 1 = .ok (.getfield 28, 3) := by decide +kernel
theorem dX12_label_4 : decode cX12_label 4 = .ok (.aload_n 0, 1) := by decide +kernel
theorem dX12_label_5 : decode cX12_label 5 = .ok (.getfield 15, 3) := by decide +kernel
theorem dX12_label_8 : decode cX12_label 8 = .ok (.arraylength, 1) := by decide +kernel
theorem dX12_label_9 : decode cX12_label 9 = .ok (.if_icmp .ne 14, 3) := by decide +kernel
theorem dX12_label_12 : decode cX12_label 12 = .ok (.aload_n 0, 1) := by decide +kernel
theorem dX12_label_13 : decode cX12_label 13 = .ok (.aload_n 0, 1) := by decide +kernel
theorem dX12_label_14 : decode cX12_label 14 = .ok (.getfield 15, 3) := by decide +kernel
theorem dX12_label_17 : decode cX12_label 17 = .ok (.invokestatic 40, 3) := by decide +kernel
theorem dX12_label_20 : decode cX12_label 20 = .ok (.putfield 15, 3) := by decide +kernel
theorem dX12_label_23 : decode cX12_label 23 = .ok (.aload_n 0, 1) := by decide +kernel
theorem dX12_label_24 : decode cX12_label 24 = .ok (.getfield 15, 3) := by decide +kernel
theorem dX12_label_27 : decode cX12_label 27 = .ok (.aload_n 0, 1) := by decide +kernel
theorem dX12_label_28 : decode cX12_label 28 = .ok (.getfield 28, 3) := by decide +kernel
theorem dX12_label_31 : decode cX12_label 31 = .ok (.iconst (-1), 1) := by decide +kernel
theorem dX12_label_32 : decode cX12_label 32 = .ok (.iastore, 1) := by decide +kernel
theorem dX12_label_33 : decode cX12_label 33 = .ok (.aload_n 0, 1) := by decide +kernel
theorem dX12_label_34 : decode cX12_label 34 = .ok (.dup, 1) := by decide +kernel
theorem dX12_label_35 : decode cX12_label 35 = .ok (.getfield 28, 3) := by decide +kernel
theorem dX12_label_38 : decode cX12_label 38 = .ok (.dup_x1, 1) := by decide +kernel
theorem dX12_label_39 : decode cX12_label 39 = .ok (.iconst 1, 1) := by decide +kernel
theorem dX12_label_40 : decode cX12_label 40 = .ok (.iadd, 1) := by decide +kernel
theorem dX12_label_41 : decode cX12_label 41 = .ok (.putfield 28, 3) := by decide +kernel
theorem dX12_label_44 : decode cX12_label 44 = .ok (.ireturn, 1) := by decide +kernel
theorem dX12_longer_0 : decode cX12_longer 0 = .ok (.iconst 2, 1) := by decide +kernel
theorem dX12_longer_1 : decode cX12_longer 1 = .ok (.aload_n 0, 1) := by decide +kernel
theorem dX12_longer_2 : decode cX12_longer 2 = .ok (.arraylength, 1) := by decide +kernel
theorem dX12_longer_3 : decode cX12_longer 3 = .ok (.imul, 1) := by decide +kernel
theorem dX12_longer_4 : decode cX12_longer 4 = .ok (.newarray .int, 2) := by decide +kernel
theorem dX12_longer_6 : decode cX12_longer 6 = .ok (.astore_n 1, 1) := by decide +kernel
theorem dX12_longer_7 : decode cX12_longer 7 = .ok (.aload_n 0, 1) := by decide +kernel
theorem dX12_longer_8 : decode cX12_longer 8 = .ok (.iconst 0, 1) := by decide +kernel
theorem dX12_longer_9 : decode cX12_longer 9 = .ok (.aload_n 1, 1) := by decide +kernel
theorem dX12_longer_10 : decode cX12_longer 10 = .ok (.iconst 0, 1) := by decide +kernel
theorem dX12_longer_11 : decode cX12_longer 11 = .ok (.aload_n 0, 1) := by decide +kernel
theorem dX12_longer_12 : decode cX12_longer 12 = .ok (.arraylength, 1) := by decide +kernel
theorem dX12_longer_13 : decode cX12_longer 13 = .ok (.invokestatic 34, 3) := by decide +kernel
theorem dX12_longer_16 : decode cX12_longer 16 = .ok (.aload_n 1, 1) := by decide +kernel
theorem dX12_longer_17 : decode cX12_longer 17 = .ok (.areturn, 1) := by decide +kernel
theorem dX12_store_0 : decode cX12_store 0 = .ok (.aload_n 0, 1) := by decide +kernel
theorem dX12_store_1 : decode cX12_store 1 = .ok (.iload 4, 2) := by decide +kernel
theorem dX12_store_3 : decode cX12_store 3 = .ok (.iconst 5, 1) := by decide +kernel
theorem dX12_store_4 : decode cX12_store 4 = .ok (.ishr, 1) := by decide +kernel
theorem dX12_store_5 : decode cX12_store 5 = .ok (.bipush 127, 2) := by decide +kernel
theorem dX12_store_7 : decode cX12_store 7 = .ok (.iand, 1) := by decide +kernel
theorem dX12_store_8 : decode cX12_store 8 = .ok (.bipush 25, 2) := by decide +kernel
theorem dX12_store_10 : decode cX12_store 10 = .ok (.ishl, 1) := by decide +kernel
theorem dX12_store_11 : decode cX12_store 11 = .ok (.iload_n 3, 1) := by decide +kernel
theorem dX12_store_12 : decode cX12_store 12 = .ok (.bipush 20, 2) := by decide +kernel
theorem dX12_store_14 : decode cX12_store 14 = .ok (.ishl, 1) := by decide +kernel
theorem dX12_store_15 : decode cX12_store 15 = .ok (.ior, 1) := by decide +kernel
theorem dX12_store_16 : decode cX12_store 16 = .ok (.iload_n 2, 1) := by decide +kernel
theorem dX12_store_17 : decode cX12_store 17 = .ok (.bipush 15, 2) := by decide +kernel
theorem dX12_store_19 : decode cX12_store 19 = .ok (.ishl, 1) := by decide +kernel
theorem dX12_store_20 : decode cX12_store 20 = .ok (.ior, 1) := by decide +kernel
theorem dX12_store_21 : decode cX12_store 21 = .ok (.iload_n 1, 1) := by decide +kernel
theorem dX12_store_22 : decode cX12_store 22 = .ok (.bipush 12, 2) := by decide +kernel
theorem dX12_store_24 : decode cX12_store 24 = .ok (.ishl, 1) := by decide +kernel
theorem dX12_store_25 : decode cX12_store 25 = .ok (.ior, 1) := by decide +kernel
theorem dX12_store_26 : decode cX12_store 26 = .ok (.iload 4, 2) := by decide +kernel
theorem dX12_store_28 : decode cX12_store 28 = .ok (.bipush 31, 2) := by decide +kernel
theorem dX12_store_30 : decode cX12_store 30 = .ok (.iand, 1) := by decide +kernel
theorem dX12_store_31 : decode cX12_store 31 = .ok (.bipush 7, 2) := by decide +kernel
theorem dX12_store_33 : decode cX12_store 33 = .ok (.ishl, 1) := by decide +kernel
theorem dX12_store_34 : decode cX12_store 34 = .ok (.ior, 1) := by decide +kernel
theorem dX12_store_35 : decode cX12_store 35 = .ok (.bipush 35, 2) := by decide +kernel
theorem dX12_store_37 : decode cX12_store 37 = .ok (.ior, 1) := by decide +kernel
theorem dX12_store_38 : decode cX12_store 38 = .ok (.invokevirtual 44, 3) := by decide +kernel
theorem dX12_store_41 : decode cX12_store 41 = .ok (.return_, 1) := by decide +kernel
theorem dX12_emit_0 : decode cX12_emit 0 = .ok (.aload_n 0, 1) := by decide +kernel
theorem dX12_emit_1 : decode cX12_emit 1 = .ok (.getfield 24, 3) := by decide +kernel
theorem dX12_emit_4 : decode cX12_emit 4 = .ok (.aload_n 0, 1) := by decide +kernel
theorem dX12_emit_5 : decode cX12_emit 5 = .ok (.getfield 9, 3) := by decide +kernel
theorem dX12_emit_8 : decode cX12_emit 8 = .ok (.arraylength, 1) := by decide +kernel
theorem dX12_emit_9 : decode cX12_emit 9 = .ok (.if_icmp .ne 14, 3) := by decide +kernel
theorem dX12_emit_12 : decode cX12_emit 12 = .ok (.aload_n 0, 1) := by decide +kernel
theorem dX12_emit_13 : decode cX12_emit 13 = .ok (.aload_n 0, 1) := by decide +kernel
theorem dX12_emit_14 : decode cX12_emit 14 = .ok (.getfield 9, 3) := by decide +kernel
theorem dX12_emit_17 : decode cX12_emit 17 = .ok (.invokestatic 40, 3) := by decide +kernel
theorem dX12_emit_20 : decode cX12_emit 20 = .ok (.putfield 9, 3) := by decide +kernel
theorem dX12_emit_23 : decode cX12_emit 23 = .ok (.aload_n 0, 1) := by decide +kernel
theorem dX12_emit_24 : decode cX12_emit 24 = .ok (.getfield 9, 3) := by decide +kernel
theorem dX12_emit_27 : decode cX12_emit 27 = .ok (.aload_n 0, 1) := by decide +kernel
theorem dX12_emit_28 : decode cX12_emit 28 = .ok (.dup, 1) := by decide +kernel
theorem dX12_emit_29 : decode cX12_emit 29 = .ok (.getfield 24, 3) := by decide +kernel
theorem dX12_emit_32 : decode cX12_emit 32 = .ok (.dup_x1, 1) := by decide +kernel
theorem dX12_emit_33 : decode cX12_emit 33 = .ok (.iconst 1, 1) := by decide +kernel
theorem dX12_emit_34 : decode cX12_emit 34 = .ok (.iadd, 1) := by decide +kernel
theorem dX12_emit_35 : decode cX12_emit 35 = .ok (.putfield 24, 3) := by decide +kernel
theorem dX12_emit_38 : decode cX12_emit 38 = .ok (.iload_n 1, 1) := by decide +kernel
theorem dX12_emit_39 : decode cX12_emit 39 = .ok (.iastore, 1) := by decide +kernel
theorem dX12_emit_40 : decode cX12_emit 40 = .ok (.return_, 1) := by decide +kernel
theorem dX12_jump_0 : decode cX12_jump 0 = .ok (.aload_n 0, 1) := by decide +kernel
theorem dX12_jump_1 : decode cX12_jump 1 = .ok (.getfield 31, 3) := by decide +kernel
theorem dX12_jump_4 : decode cX12_jump 4 = .ok (.aload_n 0, 1) := by decide +kernel
theorem dX12_jump_5 : decode cX12_jump 5 = .ok (.getfield 18, 3) := by decide +kernel
theorem dX12_jump_8 : decode cX12_jump 8 = .ok (.arraylength, 1) := by decide +kernel
theorem dX12_jump_9 : decode cX12_jump 9 = .ok (.if_icmp .ne 25, 3) := by decide +kernel
theorem dX12_jump_12 : decode cX12_jump 12 = .ok (.aload_n 0, 1) := by decide +kernel
theorem dX12_jump_13 : decode cX12_jump 13 = .ok (.aload_n 0, 1) := by decide +kernel
theorem dX12_jump_14 : decode cX12_jump 14 = .ok (.getfield 18, 3) := by decide +kernel
theorem dX12_jump_17 : decode cX12_jump 17 = .ok (.invokestatic 40, 3) := by decide +kernel
theorem dX12_jump_20 : decode cX12_jump 20 = .ok (.putfield 18, 3) := by decide +kernel
theorem dX12_jump_23 : decode cX12_jump 23 = .ok (.aload_n 0, 1) := by decide +kernel
theorem dX12_jump_24 : decode cX12_jump 24 = .ok (.aload_n 0, 1) := by decide +kernel
theorem dX12_jump_25 : decode cX12_jump 25 = .ok (.getfield 21, 3) := by decide +kernel
theorem dX12_jump_28 : decode cX12_jump 28 = .ok (.invokestatic 40, 3) := by decide +kernel
theorem dX12_jump_31 : decode cX12_jump 31 = .ok (.putfield 21, 3) := by decide +kernel
theorem dX12_jump_34 : decode cX12_jump 34 = .ok (.aload_n 0, 1) := by decide +kernel
theorem dX12_jump_35 : decode cX12_jump 35 = .ok (.getfield 18, 3) := by decide +kernel
theorem dX12_jump_38 : decode cX12_jump 38 = .ok (.aload_n 0, 1) := by decide +kernel
theorem dX12_jump_39 : decode cX12_jump 39 = .ok (.getfield 31, 3) := by decide +kernel
theorem dX12_jump_42 : decode cX12_jump 42 = .ok (.aload_n 0, 1) := by decide +kernel
theorem dX12_jump_43 : decode cX12_jump 43 = .ok (.getfield 24, 3) := by decide +kernel
theorem dX12_jump_46 : decode cX12_jump 46 = .ok (.iastore, 1) := by decide +kernel
theorem dX12_jump_47 : decode cX12_jump 47 = .ok (.aload_n 0, 1) := by decide +kernel
theorem dX12_jump_48 : decode cX12_jump 48 = .ok (.getfield 21, 3) := by decide +kernel
theorem dX12_jump_51 : decode cX12_jump 51 = .ok (.aload_n 0, 1) := by decide +kernel
theorem dX12_jump_52 : decode cX12_jump 52 = .ok (.dup, 1) := by decide +kernel
theorem dX12_jump_53 : decode cX12_jump 53 = .ok (.getfield 31, 3) := by decide +kernel
theorem dX12_jump_56 : decode cX12_jump 56 = .ok (.dup_x1, 1) := by decide +kernel
theorem dX12_jump_57 : decode cX12_jump 57 = .ok (.iconst 1, 1) := by decide +kernel
theorem dX12_jump_58 : decode cX12_jump 58 = .ok (.iadd, 1) := by decide +kernel
theorem dX12_jump_59 : decode cX12_jump 59 = .ok (.putfield 31, 3) := by decide +kernel
theorem dX12_jump_62 : decode cX12_jump 62 = .ok (.iload_n 2, 1) := by decide +kernel
theorem dX12_jump_63 : decode cX12_jump 63 = .ok (.iastore, 1) := by decide +kernel
theorem dX12_jump_64 : decode cX12_jump 64 = .ok (.aload_n 0, 1) := by decide +kernel
theorem dX12_jump_65 : decode cX12_jump 65 = .ok (.iload_n 1, 1) := by decide +kernel
theorem dX12_jump_66 : decode cX12_jump 66 = .ok (.bipush 7, 2) := by decide +kernel
theorem dX12_jump_68 : decode cX12_jump 68 = .ok (.ishl, 1) := by decide +kernel
theorem dX12_jump_69 : decode cX12_jump 69 = .ok (.bipush 111, 2) := by decide +kernel
theorem dX12_jump_71 : decode cX12_jump 71 = .ok (.ior, 1) := by decide +kernel
theorem dX12_jump_72 : decode cX12_jump 72 = .ok (.invokevirtual 44, 3) := by decide +kernel
theorem dX12_jump_75 : decode cX12_jump 75 = .ok (.return_, 1) := by decide +kernel
theorem dX12_set_0 : decode cX12_set 0 = .ok (.iload_n 2, 1) := by decide +kernel
theorem dX12_set_1 : decode cX12_set 1 = .ok (.sipush (-2048), 3) := by decide +kernel
theorem dX12_set_4 : decode cX12_set 4 = .ok (.if_icmp .lt 21, 3) := by decide +kernel
theorem dX12_set_7 : decode cX12_set 7 = .ok (.iload_n 2, 1) := by decide +kernel
theorem dX12_set_8 : decode cX12_set 8 = .ok (.sipush 2048, 3) := by decide +kernel
theorem dX12_set_11 : decode cX12_set 11 = .ok (.if_icmp .ge 14, 3) := by decide +kernel
theorem dX12_set_14 : decode cX12_set 14 = .ok (.aload_n 0, 1) := by decide +kernel
theorem dX12_set_15 : decode cX12_set 15 = .ok (.iconst 0, 1) := by decide +kernel
theorem dX12_set_16 : decode cX12_set 16 = .ok (.iload_n 1, 1) := by decide +kernel
theorem dX12_set_17 : decode cX12_set 17 = .ok (.iconst 0, 1) := by decide +kernel
theorem dX12_set_18 : decode cX12_set 18 = .ok (.iload_n 2, 1) := by decide +kernel
theorem dX12_set_19 : decode cX12_set 19 = .ok (.invokevirtual 48, 3) := by decide +kernel
theorem dX12_set_22 : decode cX12_set 22 = .ok (.goto 30, 3) := by decide +kernel
theorem dX12_set_25 : decode cX12_set 25 = .ok (.aload_n 0, 1) := by decide +kernel
theorem dX12_set_26 : decode cX12_set 26 = .ok (.iload_n 1, 1) := by decide +kernel
theorem dX12_set_27 : decode cX12_set 27 = .ok (.iload_n 2, 1) := by decide +kernel
theorem dX12_set_28 : decode cX12_set 28 = .ok (.invokevirtual 52, 3) := by decide +kernel
theorem dX12_set_31 : decode cX12_set 31 = .ok (.aload_n 0, 1) := by decide +kernel
theorem dX12_set_32 : decode cX12_set 32 = .ok (.dup, 1) := by decide +kernel
theorem dX12_set_33 : decode cX12_set 33 = .ok (.getfield 24, 3) := by decide +kernel
theorem dX12_set_36 : decode cX12_set 36 = .ok (.iload_n 2, 1) := by decide +kernel
theorem dX12_set_37 : decode cX12_set 37 = .ok (.bipush 20, 2) := by decide +kernel
theorem dX12_set_39 : decode cX12_set 39 = .ok (.ishl, 1) := by decide +kernel
theorem dX12_set_40 : decode cX12_set 40 = .ok (.ifCond .ne 7, 3) := by decide +kernel
theorem dX12_set_43 : decode cX12_set 43 = .ok (.iconst 1, 1) := by decide +kernel
theorem dX12_set_44 : decode cX12_set 44 = .ok (.goto 4, 3) := by decide +kernel
theorem dX12_set_47 : decode cX12_set 47 = .ok (.iconst 0, 1) := by decide +kernel
theorem dX12_set_48 : decode cX12_set 48 = .ok (.isub, 1) := by decide +kernel
theorem dX12_set_49 : decode cX12_set 49 = .ok (.putfield 24, 3) := by decide +kernel
theorem dX12_set_52 : decode cX12_set 52 = .ok (.return_, 1) := by decide +kernel
theorem dX12_number_0 : decode cX12_number 0 = .ok (.aload_n 0, 1) := by decide +kernel
theorem dX12_number_1 : decode cX12_number 1 = .ok (.iload 4, 2) := by decide +kernel
theorem dX12_number_3 : decode cX12_number 3 = .ok (.sipush 4095, 3) := by decide +kernel
theorem dX12_number_6 : decode cX12_number 6 = .ok (.iand, 1) := by decide +kernel
theorem dX12_number_7 : decode cX12_number 7 = .ok (.bipush 20, 2) := by decide +kernel
theorem dX12_number_9 : decode cX12_number 9 = .ok (.ishl, 1) := by decide +kernel
theorem dX12_number_10 : decode cX12_number 10 = .ok (.iload_n 3, 1) := by decide +kernel
theorem dX12_number_11 : decode cX12_number 11 = .ok (.bipush 15, 2) := by decide +kernel
theorem dX12_number_13 : decode cX12_number 13 = .ok (.ishl, 1) := by decide +kernel
theorem dX12_number_14 : decode cX12_number 14 = .ok (.ior, 1) := by decide +kernel
theorem dX12_number_15 : decode cX12_number 15 = .ok (.iload_n 1, 1) := by decide +kernel
theorem dX12_number_16 : decode cX12_number 16 = .ok (.bipush 12, 2) := by decide +kernel
theorem dX12_number_18 : decode cX12_number 18 = .ok (.ishl, 1) := by decide +kernel
theorem dX12_number_19 : decode cX12_number 19 = .ok (.ior, 1) := by decide +kernel
theorem dX12_number_20 : decode cX12_number 20 = .ok (.iload_n 2, 1) := by decide +kernel
theorem dX12_number_21 : decode cX12_number 21 = .ok (.bipush 7, 2) := by decide +kernel
theorem dX12_number_23 : decode cX12_number 23 = .ok (.ishl, 1) := by decide +kernel
theorem dX12_number_24 : decode cX12_number 24 = .ok (.ior, 1) := by decide +kernel
theorem dX12_number_25 : decode cX12_number 25 = .ok (.bipush 19, 2) := by decide +kernel
theorem dX12_number_27 : decode cX12_number 27 = .ok (.ior, 1) := by decide +kernel
theorem dX12_number_28 : decode cX12_number 28 = .ok (.invokevirtual 44, 3) := by decide +kernel
theorem dX12_number_31 : decode cX12_number 31 = .ok (.return_, 1) := by decide +kernel
theorem dX12_setLong_0 : decode cX12_setLong 0 = .ok (.aload_n 0, 1) := by decide +kernel
theorem dX12_setLong_1 : decode cX12_setLong 1 = .ok (.iload_n 2, 1) := by decide +kernel
theorem dX12_setLong_2 : decode cX12_setLong 2 = .ok (.invokestatic 56, 3) := by decide +kernel
theorem dX12_setLong_5 : decode cX12_setLong 5 = .ok (.iload_n 1, 1) := by decide +kernel
theorem dX12_setLong_6 : decode cX12_setLong 6 = .ok (.bipush 7, 2) := by decide +kernel
theorem dX12_setLong_8 : decode cX12_setLong 8 = .ok (.ishl, 1) := by decide +kernel
theorem dX12_setLong_9 : decode cX12_setLong 9 = .ok (.ior, 1) := by decide +kernel
theorem dX12_setLong_10 : decode cX12_setLong 10 = .ok (.bipush 55, 2) := by decide +kernel
theorem dX12_setLong_12 : decode cX12_setLong 12 = .ok (.ior, 1) := by decide +kernel
theorem dX12_setLong_13 : decode cX12_setLong 13 = .ok (.invokevirtual 44, 3) := by decide +kernel
theorem dX12_setLong_16 : decode cX12_setLong 16 = .ok (.aload_n 0, 1) := by decide +kernel
theorem dX12_setLong_17 : decode cX12_setLong 17 = .ok (.iconst 0, 1) := by decide +kernel
theorem dX12_setLong_18 : decode cX12_setLong 18 = .ok (.iload_n 1, 1) := by decide +kernel
theorem dX12_setLong_19 : decode cX12_setLong 19 = .ok (.iload_n 1, 1) := by decide +kernel
theorem dX12_setLong_20 : decode cX12_setLong 20 = .ok (.iload_n 2, 1) := by decide +kernel
theorem dX12_setLong_21 : decode cX12_setLong 21 = .ok (.bipush 20, 2) := by decide +kernel
theorem dX12_setLong_23 : decode cX12_setLong 23 = .ok (.ishl, 1) := by decide +kernel
theorem dX12_setLong_24 : decode cX12_setLong 24 = .ok (.bipush 20, 2) := by decide +kernel
theorem dX12_setLong_26 : decode cX12_setLong 26 = .ok (.ishr, 1) := by decide +kernel
theorem dX12_setLong_27 : decode cX12_setLong 27 = .ok (.invokevirtual 48, 3) := by decide +kernel
theorem dX12_setLong_30 : decode cX12_setLong 30 = .ok (.return_, 1) := by decide +kernel
theorem dX12_upper_0 : decode cX12_upper 0 = .ok (.iload_n 0, 1) := by decide +kernel
theorem dX12_upper_1 : decode cX12_upper 1 = .ok (.iload_n 0, 1) := by decide +kernel
theorem dX12_upper_2 : decode cX12_upper 2 = .ok (.bipush 20, 2) := by decide +kernel
theorem dX12_upper_4 : decode cX12_upper 4 = .ok (.ishl, 1) := by decide +kernel
theorem dX12_upper_5 : decode cX12_upper 5 = .ok (.bipush 20, 2) := by decide +kernel
theorem dX12_upper_7 : decode cX12_upper 7 = .ok (.ishr, 1) := by decide +kernel
theorem dX12_upper_8 : decode cX12_upper 8 = .ok (.isub, 1) := by decide +kernel
theorem dX12_upper_9 : decode cX12_upper 9 = .ok (.ireturn, 1) := by decide +kernel
theorem dX12_call_0 : decode cX12_call 0 = .ok (.aload_n 0, 1) := by decide +kernel
theorem dX12_call_1 : decode cX12_call 1 = .ok (.bipush 115, 2) := by decide +kernel
theorem dX12_call_3 : decode cX12_call 3 = .ok (.invokevirtual 44, 3) := by decide +kernel
theorem dX12_call_6 : decode cX12_call 6 = .ok (.return_, 1) := by decide +kernel
theorem dX12_here_0 : decode cX12_here 0 = .ok (.aload_n 0, 1) := by decide +kernel
theorem dX12_here_1 : decode cX12_here 1 = .ok (.getfield 15, 3) := by decide +kernel
theorem dX12_here_4 : decode cX12_here 4 = .ok (.iload_n 1, 1) := by decide +kernel
theorem dX12_here_5 : decode cX12_here 5 = .ok (.aload_n 0, 1) := by decide +kernel
theorem dX12_here_6 : decode cX12_here 6 = .ok (.getfield 24, 3) := by decide +kernel
theorem dX12_here_9 : decode cX12_here 9 = .ok (.iastore, 1) := by decide +kernel
theorem dX12_here_10 : decode cX12_here 10 = .ok (.return_, 1) := by decide +kernel
theorem dX12_branch_0 : decode cX12_branch 0 = .ok (.aload_n 0, 1) := by decide +kernel
theorem dX12_branch_1 : decode cX12_branch 1 = .ok (.iload_n 3, 1) := by decide +kernel
theorem dX12_branch_2 : decode cX12_branch 2 = .ok (.bipush 20, 2) := by decide +kernel
theorem dX12_branch_4 : decode cX12_branch 4 = .ok (.ishl, 1) := by decide +kernel
theorem dX12_branch_5 : decode cX12_branch 5 = .ok (.iload_n 2, 1) := by decide +kernel
theorem dX12_branch_6 : decode cX12_branch 6 = .ok (.bipush 15, 2) := by decide +kernel
theorem dX12_branch_8 : decode cX12_branch 8 = .ok (.ishl, 1) := by decide +kernel
theorem dX12_branch_9 : decode cX12_branch 9 = .ok (.ior, 1) := by decide +kernel
theorem dX12_branch_10 : decode cX12_branch 10 = .ok (.iload_n 1, 1) := by decide +kernel
theorem dX12_branch_11 : decode cX12_branch 11 = .ok (.iconst 1, 1) := by decide +kernel
theorem dX12_branch_12 : decode cX12_branch 12 = .ok (.ixor, 1) := by decide +kernel
theorem dX12_branch_13 : decode cX12_branch 13 = .ok (.bipush 12, 2) := by decide +kernel
theorem dX12_branch_15 : decode cX12_branch 15 = .ok (.ishl, 1) := by decide +kernel
theorem dX12_branch_16 : decode cX12_branch 16 = .ok (.ior, 1) := by decide +kernel
theorem dX12_branch_17 : decode cX12_branch 17 = .ok (.sipush 1024, 3) := by decide +kernel
theorem dX12_branch_20 : decode cX12_branch 20 = .ok (.ior, 1) := by decide +kernel
theorem dX12_branch_21 : decode cX12_branch 21 = .ok (.bipush 99, 2) := by decide +kernel
theorem dX12_branch_23 : decode cX12_branch 23 = .ok (.ior, 1) := by decide +kernel
theorem dX12_branch_24 : decode cX12_branch 24 = .ok (.invokevirtual 44, 3) := by decide +kernel
theorem dX12_branch_27 : decode cX12_branch 27 = .ok (.aload_n 0, 1) := by decide +kernel
theorem dX12_branch_28 : decode cX12_branch 28 = .ok (.iconst 0, 1) := by decide +kernel
theorem dX12_branch_29 : decode cX12_branch 29 = .ok (.iload 4, 2) := by decide +kernel
theorem dX12_branch_31 : decode cX12_branch 31 = .ok (.invokevirtual 76, 3) := by decide +kernel
theorem dX12_branch_34 : decode cX12_branch 34 = .ok (.return_, 1) := by decide +kernel
theorem dX12_add_0 : decode cX12_add 0 = .ok (.iload_n 3, 1) := by decide +kernel
theorem dX12_add_1 : decode cX12_add 1 = .ok (.sipush (-2048), 3) := by decide +kernel
theorem dX12_add_4 : decode cX12_add 4 = .ok (.if_icmp .lt 21, 3) := by decide +kernel
theorem dX12_add_7 : decode cX12_add 7 = .ok (.iload_n 3, 1) := by decide +kernel
theorem dX12_add_8 : decode cX12_add 8 = .ok (.sipush 2048, 3) := by decide +kernel
theorem dX12_add_11 : decode cX12_add 11 = .ok (.if_icmp .ge 14, 3) := by decide +kernel
theorem dX12_add_14 : decode cX12_add 14 = .ok (.aload_n 0, 1) := by decide +kernel
theorem dX12_add_15 : decode cX12_add 15 = .ok (.iconst 0, 1) := by decide +kernel
theorem dX12_add_16 : decode cX12_add 16 = .ok (.iload_n 1, 1) := by decide +kernel
theorem dX12_add_17 : decode cX12_add 17 = .ok (.iload_n 2, 1) := by decide +kernel
theorem dX12_add_18 : decode cX12_add 18 = .ok (.iload_n 3, 1) := by decide +kernel
theorem dX12_add_19 : decode cX12_add 19 = .ok (.invokevirtual 48, 3) := by decide +kernel
theorem dX12_add_22 : decode cX12_add 22 = .ok (.goto 20, 3) := by decide +kernel
theorem dX12_add_25 : decode cX12_add 25 = .ok (.aload_n 0, 1) := by decide +kernel
theorem dX12_add_26 : decode cX12_add 26 = .ok (.iload 4, 2) := by decide +kernel
theorem dX12_add_28 : decode cX12_add 28 = .ok (.iload_n 3, 1) := by decide +kernel
theorem dX12_add_29 : decode cX12_add 29 = .ok (.invokevirtual 60, 3) := by decide +kernel
theorem dX12_add_32 : decode cX12_add 32 = .ok (.aload_n 0, 1) := by decide +kernel
theorem dX12_add_33 : decode cX12_add 33 = .ok (.iconst 0, 1) := by decide +kernel
theorem dX12_add_34 : decode cX12_add 34 = .ok (.iconst 0, 1) := by decide +kernel
theorem dX12_add_35 : decode cX12_add 35 = .ok (.iload_n 1, 1) := by decide +kernel
theorem dX12_add_36 : decode cX12_add 36 = .ok (.iload_n 2, 1) := by decide +kernel
theorem dX12_add_37 : decode cX12_add 37 = .ok (.iload 4, 2) := by decide +kernel
theorem dX12_add_39 : decode cX12_add 39 = .ok (.invokevirtual 63, 3) := by decide +kernel
theorem dX12_add_42 : decode cX12_add 42 = .ok (.return_, 1) := by decide +kernel
theorem dX12_both_0 : decode cX12_both 0 = .ok (.aload_n 0, 1) := by decide +kernel
theorem dX12_both_1 : decode cX12_both 1 = .ok (.iload_n 2, 1) := by decide +kernel
theorem dX12_both_2 : decode cX12_both 2 = .ok (.bipush 25, 2) := by decide +kernel
theorem dX12_both_4 : decode cX12_both 4 = .ok (.ishl, 1) := by decide +kernel
theorem dX12_both_5 : decode cX12_both 5 = .ok (.iload 5, 2) := by decide +kernel
theorem dX12_both_7 : decode cX12_both 7 = .ok (.bipush 20, 2) := by decide +kernel
theorem dX12_both_9 : decode cX12_both 9 = .ok (.ishl, 1) := by decide +kernel
theorem dX12_both_10 : decode cX12_both 10 = .ok (.ior, 1) := by decide +kernel
theorem dX12_both_11 : decode cX12_both 11 = .ok (.iload 4, 2) := by decide +kernel
theorem dX12_both_13 : decode cX12_both 13 = .ok (.bipush 15, 2) := by decide +kernel
theorem dX12_both_15 : decode cX12_both 15 = .ok (.ishl, 1) := by decide +kernel
theorem dX12_both_16 : decode cX12_both 16 = .ok (.ior, 1) := by decide +kernel
theorem dX12_both_17 : decode cX12_both 17 = .ok (.iload_n 1, 1) := by decide +kernel
theorem dX12_both_18 : decode cX12_both 18 = .ok (.bipush 12, 2) := by decide +kernel
theorem dX12_both_20 : decode cX12_both 20 = .ok (.ishl, 1) := by decide +kernel
theorem dX12_both_21 : decode cX12_both 21 = .ok (.ior, 1) := by decide +kernel
theorem dX12_both_22 : decode cX12_both 22 = .ok (.iload_n 3, 1) := by decide +kernel
theorem dX12_both_23 : decode cX12_both 23 = .ok (.bipush 7, 2) := by decide +kernel
theorem dX12_both_25 : decode cX12_both 25 = .ok (.ishl, 1) := by decide +kernel
theorem dX12_both_26 : decode cX12_both 26 = .ok (.ior, 1) := by decide +kernel
theorem dX12_both_27 : decode cX12_both 27 = .ok (.bipush 51, 2) := by decide +kernel
theorem dX12_both_29 : decode cX12_both 29 = .ok (.ior, 1) := by decide +kernel
theorem dX12_both_30 : decode cX12_both 30 = .ok (.invokevirtual 44, 3) := by decide +kernel
theorem dX12_both_33 : decode cX12_both 33 = .ok (.return_, 1) := by decide +kernel
theorem dX12_move_0 : decode cX12_move 0 = .ok (.iload_n 1, 1) := by decide +kernel
theorem dX12_move_1 : decode cX12_move 1 = .ok (.iload_n 2, 1) := by decide +kernel
theorem dX12_move_2 : decode cX12_move 2 = .ok (.if_icmp .eq 11, 3) := by decide +kernel
theorem dX12_move_5 : decode cX12_move 5 = .ok (.aload_n 0, 1) := by decide +kernel
theorem dX12_move_6 : decode cX12_move 6 = .ok (.iconst 0, 1) := by decide +kernel
theorem dX12_move_7 : decode cX12_move 7 = .ok (.iload_n 1, 1) := by decide +kernel
theorem dX12_move_8 : decode cX12_move 8 = .ok (.iload_n 2, 1) := by decide +kernel
theorem dX12_move_9 : decode cX12_move 9 = .ok (.iconst 0, 1) := by decide +kernel
theorem dX12_move_10 : decode cX12_move 10 = .ok (.invokevirtual 48, 3) := by decide +kernel
theorem dX12_move_13 : decode cX12_move 13 = .ok (.return_, 1) := by decide +kernel
theorem dX12_hole_0 : decode cX12_hole 0 = .ok (.aload_n 0, 1) := by decide +kernel
theorem dX12_hole_1 : decode cX12_hole 1 = .ok (.getfield 24, 3) := by decide +kernel
theorem dX12_hole_4 : decode cX12_hole 4 = .ok (.istore_n 2, 1) := by decide +kernel
theorem dX12_hole_5 : decode cX12_hole 5 = .ok (.aload_n 0, 1) := by decide +kernel
theorem dX12_hole_6 : decode cX12_hole 6 = .ok (.iload_n 1, 1) := by decide +kernel
theorem dX12_hole_7 : decode cX12_hole 7 = .ok (.iconst 0, 1) := by decide +kernel
theorem dX12_hole_8 : decode cX12_hole 8 = .ok (.invokevirtual 52, 3) := by decide +kernel
theorem dX12_hole_11 : decode cX12_hole 11 = .ok (.iload_n 2, 1) := by decide +kernel
theorem dX12_hole_12 : decode cX12_hole 12 = .ok (.ireturn, 1) := by decide +kernel
theorem dX12_storeAt_0 : decode cX12_storeAt 0 = .ok (.iload_n 3, 1) := by decide +kernel
theorem dX12_storeAt_1 : decode cX12_storeAt 1 = .ok (.sipush (-2048), 3) := by decide +kernel
theorem dX12_storeAt_4 : decode cX12_storeAt 4 = .ok (.if_icmp .lt 21, 3) := by decide +kernel
theorem dX12_storeAt_7 : decode cX12_storeAt 7 = .ok (.iload_n 3, 1) := by decide +kernel
theorem dX12_storeAt_8 : decode cX12_storeAt 8 = .ok (.sipush 2048, 3) := by decide +kernel
theorem dX12_storeAt_11 : decode cX12_storeAt 11 = .ok (.if_icmp .ge 14, 3) := by decide +kernel
theorem dX12_storeAt_14 : decode cX12_storeAt 14 = .ok (.aload_n 0, 1) := by decide +kernel
theorem dX12_storeAt_15 : decode cX12_storeAt 15 = .ok (.iconst 2, 1) := by decide +kernel
theorem dX12_storeAt_16 : decode cX12_storeAt 16 = .ok (.iload_n 2, 1) := by decide +kernel
theorem dX12_storeAt_17 : decode cX12_storeAt 17 = .ok (.iload_n 1, 1) := by decide +kernel
theorem dX12_storeAt_18 : decode cX12_storeAt 18 = .ok (.iload_n 3, 1) := by decide +kernel
theorem dX12_storeAt_19 : decode cX12_storeAt 19 = .ok (.invokevirtual 73, 3) := by decide +kernel
theorem dX12_storeAt_22 : decode cX12_storeAt 22 = .ok (.goto 22, 3) := by decide +kernel
theorem dX12_storeAt_25 : decode cX12_storeAt 25 = .ok (.aload_n 0, 1) := by decide +kernel
theorem dX12_storeAt_26 : decode cX12_storeAt 26 = .ok (.iload 4, 2) := by decide +kernel
theorem dX12_storeAt_28 : decode cX12_storeAt 28 = .ok (.iload_n 2, 1) := by decide +kernel
theorem dX12_storeAt_29 : decode cX12_storeAt 29 = .ok (.iload_n 3, 1) := by decide +kernel
theorem dX12_storeAt_30 : decode cX12_storeAt 30 = .ok (.iload 4, 2) := by decide +kernel
theorem dX12_storeAt_32 : decode cX12_storeAt 32 = .ok (.invokevirtual 70, 3) := by decide +kernel
theorem dX12_storeAt_35 : decode cX12_storeAt 35 = .ok (.aload_n 0, 1) := by decide +kernel
theorem dX12_storeAt_36 : decode cX12_storeAt 36 = .ok (.iconst 2, 1) := by decide +kernel
theorem dX12_storeAt_37 : decode cX12_storeAt 37 = .ok (.iload 4, 2) := by decide +kernel
theorem dX12_storeAt_39 : decode cX12_storeAt 39 = .ok (.iload_n 1, 1) := by decide +kernel
theorem dX12_storeAt_40 : decode cX12_storeAt 40 = .ok (.iconst 0, 1) := by decide +kernel
theorem dX12_storeAt_41 : decode cX12_storeAt 41 = .ok (.invokevirtual 73, 3) := by decide +kernel
theorem dX12_storeAt_44 : decode cX12_storeAt 44 = .ok (.return_, 1) := by decide +kernel
theorem dX12_loadAt_0 : decode cX12_loadAt 0 = .ok (.iload_n 3, 1) := by decide +kernel
theorem dX12_loadAt_1 : decode cX12_loadAt 1 = .ok (.sipush (-2048), 3) := by decide +kernel
theorem dX12_loadAt_4 : decode cX12_loadAt 4 = .ok (.if_icmp .lt 21, 3) := by decide +kernel
theorem dX12_loadAt_7 : decode cX12_loadAt 7 = .ok (.iload_n 3, 1) := by decide +kernel
theorem dX12_loadAt_8 : decode cX12_loadAt 8 = .ok (.sipush 2048, 3) := by decide +kernel
theorem dX12_loadAt_11 : decode cX12_loadAt 11 = .ok (.if_icmp .ge 14, 3) := by decide +kernel
theorem dX12_loadAt_14 : decode cX12_loadAt 14 = .ok (.aload_n 0, 1) := by decide +kernel
theorem dX12_loadAt_15 : decode cX12_loadAt 15 = .ok (.iconst 2, 1) := by decide +kernel
theorem dX12_loadAt_16 : decode cX12_loadAt 16 = .ok (.iload_n 1, 1) := by decide +kernel
theorem dX12_loadAt_17 : decode cX12_loadAt 17 = .ok (.iload_n 2, 1) := by decide +kernel
theorem dX12_loadAt_18 : decode cX12_loadAt 18 = .ok (.iload_n 3, 1) := by decide +kernel
theorem dX12_loadAt_19 : decode cX12_loadAt 19 = .ok (.invokevirtual 67, 3) := by decide +kernel
theorem dX12_loadAt_22 : decode cX12_loadAt 22 = .ok (.goto 22, 3) := by decide +kernel
theorem dX12_loadAt_25 : decode cX12_loadAt 25 = .ok (.aload_n 0, 1) := by decide +kernel
theorem dX12_loadAt_26 : decode cX12_loadAt 26 = .ok (.iload 4, 2) := by decide +kernel
theorem dX12_loadAt_28 : decode cX12_loadAt 28 = .ok (.iload_n 2, 1) := by decide +kernel
theorem dX12_loadAt_29 : decode cX12_loadAt 29 = .ok (.iload_n 3, 1) := by decide +kernel
theorem dX12_loadAt_30 : decode cX12_loadAt 30 = .ok (.iload 4, 2) := by decide +kernel
theorem dX12_loadAt_32 : decode cX12_loadAt 32 = .ok (.invokevirtual 70, 3) := by decide +kernel
theorem dX12_loadAt_35 : decode cX12_loadAt 35 = .ok (.aload_n 0, 1) := by decide +kernel
theorem dX12_loadAt_36 : decode cX12_loadAt 36 = .ok (.iconst 2, 1) := by decide +kernel
theorem dX12_loadAt_37 : decode cX12_loadAt 37 = .ok (.iload_n 1, 1) := by decide +kernel
theorem dX12_loadAt_38 : decode cX12_loadAt 38 = .ok (.iload 4, 2) := by decide +kernel
theorem dX12_loadAt_40 : decode cX12_loadAt 40 = .ok (.iconst 0, 1) := by decide +kernel
theorem dX12_loadAt_41 : decode cX12_loadAt 41 = .ok (.invokevirtual 67, 3) := by decide +kernel
theorem dX12_loadAt_44 : decode cX12_loadAt 44 = .ok (.return_, 1) := by decide +kernel
theorem dX12_load_0 : decode cX12_load 0 = .ok (.aload_n 0, 1) := by decide +kernel
theorem dX12_load_1 : decode cX12_load 1 = .ok (.iload 4, 2) := by decide +kernel
theorem dX12_load_3 : decode cX12_load 3 = .ok (.sipush 4095, 3) := by decide +kernel
theorem dX12_load_6 : decode cX12_load 6 = .ok (.iand, 1) := by decide +kernel
theorem dX12_load_7 : decode cX12_load 7 = .ok (.bipush 20, 2) := by decide +kernel
theorem dX12_load_9 : decode cX12_load 9 = .ok (.ishl, 1) := by decide +kernel
theorem dX12_load_10 : decode cX12_load 10 = .ok (.iload_n 3, 1) := by decide +kernel
theorem dX12_load_11 : decode cX12_load 11 = .ok (.bipush 15, 2) := by decide +kernel
theorem dX12_load_13 : decode cX12_load 13 = .ok (.ishl, 1) := by decide +kernel
theorem dX12_load_14 : decode cX12_load 14 = .ok (.ior, 1) := by decide +kernel
theorem dX12_load_15 : decode cX12_load 15 = .ok (.iload_n 1, 1) := by decide +kernel
theorem dX12_load_16 : decode cX12_load 16 = .ok (.bipush 12, 2) := by decide +kernel
theorem dX12_load_18 : decode cX12_load 18 = .ok (.ishl, 1) := by decide +kernel
theorem dX12_load_19 : decode cX12_load 19 = .ok (.ior, 1) := by decide +kernel
theorem dX12_load_20 : decode cX12_load 20 = .ok (.iload_n 2, 1) := by decide +kernel
theorem dX12_load_21 : decode cX12_load 21 = .ok (.bipush 7, 2) := by decide +kernel
theorem dX12_load_23 : decode cX12_load 23 = .ok (.ishl, 1) := by decide +kernel
theorem dX12_load_24 : decode cX12_load 24 = .ok (.ior, 1) := by decide +kernel
theorem dX12_load_25 : decode cX12_load 25 = .ok (.iconst 3, 1) := by decide +kernel
theorem dX12_load_26 : decode cX12_load 26 = .ok (.ior, 1) := by decide +kernel
theorem dX12_load_27 : decode cX12_load 27 = .ok (.invokevirtual 44, 3) := by decide +kernel
theorem dX12_load_30 : decode cX12_load 30 = .ok (.return_, 1) := by decide +kernel
theorem dX12_control_0 : decode cX12_control 0 = .ok (.aload_n 0, 1) := by decide +kernel
theorem dX12_control_1 : decode cX12_control 1 = .ok (.iload 4, 2) := by decide +kernel
theorem dX12_control_3 : decode cX12_control 3 = .ok (.bipush 20, 2) := by decide +kernel
theorem dX12_control_5 : decode cX12_control 5 = .ok (.ishl, 1) := by decide +kernel
theorem dX12_control_6 : decode cX12_control 6 = .ok (.iload_n 3, 1) := by decide +kernel
theorem dX12_control_7 : decode cX12_control 7 = .ok (.bipush 15, 2) := by decide +kernel
theorem dX12_control_9 : decode cX12_control 9 = .ok (.ishl, 1) := by decide +kernel
theorem dX12_control_10 : decode cX12_control 10 = .ok (.ior, 1) := by decide +kernel
theorem dX12_control_11 : decode cX12_control 11 = .ok (.iload_n 1, 1) := by decide +kernel
theorem dX12_control_12 : decode cX12_control 12 = .ok (.bipush 12, 2) := by decide +kernel
theorem dX12_control_14 : decode cX12_control 14 = .ok (.ishl, 1) := by decide +kernel
theorem dX12_control_15 : decode cX12_control 15 = .ok (.ior, 1) := by decide +kernel
theorem dX12_control_16 : decode cX12_control 16 = .ok (.iload_n 2, 1) := by decide +kernel
theorem dX12_control_17 : decode cX12_control 17 = .ok (.bipush 7, 2) := by decide +kernel
theorem dX12_control_19 : decode cX12_control 19 = .ok (.ishl, 1) := by decide +kernel
theorem dX12_control_20 : decode cX12_control 20 = .ok (.ior, 1) := by decide +kernel
theorem dX12_control_21 : decode cX12_control 21 = .ok (.bipush 115, 2) := by decide +kernel
theorem dX12_control_23 : decode cX12_control 23 = .ok (.ior, 1) := by decide +kernel
theorem dX12_control_24 : decode cX12_control 24 = .ok (.invokevirtual 44, 3) := by decide +kernel
theorem dX12_control_27 : decode cX12_control 27 = .ok (.return_, 1) := by decide +kernel
theorem dX12_fill_0 : decode cX12_fill 0 = .ok (.aload_n 0, 1) := by decide +kernel
theorem dX12_fill_1 : decode cX12_fill 1 = .ok (.getfield 24, 3) := by decide +kernel
theorem dX12_fill_4 : decode cX12_fill 4 = .ok (.istore 4, 2) := by decide +kernel
theorem dX12_fill_6 : decode cX12_fill 6 = .ok (.aload_n 0, 1) := by decide +kernel
theorem dX12_fill_7 : decode cX12_fill 7 = .ok (.iload_n 1, 1) := by decide +kernel
theorem dX12_fill_8 : decode cX12_fill 8 = .ok (.putfield 24, 3) := by decide +kernel
theorem dX12_fill_11 : decode cX12_fill 11 = .ok (.aload_n 0, 1) := by decide +kernel
theorem dX12_fill_12 : decode cX12_fill 12 = .ok (.iload_n 2, 1) := by decide +kernel
theorem dX12_fill_13 : decode cX12_fill 13 = .ok (.iload_n 3, 1) := by decide +kernel
theorem dX12_fill_14 : decode cX12_fill 14 = .ok (.invokevirtual 52, 3) := by decide +kernel
theorem dX12_fill_17 : decode cX12_fill 17 = .ok (.aload_n 0, 1) := by decide +kernel
theorem dX12_fill_18 : decode cX12_fill 18 = .ok (.iload 4, 2) := by decide +kernel
theorem dX12_fill_20 : decode cX12_fill 20 = .ok (.putfield 24, 3) := by decide +kernel
theorem dX12_fill_23 : decode cX12_fill 23 = .ok (.return_, 1) := by decide +kernel
theorem dX12_finish_0 : decode cX12_finish 0 = .ok (.iconst 0, 1) := by decide +kernel
theorem dX12_finish_1 : decode cX12_finish 1 = .ok (.istore_n 1, 1) := by decide +kernel
theorem dX12_finish_2 : decode cX12_finish 2 = .ok (.iload_n 1, 1) := by decide +kernel
theorem dX12_finish_3 : decode cX12_finish 3 = .ok (.aload_n 0, 1) := by decide +kernel
theorem dX12_finish_4 : decode cX12_finish 4 = .ok (.getfield 31, 3) := by decide +kernel
theorem dX12_finish_7 : decode cX12_finish 7 = .ok (.if_icmp .ge 86, 3) := by decide +kernel
theorem dX12_finish_10 : decode cX12_finish 10 = .ok (.iconst 4, 1) := by decide +kernel
theorem dX12_finish_11 : decode cX12_finish 11 = .ok (.aload_n 0, 1) := by decide +kernel
theorem dX12_finish_12 : decode cX12_finish 12 = .ok (.getfield 15, 3) := by decide +kernel
theorem dX12_finish_15 : decode cX12_finish 15 = .ok (.aload_n 0, 1) := by decide +kernel
theorem dX12_finish_16 : decode cX12_finish 16 = .ok (.getfield 21, 3) := by decide +kernel
theorem dX12_finish_19 : decode cX12_finish 19 = .ok (.iload_n 1, 1) := by decide +kernel
theorem dX12_finish_20 : decode cX12_finish 20 = .ok (.iaload, 1) := by decide +kernel
theorem dX12_finish_21 : decode cX12_finish 21 = .ok (.iaload, 1) := by decide +kernel
theorem dX12_finish_22 : decode cX12_finish 22 = .ok (.aload_n 0, 1) := by decide +kernel
theorem dX12_finish_23 : decode cX12_finish 23 = .ok (.getfield 18, 3) := by decide +kernel
theorem dX12_finish_26 : decode cX12_finish 26 = .ok (.iload_n 1, 1) := by decide +kernel
theorem dX12_finish_27 : decode cX12_finish 27 = .ok (.iaload, 1) := by decide +kernel
theorem dX12_finish_28 : decode cX12_finish 28 = .ok (.isub, 1) := by decide +kernel
theorem dX12_finish_29 : decode cX12_finish 29 = .ok (.imul, 1) := by decide +kernel
theorem dX12_finish_30 : decode cX12_finish 30 = .ok (.istore_n 2, 1) := by decide +kernel
theorem dX12_finish_31 : decode cX12_finish 31 = .ok (.aload_n 0, 1) := by decide +kernel
theorem dX12_finish_32 : decode cX12_finish 32 = .ok (.getfield 9, 3) := by decide +kernel
theorem dX12_finish_35 : decode cX12_finish 35 = .ok (.aload_n 0, 1) := by decide +kernel
theorem dX12_finish_36 : decode cX12_finish 36 = .ok (.getfield 18, 3) := by decide +kernel
theorem dX12_finish_39 : decode cX12_finish 39 = .ok (.iload_n 1, 1) := by decide +kernel
theorem dX12_finish_40 : decode cX12_finish 40 = .ok (.iaload, 1) := by decide +kernel
theorem dX12_finish_41 : decode cX12_finish 41 = .ok (.dup2, 1) := by decide +kernel
theorem dX12_finish_42 : decode cX12_finish 42 = .ok (.iaload, 1) := by decide +kernel
theorem dX12_finish_43 : decode cX12_finish 43 = .ok (.iload_n 2, 1) := by decide +kernel
theorem dX12_finish_44 : decode cX12_finish 44 = .ok (.bipush 20, 2) := by decide +kernel
theorem dX12_finish_46 : decode cX12_finish 46 = .ok (.ishr, 1) := by decide +kernel
theorem dX12_finish_47 : decode cX12_finish 47 = .ok (.iconst 1, 1) := by decide +kernel
theorem dX12_finish_48 : decode cX12_finish 48 = .ok (.iand, 1) := by decide +kernel
theorem dX12_finish_49 : decode cX12_finish 49 = .ok (.bipush 31, 2) := by decide +kernel
theorem dX12_finish_51 : decode cX12_finish 51 = .ok (.ishl, 1) := by decide +kernel
theorem dX12_finish_52 : decode cX12_finish 52 = .ok (.iload_n 2, 1) := by decide +kernel
theorem dX12_finish_53 : decode cX12_finish 53 = .ok (.iconst 1, 1) := by decide +kernel
theorem dX12_finish_54 : decode cX12_finish 54 = .ok (.ishr, 1) := by decide +kernel
theorem dX12_finish_55 : decode cX12_finish 55 = .ok (.sipush 1023, 3) := by decide +kernel
theorem dX12_finish_58 : decode cX12_finish 58 = .ok (.iand, 1) := by decide +kernel
theorem dX12_finish_59 : decode cX12_finish 59 = .ok (.bipush 21, 2) := by decide +kernel
theorem dX12_finish_61 : decode cX12_finish 61 = .ok (.ishl, 1) := by decide +kernel
theorem dX12_finish_62 : decode cX12_finish 62 = .ok (.ior, 1) := by decide +kernel
theorem dX12_finish_63 : decode cX12_finish 63 = .ok (.iload_n 2, 1) := by decide +kernel
theorem dX12_finish_64 : decode cX12_finish 64 = .ok (.bipush 11, 2) := by decide +kernel
theorem dX12_finish_66 : decode cX12_finish 66 = .ok (.ishr, 1) := by decide +kernel
theorem dX12_finish_67 : decode cX12_finish 67 = .ok (.iconst 1, 1) := by decide +kernel
theorem dX12_finish_68 : decode cX12_finish 68 = .ok (.iand, 1) := by decide +kernel
theorem dX12_finish_69 : decode cX12_finish 69 = .ok (.bipush 20, 2) := by decide +kernel
theorem dX12_finish_71 : decode cX12_finish 71 = .ok (.ishl, 1) := by decide +kernel
theorem dX12_finish_72 : decode cX12_finish 72 = .ok (.ior, 1) := by decide +kernel
theorem dX12_finish_73 : decode cX12_finish 73 = .ok (.iload_n 2, 1) := by decide +kernel
theorem dX12_finish_74 : decode cX12_finish 74 = .ok (.bipush 12, 2) := by decide +kernel
theorem dX12_finish_76 : decode cX12_finish 76 = .ok (.ishr, 1) := by decide +kernel
theorem dX12_finish_77 : decode cX12_finish 77 = .ok (.sipush 255, 3) := by decide +kernel
theorem dX12_finish_80 : decode cX12_finish 80 = .ok (.iand, 1) := by decide +kernel
theorem dX12_finish_81 : decode cX12_finish 81 = .ok (.bipush 12, 2) := by decide +kernel
theorem dX12_finish_83 : decode cX12_finish 83 = .ok (.ishl, 1) := by decide +kernel
theorem dX12_finish_84 : decode cX12_finish 84 = .ok (.ior, 1) := by decide +kernel
theorem dX12_finish_85 : decode cX12_finish 85 = .ok (.ior, 1) := by decide +kernel
theorem dX12_finish_86 : decode cX12_finish 86 = .ok (.iastore, 1) := by decide +kernel
theorem dX12_finish_87 : decode cX12_finish 87 = .ok (.iinc 1 1, 3) := by decide +kernel
theorem dX12_finish_90 : decode cX12_finish 90 = .ok (.goto (-88), 3) := by decide +kernel
theorem dX12_finish_93 : decode cX12_finish 93 = .ok (.return_, 1) := by decide +kernel
theorem dX12_count_0 : decode cX12_count 0 = .ok (.aload_n 0, 1) := by decide +kernel
theorem dX12_count_1 : decode cX12_count 1 = .ok (.getfield 24, 3) := by decide +kernel
theorem dX12_count_4 : decode cX12_count 4 = .ok (.ireturn, 1) := by decide +kernel
theorem dX12_word_0 : decode cX12_word 0 = .ok (.aload_n 0, 1) := by decide +kernel
theorem dX12_word_1 : decode cX12_word 1 = .ok (.getfield 9, 3) := by decide +kernel
theorem dX12_word_4 : decode cX12_word 4 = .ok (.iload_n 1, 1) := by decide +kernel
theorem dX12_word_5 : decode cX12_word 5 = .ok (.iaload, 1) := by decide +kernel
theorem dX12_word_6 : decode cX12_word 6 = .ok (.ireturn, 1) := by decide +kernel
theorem dX13_init_0 : decode cX13_init 0 = .ok (.aload_n 0, 1) := by decide +kernel
theorem dX13_init_1 : decode cX13_init 1 = .ok (.invokespecial 3, 3) := by decide +kernel
theorem dX13_init_4 : decode cX13_init 4 = .ok (.aload_n 0, 1) := by decide +kernel
theorem dX13_init_5 : decode cX13_init 5 = .ok (.bipush 64, 2) := by decide +kernel
theorem dX13_init_7 : decode cX13_init 7 = .ok (.newarray .int, 2) := by decide +kernel
theorem dX13_init_9 : decode cX13_init 9 = .ok (.putfield 9, 3) := by decide +kernel
theorem dX13_init_12 : decode cX13_init 12 = .ok (.aload_n 0, 1) := by decide +kernel
theorem dX13_init_13 : decode cX13_init 13 = .ok (.sipush 256, 3) := by decide +kernel
theorem dX13_init_16 : decode cX13_init 16 = .ok (.newarray .int, 2) := by decide +kernel
theorem dX13_init_18 : decode cX13_init 18 = .ok (.putfield 15, 3) := by decide +kernel
theorem dX13_init_21 : decode cX13_init 21 = .ok (.aload_n 0, 1) := by decide +kernel
theorem dX13_init_22 : decode cX13_init 22 = .ok (.iconst 4, 1) := by decide +kernel
theorem dX13_init_23 : decode cX13_init 23 = .ok (.newarray .int, 2) := by decide +kernel
theorem dX13_init_25 : decode cX13_init 25 = .ok (.putfield 18, 3) := by decide +kernel
theorem dX13_init_28 : decode cX13_init 28 = .ok (.aload_n 0, 1) := by decide +kernel
theorem dX13_init_29 : decode cX13_init 29 = .ok (.iconst (-1), 1) := by decide +kernel
theorem dX13_init_30 : decode cX13_init 30 = .ok (.putfield 21, 3) := by decide +kernel
theorem dX13_init_33 : decode cX13_init 33 = .ok (.aload_n 0, 1) := by decide +kernel
theorem dX13_init_34 : decode cX13_init 34 = .ok (.aload_n 1, 1) := by decide +kernel
theorem dX13_init_35 : decode cX13_init 35 = .ok (.putfield 25, 3) := by decide +kernel
theorem dX13_init_38 : decode cX13_init 38 = .ok (.aload_n 0, 1) := by decide +kernel
theorem dX13_init_39 : decode cX13_init 39 = .ok (.aload_n 2, 1) := by decide +kernel
theorem dX13_init_40 : decode cX13_init 40 = .ok (.putfield 29, 3) := by decide +kernel
theorem dX13_init_43 : decode cX13_init 43 = .ok (.aload_n 0, 1) := by decide +kernel
theorem dX13_init_44 : decode cX13_init 44 = .ok (.aload_n 2, 1) := by decide +kernel
theorem dX13_init_45 : decode cX13_init 45 = .ok (.invokevirtual 33, 3) := by decide +kernel
theorem dX13_init_48 : decode cX13_init 48 = .ok (.putfield 39, 3) := by decide +kernel
theorem dX13_init_51 : decode cX13_init 51 = .ok (.aload_n 0, 1) := by decide +kernel
theorem dX13_init_52 : decode cX13_init 52 = .ok (.aload_n 3, 1) := by decide +kernel
theorem dX13_init_53 : decode cX13_init 53 = .ok (.putfield 42, 3) := by decide +kernel
theorem dX13_init_56 : decode cX13_init 56 = .ok (.aload_n 0, 1) := by decide +kernel
theorem dX13_init_57 : decode cX13_init 57 = .ok (.aload 4, 2) := by decide +kernel
theorem dX13_init_59 : decode cX13_init 59 = .ok (.putfield 46, 3) := by decide +kernel
theorem dX13_init_62 : decode cX13_init 62 = .ok (.aload_n 0, 1) := by decide +kernel
theorem dX13_init_63 : decode cX13_init 63 = .ok (.aload 5, 2) := by decide +kernel
theorem dX13_init_65 : decode cX13_init 65 = .ok (.putfield 50, 3) := by decide +kernel
theorem dX13_init_68 : decode cX13_init 68 = .ok (.aload_n 0, 1) := by decide +kernel
theorem dX13_init_69 : decode cX13_init 69 = .ok (.new 54, 3) := by decide +kernel
theorem dX13_init_72 : decode cX13_init 72 = .ok (.dup, 1) := by decide +kernel
theorem dX13_init_73 : decode cX13_init 73 = .ok (.aload_n 1, 1) := by decide +kernel
theorem dX13_init_74 : decode cX13_init 74 = .ok (.invokespecial 56, 3) := by decide +kernel
theorem dX13_init_77 : decode cX13_init 77 = .ok (.putfield 59, 3) := by decide +kernel
theorem dX13_init_80 : decode cX13_init 80 = .ok (.aload_n 0, 1) := by decide +kernel
theorem dX13_init_81 : decode cX13_init 81 = .ok (.new 63, 3) := by decide +kernel
theorem dX13_init_84 : decode cX13_init 84 = .ok (.dup, 1) := by decide +kernel
theorem dX13_init_85 : decode cX13_init 85 = .ok (.aload_n 1, 1) := by decide +kernel
theorem dX13_init_86 : decode cX13_init 86 = .ok (.aload_n 0, 1) := by decide +kernel
theorem dX13_init_87 : decode cX13_init 87 = .ok (.getfield 39, 3) := by decide +kernel
theorem dX13_init_90 : decode cX13_init 90 = .ok (.invokespecial 65, 3) := by decide +kernel
theorem dX13_init_93 : decode cX13_init 93 = .ok (.putfield 68, 3) := by decide +kernel
theorem dX13_init_96 : decode cX13_init 96 = .ok (.return_, 1) := by decide +kernel
theorem dX13_placeAll_0 : decode cX13_placeAll 0 = .ok (.aload_n 0, 1) := by decide +kernel
theorem dX13_placeAll_1 : decode cX13_placeAll 1 = .ok (.getfield 15, 3) := by decide +kernel
theorem dX13_placeAll_4 : decode cX13_placeAll 4 = .ok (.arraylength, 1) := by decide +kernel
theorem dX13_placeAll_5 : decode cX13_placeAll 5 = .ok (.aload_n 0, 1) := by decide +kernel
theorem dX13_placeAll_6 : decode cX13_placeAll 6 = .ok (.getfield 39, 3) := by decide +kernel
theorem dX13_placeAll_9 : decode cX13_placeAll 9 = .ok (.invokevirtual 72, 3) := by decide +kernel
theorem dX13_placeAll_12 : decode cX13_placeAll 12 = .ok (.if_icmp .ge 18, 3) := by decide +kernel
theorem dX13_placeAll_15 : decode cX13_placeAll 15 = .ok (.aload_n 0, 1) := by decide +kernel
theorem dX13_placeAll_16 : decode cX13_placeAll 16 = .ok (.iconst 2, 1) := by decide +kernel
theorem dX13_placeAll_17 : decode cX13_placeAll 17 = .ok (.aload_n 0, 1) := by decide +kernel
theorem dX13_placeAll_18 : decode cX13_placeAll 18 = .ok (.getfield 39, 3) := by decide +kernel
theorem dX13_placeAll_21 : decode cX13_placeAll 21 = .ok (.invokevirtual 72, 3) := by decide +kernel
theorem dX13_placeAll_24 : decode cX13_placeAll 24 = .ok (.imul, 1) := by decide +kernel
theorem dX13_placeAll_25 : decode cX13_placeAll 25 = .ok (.newarray .int, 2) := by decide +kernel
theorem dX13_placeAll_27 : decode cX13_placeAll 27 = .ok (.putfield 15, 3) := by decide +kernel
theorem dX13_placeAll_30 : decode cX13_placeAll 30 = .ok (.iload_n 1, 1) := by decide +kernel
theorem dX13_placeAll_31 : decode cX13_placeAll 31 = .ok (.istore_n 2, 1) := by decide +kernel
theorem dX13_placeAll_32 : decode cX13_placeAll 32 = .ok (.iconst 0, 1) := by decide +kernel
theorem dX13_placeAll_33 : decode cX13_placeAll 33 = .ok (.istore_n 3, 1) := by decide +kernel
theorem dX13_placeAll_34 : decode cX13_placeAll 34 = .ok (.iload_n 3, 1) := by decide +kernel
theorem dX13_placeAll_35 : decode cX13_placeAll 35 = .ok (.aload_n 0, 1) := by decide +kernel
theorem dX13_placeAll_36 : decode cX13_placeAll 36 = .ok (.getfield 39, 3) := by decide +kernel
theorem dX13_placeAll_39 : decode cX13_placeAll 39 = .ok (.invokevirtual 72, 3) := by decide +kernel
theorem dX13_placeAll_42 : decode cX13_placeAll 42 = .ok (.if_icmp .ge 41, 3) := by decide +kernel
theorem dX13_placeAll_45 : decode cX13_placeAll 45 = .ok (.aload_n 0, 1) := by decide +kernel
theorem dX13_placeAll_46 : decode cX13_placeAll 46 = .ok (.getfield 39, 3) := by decide +kernel
theorem dX13_placeAll_49 : decode cX13_placeAll 49 = .ok (.iload_n 3, 1) := by decide +kernel
theorem dX13_placeAll_50 : decode cX13_placeAll 50 = .ok (.invokevirtual 78, 3) := by decide +kernel
theorem dX13_placeAll_53 : decode cX13_placeAll 53 = .ok (.iconst (-1), 1) := by decide +kernel
theorem dX13_placeAll_54 : decode cX13_placeAll 54 = .ok (.if_icmp .ne 23, 3) := by decide +kernel
theorem dX13_placeAll_57 : decode cX13_placeAll 57 = .ok (.aload_n 0, 1) := by decide +kernel
theorem dX13_placeAll_58 : decode cX13_placeAll 58 = .ok (.getfield 15, 3) := by decide +kernel
theorem dX13_placeAll_61 : decode cX13_placeAll 61 = .ok (.iload_n 3, 1) := by decide +kernel
theorem dX13_placeAll_62 : decode cX13_placeAll 62 = .ok (.iload_n 2, 1) := by decide +kernel
theorem dX13_placeAll_63 : decode cX13_placeAll 63 = .ok (.iastore, 1) := by decide +kernel
theorem dX13_placeAll_64 : decode cX13_placeAll 64 = .ok (.iload_n 2, 1) := by decide +kernel
theorem dX13_placeAll_65 : decode cX13_placeAll 65 = .ok (.iconst 4, 1) := by decide +kernel
theorem dX13_placeAll_66 : decode cX13_placeAll 66 = .ok (.aload_n 0, 1) := by decide +kernel
theorem dX13_placeAll_67 : decode cX13_placeAll 67 = .ok (.getfield 39, 3) := by decide +kernel
theorem dX13_placeAll_70 : decode cX13_placeAll 70 = .ok (.iload_n 3, 1) := by decide +kernel
theorem dX13_placeAll_71 : decode cX13_placeAll 71 = .ok (.invokevirtual 82, 3) := by decide +kernel
theorem dX13_placeAll_74 : decode cX13_placeAll 74 = .ok (.imul, 1) := by decide +kernel
theorem dX13_placeAll_75 : decode cX13_placeAll 75 = .ok (.iadd, 1) := by decide +kernel
theorem dX13_placeAll_76 : decode cX13_placeAll 76 = .ok (.istore_n 2, 1) := by decide +kernel
theorem dX13_placeAll_77 : decode cX13_placeAll 77 = .ok (.iinc 3 1, 3) := by decide +kernel
theorem dX13_placeAll_80 : decode cX13_placeAll 80 = .ok (.goto (-46), 3) := by decide +kernel
theorem dX13_placeAll_83 : decode cX13_placeAll 83 = .ok (.iload_n 2, 1) := by decide +kernel
theorem dX13_placeAll_84 : decode cX13_placeAll 84 = .ok (.ireturn, 1) := by decide +kernel
theorem dX13_compile_0 : decode cX13_compile 0 = .ok (.aload_n 0, 1) := by decide +kernel
theorem dX13_compile_1 : decode cX13_compile 1 = .ok (.getfield 9, 3) := by decide +kernel
theorem dX13_compile_4 : decode cX13_compile 4 = .ok (.arraylength, 1) := by decide +kernel
theorem dX13_compile_5 : decode cX13_compile 5 = .ok (.aload_n 0, 1) := by decide +kernel
theorem dX13_compile_6 : decode cX13_compile 6 = .ok (.getfield 29, 3) := by decide +kernel
theorem dX13_compile_9 : decode cX13_compile 9 = .ok (.invokevirtual 84, 3) := by decide +kernel
theorem dX13_compile_12 : decode cX13_compile 12 = .ok (.if_icmp .ge 18, 3) := by decide +kernel
theorem dX13_compile_15 : decode cX13_compile 15 = .ok (.aload_n 0, 1) := by decide +kernel
theorem dX13_compile_16 : decode cX13_compile 16 = .ok (.iconst 2, 1) := by decide +kernel
theorem dX13_compile_17 : decode cX13_compile 17 = .ok (.aload_n 0, 1) := by decide +kernel
theorem dX13_compile_18 : decode cX13_compile 18 = .ok (.getfield 29, 3) := by decide +kernel
theorem dX13_compile_21 : decode cX13_compile 21 = .ok (.invokevirtual 84, 3) := by decide +kernel
theorem dX13_compile_24 : decode cX13_compile 24 = .ok (.imul, 1) := by decide +kernel
theorem dX13_compile_25 : decode cX13_compile 25 = .ok (.newarray .int, 2) := by decide +kernel
theorem dX13_compile_27 : decode cX13_compile 27 = .ok (.putfield 9, 3) := by decide +kernel
theorem dX13_compile_30 : decode cX13_compile 30 = .ok (.iconst 0, 1) := by decide +kernel
theorem dX13_compile_31 : decode cX13_compile 31 = .ok (.istore_n 2, 1) := by decide +kernel
theorem dX13_compile_32 : decode cX13_compile 32 = .ok (.iload_n 2, 1) := by decide +kernel
theorem dX13_compile_33 : decode cX13_compile 33 = .ok (.aload_n 0, 1) := by decide +kernel
theorem dX13_compile_34 : decode cX13_compile 34 = .ok (.getfield 29, 3) := by decide +kernel
theorem dX13_compile_37 : decode cX13_compile 37 = .ok (.invokevirtual 84, 3) := by decide +kernel
theorem dX13_compile_40 : decode cX13_compile 40 = .ok (.if_icmp .ge 22, 3) := by decide +kernel
theorem dX13_compile_43 : decode cX13_compile 43 = .ok (.aload_n 0, 1) := by decide +kernel
theorem dX13_compile_44 : decode cX13_compile 44 = .ok (.getfield 9, 3) := by decide +kernel
theorem dX13_compile_47 : decode cX13_compile 47 = .ok (.iload_n 2, 1) := by decide +kernel
theorem dX13_compile_48 : decode cX13_compile 48 = .ok (.aload_n 0, 1) := by decide +kernel
theorem dX13_compile_49 : decode cX13_compile 49 = .ok (.getfield 50, 3) := by decide +kernel
theorem dX13_compile_52 : decode cX13_compile 52 = .ok (.invokevirtual 85, 3) := by decide +kernel
theorem dX13_compile_55 : decode cX13_compile 55 = .ok (.iastore, 1) := by decide +kernel
theorem dX13_compile_56 : decode cX13_compile 56 = .ok (.iinc 2 1, 3) := by decide +kernel
theorem dX13_compile_59 : decode cX13_compile 59 = .ok (.goto (-27), 3) := by decide +kernel
theorem dX13_compile_62 : decode cX13_compile 62 = .ok (.iconst 0, 1) := by decide +kernel
theorem dX13_compile_63 : decode cX13_compile 63 = .ok (.istore_n 2, 1) := by decide +kernel
theorem dX13_compile_64 : decode cX13_compile 64 = .ok (.iload_n 2, 1) := by decide +kernel
theorem dX13_compile_65 : decode cX13_compile 65 = .ok (.iconst 4, 1) := by decide +kernel
theorem dX13_compile_66 : decode cX13_compile 66 = .ok (.if_icmp .ge 22, 3) := by decide +kernel
theorem dX13_compile_69 : decode cX13_compile 69 = .ok (.aload_n 0, 1) := by decide +kernel
theorem dX13_compile_70 : decode cX13_compile 70 = .ok (.getfield 18, 3) := by decide +kernel
theorem dX13_compile_73 : decode cX13_compile 73 = .ok (.iload_n 2, 1) := by decide +kernel
theorem dX13_compile_74 : decode cX13_compile 74 = .ok (.aload_n 0, 1) := by decide +kernel
theorem dX13_compile_75 : decode cX13_compile 75 = .ok (.getfield 50, 3) := by decide +kernel
theorem dX13_compile_78 : decode cX13_compile 78 = .ok (.invokevirtual 85, 3) := by decide +kernel
theorem dX13_compile_81 : decode cX13_compile 81 = .ok (.iastore, 1) := by decide +kernel
theorem dX13_compile_82 : decode cX13_compile 82 = .ok (.iinc 2 1, 3) := by decide +kernel
theorem dX13_compile_85 : decode cX13_compile 85 = .ok (.goto (-21), 3) := by decide +kernel
theorem dX13_compile_88 : decode cX13_compile 88 = .ok (.aload_n 0, 1) := by decide +kernel
theorem dX13_compile_89 : decode cX13_compile 89 = .ok (.getfield 50, 3) := by decide +kernel
theorem dX13_compile_92 : decode cX13_compile 92 = .ok (.iconst 2, 1) := by decide +kernel
theorem dX13_compile_93 : decode cX13_compile 93 = .ok (.iconst 2, 1) := by decide +kernel
theorem dX13_compile_94 : decode cX13_compile 94 = .ok (.bipush 10, 2) := by decide +kernel
theorem dX13_compile_96 : decode cX13_compile 96 = .ok (.bipush (-4), 2) := by decide +kernel
theorem dX13_compile_98 : decode cX13_compile 98 = .ok (.invokevirtual 90, 3) := by decide +kernel
theorem dX13_compile_101 : decode cX13_compile 101 = .ok (.aload_n 0, 1) := by decide +kernel
theorem dX13_compile_102 : decode cX13_compile 102 = .ok (.getfield 50, 3) := by decide +kernel
theorem dX13_compile_105 : decode cX13_compile 105 = .ok (.iconst 1, 1) := by decide +kernel
theorem dX13_compile_106 : decode cX13_compile 106 = .ok (.aload_n 0, 1) := by decide +kernel
theorem dX13_compile_107 : decode cX13_compile 107 = .ok (.getfield 9, 3) := by decide +kernel
theorem dX13_compile_110 : decode cX13_compile 110 = .ok (.iload_n 1, 1) := by decide +kernel
theorem dX13_compile_111 : decode cX13_compile 111 = .ok (.iaload, 1) := by decide +kernel
theorem dX13_compile_112 : decode cX13_compile 112 = .ok (.invokevirtual 94, 3) := by decide +kernel
theorem dX13_compile_115 : decode cX13_compile 115 = .ok (.aload_n 0, 1) := by decide +kernel
theorem dX13_compile_116 : decode cX13_compile 116 = .ok (.getfield 50, 3) := by decide +kernel
theorem dX13_compile_119 : decode cX13_compile 119 = .ok (.bipush 17, 2) := by decide +kernel
theorem dX13_compile_121 : decode cX13_compile 121 = .ok (.iconst 0, 1) := by decide +kernel
theorem dX13_compile_122 : decode cX13_compile 122 = .ok (.invokevirtual 98, 3) := by decide +kernel
theorem dX13_compile_125 : decode cX13_compile 125 = .ok (.aload_n 0, 1) := by decide +kernel
theorem dX13_compile_126 : decode cX13_compile 126 = .ok (.getfield 50, 3) := by decide +kernel
theorem dX13_compile_129 : decode cX13_compile 129 = .ok (.invokevirtual 101, 3) := by decide +kernel
theorem dX13_compile_132 : decode cX13_compile 132 = .ok (.iconst 0, 1) := by decide +kernel
theorem dX13_compile_133 : decode cX13_compile 133 = .ok (.istore_n 2, 1) := by decide +kernel
theorem dX13_compile_134 : decode cX13_compile 134 = .ok (.iload_n 2, 1) := by decide +kernel
theorem dX13_compile_135 : decode cX13_compile 135 = .ok (.iconst 4, 1) := by decide +kernel
theorem dX13_compile_136 : decode cX13_compile 136 = .ok (.if_icmp .ge 42, 3) := by decide +kernel
theorem dX13_compile_139 : decode cX13_compile 139 = .ok (.aload_n 0, 1) := by decide +kernel
theorem dX13_compile_140 : decode cX13_compile 140 = .ok (.getfield 50, 3) := by decide +kernel
theorem dX13_compile_143 : decode cX13_compile 143 = .ok (.aload_n 0, 1) := by decide +kernel
theorem dX13_compile_144 : decode cX13_compile 144 = .ok (.getfield 18, 3) := by decide +kernel
theorem dX13_compile_147 : decode cX13_compile 147 = .ok (.iload_n 2, 1) := by decide +kernel
theorem dX13_compile_148 : decode cX13_compile 148 = .ok (.iaload, 1) := by decide +kernel
theorem dX13_compile_149 : decode cX13_compile 149 = .ok (.invokevirtual 104, 3) := by decide +kernel
theorem dX13_compile_152 : decode cX13_compile 152 = .ok (.aload_n 0, 1) := by decide +kernel
theorem dX13_compile_153 : decode cX13_compile 153 = .ok (.getfield 50, 3) := by decide +kernel
theorem dX13_compile_156 : decode cX13_compile 156 = .ok (.bipush 17, 2) := by decide +kernel
theorem dX13_compile_158 : decode cX13_compile 158 = .ok (.bipush 16, 2) := by decide +kernel
theorem dX13_compile_160 : decode cX13_compile 160 = .ok (.iload_n 2, 1) := by decide +kernel
theorem dX13_compile_161 : decode cX13_compile 161 = .ok (.iadd, 1) := by decide +kernel
theorem dX13_compile_162 : decode cX13_compile 162 = .ok (.invokevirtual 98, 3) := by decide +kernel
theorem dX13_compile_165 : decode cX13_compile 165 = .ok (.aload_n 0, 1) := by decide +kernel
theorem dX13_compile_166 : decode cX13_compile 166 = .ok (.getfield 50, 3) := by decide +kernel
theorem dX13_compile_169 : decode cX13_compile 169 = .ok (.invokevirtual 101, 3) := by decide +kernel
theorem dX13_compile_172 : decode cX13_compile 172 = .ok (.iinc 2 1, 3) := by decide +kernel
theorem dX13_compile_175 : decode cX13_compile 175 = .ok (.goto (-41), 3) := by decide +kernel
theorem dX13_compile_178 : decode cX13_compile 178 = .ok (.iconst 0, 1) := by decide +kernel
theorem dX13_compile_179 : decode cX13_compile 179 = .ok (.istore_n 2, 1) := by decide +kernel
theorem dX13_compile_180 : decode cX13_compile 180 = .ok (.iload_n 2, 1) := by decide +kernel
theorem dX13_compile_181 : decode cX13_compile 181 = .ok (.aload_n 0, 1) := by decide +kernel
theorem dX13_compile_182 : decode cX13_compile 182 = .ok (.getfield 29, 3) := by decide +kernel
theorem dX13_compile_185 : decode cX13_compile 185 = .ok (.invokevirtual 84, 3) := by decide +kernel
theorem dX13_compile_188 : decode cX13_compile 188 = .ok (.if_icmp .ge 22, 3) := by decide +kernel
theorem dX13_compile_191 : decode cX13_compile 191 = .ok (.aload_n 0, 1) := by decide +kernel
theorem dX13_compile_192 : decode cX13_compile 192 = .ok (.iload_n 2, 1) := by decide +kernel
theorem dX13_compile_193 : decode cX13_compile 193 = .ok (.aload_n 0, 1) := by decide +kernel
theorem dX13_compile_194 : decode cX13_compile 194 = .ok (.getfield 29, 3) := by decide +kernel
theorem dX13_compile_197 : decode cX13_compile 197 = .ok (.iload_n 2, 1) := by decide +kernel
theorem dX13_compile_198 : decode cX13_compile 198 = .ok (.invokevirtual 108, 3) := by decide +kernel
theorem dX13_compile_201 : decode cX13_compile 201 = .ok (.invokevirtual 111, 3) := by decide +kernel
theorem dX13_compile_204 : decode cX13_compile 204 = .ok (.iinc 2 1, 3) := by decide +kernel
theorem dX13_compile_207 : decode cX13_compile 207 = .ok (.goto (-27), 3) := by decide +kernel
theorem dX13_compile_210 : decode cX13_compile 210 = .ok (.return_, 1) := by decide +kernel
theorem dX13_function_0 : decode cX13_function 0 = .ok (.aload_n 0, 1) := by decide +kernel
theorem dX13_function_1 : decode cX13_function 1 = .ok (.getfield 68, 3) := by decide +kernel
theorem dX13_function_4 : decode cX13_function 4 = .ok (.iload_n 2, 1) := by decide +kernel
theorem dX13_function_5 : decode cX13_function 5 = .ok (.iload_n 1, 1) := by decide +kernel
theorem dX13_function_6 : decode cX13_function 6 = .ok (.invokevirtual 114, 3) := by decide +kernel
theorem dX13_function_9 : decode cX13_function 9 = .ok (.aload_n 0, 1) := by decide +kernel
theorem dX13_function_10 : decode cX13_function 10 = .ok (.iconst 0, 1) := by decide +kernel
theorem dX13_function_11 : decode cX13_function 11 = .ok (.putfield 117, 3) := by decide +kernel
theorem dX13_function_14 : decode cX13_function 14 = .ok (.aload_n 0, 1) := by decide +kernel
theorem dX13_function_15 : decode cX13_function 15 = .ok (.aload_n 0, 1) := by decide +kernel
theorem dX13_function_16 : decode cX13_function 16 = .ok (.getfield 50, 3) := by decide +kernel
theorem dX13_function_19 : decode cX13_function 19 = .ok (.invokevirtual 85, 3) := by decide +kernel
theorem dX13_function_22 : decode cX13_function 22 = .ok (.putfield 120, 3) := by decide +kernel
theorem dX13_function_25 : decode cX13_function 25 = .ok (.aload_n 0, 1) := by decide +kernel
theorem dX13_function_26 : decode cX13_function 26 = .ok (.aload_n 0, 1) := by decide +kernel
theorem dX13_function_27 : decode cX13_function 27 = .ok (.getfield 25, 3) := by decide +kernel
theorem dX13_function_30 : decode cX13_function 30 = .ok (.iload_n 2, 1) := by decide +kernel
theorem dX13_function_31 : decode cX13_function 31 = .ok (.invokevirtual 123, 3) := by decide +kernel
theorem dX13_function_34 : decode cX13_function 34 = .ok (.putfield 128, 3) := by decide +kernel
theorem dX13_function_37 : decode cX13_function 37 = .ok (.aload_n 0, 1) := by decide +kernel
theorem dX13_function_38 : decode cX13_function 38 = .ok (.iconst (-1), 1) := by decide +kernel
theorem dX13_function_39 : decode cX13_function 39 = .ok (.putfield 131, 3) := by decide +kernel
theorem dX13_function_42 : decode cX13_function 42 = .ok (.aload_n 0, 1) := by decide +kernel
theorem dX13_function_43 : decode cX13_function 43 = .ok (.iconst (-1), 1) := by decide +kernel
theorem dX13_function_44 : decode cX13_function 44 = .ok (.putfield 134, 3) := by decide +kernel
theorem dX13_function_47 : decode cX13_function 47 = .ok (.aload_n 0, 1) := by decide +kernel
theorem dX13_function_48 : decode cX13_function 48 = .ok (.getfield 50, 3) := by decide +kernel
theorem dX13_function_51 : decode cX13_function 51 = .ok (.aload_n 0, 1) := by decide +kernel
theorem dX13_function_52 : decode cX13_function 52 = .ok (.getfield 9, 3) := by decide +kernel
theorem dX13_function_55 : decode cX13_function 55 = .ok (.iload_n 1, 1) := by decide +kernel
theorem dX13_function_56 : decode cX13_function 56 = .ok (.iaload, 1) := by decide +kernel
theorem dX13_function_57 : decode cX13_function 57 = .ok (.invokevirtual 104, 3) := by decide +kernel
theorem dX13_function_60 : decode cX13_function 60 = .ok (.aload_n 0, 1) := by decide +kernel
theorem dX13_function_61 : decode cX13_function 61 = .ok (.invokevirtual 137, 3) := by decide +kernel
theorem dX13_function_64 : decode cX13_function 64 = .ok (.aload_n 0, 1) := by decide +kernel
theorem dX13_function_65 : decode cX13_function 65 = .ok (.getfield 29, 3) := by decide +kernel
theorem dX13_function_68 : decode cX13_function 68 = .ok (.iload_n 1, 1) := by decide +kernel
theorem dX13_function_69 : decode cX13_function 69 = .ok (.invokevirtual 140, 3) := by decide +kernel
theorem dX13_function_72 : decode cX13_function 72 = .ok (.istore_n 3, 1) := by decide +kernel
theorem dX13_function_73 : decode cX13_function 73 = .ok (.aload_n 0, 1) := by decide +kernel
theorem dX13_function_74 : decode cX13_function 74 = .ok (.getfield 50, 3) := by decide +kernel
theorem dX13_function_77 : decode cX13_function 77 = .ok (.iconst 4, 1) := by decide +kernel
theorem dX13_function_78 : decode cX13_function 78 = .ok (.iconst 4, 1) := by decide +kernel
theorem dX13_function_79 : decode cX13_function 79 = .ok (.iload_n 3, 1) := by decide +kernel
theorem dX13_function_80 : decode cX13_function 80 = .ok (.ineg, 1) := by decide +kernel
theorem dX13_function_81 : decode cX13_function 81 = .ok (.iconst 5, 1) := by decide +kernel
theorem dX13_function_82 : decode cX13_function 82 = .ok (.invokevirtual 143, 3) := by decide +kernel
theorem dX13_function_85 : decode cX13_function 85 = .ok (.aload_n 0, 1) := by decide +kernel
theorem dX13_function_86 : decode cX13_function 86 = .ok (.getfield 50, 3) := by decide +kernel
theorem dX13_function_89 : decode cX13_function 89 = .ok (.iconst 4, 1) := by decide +kernel
theorem dX13_function_90 : decode cX13_function 90 = .ok (.iconst 4, 1) := by decide +kernel
theorem dX13_function_91 : decode cX13_function 91 = .ok (.iconst 0, 1) := by decide +kernel
theorem dX13_function_92 : decode cX13_function 92 = .ok (.aload_n 0, 1) := by decide +kernel
theorem dX13_function_93 : decode cX13_function 93 = .ok (.bipush 18, 2) := by decide +kernel
theorem dX13_function_95 : decode cX13_function 95 = .ok (.invokevirtual 146, 3) := by decide +kernel
theorem dX13_function_98 : decode cX13_function 98 = .ok (.invokevirtual 149, 3) := by decide +kernel
theorem dX13_function_101 : decode cX13_function 101 = .ok (.aload_n 0, 1) := by decide +kernel
theorem dX13_function_102 : decode cX13_function 102 = .ok (.iload_n 2, 1) := by decide +kernel
theorem dX13_function_103 : decode cX13_function 103 = .ok (.invokevirtual 152, 3) := by decide +kernel
theorem dX13_function_106 : decode cX13_function 106 = .ok (.istore 4, 2) := by decide +kernel
theorem dX13_function_108 : decode cX13_function 108 = .ok (.aload_n 0, 1) := by decide +kernel
theorem dX13_function_109 : decode cX13_function 109 = .ok (.getfield 25, 3) := by decide +kernel
theorem dX13_function_112 : decode cX13_function 112 = .ok (.iload_n 2, 1) := by decide +kernel
theorem dX13_function_113 : decode cX13_function 113 = .ok (.invokevirtual 155, 3) := by decide +kernel
theorem dX13_function_116 : decode cX13_function 116 = .ok (.istore 5, 2) := by decide +kernel
theorem dX13_function_118 : decode cX13_function 118 = .ok (.aload_n 0, 1) := by decide +kernel
theorem dX13_function_119 : decode cX13_function 119 = .ok (.getfield 25, 3) := by decide +kernel
theorem dX13_function_122 : decode cX13_function 122 = .ok (.iload 5, 2) := by decide +kernel
theorem dX13_function_124 : decode cX13_function 124 = .ok (.invokevirtual 158, 3) := by decide +kernel
theorem dX13_function_127 : decode cX13_function 127 = .ok (.iconst 5, 1) := by decide +kernel
theorem dX13_function_128 : decode cX13_function 128 = .ok (.if_icmp .ne 17, 3) := by decide +kernel
theorem dX13_function_131 : decode cX13_function 131 = .ok (.aload_n 0, 1) := by decide +kernel
theorem dX13_function_132 : decode cX13_function 132 = .ok (.getfield 25, 3) := by decide +kernel
theorem dX13_function_135 : decode cX13_function 135 = .ok (.iload 5, 2) := by decide +kernel
theorem dX13_function_137 : decode cX13_function 137 = .ok (.invokevirtual 161, 3) := by decide +kernel
theorem dX13_function_140 : decode cX13_function 140 = .ok (.istore 5, 2) := by decide +kernel
theorem dX13_function_142 : decode cX13_function 142 = .ok (.goto (-24), 3) := by decide +kernel
theorem dX13_function_145 : decode cX13_function 145 = .ok (.aload_n 0, 1) := by decide +kernel
theorem dX13_function_146 : decode cX13_function 146 = .ok (.iload 5, 2) := by decide +kernel
theorem dX13_function_148 : decode cX13_function 148 = .ok (.invokevirtual 164, 3) := by decide +kernel
theorem dX13_function_151 : decode cX13_function 151 = .ok (.aload_n 0, 1) := by decide +kernel
theorem dX13_function_152 : decode cX13_function 152 = .ok (.getfield 50, 3) := by decide +kernel
theorem dX13_function_155 : decode cX13_function 155 = .ok (.bipush 10, 2) := by decide +kernel
theorem dX13_function_157 : decode cX13_function 157 = .ok (.iconst 0, 1) := by decide +kernel
theorem dX13_function_158 : decode cX13_function 158 = .ok (.invokevirtual 167, 3) := by decide +kernel
theorem dX13_function_161 : decode cX13_function 161 = .ok (.aload_n 0, 1) := by decide +kernel
theorem dX13_function_162 : decode cX13_function 162 = .ok (.getfield 50, 3) := by decide +kernel
theorem dX13_function_165 : decode cX13_function 165 = .ok (.aload_n 0, 1) := by decide +kernel
theorem dX13_function_166 : decode cX13_function 166 = .ok (.getfield 120, 3) := by decide +kernel
theorem dX13_function_169 : decode cX13_function 169 = .ok (.invokevirtual 104, 3) := by decide +kernel
theorem dX13_function_172 : decode cX13_function 172 = .ok (.aload_n 0, 1) := by decide +kernel
theorem dX13_function_173 : decode cX13_function 173 = .ok (.getfield 50, 3) := by decide +kernel
theorem dX13_function_176 : decode cX13_function 176 = .ok (.iload 4, 2) := by decide +kernel
theorem dX13_function_178 : decode cX13_function 178 = .ok (.bipush 6, 2) := by decide +kernel
theorem dX13_function_180 : decode cX13_function 180 = .ok (.bipush (-4), 2) := by decide +kernel
theorem dX13_function_182 : decode cX13_function 182 = .ok (.aload_n 0, 1) := by decide +kernel
theorem dX13_function_183 : decode cX13_function 183 = .ok (.getfield 68, 3) := by decide +kernel
theorem dX13_function_186 : decode cX13_function 186 = .ok (.invokevirtual 170, 3) := by decide +kernel
theorem dX13_function_189 : decode cX13_function 189 = .ok (.aload_n 0, 1) := by decide +kernel
theorem dX13_function_190 : decode cX13_function 190 = .ok (.getfield 117, 3) := by decide +kernel
theorem dX13_function_193 : decode cX13_function 193 = .ok (.iadd, 1) := by decide +kernel
theorem dX13_function_194 : decode cX13_function 194 = .ok (.imul, 1) := by decide +kernel
theorem dX13_function_195 : decode cX13_function 195 = .ok (.invokevirtual 172, 3) := by decide +kernel
theorem dX13_function_198 : decode cX13_function 198 = .ok (.aload_n 0, 1) := by decide +kernel
theorem dX13_function_199 : decode cX13_function 199 = .ok (.iload_n 3, 1) := by decide +kernel
theorem dX13_function_200 : decode cX13_function 200 = .ok (.invokevirtual 176, 3) := by decide +kernel
theorem dX13_function_203 : decode cX13_function 203 = .ok (.return_, 1) := by decide +kernel
theorem dX13_takeWork_0 : decode cX13_takeWork 0 = .ok (.aload_n 0, 1) := by decide +kernel
theorem dX13_takeWork_1 : decode cX13_takeWork 1 = .ok (.getfield 50, 3) := by decide +kernel
theorem dX13_takeWork_4 : decode cX13_takeWork 4 = .ok (.iconst 0, 1) := by decide +kernel
theorem dX13_takeWork_5 : decode cX13_takeWork 5 = .ok (.bipush 27, 2) := by decide +kernel
theorem dX13_takeWork_7 : decode cX13_takeWork 7 = .ok (.iconst 0, 1) := by decide +kernel
theorem dX13_takeWork_8 : decode cX13_takeWork 8 = .ok (.aload_n 0, 1) := by decide +kernel
theorem dX13_takeWork_9 : decode cX13_takeWork 9 = .ok (.bipush 19, 2) := by decide +kernel
theorem dX13_takeWork_11 : decode cX13_takeWork 11 = .ok (.invokevirtual 146, 3) := by decide +kernel
theorem dX13_takeWork_14 : decode cX13_takeWork 14 = .ok (.invokevirtual 149, 3) := by decide +kernel
theorem dX13_takeWork_17 : decode cX13_takeWork 17 = .ok (.aload_n 0, 1) := by decide +kernel
theorem dX13_takeWork_18 : decode cX13_takeWork 18 = .ok (.getfield 50, 3) := by decide +kernel
theorem dX13_takeWork_21 : decode cX13_takeWork 21 = .ok (.iconst 0, 1) := by decide +kernel
theorem dX13_takeWork_22 : decode cX13_takeWork 22 = .ok (.bipush 27, 2) := by decide +kernel
theorem dX13_takeWork_24 : decode cX13_takeWork 24 = .ok (.bipush 27, 2) := by decide +kernel
theorem dX13_takeWork_26 : decode cX13_takeWork 26 = .ok (.iconst (-1), 1) := by decide +kernel
theorem dX13_takeWork_27 : decode cX13_takeWork 27 = .ok (.invokevirtual 179, 3) := by decide +kernel
theorem dX13_takeWork_30 : decode cX13_takeWork 30 = .ok (.return_, 1) := by decide +kernel
theorem dX13_end_0 : decode cX13_end 0 = .ok (.aload_n 0, 1) := by decide +kernel
theorem dX13_end_1 : decode cX13_end 1 = .ok (.getfield 18, 3) := by decide +kernel
theorem dX13_end_4 : decode cX13_end 4 = .ok (.iload_n 1, 1) := by decide +kernel
theorem dX13_end_5 : decode cX13_end 5 = .ok (.bipush 16, 2) := by decide +kernel
theorem dX13_end_7 : decode cX13_end 7 = .ok (.isub, 1) := by decide +kernel
theorem dX13_end_8 : decode cX13_end 8 = .ok (.iaload, 1) := by decide +kernel
theorem dX13_end_9 : decode cX13_end 9 = .ok (.ireturn, 1) := by decide +kernel
theorem dX13_begin_0 : decode cX13_begin 0 = .ok (.aload_n 0, 1) := by decide +kernel
theorem dX13_begin_1 : decode cX13_begin 1 = .ok (.getfield 50, 3) := by decide +kernel
theorem dX13_begin_4 : decode cX13_begin 4 = .ok (.iconst 5, 1) := by decide +kernel
theorem dX13_begin_5 : decode cX13_begin 5 = .ok (.iconst 2, 1) := by decide +kernel
theorem dX13_begin_6 : decode cX13_begin 6 = .ok (.invokevirtual 167, 3) := by decide +kernel
theorem dX13_begin_9 : decode cX13_begin 9 = .ok (.aload_n 0, 1) := by decide +kernel
theorem dX13_begin_10 : decode cX13_begin 10 = .ok (.getfield 50, 3) := by decide +kernel
theorem dX13_begin_13 : decode cX13_begin 13 = .ok (.bipush 6, 2) := by decide +kernel
theorem dX13_begin_15 : decode cX13_begin 15 = .ok (.invokevirtual 182, 3) := by decide +kernel
theorem dX13_begin_18 : decode cX13_begin 18 = .ok (.istore_n 2, 1) := by decide +kernel
theorem dX13_begin_19 : decode cX13_begin 19 = .ok (.aload_n 0, 1) := by decide +kernel
theorem dX13_begin_20 : decode cX13_begin 20 = .ok (.getfield 50, 3) := by decide +kernel
theorem dX13_begin_23 : decode cX13_begin 23 = .ok (.iconst 0, 1) := by decide +kernel
theorem dX13_begin_24 : decode cX13_begin 24 = .ok (.iconst 0, 1) := by decide +kernel
theorem dX13_begin_25 : decode cX13_begin 25 = .ok (.iconst 2, 1) := by decide +kernel
theorem dX13_begin_26 : decode cX13_begin 26 = .ok (.iconst 2, 1) := by decide +kernel
theorem dX13_begin_27 : decode cX13_begin 27 = .ok (.bipush 6, 2) := by decide +kernel
theorem dX13_begin_29 : decode cX13_begin 29 = .ok (.invokevirtual 185, 3) := by decide +kernel
theorem dX13_begin_32 : decode cX13_begin 32 = .ok (.bipush (-4), 2) := by decide +kernel
theorem dX13_begin_34 : decode cX13_begin 34 = .ok (.aload_n 0, 1) := by decide +kernel
theorem dX13_begin_35 : decode cX13_begin 35 = .ok (.getfield 68, 3) := by decide +kernel
theorem dX13_begin_38 : decode cX13_begin 38 = .ok (.invokevirtual 189, 3) := by decide +kernel
theorem dX13_begin_41 : decode cX13_begin 41 = .ok (.iconst 1, 1) := by decide +kernel
theorem dX13_begin_42 : decode cX13_begin 42 = .ok (.iadd, 1) := by decide +kernel
theorem dX13_begin_43 : decode cX13_begin 43 = .ok (.imul, 1) := by decide +kernel
theorem dX13_begin_44 : decode cX13_begin 44 = .ok (.istore_n 3, 1) := by decide +kernel
theorem dX13_begin_45 : decode cX13_begin 45 = .ok (.aload_n 0, 1) := by decide +kernel
theorem dX13_begin_46 : decode cX13_begin 46 = .ok (.getfield 50, 3) := by decide +kernel
theorem dX13_begin_49 : decode cX13_begin 49 = .ok (.iconst 1, 1) := by decide +kernel
theorem dX13_begin_50 : decode cX13_begin 50 = .ok (.iconst 5, 1) := by decide +kernel
theorem dX13_begin_51 : decode cX13_begin 51 = .ok (.iload_n 3, 1) := by decide +kernel
theorem dX13_begin_52 : decode cX13_begin 52 = .ok (.bipush 7, 2) := by decide +kernel
theorem dX13_begin_54 : decode cX13_begin 54 = .ok (.invokevirtual 192, 3) := by decide +kernel
theorem dX13_begin_57 : decode cX13_begin 57 = .ok (.aload_n 0, 1) := by decide +kernel
theorem dX13_begin_58 : decode cX13_begin 58 = .ok (.getfield 50, 3) := by decide +kernel
theorem dX13_begin_61 : decode cX13_begin 61 = .ok (.bipush 8, 2) := by decide +kernel
theorem dX13_begin_63 : decode cX13_begin 63 = .ok (.iconst 5, 1) := by decide +kernel
theorem dX13_begin_64 : decode cX13_begin 64 = .ok (.iload_n 3, 1) := by decide +kernel
theorem dX13_begin_65 : decode cX13_begin 65 = .ok (.iconst 4, 1) := by decide +kernel
theorem dX13_begin_66 : decode cX13_begin 66 = .ok (.isub, 1) := by decide +kernel
theorem dX13_begin_67 : decode cX13_begin 67 = .ok (.bipush 7, 2) := by decide +kernel
theorem dX13_begin_69 : decode cX13_begin 69 = .ok (.invokevirtual 192, 3) := by decide +kernel
theorem dX13_begin_72 : decode cX13_begin 72 = .ok (.iconst 0, 1) := by decide +kernel
theorem dX13_begin_73 : decode cX13_begin 73 = .ok (.istore 4, 2) := by decide +kernel
theorem dX13_begin_75 : decode cX13_begin 75 = .ok (.iload 4, 2) := by decide +kernel
theorem dX13_begin_77 : decode cX13_begin 77 = .ok (.aload_n 0, 1) := by decide +kernel
theorem dX13_begin_78 : decode cX13_begin 78 = .ok (.getfield 68, 3) := by decide +kernel
theorem dX13_begin_81 : decode cX13_begin 81 = .ok (.invokevirtual 195, 3) := by decide +kernel
theorem dX13_begin_84 : decode cX13_begin 84 = .ok (.if_icmp .ge 33, 3) := by decide +kernel
theorem dX13_begin_87 : decode cX13_begin 87 = .ok (.aload_n 0, 1) := by decide +kernel
theorem dX13_begin_88 : decode cX13_begin 88 = .ok (.getfield 50, 3) := by decide +kernel
theorem dX13_begin_91 : decode cX13_begin 91 = .ok (.iload 4, 2) := by decide +kernel
theorem dX13_begin_93 : decode cX13_begin 93 = .ok (.invokestatic 198, 3) := by decide +kernel
theorem dX13_begin_96 : decode cX13_begin 96 = .ok (.iconst 5, 1) := by decide +kernel
theorem dX13_begin_97 : decode cX13_begin 97 = .ok (.iload_n 3, 1) := by decide +kernel
theorem dX13_begin_98 : decode cX13_begin 98 = .ok (.bipush 8, 2) := by decide +kernel
theorem dX13_begin_100 : decode cX13_begin 100 = .ok (.isub, 1) := by decide +kernel
theorem dX13_begin_101 : decode cX13_begin 101 = .ok (.iconst 4, 1) := by decide +kernel
theorem dX13_begin_102 : decode cX13_begin 102 = .ok (.iload 4, 2) := by decide +kernel
theorem dX13_begin_104 : decode cX13_begin 104 = .ok (.imul, 1) := by decide +kernel
theorem dX13_begin_105 : decode cX13_begin 105 = .ok (.isub, 1) := by decide +kernel
theorem dX13_begin_106 : decode cX13_begin 106 = .ok (.bipush 7, 2) := by decide +kernel
theorem dX13_begin_108 : decode cX13_begin 108 = .ok (.invokevirtual 192, 3) := by decide +kernel
theorem dX13_begin_111 : decode cX13_begin 111 = .ok (.iinc 4 1, 3) := by decide +kernel
theorem dX13_begin_114 : decode cX13_begin 114 = .ok (.goto (-39), 3) := by decide +kernel
theorem dX13_begin_117 : decode cX13_begin 117 = .ok (.aload_n 0, 1) := by decide +kernel
theorem dX13_begin_118 : decode cX13_begin 118 = .ok (.getfield 50, 3) := by decide +kernel
theorem dX13_begin_121 : decode cX13_begin 121 = .ok (.bipush 8, 2) := by decide +kernel
theorem dX13_begin_123 : decode cX13_begin 123 = .ok (.iconst 5, 1) := by decide +kernel
theorem dX13_begin_124 : decode cX13_begin 124 = .ok (.invokevirtual 167, 3) := by decide +kernel
theorem dX13_begin_127 : decode cX13_begin 127 = .ok (.aload_n 0, 1) := by decide +kernel
theorem dX13_begin_128 : decode cX13_begin 128 = .ok (.getfield 68, 3) := by decide +kernel
theorem dX13_begin_131 : decode cX13_begin 131 = .ok (.invokevirtual 201, 3) := by decide +kernel
theorem dX13_begin_134 : decode cX13_begin 134 = .ok (.ifCond .le 26, 3) := by decide +kernel
theorem dX13_begin_137 : decode cX13_begin 137 = .ok (.aload_n 0, 1) := by decide +kernel
theorem dX13_begin_138 : decode cX13_begin 138 = .ok (.bipush 8, 2) := by decide +kernel
theorem dX13_begin_140 : decode cX13_begin 140 = .ok (.bipush (-4), 2) := by decide +kernel
theorem dX13_begin_142 : decode cX13_begin 142 = .ok (.aload_n 0, 1) := by decide +kernel
theorem dX13_begin_143 : decode cX13_begin 143 = .ok (.getfield 68, 3) := by decide +kernel
theorem dX13_begin_146 : decode cX13_begin 146 = .ok (.invokevirtual 170, 3) := by decide +kernel
theorem dX13_begin_149 : decode cX13_begin 149 = .ok (.imul, 1) := by decide +kernel
theorem dX13_begin_150 : decode cX13_begin 150 = .ok (.aload_n 0, 1) := by decide +kernel
theorem dX13_begin_151 : decode cX13_begin 151 = .ok (.getfield 68, 3) := by decide +kernel
theorem dX13_begin_154 : decode cX13_begin 154 = .ok (.invokevirtual 201, 3) := by decide +kernel
theorem dX13_begin_157 : decode cX13_begin 157 = .ok (.invokevirtual 204, 3) := by decide +kernel
theorem dX13_begin_160 : decode cX13_begin 160 = .ok (.iconst 0, 1) := by decide +kernel
theorem dX13_begin_161 : decode cX13_begin 161 = .ok (.istore 4, 2) := by decide +kernel
theorem dX13_begin_163 : decode cX13_begin 163 = .ok (.iload 4, 2) := by decide +kernel
theorem dX13_begin_165 : decode cX13_begin 165 = .ok (.aload_n 0, 1) := by decide +kernel
theorem dX13_begin_166 : decode cX13_begin 166 = .ok (.getfield 39, 3) := by decide +kernel
theorem dX13_begin_169 : decode cX13_begin 169 = .ok (.invokevirtual 72, 3) := by decide +kernel
theorem dX13_begin_172 : decode cX13_begin 172 = .ok (.if_icmp .ge 59, 3) := by decide +kernel
theorem dX13_begin_175 : decode cX13_begin 175 = .ok (.aload_n 0, 1) := by decide +kernel
theorem dX13_begin_176 : decode cX13_begin 176 = .ok (.getfield 39, 3) := by decide +kernel
theorem dX13_begin_179 : decode cX13_begin 179 = .ok (.iload 4, 2) := by decide +kernel
theorem dX13_begin_181 : decode cX13_begin 181 = .ok (.invokevirtual 78, 3) := by decide +kernel
theorem dX13_begin_184 : decode cX13_begin 184 = .ok (.aload_n 0, 1) := by decide +kernel
theorem dX13_begin_185 : decode cX13_begin 185 = .ok (.getfield 25, 3) := by decide +kernel
theorem dX13_begin_188 : decode cX13_begin 188 = .ok (.iload_n 1, 1) := by decide +kernel
theorem dX13_begin_189 : decode cX13_begin 189 = .ok (.invokevirtual 207, 3) := by decide +kernel
theorem dX13_begin_192 : decode cX13_begin 192 = .ok (.if_icmp .ne 33, 3) := by decide +kernel
theorem dX13_begin_195 : decode cX13_begin 195 = .ok (.aload_n 0, 1) := by decide +kernel
theorem dX13_begin_196 : decode cX13_begin 196 = .ok (.getfield 68, 3) := by decide +kernel
theorem dX13_begin_199 : decode cX13_begin 199 = .ok (.iload 4, 2) := by decide +kernel
theorem dX13_begin_201 : decode cX13_begin 201 = .ok (.invokevirtual 210, 3) := by decide +kernel
theorem dX13_begin_204 : decode cX13_begin 204 = .ok (.iconst (-1), 1) := by decide +kernel
theorem dX13_begin_205 : decode cX13_begin 205 = .ok (.if_icmp .eq 20, 3) := by decide +kernel
theorem dX13_begin_208 : decode cX13_begin 208 = .ok (.aload_n 0, 1) := by decide +kernel
theorem dX13_begin_209 : decode cX13_begin 209 = .ok (.getfield 50, 3) := by decide +kernel
theorem dX13_begin_212 : decode cX13_begin 212 = .ok (.aload_n 0, 1) := by decide +kernel
theorem dX13_begin_213 : decode cX13_begin 213 = .ok (.getfield 68, 3) := by decide +kernel
theorem dX13_begin_216 : decode cX13_begin 216 = .ok (.iload 4, 2) := by decide +kernel
theorem dX13_begin_218 : decode cX13_begin 218 = .ok (.invokevirtual 210, 3) := by decide +kernel
theorem dX13_begin_221 : decode cX13_begin 221 = .ok (.iconst 0, 1) := by decide +kernel
theorem dX13_begin_222 : decode cX13_begin 222 = .ok (.invokevirtual 167, 3) := by decide +kernel
theorem dX13_begin_225 : decode cX13_begin 225 = .ok (.iinc 4 1, 3) := by decide +kernel
theorem dX13_begin_228 : decode cX13_begin 228 = .ok (.goto (-65), 3) := by decide +kernel
theorem dX13_begin_231 : decode cX13_begin 231 = .ok (.aload_n 0, 1) := by decide +kernel
theorem dX13_begin_232 : decode cX13_begin 232 = .ok (.getfield 25, 3) := by decide +kernel
theorem dX13_begin_235 : decode cX13_begin 235 = .ok (.iload_n 1, 1) := by decide +kernel
theorem dX13_begin_236 : decode cX13_begin 236 = .ok (.invokevirtual 155, 3) := by decide +kernel
theorem dX13_begin_239 : decode cX13_begin 239 = .ok (.istore 4, 2) := by decide +kernel
theorem dX13_begin_241 : decode cX13_begin 241 = .ok (.aload_n 0, 1) := by decide +kernel
theorem dX13_begin_242 : decode cX13_begin 242 = .ok (.getfield 25, 3) := by decide +kernel
theorem dX13_begin_245 : decode cX13_begin 245 = .ok (.iload 4, 2) := by decide +kernel
theorem dX13_begin_247 : decode cX13_begin 247 = .ok (.invokevirtual 158, 3) := by decide +kernel
theorem dX13_begin_250 : decode cX13_begin 250 = .ok (.iconst 5, 1) := by decide +kernel
theorem dX13_begin_251 : decode cX13_begin 251 = .ok (.if_icmp .ne 137, 3) := by decide +kernel
theorem dX13_begin_254 : decode cX13_begin 254 = .ok (.aload_n 0, 1) := by decide +kernel
theorem dX13_begin_255 : decode cX13_begin 255 = .ok (.getfield 25, 3) := by decide +kernel
theorem dX13_begin_258 : decode cX13_begin 258 = .ok (.iload 4, 2) := by decide +kernel
theorem dX13_begin_260 : decode cX13_begin 260 = .ok (.invokevirtual 213, 3) := by decide +kernel
theorem dX13_begin_263 : decode cX13_begin 263 = .ok (.istore 5, 2) := by decide +kernel
theorem dX13_begin_265 : decode cX13_begin 265 = .ok (.aload_n 0, 1) := by decide +kernel
theorem dX13_begin_266 : decode cX13_begin 266 = .ok (.getfield 68, 3) := by decide +kernel
theorem dX13_begin_269 : decode cX13_begin 269 = .ok (.iload 5, 2) := by decide +kernel
theorem dX13_begin_271 : decode cX13_begin 271 = .ok (.invokevirtual 210, 3) := by decide +kernel
theorem dX13_begin_274 : decode cX13_begin 274 = .ok (.iconst (-1), 1) := by decide +kernel
theorem dX13_begin_275 : decode cX13_begin 275 = .ok (.if_icmp .eq 99, 3) := by decide +kernel
theorem dX13_begin_278 : decode cX13_begin 278 = .ok (.aload_n 0, 1) := by decide +kernel
theorem dX13_begin_279 : decode cX13_begin 279 = .ok (.getfield 39, 3) := by decide +kernel
theorem dX13_begin_282 : decode cX13_begin 282 = .ok (.iload 5, 2) := by decide +kernel
theorem dX13_begin_284 : decode cX13_begin 284 = .ok (.invokevirtual 215, 3) := by decide +kernel
theorem dX13_begin_287 : decode cX13_begin 287 = .ok (.iconst (-1), 1) := by decide +kernel
theorem dX13_begin_288 : decode cX13_begin 288 = .ok (.if_icmp .ne 7, 3) := by decide +kernel
theorem dX13_begin_291 : decode cX13_begin 291 = .ok (.iconst 1, 1) := by decide +kernel
theorem dX13_begin_292 : decode cX13_begin 292 = .ok (.goto 4, 3) := by decide +kernel
theorem dX13_begin_295 : decode cX13_begin 295 = .ok (.iconst 0, 1) := by decide +kernel
theorem dX13_begin_296 : decode cX13_begin 296 = .ok (.istore 6, 2) := by decide +kernel
theorem dX13_begin_298 : decode cX13_begin 298 = .ok (.aload_n 0, 1) := by decide +kernel
theorem dX13_begin_299 : decode cX13_begin 299 = .ok (.getfield 50, 3) := by decide +kernel
theorem dX13_begin_302 : decode cX13_begin 302 = .ok (.aload_n 0, 1) := by decide +kernel
theorem dX13_begin_303 : decode cX13_begin 303 = .ok (.getfield 68, 3) := by decide +kernel
theorem dX13_begin_306 : decode cX13_begin 306 = .ok (.iload 5, 2) := by decide +kernel
theorem dX13_begin_308 : decode cX13_begin 308 = .ok (.invokevirtual 210, 3) := by decide +kernel
theorem dX13_begin_311 : decode cX13_begin 311 = .ok (.bipush 8, 2) := by decide +kernel
theorem dX13_begin_313 : decode cX13_begin 313 = .ok (.aload_n 0, 1) := by decide +kernel
theorem dX13_begin_314 : decode cX13_begin 314 = .ok (.getfield 68, 3) := by decide +kernel
theorem dX13_begin_317 : decode cX13_begin 317 = .ok (.iload 5, 2) := by decide +kernel
theorem dX13_begin_319 : decode cX13_begin 319 = .ok (.invokevirtual 218, 3) := by decide +kernel
theorem dX13_begin_322 : decode cX13_begin 322 = .ok (.ineg, 1) := by decide +kernel
theorem dX13_begin_323 : decode cX13_begin 323 = .ok (.iload 6, 2) := by decide +kernel
theorem dX13_begin_325 : decode cX13_begin 325 = .ok (.ifCond .eq 7, 3) := by decide +kernel
theorem dX13_begin_328 : decode cX13_begin 328 = .ok (.iconst 4, 1) := by decide +kernel
theorem dX13_begin_329 : decode cX13_begin 329 = .ok (.goto 4, 3) := by decide +kernel
theorem dX13_begin_332 : decode cX13_begin 332 = .ok (.iconst 0, 1) := by decide +kernel
theorem dX13_begin_333 : decode cX13_begin 333 = .ok (.iadd, 1) := by decide +kernel
theorem dX13_begin_334 : decode cX13_begin 334 = .ok (.bipush 7, 2) := by decide +kernel
theorem dX13_begin_336 : decode cX13_begin 336 = .ok (.invokevirtual 221, 3) := by decide +kernel
theorem dX13_begin_339 : decode cX13_begin 339 = .ok (.iload 6, 2) := by decide +kernel
theorem dX13_begin_341 : decode cX13_begin 341 = .ok (.ifCond .eq 33, 3) := by decide +kernel
theorem dX13_begin_344 : decode cX13_begin 344 = .ok (.aload_n 0, 1) := by decide +kernel
theorem dX13_begin_345 : decode cX13_begin 345 = .ok (.getfield 50, 3) := by decide +kernel
theorem dX13_begin_348 : decode cX13_begin 348 = .ok (.aload_n 0, 1) := by decide +kernel
theorem dX13_begin_349 : decode cX13_begin 349 = .ok (.getfield 68, 3) := by decide +kernel
theorem dX13_begin_352 : decode cX13_begin 352 = .ok (.iload 5, 2) := by decide +kernel
theorem dX13_begin_354 : decode cX13_begin 354 = .ok (.invokevirtual 224, 3) := by decide +kernel
theorem dX13_begin_357 : decode cX13_begin 357 = .ok (.bipush 8, 2) := by decide +kernel
theorem dX13_begin_359 : decode cX13_begin 359 = .ok (.aload_n 0, 1) := by decide +kernel
theorem dX13_begin_360 : decode cX13_begin 360 = .ok (.getfield 68, 3) := by decide +kernel
theorem dX13_begin_363 : decode cX13_begin 363 = .ok (.iload 5, 2) := by decide +kernel
theorem dX13_begin_365 : decode cX13_begin 365 = .ok (.invokevirtual 218, 3) := by decide +kernel
theorem dX13_begin_368 : decode cX13_begin 368 = .ok (.ineg, 1) := by decide +kernel
theorem dX13_begin_369 : decode cX13_begin 369 = .ok (.bipush 7, 2) := by decide +kernel
theorem dX13_begin_371 : decode cX13_begin 371 = .ok (.invokevirtual 221, 3) := by decide +kernel
theorem dX13_begin_374 : decode cX13_begin 374 = .ok (.aload_n 0, 1) := by decide +kernel
theorem dX13_begin_375 : decode cX13_begin 375 = .ok (.getfield 25, 3) := by decide +kernel
theorem dX13_begin_378 : decode cX13_begin 378 = .ok (.iload 4, 2) := by decide +kernel
theorem dX13_begin_380 : decode cX13_begin 380 = .ok (.invokevirtual 161, 3) := by decide +kernel
theorem dX13_begin_383 : decode cX13_begin 383 = .ok (.istore 4, 2) := by decide +kernel
theorem dX13_begin_385 : decode cX13_begin 385 = .ok (.goto (-144), 3) := by decide +kernel
theorem dX13_begin_388 : decode cX13_begin 388 = .ok (.iload_n 2, 1) := by decide +kernel
theorem dX13_begin_389 : decode cX13_begin 389 = .ok (.ireturn, 1) := by decide +kernel
theorem dX13_clear_0 : decode cX13_clear 0 = .ok (.iload_n 3, 1) := by decide +kernel
theorem dX13_clear_1 : decode cX13_clear 1 = .ok (.bipush 8, 2) := by decide +kernel
theorem dX13_clear_3 : decode cX13_clear 3 = .ok (.if_icmp .gt 36, 3) := by decide +kernel
theorem dX13_clear_6 : decode cX13_clear 6 = .ok (.iconst 0, 1) := by decide +kernel
theorem dX13_clear_7 : decode cX13_clear 7 = .ok (.istore 4, 2) := by decide +kernel
theorem dX13_clear_9 : decode cX13_clear 9 = .ok (.iload 4, 2) := by decide +kernel
theorem dX13_clear_11 : decode cX13_clear 11 = .ok (.iload_n 3, 1) := by decide +kernel
theorem dX13_clear_12 : decode cX13_clear 12 = .ok (.if_icmp .ge 26, 3) := by decide +kernel
theorem dX13_clear_15 : decode cX13_clear 15 = .ok (.aload_n 0, 1) := by decide +kernel
theorem dX13_clear_16 : decode cX13_clear 16 = .ok (.getfield 50, 3) := by decide +kernel
theorem dX13_clear_19 : decode cX13_clear 19 = .ok (.iconst 0, 1) := by decide +kernel
theorem dX13_clear_20 : decode cX13_clear 20 = .ok (.iload_n 1, 1) := by decide +kernel
theorem dX13_clear_21 : decode cX13_clear 21 = .ok (.iload_n 2, 1) := by decide +kernel
theorem dX13_clear_22 : decode cX13_clear 22 = .ok (.iconst 4, 1) := by decide +kernel
theorem dX13_clear_23 : decode cX13_clear 23 = .ok (.iload 4, 2) := by decide +kernel
theorem dX13_clear_25 : decode cX13_clear 25 = .ok (.imul, 1) := by decide +kernel
theorem dX13_clear_26 : decode cX13_clear 26 = .ok (.iadd, 1) := by decide +kernel
theorem dX13_clear_27 : decode cX13_clear 27 = .ok (.bipush 7, 2) := by decide +kernel
theorem dX13_clear_29 : decode cX13_clear 29 = .ok (.invokevirtual 192, 3) := by decide +kernel
theorem dX13_clear_32 : decode cX13_clear 32 = .ok (.iinc 4 1, 3) := by decide +kernel
theorem dX13_clear_35 : decode cX13_clear 35 = .ok (.goto (-26), 3) := by decide +kernel
theorem dX13_clear_38 : decode cX13_clear 38 = .ok (.return_, 1) := by decide +kernel
theorem dX13_clear_39 : decode cX13_clear 39 = .ok (.aload_n 0, 1) := by decide +kernel
theorem dX13_clear_40 : decode cX13_clear 40 = .ok (.getfield 50, 3) := by decide +kernel
theorem dX13_clear_43 : decode cX13_clear 43 = .ok (.iconst 5, 1) := by decide +kernel
theorem dX13_clear_44 : decode cX13_clear 44 = .ok (.iload_n 1, 1) := by decide +kernel
theorem dX13_clear_45 : decode cX13_clear 45 = .ok (.iload_n 2, 1) := by decide +kernel
theorem dX13_clear_46 : decode cX13_clear 46 = .ok (.iconst 5, 1) := by decide +kernel
theorem dX13_clear_47 : decode cX13_clear 47 = .ok (.invokevirtual 143, 3) := by decide +kernel
theorem dX13_clear_50 : decode cX13_clear 50 = .ok (.aload_n 0, 1) := by decide +kernel
theorem dX13_clear_51 : decode cX13_clear 51 = .ok (.getfield 50, 3) := by decide +kernel
theorem dX13_clear_54 : decode cX13_clear 54 = .ok (.bipush 6, 2) := by decide +kernel
theorem dX13_clear_56 : decode cX13_clear 56 = .ok (.iload_n 1, 1) := by decide +kernel
theorem dX13_clear_57 : decode cX13_clear 57 = .ok (.iload_n 2, 1) := by decide +kernel
theorem dX13_clear_58 : decode cX13_clear 58 = .ok (.iconst 4, 1) := by decide +kernel
theorem dX13_clear_59 : decode cX13_clear 59 = .ok (.iload_n 3, 1) := by decide +kernel
theorem dX13_clear_60 : decode cX13_clear 60 = .ok (.imul, 1) := by decide +kernel
theorem dX13_clear_61 : decode cX13_clear 61 = .ok (.iadd, 1) := by decide +kernel
theorem dX13_clear_62 : decode cX13_clear 62 = .ok (.bipush 6, 2) := by decide +kernel
theorem dX13_clear_64 : decode cX13_clear 64 = .ok (.invokevirtual 143, 3) := by decide +kernel
theorem dX13_clear_67 : decode cX13_clear 67 = .ok (.aload_n 0, 1) := by decide +kernel
theorem dX13_clear_68 : decode cX13_clear 68 = .ok (.getfield 50, 3) := by decide +kernel
theorem dX13_clear_71 : decode cX13_clear 71 = .ok (.invokevirtual 85, 3) := by decide +kernel
theorem dX13_clear_74 : decode cX13_clear 74 = .ok (.istore 4, 2) := by decide +kernel
theorem dX13_clear_76 : decode cX13_clear 76 = .ok (.aload_n 0, 1) := by decide +kernel
theorem dX13_clear_77 : decode cX13_clear 77 = .ok (.getfield 50, 3) := by decide +kernel
theorem dX13_clear_80 : decode cX13_clear 80 = .ok (.iload 4, 2) := by decide +kernel
theorem dX13_clear_82 : decode cX13_clear 82 = .ok (.invokevirtual 104, 3) := by decide +kernel
theorem dX13_clear_85 : decode cX13_clear 85 = .ok (.aload_n 0, 1) := by decide +kernel
theorem dX13_clear_86 : decode cX13_clear 86 = .ok (.getfield 50, 3) := by decide +kernel
theorem dX13_clear_89 : decode cX13_clear 89 = .ok (.iconst 2, 1) := by decide +kernel
theorem dX13_clear_90 : decode cX13_clear 90 = .ok (.iconst 5, 1) := by decide +kernel
theorem dX13_clear_91 : decode cX13_clear 91 = .ok (.iconst 0, 1) := by decide +kernel
theorem dX13_clear_92 : decode cX13_clear 92 = .ok (.iconst 0, 1) := by decide +kernel
theorem dX13_clear_93 : decode cX13_clear 93 = .ok (.invokevirtual 90, 3) := by decide +kernel
theorem dX13_clear_96 : decode cX13_clear 96 = .ok (.aload_n 0, 1) := by decide +kernel
theorem dX13_clear_97 : decode cX13_clear 97 = .ok (.getfield 50, 3) := by decide +kernel
theorem dX13_clear_100 : decode cX13_clear 100 = .ok (.iconst 0, 1) := by decide +kernel
theorem dX13_clear_101 : decode cX13_clear 101 = .ok (.iconst 5, 1) := by decide +kernel
theorem dX13_clear_102 : decode cX13_clear 102 = .ok (.iconst 5, 1) := by decide +kernel
theorem dX13_clear_103 : decode cX13_clear 103 = .ok (.iconst 4, 1) := by decide +kernel
theorem dX13_clear_104 : decode cX13_clear 104 = .ok (.invokevirtual 179, 3) := by decide +kernel
theorem dX13_clear_107 : decode cX13_clear 107 = .ok (.aload_n 0, 1) := by decide +kernel
theorem dX13_clear_108 : decode cX13_clear 108 = .ok (.getfield 50, 3) := by decide +kernel
theorem dX13_clear_111 : decode cX13_clear 111 = .ok (.iconst 1, 1) := by decide +kernel
theorem dX13_clear_112 : decode cX13_clear 112 = .ok (.iconst 5, 1) := by decide +kernel
theorem dX13_clear_113 : decode cX13_clear 113 = .ok (.bipush 6, 2) := by decide +kernel
theorem dX13_clear_115 : decode cX13_clear 115 = .ok (.iload 4, 2) := by decide +kernel
theorem dX13_clear_117 : decode cX13_clear 117 = .ok (.invokevirtual 149, 3) := by decide +kernel
theorem dX13_clear_120 : decode cX13_clear 120 = .ok (.return_, 1) := by decide +kernel
theorem dX13_statements_0 : decode cX13_statements 0 = .ok (.aload_n 0, 1) := by decide +kernel
theorem dX13_statements_1 : decode cX13_statements 1 = .ok (.getfield 25, 3) := by decide +kernel
theorem dX13_statements_4 : decode cX13_statements 4 = .ok (.iload_n 1, 1) := by decide +kernel
theorem dX13_statements_5 : decode cX13_statements 5 = .ok (.invokevirtual 155, 3) := by decide +kernel
theorem dX13_statements_8 : decode cX13_statements 8 = .ok (.istore_n 2, 1) := by decide +kernel
theorem dX13_statements_9 : decode cX13_statements 9 = .ok (.iload_n 2, 1) := by decide +kernel
theorem dX13_statements_10 : decode cX13_statements 10 = .ok (.iconst (-1), 1) := by decide +kernel
theorem dX13_statements_11 : decode cX13_statements 11 = .ok (.if_icmp .eq 20, 3) := by decide +kernel
theorem dX13_statements_14 : decode cX13_statements 14 = .ok (.aload_n 0, 1) := by decide +kernel
theorem dX13_statements_15 : decode cX13_statements 15 = .ok (.iload_n 2, 1) := by decide +kernel
theorem dX13_statements_16 : decode cX13_statements 16 = .ok (.invokevirtual 255, 3) := by decide +kernel
theorem dX13_statements_19 : decode cX13_statements 19 = .ok (.aload_n 0, 1) := by decide +kernel
theorem dX13_statements_20 : decode cX13_statements 20 = .ok (.getfield 25, 3) := by decide +kernel
theorem dX13_statements_23 : decode cX13_statements 23 = .ok (.iload_n 2, 1) := by decide +kernel
theorem dX13_statements_24 : decode cX13_statements 24 = .ok (.invokevirtual 161, 3) := by decide +kernel
theorem dX13_statements_27 : decode cX13_statements 27 = .ok (.istore_n 2, 1) := by decide +kernel
theorem dX13_statements_28 : decode cX13_statements 28 = .ok (.goto (-19), 3) := by decide +kernel
theorem dX13_statements_31 : decode cX13_statements 31 = .ok (.return_, 1) := by decide +kernel
theorem dX13_statement_0 : decode cX13_statement 0 = .ok (.aload_n 0, 1) := by decide +kernel
theorem dX13_statement_1 : decode cX13_statement 1 = .ok (.getfield 25, 3) := by decide +kernel
theorem dX13_statement_4 : decode cX13_statement 4 = .ok (.iload_n 1, 1) := by decide +kernel
theorem dX13_statement_5 : decode cX13_statement 5 = .ok (.invokevirtual 155, 3) := by decide +kernel
theorem dX13_statement_8 : decode cX13_statement 8 = .ok (.istore_n 2, 1) := by decide +kernel
theorem dX13_statement_9 : decode cX13_statement 9 = .ok (.aload_n 0, 1) := by decide +kernel
theorem dX13_statement_10 : decode cX13_statement 10 = .ok (.getfield 25, 3) := by decide +kernel
theorem dX13_statement_13 : decode cX13_statement 13 = .ok (.iload_n 1, 1) := by decide +kernel
theorem dX13_statement_14 : decode cX13_statement 14 = .ok (.invokevirtual 158, 3) := by decide +kernel
theorem dX13_statement_17 : decode cX13_statement 17 = .ok (.tableswitch 227 6 22 #[91, 227, 227, 227, 83, 227, 118, 128, 136, 154, 172, 180, 227, 227, 189, 204, 219], 83) := by decide +kernel
theorem dX13_statement_100 : decode cX13_statement 100 = .ok (.aload_n 0, 1) := by decide +kernel
theorem dX13_statement_101 : decode cX13_statement 101 = .ok (.iload_n 1, 1) := by decide +kernel
theorem dX13_statement_102 : decode cX13_statement 102 = .ok (.invokevirtual 164, 3) := by decide +kernel
theorem dX13_statement_105 : decode cX13_statement 105 = .ok (.goto 139, 3) := by decide +kernel
theorem dX13_statement_108 : decode cX13_statement 108 = .ok (.iload_n 2, 1) := by decide +kernel
theorem dX13_statement_109 : decode cX13_statement 109 = .ok (.istore_n 3, 1) := by decide +kernel
theorem dX13_statement_110 : decode cX13_statement 110 = .ok (.iload_n 3, 1) := by decide +kernel
theorem dX13_statement_111 : decode cX13_statement 111 = .ok (.iconst (-1), 1) := by decide +kernel
theorem dX13_statement_112 : decode cX13_statement 112 = .ok (.if_icmp .eq 20, 3) := by decide +kernel
theorem dX13_statement_115 : decode cX13_statement 115 = .ok (.aload_n 0, 1) := by decide +kernel
theorem dX13_statement_116 : decode cX13_statement 116 = .ok (.iload_n 3, 1) := by decide +kernel
theorem dX13_statement_117 : decode cX13_statement 117 = .ok (.invokevirtual 258, 3) := by decide +kernel
theorem dX13_statement_120 : decode cX13_statement 120 = .ok (.aload_n 0, 1) := by decide +kernel
theorem dX13_statement_121 : decode cX13_statement 121 = .ok (.getfield 25, 3) := by decide +kernel
theorem dX13_statement_124 : decode cX13_statement 124 = .ok (.iload_n 3, 1) := by decide +kernel
theorem dX13_statement_125 : decode cX13_statement 125 = .ok (.invokevirtual 161, 3) := by decide +kernel
theorem dX13_statement_128 : decode cX13_statement 128 = .ok (.istore_n 3, 1) := by decide +kernel
theorem dX13_statement_129 : decode cX13_statement 129 = .ok (.goto (-19), 3) := by decide +kernel
theorem dX13_statement_132 : decode cX13_statement 132 = .ok (.goto 112, 3) := by decide +kernel
theorem dX13_statement_135 : decode cX13_statement 135 = .ok (.aload_n 0, 1) := by decide +kernel
theorem dX13_statement_136 : decode cX13_statement 136 = .ok (.iload_n 2, 1) := by decide +kernel
theorem dX13_statement_137 : decode cX13_statement 137 = .ok (.iconst 0, 1) := by decide +kernel
theorem dX13_statement_138 : decode cX13_statement 138 = .ok (.invokevirtual 261, 3) := by decide +kernel
theorem dX13_statement_141 : decode cX13_statement 141 = .ok (.pop, 1) := by decide +kernel
theorem dX13_statement_142 : decode cX13_statement 142 = .ok (.goto 102, 3) := by decide +kernel
theorem dX13_statement_145 : decode cX13_statement 145 = .ok (.aload_n 0, 1) := by decide +kernel
theorem dX13_statement_146 : decode cX13_statement 146 = .ok (.iload_n 2, 1) := by decide +kernel
theorem dX13_statement_147 : decode cX13_statement 147 = .ok (.invokevirtual 264, 3) := by decide +kernel
theorem dX13_statement_150 : decode cX13_statement 150 = .ok (.goto 94, 3) := by decide +kernel
theorem dX13_statement_153 : decode cX13_statement 153 = .ok (.aload_n 0, 1) := by decide +kernel
theorem dX13_statement_154 : decode cX13_statement 154 = .ok (.iload_n 2, 1) := by decide +kernel
theorem dX13_statement_155 : decode cX13_statement 155 = .ok (.iconst (-1), 1) := by decide +kernel
theorem dX13_statement_156 : decode cX13_statement 156 = .ok (.aload_n 0, 1) := by decide +kernel
theorem dX13_statement_157 : decode cX13_statement 157 = .ok (.getfield 25, 3) := by decide +kernel
theorem dX13_statement_160 : decode cX13_statement 160 = .ok (.iload_n 2, 1) := by decide +kernel
theorem dX13_statement_161 : decode cX13_statement 161 = .ok (.invokevirtual 161, 3) := by decide +kernel
theorem dX13_statement_164 : decode cX13_statement 164 = .ok (.iconst 1, 1) := by decide +kernel
theorem dX13_statement_165 : decode cX13_statement 165 = .ok (.invokevirtual 267, 3) := by decide +kernel
theorem dX13_statement_168 : decode cX13_statement 168 = .ok (.goto 76, 3) := by decide +kernel
theorem dX13_statement_171 : decode cX13_statement 171 = .ok (.aload_n 0, 1) := by decide +kernel
theorem dX13_statement_172 : decode cX13_statement 172 = .ok (.aload_n 0, 1) := by decide +kernel
theorem dX13_statement_173 : decode cX13_statement 173 = .ok (.getfield 25, 3) := by decide +kernel
theorem dX13_statement_176 : decode cX13_statement 176 = .ok (.iload_n 2, 1) := by decide +kernel
theorem dX13_statement_177 : decode cX13_statement 177 = .ok (.invokevirtual 161, 3) := by decide +kernel
theorem dX13_statement_180 : decode cX13_statement 180 = .ok (.iconst (-1), 1) := by decide +kernel
theorem dX13_statement_181 : decode cX13_statement 181 = .ok (.iload_n 2, 1) := by decide +kernel
theorem dX13_statement_182 : decode cX13_statement 182 = .ok (.iconst 0, 1) := by decide +kernel
theorem dX13_statement_183 : decode cX13_statement 183 = .ok (.invokevirtual 267, 3) := by decide +kernel
theorem dX13_statement_186 : decode cX13_statement 186 = .ok (.goto 58, 3) := by decide +kernel
theorem dX13_statement_189 : decode cX13_statement 189 = .ok (.aload_n 0, 1) := by decide +kernel
theorem dX13_statement_190 : decode cX13_statement 190 = .ok (.iload_n 2, 1) := by decide +kernel
theorem dX13_statement_191 : decode cX13_statement 191 = .ok (.invokevirtual 271, 3) := by decide +kernel
theorem dX13_statement_194 : decode cX13_statement 194 = .ok (.goto 50, 3) := by decide +kernel
theorem dX13_statement_197 : decode cX13_statement 197 = .ok (.aload_n 0, 1) := by decide +kernel
theorem dX13_statement_198 : decode cX13_statement 198 = .ok (.iload_n 1, 1) := by decide +kernel
theorem dX13_statement_199 : decode cX13_statement 199 = .ok (.iload_n 2, 1) := by decide +kernel
theorem dX13_statement_200 : decode cX13_statement 200 = .ok (.invokevirtual 274, 3) := by decide +kernel
theorem dX13_statement_203 : decode cX13_statement 203 = .ok (.goto 41, 3) := by decide +kernel
theorem dX13_statement_206 : decode cX13_statement 206 = .ok (.aload_n 0, 1) := by decide +kernel
theorem dX13_statement_207 : decode cX13_statement 207 = .ok (.getfield 50, 3) := by decide +kernel
theorem dX13_statement_210 : decode cX13_statement 210 = .ok (.iconst 0, 1) := by decide +kernel
theorem dX13_statement_211 : decode cX13_statement 211 = .ok (.aload_n 0, 1) := by decide +kernel
theorem dX13_statement_212 : decode cX13_statement 212 = .ok (.getfield 131, 3) := by decide +kernel
theorem dX13_statement_215 : decode cX13_statement 215 = .ok (.invokevirtual 94, 3) := by decide +kernel
theorem dX13_statement_218 : decode cX13_statement 218 = .ok (.goto 26, 3) := by decide +kernel
theorem dX13_statement_221 : decode cX13_statement 221 = .ok (.aload_n 0, 1) := by decide +kernel
theorem dX13_statement_222 : decode cX13_statement 222 = .ok (.getfield 50, 3) := by decide +kernel
theorem dX13_statement_225 : decode cX13_statement 225 = .ok (.iconst 0, 1) := by decide +kernel
theorem dX13_statement_226 : decode cX13_statement 226 = .ok (.aload_n 0, 1) := by decide +kernel
theorem dX13_statement_227 : decode cX13_statement 227 = .ok (.getfield 134, 3) := by decide +kernel
theorem dX13_statement_230 : decode cX13_statement 230 = .ok (.invokevirtual 94, 3) := by decide +kernel
theorem dX13_statement_233 : decode cX13_statement 233 = .ok (.goto 11, 3) := by decide +kernel
theorem dX13_statement_236 : decode cX13_statement 236 = .ok (.aload_n 0, 1) := by decide +kernel
theorem dX13_statement_237 : decode cX13_statement 237 = .ok (.iload_n 2, 1) := by decide +kernel
theorem dX13_statement_238 : decode cX13_statement 238 = .ok (.invokevirtual 277, 3) := by decide +kernel
theorem dX13_statement_241 : decode cX13_statement 241 = .ok (.goto 3, 3) := by decide +kernel
theorem dX13_statement_244 : decode cX13_statement 244 = .ok (.return_, 1) := by decide +kernel
theorem dX13_variable_0 : decode cX13_variable 0 = .ok (.aload_n 0, 1) := by decide +kernel
theorem dX13_variable_1 : decode cX13_variable 1 = .ok (.getfield 25, 3) := by decide +kernel
theorem dX13_variable_4 : decode cX13_variable 4 = .ok (.iload_n 1, 1) := by decide +kernel
theorem dX13_variable_5 : decode cX13_variable 5 = .ok (.invokevirtual 207, 3) := by decide +kernel
theorem dX13_variable_8 : decode cX13_variable 8 = .ok (.istore_n 2, 1) := by decide +kernel
theorem dX13_variable_9 : decode cX13_variable 9 = .ok (.aload_n 0, 1) := by decide +kernel
theorem dX13_variable_10 : decode cX13_variable 10 = .ok (.getfield 25, 3) := by decide +kernel
theorem dX13_variable_13 : decode cX13_variable 13 = .ok (.iload_n 1, 1) := by decide +kernel
theorem dX13_variable_14 : decode cX13_variable 14 = .ok (.invokevirtual 155, 3) := by decide +kernel
theorem dX13_variable_17 : decode cX13_variable 17 = .ok (.istore_n 3, 1) := by decide +kernel
theorem dX13_variable_18 : decode cX13_variable 18 = .ok (.aload_n 0, 1) := by decide +kernel
theorem dX13_variable_19 : decode cX13_variable 19 = .ok (.getfield 25, 3) := by decide +kernel
theorem dX13_variable_22 : decode cX13_variable 22 = .ok (.iload_n 1, 1) := by decide +kernel
theorem dX13_variable_23 : decode cX13_variable 23 = .ok (.invokevirtual 123, 3) := by decide +kernel
theorem dX13_variable_26 : decode cX13_variable 26 = .ok (.iconst 1, 1) := by decide +kernel
theorem dX13_variable_27 : decode cX13_variable 27 = .ok (.if_icmp .ne 19, 3) := by decide +kernel
theorem dX13_variable_30 : decode cX13_variable 30 = .ok (.aload_n 0, 1) := by decide +kernel
theorem dX13_variable_31 : decode cX13_variable 31 = .ok (.iload_n 2, 1) := by decide +kernel
theorem dX13_variable_32 : decode cX13_variable 32 = .ok (.aload_n 0, 1) := by decide +kernel
theorem dX13_variable_33 : decode cX13_variable 33 = .ok (.getfield 25, 3) := by decide +kernel
theorem dX13_variable_36 : decode cX13_variable 36 = .ok (.iload_n 3, 1) := by decide +kernel
theorem dX13_variable_37 : decode cX13_variable 37 = .ok (.invokevirtual 161, 3) := by decide +kernel
theorem dX13_variable_40 : decode cX13_variable 40 = .ok (.invokevirtual 293, 3) := by decide +kernel
theorem dX13_variable_43 : decode cX13_variable 43 = .ok (.goto 36, 3) := by decide +kernel
theorem dX13_variable_46 : decode cX13_variable 46 = .ok (.iload_n 3, 1) := by decide +kernel
theorem dX13_variable_47 : decode cX13_variable 47 = .ok (.iconst (-1), 1) := by decide +kernel
theorem dX13_variable_48 : decode cX13_variable 48 = .ok (.if_icmp .ne 7, 3) := by decide +kernel
theorem dX13_variable_51 : decode cX13_variable 51 = .ok (.iconst 0, 1) := by decide +kernel
theorem dX13_variable_52 : decode cX13_variable 52 = .ok (.goto 16, 3) := by decide +kernel
theorem dX13_variable_55 : decode cX13_variable 55 = .ok (.aload_n 0, 1) := by decide +kernel
theorem dX13_variable_56 : decode cX13_variable 56 = .ok (.aload_n 0, 1) := by decide +kernel
theorem dX13_variable_57 : decode cX13_variable 57 = .ok (.getfield 25, 3) := by decide +kernel
theorem dX13_variable_60 : decode cX13_variable 60 = .ok (.iload_n 3, 1) := by decide +kernel
theorem dX13_variable_61 : decode cX13_variable 61 = .ok (.invokevirtual 155, 3) := by decide +kernel
theorem dX13_variable_64 : decode cX13_variable 64 = .ok (.iconst 0, 1) := by decide +kernel
theorem dX13_variable_65 : decode cX13_variable 65 = .ok (.invokevirtual 261, 3) := by decide +kernel
theorem dX13_variable_68 : decode cX13_variable 68 = .ok (.istore 4, 2) := by decide +kernel
theorem dX13_variable_70 : decode cX13_variable 70 = .ok (.aload_n 0, 1) := by decide +kernel
theorem dX13_variable_71 : decode cX13_variable 71 = .ok (.iload_n 2, 1) := by decide +kernel
theorem dX13_variable_72 : decode cX13_variable 72 = .ok (.iload 4, 2) := by decide +kernel
theorem dX13_variable_74 : decode cX13_variable 74 = .ok (.iconst 0, 1) := by decide +kernel
theorem dX13_variable_75 : decode cX13_variable 75 = .ok (.invokevirtual 296, 3) := by decide +kernel
theorem dX13_variable_78 : decode cX13_variable 78 = .ok (.pop, 1) := by decide +kernel
theorem dX13_variable_79 : decode cX13_variable 79 = .ok (.return_, 1) := by decide +kernel
theorem dX13_array_0 : decode cX13_array 0 = .ok (.aload_n 0, 1) := by decide +kernel
theorem dX13_array_1 : decode cX13_array 1 = .ok (.getfield 39, 3) := by decide +kernel
theorem dX13_array_4 : decode cX13_array 4 = .ok (.iload_n 1, 1) := by decide +kernel
theorem dX13_array_5 : decode cX13_array 5 = .ok (.invokevirtual 317, 3) := by decide +kernel
theorem dX13_array_8 : decode cX13_array 8 = .ok (.iconst 1, 1) := by decide +kernel
theorem dX13_array_9 : decode cX13_array 9 = .ok (.if_icmp .ne 7, 3) := by decide +kernel
theorem dX13_array_12 : decode cX13_array 12 = .ok (.iconst 1, 1) := by decide +kernel
theorem dX13_array_13 : decode cX13_array 13 = .ok (.goto 4, 3) := by decide +kernel
theorem dX13_array_16 : decode cX13_array 16 = .ok (.iconst 0, 1) := by decide +kernel
theorem dX13_array_17 : decode cX13_array 17 = .ok (.istore_n 3, 1) := by decide +kernel
theorem dX13_array_18 : decode cX13_array 18 = .ok (.aload_n 0, 1) := by decide +kernel
theorem dX13_array_19 : decode cX13_array 19 = .ok (.getfield 68, 3) := by decide +kernel
theorem dX13_array_22 : decode cX13_array 22 = .ok (.iload_n 1, 1) := by decide +kernel
theorem dX13_array_23 : decode cX13_array 23 = .ok (.invokevirtual 218, 3) := by decide +kernel
theorem dX13_array_26 : decode cX13_array 26 = .ok (.ineg, 1) := by decide +kernel
theorem dX13_array_27 : decode cX13_array 27 = .ok (.istore 4, 2) := by decide +kernel
theorem dX13_array_29 : decode cX13_array 29 = .ok (.aload_n 0, 1) := by decide +kernel
theorem dX13_array_30 : decode cX13_array 30 = .ok (.iload_n 2, 1) := by decide +kernel
theorem dX13_array_31 : decode cX13_array 31 = .ok (.iload_n 3, 1) := by decide +kernel
theorem dX13_array_32 : decode cX13_array 32 = .ok (.invokevirtual 320, 3) := by decide +kernel
theorem dX13_array_35 : decode cX13_array 35 = .ok (.istore 5, 2) := by decide +kernel
theorem dX13_array_37 : decode cX13_array 37 = .ok (.iconst 0, 1) := by decide +kernel
theorem dX13_array_38 : decode cX13_array 38 = .ok (.istore 6, 2) := by decide +kernel
theorem dX13_array_40 : decode cX13_array 40 = .ok (.iload 6, 2) := by decide +kernel
theorem dX13_array_42 : decode cX13_array 42 = .ok (.iload 5, 2) := by decide +kernel
theorem dX13_array_44 : decode cX13_array 44 = .ok (.if_icmp .ge 44, 3) := by decide +kernel
theorem dX13_array_47 : decode cX13_array 47 = .ok (.aload_n 0, 1) := by decide +kernel
theorem dX13_array_48 : decode cX13_array 48 = .ok (.getfield 50, 3) := by decide +kernel
theorem dX13_array_51 : decode cX13_array 51 = .ok (.iconst 5, 1) := by decide +kernel
theorem dX13_array_52 : decode cX13_array 52 = .ok (.aload_n 0, 1) := by decide +kernel
theorem dX13_array_53 : decode cX13_array 53 = .ok (.iload_n 2, 1) := by decide +kernel
theorem dX13_array_54 : decode cX13_array 54 = .ok (.iload_n 3, 1) := by decide +kernel
theorem dX13_array_55 : decode cX13_array 55 = .ok (.iload 6, 2) := by decide +kernel
theorem dX13_array_57 : decode cX13_array 57 = .ok (.invokevirtual 324, 3) := by decide +kernel
theorem dX13_array_60 : decode cX13_array 60 = .ok (.invokevirtual 98, 3) := by decide +kernel
theorem dX13_array_63 : decode cX13_array 63 = .ok (.aload_n 0, 1) := by decide +kernel
theorem dX13_array_64 : decode cX13_array 64 = .ok (.getfield 50, 3) := by decide +kernel
theorem dX13_array_67 : decode cX13_array 67 = .ok (.iconst 5, 1) := by decide +kernel
theorem dX13_array_68 : decode cX13_array 68 = .ok (.bipush 8, 2) := by decide +kernel
theorem dX13_array_70 : decode cX13_array 70 = .ok (.iload 4, 2) := by decide +kernel
theorem dX13_array_72 : decode cX13_array 72 = .ok (.iconst 4, 1) := by decide +kernel
theorem dX13_array_73 : decode cX13_array 73 = .ok (.iload 6, 2) := by decide +kernel
theorem dX13_array_75 : decode cX13_array 75 = .ok (.imul, 1) := by decide +kernel
theorem dX13_array_76 : decode cX13_array 76 = .ok (.iadd, 1) := by decide +kernel
theorem dX13_array_77 : decode cX13_array 77 = .ok (.bipush 7, 2) := by decide +kernel
theorem dX13_array_79 : decode cX13_array 79 = .ok (.invokevirtual 192, 3) := by decide +kernel
theorem dX13_array_82 : decode cX13_array 82 = .ok (.iinc 6 1, 3) := by decide +kernel
theorem dX13_array_85 : decode cX13_array 85 = .ok (.goto (-45), 3) := by decide +kernel
theorem dX13_array_88 : decode cX13_array 88 = .ok (.iload 5, 2) := by decide +kernel
theorem dX13_array_90 : decode cX13_array 90 = .ok (.aload_n 0, 1) := by decide +kernel
theorem dX13_array_91 : decode cX13_array 91 = .ok (.getfield 39, 3) := by decide +kernel
theorem dX13_array_94 : decode cX13_array 94 = .ok (.iload_n 1, 1) := by decide +kernel
theorem dX13_array_95 : decode cX13_array 95 = .ok (.invokevirtual 82, 3) := by decide +kernel
theorem dX13_array_98 : decode cX13_array 98 = .ok (.if_icmp .ge 27, 3) := by decide +kernel
theorem dX13_array_101 : decode cX13_array 101 = .ok (.aload_n 0, 1) := by decide +kernel
theorem dX13_array_102 : decode cX13_array 102 = .ok (.bipush 8, 2) := by decide +kernel
theorem dX13_array_104 : decode cX13_array 104 = .ok (.iload 4, 2) := by decide +kernel
theorem dX13_array_106 : decode cX13_array 106 = .ok (.iconst 4, 1) := by decide +kernel
theorem dX13_array_107 : decode cX13_array 107 = .ok (.iload 5, 2) := by decide +kernel
theorem dX13_array_109 : decode cX13_array 109 = .ok (.imul, 1) := by decide +kernel
theorem dX13_array_110 : decode cX13_array 110 = .ok (.iadd, 1) := by decide +kernel
theorem dX13_array_111 : decode cX13_array 111 = .ok (.aload_n 0, 1) := by decide +kernel
theorem dX13_array_112 : decode cX13_array 112 = .ok (.getfield 39, 3) := by decide +kernel
theorem dX13_array_115 : decode cX13_array 115 = .ok (.iload_n 1, 1) := by decide +kernel
theorem dX13_array_116 : decode cX13_array 116 = .ok (.invokevirtual 82, 3) := by decide +kernel
theorem dX13_array_119 : decode cX13_array 119 = .ok (.iload 5, 2) := by decide +kernel
theorem dX13_array_121 : decode cX13_array 121 = .ok (.isub, 1) := by decide +kernel
theorem dX13_array_122 : decode cX13_array 122 = .ok (.invokevirtual 204, 3) := by decide +kernel
theorem dX13_array_125 : decode cX13_array 125 = .ok (.return_, 1) := by decide +kernel
theorem dX13_given_0 : decode cX13_given 0 = .ok (.iload_n 1, 1) := by decide +kernel
theorem dX13_given_1 : decode cX13_given 1 = .ok (.iconst (-1), 1) := by decide +kernel
theorem dX13_given_2 : decode cX13_given 2 = .ok (.if_icmp .ne 7, 3) := by decide +kernel
theorem dX13_given_5 : decode cX13_given 5 = .ok (.iconst 0, 1) := by decide +kernel
theorem dX13_given_6 : decode cX13_given 6 = .ok (.goto 35, 3) := by decide +kernel
theorem dX13_given_9 : decode cX13_given 9 = .ok (.aload_n 0, 1) := by decide +kernel
theorem dX13_given_10 : decode cX13_given 10 = .ok (.getfield 25, 3) := by decide +kernel
theorem dX13_given_13 : decode cX13_given 13 = .ok (.iload_n 1, 1) := by decide +kernel
theorem dX13_given_14 : decode cX13_given 14 = .ok (.invokevirtual 158, 3) := by decide +kernel
theorem dX13_given_17 : decode cX13_given 17 = .ok (.bipush 9, 2) := by decide +kernel
theorem dX13_given_19 : decode cX13_given 19 = .ok (.if_icmp .ne 14, 3) := by decide +kernel
theorem dX13_given_22 : decode cX13_given 22 = .ok (.aload_n 0, 1) := by decide +kernel
theorem dX13_given_23 : decode cX13_given 23 = .ok (.getfield 25, 3) := by decide +kernel
theorem dX13_given_26 : decode cX13_given 26 = .ok (.iload_n 1, 1) := by decide +kernel
theorem dX13_given_27 : decode cX13_given 27 = .ok (.invokevirtual 123, 3) := by decide +kernel
theorem dX13_given_30 : decode cX13_given 30 = .ok (.goto 11, 3) := by decide +kernel
theorem dX13_given_33 : decode cX13_given 33 = .ok (.aload_n 0, 1) := by decide +kernel
theorem dX13_given_34 : decode cX13_given 34 = .ok (.getfield 25, 3) := by decide +kernel
theorem dX13_given_37 : decode cX13_given 37 = .ok (.iload_n 1, 1) := by decide +kernel
theorem dX13_given_38 : decode cX13_given 38 = .ok (.invokevirtual 314, 3) := by decide +kernel
theorem dX13_given_41 : decode cX13_given 41 = .ok (.istore_n 3, 1) := by decide +kernel
theorem dX13_given_42 : decode cX13_given 42 = .ok (.iload_n 2, 1) := by decide +kernel
theorem dX13_given_43 : decode cX13_given 43 = .ok (.ifCond .eq 11, 3) := by decide +kernel
theorem dX13_given_46 : decode cX13_given 46 = .ok (.iload_n 3, 1) := by decide +kernel
theorem dX13_given_47 : decode cX13_given 47 = .ok (.iconst 3, 1) := by decide +kernel
theorem dX13_given_48 : decode cX13_given 48 = .ok (.iadd, 1) := by decide +kernel
theorem dX13_given_49 : decode cX13_given 49 = .ok (.iconst 4, 1) := by decide +kernel
theorem dX13_given_50 : decode cX13_given 50 = .ok (.idiv, 1) := by decide +kernel
theorem dX13_given_51 : decode cX13_given 51 = .ok (.goto 4, 3) := by decide +kernel
theorem dX13_given_54 : decode cX13_given 54 = .ok (.iload_n 3, 1) := by decide +kernel
theorem dX13_given_55 : decode cX13_given 55 = .ok (.ireturn, 1) := by decide +kernel
theorem dX13_begins_0 : decode cX13_begins 0 = .ok (.iconst 0, 1) := by decide +kernel
theorem dX13_begins_1 : decode cX13_begins 1 = .ok (.istore 4, 2) := by decide +kernel
theorem dX13_begins_3 : decode cX13_begins 3 = .ok (.iconst 0, 1) := by decide +kernel
theorem dX13_begins_4 : decode cX13_begins 4 = .ok (.istore 5, 2) := by decide +kernel
theorem dX13_begins_6 : decode cX13_begins 6 = .ok (.iload 5, 2) := by decide +kernel
theorem dX13_begins_8 : decode cX13_begins 8 = .ok (.iload_n 2, 1) := by decide +kernel
theorem dX13_begins_9 : decode cX13_begins 9 = .ok (.ifCond .eq 7, 3) := by decide +kernel
theorem dX13_begins_12 : decode cX13_begins 12 = .ok (.iconst 4, 1) := by decide +kernel
theorem dX13_begins_13 : decode cX13_begins 13 = .ok (.goto 4, 3) := by decide +kernel
theorem dX13_begins_16 : decode cX13_begins 16 = .ok (.iconst 1, 1) := by decide +kernel
theorem dX13_begins_17 : decode cX13_begins 17 = .ok (.if_icmp .ge 60, 3) := by decide +kernel
theorem dX13_begins_20 : decode cX13_begins 20 = .ok (.iload_n 2, 1) := by decide +kernel
theorem dX13_begins_21 : decode cX13_begins 21 = .ok (.ifCond .eq 12, 3) := by decide +kernel
theorem dX13_begins_24 : decode cX13_begins 24 = .ok (.iconst 4, 1) := by decide +kernel
theorem dX13_begins_25 : decode cX13_begins 25 = .ok (.iload_n 3, 1) := by decide +kernel
theorem dX13_begins_26 : decode cX13_begins 26 = .ok (.imul, 1) := by decide +kernel
theorem dX13_begins_27 : decode cX13_begins 27 = .ok (.iload 5, 2) := by decide +kernel
theorem dX13_begins_29 : decode cX13_begins 29 = .ok (.iadd, 1) := by decide +kernel
theorem dX13_begins_30 : decode cX13_begins 30 = .ok (.goto 4, 3) := by decide +kernel
theorem dX13_begins_33 : decode cX13_begins 33 = .ok (.iload_n 3, 1) := by decide +kernel
theorem dX13_begins_34 : decode cX13_begins 34 = .ok (.istore 6, 2) := by decide +kernel
theorem dX13_begins_36 : decode cX13_begins 36 = .ok (.aload_n 0, 1) := by decide +kernel
theorem dX13_begins_37 : decode cX13_begins 37 = .ok (.iload_n 1, 1) := by decide +kernel
theorem dX13_begins_38 : decode cX13_begins 38 = .ok (.iload 6, 2) := by decide +kernel
theorem dX13_begins_40 : decode cX13_begins 40 = .ok (.invokevirtual 300, 3) := by decide +kernel
theorem dX13_begins_43 : decode cX13_begins 43 = .ok (.istore 7, 2) := by decide +kernel
theorem dX13_begins_45 : decode cX13_begins 45 = .ok (.iload 4, 2) := by decide +kernel
theorem dX13_begins_47 : decode cX13_begins 47 = .ok (.iload_n 2, 1) := by decide +kernel
theorem dX13_begins_48 : decode cX13_begins 48 = .ok (.ifCond .eq 18, 3) := by decide +kernel
theorem dX13_begins_51 : decode cX13_begins 51 = .ok (.iload 7, 2) := by decide +kernel
theorem dX13_begins_53 : decode cX13_begins 53 = .ok (.sipush 255, 3) := by decide +kernel
theorem dX13_begins_56 : decode cX13_begins 56 = .ok (.iand, 1) := by decide +kernel
theorem dX13_begins_57 : decode cX13_begins 57 = .ok (.bipush 8, 2) := by decide +kernel
theorem dX13_begins_59 : decode cX13_begins 59 = .ok (.iload 5, 2) := by decide +kernel
theorem dX13_begins_61 : decode cX13_begins 61 = .ok (.imul, 1) := by decide +kernel
theorem dX13_begins_62 : decode cX13_begins 62 = .ok (.ishl, 1) := by decide +kernel
theorem dX13_begins_63 : decode cX13_begins 63 = .ok (.goto 5, 3) := by decide +kernel
theorem dX13_begins_66 : decode cX13_begins 66 = .ok (.iload 7, 2) := by decide +kernel
theorem dX13_begins_68 : decode cX13_begins 68 = .ok (.ior, 1) := by decide +kernel
theorem dX13_begins_69 : decode cX13_begins 69 = .ok (.istore 4, 2) := by decide +kernel
theorem dX13_begins_71 : decode cX13_begins 71 = .ok (.iinc 5 1, 3) := by decide +kernel
theorem dX13_begins_74 : decode cX13_begins 74 = .ok (.goto (-68), 3) := by decide +kernel
theorem dX13_begins_77 : decode cX13_begins 77 = .ok (.iload 4, 2) := by decide +kernel
theorem dX13_begins_79 : decode cX13_begins 79 = .ok (.ireturn, 1) := by decide +kernel
theorem dX13_element_0 : decode cX13_element 0 = .ok (.aload_n 0, 1) := by decide +kernel
theorem dX13_element_1 : decode cX13_element 1 = .ok (.getfield 25, 3) := by decide +kernel
theorem dX13_element_4 : decode cX13_element 4 = .ok (.iload_n 1, 1) := by decide +kernel
theorem dX13_element_5 : decode cX13_element 5 = .ok (.invokevirtual 158, 3) := by decide +kernel
theorem dX13_element_8 : decode cX13_element 8 = .ok (.bipush 9, 2) := by decide +kernel
theorem dX13_element_10 : decode cX13_element 10 = .ok (.if_icmp .ne 37, 3) := by decide +kernel
theorem dX13_element_13 : decode cX13_element 13 = .ok (.iload_n 2, 1) := by decide +kernel
theorem dX13_element_14 : decode cX13_element 14 = .ok (.aload_n 0, 1) := by decide +kernel
theorem dX13_element_15 : decode cX13_element 15 = .ok (.getfield 25, 3) := by decide +kernel
theorem dX13_element_18 : decode cX13_element 18 = .ok (.iload_n 1, 1) := by decide +kernel
theorem dX13_element_19 : decode cX13_element 19 = .ok (.invokevirtual 123, 3) := by decide +kernel
theorem dX13_element_22 : decode cX13_element 22 = .ok (.if_icmp .ge 23, 3) := by decide +kernel
theorem dX13_element_25 : decode cX13_element 25 = .ok (.aload_n 0, 1) := by decide +kernel
theorem dX13_element_26 : decode cX13_element 26 = .ok (.getfield 46, 3) := by decide +kernel
theorem dX13_element_29 : decode cX13_element 29 = .ok (.aload_n 0, 1) := by decide +kernel
theorem dX13_element_30 : decode cX13_element 30 = .ok (.getfield 25, 3) := by decide +kernel
theorem dX13_element_33 : decode cX13_element 33 = .ok (.iload_n 1, 1) := by decide +kernel
theorem dX13_element_34 : decode cX13_element 34 = .ok (.invokevirtual 291, 3) := by decide +kernel
theorem dX13_element_37 : decode cX13_element 37 = .ok (.iload_n 2, 1) := by decide +kernel
theorem dX13_element_38 : decode cX13_element 38 = .ok (.iadd, 1) := by decide +kernel
theorem dX13_element_39 : decode cX13_element 39 = .ok (.invokevirtual 303, 3) := by decide +kernel
theorem dX13_element_42 : decode cX13_element 42 = .ok (.goto 4, 3) := by decide +kernel
theorem dX13_element_45 : decode cX13_element 45 = .ok (.iconst 0, 1) := by decide +kernel
theorem dX13_element_46 : decode cX13_element 46 = .ok (.ireturn, 1) := by decide +kernel
theorem dX13_element_47 : decode cX13_element 47 = .ok (.iload_n 2, 1) := by decide +kernel
theorem dX13_element_48 : decode cX13_element 48 = .ok (.ifCond .le 23, 3) := by decide +kernel
theorem dX13_element_51 : decode cX13_element 51 = .ok (.iload_n 1, 1) := by decide +kernel
theorem dX13_element_52 : decode cX13_element 52 = .ok (.aload_n 0, 1) := by decide +kernel
theorem dX13_element_53 : decode cX13_element 53 = .ok (.getfield 21, 3) := by decide +kernel
theorem dX13_element_56 : decode cX13_element 56 = .ok (.if_icmp .ne 15, 3) := by decide +kernel
theorem dX13_element_59 : decode cX13_element 59 = .ok (.iload_n 2, 1) := by decide +kernel
theorem dX13_element_60 : decode cX13_element 60 = .ok (.aload_n 0, 1) := by decide +kernel
theorem dX13_element_61 : decode cX13_element 61 = .ok (.getfield 308, 3) := by decide +kernel
theorem dX13_element_64 : decode cX13_element 64 = .ok (.if_icmp .lt 7, 3) := by decide +kernel
theorem dX13_element_67 : decode cX13_element 67 = .ok (.iconst 1, 1) := by decide +kernel
theorem dX13_element_68 : decode cX13_element 68 = .ok (.goto 4, 3) := by decide +kernel
theorem dX13_element_71 : decode cX13_element 71 = .ok (.iconst 0, 1) := by decide +kernel
theorem dX13_element_72 : decode cX13_element 72 = .ok (.istore_n 3, 1) := by decide +kernel
theorem dX13_element_73 : decode cX13_element 73 = .ok (.iload_n 3, 1) := by decide +kernel
theorem dX13_element_74 : decode cX13_element 74 = .ok (.ifCond .eq 10, 3) := by decide +kernel
theorem dX13_element_77 : decode cX13_element 77 = .ok (.aload_n 0, 1) := by decide +kernel
theorem dX13_element_78 : decode cX13_element 78 = .ok (.getfield 311, 3) := by decide +kernel
theorem dX13_element_81 : decode cX13_element 81 = .ok (.goto 11, 3) := by decide +kernel
theorem dX13_element_84 : decode cX13_element 84 = .ok (.aload_n 0, 1) := by decide +kernel
theorem dX13_element_85 : decode cX13_element 85 = .ok (.getfield 25, 3) := by decide +kernel
theorem dX13_element_88 : decode cX13_element 88 = .ok (.iload_n 1, 1) := by decide +kernel
theorem dX13_element_89 : decode cX13_element 89 = .ok (.invokevirtual 155, 3) := by decide +kernel
theorem dX13_element_92 : decode cX13_element 92 = .ok (.istore 4, 2) := by decide +kernel
theorem dX13_element_94 : decode cX13_element 94 = .ok (.iload_n 3, 1) := by decide +kernel
theorem dX13_element_95 : decode cX13_element 95 = .ok (.ifCond .eq 10, 3) := by decide +kernel
theorem dX13_element_98 : decode cX13_element 98 = .ok (.aload_n 0, 1) := by decide +kernel
theorem dX13_element_99 : decode cX13_element 99 = .ok (.getfield 308, 3) := by decide +kernel
theorem dX13_element_102 : decode cX13_element 102 = .ok (.goto 4, 3) := by decide +kernel
theorem dX13_element_105 : decode cX13_element 105 = .ok (.iconst 0, 1) := by decide +kernel
theorem dX13_element_106 : decode cX13_element 106 = .ok (.istore 5, 2) := by decide +kernel
theorem dX13_element_108 : decode cX13_element 108 = .ok (.iload 5, 2) := by decide +kernel
theorem dX13_element_110 : decode cX13_element 110 = .ok (.iload_n 2, 1) := by decide +kernel
theorem dX13_element_111 : decode cX13_element 111 = .ok (.if_icmp .ge 26, 3) := by decide +kernel
theorem dX13_element_114 : decode cX13_element 114 = .ok (.iload 4, 2) := by decide +kernel
theorem dX13_element_116 : decode cX13_element 116 = .ok (.iconst (-1), 1) := by decide +kernel
theorem dX13_element_117 : decode cX13_element 117 = .ok (.if_icmp .eq 20, 3) := by decide +kernel
theorem dX13_element_120 : decode cX13_element 120 = .ok (.aload_n 0, 1) := by decide +kernel
theorem dX13_element_121 : decode cX13_element 121 = .ok (.getfield 25, 3) := by decide +kernel
theorem dX13_element_124 : decode cX13_element 124 = .ok (.iload 4, 2) := by decide +kernel
theorem dX13_element_126 : decode cX13_element 126 = .ok (.invokevirtual 161, 3) := by decide +kernel
theorem dX13_element_129 : decode cX13_element 129 = .ok (.istore 4, 2) := by decide +kernel
theorem dX13_element_131 : decode cX13_element 131 = .ok (.iinc 5 1, 3) := by decide +kernel
theorem dX13_element_134 : decode cX13_element 134 = .ok (.goto (-26), 3) := by decide +kernel
theorem dX13_element_137 : decode cX13_element 137 = .ok (.aload_n 0, 1) := by decide +kernel
theorem dX13_element_138 : decode cX13_element 138 = .ok (.iload_n 1, 1) := by decide +kernel
theorem dX13_element_139 : decode cX13_element 139 = .ok (.putfield 21, 3) := by decide +kernel
theorem dX13_element_142 : decode cX13_element 142 = .ok (.aload_n 0, 1) := by decide +kernel
theorem dX13_element_143 : decode cX13_element 143 = .ok (.iload_n 2, 1) := by decide +kernel
theorem dX13_element_144 : decode cX13_element 144 = .ok (.putfield 308, 3) := by decide +kernel
theorem dX13_element_147 : decode cX13_element 147 = .ok (.aload_n 0, 1) := by decide +kernel
theorem dX13_element_148 : decode cX13_element 148 = .ok (.iload 4, 2) := by decide +kernel
theorem dX13_element_150 : decode cX13_element 150 = .ok (.putfield 311, 3) := by decide +kernel
theorem dX13_element_153 : decode cX13_element 153 = .ok (.iload 4, 2) := by decide +kernel
theorem dX13_element_155 : decode cX13_element 155 = .ok (.iconst (-1), 1) := by decide +kernel
theorem dX13_element_156 : decode cX13_element 156 = .ok (.if_icmp .ne 7, 3) := by decide +kernel
theorem dX13_element_159 : decode cX13_element 159 = .ok (.iconst 0, 1) := by decide +kernel
theorem dX13_element_160 : decode cX13_element 160 = .ok (.goto 12, 3) := by decide +kernel
theorem dX13_element_163 : decode cX13_element 163 = .ok (.aload_n 0, 1) := by decide +kernel
theorem dX13_element_164 : decode cX13_element 164 = .ok (.getfield 25, 3) := by decide +kernel
theorem dX13_element_167 : decode cX13_element 167 = .ok (.iload 4, 2) := by decide +kernel
theorem dX13_element_169 : decode cX13_element 169 = .ok (.invokevirtual 291, 3) := by decide +kernel
theorem dX13_element_172 : decode cX13_element 172 = .ok (.ireturn, 1) := by decide +kernel
theorem dX13_value_0 : decode cX13_value 0 = .ok (.aload_n 0, 1) := by decide +kernel
theorem dX13_value_1 : decode cX13_value 1 = .ok (.getfield 59, 3) := by decide +kernel
theorem dX13_value_4 : decode cX13_value 4 = .ok (.iload_n 1, 1) := by decide +kernel
theorem dX13_value_5 : decode cX13_value 5 = .ok (.invokevirtual 338, 3) := by decide +kernel
theorem dX13_value_8 : decode cX13_value 8 = .ok (.ifCond .eq 40, 3) := by decide +kernel
theorem dX13_value_11 : decode cX13_value 11 = .ok (.aload_n 0, 1) := by decide +kernel
theorem dX13_value_12 : decode cX13_value 12 = .ok (.getfield 59, 3) := by decide +kernel
theorem dX13_value_15 : decode cX13_value 15 = .ok (.invokevirtual 342, 3) := by decide +kernel
theorem dX13_value_18 : decode cX13_value 18 = .ok (.ifCond .ne 5, 3) := by decide +kernel
theorem dX13_value_21 : decode cX13_value 21 = .ok (.iconst 0, 1) := by decide +kernel
theorem dX13_value_22 : decode cX13_value 22 = .ok (.ireturn, 1) := by decide +kernel
theorem dX13_value_23 : decode cX13_value 23 = .ok (.aload_n 0, 1) := by decide +kernel
theorem dX13_value_24 : decode cX13_value 24 = .ok (.getfield 50, 3) := by decide +kernel
theorem dX13_value_27 : decode cX13_value 27 = .ok (.aload_n 0, 1) := by decide +kernel
theorem dX13_value_28 : decode cX13_value 28 = .ok (.iload_n 2, 1) := by decide +kernel
theorem dX13_value_29 : decode cX13_value 29 = .ok (.invokevirtual 246, 3) := by decide +kernel
theorem dX13_value_32 : decode cX13_value 32 = .ok (.aload_n 0, 1) := by decide +kernel
theorem dX13_value_33 : decode cX13_value 33 = .ok (.getfield 59, 3) := by decide +kernel
theorem dX13_value_36 : decode cX13_value 36 = .ok (.invokevirtual 342, 3) := by decide +kernel
theorem dX13_value_39 : decode cX13_value 39 = .ok (.invokevirtual 98, 3) := by decide +kernel
theorem dX13_value_42 : decode cX13_value 42 = .ok (.aload_n 0, 1) := by decide +kernel
theorem dX13_value_43 : decode cX13_value 43 = .ok (.iload_n 2, 1) := by decide +kernel
theorem dX13_value_44 : decode cX13_value 44 = .ok (.invokevirtual 252, 3) := by decide +kernel
theorem dX13_value_47 : decode cX13_value 47 = .ok (.ireturn, 1) := by decide +kernel
theorem dX13_value_48 : decode cX13_value 48 = .ok (.aload_n 0, 1) := by decide +kernel
theorem dX13_value_49 : decode cX13_value 49 = .ok (.getfield 25, 3) := by decide +kernel
theorem dX13_value_52 : decode cX13_value 52 = .ok (.iload_n 1, 1) := by decide +kernel
theorem dX13_value_53 : decode cX13_value 53 = .ok (.invokevirtual 155, 3) := by decide +kernel
theorem dX13_value_56 : decode cX13_value 56 = .ok (.istore_n 3, 1) := by decide +kernel
theorem dX13_value_57 : decode cX13_value 57 = .ok (.aload_n 0, 1) := by decide +kernel
theorem dX13_value_58 : decode cX13_value 58 = .ok (.getfield 25, 3) := by decide +kernel
theorem dX13_value_61 : decode cX13_value 61 = .ok (.iload_n 1, 1) := by decide +kernel
theorem dX13_value_62 : decode cX13_value 62 = .ok (.invokevirtual 158, 3) := by decide +kernel
theorem dX13_value_65 : decode cX13_value 65 = .ok (.tableswitch 159 30 40 #[121, 152, 159, 159, 137, 129, 129, 159, 59, 114, 73], 59) := by decide +kernel
theorem dX13_value_124 : decode cX13_value 124 = .ok (.aload_n 0, 1) := by decide +kernel
theorem dX13_value_125 : decode cX13_value 125 = .ok (.aload_n 0, 1) := by decide +kernel
theorem dX13_value_126 : decode cX13_value 126 = .ok (.getfield 25, 3) := by decide +kernel
theorem dX13_value_129 : decode cX13_value 129 = .ok (.iload_n 1, 1) := by decide +kernel
theorem dX13_value_130 : decode cX13_value 130 = .ok (.invokevirtual 207, 3) := by decide +kernel
theorem dX13_value_133 : decode cX13_value 133 = .ok (.iload_n 2, 1) := by decide +kernel
theorem dX13_value_134 : decode cX13_value 134 = .ok (.invokevirtual 344, 3) := by decide +kernel
theorem dX13_value_137 : decode cX13_value 137 = .ok (.ireturn, 1) := by decide +kernel
theorem dX13_value_138 : decode cX13_value 138 = .ok (.aload_n 0, 1) := by decide +kernel
theorem dX13_value_139 : decode cX13_value 139 = .ok (.aload_n 0, 1) := by decide +kernel
theorem dX13_value_140 : decode cX13_value 140 = .ok (.getfield 25, 3) := by decide +kernel
theorem dX13_value_143 : decode cX13_value 143 = .ok (.iload_n 1, 1) := by decide +kernel
theorem dX13_value_144 : decode cX13_value 144 = .ok (.invokevirtual 207, 3) := by decide +kernel
theorem dX13_value_147 : decode cX13_value 147 = .ok (.aload_n 0, 1) := by decide +kernel
theorem dX13_value_148 : decode cX13_value 148 = .ok (.iload_n 3, 1) := by decide +kernel
theorem dX13_value_149 : decode cX13_value 149 = .ok (.iload_n 2, 1) := by decide +kernel
theorem dX13_value_150 : decode cX13_value 150 = .ok (.invokevirtual 261, 3) := by decide +kernel
theorem dX13_value_153 : decode cX13_value 153 = .ok (.invokevirtual 347, 3) := by decide +kernel
theorem dX13_value_156 : decode cX13_value 156 = .ok (.aload_n 0, 1) := by decide +kernel
theorem dX13_value_157 : decode cX13_value 157 = .ok (.aload_n 0, 1) := by decide +kernel
theorem dX13_value_158 : decode cX13_value 158 = .ok (.getfield 25, 3) := by decide +kernel
theorem dX13_value_161 : decode cX13_value 161 = .ok (.iload_n 1, 1) := by decide +kernel
theorem dX13_value_162 : decode cX13_value 162 = .ok (.invokevirtual 207, 3) := by decide +kernel
theorem dX13_value_165 : decode cX13_value 165 = .ok (.aload_n 0, 1) := by decide +kernel
theorem dX13_value_166 : decode cX13_value 166 = .ok (.iload_n 2, 1) := by decide +kernel
theorem dX13_value_167 : decode cX13_value 167 = .ok (.invokevirtual 246, 3) := by decide +kernel
theorem dX13_value_170 : decode cX13_value 170 = .ok (.invokevirtual 350, 3) := by decide +kernel
theorem dX13_value_173 : decode cX13_value 173 = .ok (.aload_n 0, 1) := by decide +kernel
theorem dX13_value_174 : decode cX13_value 174 = .ok (.iload_n 2, 1) := by decide +kernel
theorem dX13_value_175 : decode cX13_value 175 = .ok (.invokevirtual 252, 3) := by decide +kernel
theorem dX13_value_178 : decode cX13_value 178 = .ok (.ireturn, 1) := by decide +kernel
theorem dX13_value_179 : decode cX13_value 179 = .ok (.aload_n 0, 1) := by decide +kernel
theorem dX13_value_180 : decode cX13_value 180 = .ok (.iload_n 1, 1) := by decide +kernel
theorem dX13_value_181 : decode cX13_value 181 = .ok (.iload_n 2, 1) := by decide +kernel
theorem dX13_value_182 : decode cX13_value 182 = .ok (.invokevirtual 353, 3) := by decide +kernel
theorem dX13_value_185 : decode cX13_value 185 = .ok (.ireturn, 1) := by decide +kernel
theorem dX13_value_186 : decode cX13_value 186 = .ok (.aload_n 0, 1) := by decide +kernel
theorem dX13_value_187 : decode cX13_value 187 = .ok (.iload_n 1, 1) := by decide +kernel
theorem dX13_value_188 : decode cX13_value 188 = .ok (.iload_n 3, 1) := by decide +kernel
theorem dX13_value_189 : decode cX13_value 189 = .ok (.iload_n 2, 1) := by decide +kernel
theorem dX13_value_190 : decode cX13_value 190 = .ok (.invokevirtual 355, 3) := by decide +kernel
theorem dX13_value_193 : decode cX13_value 193 = .ok (.ireturn, 1) := by decide +kernel
theorem dX13_value_194 : decode cX13_value 194 = .ok (.aload_n 0, 1) := by decide +kernel
theorem dX13_value_195 : decode cX13_value 195 = .ok (.iload_n 1, 1) := by decide +kernel
theorem dX13_value_196 : decode cX13_value 196 = .ok (.iload_n 3, 1) := by decide +kernel
theorem dX13_value_197 : decode cX13_value 197 = .ok (.iload_n 2, 1) := by decide +kernel
theorem dX13_value_198 : decode cX13_value 198 = .ok (.invokevirtual 357, 3) := by decide +kernel
theorem dX13_value_201 : decode cX13_value 201 = .ok (.ireturn, 1) := by decide +kernel
theorem dX13_value_202 : decode cX13_value 202 = .ok (.aload_n 0, 1) := by decide +kernel
theorem dX13_value_203 : decode cX13_value 203 = .ok (.aload_n 0, 1) := by decide +kernel
theorem dX13_value_204 : decode cX13_value 204 = .ok (.getfield 25, 3) := by decide +kernel
theorem dX13_value_207 : decode cX13_value 207 = .ok (.iload_n 1, 1) := by decide +kernel
theorem dX13_value_208 : decode cX13_value 208 = .ok (.invokevirtual 123, 3) := by decide +kernel
theorem dX13_value_211 : decode cX13_value 211 = .ok (.iload_n 3, 1) := by decide +kernel
theorem dX13_value_212 : decode cX13_value 212 = .ok (.iload_n 2, 1) := by decide +kernel
theorem dX13_value_213 : decode cX13_value 213 = .ok (.invokevirtual 359, 3) := by decide +kernel
theorem dX13_value_216 : decode cX13_value 216 = .ok (.ireturn, 1) := by decide +kernel
theorem dX13_value_217 : decode cX13_value 217 = .ok (.aload_n 0, 1) := by decide +kernel
theorem dX13_value_218 : decode cX13_value 218 = .ok (.iload_n 3, 1) := by decide +kernel
theorem dX13_value_219 : decode cX13_value 219 = .ok (.iload_n 2, 1) := by decide +kernel
theorem dX13_value_220 : decode cX13_value 220 = .ok (.invokevirtual 362, 3) := by decide +kernel
theorem dX13_value_223 : decode cX13_value 223 = .ok (.ireturn, 1) := by decide +kernel
theorem dX13_value_224 : decode cX13_value 224 = .ok (.aload_n 0, 1) := by decide +kernel
theorem dX13_value_225 : decode cX13_value 225 = .ok (.getfield 25, 3) := by decide +kernel
theorem dX13_value_228 : decode cX13_value 228 = .ok (.iload_n 1, 1) := by decide +kernel
theorem dX13_value_229 : decode cX13_value 229 = .ok (.invokevirtual 291, 3) := by decide +kernel
theorem dX13_value_232 : decode cX13_value 232 = .ok (.iconst 3, 1) := by decide +kernel
theorem dX13_value_233 : decode cX13_value 233 = .ok (.if_icmp .ge 12, 3) := by decide +kernel
theorem dX13_value_236 : decode cX13_value 236 = .ok (.aload_n 0, 1) := by decide +kernel
theorem dX13_value_237 : decode cX13_value 237 = .ok (.iload_n 1, 1) := by decide +kernel
theorem dX13_value_238 : decode cX13_value 238 = .ok (.iload_n 2, 1) := by decide +kernel
theorem dX13_value_239 : decode cX13_value 239 = .ok (.invokevirtual 365, 3) := by decide +kernel
theorem dX13_value_242 : decode cX13_value 242 = .ok (.goto 9, 3) := by decide +kernel
theorem dX13_value_245 : decode cX13_value 245 = .ok (.aload_n 0, 1) := by decide +kernel
theorem dX13_value_246 : decode cX13_value 246 = .ok (.iload_n 3, 1) := by decide +kernel
theorem dX13_value_247 : decode cX13_value 247 = .ok (.iload_n 2, 1) := by decide +kernel
theorem dX13_value_248 : decode cX13_value 248 = .ok (.invokevirtual 368, 3) := by decide +kernel
theorem dX13_value_251 : decode cX13_value 251 = .ok (.ireturn, 1) := by decide +kernel
theorem dX13_dest_0 : decode cX13_dest 0 = .ok (.iload_n 1, 1) := by decide +kernel
theorem dX13_dest_1 : decode cX13_dest 1 = .ok (.bipush 12, 2) := by decide +kernel
theorem dX13_dest_3 : decode cX13_dest 3 = .ok (.if_icmp .ge 10, 3) := by decide +kernel
theorem dX13_dest_6 : decode cX13_dest 6 = .ok (.iload_n 1, 1) := by decide +kernel
theorem dX13_dest_7 : decode cX13_dest 7 = .ok (.invokestatic 237, 3) := by decide +kernel
theorem dX13_dest_10 : decode cX13_dest 10 = .ok (.goto 4, 3) := by decide +kernel
theorem dX13_dest_13 : decode cX13_dest 13 = .ok (.iconst 5, 1) := by decide +kernel
theorem dX13_dest_14 : decode cX13_dest 14 = .ok (.ireturn, 1) := by decide +kernel
theorem dX13_temp_0 : decode cX13_temp 0 = .ok (.iload_n 0, 1) := by decide +kernel
theorem dX13_temp_1 : decode cX13_temp 1 = .ok (.iconst 4, 1) := by decide +kernel
theorem dX13_temp_2 : decode cX13_temp 2 = .ok (.if_icmp .ge 10, 3) := by decide +kernel
theorem dX13_temp_5 : decode cX13_temp 5 = .ok (.bipush 28, 2) := by decide +kernel
theorem dX13_temp_7 : decode cX13_temp 7 = .ok (.iload_n 0, 1) := by decide +kernel
theorem dX13_temp_8 : decode cX13_temp 8 = .ok (.iadd, 1) := by decide +kernel
theorem dX13_temp_9 : decode cX13_temp 9 = .ok (.goto 7, 3) := by decide +kernel
theorem dX13_temp_12 : decode cX13_temp 12 = .ok (.bipush 6, 2) := by decide +kernel
theorem dX13_temp_14 : decode cX13_temp 14 = .ok (.iload_n 0, 1) := by decide +kernel
theorem dX13_temp_15 : decode cX13_temp 15 = .ok (.iadd, 1) := by decide +kernel
theorem dX13_temp_16 : decode cX13_temp 16 = .ok (.ireturn, 1) := by decide +kernel
theorem dX13_keep_0 : decode cX13_keep 0 = .ok (.aload_n 0, 1) := by decide +kernel
theorem dX13_keep_1 : decode cX13_keep 1 = .ok (.iload_n 1, 1) := by decide +kernel
theorem dX13_keep_2 : decode cX13_keep 2 = .ok (.invokevirtual 240, 3) := by decide +kernel
theorem dX13_keep_5 : decode cX13_keep 5 = .ok (.iload_n 1, 1) := by decide +kernel
theorem dX13_keep_6 : decode cX13_keep 6 = .ok (.bipush 12, 2) := by decide +kernel
theorem dX13_keep_8 : decode cX13_keep 8 = .ok (.if_icmp .ge 8, 3) := by decide +kernel
theorem dX13_keep_11 : decode cX13_keep 11 = .ok (.iload_n 1, 1) := by decide +kernel
theorem dX13_keep_12 : decode cX13_keep 12 = .ok (.invokestatic 237, 3) := by decide +kernel
theorem dX13_keep_15 : decode cX13_keep 15 = .ok (.ireturn, 1) := by decide +kernel
theorem dX13_keep_16 : decode cX13_keep 16 = .ok (.aload_n 0, 1) := by decide +kernel
theorem dX13_keep_17 : decode cX13_keep 17 = .ok (.getfield 50, 3) := by decide +kernel
theorem dX13_keep_20 : decode cX13_keep 20 = .ok (.iconst 5, 1) := by decide +kernel
theorem dX13_keep_21 : decode cX13_keep 21 = .ok (.iconst 2, 1) := by decide +kernel
theorem dX13_keep_22 : decode cX13_keep 22 = .ok (.iload_n 1, 1) := by decide +kernel
theorem dX13_keep_23 : decode cX13_keep 23 = .ok (.invokestatic 243, 3) := by decide +kernel
theorem dX13_keep_26 : decode cX13_keep 26 = .ok (.bipush 7, 2) := by decide +kernel
theorem dX13_keep_28 : decode cX13_keep 28 = .ok (.invokevirtual 192, 3) := by decide +kernel
theorem dX13_keep_31 : decode cX13_keep 31 = .ok (.bipush 64, 2) := by decide +kernel
theorem dX13_keep_33 : decode cX13_keep 33 = .ok (.iload_n 1, 1) := by decide +kernel
theorem dX13_keep_34 : decode cX13_keep 34 = .ok (.iadd, 1) := by decide +kernel
theorem dX13_keep_35 : decode cX13_keep 35 = .ok (.ireturn, 1) := by decide +kernel
theorem dX13_met_0 : decode cX13_met 0 = .ok (.aload_n 0, 1) := by decide +kernel
theorem dX13_met_1 : decode cX13_met 1 = .ok (.aload_n 0, 1) := by decide +kernel
theorem dX13_met_2 : decode cX13_met 2 = .ok (.getfield 117, 3) := by decide +kernel
theorem dX13_met_5 : decode cX13_met 5 = .ok (.iload_n 1, 1) := by decide +kernel
theorem dX13_met_6 : decode cX13_met 6 = .ok (.iconst 1, 1) := by decide +kernel
theorem dX13_met_7 : decode cX13_met 7 = .ok (.iadd, 1) := by decide +kernel
theorem dX13_met_8 : decode cX13_met 8 = .ok (.invokestatic 231, 3) := by decide +kernel
theorem dX13_met_11 : decode cX13_met 11 = .ok (.putfield 117, 3) := by decide +kernel
theorem dX13_met_14 : decode cX13_met 14 = .ok (.return_, 1) := by decide +kernel
theorem dX13_slot_0 : decode cX13_slot 0 = .ok (.iconst 4, 1) := by decide +kernel
theorem dX13_slot_1 : decode cX13_slot 1 = .ok (.iload_n 0, 1) := by decide +kernel
theorem dX13_slot_2 : decode cX13_slot 2 = .ok (.imul, 1) := by decide +kernel
theorem dX13_slot_3 : decode cX13_slot 3 = .ok (.ireturn, 1) := by decide +kernel
theorem dX13_name_0 : decode cX13_name 0 = .ok (.aload_n 0, 1) := by decide +kernel
theorem dX13_name_1 : decode cX13_name 1 = .ok (.getfield 39, 3) := by decide +kernel
theorem dX13_name_4 : decode cX13_name 4 = .ok (.iload_n 1, 1) := by decide +kernel
theorem dX13_name_5 : decode cX13_name 5 = .ok (.invokevirtual 78, 3) := by decide +kernel
theorem dX13_name_8 : decode cX13_name 8 = .ok (.iconst (-1), 1) := by decide +kernel
theorem dX13_name_9 : decode cX13_name 9 = .ok (.if_icmp .eq 24, 3) := by decide +kernel
theorem dX13_name_12 : decode cX13_name 12 = .ok (.aload_n 0, 1) := by decide +kernel
theorem dX13_name_13 : decode cX13_name 13 = .ok (.getfield 68, 3) := by decide +kernel
theorem dX13_name_16 : decode cX13_name 16 = .ok (.iload_n 1, 1) := by decide +kernel
theorem dX13_name_17 : decode cX13_name 17 = .ok (.invokevirtual 210, 3) := by decide +kernel
