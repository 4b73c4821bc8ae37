set_option maxRecDepth 100000
theorem dX21_isKey_8 : decode cX21_isKey 8 = .ok (.baload, 1) := by decide +kernel
theorem dX21_isKey_9 : decode cX21_isKey 9 = .ok (.iconst 2, 1) := by decide +kernel
theorem dX21_isKey_10 : decode cX21_isKey 10 = .ok (.if_icmp .ne 20, 3) := by decide +kernel
theorem dX21_isKey_13 : decode cX21_isKey 13 = .ok (.aload_n 0, 1) := by decide +kernel
theorem dX21_isKey_14 : decode cX21_isKey 14 = .ok (.getfield 205, 3) := by decide +kernel
theorem dX21_isKey_17 : decode cX21_isKey 17 = .ok (.aload_n 0, 1) := by decide +kernel
theorem dX21_isKey_18 : decode cX21_isKey 18 = .ok (.getfield 388, 3) := by decide +kernel
theorem dX21_isKey_21 : decode cX21_isKey 21 = .ok (.iaload, 1) := by decide +kernel
theorem dX21_isKey_22 : decode cX21_isKey 22 = .ok (.iload_n 1, 1) := by decide +kernel
theorem dX21_isKey_23 : decode cX21_isKey 23 = .ok (.if_icmp .ne 7, 3) := by decide +kernel
theorem dX21_isKey_26 : decode cX21_isKey 26 = .ok (.iconst 1, 1) := by decide +kernel
theorem dX21_isKey_27 : decode cX21_isKey 27 = .ok (.goto 4, 3) := by decide +kernel
theorem dX21_isKey_30 : decode cX21_isKey 30 = .ok (.iconst 0, 1) := by decide +kernel
theorem dX21_isKey_31 : decode cX21_isKey 31 = .ok (.ireturn, 1) := by decide +kernel
theorem dX21_enumeration_0 : decode cX21_enumeration 0 = .ok (.aload_n 0, 1) := by decide +kernel
theorem dX21_enumeration_1 : decode cX21_enumeration 1 = .ok (.bipush 43, 2) := by decide +kernel
theorem dX21_enumeration_3 : decode cX21_enumeration 3 = .ok (.aload_n 0, 1) := by decide +kernel
theorem dX21_enumeration_4 : decode cX21_enumeration 4 = .ok (.getfield 388, 3) := by decide +kernel
theorem dX21_enumeration_7 : decode cX21_enumeration 7 = .ok (.invokevirtual 434, 3) := by decide +kernel
theorem dX21_enumeration_10 : decode cX21_enumeration 10 = .ok (.istore_n 1, 1) := by decide +kernel
theorem dX21_enumeration_11 : decode cX21_enumeration 11 = .ok (.aload_n 0, 1) := by decide +kernel
theorem dX21_enumeration_12 : decode cX21_enumeration 12 = .ok (.dup, 1) := by decide +kernel
theorem dX21_enumeration_13 : decode cX21_enumeration 13 = .ok (.getfield 388, 3) := by decide +kernel
theorem dX21_enumeration_16 : decode cX21_enumeration 16 = .ok (.iconst 1, 1) := by decide +kernel
theorem dX21_enumeration_17 : decode cX21_enumeration 17 = .ok (.iadd, 1) := by decide +kernel
theorem dX21_enumeration_18 : decode cX21_enumeration 18 = .ok (.putfield 388, 3) := by decide +kernel
theorem dX21_enumeration_21 : decode cX21_enumeration 21 = .ok (.aload_n 0, 1) := by decide +kernel
theorem dX21_enumeration_22 : decode cX21_enumeration 22 = .ok (.ldc 89, 2) := by decide +kernel
theorem dX21_enumeration_24 : decode cX21_enumeration 24 = .ok (.invokevirtual 485, 3) := by decide +kernel
theorem dX21_enumeration_27 : decode cX21_enumeration 27 = .ok (.iconst (-1), 1) := by decide +kernel
theorem dX21_enumeration_28 : decode cX21_enumeration 28 = .ok (.istore_n 2, 1) := by decide +kernel
theorem dX21_enumeration_29 : decode cX21_enumeration 29 = .ok (.iconst 1, 1) := by decide +kernel
theorem dX21_enumeration_30 : decode cX21_enumeration 30 = .ok (.istore_n 3, 1) := by decide +kernel
theorem dX21_enumeration_31 : decode cX21_enumeration 31 = .ok (.iload_n 3, 1) := by decide +kernel
theorem dX21_enumeration_32 : decode cX21_enumeration 32 = .ok (.ifCond .eq 67, 3) := by decide +kernel
theorem dX21_enumeration_35 : decode cX21_enumeration 35 = .ok (.aload_n 0, 1) := by decide +kernel
theorem dX21_enumeration_36 : decode cX21_enumeration 36 = .ok (.bipush 44, 2) := by decide +kernel
theorem dX21_enumeration_38 : decode cX21_enumeration 38 = .ok (.aload_n 0, 1) := by decide +kernel
theorem dX21_enumeration_39 : decode cX21_enumeration 39 = .ok (.invokevirtual 470, 3) := by decide +kernel
theorem dX21_enumeration_42 : decode cX21_enumeration 42 = .ok (.invokevirtual 434, 3) := by decide +kernel
theorem dX21_enumeration_45 : decode cX21_enumeration 45 = .ok (.istore 4, 2) := by decide +kernel
theorem dX21_enumeration_47 : decode cX21_enumeration 47 = .ok (.aload_n 0, 1) := by decide +kernel
theorem dX21_enumeration_48 : decode cX21_enumeration 48 = .ok (.ldc 105, 2) := by decide +kernel
theorem dX21_enumeration_50 : decode cX21_enumeration 50 = .ok (.invokevirtual 398, 3) := by decide +kernel
theorem dX21_enumeration_53 : decode cX21_enumeration 53 = .ok (.ifCond .eq 14, 3) := by decide +kernel
theorem dX21_enumeration_56 : decode cX21_enumeration 56 = .ok (.aload_n 0, 1) := by decide +kernel
theorem dX21_enumeration_57 : decode cX21_enumeration 57 = .ok (.getfield 217, 3) := by decide +kernel
theorem dX21_enumeration_60 : decode cX21_enumeration 60 = .ok (.iload 4, 2) := by decide +kernel
theorem dX21_enumeration_62 : decode cX21_enumeration 62 = .ok (.aload_n 0, 1) := by decide +kernel
theorem dX21_enumeration_63 : decode cX21_enumeration 63 = .ok (.invokevirtual 479, 3) := by decide +kernel
theorem dX21_enumeration_66 : decode cX21_enumeration 66 = .ok (.iastore, 1) := by decide +kernel
theorem dX21_enumeration_67 : decode cX21_enumeration 67 = .ok (.aload_n 0, 1) := by decide +kernel
theorem dX21_enumeration_68 : decode cX21_enumeration 68 = .ok (.getfield 217, 3) := by decide +kernel
theorem dX21_enumeration_71 : decode cX21_enumeration 71 = .ok (.iload_n 1, 1) := by decide +kernel
theorem dX21_enumeration_72 : decode cX21_enumeration 72 = .ok (.aload_n 0, 1) := by decide +kernel
theorem dX21_enumeration_73 : decode cX21_enumeration 73 = .ok (.aload_n 0, 1) := by decide +kernel
theorem dX21_enumeration_74 : decode cX21_enumeration 74 = .ok (.getfield 217, 3) := by decide +kernel
theorem dX21_enumeration_77 : decode cX21_enumeration 77 = .ok (.iload_n 1, 1) := by decide +kernel
theorem dX21_enumeration_78 : decode cX21_enumeration 78 = .ok (.iaload, 1) := by decide +kernel
theorem dX21_enumeration_79 : decode cX21_enumeration 79 = .ok (.iload_n 2, 1) := by decide +kernel
theorem dX21_enumeration_80 : decode cX21_enumeration 80 = .ok (.iload 4, 2) := by decide +kernel
theorem dX21_enumeration_82 : decode cX21_enumeration 82 = .ok (.invokevirtual 494, 3) := by decide +kernel
theorem dX21_enumeration_85 : decode cX21_enumeration 85 = .ok (.iastore, 1) := by decide +kernel
theorem dX21_enumeration_86 : decode cX21_enumeration 86 = .ok (.iload 4, 2) := by decide +kernel
theorem dX21_enumeration_88 : decode cX21_enumeration 88 = .ok (.istore_n 2, 1) := by decide +kernel
theorem dX21_enumeration_89 : decode cX21_enumeration 89 = .ok (.aload_n 0, 1) := by decide +kernel
theorem dX21_enumeration_90 : decode cX21_enumeration 90 = .ok (.ldc 97, 2) := by decide +kernel
theorem dX21_enumeration_92 : decode cX21_enumeration 92 = .ok (.invokevirtual 398, 3) := by decide +kernel
theorem dX21_enumeration_95 : decode cX21_enumeration 95 = .ok (.istore_n 3, 1) := by decide +kernel
theorem dX21_enumeration_96 : decode cX21_enumeration 96 = .ok (.goto (-65), 3) := by decide +kernel
theorem dX21_enumeration_99 : decode cX21_enumeration 99 = .ok (.aload_n 0, 1) := by decide +kernel
theorem dX21_enumeration_100 : decode cX21_enumeration 100 = .ok (.ldc 91, 2) := by decide +kernel
theorem dX21_enumeration_102 : decode cX21_enumeration 102 = .ok (.invokevirtual 467, 3) := by decide +kernel
theorem dX21_enumeration_105 : decode cX21_enumeration 105 = .ok (.aload_n 0, 1) := by decide +kernel
theorem dX21_enumeration_106 : decode cX21_enumeration 106 = .ok (.ldc 99, 2) := by decide +kernel
theorem dX21_enumeration_108 : decode cX21_enumeration 108 = .ok (.invokevirtual 414, 3) := by decide +kernel
theorem dX21_enumeration_111 : decode cX21_enumeration 111 = .ok (.aload_n 0, 1) := by decide +kernel
theorem dX21_enumeration_112 : decode cX21_enumeration 112 = .ok (.iload_n 1, 1) := by decide +kernel
theorem dX21_enumeration_113 : decode cX21_enumeration 113 = .ok (.invokevirtual 534, 3) := by decide +kernel
theorem dX21_enumeration_116 : decode cX21_enumeration 116 = .ok (.return_, 1) := by decide +kernel
theorem dX21_make_0 : decode cX21_make 0 = .ok (.aload_n 0, 1) := by decide +kernel
theorem dX21_make_1 : decode cX21_make 1 = .ok (.getfield 208, 3) := by decide +kernel
theorem dX21_make_4 : decode cX21_make 4 = .ok (.aload_n 0, 1) := by decide +kernel
theorem dX21_make_5 : decode cX21_make 5 = .ok (.getfield 418, 3) := by decide +kernel
theorem dX21_make_8 : decode cX21_make 8 = .ok (.iload_n 1, 1) := by decide +kernel
theorem dX21_make_9 : decode cX21_make 9 = .ok (.i2b, 1) := by decide +kernel
theorem dX21_make_10 : decode cX21_make 10 = .ok (.bastore, 1) := by decide +kernel
theorem dX21_make_11 : decode cX21_make 11 = .ok (.aload_n 0, 1) := by decide +kernel
theorem dX21_make_12 : decode cX21_make 12 = .ok (.getfield 211, 3) := by decide +kernel
theorem dX21_make_15 : decode cX21_make 15 = .ok (.aload_n 0, 1) := by decide +kernel
theorem dX21_make_16 : decode cX21_make 16 = .ok (.getfield 418, 3) := by decide +kernel
theorem dX21_make_19 : decode cX21_make 19 = .ok (.iload_n 2, 1) := by decide +kernel
theorem dX21_make_20 : decode cX21_make 20 = .ok (.iastore, 1) := by decide +kernel
theorem dX21_make_21 : decode cX21_make 21 = .ok (.aload_n 0, 1) := by decide +kernel
theorem dX21_make_22 : decode cX21_make 22 = .ok (.getfield 214, 3) := by decide +kernel
theorem dX21_make_25 : decode cX21_make 25 = .ok (.aload_n 0, 1) := by decide +kernel
theorem dX21_make_26 : decode cX21_make 26 = .ok (.getfield 418, 3) := by decide +kernel
theorem dX21_make_29 : decode cX21_make 29 = .ok (.iload_n 2, 1) := by decide +kernel
theorem dX21_make_30 : decode cX21_make 30 = .ok (.iastore, 1) := by decide +kernel
theorem dX21_make_31 : decode cX21_make 31 = .ok (.aload_n 0, 1) := by decide +kernel
theorem dX21_make_32 : decode cX21_make 32 = .ok (.getfield 217, 3) := by decide +kernel
theorem dX21_make_35 : decode cX21_make 35 = .ok (.aload_n 0, 1) := by decide +kernel
theorem dX21_make_36 : decode cX21_make 36 = .ok (.getfield 418, 3) := by decide +kernel
theorem dX21_make_39 : decode cX21_make 39 = .ok (.iconst (-1), 1) := by decide +kernel
theorem dX21_make_40 : decode cX21_make 40 = .ok (.iastore, 1) := by decide +kernel
theorem dX21_make_41 : decode cX21_make 41 = .ok (.aload_n 0, 1) := by decide +kernel
theorem dX21_make_42 : decode cX21_make 42 = .ok (.getfield 220, 3) := by decide +kernel
theorem dX21_make_45 : decode cX21_make 45 = .ok (.aload_n 0, 1) := by decide +kernel
theorem dX21_make_46 : decode cX21_make 46 = .ok (.getfield 418, 3) := by decide +kernel
theorem dX21_make_49 : decode cX21_make 49 = .ok (.iconst (-1), 1) := by decide +kernel
theorem dX21_make_50 : decode cX21_make 50 = .ok (.iastore, 1) := by decide +kernel
theorem dX21_make_51 : decode cX21_make 51 = .ok (.aload_n 0, 1) := by decide +kernel
theorem dX21_make_52 : decode cX21_make 52 = .ok (.getfield 223, 3) := by decide +kernel
theorem dX21_make_55 : decode cX21_make 55 = .ok (.aload_n 0, 1) := by decide +kernel
theorem dX21_make_56 : decode cX21_make 56 = .ok (.getfield 418, 3) := by decide +kernel
theorem dX21_make_59 : decode cX21_make 59 = .ok (.iconst (-1), 1) := by decide +kernel
theorem dX21_make_60 : decode cX21_make 60 = .ok (.iastore, 1) := by decide +kernel
theorem dX21_make_61 : decode cX21_make 61 = .ok (.aload_n 0, 1) := by decide +kernel
theorem dX21_make_62 : decode cX21_make 62 = .ok (.getfield 226, 3) := by decide +kernel
theorem dX21_make_65 : decode cX21_make 65 = .ok (.aload_n 0, 1) := by decide +kernel
theorem dX21_make_66 : decode cX21_make 66 = .ok (.getfield 418, 3) := by decide +kernel
theorem dX21_make_69 : decode cX21_make 69 = .ok (.iconst (-1), 1) := by decide +kernel
theorem dX21_make_70 : decode cX21_make 70 = .ok (.iastore, 1) := by decide +kernel
theorem dX21_make_71 : decode cX21_make 71 = .ok (.aload_n 0, 1) := by decide +kernel
theorem dX21_make_72 : decode cX21_make 72 = .ok (.getfield 229, 3) := by decide +kernel
theorem dX21_make_75 : decode cX21_make 75 = .ok (.aload_n 0, 1) := by decide +kernel
theorem dX21_make_76 : decode cX21_make 76 = .ok (.getfield 418, 3) := by decide +kernel
theorem dX21_make_79 : decode cX21_make 79 = .ok (.iconst (-1), 1) := by decide +kernel
theorem dX21_make_80 : decode cX21_make 80 = .ok (.iastore, 1) := by decide +kernel
theorem dX21_make_81 : decode cX21_make 81 = .ok (.aload_n 0, 1) := by decide +kernel
theorem dX21_make_82 : decode cX21_make 82 = .ok (.getfield 232, 3) := by decide +kernel
theorem dX21_make_85 : decode cX21_make 85 = .ok (.aload_n 0, 1) := by decide +kernel
theorem dX21_make_86 : decode cX21_make 86 = .ok (.getfield 418, 3) := by decide +kernel
theorem dX21_make_89 : decode cX21_make 89 = .ok (.iconst (-1), 1) := by decide +kernel
theorem dX21_make_90 : decode cX21_make 90 = .ok (.iastore, 1) := by decide +kernel
theorem dX21_make_91 : decode cX21_make 91 = .ok (.aload_n 0, 1) := by decide +kernel
theorem dX21_make_92 : decode cX21_make 92 = .ok (.getfield 235, 3) := by decide +kernel
theorem dX21_make_95 : decode cX21_make 95 = .ok (.aload_n 0, 1) := by decide +kernel
theorem dX21_make_96 : decode cX21_make 96 = .ok (.getfield 418, 3) := by decide +kernel
theorem dX21_make_99 : decode cX21_make 99 = .ok (.iconst 1, 1) := by decide +kernel
theorem dX21_make_100 : decode cX21_make 100 = .ok (.iastore, 1) := by decide +kernel
theorem dX21_make_101 : decode cX21_make 101 = .ok (.aload_n 0, 1) := by decide +kernel
theorem dX21_make_102 : decode cX21_make 102 = .ok (.dup, 1) := by decide +kernel
theorem dX21_make_103 : decode cX21_make 103 = .ok (.getfield 418, 3) := by decide +kernel
theorem dX21_make_106 : decode cX21_make 106 = .ok (.iconst 1, 1) := by decide +kernel
theorem dX21_make_107 : decode cX21_make 107 = .ok (.iadd, 1) := by decide +kernel
theorem dX21_make_108 : decode cX21_make 108 = .ok (.putfield 418, 3) := by decide +kernel
theorem dX21_make_111 : decode cX21_make 111 = .ok (.aload_n 0, 1) := by decide +kernel
theorem dX21_make_112 : decode cX21_make 112 = .ok (.getfield 418, 3) := by decide +kernel
theorem dX21_make_115 : decode cX21_make 115 = .ok (.iconst 1, 1) := by decide +kernel
theorem dX21_make_116 : decode cX21_make 116 = .ok (.isub, 1) := by decide +kernel
theorem dX21_make_117 : decode cX21_make 117 = .ok (.ireturn, 1) := by decide +kernel
theorem dX21_opensMark_0 : decode cX21_opensMark 0 = .ok (.aload_n 0, 1) := by decide +kernel
theorem dX21_opensMark_1 : decode cX21_opensMark 1 = .ok (.aload_n 0, 1) := by decide +kernel
theorem dX21_opensMark_2 : decode cX21_opensMark 2 = .ok (.aload_n 1, 1) := by decide +kernel
theorem dX21_opensMark_3 : decode cX21_opensMark 3 = .ok (.invokevirtual 394, 3) := by decide +kernel
theorem dX21_opensMark_6 : decode cX21_opensMark 6 = .ok (.invokevirtual 401, 3) := by decide +kernel
theorem dX21_opensMark_9 : decode cX21_opensMark 9 = .ok (.aload_n 0, 1) := by decide +kernel
theorem dX21_opensMark_10 : decode cX21_opensMark 10 = .ok (.invokevirtual 411, 3) := by decide +kernel
theorem dX21_opensMark_13 : decode cX21_opensMark 13 = .ok (.return_, 1) := by decide +kernel
theorem dX21_is_0 : decode cX21_is 0 = .ok (.aload_n 0, 1) := by decide +kernel
theorem dX21_is_1 : decode cX21_is 1 = .ok (.aload_n 0, 1) := by decide +kernel
theorem dX21_is_2 : decode cX21_is 2 = .ok (.getfield 388, 3) := by decide +kernel
theorem dX21_is_5 : decode cX21_is 5 = .ok (.aload_n 1, 1) := by decide +kernel
theorem dX21_is_6 : decode cX21_is 6 = .ok (.invokevirtual 391, 3) := by decide +kernel
theorem dX21_is_9 : decode cX21_is 9 = .ok (.ireturn, 1) := by decide +kernel
theorem dX21_isAt_0 : decode cX21_isAt 0 = .ok (.aload_n 0, 1) := by decide +kernel
theorem dX21_isAt_1 : decode cX21_isAt 1 = .ok (.getfield 202, 3) := by decide +kernel
theorem dX21_isAt_4 : decode cX21_isAt 4 = .ok (.iload_n 1, 1) := by decide +kernel
theorem dX21_isAt_5 : decode cX21_isAt 5 = .ok (.baload, 1) := by decide +kernel
theorem dX21_isAt_6 : decode cX21_isAt 6 = .ok (.iconst 5, 1) := by decide +kernel
theorem dX21_isAt_7 : decode cX21_isAt 7 = .ok (.if_icmp .ne 25, 3) := by decide +kernel
theorem dX21_isAt_10 : decode cX21_isAt 10 = .ok (.aload_n 0, 1) := by decide +kernel
theorem dX21_isAt_11 : decode cX21_isAt 11 = .ok (.getfield 131, 3) := by decide +kernel
theorem dX21_isAt_14 : decode cX21_isAt 14 = .ok (.aload_n 0, 1) := by decide +kernel
theorem dX21_isAt_15 : decode cX21_isAt 15 = .ok (.getfield 205, 3) := by decide +kernel
theorem dX21_isAt_18 : decode cX21_isAt 18 = .ok (.iload_n 1, 1) := by decide +kernel
theorem dX21_isAt_19 : decode cX21_isAt 19 = .ok (.iaload, 1) := by decide +kernel
theorem dX21_isAt_20 : decode cX21_isAt 20 = .ok (.aaload, 1) := by decide +kernel
theorem dX21_isAt_21 : decode cX21_isAt 21 = .ok (.aload_n 2, 1) := by decide +kernel
theorem dX21_isAt_22 : decode cX21_isAt 22 = .ok (.invokevirtual 384, 3) := by decide +kernel
theorem dX21_isAt_25 : decode cX21_isAt 25 = .ok (.ifCond .eq 7, 3) := by decide +kernel
theorem dX21_isAt_28 : decode cX21_isAt 28 = .ok (.iconst 1, 1) := by decide +kernel
theorem dX21_isAt_29 : decode cX21_isAt 29 = .ok (.goto 4, 3) := by decide +kernel
theorem dX21_isAt_32 : decode cX21_isAt 32 = .ok (.iconst 0, 1) := by decide +kernel
theorem dX21_isAt_33 : decode cX21_isAt 33 = .ok (.ireturn, 1) := by decide +kernel
theorem dX21_need_0 : decode cX21_need 0 = .ok (.iload_n 1, 1) := by decide +kernel
theorem dX21_need_1 : decode cX21_need 1 = .ok (.ifCond .ne 11, 3) := by decide +kernel
theorem dX21_need_4 : decode cX21_need 4 = .ok (.new 381, 3) := by decide +kernel
theorem dX21_need_7 : decode cX21_need 7 = .ok (.dup, 1) := by decide +kernel
theorem dX21_need_8 : decode cX21_need 8 = .ok (.invokespecial 383, 3) := by decide +kernel
theorem dX21_need_11 : decode cX21_need 11 = .ok (.athrow, 1) := by decide +kernel
theorem dX21_need_12 : decode cX21_need 12 = .ok (.return_, 1) := by decide +kernel
theorem dX21_opens_0 : decode cX21_opens 0 = .ok (.aload_n 0, 1) := by decide +kernel
theorem dX21_opens_1 : decode cX21_opens 1 = .ok (.aload_n 0, 1) := by decide +kernel
theorem dX21_opens_2 : decode cX21_opens 2 = .ok (.getfield 408, 3) := by decide +kernel
theorem dX21_opens_5 : decode cX21_opens 5 = .ok (.bipush 60, 2) := by decide +kernel
theorem dX21_opens_7 : decode cX21_opens 7 = .ok (.if_icmp .ge 7, 3) := by decide +kernel
theorem dX21_opens_10 : decode cX21_opens 10 = .ok (.iconst 1, 1) := by decide +kernel
theorem dX21_opens_11 : decode cX21_opens 11 = .ok (.goto 4, 3) := by decide +kernel
theorem dX21_opens_14 : decode cX21_opens 14 = .ok (.iconst 0, 1) := by decide +kernel
theorem dX21_opens_15 : decode cX21_opens 15 = .ok (.invokevirtual 401, 3) := by decide +kernel
theorem dX21_opens_18 : decode cX21_opens 18 = .ok (.aload_n 0, 1) := by decide +kernel
theorem dX21_opens_19 : decode cX21_opens 19 = .ok (.dup, 1) := by decide +kernel
theorem dX21_opens_20 : decode cX21_opens 20 = .ok (.getfield 408, 3) := by decide +kernel
theorem dX21_opens_23 : decode cX21_opens 23 = .ok (.iconst 1, 1) := by decide +kernel
theorem dX21_opens_24 : decode cX21_opens 24 = .ok (.iadd, 1) := by decide +kernel
theorem dX21_opens_25 : decode cX21_opens 25 = .ok (.putfield 408, 3) := by decide +kernel
theorem dX21_opens_28 : decode cX21_opens 28 = .ok (.aload_n 0, 1) := by decide +kernel
theorem dX21_opens_29 : decode cX21_opens 29 = .ok (.dup, 1) := by decide +kernel
theorem dX21_opens_30 : decode cX21_opens 30 = .ok (.getfield 388, 3) := by decide +kernel
theorem dX21_opens_33 : decode cX21_opens 33 = .ok (.iconst 1, 1) := by decide +kernel
theorem dX21_opens_34 : decode cX21_opens 34 = .ok (.iadd, 1) := by decide +kernel
theorem dX21_opens_35 : decode cX21_opens 35 = .ok (.putfield 388, 3) := by decide +kernel
theorem dX21_opens_38 : decode cX21_opens 38 = .ok (.return_, 1) := by decide +kernel
theorem dX21_name_0 : decode cX21_name 0 = .ok (.aload_n 0, 1) := by decide +kernel
theorem dX21_name_1 : decode cX21_name 1 = .ok (.aload_n 0, 1) := by decide +kernel
theorem dX21_name_2 : decode cX21_name 2 = .ok (.getfield 202, 3) := by decide +kernel
theorem dX21_name_5 : decode cX21_name 5 = .ok (.aload_n 0, 1) := by decide +kernel
theorem dX21_name_6 : decode cX21_name 6 = .ok (.getfield 388, 3) := by decide +kernel
theorem dX21_name_9 : decode cX21_name 9 = .ok (.baload, 1) := by decide +kernel
theorem dX21_name_10 : decode cX21_name 10 = .ok (.iconst 1, 1) := by decide +kernel
theorem dX21_name_11 : decode cX21_name 11 = .ok (.if_icmp .ne 7, 3) := by decide +kernel
theorem dX21_name_14 : decode cX21_name 14 = .ok (.iconst 1, 1) := by decide +kernel
theorem dX21_name_15 : decode cX21_name 15 = .ok (.goto 4, 3) := by decide +kernel
theorem dX21_name_18 : decode cX21_name 18 = .ok (.iconst 0, 1) := by decide +kernel
theorem dX21_name_19 : decode cX21_name 19 = .ok (.invokevirtual 401, 3) := by decide +kernel
theorem dX21_name_22 : decode cX21_name 22 = .ok (.aload_n 0, 1) := by decide +kernel
theorem dX21_name_23 : decode cX21_name 23 = .ok (.dup, 1) := by decide +kernel
theorem dX21_name_24 : decode cX21_name 24 = .ok (.getfield 388, 3) := by decide +kernel
theorem dX21_name_27 : decode cX21_name 27 = .ok (.iconst 1, 1) := by decide +kernel
theorem dX21_name_28 : decode cX21_name 28 = .ok (.iadd, 1) := by decide +kernel
theorem dX21_name_29 : decode cX21_name 29 = .ok (.putfield 388, 3) := by decide +kernel
theorem dX21_name_32 : decode cX21_name 32 = .ok (.aload_n 0, 1) := by decide +kernel
theorem dX21_name_33 : decode cX21_name 33 = .ok (.getfield 388, 3) := by decide +kernel
theorem dX21_name_36 : decode cX21_name 36 = .ok (.iconst 1, 1) := by decide +kernel
theorem dX21_name_37 : decode cX21_name 37 = .ok (.isub, 1) := by decide +kernel
theorem dX21_name_38 : decode cX21_name 38 = .ok (.ireturn, 1) := by decide +kernel
theorem dX21_takes_0 : decode cX21_takes 0 = .ok (.aload_n 0, 1) := by decide +kernel
theorem dX21_takes_1 : decode cX21_takes 1 = .ok (.aload_n 1, 1) := by decide +kernel
theorem dX21_takes_2 : decode cX21_takes 2 = .ok (.invokevirtual 394, 3) := by decide +kernel
theorem dX21_takes_5 : decode cX21_takes 5 = .ok (.istore_n 2, 1) := by decide +kernel
theorem dX21_takes_6 : decode cX21_takes 6 = .ok (.aload_n 0, 1) := by decide +kernel
theorem dX21_takes_7 : decode cX21_takes 7 = .ok (.iload_n 2, 1) := by decide +kernel
theorem dX21_takes_8 : decode cX21_takes 8 = .ok (.ifCond .eq 12, 3) := by decide +kernel
theorem dX21_takes_11 : decode cX21_takes 11 = .ok (.aload_n 0, 1) := by decide +kernel
theorem dX21_takes_12 : decode cX21_takes 12 = .ok (.getfield 388, 3) := by decide +kernel
theorem dX21_takes_15 : decode cX21_takes 15 = .ok (.iconst 1, 1) := by decide +kernel
theorem dX21_takes_16 : decode cX21_takes 16 = .ok (.iadd, 1) := by decide +kernel
theorem dX21_takes_17 : decode cX21_takes 17 = .ok (.goto 7, 3) := by decide +kernel
theorem dX21_takes_20 : decode cX21_takes 20 = .ok (.aload_n 0, 1) := by decide +kernel
theorem dX21_takes_21 : decode cX21_takes 21 = .ok (.getfield 388, 3) := by decide +kernel
theorem dX21_takes_24 : decode cX21_takes 24 = .ok (.putfield 388, 3) := by decide +kernel
theorem dX21_takes_27 : decode cX21_takes 27 = .ok (.iload_n 2, 1) := by decide +kernel
theorem dX21_takes_28 : decode cX21_takes 28 = .ok (.ireturn, 1) := by decide +kernel
theorem dX21_constant_0 : decode cX21_constant 0 = .ok (.aload_n 0, 1) := by decide +kernel
theorem dX21_constant_1 : decode cX21_constant 1 = .ok (.invokevirtual 421, 3) := by decide +kernel
theorem dX21_constant_4 : decode cX21_constant 4 = .ok (.istore_n 1, 1) := by decide +kernel
theorem dX21_constant_5 : decode cX21_constant 5 = .ok (.iload_n 1, 1) := by decide +kernel
theorem dX21_constant_6 : decode cX21_constant 6 = .ok (.ifCond .ge 9, 3) := by decide +kernel
theorem dX21_constant_9 : decode cX21_constant 9 = .ok (.iconst (-1), 1) := by decide +kernel
theorem dX21_constant_10 : decode cX21_constant 10 = .ok (.iload_n 1, 1) := by decide +kernel
theorem dX21_constant_11 : decode cX21_constant 11 = .ok (.isub, 1) := by decide +kernel
theorem dX21_constant_12 : decode cX21_constant 12 = .ok (.goto 4, 3) := by decide +kernel
theorem dX21_constant_15 : decode cX21_constant 15 = .ok (.iload_n 1, 1) := by decide +kernel
theorem dX21_constant_16 : decode cX21_constant 16 = .ok (.ireturn, 1) := by decide +kernel
theorem dX21_conditional_0 : decode cX21_conditional 0 = .ok (.aload_n 0, 1) := by decide +kernel
theorem dX21_conditional_1 : decode cX21_conditional 1 = .ok (.getfield 388, 3) := by decide +kernel
theorem dX21_conditional_4 : decode cX21_conditional 4 = .ok (.istore_n 1, 1) := by decide +kernel
theorem dX21_conditional_5 : decode cX21_conditional 5 = .ok (.aload_n 0, 1) := by decide +kernel
theorem dX21_conditional_6 : decode cX21_conditional 6 = .ok (.invokevirtual 440, 3) := by decide +kernel
theorem dX21_conditional_9 : decode cX21_conditional 9 = .ok (.istore_n 2, 1) := by decide +kernel
theorem dX21_conditional_10 : decode cX21_conditional 10 = .ok (.aload_n 0, 1) := by decide +kernel
theorem dX21_conditional_11 : decode cX21_conditional 11 = .ok (.ldc 103, 2) := by decide +kernel
theorem dX21_conditional_13 : decode cX21_conditional 13 = .ok (.invokevirtual 394, 3) := by decide +kernel
theorem dX21_conditional_16 : decode cX21_conditional 16 = .ok (.ifCond .ne 5, 3) := by decide +kernel
theorem dX21_conditional_19 : decode cX21_conditional 19 = .ok (.iload_n 2, 1) := by decide +kernel
theorem dX21_conditional_20 : decode cX21_conditional 20 = .ok (.ireturn, 1) := by decide +kernel
theorem dX21_conditional_21 : decode cX21_conditional 21 = .ok (.aload_n 0, 1) := by decide +kernel
theorem dX21_conditional_22 : decode cX21_conditional 22 = .ok (.getfield 388, 3) := by decide +kernel
theorem dX21_conditional_25 : decode cX21_conditional 25 = .ok (.istore_n 3, 1) := by decide +kernel
theorem dX21_conditional_26 : decode cX21_conditional 26 = .ok (.aload_n 0, 1) := by decide +kernel
theorem dX21_conditional_27 : decode cX21_conditional 27 = .ok (.iload_n 2, 1) := by decide +kernel
theorem dX21_conditional_28 : decode cX21_conditional 28 = .ok (.ifCond .ge 9, 3) := by decide +kernel
theorem dX21_conditional_31 : decode cX21_conditional 31 = .ok (.iconst (-1), 1) := by decide +kernel
theorem dX21_conditional_32 : decode cX21_conditional 32 = .ok (.iload_n 2, 1) := by decide +kernel
theorem dX21_conditional_33 : decode cX21_conditional 33 = .ok (.isub, 1) := by decide +kernel
theorem dX21_conditional_34 : decode cX21_conditional 34 = .ok (.goto 4, 3) := by decide +kernel
theorem dX21_conditional_37 : decode cX21_conditional 37 = .ok (.iload_n 2, 1) := by decide +kernel
theorem dX21_conditional_38 : decode cX21_conditional 38 = .ok (.invokevirtual 428, 3) := by decide +kernel
theorem dX21_conditional_41 : decode cX21_conditional 41 = .ok (.aload_n 0, 1) := by decide +kernel
theorem dX21_conditional_42 : decode cX21_conditional 42 = .ok (.invokevirtual 411, 3) := by decide +kernel
theorem dX21_conditional_45 : decode cX21_conditional 45 = .ok (.aload_n 0, 1) := by decide +kernel
theorem dX21_conditional_46 : decode cX21_conditional 46 = .ok (.invokevirtual 431, 3) := by decide +kernel
theorem dX21_conditional_49 : decode cX21_conditional 49 = .ok (.istore 4, 2) := by decide +kernel
theorem dX21_conditional_51 : decode cX21_conditional 51 = .ok (.aload_n 0, 1) := by decide +kernel
theorem dX21_conditional_52 : decode cX21_conditional 52 = .ok (.ldc 101, 2) := by decide +kernel
theorem dX21_conditional_54 : decode cX21_conditional 54 = .ok (.invokevirtual 414, 3) := by decide +kernel
theorem dX21_conditional_57 : decode cX21_conditional 57 = .ok (.aload_n 0, 1) := by decide +kernel
theorem dX21_conditional_58 : decode cX21_conditional 58 = .ok (.invokevirtual 421, 3) := by decide +kernel
theorem dX21_conditional_61 : decode cX21_conditional 61 = .ok (.istore 5, 2) := by decide +kernel
theorem dX21_conditional_63 : decode cX21_conditional 63 = .ok (.aload_n 0, 1) := by decide +kernel
theorem dX21_conditional_64 : decode cX21_conditional 64 = .ok (.dup, 1) := by decide +kernel
theorem dX21_conditional_65 : decode cX21_conditional 65 = .ok (.getfield 408, 3) := by decide +kernel
theorem dX21_conditional_68 : decode cX21_conditional 68 = .ok (.iconst 1, 1) := by decide +kernel
theorem dX21_conditional_69 : decode cX21_conditional 69 = .ok (.isub, 1) := by decide +kernel
theorem dX21_conditional_70 : decode cX21_conditional 70 = .ok (.putfield 408, 3) := by decide +kernel
theorem dX21_conditional_73 : decode cX21_conditional 73 = .ok (.aload_n 0, 1) := by decide +kernel
theorem dX21_conditional_74 : decode cX21_conditional 74 = .ok (.bipush 8, 2) := by decide +kernel
theorem dX21_conditional_76 : decode cX21_conditional 76 = .ok (.iload_n 3, 1) := by decide +kernel
theorem dX21_conditional_77 : decode cX21_conditional 77 = .ok (.invokevirtual 434, 3) := by decide +kernel
theorem dX21_conditional_80 : decode cX21_conditional 80 = .ok (.istore 6, 2) := by decide +kernel
theorem dX21_conditional_82 : decode cX21_conditional 82 = .ok (.aload_n 0, 1) := by decide +kernel
theorem dX21_conditional_83 : decode cX21_conditional 83 = .ok (.getfield 235, 3) := by decide +kernel
theorem dX21_conditional_86 : decode cX21_conditional 86 = .ok (.iload 6, 2) := by decide +kernel
theorem dX21_conditional_88 : decode cX21_conditional 88 = .ok (.iconst 1, 1) := by decide +kernel
theorem dX21_conditional_89 : decode cX21_conditional 89 = .ok (.aload_n 0, 1) := by decide +kernel
theorem dX21_conditional_90 : decode cX21_conditional 90 = .ok (.getfield 235, 3) := by decide +kernel
theorem dX21_conditional_93 : decode cX21_conditional 93 = .ok (.iload_n 2, 1) := by decide +kernel
theorem dX21_conditional_94 : decode cX21_conditional 94 = .ok (.ifCond .ge 9, 3) := by decide +kernel
theorem dX21_conditional_97 : decode cX21_conditional 97 = .ok (.iconst (-1), 1) := by decide +kernel
theorem dX21_conditional_98 : decode cX21_conditional 98 = .ok (.iload_n 2, 1) := by decide +kernel
theorem dX21_conditional_99 : decode cX21_conditional 99 = .ok (.isub, 1) := by decide +kernel
theorem dX21_conditional_100 : decode cX21_conditional 100 = .ok (.goto 4, 3) := by decide +kernel
theorem dX21_conditional_103 : decode cX21_conditional 103 = .ok (.iload_n 2, 1) := by decide +kernel
theorem dX21_conditional_104 : decode cX21_conditional 104 = .ok (.iaload, 1) := by decide +kernel
theorem dX21_conditional_105 : decode cX21_conditional 105 = .ok (.aload_n 0, 1) := by decide +kernel
theorem dX21_conditional_106 : decode cX21_conditional 106 = .ok (.getfield 235, 3) := by decide +kernel
theorem dX21_conditional_109 : decode cX21_conditional 109 = .ok (.iload 4, 2) := by decide +kernel
theorem dX21_conditional_111 : decode cX21_conditional 111 = .ok (.iaload, 1) := by decide +kernel
theorem dX21_conditional_112 : decode cX21_conditional 112 = .ok (.aload_n 0, 1) := by decide +kernel
theorem dX21_conditional_113 : decode cX21_conditional 113 = .ok (.getfield 235, 3) := by decide +kernel
theorem dX21_conditional_116 : decode cX21_conditional 116 = .ok (.iload 5, 2) := by decide +kernel
theorem dX21_conditional_118 : decode cX21_conditional 118 = .ok (.ifCond .ge 10, 3) := by decide +kernel
theorem dX21_conditional_121 : decode cX21_conditional 121 = .ok (.iconst (-1), 1) := by decide +kernel
theorem dX21_conditional_122 : decode cX21_conditional 122 = .ok (.iload 5, 2) := by decide +kernel
theorem dX21_conditional_124 : decode cX21_conditional 124 = .ok (.isub, 1) := by decide +kernel
theorem dX21_conditional_125 : decode cX21_conditional 125 = .ok (.goto 5, 3) := by decide +kernel
theorem dX21_conditional_128 : decode cX21_conditional 128 = .ok (.iload 5, 2) := by decide +kernel
theorem dX21_conditional_130 : decode cX21_conditional 130 = .ok (.iaload, 1) := by decide +kernel
theorem dX21_conditional_131 : decode cX21_conditional 131 = .ok (.invokestatic 437, 3) := by decide +kernel
theorem dX21_conditional_134 : decode cX21_conditional 134 = .ok (.invokestatic 437, 3) := by decide +kernel
theorem dX21_conditional_137 : decode cX21_conditional 137 = .ok (.iadd, 1) := by decide +kernel
theorem dX21_conditional_138 : decode cX21_conditional 138 = .ok (.iastore, 1) := by decide +kernel
theorem dX21_conditional_139 : decode cX21_conditional 139 = .ok (.aload_n 0, 1) := by decide +kernel
theorem dX21_conditional_140 : decode cX21_conditional 140 = .ok (.getfield 214, 3) := by decide +kernel
theorem dX21_conditional_143 : decode cX21_conditional 143 = .ok (.iload 6, 2) := by decide +kernel
theorem dX21_conditional_145 : decode cX21_conditional 145 = .ok (.iload_n 1, 1) := by decide +kernel
theorem dX21_conditional_146 : decode cX21_conditional 146 = .ok (.iastore, 1) := by decide +kernel
theorem dX21_conditional_147 : decode cX21_conditional 147 = .ok (.aload_n 0, 1) := by decide +kernel
theorem dX21_conditional_148 : decode cX21_conditional 148 = .ok (.getfield 217, 3) := by decide +kernel
theorem dX21_conditional_151 : decode cX21_conditional 151 = .ok (.iload 6, 2) := by decide +kernel
theorem dX21_conditional_153 : decode cX21_conditional 153 = .ok (.iload_n 2, 1) := by decide +kernel
theorem dX21_conditional_154 : decode cX21_conditional 154 = .ok (.ifCond .ge 9, 3) := by decide +kernel
theorem dX21_conditional_157 : decode cX21_conditional 157 = .ok (.iconst (-1), 1) := by decide +kernel
theorem dX21_conditional_158 : decode cX21_conditional 158 = .ok (.iload_n 2, 1) := by decide +kernel
theorem dX21_conditional_159 : decode cX21_conditional 159 = .ok (.isub, 1) := by decide +kernel
theorem dX21_conditional_160 : decode cX21_conditional 160 = .ok (.goto 4, 3) := by decide +kernel
theorem dX21_conditional_163 : decode cX21_conditional 163 = .ok (.iload_n 2, 1) := by decide +kernel
theorem dX21_conditional_164 : decode cX21_conditional 164 = .ok (.iastore, 1) := by decide +kernel
theorem dX21_conditional_165 : decode cX21_conditional 165 = .ok (.aload_n 0, 1) := by decide +kernel
theorem dX21_conditional_166 : decode cX21_conditional 166 = .ok (.getfield 220, 3) := by decide +kernel
theorem dX21_conditional_169 : decode cX21_conditional 169 = .ok (.iload 6, 2) := by decide +kernel
theorem dX21_conditional_171 : decode cX21_conditional 171 = .ok (.iload 4, 2) := by decide +kernel
theorem dX21_conditional_173 : decode cX21_conditional 173 = .ok (.iastore, 1) := by decide +kernel
theorem dX21_conditional_174 : decode cX21_conditional 174 = .ok (.aload_n 0, 1) := by decide +kernel
theorem dX21_conditional_175 : decode cX21_conditional 175 = .ok (.getfield 223, 3) := by decide +kernel
theorem dX21_conditional_178 : decode cX21_conditional 178 = .ok (.iload 6, 2) := by decide +kernel
theorem dX21_conditional_180 : decode cX21_conditional 180 = .ok (.iload 5, 2) := by decide +kernel
theorem dX21_conditional_182 : decode cX21_conditional 182 = .ok (.ifCond .ge 10, 3) := by decide +kernel
theorem dX21_conditional_185 : decode cX21_conditional 185 = .ok (.iconst (-1), 1) := by decide +kernel
theorem dX21_conditional_186 : decode cX21_conditional 186 = .ok (.iload 5, 2) := by decide +kernel
theorem dX21_conditional_188 : decode cX21_conditional 188 = .ok (.isub, 1) := by decide +kernel
theorem dX21_conditional_189 : decode cX21_conditional 189 = .ok (.goto 5, 3) := by decide +kernel
theorem dX21_conditional_192 : decode cX21_conditional 192 = .ok (.iload 5, 2) := by decide +kernel
theorem dX21_conditional_194 : decode cX21_conditional 194 = .ok (.iastore, 1) := by decide +kernel
theorem dX21_conditional_195 : decode cX21_conditional 195 = .ok (.iload 6, 2) := by decide +kernel
theorem dX21_conditional_197 : decode cX21_conditional 197 = .ok (.ireturn, 1) := by decide +kernel
theorem dX21_binary_0 : decode cX21_binary 0 = .ok (.aload_n 0, 1) := by decide +kernel
theorem dX21_binary_1 : decode cX21_binary 1 = .ok (.getfield 443, 3) := by decide +kernel
theorem dX21_binary_4 : decode cX21_binary 4 = .ok (.istore_n 1, 1) := by decide +kernel
theorem dX21_binary_5 : decode cX21_binary 5 = .ok (.aload_n 0, 1) := by decide +kernel
theorem dX21_binary_6 : decode cX21_binary 6 = .ok (.invokevirtual 449, 3) := by decide +kernel
theorem dX21_binary_9 : decode cX21_binary 9 = .ok (.istore_n 2, 1) := by decide +kernel
theorem dX21_binary_10 : decode cX21_binary 10 = .ok (.iconst 1, 1) := by decide +kernel
theorem dX21_binary_11 : decode cX21_binary 11 = .ok (.istore_n 3, 1) := by decide +kernel
theorem dX21_binary_12 : decode cX21_binary 12 = .ok (.aload_n 0, 1) := by decide +kernel
theorem dX21_binary_13 : decode cX21_binary 13 = .ok (.aload_n 0, 1) := by decide +kernel
theorem dX21_binary_14 : decode cX21_binary 14 = .ok (.getfield 388, 3) := by decide +kernel
theorem dX21_binary_17 : decode cX21_binary 17 = .ok (.invokevirtual 452, 3) := by decide +kernel
theorem dX21_binary_20 : decode cX21_binary 20 = .ok (.istore 4, 2) := by decide +kernel
theorem dX21_binary_22 : decode cX21_binary 22 = .ok (.iload 4, 2) := by decide +kernel
theorem dX21_binary_24 : decode cX21_binary 24 = .ok (.ifCond .le 109, 3) := by decide +kernel
theorem dX21_binary_27 : decode cX21_binary 27 = .ok (.iconst 0, 1) := by decide +kernel
theorem dX21_binary_28 : decode cX21_binary 28 = .ok (.istore_n 3, 1) := by decide +kernel
theorem dX21_binary_29 : decode cX21_binary 29 = .ok (.aload_n 0, 1) := by decide +kernel
theorem dX21_binary_30 : decode cX21_binary 30 = .ok (.getfield 443, 3) := by decide +kernel
theorem dX21_binary_33 : decode cX21_binary 33 = .ok (.iload_n 1, 1) := by decide +kernel
theorem dX21_binary_34 : decode cX21_binary 34 = .ok (.if_icmp .le 28, 3) := by decide +kernel
theorem dX21_binary_37 : decode cX21_binary 37 = .ok (.aload_n 0, 1) := by decide +kernel
theorem dX21_binary_38 : decode cX21_binary 38 = .ok (.getfield 238, 3) := by decide +kernel
theorem dX21_binary_41 : decode cX21_binary 41 = .ok (.aload_n 0, 1) := by decide +kernel
theorem dX21_binary_42 : decode cX21_binary 42 = .ok (.getfield 443, 3) := by decide +kernel
theorem dX21_binary_45 : decode cX21_binary 45 = .ok (.iconst 1, 1) := by decide +kernel
theorem dX21_binary_46 : decode cX21_binary 46 = .ok (.isub, 1) := by decide +kernel
theorem dX21_binary_47 : decode cX21_binary 47 = .ok (.iaload, 1) := by decide +kernel
theorem dX21_binary_48 : decode cX21_binary 48 = .ok (.iload 4, 2) := by decide +kernel
theorem dX21_binary_50 : decode cX21_binary 50 = .ok (.if_icmp .lt 12, 3) := by decide +kernel
theorem dX21_binary_53 : decode cX21_binary 53 = .ok (.aload_n 0, 1) := by decide +kernel
theorem dX21_binary_54 : decode cX21_binary 54 = .ok (.iload_n 2, 1) := by decide +kernel
theorem dX21_binary_55 : decode cX21_binary 55 = .ok (.invokevirtual 455, 3) := by decide +kernel
theorem dX21_binary_58 : decode cX21_binary 58 = .ok (.istore_n 2, 1) := by decide +kernel
theorem dX21_binary_59 : decode cX21_binary 59 = .ok (.goto (-30), 3) := by decide +kernel
theorem dX21_binary_62 : decode cX21_binary 62 = .ok (.aload_n 0, 1) := by decide +kernel
theorem dX21_binary_63 : decode cX21_binary 63 = .ok (.getfield 238, 3) := by decide +kernel
theorem dX21_binary_66 : decode cX21_binary 66 = .ok (.aload_n 0, 1) := by decide +kernel
theorem dX21_binary_67 : decode cX21_binary 67 = .ok (.getfield 443, 3) := by decide +kernel
theorem dX21_binary_70 : decode cX21_binary 70 = .ok (.iload 4, 2) := by decide +kernel
theorem dX21_binary_72 : decode cX21_binary 72 = .ok (.iastore, 1) := by decide +kernel
theorem dX21_binary_73 : decode cX21_binary 73 = .ok (.aload_n 0, 1) := by decide +kernel
theorem dX21_binary_74 : decode cX21_binary 74 = .ok (.getfield 241, 3) := by decide +kernel
theorem dX21_binary_77 : decode cX21_binary 77 = .ok (.aload_n 0, 1) := by decide +kernel
theorem dX21_binary_78 : decode cX21_binary 78 = .ok (.getfield 443, 3) := by decide +kernel
theorem dX21_binary_81 : decode cX21_binary 81 = .ok (.aload_n 0, 1) := by decide +kernel
theorem dX21_binary_82 : decode cX21_binary 82 = .ok (.getfield 388, 3) := by decide +kernel
theorem dX21_binary_85 : decode cX21_binary 85 = .ok (.iastore, 1) := by decide +kernel
theorem dX21_binary_86 : decode cX21_binary 86 = .ok (.aload_n 0, 1) := by decide +kernel
theorem dX21_binary_87 : decode cX21_binary 87 = .ok (.getfield 244, 3) := by decide +kernel
theorem dX21_binary_90 : decode cX21_binary 90 = .ok (.aload_n 0, 1) := by decide +kernel
theorem dX21_binary_91 : decode cX21_binary 91 = .ok (.getfield 443, 3) := by decide +kernel
theorem dX21_binary_94 : decode cX21_binary 94 = .ok (.iload_n 2, 1) := by decide +kernel
theorem dX21_binary_95 : decode cX21_binary 95 = .ok (.iastore, 1) := by decide +kernel
theorem dX21_binary_96 : decode cX21_binary 96 = .ok (.aload_n 0, 1) := by decide +kernel
theorem dX21_binary_97 : decode cX21_binary 97 = .ok (.iload_n 2, 1) := by decide +kernel
theorem dX21_binary_98 : decode cX21_binary 98 = .ok (.invokevirtual 428, 3) := by decide +kernel
theorem dX21_binary_101 : decode cX21_binary 101 = .ok (.aload_n 0, 1) := by decide +kernel
theorem dX21_binary_102 : decode cX21_binary 102 = .ok (.invokevirtual 411, 3) := by decide +kernel
theorem dX21_binary_105 : decode cX21_binary 105 = .ok (.aload_n 0, 1) := by decide +kernel
theorem dX21_binary_106 : decode cX21_binary 106 = .ok (.dup, 1) := by decide +kernel
theorem dX21_binary_107 : decode cX21_binary 107 = .ok (.getfield 443, 3) := by decide +kernel
theorem dX21_binary_110 : decode cX21_binary 110 = .ok (.iconst 1, 1) := by decide +kernel
theorem dX21_binary_111 : decode cX21_binary 111 = .ok (.iadd, 1) := by decide +kernel
theorem dX21_binary_112 : decode cX21_binary 112 = .ok (.putfield 443, 3) := by decide +kernel
theorem dX21_binary_115 : decode cX21_binary 115 = .ok (.aload_n 0, 1) := by decide +kernel
theorem dX21_binary_116 : decode cX21_binary 116 = .ok (.invokevirtual 449, 3) := by decide +kernel
theorem dX21_binary_119 : decode cX21_binary 119 = .ok (.istore_n 2, 1) := by decide +kernel
theorem dX21_binary_120 : decode cX21_binary 120 = .ok (.aload_n 0, 1) := by decide +kernel
theorem dX21_binary_121 : decode cX21_binary 121 = .ok (.aload_n 0, 1) := by decide +kernel
theorem dX21_binary_122 : decode cX21_binary 122 = .ok (.getfield 388, 3) := by decide +kernel
theorem dX21_binary_125 : decode cX21_binary 125 = .ok (.invokevirtual 452, 3) := by decide +kernel
theorem dX21_binary_128 : decode cX21_binary 128 = .ok (.istore 4, 2) := by decide +kernel
theorem dX21_binary_130 : decode cX21_binary 130 = .ok (.goto (-108), 3) := by decide +kernel
theorem dX21_binary_133 : decode cX21_binary 133 = .ok (.aload_n 0, 1) := by decide +kernel
theorem dX21_binary_134 : decode cX21_binary 134 = .ok (.getfield 443, 3) := by decide +kernel
theorem dX21_binary_137 : decode cX21_binary 137 = .ok (.iload_n 1, 1) := by decide +kernel
theorem dX21_binary_138 : decode cX21_binary 138 = .ok (.if_icmp .le 12, 3) := by decide +kernel
theorem dX21_binary_141 : decode cX21_binary 141 = .ok (.aload_n 0, 1) := by decide +kernel
theorem dX21_binary_142 : decode cX21_binary 142 = .ok (.iload_n 2, 1) := by decide +kernel
theorem dX21_binary_143 : decode cX21_binary 143 = .ok (.invokevirtual 455, 3) := by decide +kernel
theorem dX21_binary_146 : decode cX21_binary 146 = .ok (.istore_n 2, 1) := by decide +kernel
theorem dX21_binary_147 : decode cX21_binary 147 = .ok (.goto (-14), 3) := by decide +kernel
theorem dX21_binary_150 : decode cX21_binary 150 = .ok (.iload_n 3, 1) := by decide +kernel
theorem dX21_binary_151 : decode cX21_binary 151 = .ok (.ifCond .eq 9, 3) := by decide +kernel
theorem dX21_binary_154 : decode cX21_binary 154 = .ok (.iconst (-1), 1) := by decide +kernel
theorem dX21_binary_155 : decode cX21_binary 155 = .ok (.iload_n 2, 1) := by decide +kernel
theorem dX21_binary_156 : decode cX21_binary 156 = .ok (.isub, 1) := by decide +kernel
theorem dX21_binary_157 : decode cX21_binary 157 = .ok (.goto 4, 3) := by decide +kernel
theorem dX21_binary_160 : decode cX21_binary 160 = .ok (.iload_n 2, 1) := by decide +kernel
theorem dX21_binary_161 : decode cX21_binary 161 = .ok (.ireturn, 1) := by decide +kernel
theorem dX21_unary_0 : decode cX21_unary 0 = .ok (.aload_n 0, 1) := by decide +kernel
theorem dX21_unary_1 : decode cX21_unary 1 = .ok (.getfield 388, 3) := by decide +kernel
theorem dX21_unary_4 : decode cX21_unary 4 = .ok (.istore_n 1, 1) := by decide +kernel
theorem dX21_unary_5 : decode cX21_unary 5 = .ok (.iconst 0, 1) := by decide +kernel
theorem dX21_unary_6 : decode cX21_unary 6 = .ok (.istore_n 2, 1) := by decide +kernel
theorem dX21_unary_7 : decode cX21_unary 7 = .ok (.aload_n 0, 1) := by decide +kernel
theorem dX21_unary_8 : decode cX21_unary 8 = .ok (.invokevirtual 458, 3) := by decide +kernel
theorem dX21_unary_11 : decode cX21_unary 11 = .ok (.ifCond .eq 13, 3) := by decide +kernel
theorem dX21_unary_14 : decode cX21_unary 14 = .ok (.aload_n 0, 1) := by decide +kernel
theorem dX21_unary_15 : decode cX21_unary 15 = .ok (.invokevirtual 411, 3) := by decide +kernel
theorem dX21_unary_18 : decode cX21_unary 18 = .ok (.iinc 2 1, 3) := by decide +kernel
theorem dX21_unary_21 : decode cX21_unary 21 = .ok (.goto (-14), 3) := by decide +kernel
theorem dX21_unary_24 : decode cX21_unary 24 = .ok (.aload_n 0, 1) := by decide +kernel
theorem dX21_unary_25 : decode cX21_unary 25 = .ok (.invokevirtual 461, 3) := by decide +kernel
theorem dX21_unary_28 : decode cX21_unary 28 = .ok (.istore_n 3, 1) := by decide +kernel
theorem dX21_unary_29 : decode cX21_unary 29 = .ok (.iload_n 1, 1) := by decide +kernel
theorem dX21_unary_30 : decode cX21_unary 30 = .ok (.iload_n 2, 1) := by decide +kernel
theorem dX21_unary_31 : decode cX21_unary 31 = .ok (.iadd, 1) := by decide +kernel
theorem dX21_unary_32 : decode cX21_unary 32 = .ok (.iconst 1, 1) := by decide +kernel
theorem dX21_unary_33 : decode cX21_unary 33 = .ok (.isub, 1) := by decide +kernel
theorem dX21_unary_34 : decode cX21_unary 34 = .ok (.istore 4, 2) := by decide +kernel
theorem dX21_unary_36 : decode cX21_unary 36 = .ok (.iload 4, 2) := by decide +kernel
theorem dX21_unary_38 : decode cX21_unary 38 = .ok (.iload_n 1, 1) := by decide +kernel
theorem dX21_unary_39 : decode cX21_unary 39 = .ok (.if_icmp .lt 62, 3) := by decide +kernel
theorem dX21_unary_42 : decode cX21_unary 42 = .ok (.aload_n 0, 1) := by decide +kernel
theorem dX21_unary_43 : decode cX21_unary 43 = .ok (.iconst 5, 1) := by decide +kernel
theorem dX21_unary_44 : decode cX21_unary 44 = .ok (.iload 4, 2) := by decide +kernel
theorem dX21_unary_46 : decode cX21_unary 46 = .ok (.invokevirtual 434, 3) := by decide +kernel
theorem dX21_unary_49 : decode cX21_unary 49 = .ok (.istore 5, 2) := by decide +kernel
theorem dX21_unary_51 : decode cX21_unary 51 = .ok (.aload_n 0, 1) := by decide +kernel
theorem dX21_unary_52 : decode cX21_unary 52 = .ok (.getfield 235, 3) := by decide +kernel
theorem dX21_unary_55 : decode cX21_unary 55 = .ok (.iload 5, 2) := by decide +kernel
theorem dX21_unary_57 : decode cX21_unary 57 = .ok (.aload_n 0, 1) := by decide +kernel
theorem dX21_unary_58 : decode cX21_unary 58 = .ok (.iload 4, 2) := by decide +kernel
theorem dX21_unary_60 : decode cX21_unary 60 = .ok (.invokevirtual 446, 3) := by decide +kernel
theorem dX21_unary_63 : decode cX21_unary 63 = .ok (.ifCond .eq 12, 3) := by decide +kernel
theorem dX21_unary_66 : decode cX21_unary 66 = .ok (.aload_n 0, 1) := by decide +kernel
theorem dX21_unary_67 : decode cX21_unary 67 = .ok (.getfield 235, 3) := by decide +kernel
theorem dX21_unary_70 : decode cX21_unary 70 = .ok (.iload_n 3, 1) := by decide +kernel
theorem dX21_unary_71 : decode cX21_unary 71 = .ok (.iaload, 1) := by decide +kernel
theorem dX21_unary_72 : decode cX21_unary 72 = .ok (.goto 11, 3) := by decide +kernel
theorem dX21_unary_75 : decode cX21_unary 75 = .ok (.iconst 1, 1) := by decide +kernel
theorem dX21_unary_76 : decode cX21_unary 76 = .ok (.aload_n 0, 1) := by decide +kernel
theorem dX21_unary_77 : decode cX21_unary 77 = .ok (.getfield 235, 3) := by decide +kernel
theorem dX21_unary_80 : decode cX21_unary 80 = .ok (.iload_n 3, 1) := by decide +kernel
theorem dX21_unary_81 : decode cX21_unary 81 = .ok (.iaload, 1) := by decide +kernel
theorem dX21_unary_82 : decode cX21_unary 82 = .ok (.iadd, 1) := by decide +kernel
theorem dX21_unary_83 : decode cX21_unary 83 = .ok (.iastore, 1) := by decide +kernel
theorem dX21_unary_84 : decode cX21_unary 84 = .ok (.aload_n 0, 1) := by decide +kernel
theorem dX21_unary_85 : decode cX21_unary 85 = .ok (.getfield 217, 3) := by decide +kernel
theorem dX21_unary_88 : decode cX21_unary 88 = .ok (.iload 5, 2) := by decide +kernel
theorem dX21_unary_90 : decode cX21_unary 90 = .ok (.iload_n 3, 1) := by decide +kernel
theorem dX21_unary_91 : decode cX21_unary 91 = .ok (.iastore, 1) := by decide +kernel
theorem dX21_unary_92 : decode cX21_unary 92 = .ok (.iload 5, 2) := by decide +kernel
theorem dX21_unary_94 : decode cX21_unary 94 = .ok (.istore_n 3, 1) := by decide +kernel
theorem dX21_unary_95 : decode cX21_unary 95 = .ok (.iinc 4 (-1), 3) := by decide +kernel
theorem dX21_unary_98 : decode cX21_unary 98 = .ok (.goto (-62), 3) := by decide +kernel
theorem dX21_unary_101 : decode cX21_unary 101 = .ok (.aload_n 0, 1) := by decide +kernel
theorem dX21_unary_102 : decode cX21_unary 102 = .ok (.aload_n 0, 1) := by decide +kernel
theorem dX21_unary_103 : decode cX21_unary 103 = .ok (.getfield 408, 3) := by decide +kernel
theorem dX21_unary_106 : decode cX21_unary 106 = .ok (.iload_n 2, 1) := by decide +kernel
theorem dX21_unary_107 : decode cX21_unary 107 = .ok (.isub, 1) := by decide +kernel
theorem dX21_unary_108 : decode cX21_unary 108 = .ok (.putfield 408, 3) := by decide +kernel
theorem dX21_unary_111 : decode cX21_unary 111 = .ok (.iload_n 3, 1) := by decide +kernel
theorem dX21_unary_112 : decode cX21_unary 112 = .ok (.ireturn, 1) := by decide +kernel
theorem dX21_isPrefix_0 : decode cX21_isPrefix 0 = .ok (.aload_n 0, 1) := by decide +kernel
theorem dX21_isPrefix_1 : decode cX21_isPrefix 1 = .ok (.ldc 119, 2) := by decide +kernel
theorem dX21_isPrefix_3 : decode cX21_isPrefix 3 = .ok (.invokevirtual 394, 3) := by decide +kernel
theorem dX21_isPrefix_6 : decode cX21_isPrefix 6 = .ok (.ifCond .ne 48, 3) := by decide +kernel
theorem dX21_isPrefix_9 : decode cX21_isPrefix 9 = .ok (.aload_n 0, 1) := by decide +kernel
theorem dX21_isPrefix_10 : decode cX21_isPrefix 10 = .ok (.ldc 117, 2) := by decide +kernel
theorem dX21_isPrefix_12 : decode cX21_isPrefix 12 = .ok (.invokevirtual 394, 3) := by decide +kernel
theorem dX21_isPrefix_15 : decode cX21_isPrefix 15 = .ok (.ifCond .ne 39, 3) := by decide +kernel
theorem dX21_isPrefix_18 : decode cX21_isPrefix 18 = .ok (.aload_n 0, 1) := by decide +kernel
theorem dX21_isPrefix_19 : decode cX21_isPrefix 19 = .ok (.ldc 127, 2) := by decide +kernel
theorem dX21_isPrefix_21 : decode cX21_isPrefix 21 = .ok (.invokevirtual 394, 3) := by decide +kernel
theorem dX21_isPrefix_24 : decode cX21_isPrefix 24 = .ok (.ifCond .ne 30, 3) := by decide +kernel
theorem dX21_isPrefix_27 : decode cX21_isPrefix 27 = .ok (.aload_n 0, 1) := by decide +kernel
theorem dX21_isPrefix_28 : decode cX21_isPrefix 28 = .ok (.ldc 129, 2) := by decide +kernel
theorem dX21_isPrefix_30 : decode cX21_isPrefix 30 = .ok (.invokevirtual 394, 3) := by decide +kernel
theorem dX21_isPrefix_33 : decode cX21_isPrefix 33 = .ok (.ifCond .ne 21, 3) := by decide +kernel
theorem dX21_isPrefix_36 : decode cX21_isPrefix 36 = .ok (.aload_n 0, 1) := by decide +kernel
theorem dX21_isPrefix_37 : decode cX21_isPrefix 37 = .ok (.ldc 81, 2) := by decide +kernel
theorem dX21_isPrefix_39 : decode cX21_isPrefix 39 = .ok (.invokevirtual 394, 3) := by decide +kernel
theorem dX21_isPrefix_42 : decode cX21_isPrefix 42 = .ok (.ifCond .ne 12, 3) := by decide +kernel
theorem dX21_isPrefix_45 : decode cX21_isPrefix 45 = .ok (.aload_n 0, 1) := by decide +kernel
theorem dX21_isPrefix_46 : decode cX21_isPrefix 46 = .ok (.ldc 83, 2) := by decide +kernel
theorem dX21_isPrefix_48 : decode cX21_isPrefix 48 = .ok (.invokevirtual 394, 3) := by decide +kernel
theorem dX21_isPrefix_51 : decode cX21_isPrefix 51 = .ok (.ifCond .eq 7, 3) := by decide +kernel
theorem dX21_isPrefix_54 : decode cX21_isPrefix 54 = .ok (.iconst 1, 1) := by decide +kernel
theorem dX21_isPrefix_55 : decode cX21_isPrefix 55 = .ok (.goto 4, 3) := by decide +kernel
theorem dX21_isPrefix_58 : decode cX21_isPrefix 58 = .ok (.iconst 0, 1) := by decide +kernel
theorem dX21_isPrefix_59 : decode cX21_isPrefix 59 = .ok (.ireturn, 1) := by decide +kernel
theorem dX21_postfix_0 : decode cX21_postfix 0 = .ok (.aload_n 0, 1) := by decide +kernel
theorem dX21_postfix_1 : decode cX21_postfix 1 = .ok (.invokevirtual 464, 3) := by decide +kernel
theorem dX21_postfix_4 : decode cX21_postfix 4 = .ok (.istore_n 1, 1) := by decide +kernel
theorem dX21_postfix_5 : decode cX21_postfix 5 = .ok (.aload_n 0, 1) := by decide +kernel
theorem dX21_postfix_6 : decode cX21_postfix 6 = .ok (.ldc 81, 2) := by decide +kernel
theorem dX21_postfix_8 : decode cX21_postfix 8 = .ok (.invokevirtual 394, 3) := by decide +kernel
theorem dX21_postfix_11 : decode cX21_postfix 11 = .ok (.ifCond .ne 12, 3) := by decide +kernel
theorem dX21_postfix_14 : decode cX21_postfix 14 = .ok (.aload_n 0, 1) := by decide +kernel
theorem dX21_postfix_15 : decode cX21_postfix 15 = .ok (.ldc 83, 2) := by decide +kernel
theorem dX21_postfix_17 : decode cX21_postfix 17 = .ok (.invokevirtual 394, 3) := by decide +kernel
theorem dX21_postfix_20 : decode cX21_postfix 20 = .ok (.ifCond .eq 64, 3) := by decide +kernel
theorem dX21_postfix_23 : decode cX21_postfix 23 = .ok (.aload_n 0, 1) := by decide +kernel
theorem dX21_postfix_24 : decode cX21_postfix 24 = .ok (.iload_n 1, 1) := by decide +kernel
theorem dX21_postfix_25 : decode cX21_postfix 25 = .ok (.invokevirtual 428, 3) := by decide +kernel
theorem dX21_postfix_28 : decode cX21_postfix 28 = .ok (.aload_n 0, 1) := by decide +kernel
theorem dX21_postfix_29 : decode cX21_postfix 29 = .ok (.bipush 6, 2) := by decide +kernel
theorem dX21_postfix_31 : decode cX21_postfix 31 = .ok (.aload_n 0, 1) := by decide +kernel
theorem dX21_postfix_32 : decode cX21_postfix 32 = .ok (.getfield 388, 3) := by decide +kernel
theorem dX21_postfix_35 : decode cX21_postfix 35 = .ok (.invokevirtual 434, 3) := by decide +kernel
theorem dX21_postfix_38 : decode cX21_postfix 38 = .ok (.istore_n 2, 1) := by decide +kernel
theorem dX21_postfix_39 : decode cX21_postfix 39 = .ok (.aload_n 0, 1) := by decide +kernel
theorem dX21_postfix_40 : decode cX21_postfix 40 = .ok (.getfield 214, 3) := by decide +kernel
theorem dX21_postfix_43 : decode cX21_postfix 43 = .ok (.iload_n 2, 1) := by decide +kernel
theorem dX21_postfix_44 : decode cX21_postfix 44 = .ok (.aload_n 0, 1) := by decide +kernel
theorem dX21_postfix_45 : decode cX21_postfix 45 = .ok (.getfield 214, 3) := by decide +kernel
theorem dX21_postfix_48 : decode cX21_postfix 48 = .ok (.iload_n 1, 1) := by decide +kernel
theorem dX21_postfix_49 : decode cX21_postfix 49 = .ok (.iaload, 1) := by decide +kernel
theorem dX21_postfix_50 : decode cX21_postfix 50 = .ok (.iastore, 1) := by decide +kernel
theorem dX21_postfix_51 : decode cX21_postfix 51 = .ok (.aload_n 0, 1) := by decide +kernel
theorem dX21_postfix_52 : decode cX21_postfix 52 = .ok (.getfield 235, 3) := by decide +kernel
theorem dX21_postfix_55 : decode cX21_postfix 55 = .ok (.iload_n 2, 1) := by decide +kernel
theorem dX21_postfix_56 : decode cX21_postfix 56 = .ok (.iconst 1, 1) := by decide +kernel
theorem dX21_postfix_57 : decode cX21_postfix 57 = .ok (.aload_n 0, 1) := by decide +kernel
theorem dX21_postfix_58 : decode cX21_postfix 58 = .ok (.getfield 235, 3) := by decide +kernel
theorem dX21_postfix_61 : decode cX21_postfix 61 = .ok (.iload_n 1, 1) := by decide +kernel
theorem dX21_postfix_62 : decode cX21_postfix 62 = .ok (.iaload, 1) := by decide +kernel
theorem dX21_postfix_63 : decode cX21_postfix 63 = .ok (.iadd, 1) := by decide +kernel
theorem dX21_postfix_64 : decode cX21_postfix 64 = .ok (.iastore, 1) := by decide +kernel
theorem dX21_postfix_65 : decode cX21_postfix 65 = .ok (.aload_n 0, 1) := by decide +kernel
theorem dX21_postfix_66 : decode cX21_postfix 66 = .ok (.getfield 217, 3) := by decide +kernel
theorem dX21_postfix_69 : decode cX21_postfix 69 = .ok (.iload_n 2, 1) := by decide +kernel
theorem dX21_postfix_70 : decode cX21_postfix 70 = .ok (.iload_n 1, 1) := by decide +kernel
theorem dX21_postfix_71 : decode cX21_postfix 71 = .ok (.iastore, 1) := by decide +kernel
theorem dX21_postfix_72 : decode cX21_postfix 72 = .ok (.iload_n 2, 1) := by decide +kernel
theorem dX21_postfix_73 : decode cX21_postfix 73 = .ok (.istore_n 1, 1) := by decide +kernel
theorem dX21_postfix_74 : decode cX21_postfix 74 = .ok (.aload_n 0, 1) := by decide +kernel
theorem dX21_postfix_75 : decode cX21_postfix 75 = .ok (.dup, 1) := by decide +kernel
theorem dX21_postfix_76 : decode cX21_postfix 76 = .ok (.getfield 388, 3) := by decide +kernel
theorem dX21_postfix_79 : decode cX21_postfix 79 = .ok (.iconst 1, 1) := by decide +kernel
theorem dX21_postfix_80 : decode cX21_postfix 80 = .ok (.iadd, 1) := by decide +kernel
theorem dX21_postfix_81 : decode cX21_postfix 81 = .ok (.putfield 388, 3) := by decide +kernel
theorem dX21_postfix_84 : decode cX21_postfix 84 = .ok (.iload_n 1, 1) := by decide +kernel
theorem dX21_postfix_85 : decode cX21_postfix 85 = .ok (.ireturn, 1) := by decide +kernel
theorem dX21_primary_0 : decode cX21_primary 0 = .ok (.aload_n 0, 1) := by decide +kernel
theorem dX21_primary_1 : decode cX21_primary 1 = .ok (.getfield 202, 3) := by decide +kernel
theorem dX21_primary_4 : decode cX21_primary 4 = .ok (.aload_n 0, 1) := by decide +kernel
theorem dX21_primary_5 : decode cX21_primary 5 = .ok (.getfield 388, 3) := by decide +kernel
theorem dX21_primary_8 : decode cX21_primary 8 = .ok (.baload, 1) := by decide +kernel
theorem dX21_primary_9 : decode cX21_primary 9 = .ok (.iconst 3, 1) := by decide +kernel
theorem dX21_primary_10 : decode cX21_primary 10 = .ok (.if_icmp .ne 25, 3) := by decide +kernel
theorem dX21_primary_13 : decode cX21_primary 13 = .ok (.aload_n 0, 1) := by decide +kernel
theorem dX21_primary_14 : decode cX21_primary 14 = .ok (.iconst 1, 1) := by decide +kernel
theorem dX21_primary_15 : decode cX21_primary 15 = .ok (.aload_n 0, 1) := by decide +kernel
theorem dX21_primary_16 : decode cX21_primary 16 = .ok (.getfield 388, 3) := by decide +kernel
theorem dX21_primary_19 : decode cX21_primary 19 = .ok (.invokevirtual 434, 3) := by decide +kernel
theorem dX21_primary_22 : decode cX21_primary 22 = .ok (.istore_n 1, 1) := by decide +kernel
theorem dX21_primary_23 : decode cX21_primary 23 = .ok (.aload_n 0, 1) := by decide +kernel
theorem dX21_primary_24 : decode cX21_primary 24 = .ok (.dup, 1) := by decide +kernel
theorem dX21_primary_25 : decode cX21_primary 25 = .ok (.getfield 388, 3) := by decide +kernel
theorem dX21_primary_28 : decode cX21_primary 28 = .ok (.iconst 1, 1) := by decide +kernel
theorem dX21_primary_29 : decode cX21_primary 29 = .ok (.iadd, 1) := by decide +kernel
theorem dX21_primary_30 : decode cX21_primary 30 = .ok (.putfield 388, 3) := by decide +kernel
theorem dX21_primary_33 : decode cX21_primary 33 = .ok (.iload_n 1, 1) := by decide +kernel
theorem dX21_primary_34 : decode cX21_primary 34 = .ok (.ireturn, 1) := by decide +kernel
theorem dX21_primary_35 : decode cX21_primary 35 = .ok (.aload_n 0, 1) := by decide +kernel
theorem dX21_primary_36 : decode cX21_primary 36 = .ok (.ldc 85, 2) := by decide +kernel
theorem dX21_primary_38 : decode cX21_primary 38 = .ok (.invokevirtual 394, 3) := by decide +kernel
theorem dX21_primary_41 : decode cX21_primary 41 = .ok (.ifCond .eq 32, 3) := by decide +kernel
theorem dX21_primary_44 : decode cX21_primary 44 = .ok (.aload_n 0, 1) := by decide +kernel
theorem dX21_primary_45 : decode cX21_primary 45 = .ok (.getfield 388, 3) := by decide +kernel
theorem dX21_primary_48 : decode cX21_primary 48 = .ok (.istore_n 1, 1) := by decide +kernel
theorem dX21_primary_49 : decode cX21_primary 49 = .ok (.aload_n 0, 1) := by decide +kernel
theorem dX21_primary_50 : decode cX21_primary 50 = .ok (.invokevirtual 411, 3) := by decide +kernel
theorem dX21_primary_53 : decode cX21_primary 53 = .ok (.aload_n 0, 1) := by decide +kernel
theorem dX21_primary_54 : decode cX21_primary 54 = .ok (.invokevirtual 431, 3) := by decide +kernel
theorem dX21_primary_57 : decode cX21_primary 57 = .ok (.istore_n 2, 1) := by decide +kernel
theorem dX21_primary_58 : decode cX21_primary 58 = .ok (.aload_n 0, 1) := by decide +kernel
theorem dX21_primary_59 : decode cX21_primary 59 = .ok (.ldc 87, 2) := by decide +kernel
theorem dX21_primary_61 : decode cX21_primary 61 = .ok (.invokevirtual 467, 3) := by decide +kernel
theorem dX21_primary_64 : decode cX21_primary 64 = .ok (.aload_n 0, 1) := by decide +kernel
theorem dX21_primary_65 : decode cX21_primary 65 = .ok (.getfield 214, 3) := by decide +kernel
theorem dX21_primary_68 : decode cX21_primary 68 = .ok (.iload_n 2, 1) := by decide +kernel
theorem dX21_primary_69 : decode cX21_primary 69 = .ok (.iload_n 1, 1) := by decide +kernel
theorem dX21_primary_70 : decode cX21_primary 70 = .ok (.iastore, 1) := by decide +kernel
theorem dX21_primary_71 : decode cX21_primary 71 = .ok (.iload_n 2, 1) := by decide +kernel
theorem dX21_primary_72 : decode cX21_primary 72 = .ok (.ireturn, 1) := by decide +kernel
theorem dX21_primary_73 : decode cX21_primary 73 = .ok (.aload_n 0, 1) := by decide +kernel
theorem dX21_primary_74 : decode cX21_primary 74 = .ok (.invokevirtual 470, 3) := by decide +kernel
theorem dX21_primary_77 : decode cX21_primary 77 = .ok (.istore_n 1, 1) := by decide +kernel
theorem dX21_primary_78 : decode cX21_primary 78 = .ok (.aload_n 0, 1) := by decide +kernel
theorem dX21_primary_79 : decode cX21_primary 79 = .ok (.ldc 85, 2) := by decide +kernel
theorem dX21_primary_81 : decode cX21_primary 81 = .ok (.invokevirtual 394, 3) := by decide +kernel
theorem dX21_primary_84 : decode cX21_primary 84 = .ok (.ifCond .eq 9, 3) := by decide +kernel
theorem dX21_primary_87 : decode cX21_primary 87 = .ok (.aload_n 0, 1) := by decide +kernel
theorem dX21_primary_88 : decode cX21_primary 88 = .ok (.iload_n 1, 1) := by decide +kernel
theorem dX21_primary_89 : decode cX21_primary 89 = .ok (.invokevirtual 473, 3) := by decide +kernel
theorem dX21_primary_92 : decode cX21_primary 92 = .ok (.ireturn, 1) := by decide +kernel
theorem dX21_primary_93 : decode cX21_primary 93 = .ok (.aload_n 0, 1) := by decide +kernel
theorem dX21_primary_94 : decode cX21_primary 94 = .ok (.ldc 93, 2) := by decide +kernel
theorem dX21_primary_96 : decode cX21_primary 96 = .ok (.invokevirtual 394, 3) := by decide +kernel
theorem dX21_primary_99 : decode cX21_primary 99 = .ok (.ifCond .eq 51, 3) := by decide +kernel
theorem dX21_primary_102 : decode cX21_primary 102 = .ok (.aload_n 0, 1) := by decide +kernel
theorem dX21_primary_103 : decode cX21_primary 103 = .ok (.iconst 4, 1) := by decide +kernel
theorem dX21_primary_104 : decode cX21_primary 104 = .ok (.iload_n 1, 1) := by decide +kernel
theorem dX21_primary_105 : decode cX21_primary 105 = .ok (.invokevirtual 434, 3) := by decide +kernel
theorem dX21_primary_108 : decode cX21_primary 108 = .ok (.istore_n 2, 1) := by decide +kernel
theorem dX21_primary_109 : decode cX21_primary 109 = .ok (.aload_n 0, 1) := by decide +kernel
theorem dX21_primary_110 : decode cX21_primary 110 = .ok (.invokevirtual 411, 3) := by decide +kernel
theorem dX21_primary_113 : decode cX21_primary 113 = .ok (.aload_n 0, 1) := by decide +kernel
theorem dX21_primary_114 : decode cX21_primary 114 = .ok (.getfield 217, 3) := by decide +kernel
theorem dX21_primary_117 : decode cX21_primary 117 = .ok (.iload_n 2, 1) := by decide +kernel
theorem dX21_primary_118 : decode cX21_primary 118 = .ok (.aload_n 0, 1) := by decide +kernel
theorem dX21_primary_119 : decode cX21_primary 119 = .ok (.invokevirtual 431, 3) := by decide +kernel
theorem dX21_primary_122 : decode cX21_primary 122 = .ok (.iastore, 1) := by decide +kernel
theorem dX21_primary_123 : decode cX21_primary 123 = .ok (.aload_n 0, 1) := by decide +kernel
theorem dX21_primary_124 : decode cX21_primary 124 = .ok (.getfield 235, 3) := by decide +kernel
theorem dX21_primary_127 : decode cX21_primary 127 = .ok (.iload_n 2, 1) := by decide +kernel
theorem dX21_primary_128 : decode cX21_primary 128 = .ok (.iconst 1, 1) := by decide +kernel
theorem dX21_primary_129 : decode cX21_primary 129 = .ok (.aload_n 0, 1) := by decide +kernel
theorem dX21_primary_130 : decode cX21_primary 130 = .ok (.getfield 235, 3) := by decide +kernel
theorem dX21_primary_133 : decode cX21_primary 133 = .ok (.aload_n 0, 1) := by decide +kernel
theorem dX21_primary_134 : decode cX21_primary 134 = .ok (.getfield 217, 3) := by decide +kernel
theorem dX21_primary_137 : decode cX21_primary 137 = .ok (.iload_n 2, 1) := by decide +kernel
theorem dX21_primary_138 : decode cX21_primary 138 = .ok (.iaload, 1) := by decide +kernel
theorem dX21_primary_139 : decode cX21_primary 139 = .ok (.iaload, 1) := by decide +kernel
theorem dX21_primary_140 : decode cX21_primary 140 = .ok (.iadd, 1) := by decide +kernel
theorem dX21_primary_141 : decode cX21_primary 141 = .ok (.iastore, 1) := by decide +kernel
theorem dX21_primary_142 : decode cX21_primary 142 = .ok (.aload_n 0, 1) := by decide +kernel
theorem dX21_primary_143 : decode cX21_primary 143 = .ok (.ldc 95, 2) := by decide +kernel
theorem dX21_primary_145 : decode cX21_primary 145 = .ok (.invokevirtual 467, 3) := by decide +kernel
theorem dX21_primary_148 : decode cX21_primary 148 = .ok (.iload_n 2, 1) := by decide +kernel
theorem dX21_primary_149 : decode cX21_primary 149 = .ok (.ireturn, 1) := by decide +kernel
theorem dX21_primary_150 : decode cX21_primary 150 = .ok (.aload_n 0, 1) := by decide +kernel
theorem dX21_primary_151 : decode cX21_primary 151 = .ok (.iconst 2, 1) := by decide +kernel
theorem dX21_primary_152 : decode cX21_primary 152 = .ok (.iload_n 1, 1) := by decide +kernel
theorem dX21_primary_153 : decode cX21_primary 153 = .ok (.invokevirtual 434, 3) := by decide +kernel
theorem dX21_primary_156 : decode cX21_primary 156 = .ok (.ireturn, 1) := by decide +kernel
theorem dX21_expression_0 : decode cX21_expression 0 = .ok (.aload_n 0, 1) := by decide +kernel
theorem dX21_expression_1 : decode cX21_expression 1 = .ok (.getfield 388, 3) := by decide +kernel
theorem dX21_expression_4 : decode cX21_expression 4 = .ok (.istore_n 1, 1) := by decide +kernel
theorem dX21_expression_5 : decode cX21_expression 5 = .ok (.aload_n 0, 1) := by decide +kernel
theorem dX21_expression_6 : decode cX21_expression 6 = .ok (.invokevirtual 421, 3) := by decide +kernel
theorem dX21_expression_9 : decode cX21_expression 9 = .ok (.istore_n 2, 1) := by decide +kernel
theorem dX21_expression_10 : decode cX21_expression 10 = .ok (.iload_n 2, 1) := by decide +kernel
theorem dX21_expression_11 : decode cX21_expression 11 = .ok (.ifCond .ge 7, 3) := by decide +kernel
theorem dX21_expression_14 : decode cX21_expression 14 = .ok (.iconst 1, 1) := by decide +kernel
theorem dX21_expression_15 : decode cX21_expression 15 = .ok (.goto 4, 3) := by decide +kernel
theorem dX21_expression_18 : decode cX21_expression 18 = .ok (.iconst 0, 1) := by decide +kernel
theorem dX21_expression_19 : decode cX21_expression 19 = .ok (.istore_n 3, 1) := by decide +kernel
theorem dX21_expression_20 : decode cX21_expression 20 = .ok (.iload_n 3, 1) := by decide +kernel
theorem dX21_expression_21 : decode cX21_expression 21 = .ok (.ifCond .eq 9, 3) := by decide +kernel
theorem dX21_expression_24 : decode cX21_expression 24 = .ok (.iconst (-1), 1) := by decide +kernel
theorem dX21_expression_25 : decode cX21_expression 25 = .ok (.iload_n 2, 1) := by decide +kernel
theorem dX21_expression_26 : decode cX21_expression 26 = .ok (.isub, 1) := by decide +kernel
theorem dX21_expression_27 : decode cX21_expression 27 = .ok (.goto 4, 3) := by decide +kernel
theorem dX21_expression_30 : decode cX21_expression 30 = .ok (.iload_n 2, 1) := by decide +kernel
theorem dX21_expression_31 : decode cX21_expression 31 = .ok (.istore_n 2, 1) := by decide +kernel
theorem dX21_expression_32 : decode cX21_expression 32 = .ok (.aload_n 0, 1) := by decide +kernel
theorem dX21_expression_33 : decode cX21_expression 33 = .ok (.invokevirtual 424, 3) := by decide +kernel
theorem dX21_expression_36 : decode cX21_expression 36 = .ok (.ifCond .eq 101, 3) := by decide +kernel
theorem dX21_expression_39 : decode cX21_expression 39 = .ok (.iload_n 3, 1) := by decide +kernel
theorem dX21_expression_40 : decode cX21_expression 40 = .ok (.ifCond .eq 97, 3) := by decide +kernel
theorem dX21_expression_43 : decode cX21_expression 43 = .ok (.aload_n 0, 1) := by decide +kernel
theorem dX21_expression_44 : decode cX21_expression 44 = .ok (.getfield 388, 3) := by decide +kernel
theorem dX21_expression_47 : decode cX21_expression 47 = .ok (.istore 4, 2) := by decide +kernel
theorem dX21_expression_49 : decode cX21_expression 49 = .ok (.aload_n 0, 1) := by decide +kernel
theorem dX21_expression_50 : decode cX21_expression 50 = .ok (.iload_n 2, 1) := by decide +kernel
theorem dX21_expression_51 : decode cX21_expression 51 = .ok (.invokevirtual 428, 3) := by decide +kernel
theorem dX21_expression_54 : decode cX21_expression 54 = .ok (.aload_n 0, 1) := by decide +kernel
theorem dX21_expression_55 : decode cX21_expression 55 = .ok (.invokevirtual 411, 3) := by decide +kernel
theorem dX21_expression_58 : decode cX21_expression 58 = .ok (.aload_n 0, 1) := by decide +kernel
theorem dX21_expression_59 : decode cX21_expression 59 = .ok (.invokevirtual 431, 3) := by decide +kernel
theorem dX21_expression_62 : decode cX21_expression 62 = .ok (.istore 5, 2) := by decide +kernel
theorem dX21_expression_64 : decode cX21_expression 64 = .ok (.aload_n 0, 1) := by decide +kernel
theorem dX21_expression_65 : decode cX21_expression 65 = .ok (.dup, 1) := by decide +kernel
theorem dX21_expression_66 : decode cX21_expression 66 = .ok (.getfield 408, 3) := by decide +kernel
theorem dX21_expression_69 : decode cX21_expression 69 = .ok (.iconst 1, 1) := by decide +kernel
theorem dX21_expression_70 : decode cX21_expression 70 = .ok (.isub, 1) := by decide +kernel
theorem dX21_expression_71 : decode cX21_expression 71 = .ok (.putfield 408, 3) := by decide +kernel
theorem dX21_expression_74 : decode cX21_expression 74 = .ok (.aload_n 0, 1) := by decide +kernel
theorem dX21_expression_75 : decode cX21_expression 75 = .ok (.bipush 9, 2) := by decide +kernel
theorem dX21_expression_77 : decode cX21_expression 77 = .ok (.iload 4, 2) := by decide +kernel
theorem dX21_expression_79 : decode cX21_expression 79 = .ok (.invokevirtual 434, 3) := by decide +kernel
theorem dX21_expression_82 : decode cX21_expression 82 = .ok (.istore 6, 2) := by decide +kernel
theorem dX21_expression_84 : decode cX21_expression 84 = .ok (.aload_n 0, 1) := by decide +kernel
theorem dX21_expression_85 : decode cX21_expression 85 = .ok (.getfield 235, 3) := by decide +kernel
theorem dX21_expression_88 : decode cX21_expression 88 = .ok (.iload 6, 2) := by decide +kernel
theorem dX21_expression_90 : decode cX21_expression 90 = .ok (.iconst 1, 1) := by decide +kernel
theorem dX21_expression_91 : decode cX21_expression 91 = .ok (.aload_n 0, 1) := by decide +kernel
theorem dX21_expression_92 : decode cX21_expression 92 = .ok (.getfield 235, 3) := by decide +kernel
theorem dX21_expression_95 : decode cX21_expression 95 = .ok (.iload_n 2, 1) := by decide +kernel
theorem dX21_expression_96 : decode cX21_expression 96 = .ok (.iaload, 1) := by decide +kernel
theorem dX21_expression_97 : decode cX21_expression 97 = .ok (.aload_n 0, 1) := by decide +kernel
theorem dX21_expression_98 : decode cX21_expression 98 = .ok (.getfield 235, 3) := by decide +kernel
theorem dX21_expression_101 : decode cX21_expression 101 = .ok (.iload 5, 2) := by decide +kernel
theorem dX21_expression_103 : decode cX21_expression 103 = .ok (.iaload, 1) := by decide +kernel
theorem dX21_expression_104 : decode cX21_expression 104 = .ok (.invokestatic 437, 3) := by decide +kernel
theorem dX21_expression_107 : decode cX21_expression 107 = .ok (.iadd, 1) := by decide +kernel
theorem dX21_expression_108 : decode cX21_expression 108 = .ok (.iastore, 1) := by decide +kernel
theorem dX21_expression_109 : decode cX21_expression 109 = .ok (.aload_n 0, 1) := by decide +kernel
theorem dX21_expression_110 : decode cX21_expression 110 = .ok (.getfield 214, 3) := by decide +kernel
theorem dX21_expression_113 : decode cX21_expression 113 = .ok (.iload 6, 2) := by decide +kernel
theorem dX21_expression_115 : decode cX21_expression 115 = .ok (.iload_n 1, 1) := by decide +kernel
theorem dX21_expression_116 : decode cX21_expression 116 = .ok (.iastore, 1) := by decide +kernel
theorem dX21_expression_117 : decode cX21_expression 117 = .ok (.aload_n 0, 1) := by decide +kernel
theorem dX21_expression_118 : decode cX21_expression 118 = .ok (.getfield 217, 3) := by decide +kernel
theorem dX21_expression_121 : decode cX21_expression 121 = .ok (.iload 6, 2) := by decide +kernel
theorem dX21_expression_123 : decode cX21_expression 123 = .ok (.iload_n 2, 1) := by decide +kernel
theorem dX21_expression_124 : decode cX21_expression 124 = .ok (.iastore, 1) := by decide +kernel
theorem dX21_expression_125 : decode cX21_expression 125 = .ok (.aload_n 0, 1) := by decide +kernel
theorem dX21_expression_126 : decode cX21_expression 126 = .ok (.getfield 220, 3) := by decide +kernel
theorem dX21_expression_129 : decode cX21_expression 129 = .ok (.iload 6, 2) := by decide +kernel
theorem dX21_expression_131 : decode cX21_expression 131 = .ok (.iload 5, 2) := by decide +kernel
theorem dX21_expression_133 : decode cX21_expression 133 = .ok (.iastore, 1) := by decide +kernel
theorem dX21_expression_134 : decode cX21_expression 134 = .ok (.iload 6, 2) := by decide +kernel
theorem dX21_expression_136 : decode cX21_expression 136 = .ok (.istore_n 2, 1) := by decide +kernel
theorem dX21_expression_137 : decode cX21_expression 137 = .ok (.iload_n 2, 1) := by decide +kernel
theorem dX21_expression_138 : decode cX21_expression 138 = .ok (.ireturn, 1) := by decide +kernel
theorem dX21_isAssigning_0 : decode cX21_isAssigning 0 = .ok (.aload_n 0, 1) := by decide +kernel
theorem dX21_isAssigning_1 : decode cX21_isAssigning 1 = .ok (.getfield 202, 3) := by decide +kernel
theorem dX21_isAssigning_4 : decode cX21_isAssigning 4 = .ok (.aload_n 0, 1) := by decide +kernel
theorem dX21_isAssigning_5 : decode cX21_isAssigning 5 = .ok (.getfield 388, 3) := by decide +kernel
theorem dX21_isAssigning_8 : decode cX21_isAssigning 8 = .ok (.baload, 1) := by decide +kernel
theorem dX21_isAssigning_9 : decode cX21_isAssigning 9 = .ok (.iconst 5, 1) := by decide +kernel
theorem dX21_isAssigning_10 : decode cX21_isAssigning 10 = .ok (.if_icmp .eq 5, 3) := by decide +kernel
theorem dX21_isAssigning_13 : decode cX21_isAssigning 13 = .ok (.iconst 0, 1) := by decide +kernel
theorem dX21_isAssigning_14 : decode cX21_isAssigning 14 = .ok (.ireturn, 1) := by decide +kernel
theorem dX21_isAssigning_15 : decode cX21_isAssigning 15 = .ok (.aload_n 0, 1) := by decide +kernel
theorem dX21_isAssigning_16 : decode cX21_isAssigning 16 = .ok (.getfield 205, 3) := by decide +kernel
theorem dX21_isAssigning_19 : decode cX21_isAssigning 19 = .ok (.aload_n 0, 1) := by decide +kernel
theorem dX21_isAssigning_20 : decode cX21_isAssigning 20 = .ok (.getfield 388, 3) := by decide +kernel
theorem dX21_isAssigning_23 : decode cX21_isAssigning 23 = .ok (.iaload, 1) := by decide +kernel
theorem dX21_isAssigning_24 : decode cX21_isAssigning 24 = .ok (.istore_n 1, 1) := by decide +kernel
theorem dX21_isAssigning_25 : decode cX21_isAssigning 25 = .ok (.iload_n 1, 1) := by decide +kernel
theorem dX21_isAssigning_26 : decode cX21_isAssigning 26 = .ok (.bipush 10, 2) := by decide +kernel
theorem dX21_isAssigning_28 : decode cX21_isAssigning 28 = .ok (.if_icmp .lt 12, 3) := by decide +kernel
theorem dX21_isAssigning_31 : decode cX21_isAssigning 31 = .ok (.aload_n 0, 1) := by decide +kernel
theorem dX21_isAssigning_32 : decode cX21_isAssigning 32 = .ok (.ldc 105, 2) := by decide +kernel
theorem dX21_isAssigning_34 : decode cX21_isAssigning 34 = .ok (.invokevirtual 394, 3) := by decide +kernel
theorem dX21_isAssigning_37 : decode cX21_isAssigning 37 = .ok (.ifCond .eq 7, 3) := by decide +kernel
theorem dX21_isAssigning_40 : decode cX21_isAssigning 40 = .ok (.iconst 1, 1) := by decide +kernel
theorem dX21_isAssigning_41 : decode cX21_isAssigning 41 = .ok (.goto 4, 3) := by decide +kernel
theorem dX21_isAssigning_44 : decode cX21_isAssigning 44 = .ok (.iconst 0, 1) := by decide +kernel
theorem dX21_isAssigning_45 : decode cX21_isAssigning 45 = .ok (.ireturn, 1) := by decide +kernel
theorem dX21_stands_2_0 : decode cX21_stands_2 0 = .ok (.aload_n 0, 1) := by decide +kernel
theorem dX21_stands_2_1 : decode cX21_stands_2 1 = .ok (.aload_n 0, 1) := by decide +kernel
theorem dX21_stands_2_2 : decode cX21_stands_2 2 = .ok (.getfield 408, 3) := by decide +kernel
theorem dX21_stands_2_5 : decode cX21_stands_2 5 = .ok (.aload_n 0, 1) := by decide +kernel
theorem dX21_stands_2_6 : decode cX21_stands_2 6 = .ok (.getfield 235, 3) := by decide +kernel
theorem dX21_stands_2_9 : decode cX21_stands_2 9 = .ok (.iload_n 1, 1) := by decide +kernel
theorem dX21_stands_2_10 : decode cX21_stands_2 10 = .ok (.iaload, 1) := by decide +kernel
theorem dX21_stands_2_11 : decode cX21_stands_2 11 = .ok (.iadd, 1) := by decide +kernel
theorem dX21_stands_2_12 : decode cX21_stands_2 12 = .ok (.bipush 60, 2) := by decide +kernel
theorem dX21_stands_2_14 : decode cX21_stands_2 14 = .ok (.if_icmp .ge 7, 3) := by decide +kernel
theorem dX21_stands_2_17 : decode cX21_stands_2 17 = .ok (.iconst 1, 1) := by decide +kernel
theorem dX21_stands_2_18 : decode cX21_stands_2 18 = .ok (.goto 4, 3) := by decide +kernel
theorem dX21_stands_2_21 : decode cX21_stands_2 21 = .ok (.iconst 0, 1) := by decide +kernel
theorem dX21_stands_2_22 : decode cX21_stands_2 22 = .ok (.invokevirtual 401, 3) := by decide +kernel
theorem dX21_stands_2_25 : decode cX21_stands_2 25 = .ok (.return_, 1) := by decide +kernel
theorem dX21_deeper_0 : decode cX21_deeper 0 = .ok (.iload_n 0, 1) := by decide +kernel
theorem dX21_deeper_1 : decode cX21_deeper 1 = .ok (.iload_n 1, 1) := by decide +kernel
theorem dX21_deeper_2 : decode cX21_deeper 2 = .ok (.if_icmp .le 7, 3) := by decide +kernel
theorem dX21_deeper_5 : decode cX21_deeper 5 = .ok (.iload_n 0, 1) := by decide +kernel
theorem dX21_deeper_6 : decode cX21_deeper 6 = .ok (.goto 4, 3) := by decide +kernel
theorem dX21_deeper_9 : decode cX21_deeper 9 = .ok (.iload_n 1, 1) := by decide +kernel
theorem dX21_deeper_10 : decode cX21_deeper 10 = .ok (.ireturn, 1) := by decide +kernel
theorem dX21_closes_0 : decode cX21_closes 0 = .ok (.aload_n 0, 1) := by decide +kernel
theorem dX21_closes_1 : decode cX21_closes 1 = .ok (.aload_n 1, 1) := by decide +kernel
theorem dX21_closes_2 : decode cX21_closes 2 = .ok (.invokevirtual 414, 3) := by decide +kernel
theorem dX21_closes_5 : decode cX21_closes 5 = .ok (.aload_n 0, 1) := by decide +kernel
theorem dX21_closes_6 : decode cX21_closes 6 = .ok (.dup, 1) := by decide +kernel
theorem dX21_closes_7 : decode cX21_closes 7 = .ok (.getfield 408, 3) := by decide +kernel
theorem dX21_closes_10 : decode cX21_closes 10 = .ok (.iconst 1, 1) := by decide +kernel
theorem dX21_closes_11 : decode cX21_closes 11 = .ok (.isub, 1) := by decide +kernel
theorem dX21_closes_12 : decode cX21_closes 12 = .ok (.putfield 408, 3) := by decide +kernel
theorem dX21_closes_15 : decode cX21_closes 15 = .ok (.return_, 1) := by decide +kernel
theorem dX21_take_0 : decode cX21_take 0 = .ok (.aload_n 0, 1) := by decide +kernel
theorem dX21_take_1 : decode cX21_take 1 = .ok (.aload_n 0, 1) := by decide +kernel
theorem dX21_take_2 : decode cX21_take 2 = .ok (.aload_n 1, 1) := by decide +kernel
theorem dX21_take_3 : decode cX21_take 3 = .ok (.invokevirtual 398, 3) := by decide +kernel
theorem dX21_take_6 : decode cX21_take 6 = .ok (.invokevirtual 401, 3) := by decide +kernel
theorem dX21_take_9 : decode cX21_take 9 = .ok (.return_, 1) := by decide +kernel
theorem dX21_call_0 : decode cX21_call 0 = .ok (.aload_n 0, 1) := by decide +kernel
theorem dX21_call_1 : decode cX21_call 1 = .ok (.iconst 3, 1) := by decide +kernel
theorem dX21_call_2 : decode cX21_call 2 = .ok (.iload_n 1, 1) := by decide +kernel
theorem dX21_call_3 : decode cX21_call 3 = .ok (.invokevirtual 434, 3) := by decide +kernel
theorem dX21_call_6 : decode cX21_call 6 = .ok (.istore_n 2, 1) := by decide +kernel
theorem dX21_call_7 : decode cX21_call 7 = .ok (.aload_n 0, 1) := by decide +kernel
theorem dX21_call_8 : decode cX21_call 8 = .ok (.invokevirtual 411, 3) := by decide +kernel
theorem dX21_call_11 : decode cX21_call 11 = .ok (.aload_n 0, 1) := by decide +kernel
theorem dX21_call_12 : decode cX21_call 12 = .ok (.ldc 87, 2) := by decide +kernel
theorem dX21_call_14 : decode cX21_call 14 = .ok (.invokevirtual 394, 3) := by decide +kernel
theorem dX21_call_17 : decode cX21_call 17 = .ok (.ifCond .ne 82, 3) := by decide +kernel
theorem dX21_call_20 : decode cX21_call 20 = .ok (.aload_n 0, 1) := by decide +kernel
theorem dX21_call_21 : decode cX21_call 21 = .ok (.invokevirtual 431, 3) := by decide +kernel
theorem dX21_call_24 : decode cX21_call 24 = .ok (.istore_n 3, 1) := by decide +kernel
theorem dX21_call_25 : decode cX21_call 25 = .ok (.aload_n 0, 1) := by decide +kernel
theorem dX21_call_26 : decode cX21_call 26 = .ok (.getfield 217, 3) := by decide +kernel
theorem dX21_call_29 : decode cX21_call 29 = .ok (.iload_n 2, 1) := by decide +kernel
theorem dX21_call_30 : decode cX21_call 30 = .ok (.iload_n 3, 1) := by decide +kernel
theorem dX21_call_31 : decode cX21_call 31 = .ok (.iastore, 1) := by decide +kernel
theorem dX21_call_32 : decode cX21_call 32 = .ok (.aload_n 0, 1) := by decide +kernel
theorem dX21_call_33 : decode cX21_call 33 = .ok (.getfield 235, 3) := by decide +kernel
theorem dX21_call_36 : decode cX21_call 36 = .ok (.iload_n 2, 1) := by decide +kernel
theorem dX21_call_37 : decode cX21_call 37 = .ok (.iconst 1, 1) := by decide +kernel
theorem dX21_call_38 : decode cX21_call 38 = .ok (.aload_n 0, 1) := by decide +kernel
theorem dX21_call_39 : decode cX21_call 39 = .ok (.getfield 235, 3) := by decide +kernel
theorem dX21_call_42 : decode cX21_call 42 = .ok (.iload_n 3, 1) := by decide +kernel
theorem dX21_call_43 : decode cX21_call 43 = .ok (.iaload, 1) := by decide +kernel
theorem dX21_call_44 : decode cX21_call 44 = .ok (.iadd, 1) := by decide +kernel
theorem dX21_call_45 : decode cX21_call 45 = .ok (.iastore, 1) := by decide +kernel
theorem dX21_call_46 : decode cX21_call 46 = .ok (.aload_n 0, 1) := by decide +kernel
theorem dX21_call_47 : decode cX21_call 47 = .ok (.ldc 97, 2) := by decide +kernel
theorem dX21_call_49 : decode cX21_call 49 = .ok (.invokevirtual 398, 3) := by decide +kernel
theorem dX21_call_52 : decode cX21_call 52 = .ok (.ifCond .eq 47, 3) := by decide +kernel
theorem dX21_call_55 : decode cX21_call 55 = .ok (.aload_n 0, 1) := by decide +kernel
theorem dX21_call_56 : decode cX21_call 56 = .ok (.invokevirtual 431, 3) := by decide +kernel
theorem dX21_call_59 : decode cX21_call 59 = .ok (.istore 4, 2) := by decide +kernel
theorem dX21_call_61 : decode cX21_call 61 = .ok (.aload_n 0, 1) := by decide +kernel
theorem dX21_call_62 : decode cX21_call 62 = .ok (.getfield 229, 3) := by decide +kernel
theorem dX21_call_65 : decode cX21_call 65 = .ok (.iload_n 3, 1) := by decide +kernel
theorem dX21_call_66 : decode cX21_call 66 = .ok (.iload 4, 2) := by decide +kernel
theorem dX21_call_68 : decode cX21_call 68 = .ok (.iastore, 1) := by decide +kernel
theorem dX21_call_69 : decode cX21_call 69 = .ok (.iload 4, 2) := by decide +kernel
theorem dX21_call_71 : decode cX21_call 71 = .ok (.istore_n 3, 1) := by decide +kernel
theorem dX21_call_72 : decode cX21_call 72 = .ok (.aload_n 0, 1) := by decide +kernel
theorem dX21_call_73 : decode cX21_call 73 = .ok (.getfield 235, 3) := by decide +kernel
theorem dX21_call_76 : decode cX21_call 76 = .ok (.iload_n 2, 1) := by decide +kernel
theorem dX21_call_77 : decode cX21_call 77 = .ok (.aload_n 0, 1) := by decide +kernel
theorem dX21_call_78 : decode cX21_call 78 = .ok (.getfield 235, 3) := by decide +kernel
theorem dX21_call_81 : decode cX21_call 81 = .ok (.iload_n 2, 1) := by decide +kernel
theorem dX21_call_82 : decode cX21_call 82 = .ok (.iaload, 1) := by decide +kernel
theorem dX21_call_83 : decode cX21_call 83 = .ok (.iconst 1, 1) := by decide +kernel
theorem dX21_call_84 : decode cX21_call 84 = .ok (.aload_n 0, 1) := by decide +kernel
theorem dX21_call_85 : decode cX21_call 85 = .ok (.getfield 235, 3) := by decide +kernel
theorem dX21_call_88 : decode cX21_call 88 = .ok (.iload 4, 2) := by decide +kernel
theorem dX21_call_90 : decode cX21_call 90 = .ok (.iaload, 1) := by decide +kernel
theorem dX21_call_91 : decode cX21_call 91 = .ok (.iadd, 1) := by decide +kernel
theorem dX21_call_92 : decode cX21_call 92 = .ok (.invokestatic 437, 3) := by decide +kernel
theorem dX21_call_95 : decode cX21_call 95 = .ok (.iastore, 1) := by decide +kernel
theorem dX21_call_96 : decode cX21_call 96 = .ok (.goto (-50), 3) := by decide +kernel
theorem dX21_call_99 : decode cX21_call 99 = .ok (.aload_n 0, 1) := by decide +kernel
theorem dX21_call_100 : decode cX21_call 100 = .ok (.ldc 87, 2) := by decide +kernel
theorem dX21_call_102 : decode cX21_call 102 = .ok (.invokevirtual 467, 3) := by decide +kernel
theorem dX21_call_105 : decode cX21_call 105 = .ok (.iload_n 2, 1) := by decide +kernel
theorem dX21_call_106 : decode cX21_call 106 = .ok (.ireturn, 1) := by decide +kernel
theorem dX21_isNothing_0 : decode cX21_isNothing 0 = .ok (.aload_n 0, 1) := by decide +kernel
theorem dX21_isNothing_1 : decode cX21_isNothing 1 = .ok (.getfield 199, 3) := by decide +kernel
theorem dX21_isNothing_4 : decode cX21_isNothing 4 = .ok (.iload_n 1, 1) := by decide +kernel
theorem dX21_isNothing_5 : decode cX21_isNothing 5 = .ok (.iaload, 1) := by decide +kernel
theorem dX21_isNothing_6 : decode cX21_isNothing 6 = .ok (.iconst 1, 1) := by decide +kernel
theorem dX21_isNothing_7 : decode cX21_isNothing 7 = .ok (.if_icmp .ne 23, 3) := by decide +kernel
theorem dX21_isNothing_10 : decode cX21_isNothing 10 = .ok (.aload_n 0, 1) := by decide +kernel
theorem dX21_isNothing_11 : decode cX21_isNothing 11 = .ok (.getfield 192, 3) := by decide +kernel
theorem dX21_isNothing_14 : decode cX21_isNothing 14 = .ok (.aload_n 0, 1) := by decide +kernel
theorem dX21_isNothing_15 : decode cX21_isNothing 15 = .ok (.getfield 195, 3) := by decide +kernel
theorem dX21_isNothing_18 : decode cX21_isNothing 18 = .ok (.iload_n 1, 1) := by decide +kernel
theorem dX21_isNothing_19 : decode cX21_isNothing 19 = .ok (.iaload, 1) := by decide +kernel
theorem dX21_isNothing_20 : decode cX21_isNothing 20 = .ok (.baload, 1) := by decide +kernel
theorem dX21_isNothing_21 : decode cX21_isNothing 21 = .ok (.bipush 43, 2) := by decide +kernel
theorem dX21_isNothing_23 : decode cX21_isNothing 23 = .ok (.if_icmp .ne 7, 3) := by decide +kernel
theorem dX21_isNothing_26 : decode cX21_isNothing 26 = .ok (.iconst 1, 1) := by decide +kernel
theorem dX21_isNothing_27 : decode cX21_isNothing 27 = .ok (.goto 4, 3) := by decide +kernel
theorem dX21_isNothing_30 : decode cX21_isNothing 30 = .ok (.iconst 0, 1) := by decide +kernel
theorem dX21_isNothing_31 : decode cX21_isNothing 31 = .ok (.ireturn, 1) := by decide +kernel
theorem dX21_rank_0 : decode cX21_rank 0 = .ok (.aload_n 0, 1) := by decide +kernel
theorem dX21_rank_1 : decode cX21_rank 1 = .ok (.getfield 202, 3) := by decide +kernel
theorem dX21_rank_4 : decode cX21_rank 4 = .ok (.iload_n 1, 1) := by decide +kernel
theorem dX21_rank_5 : decode cX21_rank 5 = .ok (.baload, 1) := by decide +kernel
theorem dX21_rank_6 : decode cX21_rank 6 = .ok (.iconst 5, 1) := by decide +kernel
theorem dX21_rank_7 : decode cX21_rank 7 = .ok (.if_icmp .eq 5, 3) := by decide +kernel
theorem dX21_rank_10 : decode cX21_rank 10 = .ok (.iconst 0, 1) := by decide +kernel
theorem dX21_rank_11 : decode cX21_rank 11 = .ok (.ireturn, 1) := by decide +kernel
theorem dX21_rank_12 : decode cX21_rank 12 = .ok (.aload_n 0, 1) := by decide +kernel
theorem dX21_rank_13 : decode cX21_rank 13 = .ok (.getfield 131, 3) := by decide +kernel
theorem dX21_rank_16 : decode cX21_rank 16 = .ok (.aload_n 0, 1) := by decide +kernel
theorem dX21_rank_17 : decode cX21_rank 17 = .ok (.getfield 205, 3) := by decide +kernel
theorem dX21_rank_20 : decode cX21_rank 20 = .ok (.iload_n 1, 1) := by decide +kernel
theorem dX21_rank_21 : decode cX21_rank 21 = .ok (.iaload, 1) := by decide +kernel
theorem dX21_rank_22 : decode cX21_rank 22 = .ok (.aaload, 1) := by decide +kernel
theorem dX21_rank_23 : decode cX21_rank 23 = .ok (.astore_n 2, 1) := by decide +kernel
theorem dX21_rank_24 : decode cX21_rank 24 = .ok (.aload_n 2, 1) := by decide +kernel
theorem dX21_rank_25 : decode cX21_rank 25 = .ok (.invokevirtual 335, 3) := by decide +kernel
theorem dX21_rank_28 : decode cX21_rank 28 = .ok (.iconst 2, 1) := by decide +kernel
theorem dX21_rank_29 : decode cX21_rank 29 = .ok (.if_icmp .ne 100, 3) := by decide +kernel
theorem dX21_rank_32 : decode cX21_rank 32 = .ok (.aload_n 2, 1) := by decide +kernel
theorem dX21_rank_33 : decode cX21_rank 33 = .ok (.ldc 65, 2) := by decide +kernel
theorem dX21_rank_35 : decode cX21_rank 35 = .ok (.invokevirtual 384, 3) := by decide +kernel
theorem dX21_rank_38 : decode cX21_rank 38 = .ok (.ifCond .eq 7, 3) := by decide +kernel
theorem dX21_rank_41 : decode cX21_rank 41 = .ok (.iconst 1, 1) := by decide +kernel
theorem dX21_rank_42 : decode cX21_rank 42 = .ok (.goto 86, 3) := by decide +kernel
theorem dX21_rank_45 : decode cX21_rank 45 = .ok (.aload_n 2, 1) := by decide +kernel
theorem dX21_rank_46 : decode cX21_rank 46 = .ok (.ldc 67, 2) := by decide +kernel
theorem dX21_rank_48 : decode cX21_rank 48 = .ok (.invokevirtual 384, 3) := by decide +kernel
theorem dX21_rank_51 : decode cX21_rank 51 = .ok (.ifCond .eq 7, 3) := by decide +kernel
theorem dX21_rank_54 : decode cX21_rank 54 = .ok (.iconst 2, 1) := by decide +kernel
theorem dX21_rank_55 : decode cX21_rank 55 = .ok (.goto 73, 3) := by decide +kernel
theorem dX21_rank_58 : decode cX21_rank 58 = .ok (.aload_n 2, 1) := by decide +kernel
theorem dX21_rank_59 : decode cX21_rank 59 = .ok (.ldc 69, 2) := by decide +kernel
theorem dX21_rank_61 : decode cX21_rank 61 = .ok (.invokevirtual 384, 3) := by decide +kernel
theorem dX21_rank_64 : decode cX21_rank 64 = .ok (.ifCond .ne 12, 3) := by decide +kernel
theorem dX21_rank_67 : decode cX21_rank 67 = .ok (.aload_n 2, 1) := by decide +kernel
theorem dX21_rank_68 : decode cX21_rank 68 = .ok (.ldc 71, 2) := by decide +kernel
theorem dX21_rank_70 : decode cX21_rank 70 = .ok (.invokevirtual 384, 3) := by decide +kernel
theorem dX21_rank_73 : decode cX21_rank 73 = .ok (.ifCond .eq 8, 3) := by decide +kernel
theorem dX21_rank_76 : decode cX21_rank 76 = .ok (.bipush 6, 2) := by decide +kernel
theorem dX21_rank_78 : decode cX21_rank 78 = .ok (.goto 50, 3) := by decide +kernel
theorem dX21_rank_81 : decode cX21_rank 81 = .ok (.aload_n 2, 1) := by decide +kernel
theorem dX21_rank_82 : decode cX21_rank 82 = .ok (.ldc 73, 2) := by decide +kernel
theorem dX21_rank_84 : decode cX21_rank 84 = .ok (.invokevirtual 384, 3) := by decide +kernel
theorem dX21_rank_87 : decode cX21_rank 87 = .ok (.ifCond .ne 12, 3) := by decide +kernel
theorem dX21_rank_90 : decode cX21_rank 90 = .ok (.aload_n 2, 1) := by decide +kernel
theorem dX21_rank_91 : decode cX21_rank 91 = .ok (.ldc 75, 2) := by decide +kernel
theorem dX21_rank_93 : decode cX21_rank 93 = .ok (.invokevirtual 384, 3) := by decide +kernel
theorem dX21_rank_96 : decode cX21_rank 96 = .ok (.ifCond .eq 8, 3) := by decide +kernel
theorem dX21_rank_99 : decode cX21_rank 99 = .ok (.bipush 7, 2) := by decide +kernel
theorem dX21_rank_101 : decode cX21_rank 101 = .ok (.goto 27, 3) := by decide +kernel
theorem dX21_rank_104 : decode cX21_rank 104 = .ok (.aload_n 2, 1) := by decide +kernel
theorem dX21_rank_105 : decode cX21_rank 105 = .ok (.ldc 77, 2) := by decide +kernel
theorem dX21_rank_107 : decode cX21_rank 107 = .ok (.invokevirtual 384, 3) := by decide +kernel
theorem dX21_rank_110 : decode cX21_rank 110 = .ok (.ifCond .ne 12, 3) := by decide +kernel
theorem dX21_rank_113 : decode cX21_rank 113 = .ok (.aload_n 2, 1) := by decide +kernel
theorem dX21_rank_114 : decode cX21_rank 114 = .ok (.ldc 79, 2) := by decide +kernel
theorem dX21_rank_116 : decode cX21_rank 116 = .ok (.invokevirtual 384, 3) := by decide +kernel
theorem dX21_rank_119 : decode cX21_rank 119 = .ok (.ifCond .eq 8, 3) := by decide +kernel
theorem dX21_rank_122 : decode cX21_rank 122 = .ok (.bipush 8, 2) := by decide +kernel
theorem dX21_rank_124 : decode cX21_rank 124 = .ok (.goto 4, 3) := by decide +kernel
theorem dX21_rank_127 : decode cX21_rank 127 = .ok (.iconst 0, 1) := by decide +kernel
theorem dX21_rank_128 : decode cX21_rank 128 = .ok (.ireturn, 1) := by decide +kernel
theorem dX21_rank_129 : decode cX21_rank 129 = .ok (.aload_n 2, 1) := by decide +kernel
theorem dX21_rank_130 : decode cX21_rank 130 = .ok (.invokevirtual 335, 3) := by decide +kernel
theorem dX21_rank_133 : decode cX21_rank 133 = .ok (.iconst 1, 1) := by decide +kernel
theorem dX21_rank_134 : decode cX21_rank 134 = .ok (.if_icmp .eq 5, 3) := by decide +kernel
theorem dX21_rank_137 : decode cX21_rank 137 = .ok (.iconst 0, 1) := by decide +kernel
theorem dX21_rank_138 : decode cX21_rank 138 = .ok (.ireturn, 1) := by decide +kernel
theorem dX21_rank_139 : decode cX21_rank 139 = .ok (.aload_n 2, 1) := by decide +kernel
theorem dX21_rank_140 : decode cX21_rank 140 = .ok (.iconst 0, 1) := by decide +kernel
theorem dX21_rank_141 : decode cX21_rank 141 = .ok (.invokevirtual 338, 3) := by decide +kernel
theorem dX21_rank_144 : decode cX21_rank 144 = .ok (.istore_n 3, 1) := by decide +kernel
theorem dX21_rank_145 : decode cX21_rank 145 = .ok (.iload_n 3, 1) := by decide +kernel
theorem dX21_rank_146 : decode cX21_rank 146 = .ok (.bipush 124, 2) := by decide +kernel
theorem dX21_rank_148 : decode cX21_rank 148 = .ok (.if_icmp .ne 7, 3) := by decide +kernel
theorem dX21_rank_151 : decode cX21_rank 151 = .ok (.iconst 3, 1) := by decide +kernel
theorem dX21_rank_152 : decode cX21_rank 152 = .ok (.goto 81, 3) := by decide +kernel
theorem dX21_rank_155 : decode cX21_rank 155 = .ok (.iload_n 3, 1) := by decide +kernel
theorem dX21_rank_156 : decode cX21_rank 156 = .ok (.bipush 94, 2) := by decide +kernel
theorem dX21_rank_158 : decode cX21_rank 158 = .ok (.if_icmp .ne 7, 3) := by decide +kernel
theorem dX21_rank_161 : decode cX21_rank 161 = .ok (.iconst 4, 1) := by decide +kernel
theorem dX21_rank_162 : decode cX21_rank 162 = .ok (.goto 71, 3) := by decide +kernel
theorem dX21_rank_165 : decode cX21_rank 165 = .ok (.iload_n 3, 1) := by decide +kernel
theorem dX21_rank_166 : decode cX21_rank 166 = .ok (.bipush 38, 2) := by decide +kernel
theorem dX21_rank_168 : decode cX21_rank 168 = .ok (.if_icmp .ne 7, 3) := by decide +kernel
theorem dX21_rank_171 : decode cX21_rank 171 = .ok (.iconst 5, 1) := by decide +kernel
theorem dX21_rank_172 : decode cX21_rank 172 = .ok (.goto 61, 3) := by decide +kernel
theorem dX21_rank_175 : decode cX21_rank 175 = .ok (.iload_n 3, 1) := by decide +kernel
theorem dX21_rank_176 : decode cX21_rank 176 = .ok (.bipush 60, 2) := by decide +kernel
theorem dX21_rank_178 : decode cX21_rank 178 = .ok (.if_icmp .eq 9, 3) := by decide +kernel
theorem dX21_rank_181 : decode cX21_rank 181 = .ok (.iload_n 3, 1) := by decide +kernel
theorem dX21_rank_182 : decode cX21_rank 182 = .ok (.bipush 62, 2) := by decide +kernel
theorem dX21_rank_184 : decode cX21_rank 184 = .ok (.if_icmp .ne 8, 3) := by decide +kernel
theorem dX21_rank_187 : decode cX21_rank 187 = .ok (.bipush 7, 2) := by decide +kernel
theorem dX21_rank_189 : decode cX21_rank 189 = .ok (.goto 44, 3) := by decide +kernel
theorem dX21_rank_192 : decode cX21_rank 192 = .ok (.iload_n 3, 1) := by decide +kernel
theorem dX21_rank_193 : decode cX21_rank 193 = .ok (.bipush 43, 2) := by decide +kernel
theorem dX21_rank_195 : decode cX21_rank 195 = .ok (.if_icmp .eq 9, 3) := by decide +kernel
theorem dX21_rank_198 : decode cX21_rank 198 = .ok (.iload_n 3, 1) := by decide +kernel
theorem dX21_rank_199 : decode cX21_rank 199 = .ok (.bipush 45, 2) := by decide +kernel
theorem dX21_rank_201 : decode cX21_rank 201 = .ok (.if_icmp .ne 8, 3) := by decide +kernel
theorem dX21_rank_204 : decode cX21_rank 204 = .ok (.bipush 9, 2) := by decide +kernel
theorem dX21_rank_206 : decode cX21_rank 206 = .ok (.goto 27, 3) := by decide +kernel
theorem dX21_rank_209 : decode cX21_rank 209 = .ok (.iload_n 3, 1) := by decide +kernel
theorem dX21_rank_210 : decode cX21_rank 210 = .ok (.bipush 42, 2) := by decide +kernel
theorem dX21_rank_212 : decode cX21_rank 212 = .ok (.if_icmp .eq 15, 3) := by decide +kernel
theorem dX21_rank_215 : decode cX21_rank 215 = .ok (.iload_n 3, 1) := by decide +kernel
theorem dX21_rank_216 : decode cX21_rank 216 = .ok (.bipush 47, 2) := by decide +kernel
theorem dX21_rank_218 : decode cX21_rank 218 = .ok (.if_icmp .eq 9, 3) := by decide +kernel
theorem dX21_rank_221 : decode cX21_rank 221 = .ok (.iload_n 3, 1) := by decide +kernel
theorem dX21_rank_222 : decode cX21_rank 222 = .ok (.bipush 37, 2) := by decide +kernel
theorem dX21_rank_224 : decode cX21_rank 224 = .ok (.if_icmp .ne 8, 3) := by decide +kernel
theorem dX21_rank_227 : decode cX21_rank 227 = .ok (.bipush 10, 2) := by decide +kernel
theorem dX21_rank_229 : decode cX21_rank 229 = .ok (.goto 4, 3) := by decide +kernel
theorem dX21_rank_232 : decode cX21_rank 232 = .ok (.iconst 0, 1) := by decide +kernel
theorem dX21_rank_233 : decode cX21_rank 233 = .ok (.ireturn, 1) := by decide +kernel
theorem dX21_settle_0 : decode cX21_settle 0 = .ok (.aload_n 0, 1) := by decide +kernel
theorem dX21_settle_1 : decode cX21_settle 1 = .ok (.dup, 1) := by decide +kernel
theorem dX21_settle_2 : decode cX21_settle 2 = .ok (.getfield 443, 3) := by decide +kernel
theorem dX21_settle_5 : decode cX21_settle 5 = .ok (.iconst 1, 1) := by decide +kernel
theorem dX21_settle_6 : decode cX21_settle 6 = .ok (.isub, 1) := by decide +kernel
theorem dX21_settle_7 : decode cX21_settle 7 = .ok (.putfield 443, 3) := by decide +kernel
theorem dX21_settle_10 : decode cX21_settle 10 = .ok (.aload_n 0, 1) := by decide +kernel
theorem dX21_settle_11 : decode cX21_settle 11 = .ok (.dup, 1) := by decide +kernel
theorem dX21_settle_12 : decode cX21_settle 12 = .ok (.getfield 408, 3) := by decide +kernel
theorem dX21_settle_15 : decode cX21_settle 15 = .ok (.iconst 1, 1) := by decide +kernel
theorem dX21_settle_16 : decode cX21_settle 16 = .ok (.isub, 1) := by decide +kernel
theorem dX21_settle_17 : decode cX21_settle 17 = .ok (.putfield 408, 3) := by decide +kernel
theorem dX21_settle_20 : decode cX21_settle 20 = .ok (.aload_n 0, 1) := by decide +kernel
theorem dX21_settle_21 : decode cX21_settle 21 = .ok (.getfield 244, 3) := by decide +kernel
theorem dX21_settle_24 : decode cX21_settle 24 = .ok (.aload_n 0, 1) := by decide +kernel
theorem dX21_settle_25 : decode cX21_settle 25 = .ok (.getfield 443, 3) := by decide +kernel
theorem dX21_settle_28 : decode cX21_settle 28 = .ok (.iaload, 1) := by decide +kernel
theorem dX21_settle_29 : decode cX21_settle 29 = .ok (.istore_n 2, 1) := by decide +kernel
theorem dX21_settle_30 : decode cX21_settle 30 = .ok (.aload_n 0, 1) := by decide +kernel
theorem dX21_settle_31 : decode cX21_settle 31 = .ok (.getfield 238, 3) := by decide +kernel
theorem dX21_settle_34 : decode cX21_settle 34 = .ok (.aload_n 0, 1) := by decide +kernel
theorem dX21_settle_35 : decode cX21_settle 35 = .ok (.getfield 443, 3) := by decide +kernel
theorem dX21_settle_38 : decode cX21_settle 38 = .ok (.iaload, 1) := by decide +kernel
theorem dX21_settle_39 : decode cX21_settle 39 = .ok (.istore_n 3, 1) := by decide +kernel
theorem dX21_settle_40 : decode cX21_settle 40 = .ok (.iload_n 2, 1) := by decide +kernel
theorem dX21_settle_41 : decode cX21_settle 41 = .ok (.istore 4, 2) := by decide +kernel
theorem dX21_settle_43 : decode cX21_settle 43 = .ok (.aload_n 0, 1) := by decide +kernel
theorem dX21_settle_44 : decode cX21_settle 44 = .ok (.getfield 208, 3) := by decide +kernel
theorem dX21_settle_47 : decode cX21_settle 47 = .ok (.iload 4, 2) := by decide +kernel
theorem dX21_settle_49 : decode cX21_settle 49 = .ok (.baload, 1) := by decide +kernel
theorem dX21_settle_50 : decode cX21_settle 50 = .ok (.iconst 5, 1) := by decide +kernel
theorem dX21_settle_51 : decode cX21_settle 51 = .ok (.if_icmp .ne 29, 3) := by decide +kernel
theorem dX21_settle_54 : decode cX21_settle 54 = .ok (.aload_n 0, 1) := by decide +kernel
theorem dX21_settle_55 : decode cX21_settle 55 = .ok (.aload_n 0, 1) := by decide +kernel
theorem dX21_settle_56 : decode cX21_settle 56 = .ok (.getfield 211, 3) := by decide +kernel
theorem dX21_settle_59 : decode cX21_settle 59 = .ok (.iload 4, 2) := by decide +kernel
theorem dX21_settle_61 : decode cX21_settle 61 = .ok (.iaload, 1) := by decide +kernel
theorem dX21_settle_62 : decode cX21_settle 62 = .ok (.invokevirtual 446, 3) := by decide +kernel
theorem dX21_settle_65 : decode cX21_settle 65 = .ok (.ifCond .eq 15, 3) := by decide +kernel
theorem dX21_settle_68 : decode cX21_settle 68 = .ok (.aload_n 0, 1) := by decide +kernel
theorem dX21_settle_69 : decode cX21_settle 69 = .ok (.getfield 217, 3) := by decide +kernel
theorem dX21_settle_72 : decode cX21_settle 72 = .ok (.iload 4, 2) := by decide +kernel
theorem dX21_settle_74 : decode cX21_settle 74 = .ok (.iaload, 1) := by decide +kernel
theorem dX21_settle_75 : decode cX21_settle 75 = .ok (.istore 4, 2) := by decide +kernel
theorem dX21_settle_77 : decode cX21_settle 77 = .ok (.goto (-34), 3) := by decide +kernel
theorem dX21_settle_80 : decode cX21_settle 80 = .ok (.aload_n 0, 1) := by decide +kernel
theorem dX21_settle_81 : decode cX21_settle 81 = .ok (.getfield 214, 3) := by decide +kernel
theorem dX21_settle_84 : decode cX21_settle 84 = .ok (.iload 4, 2) := by decide +kernel
theorem dX21_settle_86 : decode cX21_settle 86 = .ok (.aload_n 0, 1) := by decide +kernel
theorem dX21_settle_87 : decode cX21_settle 87 = .ok (.getfield 208, 3) := by decide +kernel
theorem dX21_settle_90 : decode cX21_settle 90 = .ok (.iload 4, 2) := by decide +kernel
theorem dX21_settle_92 : decode cX21_settle 92 = .ok (.baload, 1) := by decide +kernel
theorem dX21_settle_93 : decode cX21_settle 93 = .ok (.bipush 7, 2) := by decide +kernel
theorem dX21_settle_95 : decode cX21_settle 95 = .ok (.if_icmp .ne 23, 3) := by decide +kernel
theorem dX21_settle_98 : decode cX21_settle 98 = .ok (.aload_n 0, 1) := by decide +kernel
theorem dX21_settle_99 : decode cX21_settle 99 = .ok (.getfield 232, 3) := by decide +kernel
theorem dX21_settle_102 : decode cX21_settle 102 = .ok (.iload 4, 2) := by decide +kernel
theorem dX21_settle_104 : decode cX21_settle 104 = .ok (.iaload, 1) := by decide +kernel
theorem dX21_settle_105 : decode cX21_settle 105 = .ok (.iload_n 3, 1) := by decide +kernel
theorem dX21_settle_106 : decode cX21_settle 106 = .ok (.if_icmp .ne 12, 3) := by decide +kernel
theorem dX21_settle_109 : decode cX21_settle 109 = .ok (.aload_n 0, 1) := by decide +kernel
theorem dX21_settle_110 : decode cX21_settle 110 = .ok (.getfield 214, 3) := by decide +kernel
theorem dX21_settle_113 : decode cX21_settle 113 = .ok (.iload_n 2, 1) := by decide +kernel
theorem dX21_settle_114 : decode cX21_settle 114 = .ok (.iaload, 1) := by decide +kernel
theorem dX21_settle_115 : decode cX21_settle 115 = .ok (.goto 10, 3) := by decide +kernel
theorem dX21_settle_118 : decode cX21_settle 118 = .ok (.aload_n 0, 1) := by decide +kernel
theorem dX21_settle_119 : decode cX21_settle 119 = .ok (.getfield 214, 3) := by decide +kernel
theorem dX21_settle_122 : decode cX21_settle 122 = .ok (.iload 4, 2) := by decide +kernel
theorem dX21_settle_124 : decode cX21_settle 124 = .ok (.iaload, 1) := by decide +kernel
theorem dX21_settle_125 : decode cX21_settle 125 = .ok (.iastore, 1) := by decide +kernel
theorem dX21_settle_126 : decode cX21_settle 126 = .ok (.aload_n 0, 1) := by decide +kernel
theorem dX21_settle_127 : decode cX21_settle 127 = .ok (.getfield 208, 3) := by decide +kernel
theorem dX21_settle_130 : decode cX21_settle 130 = .ok (.iload 4, 2) := by decide +kernel
theorem dX21_settle_132 : decode cX21_settle 132 = .ok (.baload, 1) := by decide +kernel
theorem dX21_settle_133 : decode cX21_settle 133 = .ok (.bipush 7, 2) := by decide +kernel
theorem dX21_settle_135 : decode cX21_settle 135 = .ok (.if_icmp .ne 14, 3) := by decide +kernel
theorem dX21_settle_138 : decode cX21_settle 138 = .ok (.aload_n 0, 1) := by decide +kernel
theorem dX21_settle_139 : decode cX21_settle 139 = .ok (.getfield 232, 3) := by decide +kernel
theorem dX21_settle_142 : decode cX21_settle 142 = .ok (.iload 4, 2) := by decide +kernel
theorem dX21_settle_144 : decode cX21_settle 144 = .ok (.iaload, 1) := by decide +kernel
theorem dX21_settle_145 : decode cX21_settle 145 = .ok (.iload_n 3, 1) := by decide +kernel
theorem dX21_settle_146 : decode cX21_settle 146 = .ok (.if_icmp .eq 72, 3) := by decide +kernel
theorem dX21_settle_149 : decode cX21_settle 149 = .ok (.aload_n 0, 1) := by decide +kernel
theorem dX21_settle_150 : decode cX21_settle 150 = .ok (.bipush 7, 2) := by decide +kernel
theorem dX21_settle_152 : decode cX21_settle 152 = .ok (.aload_n 0, 1) := by decide +kernel
theorem dX21_settle_153 : decode cX21_settle 153 = .ok (.getfield 241, 3) := by decide +kernel
theorem dX21_settle_156 : decode cX21_settle 156 = .ok (.aload_n 0, 1) := by decide +kernel
theorem dX21_settle_157 : decode cX21_settle 157 = .ok (.getfield 443, 3) := by decide +kernel
theorem dX21_settle_160 : decode cX21_settle 160 = .ok (.iaload, 1) := by decide +kernel
theorem dX21_settle_161 : decode cX21_settle 161 = .ok (.invokevirtual 434, 3) := by decide +kernel
theorem dX21_settle_164 : decode cX21_settle 164 = .ok (.istore 4, 2) := by decide +kernel
theorem dX21_settle_166 : decode cX21_settle 166 = .ok (.aload_n 0, 1) := by decide +kernel
theorem dX21_settle_167 : decode cX21_settle 167 = .ok (.getfield 214, 3) := by decide +kernel
theorem dX21_settle_170 : decode cX21_settle 170 = .ok (.iload 4, 2) := by decide +kernel
theorem dX21_settle_172 : decode cX21_settle 172 = .ok (.aload_n 0, 1) := by decide +kernel
theorem dX21_settle_173 : decode cX21_settle 173 = .ok (.getfield 214, 3) := by decide +kernel
theorem dX21_settle_176 : decode cX21_settle 176 = .ok (.iload_n 2, 1) := by decide +kernel
theorem dX21_settle_177 : decode cX21_settle 177 = .ok (.iaload, 1) := by decide +kernel
theorem dX21_settle_178 : decode cX21_settle 178 = .ok (.iastore, 1) := by decide +kernel
theorem dX21_settle_179 : decode cX21_settle 179 = .ok (.aload_n 0, 1) := by decide +kernel
theorem dX21_settle_180 : decode cX21_settle 180 = .ok (.getfield 232, 3) := by decide +kernel
theorem dX21_settle_183 : decode cX21_settle 183 = .ok (.iload 4, 2) := by decide +kernel
theorem dX21_settle_185 : decode cX21_settle 185 = .ok (.iload_n 3, 1) := by decide +kernel
theorem dX21_settle_186 : decode cX21_settle 186 = .ok (.iastore, 1) := by decide +kernel
theorem dX21_settle_187 : decode cX21_settle 187 = .ok (.aload_n 0, 1) := by decide +kernel
theorem dX21_settle_188 : decode cX21_settle 188 = .ok (.getfield 217, 3) := by decide +kernel
theorem dX21_settle_191 : decode cX21_settle 191 = .ok (.iload 4, 2) := by decide +kernel
theorem dX21_settle_193 : decode cX21_settle 193 = .ok (.iload_n 2, 1) := by decide +kernel
theorem dX21_settle_194 : decode cX21_settle 194 = .ok (.iastore, 1) := by decide +kernel
theorem dX21_settle_195 : decode cX21_settle 195 = .ok (.aload_n 0, 1) := by decide +kernel
theorem dX21_settle_196 : decode cX21_settle 196 = .ok (.getfield 220, 3) := by decide +kernel
theorem dX21_settle_199 : decode cX21_settle 199 = .ok (.iload 4, 2) := by decide +kernel
theorem dX21_settle_201 : decode cX21_settle 201 = .ok (.iload_n 2, 1) := by decide +kernel
theorem dX21_settle_202 : decode cX21_settle 202 = .ok (.iastore, 1) := by decide +kernel
theorem dX21_settle_203 : decode cX21_settle 203 = .ok (.aload_n 0, 1) := by decide +kernel
theorem dX21_settle_204 : decode cX21_settle 204 = .ok (.getfield 235, 3) := by decide +kernel
theorem dX21_settle_207 : decode cX21_settle 207 = .ok (.iload 4, 2) := by decide +kernel
theorem dX21_settle_209 : decode cX21_settle 209 = .ok (.iconst 1, 1) := by decide +kernel
theorem dX21_settle_210 : decode cX21_settle 210 = .ok (.aload_n 0, 1) := by decide +kernel
theorem dX21_settle_211 : decode cX21_settle 211 = .ok (.getfield 235, 3) := by decide +kernel
theorem dX21_settle_214 : decode cX21_settle 214 = .ok (.iload_n 2, 1) := by decide +kernel
theorem dX21_settle_215 : decode cX21_settle 215 = .ok (.iaload, 1) := by decide +kernel
theorem dX21_settle_216 : decode cX21_settle 216 = .ok (.iadd, 1) := by decide +kernel
theorem dX21_settle_217 : decode cX21_settle 217 = .ok (.iastore, 1) := by decide +kernel
theorem dX21_settle_218 : decode cX21_settle 218 = .ok (.aload_n 0, 1) := by decide +kernel
theorem dX21_settle_219 : decode cX21_settle 219 = .ok (.getfield 235, 3) := by decide +kernel
theorem dX21_settle_222 : decode cX21_settle 222 = .ok (.iload 4, 2) := by decide +kernel
theorem dX21_settle_224 : decode cX21_settle 224 = .ok (.aload_n 0, 1) := by decide +kernel
theorem dX21_settle_225 : decode cX21_settle 225 = .ok (.getfield 235, 3) := by decide +kernel
theorem dX21_settle_228 : decode cX21_settle 228 = .ok (.iload 4, 2) := by decide +kernel
theorem dX21_settle_230 : decode cX21_settle 230 = .ok (.iaload, 1) := by decide +kernel
theorem dX21_settle_231 : decode cX21_settle 231 = .ok (.iconst 1, 1) := by decide +kernel
theorem dX21_settle_232 : decode cX21_settle 232 = .ok (.aload_n 0, 1) := by decide +kernel
theorem dX21_settle_233 : decode cX21_settle 233 = .ok (.getfield 235, 3) := by decide +kernel
theorem dX21_settle_236 : decode cX21_settle 236 = .ok (.iload_n 1, 1) := by decide +kernel
theorem dX21_settle_237 : decode cX21_settle 237 = .ok (.iaload, 1) := by decide +kernel
theorem dX21_settle_238 : decode cX21_settle 238 = .ok (.iadd, 1) := by decide +kernel
theorem dX21_settle_239 : decode cX21_settle 239 = .ok (.invokestatic 437, 3) := by decide +kernel
theorem dX21_settle_242 : decode cX21_settle 242 = .ok (.iastore, 1) := by decide +kernel
theorem dX21_settle_243 : decode cX21_settle 243 = .ok (.aload_n 0, 1) := by decide +kernel
theorem dX21_settle_244 : decode cX21_settle 244 = .ok (.getfield 229, 3) := by decide +kernel
theorem dX21_settle_247 : decode cX21_settle 247 = .ok (.aload_n 0, 1) := by decide +kernel
theorem dX21_settle_248 : decode cX21_settle 248 = .ok (.getfield 220, 3) := by decide +kernel
theorem dX21_settle_251 : decode cX21_settle 251 = .ok (.iload 4, 2) := by decide +kernel
theorem dX21_settle_253 : decode cX21_settle 253 = .ok (.iaload, 1) := by decide +kernel
theorem dX21_settle_254 : decode cX21_settle 254 = .ok (.iload_n 1, 1) := by decide +kernel
theorem dX21_settle_255 : decode cX21_settle 255 = .ok (.iastore, 1) := by decide +kernel
theorem dX21_settle_256 : decode cX21_settle 256 = .ok (.aload_n 0, 1) := by decide +kernel
theorem dX21_settle_257 : decode cX21_settle 257 = .ok (.getfield 220, 3) := by decide +kernel
theorem dX21_settle_260 : decode cX21_settle 260 = .ok (.iload 4, 2) := by decide +kernel
theorem dX21_settle_262 : decode cX21_settle 262 = .ok (.iload_n 1, 1) := by decide +kernel
theorem dX21_settle_263 : decode cX21_settle 263 = .ok (.iastore, 1) := by decide +kernel
theorem dX21_settle_264 : decode cX21_settle 264 = .ok (.aload_n 0, 1) := by decide +kernel
theorem dX21_settle_265 : decode cX21_settle 265 = .ok (.getfield 226, 3) := by decide +kernel
theorem dX21_settle_268 : decode cX21_settle 268 = .ok (.iload_n 1, 1) := by decide +kernel
theorem dX21_settle_269 : decode cX21_settle 269 = .ok (.aload_n 0, 1) := by decide +kernel
theorem dX21_settle_270 : decode cX21_settle 270 = .ok (.getfield 241, 3) := by decide +kernel
theorem dX21_settle_273 : decode cX21_settle 273 = .ok (.aload_n 0, 1) := by decide +kernel
theorem dX21_settle_274 : decode cX21_settle 274 = .ok (.getfield 443, 3) := by decide +kernel
theorem dX21_settle_277 : decode cX21_settle 277 = .ok (.iaload, 1) := by decide +kernel
theorem dX21_settle_278 : decode cX21_settle 278 = .ok (.iastore, 1) := by decide +kernel
theorem dX21_settle_279 : decode cX21_settle 279 = .ok (.iload 4, 2) := by decide +kernel
theorem dX21_settle_281 : decode cX21_settle 281 = .ok (.ireturn, 1) := by decide +kernel
theorem dX21_hang_0 : decode cX21_hang 0 = .ok (.iload_n 2, 1) := by decide +kernel
theorem dX21_hang_1 : decode cX21_hang 1 = .ok (.ifCond .lt 10, 3) := by decide +kernel
theorem dX21_hang_4 : decode cX21_hang 4 = .ok (.aload_n 0, 1) := by decide +kernel
theorem dX21_hang_5 : decode cX21_hang 5 = .ok (.getfield 229, 3) := by decide +kernel
theorem dX21_hang_8 : decode cX21_hang 8 = .ok (.iload_n 2, 1) := by decide +kernel
theorem dX21_hang_9 : decode cX21_hang 9 = .ok (.iload_n 3, 1) := by decide +kernel
theorem dX21_hang_10 : decode cX21_hang 10 = .ok (.iastore, 1) := by decide +kernel
theorem dX21_hang_11 : decode cX21_hang 11 = .ok (.iload_n 1, 1) := by decide +kernel
theorem dX21_hang_12 : decode cX21_hang 12 = .ok (.ifCond .lt 7, 3) := by decide +kernel
theorem dX21_hang_15 : decode cX21_hang 15 = .ok (.iload_n 1, 1) := by decide +kernel
theorem dX21_hang_16 : decode cX21_hang 16 = .ok (.goto 4, 3) := by decide +kernel
theorem dX21_hang_19 : decode cX21_hang 19 = .ok (.iload_n 3, 1) := by decide +kernel
theorem dX21_hang_20 : decode cX21_hang 20 = .ok (.ireturn, 1) := by decide +kernel
theorem dX21_add_0 : decode cX21_add 0 = .ok (.aload_n 0, 1) := by decide +kernel
theorem dX21_add_1 : decode cX21_add 1 = .ok (.aload_n 0, 1) := by decide +kernel
theorem dX21_add_2 : decode cX21_add 2 = .ok (.aload_n 0, 1) := by decide +kernel
theorem dX21_add_3 : decode cX21_add 3 = .ok (.getfield 528, 3) := by decide +kernel
theorem dX21_add_6 : decode cX21_add 6 = .ok (.aload_n 0, 1) := by decide +kernel
theorem dX21_add_7 : decode cX21_add 7 = .ok (.getfield 531, 3) := by decide +kernel
theorem dX21_add_10 : decode cX21_add 10 = .ok (.iload_n 1, 1) := by decide +kernel
theorem dX21_add_11 : decode cX21_add 11 = .ok (.invokevirtual 494, 3) := by decide +kernel
theorem dX21_add_14 : decode cX21_add 14 = .ok (.putfield 528, 3) := by decide +kernel
theorem dX21_add_17 : decode cX21_add 17 = .ok (.aload_n 0, 1) := by decide +kernel
theorem dX21_add_18 : decode cX21_add 18 = .ok (.iload_n 1, 1) := by decide +kernel
theorem dX21_add_19 : decode cX21_add 19 = .ok (.putfield 531, 3) := by decide +kernel
theorem dX21_add_22 : decode cX21_add 22 = .ok (.return_, 1) := by decide +kernel
theorem dX21_isType_0 : decode cX21_isType 0 = .ok (.aload_n 0, 1) := by decide +kernel
theorem dX21_isType_1 : decode cX21_isType 1 = .ok (.iconst 0, 1) := by decide +kernel
theorem dX21_isType_2 : decode cX21_isType 2 = .ok (.invokevirtual 405, 3) := by decide +kernel
theorem dX21_isType_5 : decode cX21_isType 5 = .ok (.ifCond .ne 11, 3) := by decide +kernel
theorem dX21_isType_8 : decode cX21_isType 8 = .ok (.aload_n 0, 1) := by decide +kernel
theorem dX21_isType_9 : decode cX21_isType 9 = .ok (.iconst 1, 1) := by decide +kernel
theorem dX21_isType_10 : decode cX21_isType 10 = .ok (.invokevirtual 405, 3) := by decide +kernel
theorem dX21_isType_13 : decode cX21_isType 13 = .ok (.ifCond .eq 7, 3) := by decide +kernel
theorem dX21_isType_16 : decode cX21_isType 16 = .ok (.iconst 1, 1) := by decide +kernel
theorem dX21_isType_17 : decode cX21_isType 17 = .ok (.goto 4, 3) := by decide +kernel
theorem dX21_isType_20 : decode cX21_isType 20 = .ok (.iconst 0, 1) := by decide +kernel
theorem dX21_isType_21 : decode cX21_isType 21 = .ok (.ireturn, 1) := by decide +kernel
theorem dX21_functionText_0 : decode cX21_functionText 0 = .ok (.aload_n 0, 1) := by decide +kernel
theorem dX21_functionText_1 : decode cX21_functionText 1 = .ok (.bipush 41, 2) := by decide +kernel
theorem dX21_functionText_3 : decode cX21_functionText 3 = .ok (.iload_n 2, 1) := by decide +kernel
theorem dX21_functionText_4 : decode cX21_functionText 4 = .ok (.invokevirtual 434, 3) := by decide +kernel
theorem dX21_functionText_7 : decode cX21_functionText 7 = .ok (.istore_n 3, 1) := by decide +kernel
theorem dX21_functionText_8 : decode cX21_functionText 8 = .ok (.aload_n 0, 1) := by decide +kernel
theorem dX21_functionText_9 : decode cX21_functionText 9 = .ok (.getfield 232, 3) := by decide +kernel
theorem dX21_functionText_12 : decode cX21_functionText 12 = .ok (.iload_n 3, 1) := by decide +kernel
theorem dX21_functionText_13 : decode cX21_functionText 13 = .ok (.iload_n 1, 1) := by decide +kernel
theorem dX21_functionText_14 : decode cX21_functionText 14 = .ok (.iastore, 1) := by decide +kernel
theorem dX21_functionText_15 : decode cX21_functionText 15 = .ok (.aload_n 0, 1) := by decide +kernel
theorem dX21_functionText_16 : decode cX21_functionText 16 = .ok (.ldc 85, 2) := by decide +kernel
theorem dX21_functionText_18 : decode cX21_functionText 18 = .ok (.invokevirtual 485, 3) := by decide +kernel
theorem dX21_functionText_21 : decode cX21_functionText 21 = .ok (.aload_n 0, 1) := by decide +kernel
theorem dX21_functionText_22 : decode cX21_functionText 22 = .ok (.iconst 2, 1) := by decide +kernel
theorem dX21_functionText_23 : decode cX21_functionText 23 = .ok (.invokevirtual 405, 3) := by decide +kernel
theorem dX21_functionText_26 : decode cX21_functionText 26 = .ok (.ifCond .eq 16, 3) := by decide +kernel
theorem dX21_functionText_29 : decode cX21_functionText 29 = .ok (.aload_n 0, 1) := by decide +kernel
theorem dX21_functionText_30 : decode cX21_functionText 30 = .ok (.dup, 1) := by decide +kernel
theorem dX21_functionText_31 : decode cX21_functionText 31 = .ok (.getfield 388, 3) := by decide +kernel
theorem dX21_functionText_34 : decode cX21_functionText 34 = .ok (.iconst 1, 1) := by decide +kernel
theorem dX21_functionText_35 : decode cX21_functionText 35 = .ok (.iadd, 1) := by decide +kernel
theorem dX21_functionText_36 : decode cX21_functionText 36 = .ok (.putfield 388, 3) := by decide +kernel
theorem dX21_functionText_39 : decode cX21_functionText 39 = .ok (.goto 57, 3) := by decide +kernel
theorem dX21_functionText_42 : decode cX21_functionText 42 = .ok (.aload_n 0, 1) := by decide +kernel
theorem dX21_functionText_43 : decode cX21_functionText 43 = .ok (.ldc 87, 2) := by decide +kernel
theorem dX21_functionText_45 : decode cX21_functionText 45 = .ok (.invokevirtual 394, 3) := by decide +kernel
theorem dX21_functionText_48 : decode cX21_functionText 48 = .ok (.ifCond .ne 48, 3) := by decide +kernel
theorem dX21_functionText_51 : decode cX21_functionText 51 = .ok (.aload_n 0, 1) := by decide +kernel
theorem dX21_functionText_52 : decode cX21_functionText 52 = .ok (.invokevirtual 537, 3) := by decide +kernel
theorem dX21_functionText_55 : decode cX21_functionText 55 = .ok (.istore 4, 2) := by decide +kernel
theorem dX21_functionText_57 : decode cX21_functionText 57 = .ok (.aload_n 0, 1) := by decide +kernel
theorem dX21_functionText_58 : decode cX21_functionText 58 = .ok (.getfield 217, 3) := by decide +kernel
theorem dX21_functionText_61 : decode cX21_functionText 61 = .ok (.iload_n 3, 1) := by decide +kernel
theorem dX21_functionText_62 : decode cX21_functionText 62 = .ok (.iload 4, 2) := by decide +kernel
theorem dX21_functionText_64 : decode cX21_functionText 64 = .ok (.iastore, 1) := by decide +kernel
theorem dX21_functionText_65 : decode cX21_functionText 65 = .ok (.aload_n 0, 1) := by decide +kernel
theorem dX21_functionText_66 : decode cX21_functionText 66 = .ok (.ldc 97, 2) := by decide +kernel
theorem dX21_functionText_68 : decode cX21_functionText 68 = .ok (.invokevirtual 398, 3) := by decide +kernel
theorem dX21_functionText_71 : decode cX21_functionText 71 = .ok (.ifCond .eq 25, 3) := by decide +kernel
theorem dX21_functionText_74 : decode cX21_functionText 74 = .ok (.aload_n 0, 1) := by decide +kernel
theorem dX21_functionText_75 : decode cX21_functionText 75 = .ok (.invokevirtual 537, 3) := by decide +kernel
theorem dX21_functionText_78 : decode cX21_functionText 78 = .ok (.istore 5, 2) := by decide +kernel
theorem dX21_functionText_80 : decode cX21_functionText 80 = .ok (.aload_n 0, 1) := by decide +kernel
theorem dX21_functionText_81 : decode cX21_functionText 81 = .ok (.getfield 229, 3) := by decide +kernel
theorem dX21_functionText_84 : decode cX21_functionText 84 = .ok (.iload 4, 2) := by decide +kernel
theorem dX21_functionText_86 : decode cX21_functionText 86 = .ok (.iload 5, 2) := by decide +kernel
theorem dX21_functionText_88 : decode cX21_functionText 88 = .ok (.iastore, 1) := by decide +kernel
theorem dX21_functionText_89 : decode cX21_functionText 89 = .ok (.iload 5, 2) := by decide +kernel
theorem dX21_functionText_91 : decode cX21_functionText 91 = .ok (.istore 4, 2) := by decide +kernel
theorem dX21_functionText_93 : decode cX21_functionText 93 = .ok (.goto (-28), 3) := by decide +kernel
theorem dX21_functionText_96 : decode cX21_functionText 96 = .ok (.aload_n 0, 1) := by decide +kernel
theorem dX21_functionText_97 : decode cX21_functionText 97 = .ok (.ldc 87, 2) := by decide +kernel
theorem dX21_functionText_99 : decode cX21_functionText 99 = .ok (.invokevirtual 467, 3) := by decide +kernel
theorem dX21_functionText_102 : decode cX21_functionText 102 = .ok (.aload_n 0, 1) := by decide +kernel
theorem dX21_functionText_103 : decode cX21_functionText 103 = .ok (.getfield 220, 3) := by decide +kernel
theorem dX21_functionText_106 : decode cX21_functionText 106 = .ok (.iload_n 3, 1) := by decide +kernel
theorem dX21_functionText_107 : decode cX21_functionText 107 = .ok (.aload_n 0, 1) := by decide +kernel
theorem dX21_functionText_108 : decode cX21_functionText 108 = .ok (.invokevirtual 498, 3) := by decide +kernel
theorem dX21_functionText_111 : decode cX21_functionText 111 = .ok (.iastore, 1) := by decide +kernel
theorem dX21_functionText_112 : decode cX21_functionText 112 = .ok (.aload_n 0, 1) := by decide +kernel
theorem dX21_functionText_113 : decode cX21_functionText 113 = .ok (.iload_n 3, 1) := by decide +kernel
theorem dX21_functionText_114 : decode cX21_functionText 114 = .ok (.invokevirtual 534, 3) := by decide +kernel
theorem dX21_functionText_117 : decode cX21_functionText 117 = .ok (.return_, 1) := by decide +kernel
theorem dX21_parameter_0 : decode cX21_parameter 0 = .ok (.aload_n 0, 1) := by decide +kernel
theorem dX21_parameter_1 : decode cX21_parameter 1 = .ok (.aload_n 0, 1) := by decide +kernel
theorem dX21_parameter_2 : decode cX21_parameter 2 = .ok (.invokevirtual 501, 3) := by decide +kernel
theorem dX21_parameter_5 : decode cX21_parameter 5 = .ok (.invokevirtual 401, 3) := by decide +kernel
theorem dX21_parameter_8 : decode cX21_parameter 8 = .ok (.aload_n 0, 1) := by decide +kernel
theorem dX21_parameter_9 : decode cX21_parameter 9 = .ok (.getfield 205, 3) := by decide +kernel
theorem dX21_parameter_12 : decode cX21_parameter 12 = .ok (.aload_n 0, 1) := by decide +kernel
theorem dX21_parameter_13 : decode cX21_parameter 13 = .ok (.getfield 388, 3) := by decide +kernel
theorem dX21_parameter_16 : decode cX21_parameter 16 = .ok (.iaload, 1) := by decide +kernel
theorem dX21_parameter_17 : decode cX21_parameter 17 = .ok (.istore_n 1, 1) := by decide +kernel
theorem dX21_parameter_18 : decode cX21_parameter 18 = .ok (.aload_n 0, 1) := by decide +kernel
theorem dX21_parameter_19 : decode cX21_parameter 19 = .ok (.dup, 1) := by decide +kernel
theorem dX21_parameter_20 : decode cX21_parameter 20 = .ok (.getfield 388, 3) := by decide +kernel
theorem dX21_parameter_23 : decode cX21_parameter 23 = .ok (.iconst 1, 1) := by decide +kernel
theorem dX21_parameter_24 : decode cX21_parameter 24 = .ok (.iadd, 1) := by decide +kernel
theorem dX21_parameter_25 : decode cX21_parameter 25 = .ok (.putfield 388, 3) := by decide +kernel
theorem dX21_parameter_28 : decode cX21_parameter 28 = .ok (.aload_n 0, 1) := by decide +kernel
theorem dX21_parameter_29 : decode cX21_parameter 29 = .ok (.bipush 42, 2) := by decide +kernel
theorem dX21_parameter_31 : decode cX21_parameter 31 = .ok (.aload_n 0, 1) := by decide +kernel
theorem dX21_parameter_32 : decode cX21_parameter 32 = .ok (.invokevirtual 470, 3) := by decide +kernel
theorem dX21_parameter_35 : decode cX21_parameter 35 = .ok (.invokevirtual 434, 3) := by decide +kernel
theorem dX21_parameter_38 : decode cX21_parameter 38 = .ok (.istore_n 2, 1) := by decide +kernel
theorem dX21_parameter_39 : decode cX21_parameter 39 = .ok (.aload_n 0, 1) := by decide +kernel
theorem dX21_parameter_40 : decode cX21_parameter 40 = .ok (.getfield 232, 3) := by decide +kernel
theorem dX21_parameter_43 : decode cX21_parameter 43 = .ok (.iload_n 2, 1) := by decide +kernel
theorem dX21_parameter_44 : decode cX21_parameter 44 = .ok (.iload_n 1, 1) := by decide +kernel
theorem dX21_parameter_45 : decode cX21_parameter 45 = .ok (.iastore, 1) := by decide +kernel
theorem dX21_parameter_46 : decode cX21_parameter 46 = .ok (.aload_n 0, 1) := by decide +kernel
theorem dX21_parameter_47 : decode cX21_parameter 47 = .ok (.ldc 93, 2) := by decide +kernel
theorem dX21_parameter_49 : decode cX21_parameter 49 = .ok (.invokevirtual 394, 3) := by decide +kernel
theorem dX21_parameter_52 : decode cX21_parameter 52 = .ok (.ifCond .eq 20, 3) := by decide +kernel
theorem dX21_parameter_55 : decode cX21_parameter 55 = .ok (.aload_n 0, 1) := by decide +kernel
theorem dX21_parameter_56 : decode cX21_parameter 56 = .ok (.invokevirtual 411, 3) := by decide +kernel
theorem dX21_parameter_59 : decode cX21_parameter 59 = .ok (.aload_n 0, 1) := by decide +kernel
theorem dX21_parameter_60 : decode cX21_parameter 60 = .ok (.ldc 95, 2) := by decide +kernel
theorem dX21_parameter_62 : decode cX21_parameter 62 = .ok (.invokevirtual 467, 3) := by decide +kernel
theorem dX21_parameter_65 : decode cX21_parameter 65 = .ok (.aload_n 0, 1) := by decide +kernel
theorem dX21_parameter_66 : decode cX21_parameter 66 = .ok (.getfield 217, 3) := by decide +kernel
theorem dX21_parameter_69 : decode cX21_parameter 69 = .ok (.iload_n 2, 1) := by decide +kernel
theorem dX21_parameter_70 : decode cX21_parameter 70 = .ok (.iconst 1, 1) := by decide +kernel
theorem dX21_parameter_71 : decode cX21_parameter 71 = .ok (.iastore, 1) := by decide +kernel
theorem dX21_parameter_72 : decode cX21_parameter 72 = .ok (.iload_n 2, 1) := by decide +kernel
theorem dX21_parameter_73 : decode cX21_parameter 73 = .ok (.ireturn, 1) := by decide +kernel
theorem dX21_block_0 : decode cX21_block 0 = .ok (.aload_n 0, 1) := by decide +kernel
theorem dX21_block_1 : decode cX21_block 1 = .ok (.bipush 20, 2) := by decide +kernel
theorem dX21_block_3 : decode cX21_block 3 = .ok (.aload_n 0, 1) := by decide +kernel
theorem dX21_block_4 : decode cX21_block 4 = .ok (.getfield 388, 3) := by decide +kernel
theorem dX21_block_7 : decode cX21_block 7 = .ok (.invokevirtual 434, 3) := by decide +kernel
theorem dX21_block_10 : decode cX21_block 10 = .ok (.istore_n 1, 1) := by decide +kernel
theorem dX21_block_11 : decode cX21_block 11 = .ok (.aload_n 0, 1) := by decide +kernel
theorem dX21_block_12 : decode cX21_block 12 = .ok (.ldc 89, 2) := by decide +kernel
theorem dX21_block_14 : decode cX21_block 14 = .ok (.invokevirtual 485, 3) := by decide +kernel
theorem dX21_block_17 : decode cX21_block 17 = .ok (.iconst (-1), 1) := by decide +kernel
theorem dX21_block_18 : decode cX21_block 18 = .ok (.istore_n 2, 1) := by decide +kernel
theorem dX21_block_19 : decode cX21_block 19 = .ok (.aload_n 0, 1) := by decide +kernel
theorem dX21_block_20 : decode cX21_block 20 = .ok (.ldc 91, 2) := by decide +kernel
theorem dX21_block_22 : decode cX21_block 22 = .ok (.invokevirtual 394, 3) := by decide +kernel
theorem dX21_block_25 : decode cX21_block 25 = .ok (.ifCond .ne 31, 3) := by decide +kernel
theorem dX21_block_28 : decode cX21_block 28 = .ok (.aload_n 0, 1) := by decide +kernel
theorem dX21_block_29 : decode cX21_block 29 = .ok (.invokevirtual 491, 3) := by decide +kernel
theorem dX21_block_32 : decode cX21_block 32 = .ok (.istore_n 3, 1) := by decide +kernel
theorem dX21_block_33 : decode cX21_block 33 = .ok (.aload_n 0, 1) := by decide +kernel
theorem dX21_block_34 : decode cX21_block 34 = .ok (.getfield 217, 3) := by decide +kernel
theorem dX21_block_37 : decode cX21_block 37 = .ok (.iload_n 1, 1) := by decide +kernel
theorem dX21_block_38 : decode cX21_block 38 = .ok (.aload_n 0, 1) := by decide +kernel
theorem dX21_block_39 : decode cX21_block 39 = .ok (.aload_n 0, 1) := by decide +kernel
theorem dX21_block_40 : decode cX21_block 40 = .ok (.getfield 217, 3) := by decide +kernel
theorem dX21_block_43 : decode cX21_block 43 = .ok (.iload_n 1, 1) := by decide +kernel
theorem dX21_block_44 : decode cX21_block 44 = .ok (.iaload, 1) := by decide +kernel
theorem dX21_block_45 : decode cX21_block 45 = .ok (.iload_n 2, 1) := by decide +kernel
theorem dX21_block_46 : decode cX21_block 46 = .ok (.iload_n 3, 1) := by decide +kernel
theorem dX21_block_47 : decode cX21_block 47 = .ok (.invokevirtual 494, 3) := by decide +kernel
theorem dX21_block_50 : decode cX21_block 50 = .ok (.iastore, 1) := by decide +kernel
theorem dX21_block_51 : decode cX21_block 51 = .ok (.iload_n 3, 1) := by decide +kernel
theorem dX21_block_52 : decode cX21_block 52 = .ok (.istore_n 2, 1) := by decide +kernel
theorem dX21_block_53 : decode cX21_block 53 = .ok (.goto (-34), 3) := by decide +kernel
theorem dX21_block_56 : decode cX21_block 56 = .ok (.aload_n 0, 1) := by decide +kernel
theorem dX21_block_57 : decode cX21_block 57 = .ok (.ldc 91, 2) := by decide +kernel
theorem dX21_block_59 : decode cX21_block 59 = .ok (.invokevirtual 467, 3) := by decide +kernel
theorem dX21_block_62 : decode cX21_block 62 = .ok (.iload_n 1, 1) := by decide +kernel
theorem dX21_block_63 : decode cX21_block 63 = .ok (.ireturn, 1) := by decide +kernel
theorem dX21_statement_0 : decode cX21_statement 0 = .ok (.aload_n 0, 1) := by decide +kernel
theorem dX21_statement_1 : decode cX21_statement 1 = .ok (.ldc 89, 2) := by decide +kernel
theorem dX21_statement_3 : decode cX21_statement 3 = .ok (.invokevirtual 394, 3) := by decide +kernel
theorem dX21_statement_6 : decode cX21_statement 6 = .ok (.ifCond .eq 8, 3) := by decide +kernel
theorem dX21_statement_9 : decode cX21_statement 9 = .ok (.aload_n 0, 1) := by decide +kernel
theorem dX21_statement_10 : decode cX21_statement 10 = .ok (.invokevirtual 498, 3) := by decide +kernel
theorem dX21_statement_13 : decode cX21_statement 13 = .ok (.ireturn, 1) := by decide +kernel
theorem dX21_statement_14 : decode cX21_statement 14 = .ok (.aload_n 0, 1) := by decide +kernel
theorem dX21_statement_15 : decode cX21_statement 15 = .ok (.ldc 99, 2) := by decide +kernel
theorem dX21_statement_17 : decode cX21_statement 17 = .ok (.invokevirtual 394, 3) := by decide +kernel
theorem dX21_statement_20 : decode cX21_statement 20 = .ok (.ifCond .eq 26, 3) := by decide +kernel
theorem dX21_statement_23 : decode cX21_statement 23 = .ok (.aload_n 0, 1) := by decide +kernel
theorem dX21_statement_24 : decode cX21_statement 24 = .ok (.dup, 1) := by decide +kernel
theorem dX21_statement_25 : decode cX21_statement 25 = .ok (.getfield 388, 3) := by decide +kernel
theorem dX21_statement_28 : decode cX21_statement 28 = .ok (.iconst 1, 1) := by decide +kernel
theorem dX21_statement_29 : decode cX21_statement 29 = .ok (.iadd, 1) := by decide +kernel
theorem dX21_statement_30 : decode cX21_statement 30 = .ok (.putfield 388, 3) := by decide +kernel
theorem dX21_statement_33 : decode cX21_statement 33 = .ok (.aload_n 0, 1) := by decide +kernel
theorem dX21_statement_34 : decode cX21_statement 34 = .ok (.bipush 21, 2) := by decide +kernel
theorem dX21_statement_36 : decode cX21_statement 36 = .ok (.aload_n 0, 1) := by decide +kernel
theorem dX21_statement_37 : decode cX21_statement 37 = .ok (.getfield 388, 3) := by decide +kernel
theorem dX21_statement_40 : decode cX21_statement 40 = .ok (.iconst 1, 1) := by decide +kernel
theorem dX21_statement_41 : decode cX21_statement 41 = .ok (.isub, 1) := by decide +kernel
theorem dX21_statement_42 : decode cX21_statement 42 = .ok (.invokevirtual 434, 3) := by decide +kernel
theorem dX21_statement_45 : decode cX21_statement 45 = .ok (.ireturn, 1) := by decide +kernel
theorem dX21_statement_46 : decode cX21_statement 46 = .ok (.aload_n 0, 1) := by decide +kernel
theorem dX21_statement_47 : decode cX21_statement 47 = .ok (.invokevirtual 501, 3) := by decide +kernel
theorem dX21_statement_50 : decode cX21_statement 50 = .ok (.ifCond .eq 8, 3) := by decide +kernel
theorem dX21_statement_53 : decode cX21_statement 53 = .ok (.aload_n 0, 1) := by decide +kernel
theorem dX21_statement_54 : decode cX21_statement 54 = .ok (.invokevirtual 504, 3) := by decide +kernel
theorem dX21_statement_57 : decode cX21_statement 57 = .ok (.ireturn, 1) := by decide +kernel
theorem dX21_statement_58 : decode cX21_statement 58 = .ok (.aload_n 0, 1) := by decide +kernel
theorem dX21_statement_59 : decode cX21_statement 59 = .ok (.getfield 202, 3) := by decide +kernel
theorem dX21_statement_62 : decode cX21_statement 62 = .ok (.aload_n 0, 1) := by decide +kernel
theorem dX21_statement_63 : decode cX21_statement 63 = .ok (.getfield 388, 3) := by decide +kernel
theorem dX21_statement_66 : decode cX21_statement 66 = .ok (.baload, 1) := by decide +kernel
theorem dX21_statement_67 : decode cX21_statement 67 = .ok (.iconst 2, 1) := by decide +kernel
theorem dX21_statement_68 : decode cX21_statement 68 = .ok (.if_icmp .ne 17, 3) := by decide +kernel
theorem dX21_statement_71 : decode cX21_statement 71 = .ok (.aload_n 0, 1) := by decide +kernel
theorem dX21_statement_72 : decode cX21_statement 72 = .ok (.aload_n 0, 1) := by decide +kernel
theorem dX21_statement_73 : decode cX21_statement 73 = .ok (.getfield 205, 3) := by decide +kernel
theorem dX21_statement_76 : decode cX21_statement 76 = .ok (.aload_n 0, 1) := by decide +kernel
theorem dX21_statement_77 : decode cX21_statement 77 = .ok (.getfield 388, 3) := by decide +kernel
theorem dX21_statement_80 : decode cX21_statement 80 = .ok (.iaload, 1) := by decide +kernel
theorem dX21_statement_81 : decode cX21_statement 81 = .ok (.invokevirtual 507, 3) := by decide +kernel
theorem dX21_statement_84 : decode cX21_statement 84 = .ok (.ireturn, 1) := by decide +kernel
theorem dX21_statement_85 : decode cX21_statement 85 = .ok (.aload_n 0, 1) := by decide +kernel
theorem dX21_statement_86 : decode cX21_statement 86 = .ok (.bipush 22, 2) := by decide +kernel
theorem dX21_statement_88 : decode cX21_statement 88 = .ok (.aload_n 0, 1) := by decide +kernel
theorem dX21_statement_89 : decode cX21_statement 89 = .ok (.getfield 388, 3) := by decide +kernel
theorem dX21_statement_92 : decode cX21_statement 92 = .ok (.invokevirtual 434, 3) := by decide +kernel
theorem dX21_statement_95 : decode cX21_statement 95 = .ok (.istore_n 1, 1) := by decide +kernel
theorem dX21_statement_96 : decode cX21_statement 96 = .ok (.aload_n 0, 1) := by decide +kernel
theorem dX21_statement_97 : decode cX21_statement 97 = .ok (.getfield 217, 3) := by decide +kernel
theorem dX21_statement_100 : decode cX21_statement 100 = .ok (.iload_n 1, 1) := by decide +kernel
theorem dX21_statement_101 : decode cX21_statement 101 = .ok (.aload_n 0, 1) := by decide +kernel
theorem dX21_statement_102 : decode cX21_statement 102 = .ok (.invokevirtual 431, 3) := by decide +kernel
theorem dX21_statement_105 : decode cX21_statement 105 = .ok (.iastore, 1) := by decide +kernel
theorem dX21_statement_106 : decode cX21_statement 106 = .ok (.aload_n 0, 1) := by decide +kernel
theorem dX21_statement_107 : decode cX21_statement 107 = .ok (.ldc 99, 2) := by decide +kernel
theorem dX21_statement_109 : decode cX21_statement 109 = .ok (.invokevirtual 414, 3) := by decide +kernel
theorem dX21_statement_112 : decode cX21_statement 112 = .ok (.iload_n 1, 1) := by decide +kernel
theorem dX21_statement_113 : decode cX21_statement 113 = .ok (.ireturn, 1) := by decide +kernel
theorem dX21_declaration_0 : decode cX21_declaration 0 = .ok (.aload_n 0, 1) := by decide +kernel
theorem dX21_declaration_1 : decode cX21_declaration 1 = .ok (.bipush 23, 2) := by decide +kernel
theorem dX21_declaration_3 : decode cX21_declaration 3 = .ok (.aload_n 0, 1) := by decide +kernel
theorem dX21_declaration_4 : decode cX21_declaration 4 = .ok (.getfield 388, 3) := by decide +kernel
theorem dX21_declaration_7 : decode cX21_declaration 7 = .ok (.invokevirtual 434, 3) := by decide +kernel
theorem dX21_declaration_10 : decode cX21_declaration 10 = .ok (.istore_n 1, 1) := by decide +kernel
theorem dX21_declaration_11 : decode cX21_declaration 11 = .ok (.aload_n 0, 1) := by decide +kernel
theorem dX21_declaration_12 : decode cX21_declaration 12 = .ok (.getfield 232, 3) := by decide +kernel
theorem dX21_declaration_15 : decode cX21_declaration 15 = .ok (.iload_n 1, 1) := by decide +kernel
theorem dX21_declaration_16 : decode cX21_declaration 16 = .ok (.aload_n 0, 1) := by decide +kernel
theorem dX21_declaration_17 : decode cX21_declaration 17 = .ok (.getfield 205, 3) := by decide +kernel
theorem dX21_declaration_20 : decode cX21_declaration 20 = .ok (.aload_n 0, 1) := by decide +kernel
theorem dX21_declaration_21 : decode cX21_declaration 21 = .ok (.getfield 388, 3) := by decide +kernel
theorem dX21_declaration_24 : decode cX21_declaration 24 = .ok (.iaload, 1) := by decide +kernel
theorem dX21_declaration_25 : decode cX21_declaration 25 = .ok (.iastore, 1) := by decide +kernel
theorem dX21_declaration_26 : decode cX21_declaration 26 = .ok (.aload_n 0, 1) := by decide +kernel
theorem dX21_declaration_27 : decode cX21_declaration 27 = .ok (.dup, 1) := by decide +kernel
theorem dX21_declaration_28 : decode cX21_declaration 28 = .ok (.getfield 388, 3) := by decide +kernel
theorem dX21_declaration_31 : decode cX21_declaration 31 = .ok (.iconst 1, 1) := by decide +kernel
theorem dX21_declaration_32 : decode cX21_declaration 32 = .ok (.iadd, 1) := by decide +kernel
theorem dX21_declaration_33 : decode cX21_declaration 33 = .ok (.putfield 388, 3) := by decide +kernel
theorem dX21_declaration_36 : decode cX21_declaration 36 = .ok (.aload_n 0, 1) := by decide +kernel
theorem dX21_declaration_37 : decode cX21_declaration 37 = .ok (.getfield 217, 3) := by decide +kernel
theorem dX21_declaration_40 : decode cX21_declaration 40 = .ok (.iload_n 1, 1) := by decide +kernel
theorem dX21_declaration_41 : decode cX21_declaration 41 = .ok (.aload_n 0, 1) := by decide +kernel
theorem dX21_declaration_42 : decode cX21_declaration 42 = .ok (.invokevirtual 488, 3) := by decide +kernel
theorem dX21_declaration_45 : decode cX21_declaration 45 = .ok (.iastore, 1) := by decide +kernel
theorem dX21_declaration_46 : decode cX21_declaration 46 = .ok (.aload_n 0, 1) := by decide +kernel
theorem dX21_declaration_47 : decode cX21_declaration 47 = .ok (.ldc 99, 2) := by decide +kernel
theorem dX21_declaration_49 : decode cX21_declaration 49 = .ok (.invokevirtual 414, 3) := by decide +kernel
theorem dX21_declaration_52 : decode cX21_declaration 52 = .ok (.iload_n 1, 1) := by decide +kernel
theorem dX21_declaration_53 : decode cX21_declaration 53 = .ok (.ireturn, 1) := by decide +kernel
theorem dX21_variables_0 : decode cX21_variables 0 = .ok (.aload_n 0, 1) := by decide +kernel
theorem dX21_variables_1 : decode cX21_variables 1 = .ok (.invokevirtual 476, 3) := by decide +kernel
theorem dX21_variables_4 : decode cX21_variables 4 = .ok (.istore_n 1, 1) := by decide +kernel
theorem dX21_variables_5 : decode cX21_variables 5 = .ok (.iload_n 1, 1) := by decide +kernel
theorem dX21_variables_6 : decode cX21_variables 6 = .ok (.istore_n 2, 1) := by decide +kernel
theorem dX21_variables_7 : decode cX21_variables 7 = .ok (.aload_n 0, 1) := by decide +kernel
theorem dX21_variables_8 : decode cX21_variables 8 = .ok (.ldc 97, 2) := by decide +kernel
theorem dX21_variables_10 : decode cX21_variables 10 = .ok (.invokevirtual 398, 3) := by decide +kernel
theorem dX21_variables_13 : decode cX21_variables 13 = .ok (.ifCond .eq 20, 3) := by decide +kernel
theorem dX21_variables_16 : decode cX21_variables 16 = .ok (.aload_n 0, 1) := by decide +kernel
theorem dX21_variables_17 : decode cX21_variables 17 = .ok (.invokevirtual 476, 3) := by decide +kernel
theorem dX21_variables_20 : decode cX21_variables 20 = .ok (.istore_n 3, 1) := by decide +kernel
theorem dX21_variables_21 : decode cX21_variables 21 = .ok (.aload_n 0, 1) := by decide +kernel
theorem dX21_variables_22 : decode cX21_variables 22 = .ok (.getfield 229, 3) := by decide +kernel
theorem dX21_variables_25 : decode cX21_variables 25 = .ok (.iload_n 2, 1) := by decide +kernel
theorem dX21_variables_26 : decode cX21_variables 26 = .ok (.iload_n 3, 1) := by decide +kernel
theorem dX21_variables_27 : decode cX21_variables 27 = .ok (.iastore, 1) := by decide +kernel
theorem dX21_variables_28 : decode cX21_variables 28 = .ok (.iload_n 3, 1) := by decide +kernel
theorem dX21_variables_29 : decode cX21_variables 29 = .ok (.istore_n 2, 1) := by decide +kernel
theorem dX21_variables_30 : decode cX21_variables 30 = .ok (.goto (-23), 3) := by decide +kernel
theorem dX21_variables_33 : decode cX21_variables 33 = .ok (.iload_n 1, 1) := by decide +kernel
theorem dX21_variables_34 : decode cX21_variables 34 = .ok (.ireturn, 1) := by decide +kernel
theorem dX21_variable_0 : decode cX21_variable 0 = .ok (.aload_n 0, 1) := by decide +kernel
theorem dX21_variable_1 : decode cX21_variable 1 = .ok (.bipush 40, 2) := by decide +kernel
theorem dX21_variable_3 : decode cX21_variable 3 = .ok (.aload_n 0, 1) := by decide +kernel
theorem dX21_variable_4 : decode cX21_variable 4 = .ok (.invokevirtual 470, 3) := by decide +kernel
theorem dX21_variable_7 : decode cX21_variable 7 = .ok (.invokevirtual 434, 3) := by decide +kernel
theorem dX21_variable_10 : decode cX21_variable 10 = .ok (.istore_n 1, 1) := by decide +kernel
theorem dX21_variable_11 : decode cX21_variable 11 = .ok (.aload_n 0, 1) := by decide +kernel
theorem dX21_variable_12 : decode cX21_variable 12 = .ok (.getfield 232, 3) := by decide +kernel
theorem dX21_variable_15 : decode cX21_variable 15 = .ok (.iload_n 1, 1) := by decide +kernel
theorem dX21_variable_16 : decode cX21_variable 16 = .ok (.iconst 0, 1) := by decide +kernel
theorem dX21_variable_17 : decode cX21_variable 17 = .ok (.iastore, 1) := by decide +kernel
theorem dX21_variable_18 : decode cX21_variable 18 = .ok (.aload_n 0, 1) := by decide +kernel
theorem dX21_variable_19 : decode cX21_variable 19 = .ok (.ldc 93, 2) := by decide +kernel
theorem dX21_variable_21 : decode cX21_variable 21 = .ok (.invokevirtual 394, 3) := by decide +kernel
theorem dX21_variable_24 : decode cX21_variable 24 = .ok (.ifCond .eq 40, 3) := by decide +kernel
theorem dX21_variable_27 : decode cX21_variable 27 = .ok (.aload_n 0, 1) := by decide +kernel
theorem dX21_variable_28 : decode cX21_variable 28 = .ok (.invokevirtual 411, 3) := by decide +kernel
theorem dX21_variable_31 : decode cX21_variable 31 = .ok (.aload_n 0, 1) := by decide +kernel
theorem dX21_variable_32 : decode cX21_variable 32 = .ok (.getfield 217, 3) := by decide +kernel
theorem dX21_variable_35 : decode cX21_variable 35 = .ok (.iload_n 1, 1) := by decide +kernel
theorem dX21_variable_36 : decode cX21_variable 36 = .ok (.aload_n 0, 1) := by decide +kernel
theorem dX21_variable_37 : decode cX21_variable 37 = .ok (.invokevirtual 479, 3) := by decide +kernel
theorem dX21_variable_40 : decode cX21_variable 40 = .ok (.iastore, 1) := by decide +kernel
theorem dX21_variable_41 : decode cX21_variable 41 = .ok (.aload_n 0, 1) := by decide +kernel
theorem dX21_variable_42 : decode cX21_variable 42 = .ok (.ldc 95, 2) := by decide +kernel
theorem dX21_variable_44 : decode cX21_variable 44 = .ok (.invokevirtual 467, 3) := by decide +kernel
theorem dX21_variable_47 : decode cX21_variable 47 = .ok (.aload_n 0, 1) := by decide +kernel
theorem dX21_variable_48 : decode cX21_variable 48 = .ok (.ldc 105, 2) := by decide +kernel
theorem dX21_variable_50 : decode cX21_variable 50 = .ok (.invokevirtual 398, 3) := by decide +kernel
theorem dX21_variable_53 : decode cX21_variable 53 = .ok (.ifCond .eq 37, 3) := by decide +kernel
theorem dX21_variable_56 : decode cX21_variable 56 = .ok (.aload_n 0, 1) := by decide +kernel
theorem dX21_variable_57 : decode cX21_variable 57 = .ok (.iload_n 1, 1) := by decide +kernel
theorem dX21_variable_58 : decode cX21_variable 58 = .ok (.invokevirtual 482, 3) := by decide +kernel
theorem dX21_variable_61 : decode cX21_variable 61 = .ok (.goto 29, 3) := by decide +kernel
theorem dX21_variable_64 : decode cX21_variable 64 = .ok (.aload_n 0, 1) := by decide +kernel
theorem dX21_variable_65 : decode cX21_variable 65 = .ok (.ldc 105, 2) := by decide +kernel
theorem dX21_variable_67 : decode cX21_variable 67 = .ok (.invokevirtual 398, 3) := by decide +kernel
theorem dX21_variable_70 : decode cX21_variable 70 = .ok (.ifCond .eq 20, 3) := by decide +kernel
theorem dX21_variable_73 : decode cX21_variable 73 = .ok (.aload_n 0, 1) := by decide +kernel
theorem dX21_variable_74 : decode cX21_variable 74 = .ok (.getfield 232, 3) := by decide +kernel
theorem dX21_variable_77 : decode cX21_variable 77 = .ok (.iload_n 1, 1) := by decide +kernel
theorem dX21_variable_78 : decode cX21_variable 78 = .ok (.iconst 1, 1) := by decide +kernel
theorem dX21_variable_79 : decode cX21_variable 79 = .ok (.iastore, 1) := by decide +kernel
theorem dX21_variable_80 : decode cX21_variable 80 = .ok (.aload_n 0, 1) := by decide +kernel
theorem dX21_variable_81 : decode cX21_variable 81 = .ok (.getfield 220, 3) := by decide +kernel
theorem dX21_variable_84 : decode cX21_variable 84 = .ok (.iload_n 1, 1) := by decide +kernel
theorem dX21_variable_85 : decode cX21_variable 85 = .ok (.aload_n 0, 1) := by decide +kernel
theorem dX21_variable_86 : decode cX21_variable 86 = .ok (.invokevirtual 431, 3) := by decide +kernel
theorem dX21_variable_89 : decode cX21_variable 89 = .ok (.iastore, 1) := by decide +kernel
theorem dX21_variable_90 : decode cX21_variable 90 = .ok (.iload_n 1, 1) := by decide +kernel
theorem dX21_variable_91 : decode cX21_variable 91 = .ok (.ireturn, 1) := by decide +kernel
theorem dX21_arrayValue_0 : decode cX21_arrayValue 0 = .ok (.aload_n 0, 1) := by decide +kernel
theorem dX21_arrayValue_1 : decode cX21_arrayValue 1 = .ok (.getfield 223, 3) := by decide +kernel
theorem dX21_arrayValue_4 : decode cX21_arrayValue 4 = .ok (.iload_n 1, 1) := by decide +kernel
theorem dX21_arrayValue_5 : decode cX21_arrayValue 5 = .ok (.aload_n 0, 1) := by decide +kernel
theorem dX21_arrayValue_6 : decode cX21_arrayValue 6 = .ok (.getfield 388, 3) := by decide +kernel
theorem dX21_arrayValue_9 : decode cX21_arrayValue 9 = .ok (.iastore, 1) := by decide +kernel
theorem dX21_arrayValue_10 : decode cX21_arrayValue 10 = .ok (.aload_n 0, 1) := by decide +kernel
theorem dX21_arrayValue_11 : decode cX21_arrayValue 11 = .ok (.getfield 202, 3) := by decide +kernel
theorem dX21_arrayValue_14 : decode cX21_arrayValue 14 = .ok (.aload_n 0, 1) := by decide +kernel
theorem dX21_arrayValue_15 : decode cX21_arrayValue 15 = .ok (.getfield 388, 3) := by decide +kernel
theorem dX21_arrayValue_18 : decode cX21_arrayValue 18 = .ok (.baload, 1) := by decide +kernel
theorem dX21_arrayValue_19 : decode cX21_arrayValue 19 = .ok (.iconst 4, 1) := by decide +kernel
theorem dX21_arrayValue_20 : decode cX21_arrayValue 20 = .ok (.if_icmp .ne 21, 3) := by decide +kernel
theorem dX21_arrayValue_23 : decode cX21_arrayValue 23 = .ok (.aload_n 0, 1) := by decide +kernel
theorem dX21_arrayValue_24 : decode cX21_arrayValue 24 = .ok (.getfield 232, 3) := by decide +kernel
theorem dX21_arrayValue_27 : decode cX21_arrayValue 27 = .ok (.iload_n 1, 1) := by decide +kernel
theorem dX21_arrayValue_28 : decode cX21_arrayValue 28 = .ok (.iconst 3, 1) := by decide +kernel
theorem dX21_arrayValue_29 : decode cX21_arrayValue 29 = .ok (.iastore, 1) := by decide +kernel
theorem dX21_arrayValue_30 : decode cX21_arrayValue 30 = .ok (.aload_n 0, 1) := by decide +kernel
theorem dX21_arrayValue_31 : decode cX21_arrayValue 31 = .ok (.dup, 1) := by decide +kernel
theorem dX21_arrayValue_32 : decode cX21_arrayValue 32 = .ok (.getfield 388, 3) := by decide +kernel
theorem dX21_arrayValue_35 : decode cX21_arrayValue 35 = .ok (.iconst 1, 1) := by decide +kernel
theorem dX21_arrayValue_36 : decode cX21_arrayValue 36 = .ok (.iadd, 1) := by decide +kernel
theorem dX21_arrayValue_37 : decode cX21_arrayValue 37 = .ok (.putfield 388, 3) := by decide +kernel
theorem dX21_arrayValue_40 : decode cX21_arrayValue 40 = .ok (.return_, 1) := by decide +kernel
theorem dX21_arrayValue_41 : decode cX21_arrayValue 41 = .ok (.aload_n 0, 1) := by decide +kernel
theorem dX21_arrayValue_42 : decode cX21_arrayValue 42 = .ok (.getfield 232, 3) := by decide +kernel
theorem dX21_arrayValue_45 : decode cX21_arrayValue 45 = .ok (.iload_n 1, 1) := by decide +kernel
theorem dX21_arrayValue_46 : decode cX21_arrayValue 46 = .ok (.iconst 2, 1) := by decide +kernel
theorem dX21_arrayValue_47 : decode cX21_arrayValue 47 = .ok (.iastore, 1) := by decide +kernel
theorem dX21_arrayValue_48 : decode cX21_arrayValue 48 = .ok (.aload_n 0, 1) := by decide +kernel
theorem dX21_arrayValue_49 : decode cX21_arrayValue 49 = .ok (.ldc 89, 2) := by decide +kernel
theorem dX21_arrayValue_51 : decode cX21_arrayValue 51 = .ok (.invokevirtual 485, 3) := by decide +kernel
theorem dX21_arrayValue_54 : decode cX21_arrayValue 54 = .ok (.aload_n 0, 1) := by decide +kernel
theorem dX21_arrayValue_55 : decode cX21_arrayValue 55 = .ok (.invokevirtual 479, 3) := by decide +kernel
theorem dX21_arrayValue_58 : decode cX21_arrayValue 58 = .ok (.istore_n 2, 1) := by decide +kernel
theorem dX21_arrayValue_59 : decode cX21_arrayValue 59 = .ok (.aload_n 0, 1) := by decide +kernel
theorem dX21_arrayValue_60 : decode cX21_arrayValue 60 = .ok (.getfield 220, 3) := by decide +kernel
theorem dX21_arrayValue_63 : decode cX21_arrayValue 63 = .ok (.iload_n 1, 1) := by decide +kernel
theorem dX21_arrayValue_64 : decode cX21_arrayValue 64 = .ok (.iload_n 2, 1) := by decide +kernel
theorem dX21_arrayValue_65 : decode cX21_arrayValue 65 = .ok (.iastore, 1) := by decide +kernel
theorem dX21_arrayValue_66 : decode cX21_arrayValue 66 = .ok (.aload_n 0, 1) := by decide +kernel
theorem dX21_arrayValue_67 : decode cX21_arrayValue 67 = .ok (.ldc 97, 2) := by decide +kernel
theorem dX21_arrayValue_69 : decode cX21_arrayValue 69 = .ok (.invokevirtual 398, 3) := by decide +kernel
theorem dX21_arrayValue_72 : decode cX21_arrayValue 72 = .ok (.ifCond .eq 20, 3) := by decide +kernel
theorem dX21_arrayValue_75 : decode cX21_arrayValue 75 = .ok (.aload_n 0, 1) := by decide +kernel
theorem dX21_arrayValue_76 : decode cX21_arrayValue 76 = .ok (.invokevirtual 479, 3) := by decide +kernel
theorem dX21_arrayValue_79 : decode cX21_arrayValue 79 = .ok (.istore_n 3, 1) := by decide +kernel
theorem dX21_arrayValue_80 : decode cX21_arrayValue 80 = .ok (.aload_n 0, 1) := by decide +kernel
theorem dX21_arrayValue_81 : decode cX21_arrayValue 81 = .ok (.getfield 229, 3) := by decide +kernel
theorem dX21_arrayValue_84 : decode cX21_arrayValue 84 = .ok (.iload_n 2, 1) := by decide +kernel
theorem dX21_arrayValue_85 : decode cX21_arrayValue 85 = .ok (.iload_n 3, 1) := by decide +kernel
theorem dX21_arrayValue_86 : decode cX21_arrayValue 86 = .ok (.iastore, 1) := by decide +kernel
theorem dX21_arrayValue_87 : decode cX21_arrayValue 87 = .ok (.iload_n 3, 1) := by decide +kernel
theorem dX21_arrayValue_88 : decode cX21_arrayValue 88 = .ok (.istore_n 2, 1) := by decide +kernel
theorem dX21_arrayValue_89 : decode cX21_arrayValue 89 = .ok (.goto (-23), 3) := by decide +kernel
theorem dX21_arrayValue_92 : decode cX21_arrayValue 92 = .ok (.aload_n 0, 1) := by decide +kernel
theorem dX21_arrayValue_93 : decode cX21_arrayValue 93 = .ok (.ldc 91, 2) := by decide +kernel
theorem dX21_arrayValue_95 : decode cX21_arrayValue 95 = .ok (.invokevirtual 467, 3) := by decide +kernel
theorem dX21_arrayValue_98 : decode cX21_arrayValue 98 = .ok (.return_, 1) := by decide +kernel
theorem dX21_byKey_0 : decode cX21_byKey 0 = .ok (.iload_n 1, 1) := by decide +kernel
theorem dX21_byKey_1 : decode cX21_byKey 1 = .ok (.tableswitch 168 4 14 #[59, 168, 59, 65, 70, 75, 168, 168, 80, 80, 120], 59) := by decide +kernel
theorem dX21_byKey_60 : decode cX21_byKey 60 = .ok (.aload_n 0, 1) := by decide +kernel
theorem dX21_byKey_61 : decode cX21_byKey 61 = .ok (.iload_n 1, 1) := by decide +kernel
theorem dX21_byKey_62 : decode cX21_byKey 62 = .ok (.invokevirtual 510, 3) := by decide +kernel
theorem dX21_byKey_65 : decode cX21_byKey 65 = .ok (.ireturn, 1) := by decide +kernel
theorem dX21_byKey_66 : decode cX21_byKey 66 = .ok (.aload_n 0, 1) := by decide +kernel
theorem dX21_byKey_67 : decode cX21_byKey 67 = .ok (.invokevirtual 513, 3) := by decide +kernel
theorem dX21_byKey_70 : decode cX21_byKey 70 = .ok (.ireturn, 1) := by decide +kernel
theorem dX21_byKey_71 : decode cX21_byKey 71 = .ok (.aload_n 0, 1) := by decide +kernel
theorem dX21_byKey_72 : decode cX21_byKey 72 = .ok (.invokevirtual 516, 3) := by decide +kernel
theorem dX21_byKey_75 : decode cX21_byKey 75 = .ok (.ireturn, 1) := by decide +kernel
theorem dX21_byKey_76 : decode cX21_byKey 76 = .ok (.aload_n 0, 1) := by decide +kernel
theorem dX21_byKey_77 : decode cX21_byKey 77 = .ok (.invokevirtual 519, 3) := by decide +kernel
theorem dX21_byKey_80 : decode cX21_byKey 80 = .ok (.ireturn, 1) := by decide +kernel
theorem dX21_byKey_81 : decode cX21_byKey 81 = .ok (.aload_n 0, 1) := by decide +kernel
theorem dX21_byKey_82 : decode cX21_byKey 82 = .ok (.dup, 1) := by decide +kernel
theorem dX21_byKey_83 : decode cX21_byKey 83 = .ok (.getfield 388, 3) := by decide +kernel
theorem dX21_byKey_86 : decode cX21_byKey 86 = .ok (.iconst 1, 1) := by decide +kernel
theorem dX21_byKey_87 : decode cX21_byKey 87 = .ok (.iadd, 1) := by decide +kernel
theorem dX21_byKey_88 : decode cX21_byKey 88 = .ok (.putfield 388, 3) := by decide +kernel
theorem dX21_byKey_91 : decode cX21_byKey 91 = .ok (.aload_n 0, 1) := by decide +kernel
theorem dX21_byKey_92 : decode cX21_byKey 92 = .ok (.ldc 99, 2) := by decide +kernel
theorem dX21_byKey_94 : decode cX21_byKey 94 = .ok (.invokevirtual 414, 3) := by decide +kernel
theorem dX21_byKey_97 : decode cX21_byKey 97 = .ok (.aload_n 0, 1) := by decide +kernel
theorem dX21_byKey_98 : decode cX21_byKey 98 = .ok (.iload_n 1, 1) := by decide +kernel
theorem dX21_byKey_99 : decode cX21_byKey 99 = .ok (.bipush 12, 2) := by decide +kernel
theorem dX21_byKey_101 : decode cX21_byKey 101 = .ok (.if_icmp .ne 8, 3) := by decide +kernel
theorem dX21_byKey_104 : decode cX21_byKey 104 = .ok (.bipush 31, 2) := by decide +kernel
theorem dX21_byKey_106 : decode cX21_byKey 106 = .ok (.goto 5, 3) := by decide +kernel
theorem dX21_byKey_109 : decode cX21_byKey 109 = .ok (.bipush 32, 2) := by decide +kernel
theorem dX21_byKey_111 : decode cX21_byKey 111 = .ok (.aload_n 0, 1) := by decide +kernel
theorem dX21_byKey_112 : decode cX21_byKey 112 = .ok (.getfield 388, 3) := by decide +kernel
theorem dX21_byKey_115 : decode cX21_byKey 115 = .ok (.iconst 2, 1) := by decide +kernel
theorem dX21_byKey_116 : decode cX21_byKey 116 = .ok (.isub, 1) := by decide +kernel
theorem dX21_byKey_117 : decode cX21_byKey 117 = .ok (.invokevirtual 434, 3) := by decide +kernel
theorem dX21_byKey_120 : decode cX21_byKey 120 = .ok (.ireturn, 1) := by decide +kernel
theorem dX21_byKey_121 : decode cX21_byKey 121 = .ok (.aload_n 0, 1) := by decide +kernel
theorem dX21_byKey_122 : decode cX21_byKey 122 = .ok (.bipush 33, 2) := by decide +kernel
theorem dX21_byKey_124 : decode cX21_byKey 124 = .ok (.aload_n 0, 1) := by decide +kernel
theorem dX21_byKey_125 : decode cX21_byKey 125 = .ok (.getfield 388, 3) := by decide +kernel
theorem dX21_byKey_128 : decode cX21_byKey 128 = .ok (.invokevirtual 434, 3) := by decide +kernel
theorem dX21_byKey_131 : decode cX21_byKey 131 = .ok (.istore_n 2, 1) := by decide +kernel
theorem dX21_byKey_132 : decode cX21_byKey 132 = .ok (.aload_n 0, 1) := by decide +kernel
theorem dX21_byKey_133 : decode cX21_byKey 133 = .ok (.dup, 1) := by decide +kernel
theorem dX21_byKey_134 : decode cX21_byKey 134 = .ok (.getfield 388, 3) := by decide +kernel
theorem dX21_byKey_137 : decode cX21_byKey 137 = .ok (.iconst 1, 1) := by decide +kernel
theorem dX21_byKey_138 : decode cX21_byKey 138 = .ok (.iadd, 1) := by decide +kernel
theorem dX21_byKey_139 : decode cX21_byKey 139 = .ok (.putfield 388, 3) := by decide +kernel
theorem dX21_byKey_142 : decode cX21_byKey 142 = .ok (.aload_n 0, 1) := by decide +kernel
theorem dX21_byKey_143 : decode cX21_byKey 143 = .ok (.ldc 99, 2) := by decide +kernel
theorem dX21_byKey_145 : decode cX21_byKey 145 = .ok (.invokevirtual 394, 3) := by decide +kernel
theorem dX21_byKey_148 : decode cX21_byKey 148 = .ok (.ifCond .ne 13, 3) := by decide +kernel
theorem dX21_byKey_151 : decode cX21_byKey 151 = .ok (.aload_n 0, 1) := by decide +kernel
theorem dX21_byKey_152 : decode cX21_byKey 152 = .ok (.getfield 217, 3) := by decide +kernel
theorem dX21_byKey_155 : decode cX21_byKey 155 = .ok (.iload_n 2, 1) := by decide +kernel
theorem dX21_byKey_156 : decode cX21_byKey 156 = .ok (.aload_n 0, 1) := by decide +kernel
theorem dX21_byKey_157 : decode cX21_byKey 157 = .ok (.invokevirtual 431, 3) := by decide +kernel
theorem dX21_byKey_160 : decode cX21_byKey 160 = .ok (.iastore, 1) := by decide +kernel
theorem dX21_byKey_161 : decode cX21_byKey 161 = .ok (.aload_n 0, 1) := by decide +kernel
theorem dX21_byKey_162 : decode cX21_byKey 162 = .ok (.ldc 99, 2) := by decide +kernel
theorem dX21_byKey_164 : decode cX21_byKey 164 = .ok (.invokevirtual 414, 3) := by decide +kernel
theorem dX21_byKey_167 : decode cX21_byKey 167 = .ok (.iload_n 2, 1) := by decide +kernel
theorem dX21_byKey_168 : decode cX21_byKey 168 = .ok (.ireturn, 1) := by decide +kernel
theorem dX21_byKey_169 : decode cX21_byKey 169 = .ok (.aload_n 0, 1) := by decide +kernel
theorem dX21_byKey_170 : decode cX21_byKey 170 = .ok (.iconst 0, 1) := by decide +kernel
theorem dX21_byKey_171 : decode cX21_byKey 171 = .ok (.invokevirtual 401, 3) := by decide +kernel
theorem dX21_byKey_174 : decode cX21_byKey 174 = .ok (.iconst (-1), 1) := by decide +kernel
theorem dX21_byKey_175 : decode cX21_byKey 175 = .ok (.ireturn, 1) := by decide +kernel
theorem dX21_conditioned_0 : decode cX21_conditioned 0 = .ok (.aload_n 0, 1) := by decide +kernel
theorem dX21_conditioned_1 : decode cX21_conditioned 1 = .ok (.iload_n 1, 1) := by decide +kernel
theorem dX21_conditioned_2 : decode cX21_conditioned 2 = .ok (.iconst 4, 1) := by decide +kernel
theorem dX21_conditioned_3 : decode cX21_conditioned 3 = .ok (.if_icmp .ne 8, 3) := by decide +kernel
theorem dX21_conditioned_6 : decode cX21_conditioned 6 = .ok (.bipush 24, 2) := by decide +kernel
theorem dX21_conditioned_8 : decode cX21_conditioned 8 = .ok (.goto 5, 3) := by decide +kernel
theorem dX21_conditioned_11 : decode cX21_conditioned 11 = .ok (.bipush 25, 2) := by decide +kernel
theorem dX21_conditioned_13 : decode cX21_conditioned 13 = .ok (.aload_n 0, 1) := by decide +kernel
theorem dX21_conditioned_14 : decode cX21_conditioned 14 = .ok (.getfield 388, 3) := by decide +kernel
theorem dX21_conditioned_17 : decode cX21_conditioned 17 = .ok (.invokevirtual 434, 3) := by decide +kernel
theorem dX21_conditioned_20 : decode cX21_conditioned 20 = .ok (.istore_n 2, 1) := by decide +kernel
theorem dX21_conditioned_21 : decode cX21_conditioned 21 = .ok (.aload_n 0, 1) := by decide +kernel
theorem dX21_conditioned_22 : decode cX21_conditioned 22 = .ok (.invokevirtual 411, 3) := by decide +kernel
theorem dX21_conditioned_25 : decode cX21_conditioned 25 = .ok (.aload_n 0, 1) := by decide +kernel
theorem dX21_conditioned_26 : decode cX21_conditioned 26 = .ok (.getfield 217, 3) := by decide +kernel
theorem dX21_conditioned_29 : decode cX21_conditioned 29 = .ok (.iload_n 2, 1) := by decide +kernel
theorem dX21_conditioned_30 : decode cX21_conditioned 30 = .ok (.aload_n 0, 1) := by decide +kernel
theorem dX21_conditioned_31 : decode cX21_conditioned 31 = .ok (.invokevirtual 522, 3) := by decide +kernel
theorem dX21_conditioned_34 : decode cX21_conditioned 34 = .ok (.iastore, 1) := by decide +kernel
theorem dX21_conditioned_35 : decode cX21_conditioned 35 = .ok (.aload_n 0, 1) := by decide +kernel
theorem dX21_conditioned_36 : decode cX21_conditioned 36 = .ok (.getfield 220, 3) := by decide +kernel
theorem dX21_conditioned_39 : decode cX21_conditioned 39 = .ok (.iload_n 2, 1) := by decide +kernel
theorem dX21_conditioned_40 : decode cX21_conditioned 40 = .ok (.aload_n 0, 1) := by decide +kernel
theorem dX21_conditioned_41 : decode cX21_conditioned 41 = .ok (.invokevirtual 491, 3) := by decide +kernel
theorem dX21_conditioned_44 : decode cX21_conditioned 44 = .ok (.iastore, 1) := by decide +kernel
theorem dX21_conditioned_45 : decode cX21_conditioned 45 = .ok (.iload_n 1, 1) := by decide +kernel
theorem dX21_conditioned_46 : decode cX21_conditioned 46 = .ok (.iconst 4, 1) := by decide +kernel
theorem dX21_conditioned_47 : decode cX21_conditioned 47 = .ok (.if_icmp .ne 21, 3) := by decide +kernel
theorem dX21_conditioned_50 : decode cX21_conditioned 50 = .ok (.aload_n 0, 1) := by decide +kernel
theorem dX21_conditioned_51 : decode cX21_conditioned 51 = .ok (.iconst 5, 1) := by decide +kernel
theorem dX21_conditioned_52 : decode cX21_conditioned 52 = .ok (.invokevirtual 525, 3) := by decide +kernel
theorem dX21_conditioned_55 : decode cX21_conditioned 55 = .ok (.ifCond .eq 13, 3) := by decide +kernel
theorem dX21_conditioned_58 : decode cX21_conditioned 58 = .ok (.aload_n 0, 1) := by decide +kernel
theorem dX21_conditioned_59 : decode cX21_conditioned 59 = .ok (.getfield 223, 3) := by decide +kernel
theorem dX21_conditioned_62 : decode cX21_conditioned 62 = .ok (.iload_n 2, 1) := by decide +kernel
theorem dX21_conditioned_63 : decode cX21_conditioned 63 = .ok (.aload_n 0, 1) := by decide +kernel
theorem dX21_conditioned_64 : decode cX21_conditioned 64 = .ok (.invokevirtual 491, 3) := by decide +kernel
theorem dX21_conditioned_67 : decode cX21_conditioned 67 = .ok (.iastore, 1) := by decide +kernel
theorem dX21_conditioned_68 : decode cX21_conditioned 68 = .ok (.aload_n 0, 1) := by decide +kernel
theorem dX21_conditioned_69 : decode cX21_conditioned 69 = .ok (.dup, 1) := by decide +kernel
theorem dX21_conditioned_70 : decode cX21_conditioned 70 = .ok (.getfield 408, 3) := by decide +kernel
theorem dX21_conditioned_73 : decode cX21_conditioned 73 = .ok (.iconst 1, 1) := by decide +kernel
theorem dX21_conditioned_74 : decode cX21_conditioned 74 = .ok (.isub, 1) := by decide +kernel
theorem dX21_conditioned_75 : decode cX21_conditioned 75 = .ok (.putfield 408, 3) := by decide +kernel
theorem dX21_conditioned_78 : decode cX21_conditioned 78 = .ok (.iload_n 2, 1) := by decide +kernel
theorem dX21_conditioned_79 : decode cX21_conditioned 79 = .ok (.ireturn, 1) := by decide +kernel
theorem dX21_inParentheses_0 : decode cX21_inParentheses 0 = .ok (.aload_n 0, 1) := by decide +kernel
theorem dX21_inParentheses_1 : decode cX21_inParentheses 1 = .ok (.ldc 85, 2) := by decide +kernel
theorem dX21_inParentheses_3 : decode cX21_inParentheses 3 = .ok (.invokevirtual 485, 3) := by decide +kernel
theorem dX21_inParentheses_6 : decode cX21_inParentheses 6 = .ok (.aload_n 0, 1) := by decide +kernel
theorem dX21_inParentheses_7 : decode cX21_inParentheses 7 = .ok (.invokevirtual 431, 3) := by decide +kernel
theorem dX21_inParentheses_10 : decode cX21_inParentheses 10 = .ok (.istore_n 1, 1) := by decide +kernel
theorem dX21_inParentheses_11 : decode cX21_inParentheses 11 = .ok (.aload_n 0, 1) := by decide +kernel
theorem dX21_inParentheses_12 : decode cX21_inParentheses 12 = .ok (.ldc 87, 2) := by decide +kernel
theorem dX21_inParentheses_14 : decode cX21_inParentheses 14 = .ok (.invokevirtual 467, 3) := by decide +kernel
theorem dX21_inParentheses_17 : decode cX21_inParentheses 17 = .ok (.iload_n 1, 1) := by decide +kernel
theorem dX21_inParentheses_18 : decode cX21_inParentheses 18 = .ok (.ireturn, 1) := by decide +kernel
theorem dX21_takesKey_0 : decode cX21_takesKey 0 = .ok (.aload_n 0, 1) := by decide +kernel
theorem dX21_takesKey_1 : decode cX21_takesKey 1 = .ok (.iload_n 1, 1) := by decide +kernel
theorem dX21_takesKey_2 : decode cX21_takesKey 2 = .ok (.invokevirtual 405, 3) := by decide +kernel
theorem dX21_takesKey_5 : decode cX21_takesKey 5 = .ok (.istore_n 2, 1) := by decide +kernel
theorem dX21_takesKey_6 : decode cX21_takesKey 6 = .ok (.aload_n 0, 1) := by decide +kernel
theorem dX21_takesKey_7 : decode cX21_takesKey 7 = .ok (.iload_n 2, 1) := by decide +kernel
theorem dX21_takesKey_8 : decode cX21_takesKey 8 = .ok (.ifCond .eq 12, 3) := by decide +kernel
theorem dX21_takesKey_11 : decode cX21_takesKey 11 = .ok (.aload_n 0, 1) := by decide +kernel
theorem dX21_takesKey_12 : decode cX21_takesKey 12 = .ok (.getfield 388, 3) := by decide +kernel
theorem dX21_takesKey_15 : decode cX21_takesKey 15 = .ok (.iconst 1, 1) := by decide +kernel
theorem dX21_takesKey_16 : decode cX21_takesKey 16 = .ok (.iadd, 1) := by decide +kernel
theorem dX21_takesKey_17 : decode cX21_takesKey 17 = .ok (.goto 7, 3) := by decide +kernel
theorem dX21_takesKey_20 : decode cX21_takesKey 20 = .ok (.aload_n 0, 1) := by decide +kernel
theorem dX21_takesKey_21 : decode cX21_takesKey 21 = .ok (.getfield 388, 3) := by decide +kernel
theorem dX21_takesKey_24 : decode cX21_takesKey 24 = .ok (.putfield 388, 3) := by decide +kernel
theorem dX21_takesKey_27 : decode cX21_takesKey 27 = .ok (.iload_n 2, 1) := by decide +kernel
theorem dX21_takesKey_28 : decode cX21_takesKey 28 = .ok (.ireturn, 1) := by decide +kernel
theorem dX21_doing_0 : decode cX21_doing 0 = .ok (.aload_n 0, 1) := by decide +kernel
theorem dX21_doing_1 : decode cX21_doing 1 = .ok (.bipush 26, 2) := by decide +kernel
theorem dX21_doing_3 : decode cX21_doing 3 = .ok (.aload_n 0, 1) := by decide +kernel
theorem dX21_doing_4 : decode cX21_doing 4 = .ok (.getfield 388, 3) := by decide +kernel
theorem dX21_doing_7 : decode cX21_doing 7 = .ok (.invokevirtual 434, 3) := by decide +kernel
theorem dX21_doing_10 : decode cX21_doing 10 = .ok (.istore_n 1, 1) := by decide +kernel
theorem dX21_doing_11 : decode cX21_doing 11 = .ok (.aload_n 0, 1) := by decide +kernel
theorem dX21_doing_12 : decode cX21_doing 12 = .ok (.invokevirtual 411, 3) := by decide +kernel
theorem dX21_doing_15 : decode cX21_doing 15 = .ok (.aload_n 0, 1) := by decide +kernel
theorem dX21_doing_16 : decode cX21_doing 16 = .ok (.getfield 220, 3) := by decide +kernel
theorem dX21_doing_19 : decode cX21_doing 19 = .ok (.iload_n 1, 1) := by decide +kernel
theorem dX21_doing_20 : decode cX21_doing 20 = .ok (.aload_n 0, 1) := by decide +kernel
theorem dX21_doing_21 : decode cX21_doing 21 = .ok (.invokevirtual 491, 3) := by decide +kernel
theorem dX21_doing_24 : decode cX21_doing 24 = .ok (.iastore, 1) := by decide +kernel
theorem dX21_doing_25 : decode cX21_doing 25 = .ok (.aload_n 0, 1) := by decide +kernel
theorem dX21_doing_26 : decode cX21_doing 26 = .ok (.aload_n 0, 1) := by decide +kernel
theorem dX21_doing_27 : decode cX21_doing 27 = .ok (.bipush 6, 2) := by decide +kernel
theorem dX21_doing_29 : decode cX21_doing 29 = .ok (.invokevirtual 525, 3) := by decide +kernel
theorem dX21_doing_32 : decode cX21_doing 32 = .ok (.invokevirtual 401, 3) := by decide +kernel
theorem dX21_doing_35 : decode cX21_doing 35 = .ok (.aload_n 0, 1) := by decide +kernel
theorem dX21_doing_36 : decode cX21_doing 36 = .ok (.getfield 217, 3) := by decide +kernel
theorem dX21_doing_39 : decode cX21_doing 39 = .ok (.iload_n 1, 1) := by decide +kernel
theorem dX21_doing_40 : decode cX21_doing 40 = .ok (.aload_n 0, 1) := by decide +kernel
theorem dX21_doing_41 : decode cX21_doing 41 = .ok (.invokevirtual 522, 3) := by decide +kernel
theorem dX21_doing_44 : decode cX21_doing 44 = .ok (.iastore, 1) := by decide +kernel
theorem dX21_doing_45 : decode cX21_doing 45 = .ok (.aload_n 0, 1) := by decide +kernel
theorem dX21_doing_46 : decode cX21_doing 46 = .ok (.ldc 99, 2) := by decide +kernel
theorem dX21_doing_48 : decode cX21_doing 48 = .ok (.invokevirtual 414, 3) := by decide +kernel
theorem dX21_doing_51 : decode cX21_doing 51 = .ok (.aload_n 0, 1) := by decide +kernel
theorem dX21_doing_52 : decode cX21_doing 52 = .ok (.dup, 1) := by decide +kernel
theorem dX21_doing_53 : decode cX21_doing 53 = .ok (.getfield 408, 3) := by decide +kernel
theorem dX21_doing_56 : decode cX21_doing 56 = .ok (.iconst 1, 1) := by decide +kernel
theorem dX21_doing_57 : decode cX21_doing 57 = .ok (.isub, 1) := by decide +kernel
theorem dX21_doing_58 : decode cX21_doing 58 = .ok (.putfield 408, 3) := by decide +kernel
theorem dX21_doing_61 : decode cX21_doing 61 = .ok (.iload_n 1, 1) := by decide +kernel
theorem dX21_doing_62 : decode cX21_doing 62 = .ok (.ireturn, 1) := by decide +kernel
theorem dX21_forLoop_0 : decode cX21_forLoop 0 = .ok (.aload_n 0, 1) := by decide +kernel
theorem dX21_forLoop_1 : decode cX21_forLoop 1 = .ok (.bipush 27, 2) := by decide +kernel
theorem dX21_forLoop_3 : decode cX21_forLoop 3 = .ok (.aload_n 0, 1) := by decide +kernel
theorem dX21_forLoop_4 : decode cX21_forLoop 4 = .ok (.getfield 388, 3) := by decide +kernel
theorem dX21_forLoop_7 : decode cX21_forLoop 7 = .ok (.invokevirtual 434, 3) := by decide +kernel
theorem dX21_forLoop_10 : decode cX21_forLoop 10 = .ok (.istore_n 1, 1) := by decide +kernel
theorem dX21_forLoop_11 : decode cX21_forLoop 11 = .ok (.aload_n 0, 1) := by decide +kernel
theorem dX21_forLoop_12 : decode cX21_forLoop 12 = .ok (.invokevirtual 411, 3) := by decide +kernel
theorem dX21_forLoop_15 : decode cX21_forLoop 15 = .ok (.aload_n 0, 1) := by decide +kernel
theorem dX21_forLoop_16 : decode cX21_forLoop 16 = .ok (.ldc 85, 2) := by decide +kernel
theorem dX21_forLoop_18 : decode cX21_forLoop 18 = .ok (.invokevirtual 485, 3) := by decide +kernel
theorem dX21_forLoop_21 : decode cX21_forLoop 21 = .ok (.aload_n 0, 1) := by decide +kernel
theorem dX21_forLoop_22 : decode cX21_forLoop 22 = .ok (.invokevirtual 501, 3) := by decide +kernel
theorem dX21_forLoop_25 : decode cX21_forLoop 25 = .ok (.ifCond .eq 16, 3) := by decide +kernel
theorem dX21_forLoop_28 : decode cX21_forLoop 28 = .ok (.aload_n 0, 1) := by decide +kernel
theorem dX21_forLoop_29 : decode cX21_forLoop 29 = .ok (.getfield 217, 3) := by decide +kernel
theorem dX21_forLoop_32 : decode cX21_forLoop 32 = .ok (.iload_n 1, 1) := by decide +kernel
theorem dX21_forLoop_33 : decode cX21_forLoop 33 = .ok (.aload_n 0, 1) := by decide +kernel
theorem dX21_forLoop_34 : decode cX21_forLoop 34 = .ok (.invokevirtual 504, 3) := by decide +kernel
theorem dX21_forLoop_37 : decode cX21_forLoop 37 = .ok (.iastore, 1) := by decide +kernel
theorem dX21_forLoop_38 : decode cX21_forLoop 38 = .ok (.goto 46, 3) := by decide +kernel
theorem dX21_forLoop_41 : decode cX21_forLoop 41 = .ok (.aload_n 0, 1) := by decide +kernel
theorem dX21_forLoop_42 : decode cX21_forLoop 42 = .ok (.ldc 99, 2) := by decide +kernel
theorem dX21_forLoop_44 : decode cX21_forLoop 44 = .ok (.invokevirtual 398, 3) := by decide +kernel
theorem dX21_forLoop_47 : decode cX21_forLoop 47 = .ok (.ifCond .ne 37, 3) := by decide +kernel
theorem dX21_forLoop_50 : decode cX21_forLoop 50 = .ok (.aload_n 0, 1) := by decide +kernel
theorem dX21_forLoop_51 : decode cX21_forLoop 51 = .ok (.bipush 22, 2) := by decide +kernel
theorem dX21_forLoop_53 : decode cX21_forLoop 53 = .ok (.aload_n 0, 1) := by decide +kernel
theorem dX21_forLoop_54 : decode cX21_forLoop 54 = .ok (.getfield 388, 3) := by decide +kernel
theorem dX21_forLoop_57 : decode cX21_forLoop 57 = .ok (.invokevirtual 434, 3) := by decide +kernel
theorem dX21_forLoop_60 : decode cX21_forLoop 60 = .ok (.istore_n 2, 1) := by decide +kernel
theorem dX21_forLoop_61 : decode cX21_forLoop 61 = .ok (.aload_n 0, 1) := by decide +kernel
theorem dX21_forLoop_62 : decode cX21_forLoop 62 = .ok (.getfield 217, 3) := by decide +kernel
theorem dX21_forLoop_65 : decode cX21_forLoop 65 = .ok (.iload_n 2, 1) := by decide +kernel
theorem dX21_forLoop_66 : decode cX21_forLoop 66 = .ok (.aload_n 0, 1) := by decide +kernel
theorem dX21_forLoop_67 : decode cX21_forLoop 67 = .ok (.invokevirtual 431, 3) := by decide +kernel
theorem dX21_forLoop_70 : decode cX21_forLoop 70 = .ok (.iastore, 1) := by decide +kernel
theorem dX21_forLoop_71 : decode cX21_forLoop 71 = .ok (.aload_n 0, 1) := by decide +kernel
theorem dX21_forLoop_72 : decode cX21_forLoop 72 = .ok (.getfield 217, 3) := by decide +kernel
theorem dX21_forLoop_75 : decode cX21_forLoop 75 = .ok (.iload_n 1, 1) := by decide +kernel
theorem dX21_forLoop_76 : decode cX21_forLoop 76 = .ok (.iload_n 2, 1) := by decide +kernel
theorem dX21_forLoop_77 : decode cX21_forLoop 77 = .ok (.iastore, 1) := by decide +kernel
theorem dX21_forLoop_78 : decode cX21_forLoop 78 = .ok (.aload_n 0, 1) := by decide +kernel
theorem dX21_forLoop_79 : decode cX21_forLoop 79 = .ok (.ldc 99, 2) := by decide +kernel
theorem dX21_forLoop_81 : decode cX21_forLoop 81 = .ok (.invokevirtual 414, 3) := by decide +kernel
theorem dX21_forLoop_84 : decode cX21_forLoop 84 = .ok (.aload_n 0, 1) := by decide +kernel
theorem dX21_forLoop_85 : decode cX21_forLoop 85 = .ok (.ldc 99, 2) := by decide +kernel
theorem dX21_forLoop_87 : decode cX21_forLoop 87 = .ok (.invokevirtual 394, 3) := by decide +kernel
theorem dX21_forLoop_90 : decode cX21_forLoop 90 = .ok (.ifCond .ne 13, 3) := by decide +kernel
theorem dX21_forLoop_93 : decode cX21_forLoop 93 = .ok (.aload_n 0, 1) := by decide +kernel
theorem dX21_forLoop_94 : decode cX21_forLoop 94 = .ok (.getfield 220, 3) := by decide +kernel
theorem dX21_forLoop_97 : decode cX21_forLoop 97 = .ok (.iload_n 1, 1) := by decide +kernel
theorem dX21_forLoop_98 : decode cX21_forLoop 98 = .ok (.aload_n 0, 1) := by decide +kernel
theorem dX21_forLoop_99 : decode cX21_forLoop 99 = .ok (.invokevirtual 431, 3) := by decide +kernel
theorem dX21_forLoop_102 : decode cX21_forLoop 102 = .ok (.iastore, 1) := by decide +kernel
theorem dX21_forLoop_103 : decode cX21_forLoop 103 = .ok (.aload_n 0, 1) := by decide +kernel
theorem dX21_forLoop_104 : decode cX21_forLoop 104 = .ok (.ldc 99, 2) := by decide +kernel
theorem dX21_forLoop_106 : decode cX21_forLoop 106 = .ok (.invokevirtual 414, 3) := by decide +kernel
theorem dX21_forLoop_109 : decode cX21_forLoop 109 = .ok (.aload_n 0, 1) := by decide +kernel
theorem dX21_forLoop_110 : decode cX21_forLoop 110 = .ok (.ldc 87, 2) := by decide +kernel
theorem dX21_forLoop_112 : decode cX21_forLoop 112 = .ok (.invokevirtual 394, 3) := by decide +kernel
theorem dX21_forLoop_115 : decode cX21_forLoop 115 = .ok (.ifCond .ne 13, 3) := by decide +kernel
theorem dX21_forLoop_118 : decode cX21_forLoop 118 = .ok (.aload_n 0, 1) := by decide +kernel
theorem dX21_forLoop_119 : decode cX21_forLoop 119 = .ok (.getfield 223, 3) := by decide +kernel
theorem dX21_forLoop_122 : decode cX21_forLoop 122 = .ok (.iload_n 1, 1) := by decide +kernel
theorem dX21_forLoop_123 : decode cX21_forLoop 123 = .ok (.aload_n 0, 1) := by decide +kernel
theorem dX21_forLoop_124 : decode cX21_forLoop 124 = .ok (.invokevirtual 431, 3) := by decide +kernel
theorem dX21_forLoop_127 : decode cX21_forLoop 127 = .ok (.iastore, 1) := by decide +kernel
theorem dX21_forLoop_128 : decode cX21_forLoop 128 = .ok (.aload_n 0, 1) := by decide +kernel
theorem dX21_forLoop_129 : decode cX21_forLoop 129 = .ok (.ldc 87, 2) := by decide +kernel
theorem dX21_forLoop_131 : decode cX21_forLoop 131 = .ok (.invokevirtual 467, 3) := by decide +kernel
theorem dX21_forLoop_134 : decode cX21_forLoop 134 = .ok (.aload_n 0, 1) := by decide +kernel
theorem dX21_forLoop_135 : decode cX21_forLoop 135 = .ok (.getfield 226, 3) := by decide +kernel
theorem dX21_forLoop_138 : decode cX21_forLoop 138 = .ok (.iload_n 1, 1) := by decide +kernel
theorem dX21_forLoop_139 : decode cX21_forLoop 139 = .ok (.aload_n 0, 1) := by decide +kernel
theorem dX21_forLoop_140 : decode cX21_forLoop 140 = .ok (.invokevirtual 491, 3) := by decide +kernel
theorem dX21_forLoop_143 : decode cX21_forLoop 143 = .ok (.iastore, 1) := by decide +kernel
theorem dX21_forLoop_144 : decode cX21_forLoop 144 = .ok (.aload_n 0, 1) := by decide +kernel
theorem dX21_forLoop_145 : decode cX21_forLoop 145 = .ok (.dup, 1) := by decide +kernel
theorem dX21_forLoop_146 : decode cX21_forLoop 146 = .ok (.getfield 408, 3) := by decide +kernel
theorem dX21_forLoop_149 : decode cX21_forLoop 149 = .ok (.iconst 1, 1) := by decide +kernel
theorem dX21_forLoop_150 : decode cX21_forLoop 150 = .ok (.isub, 1) := by decide +kernel
theorem dX21_forLoop_151 : decode cX21_forLoop 151 = .ok (.putfield 408, 3) := by decide +kernel
theorem dX21_forLoop_154 : decode cX21_forLoop 154 = .ok (.iload_n 1, 1) := by decide +kernel
theorem dX21_forLoop_155 : decode cX21_forLoop 155 = .ok (.ireturn, 1) := by decide +kernel
theorem dX21_switching_0 : decode cX21_switching 0 = .ok (.aload_n 0, 1) := by decide +kernel
theorem dX21_switching_1 : decode cX21_switching 1 = .ok (.bipush 28, 2) := by decide +kernel
theorem dX21_switching_3 : decode cX21_switching 3 = .ok (.aload_n 0, 1) := by decide +kernel
theorem dX21_switching_4 : decode cX21_switching 4 = .ok (.getfield 388, 3) := by decide +kernel
theorem dX21_switching_7 : decode cX21_switching 7 = .ok (.invokevirtual 434, 3) := by decide +kernel
theorem dX21_switching_10 : decode cX21_switching 10 = .ok (.istore_n 1, 1) := by decide +kernel
theorem dX21_switching_11 : decode cX21_switching 11 = .ok (.aload_n 0, 1) := by decide +kernel
theorem dX21_switching_12 : decode cX21_switching 12 = .ok (.invokevirtual 411, 3) := by decide +kernel
theorem dX21_switching_15 : decode cX21_switching 15 = .ok (.aload_n 0, 1) := by decide +kernel
theorem dX21_switching_16 : decode cX21_switching 16 = .ok (.getfield 217, 3) := by decide +kernel
theorem dX21_switching_19 : decode cX21_switching 19 = .ok (.iload_n 1, 1) := by decide +kernel
theorem dX21_switching_20 : decode cX21_switching 20 = .ok (.aload_n 0, 1) := by decide +kernel
theorem dX21_switching_21 : decode cX21_switching 21 = .ok (.invokevirtual 522, 3) := by decide +kernel
theorem dX21_switching_24 : decode cX21_switching 24 = .ok (.iastore, 1) := by decide +kernel
theorem dX21_switching_25 : decode cX21_switching 25 = .ok (.aload_n 0, 1) := by decide +kernel
theorem dX21_switching_26 : decode cX21_switching 26 = .ok (.ldc 89, 2) := by decide +kernel
theorem dX21_switching_28 : decode cX21_switching 28 = .ok (.invokevirtual 485, 3) := by decide +kernel
theorem dX21_switching_31 : decode cX21_switching 31 = .ok (.iconst (-1), 1) := by decide +kernel
theorem dX21_switching_32 : decode cX21_switching 32 = .ok (.istore_n 2, 1) := by decide +kernel
theorem dX21_switching_33 : decode cX21_switching 33 = .ok (.aload_n 0, 1) := by decide +kernel
theorem dX21_switching_34 : decode cX21_switching 34 = .ok (.ldc 91, 2) := by decide +kernel
theorem dX21_switching_36 : decode cX21_switching 36 = .ok (.invokevirtual 394, 3) := by decide +kernel
theorem dX21_switching_39 : decode cX21_switching 39 = .ok (.ifCond .ne 134, 3) := by decide +kernel
theorem dX21_switching_42 : decode cX21_switching 42 = .ok (.iconst (-1), 1) := by decide +kernel
theorem dX21_switching_43 : decode cX21_switching 43 = .ok (.istore_n 3, 1) := by decide +kernel
theorem dX21_switching_44 : decode cX21_switching 44 = .ok (.aload_n 0, 1) := by decide +kernel
theorem dX21_switching_45 : decode cX21_switching 45 = .ok (.bipush 10, 2) := by decide +kernel
theorem dX21_switching_47 : decode cX21_switching 47 = .ok (.invokevirtual 405, 3) := by decide +kernel
theorem dX21_switching_50 : decode cX21_switching 50 = .ok (.ifCond .eq 43, 3) := by decide +kernel
theorem dX21_switching_53 : decode cX21_switching 53 = .ok (.aload_n 0, 1) := by decide +kernel
theorem dX21_switching_54 : decode cX21_switching 54 = .ok (.bipush 29, 2) := by decide +kernel
theorem dX21_switching_56 : decode cX21_switching 56 = .ok (.aload_n 0, 1) := by decide +kernel
theorem dX21_switching_57 : decode cX21_switching 57 = .ok (.getfield 388, 3) := by decide +kernel
theorem dX21_switching_60 : decode cX21_switching 60 = .ok (.invokevirtual 434, 3) := by decide +kernel
theorem dX21_switching_63 : decode cX21_switching 63 = .ok (.istore_n 3, 1) := by decide +kernel
theorem dX21_switching_64 : decode cX21_switching 64 = .ok (.aload_n 0, 1) := by decide +kernel
theorem dX21_switching_65 : decode cX21_switching 65 = .ok (.dup, 1) := by decide +kernel
theorem dX21_switching_66 : decode cX21_switching 66 = .ok (.getfield 388, 3) := by decide +kernel
theorem dX21_switching_69 : decode cX21_switching 69 = .ok (.iconst 1, 1) := by decide +kernel
theorem dX21_switching_70 : decode cX21_switching 70 = .ok (.iadd, 1) := by decide +kernel
theorem dX21_switching_71 : decode cX21_switching 71 = .ok (.putfield 388, 3) := by decide +kernel
theorem dX21_switching_74 : decode cX21_switching 74 = .ok (.aload_n 0, 1) := by decide +kernel
theorem dX21_switching_75 : decode cX21_switching 75 = .ok (.getfield 217, 3) := by decide +kernel
theorem dX21_switching_78 : decode cX21_switching 78 = .ok (.iload_n 3, 1) := by decide +kernel
theorem dX21_switching_79 : decode cX21_switching 79 = .ok (.aload_n 0, 1) := by decide +kernel
theorem dX21_switching_80 : decode cX21_switching 80 = .ok (.invokevirtual 479, 3) := by decide +kernel
theorem dX21_switching_83 : decode cX21_switching 83 = .ok (.iastore, 1) := by decide +kernel
theorem dX21_switching_84 : decode cX21_switching 84 = .ok (.aload_n 0, 1) := by decide +kernel
theorem dX21_switching_85 : decode cX21_switching 85 = .ok (.ldc 101, 2) := by decide +kernel
theorem dX21_switching_87 : decode cX21_switching 87 = .ok (.invokevirtual 414, 3) := by decide +kernel
theorem dX21_switching_90 : decode cX21_switching 90 = .ok (.goto 60, 3) := by decide +kernel
theorem dX21_switching_93 : decode cX21_switching 93 = .ok (.aload_n 0, 1) := by decide +kernel
theorem dX21_switching_94 : decode cX21_switching 94 = .ok (.bipush 11, 2) := by decide +kernel
theorem dX21_switching_96 : decode cX21_switching 96 = .ok (.invokevirtual 405, 3) := by decide +kernel
theorem dX21_switching_99 : decode cX21_switching 99 = .ok (.ifCond .eq 33, 3) := by decide +kernel
theorem dX21_switching_102 : decode cX21_switching 102 = .ok (.aload_n 0, 1) := by decide +kernel
theorem dX21_switching_103 : decode cX21_switching 103 = .ok (.bipush 30, 2) := by decide +kernel
theorem dX21_switching_105 : decode cX21_switching 105 = .ok (.aload_n 0, 1) := by decide +kernel
theorem dX21_switching_106 : decode cX21_switching 106 = .ok (.getfield 388, 3) := by decide +kernel
theorem dX21_switching_109 : decode cX21_switching 109 = .ok (.invokevirtual 434, 3) := by decide +kernel
theorem dX21_switching_112 : decode cX21_switching 112 = .ok (.istore_n 3, 1) := by decide +kernel
theorem dX21_switching_113 : decode cX21_switching 113 = .ok (.aload_n 0, 1) := by decide +kernel
theorem dX21_switching_114 : decode cX21_switching 114 = .ok (.dup, 1) := by decide +kernel
theorem dX21_switching_115 : decode cX21_switching 115 = .ok (.getfield 388, 3) := by decide +kernel
theorem dX21_switching_118 : decode cX21_switching 118 = .ok (.iconst 1, 1) := by decide +kernel
theorem dX21_switching_119 : decode cX21_switching 119 = .ok (.iadd, 1) := by decide +kernel
theorem dX21_switching_120 : decode cX21_switching 120 = .ok (.putfield 388, 3) := by decide +kernel
theorem dX21_switching_123 : decode cX21_switching 123 = .ok (.aload_n 0, 1) := by decide +kernel
theorem dX21_switching_124 : decode cX21_switching 124 = .ok (.ldc 101, 2) := by decide +kernel
theorem dX21_switching_126 : decode cX21_switching 126 = .ok (.invokevirtual 414, 3) := by decide +kernel
theorem dX21_switching_129 : decode cX21_switching 129 = .ok (.goto 21, 3) := by decide +kernel
theorem dX21_switching_132 : decode cX21_switching 132 = .ok (.aload_n 0, 1) := by decide +kernel
theorem dX21_switching_133 : decode cX21_switching 133 = .ok (.iload_n 2, 1) := by decide +kernel
theorem dX21_switching_134 : decode cX21_switching 134 = .ok (.ifCond .lt 7, 3) := by decide +kernel
theorem dX21_switching_137 : decode cX21_switching 137 = .ok (.iconst 1, 1) := by decide +kernel
theorem dX21_switching_138 : decode cX21_switching 138 = .ok (.goto 4, 3) := by decide +kernel
theorem dX21_switching_141 : decode cX21_switching 141 = .ok (.iconst 0, 1) := by decide +kernel
theorem dX21_switching_142 : decode cX21_switching 142 = .ok (.invokevirtual 401, 3) := by decide +kernel
theorem dX21_switching_145 : decode cX21_switching 145 = .ok (.aload_n 0, 1) := by decide +kernel
theorem dX21_switching_146 : decode cX21_switching 146 = .ok (.invokevirtual 491, 3) := by decide +kernel
theorem dX21_switching_149 : decode cX21_switching 149 = .ok (.istore_n 3, 1) := by decide +kernel
theorem dX21_switching_150 : decode cX21_switching 150 = .ok (.aload_n 0, 1) := by decide +kernel
theorem dX21_switching_151 : decode cX21_switching 151 = .ok (.getfield 220, 3) := by decide +kernel
theorem dX21_switching_154 : decode cX21_switching 154 = .ok (.iload_n 1, 1) := by decide +kernel
theorem dX21_switching_155 : decode cX21_switching 155 = .ok (.aload_n 0, 1) := by decide +kernel
theorem dX21_switching_156 : decode cX21_switching 156 = .ok (.aload_n 0, 1) := by decide +kernel
theorem dX21_switching_157 : decode cX21_switching 157 = .ok (.getfield 220, 3) := by decide +kernel
theorem dX21_switching_160 : decode cX21_switching 160 = .ok (.iload_n 1, 1) := by decide +kernel
theorem dX21_switching_161 : decode cX21_switching 161 = .ok (.iaload, 1) := by decide +kernel
theorem dX21_switching_162 : decode cX21_switching 162 = .ok (.iload_n 2, 1) := by decide +kernel
theorem dX21_switching_163 : decode cX21_switching 163 = .ok (.iload_n 3, 1) := by decide +kernel
theorem dX21_switching_164 : decode cX21_switching 164 = .ok (.invokevirtual 494, 3) := by decide +kernel
theorem dX21_switching_167 : decode cX21_switching 167 = .ok (.iastore, 1) := by decide +kernel
theorem dX21_switching_168 : decode cX21_switching 168 = .ok (.iload_n 3, 1) := by decide +kernel
theorem dX21_switching_169 : decode cX21_switching 169 = .ok (.istore_n 2, 1) := by decide +kernel
theorem dX21_switching_170 : decode cX21_switching 170 = .ok (.goto (-137), 3) := by decide +kernel
theorem dX21_switching_173 : decode cX21_switching 173 = .ok (.aload_n 0, 1) := by decide +kernel
theorem dX21_switching_174 : decode cX21_switching 174 = .ok (.ldc 91, 2) := by decide +kernel
theorem dX21_switching_176 : decode cX21_switching 176 = .ok (.invokevirtual 467, 3) := by decide +kernel
theorem dX21_switching_179 : decode cX21_switching 179 = .ok (.aload_n 0, 1) := by decide +kernel
theorem dX21_switching_180 : decode cX21_switching 180 = .ok (.dup, 1) := by decide +kernel
theorem dX21_switching_181 : decode cX21_switching 181 = .ok (.getfield 408, 3) := by decide +kernel
theorem dX21_switching_184 : decode cX21_switching 184 = .ok (.iconst 1, 1) := by decide +kernel
theorem dX21_switching_185 : decode cX21_switching 185 = .ok (.isub, 1) := by decide +kernel
theorem dX21_switching_186 : decode cX21_switching 186 = .ok (.putfield 408, 3) := by decide +kernel
theorem dX21_switching_189 : decode cX21_switching 189 = .ok (.iload_n 1, 1) := by decide +kernel
theorem dX21_switching_190 : decode cX21_switching 190 = .ok (.ireturn, 1) := by decide +kernel
theorem dX21_checkText_0 : decode cX21_checkText 0 = .ok (.aload_n 0, 1) := by decide +kernel
theorem dX21_checkText_1 : decode cX21_checkText 1 = .ok (.iconst 0, 1) := by decide +kernel
theorem dX21_checkText_2 : decode cX21_checkText 2 = .ok (.putfield 563, 3) := by decide +kernel
theorem dX21_checkText_5 : decode cX21_checkText 5 = .ok (.aload_n 0, 1) := by decide +kernel
theorem dX21_checkText_6 : decode cX21_checkText 6 = .ok (.getfield 528, 3) := by decide +kernel
theorem dX21_checkText_9 : decode cX21_checkText 9 = .ok (.istore_n 1, 1) := by decide +kernel
theorem dX21_checkText_10 : decode cX21_checkText 10 = .ok (.iload_n 1, 1) := by decide +kernel
theorem dX21_checkText_11 : decode cX21_checkText 11 = .ok (.ifCond .lt 44, 3) := by decide +kernel
theorem dX21_checkText_14 : decode cX21_checkText 14 = .ok (.aload_n 0, 1) := by decide +kernel
theorem dX21_checkText_15 : decode cX21_checkText 15 = .ok (.getfield 208, 3) := by decide +kernel
theorem dX21_checkText_18 : decode cX21_checkText 18 = .ok (.iload_n 1, 1) := by decide +kernel
theorem dX21_checkText_19 : decode cX21_checkText 19 = .ok (.baload, 1) := by decide +kernel
theorem dX21_checkText_20 : decode cX21_checkText 20 = .ok (.bipush 41, 2) := by decide +kernel
theorem dX21_checkText_22 : decode cX21_checkText 22 = .ok (.if_icmp .ne 23, 3) := by decide +kernel
theorem dX21_checkText_25 : decode cX21_checkText 25 = .ok (.aload_n 0, 1) := by decide +kernel
theorem dX21_checkText_26 : decode cX21_checkText 26 = .ok (.getfield 256, 3) := by decide +kernel
theorem dX21_checkText_29 : decode cX21_checkText 29 = .ok (.aload_n 0, 1) := by decide +kernel
theorem dX21_checkText_30 : decode cX21_checkText 30 = .ok (.getfield 563, 3) := by decide +kernel
theorem dX21_checkText_33 : decode cX21_checkText 33 = .ok (.iload_n 1, 1) := by decide +kernel
theorem dX21_checkText_34 : decode cX21_checkText 34 = .ok (.iastore, 1) := by decide +kernel
theorem dX21_checkText_35 : decode cX21_checkText 35 = .ok (.aload_n 0, 1) := by decide +kernel
theorem dX21_checkText_36 : decode cX21_checkText 36 = .ok (.dup, 1) := by decide +kernel
theorem dX21_checkText_37 : decode cX21_checkText 37 = .ok (.getfield 563, 3) := by decide +kernel
theorem dX21_checkText_40 : decode cX21_checkText 40 = .ok (.iconst 1, 1) := by decide +kernel
theorem dX21_checkText_41 : decode cX21_checkText 41 = .ok (.iadd, 1) := by decide +kernel
theorem dX21_checkText_42 : decode cX21_checkText 42 = .ok (.putfield 563, 3) := by decide +kernel
theorem dX21_checkText_45 : decode cX21_checkText 45 = .ok (.aload_n 0, 1) := by decide +kernel
theorem dX21_checkText_46 : decode cX21_checkText 46 = .ok (.getfield 229, 3) := by decide +kernel
theorem dX21_checkText_49 : decode cX21_checkText 49 = .ok (.iload_n 1, 1) := by decide +kernel
theorem dX21_checkText_50 : decode cX21_checkText 50 = .ok (.iaload, 1) := by decide +kernel
theorem dX21_checkText_51 : decode cX21_checkText 51 = .ok (.istore_n 1, 1) := by decide +kernel
theorem dX21_checkText_52 : decode cX21_checkText 52 = .ok (.goto (-42), 3) := by decide +kernel
theorem dX21_checkText_55 : decode cX21_checkText 55 = .ok (.aload_n 0, 1) := by decide +kernel
theorem dX21_checkText_56 : decode cX21_checkText 56 = .ok (.iconst 0, 1) := by decide +kernel
theorem dX21_checkText_57 : decode cX21_checkText 57 = .ok (.putfield 556, 3) := by decide +kernel
theorem dX21_checkText_60 : decode cX21_checkText 60 = .ok (.aload_n 0, 1) := by decide +kernel
theorem dX21_checkText_61 : decode cX21_checkText 61 = .ok (.iconst 0, 1) := by decide +kernel
theorem dX21_checkText_62 : decode cX21_checkText 62 = .ok (.putfield 588, 3) := by decide +kernel
theorem dX21_checkText_65 : decode cX21_checkText 65 = .ok (.aload_n 0, 1) := by decide +kernel
theorem dX21_checkText_66 : decode cX21_checkText 66 = .ok (.iconst 0, 1) := by decide +kernel
theorem dX21_checkText_67 : decode cX21_checkText 67 = .ok (.putfield 698, 3) := by decide +kernel
theorem dX21_checkText_70 : decode cX21_checkText 70 = .ok (.aload_n 0, 1) := by decide +kernel
theorem dX21_checkText_71 : decode cX21_checkText 71 = .ok (.iconst 0, 1) := by decide +kernel
theorem dX21_checkText_72 : decode cX21_checkText 72 = .ok (.putfield 701, 3) := by decide +kernel
theorem dX21_checkText_75 : decode cX21_checkText 75 = .ok (.aload_n 0, 1) := by decide +kernel
theorem dX21_checkText_76 : decode cX21_checkText 76 = .ok (.iconst (-1), 1) := by decide +kernel
theorem dX21_checkText_77 : decode cX21_checkText 77 = .ok (.putfield 582, 3) := by decide +kernel
theorem dX21_checkText_80 : decode cX21_checkText 80 = .ok (.iconst 0, 1) := by decide +kernel
theorem dX21_checkText_81 : decode cX21_checkText 81 = .ok (.istore_n 1, 1) := by decide +kernel
theorem dX21_checkText_82 : decode cX21_checkText 82 = .ok (.aload_n 0, 1) := by decide +kernel
theorem dX21_checkText_83 : decode cX21_checkText 83 = .ok (.iconst 0, 1) := by decide +kernel
theorem dX21_checkText_84 : decode cX21_checkText 84 = .ok (.putfield 579, 3) := by decide +kernel
theorem dX21_checkText_87 : decode cX21_checkText 87 = .ok (.aload_n 0, 1) := by decide +kernel
theorem dX21_checkText_88 : decode cX21_checkText 88 = .ok (.iconst 0, 1) := by decide +kernel
theorem dX21_checkText_89 : decode cX21_checkText 89 = .ok (.putfield 721, 3) := by decide +kernel
theorem dX21_checkText_92 : decode cX21_checkText 92 = .ok (.aload_n 0, 1) := by decide +kernel
theorem dX21_checkText_93 : decode cX21_checkText 93 = .ok (.iconst 0, 1) := by decide +kernel
theorem dX21_checkText_94 : decode cX21_checkText 94 = .ok (.putfield 724, 3) := by decide +kernel
theorem dX21_checkText_97 : decode cX21_checkText 97 = .ok (.aload_n 0, 1) := by decide +kernel
theorem dX21_checkText_98 : decode cX21_checkText 98 = .ok (.getfield 528, 3) := by decide +kernel
theorem dX21_checkText_101 : decode cX21_checkText 101 = .ok (.istore_n 2, 1) := by decide +kernel
theorem dX21_checkText_102 : decode cX21_checkText 102 = .ok (.iload_n 2, 1) := by decide +kernel
theorem dX21_checkText_103 : decode cX21_checkText 103 = .ok (.ifCond .lt 94, 3) := by decide +kernel
theorem dX21_checkText_106 : decode cX21_checkText 106 = .ok (.aload_n 0, 1) := by decide +kernel
theorem dX21_checkText_107 : decode cX21_checkText 107 = .ok (.getfield 208, 3) := by decide +kernel
theorem dX21_checkText_110 : decode cX21_checkText 110 = .ok (.iload_n 2, 1) := by decide +kernel
theorem dX21_checkText_111 : decode cX21_checkText 111 = .ok (.baload, 1) := by decide +kernel
theorem dX21_checkText_112 : decode cX21_checkText 112 = .ok (.bipush 41, 2) := by decide +kernel
theorem dX21_checkText_114 : decode cX21_checkText 114 = .ok (.if_icmp .ne 14, 3) := by decide +kernel
theorem dX21_checkText_117 : decode cX21_checkText 117 = .ok (.aload_n 0, 1) := by decide +kernel
theorem dX21_checkText_118 : decode cX21_checkText 118 = .ok (.iload_n 1, 1) := by decide +kernel
theorem dX21_checkText_119 : decode cX21_checkText 119 = .ok (.invokevirtual 727, 3) := by decide +kernel
theorem dX21_checkText_122 : decode cX21_checkText 122 = .ok (.iinc 1 1, 3) := by decide +kernel
theorem dX21_checkText_125 : decode cX21_checkText 125 = .ok (.goto 62, 3) := by decide +kernel
theorem dX21_checkText_128 : decode cX21_checkText 128 = .ok (.aload_n 0, 1) := by decide +kernel
theorem dX21_checkText_129 : decode cX21_checkText 129 = .ok (.getfield 208, 3) := by decide +kernel
theorem dX21_checkText_132 : decode cX21_checkText 132 = .ok (.iload_n 2, 1) := by decide +kernel
theorem dX21_checkText_133 : decode cX21_checkText 133 = .ok (.baload, 1) := by decide +kernel
theorem dX21_checkText_134 : decode cX21_checkText 134 = .ok (.bipush 43, 2) := by decide +kernel
theorem dX21_checkText_136 : decode cX21_checkText 136 = .ok (.if_icmp .ne 11, 3) := by decide +kernel
theorem dX21_checkText_139 : decode cX21_checkText 139 = .ok (.aload_n 0, 1) := by decide +kernel
theorem dX21_checkText_140 : decode cX21_checkText 140 = .ok (.iload_n 2, 1) := by decide +kernel
theorem dX21_checkText_141 : decode cX21_checkText 141 = .ok (.invokevirtual 730, 3) := by decide +kernel
theorem dX21_checkText_144 : decode cX21_checkText 144 = .ok (.goto 43, 3) := by decide +kernel
theorem dX21_checkText_147 : decode cX21_checkText 147 = .ok (.aload_n 0, 1) := by decide +kernel
theorem dX21_checkText_148 : decode cX21_checkText 148 = .ok (.iconst 0, 1) := by decide +kernel
theorem dX21_checkText_149 : decode cX21_checkText 149 = .ok (.putfield 652, 3) := by decide +kernel
theorem dX21_checkText_152 : decode cX21_checkText 152 = .ok (.aload_n 0, 1) := by decide +kernel
theorem dX21_checkText_153 : decode cX21_checkText 153 = .ok (.aload_n 0, 1) := by decide +kernel
theorem dX21_checkText_154 : decode cX21_checkText 154 = .ok (.getfield 721, 3) := by decide +kernel
theorem dX21_checkText_157 : decode cX21_checkText 157 = .ok (.putfield 585, 3) := by decide +kernel
theorem dX21_checkText_160 : decode cX21_checkText 160 = .ok (.aload_n 0, 1) := by decide +kernel
theorem dX21_checkText_161 : decode cX21_checkText 161 = .ok (.iload_n 2, 1) := by decide +kernel
theorem dX21_checkText_162 : decode cX21_checkText 162 = .ok (.iconst 1, 1) := by decide +kernel
theorem dX21_checkText_163 : decode cX21_checkText 163 = .ok (.invokevirtual 682, 3) := by decide +kernel
theorem dX21_checkText_166 : decode cX21_checkText 166 = .ok (.aload_n 0, 1) := by decide +kernel
theorem dX21_checkText_167 : decode cX21_checkText 167 = .ok (.aload_n 0, 1) := by decide +kernel
theorem dX21_checkText_168 : decode cX21_checkText 168 = .ok (.getfield 585, 3) := by decide +kernel
theorem dX21_checkText_171 : decode cX21_checkText 171 = .ok (.putfield 721, 3) := by decide +kernel
theorem dX21_checkText_174 : decode cX21_checkText 174 = .ok (.aload_n 0, 1) := by decide +kernel
theorem dX21_checkText_175 : decode cX21_checkText 175 = .ok (.aload_n 0, 1) := by decide +kernel
theorem dX21_checkText_176 : decode cX21_checkText 176 = .ok (.getfield 724, 3) := by decide +kernel
theorem dX21_checkText_179 : decode cX21_checkText 179 = .ok (.aload_n 0, 1) := by decide +kernel
theorem dX21_checkText_180 : decode cX21_checkText 180 = .ok (.getfield 652, 3) := by decide +kernel
theorem dX21_checkText_183 : decode cX21_checkText 183 = .ok (.iadd, 1) := by decide +kernel
theorem dX21_checkText_184 : decode cX21_checkText 184 = .ok (.putfield 724, 3) := by decide +kernel
theorem dX21_checkText_187 : decode cX21_checkText 187 = .ok (.aload_n 0, 1) := by decide +kernel
theorem dX21_checkText_188 : decode cX21_checkText 188 = .ok (.getfield 229, 3) := by decide +kernel
theorem dX21_checkText_191 : decode cX21_checkText 191 = .ok (.iload_n 2, 1) := by decide +kernel
theorem dX21_checkText_192 : decode cX21_checkText 192 = .ok (.iaload, 1) := by decide +kernel
theorem dX21_checkText_193 : decode cX21_checkText 193 = .ok (.istore_n 2, 1) := by decide +kernel
theorem dX21_checkText_194 : decode cX21_checkText 194 = .ok (.goto (-92), 3) := by decide +kernel
theorem dX21_checkText_197 : decode cX21_checkText 197 = .ok (.aload_n 0, 1) := by decide +kernel
theorem dX21_checkText_198 : decode cX21_checkText 198 = .ok (.invokevirtual 733, 3) := by decide +kernel
theorem dX21_checkText_201 : decode cX21_checkText 201 = .ok (.ifCond .ne 15, 3) := by decide +kernel
theorem dX21_checkText_204 : decode cX21_checkText 204 = .ok (.aload_n 0, 1) := by decide +kernel
theorem dX21_checkText_205 : decode cX21_checkText 205 = .ok (.bipush 12, 2) := by decide +kernel
theorem dX21_checkText_207 : decode cX21_checkText 207 = .ok (.aload_n 0, 1) := by decide +kernel
theorem dX21_checkText_208 : decode cX21_checkText 208 = .ok (.getfield 332, 3) := by decide +kernel
theorem dX21_checkText_211 : decode cX21_checkText 211 = .ok (.iconst 1, 1) := by decide +kernel
theorem dX21_checkText_212 : decode cX21_checkText 212 = .ok (.isub, 1) := by decide +kernel
theorem dX21_checkText_213 : decode cX21_checkText 213 = .ok (.invokevirtual 597, 3) := by decide +kernel
theorem dX21_checkText_216 : decode cX21_checkText 216 = .ok (.iconst 0, 1) := by decide +kernel
theorem dX21_checkText_217 : decode cX21_checkText 217 = .ok (.istore_n 2, 1) := by decide +kernel
theorem dX21_checkText_218 : decode cX21_checkText 218 = .ok (.iload_n 2, 1) := by decide +kernel
theorem dX21_checkText_219 : decode cX21_checkText 219 = .ok (.aload_n 0, 1) := by decide +kernel
theorem dX21_checkText_220 : decode cX21_checkText 220 = .ok (.getfield 563, 3) := by decide +kernel
theorem dX21_checkText_223 : decode cX21_checkText 223 = .ok (.if_icmp .ge 33, 3) := by decide +kernel
theorem dX21_checkText_226 : decode cX21_checkText 226 = .ok (.aload_n 0, 1) := by decide +kernel
theorem dX21_checkText_227 : decode cX21_checkText 227 = .ok (.getfield 259, 3) := by decide +kernel
theorem dX21_checkText_230 : decode cX21_checkText 230 = .ok (.iload_n 2, 1) := by decide +kernel
theorem dX21_checkText_231 : decode cX21_checkText 231 = .ok (.iaload, 1) := by decide +kernel
theorem dX21_checkText_232 : decode cX21_checkText 232 = .ok (.sipush 8192, 3) := by decide +kernel
theorem dX21_checkText_235 : decode cX21_checkText 235 = .ok (.if_icmp .le 15, 3) := by decide +kernel
theorem dX21_checkText_238 : decode cX21_checkText 238 = .ok (.aload_n 0, 1) := by decide +kernel
theorem dX21_checkText_239 : decode cX21_checkText 239 = .ok (.bipush 13, 2) := by decide +kernel
theorem dX21_checkText_241 : decode cX21_checkText 241 = .ok (.aload_n 0, 1) := by decide +kernel
theorem dX21_checkText_242 : decode cX21_checkText 242 = .ok (.getfield 332, 3) := by decide +kernel
theorem dX21_checkText_245 : decode cX21_checkText 245 = .ok (.iconst 1, 1) := by decide +kernel
theorem dX21_checkText_246 : decode cX21_checkText 246 = .ok (.isub, 1) := by decide +kernel
theorem dX21_checkText_247 : decode cX21_checkText 247 = .ok (.invokevirtual 597, 3) := by decide +kernel
theorem dX21_checkText_250 : decode cX21_checkText 250 = .ok (.iinc 2 1, 3) := by decide +kernel
theorem dX21_checkText_253 : decode cX21_checkText 253 = .ok (.goto (-35), 3) := by decide +kernel
theorem dX21_checkText_256 : decode cX21_checkText 256 = .ok (.aload_n 0, 1) := by decide +kernel
theorem dX21_checkText_257 : decode cX21_checkText 257 = .ok (.getfield 563, 3) := by decide +kernel
theorem dX21_checkText_260 : decode cX21_checkText 260 = .ok (.sipush 200, 3) := by decide +kernel
theorem dX21_checkText_263 : decode cX21_checkText 263 = .ok (.if_icmp .gt 13, 3) := by decide +kernel
theorem dX21_checkText_266 : decode cX21_checkText 266 = .ok (.aload_n 0, 1) := by decide +kernel
theorem dX21_checkText_267 : decode cX21_checkText 267 = .ok (.getfield 724, 3) := by decide +kernel
theorem dX21_checkText_270 : decode cX21_checkText 270 = .ok (.sipush 8192, 3) := by decide +kernel
theorem dX21_checkText_273 : decode cX21_checkText 273 = .ok (.if_icmp .le 15, 3) := by decide +kernel
theorem dX21_checkText_276 : decode cX21_checkText 276 = .ok (.aload_n 0, 1) := by decide +kernel
theorem dX21_checkText_277 : decode cX21_checkText 277 = .ok (.bipush 14, 2) := by decide +kernel
theorem dX21_checkText_279 : decode cX21_checkText 279 = .ok (.aload_n 0, 1) := by decide +kernel
theorem dX21_checkText_280 : decode cX21_checkText 280 = .ok (.getfield 332, 3) := by decide +kernel
theorem dX21_checkText_283 : decode cX21_checkText 283 = .ok (.iconst 1, 1) := by decide +kernel
theorem dX21_checkText_284 : decode cX21_checkText 284 = .ok (.isub, 1) := by decide +kernel
theorem dX21_checkText_285 : decode cX21_checkText 285 = .ok (.invokevirtual 597, 3) := by decide +kernel
theorem dX21_checkText_288 : decode cX21_checkText 288 = .ok (.return_, 1) := by decide +kernel
theorem dX21_checkFunction_0 : decode cX21_checkFunction 0 = .ok (.aload_n 0, 1) := by decide +kernel
theorem dX21_checkFunction_1 : decode cX21_checkFunction 1 = .ok (.getfield 256, 3) := by decide +kernel
theorem dX21_checkFunction_4 : decode cX21_checkFunction 4 = .ok (.iload_n 1, 1) := by decide +kernel
theorem dX21_checkFunction_5 : decode cX21_checkFunction 5 = .ok (.iaload, 1) := by decide +kernel
theorem dX21_checkFunction_6 : decode cX21_checkFunction 6 = .ok (.istore_n 2, 1) := by decide +kernel
theorem dX21_checkFunction_7 : decode cX21_checkFunction 7 = .ok (.aload_n 0, 1) := by decide +kernel
theorem dX21_checkFunction_8 : decode cX21_checkFunction 8 = .ok (.getfield 211, 3) := by decide +kernel
theorem dX21_checkFunction_11 : decode cX21_checkFunction 11 = .ok (.iload_n 2, 1) := by decide +kernel
theorem dX21_checkFunction_12 : decode cX21_checkFunction 12 = .ok (.iaload, 1) := by decide +kernel
theorem dX21_checkFunction_13 : decode cX21_checkFunction 13 = .ok (.istore_n 3, 1) := by decide +kernel
theorem dX21_checkFunction_14 : decode cX21_checkFunction 14 = .ok (.aload_n 0, 1) := by decide +kernel
theorem dX21_checkFunction_15 : decode cX21_checkFunction 15 = .ok (.iload_n 3, 1) := by decide +kernel
theorem dX21_checkFunction_16 : decode cX21_checkFunction 16 = .ok (.invokevirtual 576, 3) := by decide +kernel
theorem dX21_checkFunction_19 : decode cX21_checkFunction 19 = .ok (.ifCond .ge 12, 3) := by decide +kernel
theorem dX21_checkFunction_22 : decode cX21_checkFunction 22 = .ok (.aload_n 0, 1) := by decide +kernel
theorem dX21_checkFunction_23 : decode cX21_checkFunction 23 = .ok (.iload_n 3, 1) := by decide +kernel
theorem dX21_checkFunction_24 : decode cX21_checkFunction 24 = .ok (.invokevirtual 573, 3) := by decide +kernel
theorem dX21_checkFunction_27 : decode cX21_checkFunction 27 = .ok (.iload_n 1, 1) := by decide +kernel
theorem dX21_checkFunction_28 : decode cX21_checkFunction 28 = .ok (.if_icmp .eq 9, 3) := by decide +kernel
theorem dX21_checkFunction_31 : decode cX21_checkFunction 31 = .ok (.aload_n 0, 1) := by decide +kernel
theorem dX21_checkFunction_32 : decode cX21_checkFunction 32 = .ok (.iconst 1, 1) := by decide +kernel
theorem dX21_checkFunction_33 : decode cX21_checkFunction 33 = .ok (.iload_n 3, 1) := by decide +kernel
theorem dX21_checkFunction_34 : decode cX21_checkFunction 34 = .ok (.invokevirtual 597, 3) := by decide +kernel
theorem dX21_checkFunction_37 : decode cX21_checkFunction 37 = .ok (.aload_n 0, 1) := by decide +kernel
theorem dX21_checkFunction_38 : decode cX21_checkFunction 38 = .ok (.getfield 556, 3) := by decide +kernel
theorem dX21_checkFunction_41 : decode cX21_checkFunction 41 = .ok (.istore 4, 2) := by decide +kernel
theorem dX21_checkFunction_43 : decode cX21_checkFunction 43 = .ok (.aload_n 0, 1) := by decide +kernel
theorem dX21_checkFunction_44 : decode cX21_checkFunction 44 = .ok (.getfield 588, 3) := by decide +kernel
theorem dX21_checkFunction_47 : decode cX21_checkFunction 47 = .ok (.istore 5, 2) := by decide +kernel
theorem dX21_checkFunction_49 : decode cX21_checkFunction 49 = .ok (.aload_n 0, 1) := by decide +kernel
theorem dX21_checkFunction_50 : decode cX21_checkFunction 50 = .ok (.aload_n 0, 1) := by decide +kernel
theorem dX21_checkFunction_51 : decode cX21_checkFunction 51 = .ok (.getfield 556, 3) := by decide +kernel
theorem dX21_checkFunction_54 : decode cX21_checkFunction 54 = .ok (.putfield 588, 3) := by decide +kernel
theorem dX21_checkFunction_57 : decode cX21_checkFunction 57 = .ok (.aload_n 0, 1) := by decide +kernel
theorem dX21_checkFunction_58 : decode cX21_checkFunction 58 = .ok (.iload_n 2, 1) := by decide +kernel
theorem dX21_checkFunction_59 : decode cX21_checkFunction 59 = .ok (.putfield 582, 3) := by decide +kernel
theorem dX21_checkFunction_62 : decode cX21_checkFunction 62 = .ok (.aload_n 0, 1) := by decide +kernel
theorem dX21_checkFunction_63 : decode cX21_checkFunction 63 = .ok (.iconst 4, 1) := by decide +kernel
theorem dX21_checkFunction_64 : decode cX21_checkFunction 64 = .ok (.putfield 652, 3) := by decide +kernel
theorem dX21_checkFunction_67 : decode cX21_checkFunction 67 = .ok (.aload_n 0, 1) := by decide +kernel
theorem dX21_checkFunction_68 : decode cX21_checkFunction 68 = .ok (.iconst 0, 1) := by decide +kernel
theorem dX21_checkFunction_69 : decode cX21_checkFunction 69 = .ok (.putfield 585, 3) := by decide +kernel
theorem dX21_checkFunction_72 : decode cX21_checkFunction 72 = .ok (.aload_n 0, 1) := by decide +kernel
theorem dX21_checkFunction_73 : decode cX21_checkFunction 73 = .ok (.getfield 217, 3) := by decide +kernel
theorem dX21_checkFunction_76 : decode cX21_checkFunction 76 = .ok (.iload_n 2, 1) := by decide +kernel
theorem dX21_checkFunction_77 : decode cX21_checkFunction 77 = .ok (.iaload, 1) := by decide +kernel
theorem dX21_checkFunction_78 : decode cX21_checkFunction 78 = .ok (.istore 6, 2) := by decide +kernel
theorem dX21_checkFunction_80 : decode cX21_checkFunction 80 = .ok (.iload 6, 2) := by decide +kernel
theorem dX21_checkFunction_82 : decode cX21_checkFunction 82 = .ok (.ifCond .lt 150, 3) := by decide +kernel
theorem dX21_checkFunction_85 : decode cX21_checkFunction 85 = .ok (.aload_n 0, 1) := by decide +kernel
theorem dX21_checkFunction_86 : decode cX21_checkFunction 86 = .ok (.aload_n 0, 1) := by decide +kernel
theorem dX21_checkFunction_87 : decode cX21_checkFunction 87 = .ok (.getfield 211, 3) := by decide +kernel
theorem dX21_checkFunction_90 : decode cX21_checkFunction 90 = .ok (.iload 6, 2) := by decide +kernel
theorem dX21_checkFunction_92 : decode cX21_checkFunction 92 = .ok (.iaload, 1) := by decide +kernel
theorem dX21_checkFunction_93 : decode cX21_checkFunction 93 = .ok (.invokevirtual 649, 3) := by decide +kernel
theorem dX21_checkFunction_96 : decode cX21_checkFunction 96 = .ok (.aload_n 0, 1) := by decide +kernel
theorem dX21_checkFunction_97 : decode cX21_checkFunction 97 = .ok (.getfield 217, 3) := by decide +kernel
theorem dX21_checkFunction_100 : decode cX21_checkFunction 100 = .ok (.iload 6, 2) := by decide +kernel
theorem dX21_checkFunction_102 : decode cX21_checkFunction 102 = .ok (.iaload, 1) := by decide +kernel
theorem dX21_checkFunction_103 : decode cX21_checkFunction 103 = .ok (.ifCond .lt 7, 3) := by decide +kernel
theorem dX21_checkFunction_106 : decode cX21_checkFunction 106 = .ok (.iconst 1, 1) := by decide +kernel
theorem dX21_checkFunction_107 : decode cX21_checkFunction 107 = .ok (.goto 4, 3) := by decide +kernel
theorem dX21_checkFunction_110 : decode cX21_checkFunction 110 = .ok (.iconst 0, 1) := by decide +kernel
theorem dX21_checkFunction_111 : decode cX21_checkFunction 111 = .ok (.istore 7, 2) := by decide +kernel
theorem dX21_checkFunction_113 : decode cX21_checkFunction 113 = .ok (.aload_n 0, 1) := by decide +kernel
theorem dX21_checkFunction_114 : decode cX21_checkFunction 114 = .ok (.aload_n 0, 1) := by decide +kernel
theorem dX21_checkFunction_115 : decode cX21_checkFunction 115 = .ok (.getfield 652, 3) := by decide +kernel
theorem dX21_checkFunction_118 : decode cX21_checkFunction 118 = .ok (.iload 7, 2) := by decide +kernel
theorem dX21_checkFunction_120 : decode cX21_checkFunction 120 = .ok (.ifCond .eq 7, 3) := by decide +kernel
theorem dX21_checkFunction_123 : decode cX21_checkFunction 123 = .ok (.iconst 2, 1) := by decide +kernel
theorem dX21_checkFunction_124 : decode cX21_checkFunction 124 = .ok (.goto 4, 3) := by decide +kernel
theorem dX21_checkFunction_127 : decode cX21_checkFunction 127 = .ok (.iconst 1, 1) := by decide +kernel
theorem dX21_checkFunction_128 : decode cX21_checkFunction 128 = .ok (.iadd, 1) := by decide +kernel
theorem dX21_checkFunction_129 : decode cX21_checkFunction 129 = .ok (.putfield 652, 3) := by decide +kernel
theorem dX21_checkFunction_132 : decode cX21_checkFunction 132 = .ok (.aload_n 0, 1) := by decide +kernel
theorem dX21_checkFunction_133 : decode cX21_checkFunction 133 = .ok (.getfield 232, 3) := by decide +kernel
theorem dX21_checkFunction_136 : decode cX21_checkFunction 136 = .ok (.iload 6, 2) := by decide +kernel
theorem dX21_checkFunction_138 : decode cX21_checkFunction 138 = .ok (.iaload, 1) := by decide +kernel
theorem dX21_checkFunction_139 : decode cX21_checkFunction 139 = .ok (.iconst 1, 1) := by decide +kernel
theorem dX21_checkFunction_140 : decode cX21_checkFunction 140 = .ok (.if_icmp .ne 7, 3) := by decide +kernel
theorem dX21_checkFunction_143 : decode cX21_checkFunction 143 = .ok (.iconst 1, 1) := by decide +kernel
theorem dX21_checkFunction_144 : decode cX21_checkFunction 144 = .ok (.goto 4, 3) := by decide +kernel
theorem dX21_checkFunction_147 : decode cX21_checkFunction 147 = .ok (.iconst 0, 1) := by decide +kernel
theorem dX21_checkFunction_148 : decode cX21_checkFunction 148 = .ok (.istore 8, 2) := by decide +kernel
theorem dX21_checkFunction_150 : decode cX21_checkFunction 150 = .ok (.aload_n 0, 1) := by decide +kernel
theorem dX21_checkFunction_151 : decode cX21_checkFunction 151 = .ok (.getfield 220, 3) := by decide +kernel
theorem dX21_checkFunction_154 : decode cX21_checkFunction 154 = .ok (.iload 6, 2) := by decide +kernel
theorem dX21_checkFunction_156 : decode cX21_checkFunction 156 = .ok (.aload_n 0, 1) := by decide +kernel
theorem dX21_checkFunction_157 : decode cX21_checkFunction 157 = .ok (.iload 7, 2) := by decide +kernel
theorem dX21_checkFunction_159 : decode cX21_checkFunction 159 = .ok (.ifCond .eq 10, 3) := by decide +kernel
theorem dX21_checkFunction_162 : decode cX21_checkFunction 162 = .ok (.iconst 4, 1) := by decide +kernel
theorem dX21_checkFunction_163 : decode cX21_checkFunction 163 = .ok (.iload 8, 2) := by decide +kernel
theorem dX21_checkFunction_165 : decode cX21_checkFunction 165 = .ok (.iadd, 1) := by decide +kernel
theorem dX21_checkFunction_166 : decode cX21_checkFunction 166 = .ok (.goto 5, 3) := by decide +kernel
theorem dX21_checkFunction_169 : decode cX21_checkFunction 169 = .ok (.iload 8, 2) := by decide +kernel
theorem dX21_checkFunction_171 : decode cX21_checkFunction 171 = .ok (.iconst 1, 1) := by decide +kernel
theorem dX21_checkFunction_172 : decode cX21_checkFunction 172 = .ok (.invokevirtual 661, 3) := by decide +kernel
theorem dX21_checkFunction_175 : decode cX21_checkFunction 175 = .ok (.iastore, 1) := by decide +kernel
theorem dX21_checkFunction_176 : decode cX21_checkFunction 176 = .ok (.aload_n 0, 1) := by decide +kernel
theorem dX21_checkFunction_177 : decode cX21_checkFunction 177 = .ok (.aload_n 0, 1) := by decide +kernel
theorem dX21_checkFunction_178 : decode cX21_checkFunction 178 = .ok (.getfield 211, 3) := by decide +kernel
theorem dX21_checkFunction_181 : decode cX21_checkFunction 181 = .ok (.iload 6, 2) := by decide +kernel
theorem dX21_checkFunction_183 : decode cX21_checkFunction 183 = .ok (.iaload, 1) := by decide +kernel
theorem dX21_checkFunction_184 : decode cX21_checkFunction 184 = .ok (.iload 7, 2) := by decide +kernel
theorem dX21_checkFunction_186 : decode cX21_checkFunction 186 = .ok (.ifCond .ne 7, 3) := by decide +kernel
theorem dX21_checkFunction_189 : decode cX21_checkFunction 189 = .ok (.iconst 1, 1) := by decide +kernel
theorem dX21_checkFunction_190 : decode cX21_checkFunction 190 = .ok (.goto 19, 3) := by decide +kernel
theorem dX21_checkFunction_193 : decode cX21_checkFunction 193 = .ok (.aload_n 0, 1) := by decide +kernel
theorem dX21_checkFunction_194 : decode cX21_checkFunction 194 = .ok (.getfield 232, 3) := by decide +kernel
theorem dX21_checkFunction_197 : decode cX21_checkFunction 197 = .ok (.iload 6, 2) := by decide +kernel
theorem dX21_checkFunction_199 : decode cX21_checkFunction 199 = .ok (.iaload, 1) := by decide +kernel
theorem dX21_checkFunction_200 : decode cX21_checkFunction 200 = .ok (.iconst 1, 1) := by decide +kernel
theorem dX21_checkFunction_201 : decode cX21_checkFunction 201 = .ok (.if_icmp .ne 7, 3) := by decide +kernel
theorem dX21_checkFunction_204 : decode cX21_checkFunction 204 = .ok (.iconst 3, 1) := by decide +kernel
theorem dX21_checkFunction_205 : decode cX21_checkFunction 205 = .ok (.goto 4, 3) := by decide +kernel
theorem dX21_checkFunction_208 : decode cX21_checkFunction 208 = .ok (.iconst 2, 1) := by decide +kernel
theorem dX21_checkFunction_209 : decode cX21_checkFunction 209 = .ok (.iconst 0, 1) := by decide +kernel
theorem dX21_checkFunction_210 : decode cX21_checkFunction 210 = .ok (.aload_n 0, 1) := by decide +kernel
theorem dX21_checkFunction_211 : decode cX21_checkFunction 211 = .ok (.getfield 220, 3) := by decide +kernel
theorem dX21_checkFunction_214 : decode cX21_checkFunction 214 = .ok (.iload 6, 2) := by decide +kernel
theorem dX21_checkFunction_216 : decode cX21_checkFunction 216 = .ok (.iaload, 1) := by decide +kernel
theorem dX21_checkFunction_217 : decode cX21_checkFunction 217 = .ok (.invokevirtual 664, 3) := by decide +kernel
theorem dX21_checkFunction_220 : decode cX21_checkFunction 220 = .ok (.aload_n 0, 1) := by decide +kernel
theorem dX21_checkFunction_221 : decode cX21_checkFunction 221 = .ok (.getfield 229, 3) := by decide +kernel
theorem dX21_checkFunction_224 : decode cX21_checkFunction 224 = .ok (.iload 6, 2) := by decide +kernel
theorem dX21_checkFunction_226 : decode cX21_checkFunction 226 = .ok (.iaload, 1) := by decide +kernel
theorem dX21_checkFunction_227 : decode cX21_checkFunction 227 = .ok (.istore 6, 2) := by decide +kernel
theorem dX21_checkFunction_229 : decode cX21_checkFunction 229 = .ok (.goto (-149), 3) := by decide +kernel
theorem dX21_checkFunction_232 : decode cX21_checkFunction 232 = .ok (.aload_n 0, 1) := by decide +kernel
theorem dX21_checkFunction_233 : decode cX21_checkFunction 233 = .ok (.aload_n 0, 1) := by decide +kernel
theorem dX21_checkFunction_234 : decode cX21_checkFunction 234 = .ok (.getfield 217, 3) := by decide +kernel
theorem dX21_checkFunction_237 : decode cX21_checkFunction 237 = .ok (.aload_n 0, 1) := by decide +kernel
theorem dX21_checkFunction_238 : decode cX21_checkFunction 238 = .ok (.getfield 220, 3) := by decide +kernel
theorem dX21_checkFunction_241 : decode cX21_checkFunction 241 = .ok (.iload_n 2, 1) := by decide +kernel
theorem dX21_checkFunction_242 : decode cX21_checkFunction 242 = .ok (.iaload, 1) := by decide +kernel
theorem dX21_checkFunction_243 : decode cX21_checkFunction 243 = .ok (.iaload, 1) := by decide +kernel
theorem dX21_checkFunction_244 : decode cX21_checkFunction 244 = .ok (.invokevirtual 670, 3) := by decide +kernel
theorem dX21_checkFunction_247 : decode cX21_checkFunction 247 = .ok (.aload_n 0, 1) := by decide +kernel
theorem dX21_checkFunction_248 : decode cX21_checkFunction 248 = .ok (.iconst 0, 1) := by decide +kernel
theorem dX21_checkFunction_249 : decode cX21_checkFunction 249 = .ok (.putfield 704, 3) := by decide +kernel
theorem dX21_checkFunction_252 : decode cX21_checkFunction 252 = .ok (.aload_n 0, 1) := by decide +kernel
theorem dX21_checkFunction_253 : decode cX21_checkFunction 253 = .ok (.getfield 550, 3) := by decide +kernel
theorem dX21_checkFunction_256 : decode cX21_checkFunction 256 = .ok (.ifCond .ne 18, 3) := by decide +kernel
theorem dX21_checkFunction_259 : decode cX21_checkFunction 259 = .ok (.aload_n 0, 1) := by decide +kernel
theorem dX21_checkFunction_260 : decode cX21_checkFunction 260 = .ok (.aload_n 0, 1) := by decide +kernel
theorem dX21_checkFunction_261 : decode cX21_checkFunction 261 = .ok (.getfield 217, 3) := by decide +kernel
theorem dX21_checkFunction_264 : decode cX21_checkFunction 264 = .ok (.aload_n 0, 1) := by decide +kernel
theorem dX21_checkFunction_265 : decode cX21_checkFunction 265 = .ok (.getfield 220, 3) := by decide +kernel
theorem dX21_checkFunction_268 : decode cX21_checkFunction 268 = .ok (.iload_n 2, 1) := by decide +kernel
theorem dX21_checkFunction_269 : decode cX21_checkFunction 269 = .ok (.iaload, 1) := by decide +kernel
theorem dX21_checkFunction_270 : decode cX21_checkFunction 270 = .ok (.iaload, 1) := by decide +kernel
theorem dX21_checkFunction_271 : decode cX21_checkFunction 271 = .ok (.invokevirtual 707, 3) := by decide +kernel
theorem dX21_checkFunction_274 : decode cX21_checkFunction 274 = .ok (.aload_n 0, 1) := by decide +kernel
theorem dX21_checkFunction_275 : decode cX21_checkFunction 275 = .ok (.getfield 259, 3) := by decide +kernel
theorem dX21_checkFunction_278 : decode cX21_checkFunction 278 = .ok (.iload_n 1, 1) := by decide +kernel
theorem dX21_checkFunction_279 : decode cX21_checkFunction 279 = .ok (.aload_n 0, 1) := by decide +kernel
theorem dX21_checkFunction_280 : decode cX21_checkFunction 280 = .ok (.getfield 652, 3) := by decide +kernel
theorem dX21_checkFunction_283 : decode cX21_checkFunction 283 = .ok (.aload_n 0, 1) := by decide +kernel
theorem dX21_checkFunction_284 : decode cX21_checkFunction 284 = .ok (.getfield 704, 3) := by decide +kernel
theorem dX21_checkFunction_287 : decode cX21_checkFunction 287 = .ok (.iadd, 1) := by decide +kernel
theorem dX21_checkFunction_288 : decode cX21_checkFunction 288 = .ok (.iastore, 1) := by decide +kernel
theorem dX21_checkFunction_289 : decode cX21_checkFunction 289 = .ok (.aload_n 0, 1) := by decide +kernel
theorem dX21_checkFunction_290 : decode cX21_checkFunction 290 = .ok (.getfield 278, 3) := by decide +kernel
theorem dX21_checkFunction_293 : decode cX21_checkFunction 293 = .ok (.iload_n 1, 1) := by decide +kernel
theorem dX21_checkFunction_294 : decode cX21_checkFunction 294 = .ok (.aload_n 0, 1) := by decide +kernel
theorem dX21_checkFunction_295 : decode cX21_checkFunction 295 = .ok (.getfield 585, 3) := by decide +kernel
theorem dX21_checkFunction_298 : decode cX21_checkFunction 298 = .ok (.iastore, 1) := by decide +kernel
theorem dX21_checkFunction_299 : decode cX21_checkFunction 299 = .ok (.aload_n 0, 1) := by decide +kernel
theorem dX21_checkFunction_300 : decode cX21_checkFunction 300 = .ok (.iconst (-1), 1) := by decide +kernel
theorem dX21_checkFunction_301 : decode cX21_checkFunction 301 = .ok (.putfield 582, 3) := by decide +kernel
theorem dX21_checkFunction_304 : decode cX21_checkFunction 304 = .ok (.aload_n 0, 1) := by decide +kernel
theorem dX21_checkFunction_305 : decode cX21_checkFunction 305 = .ok (.iload 4, 2) := by decide +kernel
theorem dX21_checkFunction_307 : decode cX21_checkFunction 307 = .ok (.iload 5, 2) := by decide +kernel
theorem dX21_checkFunction_309 : decode cX21_checkFunction 309 = .ok (.invokevirtual 673, 3) := by decide +kernel
theorem dX21_checkFunction_312 : decode cX21_checkFunction 312 = .ok (.return_, 1) := by decide +kernel
theorem dX21_findOwn_0 : decode cX21_findOwn 0 = .ok (.iconst 0, 1) := by decide +kernel
theorem dX21_findOwn_1 : decode cX21_findOwn 1 = .ok (.istore_n 2, 1) := by decide +kernel
theorem dX21_findOwn_2 : decode cX21_findOwn 2 = .ok (.iload_n 2, 1) := by decide +kernel
theorem dX21_findOwn_3 : decode cX21_findOwn 3 = .ok (.aload_n 0, 1) := by decide +kernel
theorem dX21_findOwn_4 : decode cX21_findOwn 4 = .ok (.getfield 566, 3) := by decide +kernel
theorem dX21_findOwn_7 : decode cX21_findOwn 7 = .ok (.ifCond .eq 8, 3) := by decide +kernel
theorem dX21_findOwn_10 : decode cX21_findOwn 10 = .ok (.bipush 15, 2) := by decide +kernel
theorem dX21_findOwn_12 : decode cX21_findOwn 12 = .ok (.goto 5, 3) := by decide +kernel
theorem dX21_findOwn_15 : decode cX21_findOwn 15 = .ok (.bipush 10, 2) := by decide +kernel
theorem dX21_findOwn_17 : decode cX21_findOwn 17 = .ok (.if_icmp .ge 25, 3) := by decide +kernel
theorem dX21_findOwn_20 : decode cX21_findOwn 20 = .ok (.aload_n 0, 1) := by decide +kernel
theorem dX21_findOwn_21 : decode cX21_findOwn 21 = .ok (.iload_n 1, 1) := by decide +kernel
theorem dX21_findOwn_22 : decode cX21_findOwn 22 = .ok (.aload_n 0, 1) := by decide +kernel
theorem dX21_findOwn_23 : decode cX21_findOwn 23 = .ok (.getfield 164, 3) := by decide +kernel
theorem dX21_findOwn_26 : decode cX21_findOwn 26 = .ok (.iload_n 2, 1) := by decide +kernel
theorem dX21_findOwn_27 : decode cX21_findOwn 27 = .ok (.aaload, 1) := by decide +kernel
theorem dX21_findOwn_28 : decode cX21_findOwn 28 = .ok (.invokevirtual 570, 3) := by decide +kernel
theorem dX21_findOwn_31 : decode cX21_findOwn 31 = .ok (.ifCond .eq 5, 3) := by decide +kernel
theorem dX21_findOwn_34 : decode cX21_findOwn 34 = .ok (.iload_n 2, 1) := by decide +kernel
theorem dX21_findOwn_35 : decode cX21_findOwn 35 = .ok (.ireturn, 1) := by decide +kernel
theorem dX21_findOwn_36 : decode cX21_findOwn 36 = .ok (.iinc 2 1, 3) := by decide +kernel
theorem dX21_findOwn_39 : decode cX21_findOwn 39 = .ok (.goto (-37), 3) := by decide +kernel
theorem dX21_findOwn_42 : decode cX21_findOwn 42 = .ok (.iconst (-1), 1) := by decide +kernel
theorem dX21_findOwn_43 : decode cX21_findOwn 43 = .ok (.ireturn, 1) := by decide +kernel
theorem dX21_isNamed_0 : decode cX21_isNamed 0 = .ok (.aload_n 0, 1) := by decide +kernel
theorem dX21_isNamed_1 : decode cX21_isNamed 1 = .ok (.getfield 199, 3) := by decide +kernel
theorem dX21_isNamed_4 : decode cX21_isNamed 4 = .ok (.iload_n 1, 1) := by decide +kernel
theorem dX21_isNamed_5 : decode cX21_isNamed 5 = .ok (.iaload, 1) := by decide +kernel
theorem dX21_isNamed_6 : decode cX21_isNamed 6 = .ok (.aload_n 2, 1) := by decide +kernel
theorem dX21_isNamed_7 : decode cX21_isNamed 7 = .ok (.invokevirtual 335, 3) := by decide +kernel
theorem dX21_isNamed_10 : decode cX21_isNamed 10 = .ok (.if_icmp .ne 21, 3) := by decide +kernel
theorem dX21_isNamed_13 : decode cX21_isNamed 13 = .ok (.aload_n 0, 1) := by decide +kernel
theorem dX21_isNamed_14 : decode cX21_isNamed 14 = .ok (.aload_n 0, 1) := by decide +kernel
theorem dX21_isNamed_15 : decode cX21_isNamed 15 = .ok (.getfield 195, 3) := by decide +kernel
theorem dX21_isNamed_18 : decode cX21_isNamed 18 = .ok (.iload_n 1, 1) := by decide +kernel
theorem dX21_isNamed_19 : decode cX21_isNamed 19 = .ok (.iaload, 1) := by decide +kernel
theorem dX21_isNamed_20 : decode cX21_isNamed 20 = .ok (.aload_n 2, 1) := by decide +kernel
theorem dX21_isNamed_21 : decode cX21_isNamed 21 = .ok (.invokevirtual 342, 3) := by decide +kernel
theorem dX21_isNamed_24 : decode cX21_isNamed 24 = .ok (.ifCond .eq 7, 3) := by decide +kernel
theorem dX21_isNamed_27 : decode cX21_isNamed 27 = .ok (.iconst 1, 1) := by decide +kernel
theorem dX21_isNamed_28 : decode cX21_isNamed 28 = .ok (.goto 4, 3) := by decide +kernel
theorem dX21_isNamed_31 : decode cX21_isNamed 31 = .ok (.iconst 0, 1) := by decide +kernel
theorem dX21_isNamed_32 : decode cX21_isNamed 32 = .ok (.ireturn, 1) := by decide +kernel
theorem dX21_findFunction_0 : decode cX21_findFunction 0 = .ok (.iconst 0, 1) := by decide +kernel
theorem dX21_findFunction_1 : decode cX21_findFunction 1 = .ok (.istore_n 2, 1) := by decide +kernel
theorem dX21_findFunction_2 : decode cX21_findFunction 2 = .ok (.iload_n 2, 1) := by decide +kernel
theorem dX21_findFunction_3 : decode cX21_findFunction 3 = .ok (.aload_n 0, 1) := by decide +kernel
theorem dX21_findFunction_4 : decode cX21_findFunction 4 = .ok (.getfield 563, 3) := by decide +kernel
theorem dX21_findFunction_7 : decode cX21_findFunction 7 = .ok (.if_icmp .ge 30, 3) := by decide +kernel
theorem dX21_findFunction_10 : decode cX21_findFunction 10 = .ok (.aload_n 0, 1) := by decide +kernel
theorem dX21_findFunction_11 : decode cX21_findFunction 11 = .ok (.aload_n 0, 1) := by decide +kernel
theorem dX21_findFunction_12 : decode cX21_findFunction 12 = .ok (.getfield 211, 3) := by decide +kernel
theorem dX21_findFunction_15 : decode cX21_findFunction 15 = .ok (.aload_n 0, 1) := by decide +kernel
theorem dX21_findFunction_16 : decode cX21_findFunction 16 = .ok (.getfield 256, 3) := by decide +kernel
theorem dX21_findFunction_19 : decode cX21_findFunction 19 = .ok (.iload_n 2, 1) := by decide +kernel
theorem dX21_findFunction_20 : decode cX21_findFunction 20 = .ok (.iaload, 1) := by decide +kernel
theorem dX21_findFunction_21 : decode cX21_findFunction 21 = .ok (.iaload, 1) := by decide +kernel
theorem dX21_findFunction_22 : decode cX21_findFunction 22 = .ok (.iload_n 1, 1) := by decide +kernel
theorem dX21_findFunction_23 : decode cX21_findFunction 23 = .ok (.invokevirtual 559, 3) := by decide +kernel
theorem dX21_findFunction_26 : decode cX21_findFunction 26 = .ok (.ifCond .eq 5, 3) := by decide +kernel
theorem dX21_findFunction_29 : decode cX21_findFunction 29 = .ok (.iload_n 2, 1) := by decide +kernel
theorem dX21_findFunction_30 : decode cX21_findFunction 30 = .ok (.ireturn, 1) := by decide +kernel
theorem dX21_findFunction_31 : decode cX21_findFunction 31 = .ok (.iinc 2 1, 3) := by decide +kernel
theorem dX21_findFunction_34 : decode cX21_findFunction 34 = .ok (.goto (-32), 3) := by decide +kernel
theorem dX21_findFunction_37 : decode cX21_findFunction 37 = .ok (.iconst (-1), 1) := by decide +kernel
theorem dX21_findFunction_38 : decode cX21_findFunction 38 = .ok (.ireturn, 1) := by decide +kernel
theorem dX21_sameName_0 : decode cX21_sameName 0 = .ok (.aload_n 0, 1) := by decide +kernel
theorem dX21_sameName_1 : decode cX21_sameName 1 = .ok (.getfield 199, 3) := by decide +kernel
theorem dX21_sameName_4 : decode cX21_sameName 4 = .ok (.iload_n 1, 1) := by decide +kernel
theorem dX21_sameName_5 : decode cX21_sameName 5 = .ok (.iaload, 1) := by decide +kernel
theorem dX21_sameName_6 : decode cX21_sameName 6 = .ok (.aload_n 0, 1) := by decide +kernel
theorem dX21_sameName_7 : decode cX21_sameName 7 = .ok (.getfield 199, 3) := by decide +kernel
theorem dX21_sameName_10 : decode cX21_sameName 10 = .ok (.iload_n 2, 1) := by decide +kernel
theorem dX21_sameName_11 : decode cX21_sameName 11 = .ok (.iaload, 1) := by decide +kernel
theorem dX21_sameName_12 : decode cX21_sameName 12 = .ok (.if_icmp .ne 7, 3) := by decide +kernel
theorem dX21_sameName_15 : decode cX21_sameName 15 = .ok (.iconst 1, 1) := by decide +kernel
theorem dX21_sameName_16 : decode cX21_sameName 16 = .ok (.goto 4, 3) := by decide +kernel
theorem dX21_sameName_19 : decode cX21_sameName 19 = .ok (.iconst 0, 1) := by decide +kernel
theorem dX21_sameName_20 : decode cX21_sameName 20 = .ok (.istore_n 3, 1) := by decide +kernel
theorem dX21_sameName_21 : decode cX21_sameName 21 = .ok (.iconst 0, 1) := by decide +kernel
theorem dX21_sameName_22 : decode cX21_sameName 22 = .ok (.istore 4, 2) := by decide +kernel
theorem dX21_sameName_24 : decode cX21_sameName 24 = .ok (.iload 4, 2) := by decide +kernel
theorem dX21_sameName_26 : decode cX21_sameName 26 = .ok (.aload_n 0, 1) := by decide +kernel
theorem dX21_sameName_27 : decode cX21_sameName 27 = .ok (.getfield 199, 3) := by decide +kernel
theorem dX21_sameName_30 : decode cX21_sameName 30 = .ok (.iload_n 1, 1) := by decide +kernel
theorem dX21_sameName_31 : decode cX21_sameName 31 = .ok (.iaload, 1) := by decide +kernel
theorem dX21_sameName_32 : decode cX21_sameName 32 = .ok (.if_icmp .ge 50, 3) := by decide +kernel
theorem dX21_sameName_35 : decode cX21_sameName 35 = .ok (.iload_n 3, 1) := by decide +kernel
theorem dX21_sameName_36 : decode cX21_sameName 36 = .ok (.ifCond .eq 46, 3) := by decide +kernel
theorem dX21_sameName_39 : decode cX21_sameName 39 = .ok (.aload_n 0, 1) := by decide +kernel
theorem dX21_sameName_40 : decode cX21_sameName 40 = .ok (.getfield 192, 3) := by decide +kernel
theorem dX21_sameName_43 : decode cX21_sameName 43 = .ok (.aload_n 0, 1) := by decide +kernel
theorem dX21_sameName_44 : decode cX21_sameName 44 = .ok (.getfield 195, 3) := by decide +kernel
theorem dX21_sameName_47 : decode cX21_sameName 47 = .ok (.iload_n 1, 1) := by decide +kernel
theorem dX21_sameName_48 : decode cX21_sameName 48 = .ok (.iaload, 1) := by decide +kernel
theorem dX21_sameName_49 : decode cX21_sameName 49 = .ok (.iload 4, 2) := by decide +kernel
theorem dX21_sameName_51 : decode cX21_sameName 51 = .ok (.iadd, 1) := by decide +kernel
theorem dX21_sameName_52 : decode cX21_sameName 52 = .ok (.baload, 1) := by decide +kernel
theorem dX21_sameName_53 : decode cX21_sameName 53 = .ok (.aload_n 0, 1) := by decide +kernel
theorem dX21_sameName_54 : decode cX21_sameName 54 = .ok (.getfield 192, 3) := by decide +kernel
theorem dX21_sameName_57 : decode cX21_sameName 57 = .ok (.aload_n 0, 1) := by decide +kernel
theorem dX21_sameName_58 : decode cX21_sameName 58 = .ok (.getfield 195, 3) := by decide +kernel
theorem dX21_sameName_61 : decode cX21_sameName 61 = .ok (.iload_n 2, 1) := by decide +kernel
theorem dX21_sameName_62 : decode cX21_sameName 62 = .ok (.iaload, 1) := by decide +kernel
theorem dX21_sameName_63 : decode cX21_sameName 63 = .ok (.iload 4, 2) := by decide +kernel
theorem dX21_sameName_65 : decode cX21_sameName 65 = .ok (.iadd, 1) := by decide +kernel
theorem dX21_sameName_66 : decode cX21_sameName 66 = .ok (.baload, 1) := by decide +kernel
theorem dX21_sameName_67 : decode cX21_sameName 67 = .ok (.if_icmp .ne 7, 3) := by decide +kernel
theorem dX21_sameName_70 : decode cX21_sameName 70 = .ok (.iconst 1, 1) := by decide +kernel
theorem dX21_sameName_71 : decode cX21_sameName 71 = .ok (.goto 4, 3) := by decide +kernel
theorem dX21_sameName_74 : decode cX21_sameName 74 = .ok (.iconst 0, 1) := by decide +kernel
theorem dX21_sameName_75 : decode cX21_sameName 75 = .ok (.istore_n 3, 1) := by decide +kernel
theorem dX21_sameName_76 : decode cX21_sameName 76 = .ok (.iinc 4 1, 3) := by decide +kernel
theorem dX21_sameName_79 : decode cX21_sameName 79 = .ok (.goto (-55), 3) := by decide +kernel
theorem dX21_sameName_82 : decode cX21_sameName 82 = .ok (.iload_n 3, 1) := by decide +kernel
theorem dX21_sameName_83 : decode cX21_sameName 83 = .ok (.ireturn, 1) := by decide +kernel
theorem dX21_bad_0 : decode cX21_bad 0 = .ok (.aload_n 0, 1) := by decide +kernel
theorem dX21_bad_1 : decode cX21_bad 1 = .ok (.getfield 550, 3) := by decide +kernel
theorem dX21_bad_4 : decode cX21_bad 4 = .ok (.ifCond .eq 27, 3) := by decide +kernel
theorem dX21_bad_7 : decode cX21_bad 7 = .ok (.iload_n 2, 1) := by decide +kernel
theorem dX21_bad_8 : decode cX21_bad 8 = .ok (.aload_n 0, 1) := by decide +kernel
theorem dX21_bad_9 : decode cX21_bad 9 = .ok (.getfield 553, 3) := by decide +kernel
theorem dX21_bad_12 : decode cX21_bad 12 = .ok (.if_icmp .lt 19, 3) := by decide +kernel
theorem dX21_bad_15 : decode cX21_bad 15 = .ok (.iload_n 2, 1) := by decide +kernel
theorem dX21_bad_16 : decode cX21_bad 16 = .ok (.aload_n 0, 1) := by decide +kernel
theorem dX21_bad_17 : decode cX21_bad 17 = .ok (.getfield 553, 3) := by decide +kernel
theorem dX21_bad_20 : decode cX21_bad 20 = .ok (.if_icmp .ne 21, 3) := by decide +kernel
theorem dX21_bad_23 : decode cX21_bad 23 = .ok (.iload_n 1, 1) := by decide +kernel
theorem dX21_bad_24 : decode cX21_bad 24 = .ok (.aload_n 0, 1) := by decide +kernel
theorem dX21_bad_25 : decode cX21_bad 25 = .ok (.getfield 550, 3) := by decide +kernel
theorem dX21_bad_28 : decode cX21_bad 28 = .ok (.if_icmp .ge 13, 3) := by decide +kernel
theorem dX21_bad_31 : decode cX21_bad 31 = .ok (.aload_n 0, 1) := by decide +kernel
theorem dX21_bad_32 : decode cX21_bad 32 = .ok (.iload_n 1, 1) := by decide +kernel
theorem dX21_bad_33 : decode cX21_bad 33 = .ok (.putfield 550, 3) := by decide +kernel
theorem dX21_bad_36 : decode cX21_bad 36 = .ok (.aload_n 0, 1) := by decide +kernel
theorem dX21_bad_37 : decode cX21_bad 37 = .ok (.iload_n 2, 1) := by decide +kernel
theorem dX21_bad_38 : decode cX21_bad 38 = .ok (.putfield 553, 3) := by decide +kernel
theorem dX21_bad_41 : decode cX21_bad 41 = .ok (.return_, 1) := by decide +kernel
theorem dX21_checkNew_0 : decode cX21_checkNew 0 = .ok (.aload_n 0, 1) := by decide +kernel
theorem dX21_checkNew_1 : decode cX21_checkNew 1 = .ok (.iload_n 1, 1) := by decide +kernel
theorem dX21_checkNew_2 : decode cX21_checkNew 2 = .ok (.aload_n 0, 1) := by decide +kernel
theorem dX21_checkNew_3 : decode cX21_checkNew 3 = .ok (.getfield 588, 3) := by decide +kernel
theorem dX21_checkNew_6 : decode cX21_checkNew 6 = .ok (.invokevirtual 591, 3) := by decide +kernel
theorem dX21_checkNew_9 : decode cX21_checkNew 9 = .ok (.ifCond .ge 18, 3) := by decide +kernel
theorem dX21_checkNew_12 : decode cX21_checkNew 12 = .ok (.aload_n 0, 1) := by decide +kernel
theorem dX21_checkNew_13 : decode cX21_checkNew 13 = .ok (.getfield 582, 3) := by decide +kernel
theorem dX21_checkNew_16 : decode cX21_checkNew 16 = .ok (.ifCond .ge 15, 3) := by decide +kernel
theorem dX21_checkNew_19 : decode cX21_checkNew 19 = .ok (.aload_n 0, 1) := by decide +kernel
theorem dX21_checkNew_20 : decode cX21_checkNew 20 = .ok (.iload_n 1, 1) := by decide +kernel
theorem dX21_checkNew_21 : decode cX21_checkNew 21 = .ok (.invokevirtual 594, 3) := by decide +kernel
theorem dX21_checkNew_24 : decode cX21_checkNew 24 = .ok (.ifCond .eq 7, 3) := by decide +kernel
theorem dX21_checkNew_27 : decode cX21_checkNew 27 = .ok (.iconst 1, 1) := by decide +kernel
theorem dX21_checkNew_28 : decode cX21_checkNew 28 = .ok (.goto 4, 3) := by decide +kernel
theorem dX21_checkNew_31 : decode cX21_checkNew 31 = .ok (.iconst 0, 1) := by decide +kernel
theorem dX21_checkNew_32 : decode cX21_checkNew 32 = .ok (.istore_n 2, 1) := by decide +kernel
theorem dX21_checkNew_33 : decode cX21_checkNew 33 = .ok (.iload_n 2, 1) := by decide +kernel
theorem dX21_checkNew_34 : decode cX21_checkNew 34 = .ok (.ifCond .eq 9, 3) := by decide +kernel
theorem dX21_checkNew_37 : decode cX21_checkNew 37 = .ok (.aload_n 0, 1) := by decide +kernel
theorem dX21_checkNew_38 : decode cX21_checkNew 38 = .ok (.iconst 1, 1) := by decide +kernel
theorem dX21_checkNew_39 : decode cX21_checkNew 39 = .ok (.iload_n 1, 1) := by decide +kernel
theorem dX21_checkNew_40 : decode cX21_checkNew 40 = .ok (.invokevirtual 597, 3) := by decide +kernel
theorem dX21_checkNew_43 : decode cX21_checkNew 43 = .ok (.return_, 1) := by decide +kernel
theorem dX21_find_0 : decode cX21_find 0 = .ok (.aload_n 0, 1) := by decide +kernel
theorem dX21_find_1 : decode cX21_find 1 = .ok (.getfield 556, 3) := by decide +kernel
theorem dX21_find_4 : decode cX21_find 4 = .ok (.iconst 1, 1) := by decide +kernel
theorem dX21_find_5 : decode cX21_find 5 = .ok (.isub, 1) := by decide +kernel
theorem dX21_find_6 : decode cX21_find 6 = .ok (.istore_n 3, 1) := by decide +kernel
theorem dX21_find_7 : decode cX21_find 7 = .ok (.iload_n 3, 1) := by decide +kernel
theorem dX21_find_8 : decode cX21_find 8 = .ok (.iload_n 2, 1) := by decide +kernel
theorem dX21_find_9 : decode cX21_find 9 = .ok (.if_icmp .lt 23, 3) := by decide +kernel
theorem dX21_find_12 : decode cX21_find 12 = .ok (.aload_n 0, 1) := by decide +kernel
theorem dX21_find_13 : decode cX21_find 13 = .ok (.aload_n 0, 1) := by decide +kernel
theorem dX21_find_14 : decode cX21_find 14 = .ok (.getfield 247, 3) := by decide +kernel
theorem dX21_find_17 : decode cX21_find 17 = .ok (.iload_n 3, 1) := by decide +kernel
theorem dX21_find_18 : decode cX21_find 18 = .ok (.iaload, 1) := by decide +kernel
theorem dX21_find_19 : decode cX21_find 19 = .ok (.iload_n 1, 1) := by decide +kernel
theorem dX21_find_20 : decode cX21_find 20 = .ok (.invokevirtual 559, 3) := by decide +kernel
theorem dX21_find_23 : decode cX21_find 23 = .ok (.ifCond .ne 9, 3) := by decide +kernel
theorem dX21_find_26 : decode cX21_find 26 = .ok (.iinc 3 (-1), 3) := by decide +kernel
theorem dX21_find_29 : decode cX21_find 29 = .ok (.goto (-22), 3) := by decide +kernel
theorem dX21_find_32 : decode cX21_find 32 = .ok (.iload_n 3, 1) := by decide +kernel
theorem dX21_find_33 : decode cX21_find 33 = .ok (.iload_n 2, 1) := by decide +kernel
theorem dX21_find_34 : decode cX21_find 34 = .ok (.if_icmp .lt 7, 3) := by decide +kernel
theorem dX21_find_37 : decode cX21_find 37 = .ok (.iload_n 3, 1) := by decide +kernel
theorem dX21_find_38 : decode cX21_find 38 = .ok (.goto 4, 3) := by decide +kernel
theorem dX21_find_41 : decode cX21_find 41 = .ok (.iconst (-1), 1) := by decide +kernel
theorem dX21_find_42 : decode cX21_find 42 = .ok (.ireturn, 1) := by decide +kernel
theorem dX21_isFunction_0 : decode cX21_isFunction 0 = .ok (.aload_n 0, 1) := by decide +kernel
theorem dX21_isFunction_1 : decode cX21_isFunction 1 = .ok (.iload_n 1, 1) := by decide +kernel
theorem dX21_isFunction_2 : decode cX21_isFunction 2 = .ok (.invokevirtual 573, 3) := by decide +kernel
theorem dX21_isFunction_5 : decode cX21_isFunction 5 = .ok (.ifCond .ge 11, 3) := by decide +kernel
theorem dX21_isFunction_8 : decode cX21_isFunction 8 = .ok (.aload_n 0, 1) := by decide +kernel
theorem dX21_isFunction_9 : decode cX21_isFunction 9 = .ok (.iload_n 1, 1) := by decide +kernel
theorem dX21_isFunction_10 : decode cX21_isFunction 10 = .ok (.invokevirtual 576, 3) := by decide +kernel
theorem dX21_isFunction_13 : decode cX21_isFunction 13 = .ok (.ifCond .lt 7, 3) := by decide +kernel
theorem dX21_isFunction_16 : decode cX21_isFunction 16 = .ok (.iconst 1, 1) := by decide +kernel
theorem dX21_isFunction_17 : decode cX21_isFunction 17 = .ok (.goto 4, 3) := by decide +kernel
theorem dX21_isFunction_20 : decode cX21_isFunction 20 = .ok (.iconst 0, 1) := by decide +kernel
theorem dX21_isFunction_21 : decode cX21_isFunction 21 = .ok (.ireturn, 1) := by decide +kernel
theorem dX21_lay_0 : decode cX21_lay 0 = .ok (.aload_n 0, 1) := by decide +kernel
theorem dX21_lay_1 : decode cX21_lay 1 = .ok (.getfield 262, 3) := by decide +kernel
theorem dX21_lay_4 : decode cX21_lay 4 = .ok (.aload_n 0, 1) := by decide +kernel
theorem dX21_lay_5 : decode cX21_lay 5 = .ok (.getfield 579, 3) := by decide +kernel
theorem dX21_lay_8 : decode cX21_lay 8 = .ok (.iload_n 1, 1) := by decide +kernel
theorem dX21_lay_9 : decode cX21_lay 9 = .ok (.i2b, 1) := by decide +kernel
theorem dX21_lay_10 : decode cX21_lay 10 = .ok (.bastore, 1) := by decide +kernel
theorem dX21_lay_11 : decode cX21_lay 11 = .ok (.aload_n 0, 1) := by decide +kernel
theorem dX21_lay_12 : decode cX21_lay 12 = .ok (.getfield 265, 3) := by decide +kernel
theorem dX21_lay_15 : decode cX21_lay 15 = .ok (.aload_n 0, 1) := by decide +kernel
theorem dX21_lay_16 : decode cX21_lay 16 = .ok (.getfield 579, 3) := by decide +kernel
theorem dX21_lay_19 : decode cX21_lay 19 = .ok (.aload_n 0, 1) := by decide +kernel
theorem dX21_lay_20 : decode cX21_lay 20 = .ok (.getfield 582, 3) := by decide +kernel
theorem dX21_lay_23 : decode cX21_lay 23 = .ok (.ifCond .ge 7, 3) := by decide +kernel
theorem dX21_lay_26 : decode cX21_lay 26 = .ok (.iconst 1, 1) := by decide +kernel
theorem dX21_lay_27 : decode cX21_lay 27 = .ok (.goto 4, 3) := by decide +kernel
theorem dX21_lay_30 : decode cX21_lay 30 = .ok (.iconst 0, 1) := by decide +kernel
theorem dX21_lay_31 : decode cX21_lay 31 = .ok (.bastore, 1) := by decide +kernel
theorem dX21_lay_32 : decode cX21_lay 32 = .ok (.aload_n 0, 1) := by decide +kernel
theorem dX21_lay_33 : decode cX21_lay 33 = .ok (.getfield 269, 3) := by decide +kernel
theorem dX21_lay_36 : decode cX21_lay 36 = .ok (.aload_n 0, 1) := by decide +kernel
theorem dX21_lay_37 : decode cX21_lay 37 = .ok (.getfield 579, 3) := by decide +kernel
theorem dX21_lay_40 : decode cX21_lay 40 = .ok (.aload_n 0, 1) := by decide +kernel
theorem dX21_lay_41 : decode cX21_lay 41 = .ok (.getfield 585, 3) := by decide +kernel
theorem dX21_lay_44 : decode cX21_lay 44 = .ok (.iastore, 1) := by decide +kernel
theorem dX21_lay_45 : decode cX21_lay 45 = .ok (.aload_n 0, 1) := by decide +kernel
theorem dX21_lay_46 : decode cX21_lay 46 = .ok (.getfield 272, 3) := by decide +kernel
theorem dX21_lay_49 : decode cX21_lay 49 = .ok (.aload_n 0, 1) := by decide +kernel
theorem dX21_lay_50 : decode cX21_lay 50 = .ok (.getfield 579, 3) := by decide +kernel
theorem dX21_lay_53 : decode cX21_lay 53 = .ok (.iload_n 2, 1) := by decide +kernel
theorem dX21_lay_54 : decode cX21_lay 54 = .ok (.iastore, 1) := by decide +kernel
theorem dX21_lay_55 : decode cX21_lay 55 = .ok (.aload_n 0, 1) := by decide +kernel
theorem dX21_lay_56 : decode cX21_lay 56 = .ok (.aload_n 0, 1) := by decide +kernel
theorem dX21_lay_57 : decode cX21_lay 57 = .ok (.getfield 585, 3) := by decide +kernel
theorem dX21_lay_60 : decode cX21_lay 60 = .ok (.iload_n 1, 1) := by decide +kernel
theorem dX21_lay_61 : decode cX21_lay 61 = .ok (.iconst 4, 1) := by decide +kernel
theorem dX21_lay_62 : decode cX21_lay 62 = .ok (.if_icmp .lt 7, 3) := by decide +kernel
theorem dX21_lay_65 : decode cX21_lay 65 = .ok (.iconst 2, 1) := by decide +kernel
theorem dX21_lay_66 : decode cX21_lay 66 = .ok (.goto 4, 3) := by decide +kernel
theorem dX21_lay_69 : decode cX21_lay 69 = .ok (.iload_n 2, 1) := by decide +kernel
theorem dX21_lay_70 : decode cX21_lay 70 = .ok (.iadd, 1) := by decide +kernel
theorem dX21_lay_71 : decode cX21_lay 71 = .ok (.putfield 585, 3) := by decide +kernel
theorem dX21_lay_74 : decode cX21_lay 74 = .ok (.aload_n 0, 1) := by decide +kernel
theorem dX21_lay_75 : decode cX21_lay 75 = .ok (.dup, 1) := by decide +kernel
theorem dX21_lay_76 : decode cX21_lay 76 = .ok (.getfield 579, 3) := by decide +kernel
theorem dX21_lay_79 : decode cX21_lay 79 = .ok (.iconst 1, 1) := by decide +kernel
theorem dX21_lay_80 : decode cX21_lay 80 = .ok (.iadd, 1) := by decide +kernel
theorem dX21_lay_81 : decode cX21_lay 81 = .ok (.putfield 579, 3) := by decide +kernel
theorem dX21_lay_84 : decode cX21_lay 84 = .ok (.aload_n 0, 1) := by decide +kernel
theorem dX21_lay_85 : decode cX21_lay 85 = .ok (.getfield 579, 3) := by decide +kernel
theorem dX21_lay_88 : decode cX21_lay 88 = .ok (.iconst 1, 1) := by decide +kernel
theorem dX21_lay_89 : decode cX21_lay 89 = .ok (.isub, 1) := by decide +kernel
theorem dX21_lay_90 : decode cX21_lay 90 = .ok (.ireturn, 1) := by decide +kernel
theorem dX21_know_0 : decode cX21_know 0 = .ok (.aload_n 0, 1) := by decide +kernel
theorem dX21_know_1 : decode cX21_know 1 = .ok (.getfield 275, 3) := by decide +kernel
theorem dX21_know_4 : decode cX21_know 4 = .ok (.aload_n 0, 1) := by decide +kernel
theorem dX21_know_5 : decode cX21_know 5 = .ok (.getfield 556, 3) := by decide +kernel
theorem dX21_know_8 : decode cX21_know 8 = .ok (.iload 4, 2) := by decide +kernel
theorem dX21_know_10 : decode cX21_know 10 = .ok (.iastore, 1) := by decide +kernel
theorem dX21_know_11 : decode cX21_know 11 = .ok (.aload_n 0, 1) := by decide +kernel
theorem dX21_know_12 : decode cX21_know 12 = .ok (.getfield 247, 3) := by decide +kernel
theorem dX21_know_15 : decode cX21_know 15 = .ok (.aload_n 0, 1) := by decide +kernel
theorem dX21_know_16 : decode cX21_know 16 = .ok (.getfield 556, 3) := by decide +kernel
theorem dX21_know_19 : decode cX21_know 19 = .ok (.iload_n 1, 1) := by decide +kernel
theorem dX21_know_20 : decode cX21_know 20 = .ok (.iastore, 1) := by decide +kernel
theorem dX21_know_21 : decode cX21_know 21 = .ok (.aload_n 0, 1) := by decide +kernel
theorem dX21_know_22 : decode cX21_know 22 = .ok (.getfield 250, 3) := by decide +kernel
theorem dX21_know_25 : decode cX21_know 25 = .ok (.aload_n 0, 1) := by decide +kernel
theorem dX21_know_26 : decode cX21_know 26 = .ok (.getfield 556, 3) := by decide +kernel
theorem dX21_know_29 : decode cX21_know 29 = .ok (.iload_n 2, 1) := by decide +kernel
theorem dX21_know_30 : decode cX21_know 30 = .ok (.iastore, 1) := by decide +kernel
theorem dX21_know_31 : decode cX21_know 31 = .ok (.aload_n 0, 1) := by decide +kernel
theorem dX21_know_32 : decode cX21_know 32 = .ok (.getfield 253, 3) := by decide +kernel
theorem dX21_know_35 : decode cX21_know 35 = .ok (.aload_n 0, 1) := by decide +kernel
theorem dX21_know_36 : decode cX21_know 36 = .ok (.getfield 556, 3) := by decide +kernel
theorem dX21_know_39 : decode cX21_know 39 = .ok (.iload_n 3, 1) := by decide +kernel
theorem dX21_know_40 : decode cX21_know 40 = .ok (.iastore, 1) := by decide +kernel
theorem dX21_know_41 : decode cX21_know 41 = .ok (.aload_n 0, 1) := by decide +kernel
theorem dX21_know_42 : decode cX21_know 42 = .ok (.dup, 1) := by decide +kernel
theorem dX21_know_43 : decode cX21_know 43 = .ok (.getfield 556, 3) := by decide +kernel
theorem dX21_know_46 : decode cX21_know 46 = .ok (.iconst 1, 1) := by decide +kernel
theorem dX21_know_47 : decode cX21_know 47 = .ok (.iadd, 1) := by decide +kernel
theorem dX21_know_48 : decode cX21_know 48 = .ok (.putfield 556, 3) := by decide +kernel
theorem dX21_know_51 : decode cX21_know 51 = .ok (.return_, 1) := by decide +kernel
theorem dX21_statements_0 : decode cX21_statements 0 = .ok (.iload_n 1, 1) := by decide +kernel
theorem dX21_statements_1 : decode cX21_statements 1 = .ok (.istore_n 2, 1) := by decide +kernel
theorem dX21_statements_2 : decode cX21_statements 2 = .ok (.iload_n 2, 1) := by decide +kernel
theorem dX21_statements_3 : decode cX21_statements 3 = .ok (.ifCond .lt 18, 3) := by decide +kernel
theorem dX21_statements_6 : decode cX21_statements 6 = .ok (.aload_n 0, 1) := by decide +kernel
theorem dX21_statements_7 : decode cX21_statements 7 = .ok (.iload_n 2, 1) := by decide +kernel
theorem dX21_statements_8 : decode cX21_statements 8 = .ok (.invokevirtual 667, 3) := by decide +kernel
theorem dX21_statements_11 : decode cX21_statements 11 = .ok (.aload_n 0, 1) := by decide +kernel
theorem dX21_statements_12 : decode cX21_statements 12 = .ok (.getfield 229, 3) := by decide +kernel
theorem dX21_statements_15 : decode cX21_statements 15 = .ok (.iload_n 2, 1) := by decide +kernel
theorem dX21_statements_16 : decode cX21_statements 16 = .ok (.iaload, 1) := by decide +kernel
theorem dX21_statements_17 : decode cX21_statements 17 = .ok (.istore_n 2, 1) := by decide +kernel
theorem dX21_statements_18 : decode cX21_statements 18 = .ok (.goto (-16), 3) := by decide +kernel
theorem dX21_statements_21 : decode cX21_statements 21 = .ok (.return_, 1) := by decide +kernel
theorem dX21_checkStatement_0 : decode cX21_checkStatement 0 = .ok (.aload_n 0, 1) := by decide +kernel
theorem dX21_checkStatement_1 : decode cX21_checkStatement 1 = .ok (.getfield 208, 3) := by decide +kernel
theorem dX21_checkStatement_4 : decode cX21_checkStatement 4 = .ok (.iload_n 1, 1) := by decide +kernel
theorem dX21_checkStatement_5 : decode cX21_checkStatement 5 = .ok (.baload, 1) := by decide +kernel
theorem dX21_checkStatement_6 : decode cX21_checkStatement 6 = .ok (.tableswitch 221 20 33 #[70, 78, 81, 94, 103, 147, 172, 197, 205, 221, 221, 221, 221, 213], 70) := by decide +kernel
theorem dX21_checkStatement_76 : decode cX21_checkStatement 76 = .ok (.aload_n 0, 1) := by decide +kernel
theorem dX21_checkStatement_77 : decode cX21_checkStatement 77 = .ok (.iload_n 1, 1) := by decide +kernel
theorem dX21_checkStatement_78 : decode cX21_checkStatement 78 = .ok (.invokevirtual 676, 3) := by decide +kernel
theorem dX21_checkStatement_81 : decode cX21_checkStatement 81 = .ok (.goto 193, 3) := by decide +kernel
theorem dX21_checkStatement_84 : decode cX21_checkStatement 84 = .ok (.goto 190, 3) := by decide +kernel
theorem dX21_checkStatement_87 : decode cX21_checkStatement 87 = .ok (.aload_n 0, 1) := by decide +kernel
theorem dX21_checkStatement_88 : decode cX21_checkStatement 88 = .ok (.aload_n 0, 1) := by decide +kernel
theorem dX21_checkStatement_89 : decode cX21_checkStatement 89 = .ok (.getfield 217, 3) := by decide +kernel
theorem dX21_checkStatement_92 : decode cX21_checkStatement 92 = .ok (.iload_n 1, 1) := by decide +kernel
theorem dX21_checkStatement_93 : decode cX21_checkStatement 93 = .ok (.iaload, 1) := by decide +kernel
theorem dX21_checkStatement_94 : decode cX21_checkStatement 94 = .ok (.invokevirtual 679, 3) := by decide +kernel
theorem dX21_checkStatement_97 : decode cX21_checkStatement 97 = .ok (.goto 177, 3) := by decide +kernel
theorem dX21_checkStatement_100 : decode cX21_checkStatement 100 = .ok (.aload_n 0, 1) := by decide +kernel
theorem dX21_checkStatement_101 : decode cX21_checkStatement 101 = .ok (.iload_n 1, 1) := by decide +kernel
theorem dX21_checkStatement_102 : decode cX21_checkStatement 102 = .ok (.iconst 0, 1) := by decide +kernel
theorem dX21_checkStatement_103 : decode cX21_checkStatement 103 = .ok (.invokevirtual 682, 3) := by decide +kernel
theorem dX21_checkStatement_106 : decode cX21_checkStatement 106 = .ok (.goto 168, 3) := by decide +kernel
theorem dX21_checkStatement_109 : decode cX21_checkStatement 109 = .ok (.aload_n 0, 1) := by decide +kernel
theorem dX21_checkStatement_110 : decode cX21_checkStatement 110 = .ok (.aload_n 0, 1) := by decide +kernel
theorem dX21_checkStatement_111 : decode cX21_checkStatement 111 = .ok (.getfield 217, 3) := by decide +kernel
theorem dX21_checkStatement_114 : decode cX21_checkStatement 114 = .ok (.iload_n 1, 1) := by decide +kernel
theorem dX21_checkStatement_115 : decode cX21_checkStatement 115 = .ok (.iaload, 1) := by decide +kernel
theorem dX21_checkStatement_116 : decode cX21_checkStatement 116 = .ok (.iconst 1, 1) := by decide +kernel
theorem dX21_checkStatement_117 : decode cX21_checkStatement 117 = .ok (.invokevirtual 609, 3) := by decide +kernel
theorem dX21_checkStatement_120 : decode cX21_checkStatement 120 = .ok (.pop, 1) := by decide +kernel
theorem dX21_checkStatement_121 : decode cX21_checkStatement 121 = .ok (.aload_n 0, 1) := by decide +kernel
theorem dX21_checkStatement_122 : decode cX21_checkStatement 122 = .ok (.aload_n 0, 1) := by decide +kernel
theorem dX21_checkStatement_123 : decode cX21_checkStatement 123 = .ok (.getfield 220, 3) := by decide +kernel
theorem dX21_checkStatement_126 : decode cX21_checkStatement 126 = .ok (.iload_n 1, 1) := by decide +kernel
theorem dX21_checkStatement_127 : decode cX21_checkStatement 127 = .ok (.iaload, 1) := by decide +kernel
theorem dX21_checkStatement_128 : decode cX21_checkStatement 128 = .ok (.invokevirtual 667, 3) := by decide +kernel
theorem dX21_checkStatement_131 : decode cX21_checkStatement 131 = .ok (.aload_n 0, 1) := by decide +kernel
theorem dX21_checkStatement_132 : decode cX21_checkStatement 132 = .ok (.getfield 223, 3) := by decide +kernel
theorem dX21_checkStatement_135 : decode cX21_checkStatement 135 = .ok (.iload_n 1, 1) := by decide +kernel
theorem dX21_checkStatement_136 : decode cX21_checkStatement 136 = .ok (.iaload, 1) := by decide +kernel
theorem dX21_checkStatement_137 : decode cX21_checkStatement 137 = .ok (.ifCond .lt 137, 3) := by decide +kernel
theorem dX21_checkStatement_140 : decode cX21_checkStatement 140 = .ok (.aload_n 0, 1) := by decide +kernel
theorem dX21_checkStatement_141 : decode cX21_checkStatement 141 = .ok (.aload_n 0, 1) := by decide +kernel
theorem dX21_checkStatement_142 : decode cX21_checkStatement 142 = .ok (.getfield 223, 3) := by decide +kernel
theorem dX21_checkStatement_145 : decode cX21_checkStatement 145 = .ok (.iload_n 1, 1) := by decide +kernel
theorem dX21_checkStatement_146 : decode cX21_checkStatement 146 = .ok (.iaload, 1) := by decide +kernel
theorem dX21_checkStatement_147 : decode cX21_checkStatement 147 = .ok (.invokevirtual 667, 3) := by decide +kernel
theorem dX21_checkStatement_150 : decode cX21_checkStatement 150 = .ok (.goto 124, 3) := by decide +kernel
theorem dX21_checkStatement_153 : decode cX21_checkStatement 153 = .ok (.aload_n 0, 1) := by decide +kernel
theorem dX21_checkStatement_154 : decode cX21_checkStatement 154 = .ok (.aload_n 0, 1) := by decide +kernel
theorem dX21_checkStatement_155 : decode cX21_checkStatement 155 = .ok (.getfield 217, 3) := by decide +kernel
theorem dX21_checkStatement_158 : decode cX21_checkStatement 158 = .ok (.iload_n 1, 1) := by decide +kernel
theorem dX21_checkStatement_159 : decode cX21_checkStatement 159 = .ok (.iaload, 1) := by decide +kernel
theorem dX21_checkStatement_160 : decode cX21_checkStatement 160 = .ok (.iconst 1, 1) := by decide +kernel
theorem dX21_checkStatement_161 : decode cX21_checkStatement 161 = .ok (.invokevirtual 609, 3) := by decide +kernel
theorem dX21_checkStatement_164 : decode cX21_checkStatement 164 = .ok (.pop, 1) := by decide +kernel
theorem dX21_checkStatement_165 : decode cX21_checkStatement 165 = .ok (.aload_n 0, 1) := by decide +kernel
theorem dX21_checkStatement_166 : decode cX21_checkStatement 166 = .ok (.aload_n 0, 1) := by decide +kernel
theorem dX21_checkStatement_167 : decode cX21_checkStatement 167 = .ok (.getfield 220, 3) := by decide +kernel
theorem dX21_checkStatement_170 : decode cX21_checkStatement 170 = .ok (.iload_n 1, 1) := by decide +kernel
theorem dX21_checkStatement_171 : decode cX21_checkStatement 171 = .ok (.iaload, 1) := by decide +kernel
theorem dX21_checkStatement_172 : decode cX21_checkStatement 172 = .ok (.invokevirtual 686, 3) := by decide +kernel
theorem dX21_checkStatement_175 : decode cX21_checkStatement 175 = .ok (.goto 99, 3) := by decide +kernel
theorem dX21_checkStatement_178 : decode cX21_checkStatement 178 = .ok (.aload_n 0, 1) := by decide +kernel
theorem dX21_checkStatement_179 : decode cX21_checkStatement 179 = .ok (.aload_n 0, 1) := by decide +kernel
theorem dX21_checkStatement_180 : decode cX21_checkStatement 180 = .ok (.getfield 220, 3) := by decide +kernel
theorem dX21_checkStatement_183 : decode cX21_checkStatement 183 = .ok (.iload_n 1, 1) := by decide +kernel
theorem dX21_checkStatement_184 : decode cX21_checkStatement 184 = .ok (.iaload, 1) := by decide +kernel
theorem dX21_checkStatement_185 : decode cX21_checkStatement 185 = .ok (.invokevirtual 686, 3) := by decide +kernel
theorem dX21_checkStatement_188 : decode cX21_checkStatement 188 = .ok (.aload_n 0, 1) := by decide +kernel
theorem dX21_checkStatement_189 : decode cX21_checkStatement 189 = .ok (.aload_n 0, 1) := by decide +kernel
theorem dX21_checkStatement_190 : decode cX21_checkStatement 190 = .ok (.getfield 217, 3) := by decide +kernel
theorem dX21_checkStatement_193 : decode cX21_checkStatement 193 = .ok (.iload_n 1, 1) := by decide +kernel
theorem dX21_checkStatement_194 : decode cX21_checkStatement 194 = .ok (.iaload, 1) := by decide +kernel
theorem dX21_checkStatement_195 : decode cX21_checkStatement 195 = .ok (.iconst 1, 1) := by decide +kernel
theorem dX21_checkStatement_196 : decode cX21_checkStatement 196 = .ok (.invokevirtual 609, 3) := by decide +kernel
theorem dX21_checkStatement_199 : decode cX21_checkStatement 199 = .ok (.pop, 1) := by decide +kernel
theorem dX21_checkStatement_200 : decode cX21_checkStatement 200 = .ok (.goto 74, 3) := by decide +kernel
theorem dX21_checkStatement_203 : decode cX21_checkStatement 203 = .ok (.aload_n 0, 1) := by decide +kernel
theorem dX21_checkStatement_204 : decode cX21_checkStatement 204 = .ok (.iload_n 1, 1) := by decide +kernel
theorem dX21_checkStatement_205 : decode cX21_checkStatement 205 = .ok (.invokevirtual 689, 3) := by decide +kernel
theorem dX21_checkStatement_208 : decode cX21_checkStatement 208 = .ok (.goto 66, 3) := by decide +kernel
theorem dX21_checkStatement_211 : decode cX21_checkStatement 211 = .ok (.aload_n 0, 1) := by decide +kernel
theorem dX21_checkStatement_212 : decode cX21_checkStatement 212 = .ok (.iload_n 1, 1) := by decide +kernel
theorem dX21_checkStatement_213 : decode cX21_checkStatement 213 = .ok (.invokevirtual 692, 3) := by decide +kernel
theorem dX21_checkStatement_216 : decode cX21_checkStatement 216 = .ok (.goto 58, 3) := by decide +kernel
theorem dX21_checkStatement_219 : decode cX21_checkStatement 219 = .ok (.aload_n 0, 1) := by decide +kernel
theorem dX21_checkStatement_220 : decode cX21_checkStatement 220 = .ok (.iload_n 1, 1) := by decide +kernel
theorem dX21_checkStatement_221 : decode cX21_checkStatement 221 = .ok (.invokevirtual 695, 3) := by decide +kernel
theorem dX21_checkStatement_224 : decode cX21_checkStatement 224 = .ok (.goto 50, 3) := by decide +kernel
theorem dX21_checkStatement_227 : decode cX21_checkStatement 227 = .ok (.aload_n 0, 1) := by decide +kernel
theorem dX21_checkStatement_228 : decode cX21_checkStatement 228 = .ok (.getfield 698, 3) := by decide +kernel
theorem dX21_checkStatement_231 : decode cX21_checkStatement 231 = .ok (.ifCond .gt 21, 3) := by decide +kernel
theorem dX21_checkStatement_234 : decode cX21_checkStatement 234 = .ok (.aload_n 0, 1) := by decide +kernel
theorem dX21_checkStatement_235 : decode cX21_checkStatement 235 = .ok (.getfield 208, 3) := by decide +kernel
theorem dX21_checkStatement_238 : decode cX21_checkStatement 238 = .ok (.iload_n 1, 1) := by decide +kernel
theorem dX21_checkStatement_239 : decode cX21_checkStatement 239 = .ok (.baload, 1) := by decide +kernel
theorem dX21_checkStatement_240 : decode cX21_checkStatement 240 = .ok (.bipush 31, 2) := by decide +kernel
theorem dX21_checkStatement_242 : decode cX21_checkStatement 242 = .ok (.if_icmp .ne 14, 3) := by decide +kernel
theorem dX21_checkStatement_245 : decode cX21_checkStatement 245 = .ok (.aload_n 0, 1) := by decide +kernel
theorem dX21_checkStatement_246 : decode cX21_checkStatement 246 = .ok (.getfield 701, 3) := by decide +kernel
theorem dX21_checkStatement_249 : decode cX21_checkStatement 249 = .ok (.ifCond .le 7, 3) := by decide +kernel
theorem dX21_checkStatement_252 : decode cX21_checkStatement 252 = .ok (.iconst 1, 1) := by decide +kernel
theorem dX21_checkStatement_253 : decode cX21_checkStatement 253 = .ok (.goto 4, 3) := by decide +kernel
theorem dX21_checkStatement_256 : decode cX21_checkStatement 256 = .ok (.iconst 0, 1) := by decide +kernel
theorem dX21_checkStatement_257 : decode cX21_checkStatement 257 = .ok (.istore_n 2, 1) := by decide +kernel
theorem dX21_checkStatement_258 : decode cX21_checkStatement 258 = .ok (.iload_n 2, 1) := by decide +kernel
theorem dX21_checkStatement_259 : decode cX21_checkStatement 259 = .ok (.ifCond .ne 15, 3) := by decide +kernel
theorem dX21_checkStatement_262 : decode cX21_checkStatement 262 = .ok (.aload_n 0, 1) := by decide +kernel
theorem dX21_checkStatement_263 : decode cX21_checkStatement 263 = .ok (.bipush 9, 2) := by decide +kernel
theorem dX21_checkStatement_265 : decode cX21_checkStatement 265 = .ok (.aload_n 0, 1) := by decide +kernel
theorem dX21_checkStatement_266 : decode cX21_checkStatement 266 = .ok (.getfield 211, 3) := by decide +kernel
theorem dX21_checkStatement_269 : decode cX21_checkStatement 269 = .ok (.iload_n 1, 1) := by decide +kernel
theorem dX21_checkStatement_270 : decode cX21_checkStatement 270 = .ok (.iaload, 1) := by decide +kernel
theorem dX21_checkStatement_271 : decode cX21_checkStatement 271 = .ok (.invokevirtual 597, 3) := by decide +kernel
theorem dX21_checkStatement_274 : decode cX21_checkStatement 274 = .ok (.return_, 1) := by decide +kernel
theorem dX21_checkBlock_0 : decode cX21_checkBlock 0 = .ok (.aload_n 0, 1) := by decide +kernel
theorem dX21_checkBlock_1 : decode cX21_checkBlock 1 = .ok (.getfield 556, 3) := by decide +kernel
theorem dX21_checkBlock_4 : decode cX21_checkBlock 4 = .ok (.istore_n 2, 1) := by decide +kernel
theorem dX21_checkBlock_5 : decode cX21_checkBlock 5 = .ok (.aload_n 0, 1) := by decide +kernel
theorem dX21_checkBlock_6 : decode cX21_checkBlock 6 = .ok (.getfield 588, 3) := by decide +kernel
theorem dX21_checkBlock_9 : decode cX21_checkBlock 9 = .ok (.istore_n 3, 1) := by decide +kernel
theorem dX21_checkBlock_10 : decode cX21_checkBlock 10 = .ok (.aload_n 0, 1) := by decide +kernel
theorem dX21_checkBlock_11 : decode cX21_checkBlock 11 = .ok (.aload_n 0, 1) := by decide +kernel
theorem dX21_checkBlock_12 : decode cX21_checkBlock 12 = .ok (.getfield 556, 3) := by decide +kernel
theorem dX21_checkBlock_15 : decode cX21_checkBlock 15 = .ok (.putfield 588, 3) := by decide +kernel
theorem dX21_checkBlock_18 : decode cX21_checkBlock 18 = .ok (.aload_n 0, 1) := by decide +kernel
theorem dX21_checkBlock_19 : decode cX21_checkBlock 19 = .ok (.aload_n 0, 1) := by decide +kernel
theorem dX21_checkBlock_20 : decode cX21_checkBlock 20 = .ok (.getfield 217, 3) := by decide +kernel
theorem dX21_checkBlock_23 : decode cX21_checkBlock 23 = .ok (.iload_n 1, 1) := by decide +kernel
theorem dX21_checkBlock_24 : decode cX21_checkBlock 24 = .ok (.iaload, 1) := by decide +kernel
theorem dX21_checkBlock_25 : decode cX21_checkBlock 25 = .ok (.invokevirtual 670, 3) := by decide +kernel
theorem dX21_checkBlock_28 : decode cX21_checkBlock 28 = .ok (.aload_n 0, 1) := by decide +kernel
theorem dX21_checkBlock_29 : decode cX21_checkBlock 29 = .ok (.iload_n 2, 1) := by decide +kernel
theorem dX21_checkBlock_30 : decode cX21_checkBlock 30 = .ok (.iload_n 3, 1) := by decide +kernel
theorem dX21_checkBlock_31 : decode cX21_checkBlock 31 = .ok (.invokevirtual 673, 3) := by decide +kernel
theorem dX21_checkBlock_34 : decode cX21_checkBlock 34 = .ok (.return_, 1) := by decide +kernel
theorem dX21_leave_0 : decode cX21_leave 0 = .ok (.aload_n 0, 1) := by decide +kernel
theorem dX21_leave_1 : decode cX21_leave 1 = .ok (.iload_n 1, 1) := by decide +kernel
theorem dX21_leave_2 : decode cX21_leave 2 = .ok (.putfield 556, 3) := by decide +kernel
theorem dX21_leave_5 : decode cX21_leave 5 = .ok (.aload_n 0, 1) := by decide +kernel
theorem dX21_leave_6 : decode cX21_leave 6 = .ok (.iload_n 2, 1) := by decide +kernel
theorem dX21_leave_7 : decode cX21_leave 7 = .ok (.putfield 588, 3) := by decide +kernel
theorem dX21_leave_10 : decode cX21_leave 10 = .ok (.return_, 1) := by decide +kernel
theorem dX21_checkAlone_0 : decode cX21_checkAlone 0 = .ok (.aload_n 0, 1) := by decide +kernel
theorem dX21_checkAlone_1 : decode cX21_checkAlone 1 = .ok (.iload_n 1, 1) := by decide +kernel
theorem dX21_checkAlone_2 : decode cX21_checkAlone 2 = .ok (.iconst 0, 1) := by decide +kernel
theorem dX21_checkAlone_3 : decode cX21_checkAlone 3 = .ok (.invokevirtual 609, 3) := by decide +kernel
theorem dX21_checkAlone_6 : decode cX21_checkAlone 6 = .ok (.istore_n 2, 1) := by decide +kernel
theorem dX21_checkAlone_7 : decode cX21_checkAlone 7 = .ok (.iload_n 2, 1) := by decide +kernel
theorem dX21_checkAlone_8 : decode cX21_checkAlone 8 = .ok (.iconst 2, 1) := by decide +kernel
theorem dX21_checkAlone_9 : decode cX21_checkAlone 9 = .ok (.if_icmp .eq 8, 3) := by decide +kernel
theorem dX21_checkAlone_12 : decode cX21_checkAlone 12 = .ok (.iload_n 2, 1) := by decide +kernel
theorem dX21_checkAlone_13 : decode cX21_checkAlone 13 = .ok (.iconst 3, 1) := by decide +kernel
theorem dX21_checkAlone_14 : decode cX21_checkAlone 14 = .ok (.if_icmp .ne 13, 3) := by decide +kernel
theorem dX21_checkAlone_17 : decode cX21_checkAlone 17 = .ok (.aload_n 0, 1) := by decide +kernel
theorem dX21_checkAlone_18 : decode cX21_checkAlone 18 = .ok (.iconst 3, 1) := by decide +kernel
theorem dX21_checkAlone_19 : decode cX21_checkAlone 19 = .ok (.aload_n 0, 1) := by decide +kernel
theorem dX21_checkAlone_20 : decode cX21_checkAlone 20 = .ok (.iload_n 1, 1) := by decide +kernel
theorem dX21_checkAlone_21 : decode cX21_checkAlone 21 = .ok (.invokevirtual 616, 3) := by decide +kernel
theorem dX21_checkAlone_24 : decode cX21_checkAlone 24 = .ok (.invokevirtual 597, 3) := by decide +kernel
theorem dX21_checkAlone_27 : decode cX21_checkAlone 27 = .ok (.return_, 1) := by decide +kernel
theorem dX21_check_0 : decode cX21_check 0 = .ok (.iconst 1, 1) := by decide +kernel
theorem dX21_check_1 : decode cX21_check 1 = .ok (.istore_n 3, 1) := by decide +kernel
theorem dX21_check_2 : decode cX21_check 2 = .ok (.aload_n 0, 1) := by decide +kernel
theorem dX21_check_3 : decode cX21_check 3 = .ok (.getfield 208, 3) := by decide +kernel
theorem dX21_check_6 : decode cX21_check 6 = .ok (.iload_n 1, 1) := by decide +kernel
theorem dX21_check_7 : decode cX21_check 7 = .ok (.baload, 1) := by decide +kernel
theorem dX21_check_8 : decode cX21_check 8 = .ok (.tableswitch 256 1 8 #[48, 51, 60, 69, 89, 153, 181, 217], 48) := by decide +kernel
theorem dX21_check_56 : decode cX21_check 56 = .ok (.goto 245, 3) := by decide +kernel
theorem dX21_check_59 : decode cX21_check 59 = .ok (.aload_n 0, 1) := by decide +kernel
theorem dX21_check_60 : decode cX21_check 60 = .ok (.iload_n 1, 1) := by decide +kernel
theorem dX21_check_61 : decode cX21_check 61 = .ok (.invokevirtual 600, 3) := by decide +kernel
theorem dX21_check_64 : decode cX21_check 64 = .ok (.istore_n 3, 1) := by decide +kernel
theorem dX21_check_65 : decode cX21_check 65 = .ok (.goto 236, 3) := by decide +kernel
theorem dX21_check_68 : decode cX21_check 68 = .ok (.aload_n 0, 1) := by decide +kernel
theorem dX21_check_69 : decode cX21_check 69 = .ok (.iload_n 1, 1) := by decide +kernel
theorem dX21_check_70 : decode cX21_check 70 = .ok (.invokevirtual 603, 3) := by decide +kernel
theorem dX21_check_73 : decode cX21_check 73 = .ok (.istore_n 3, 1) := by decide +kernel
theorem dX21_check_74 : decode cX21_check 74 = .ok (.goto 227, 3) := by decide +kernel
theorem dX21_check_77 : decode cX21_check 77 = .ok (.aload_n 0, 1) := by decide +kernel
theorem dX21_check_78 : decode cX21_check 78 = .ok (.iload_n 1, 1) := by decide +kernel
theorem dX21_check_79 : decode cX21_check 79 = .ok (.invokevirtual 606, 3) := by decide +kernel
theorem dX21_check_82 : decode cX21_check 82 = .ok (.aload_n 0, 1) := by decide +kernel
theorem dX21_check_83 : decode cX21_check 83 = .ok (.aload_n 0, 1) := by decide +kernel
theorem dX21_check_84 : decode cX21_check 84 = .ok (.getfield 217, 3) := by decide +kernel
theorem dX21_check_87 : decode cX21_check 87 = .ok (.iload_n 1, 1) := by decide +kernel
theorem dX21_check_88 : decode cX21_check 88 = .ok (.iaload, 1) := by decide +kernel
theorem dX21_check_89 : decode cX21_check 89 = .ok (.iconst 1, 1) := by decide +kernel
theorem dX21_check_90 : decode cX21_check 90 = .ok (.invokevirtual 609, 3) := by decide +kernel
theorem dX21_check_93 : decode cX21_check 93 = .ok (.pop, 1) := by decide +kernel
theorem dX21_check_94 : decode cX21_check 94 = .ok (.goto 207, 3) := by decide +kernel
theorem dX21_check_97 : decode cX21_check 97 = .ok (.aload_n 0, 1) := by decide +kernel
theorem dX21_check_98 : decode cX21_check 98 = .ok (.getfield 199, 3) := by decide +kernel
theorem dX21_check_101 : decode cX21_check 101 = .ok (.aload_n 0, 1) := by decide +kernel
theorem dX21_check_102 : decode cX21_check 102 = .ok (.getfield 211, 3) := by decide +kernel
theorem dX21_check_105 : decode cX21_check 105 = .ok (.iload_n 1, 1) := by decide +kernel
theorem dX21_check_106 : decode cX21_check 106 = .ok (.iaload, 1) := by decide +kernel
theorem dX21_check_107 : decode cX21_check 107 = .ok (.iaload, 1) := by decide +kernel
theorem dX21_check_108 : decode cX21_check 108 = .ok (.iconst 2, 1) := by decide +kernel
theorem dX21_check_109 : decode cX21_check 109 = .ok (.if_icmp .ne 7, 3) := by decide +kernel
theorem dX21_check_112 : decode cX21_check 112 = .ok (.iconst 1, 1) := by decide +kernel
theorem dX21_check_113 : decode cX21_check 113 = .ok (.goto 4, 3) := by decide +kernel
theorem dX21_check_116 : decode cX21_check 116 = .ok (.iconst 0, 1) := by decide +kernel
theorem dX21_check_117 : decode cX21_check 117 = .ok (.istore 4, 2) := by decide +kernel
theorem dX21_check_119 : decode cX21_check 119 = .ok (.aload_n 0, 1) := by decide +kernel
theorem dX21_check_120 : decode cX21_check 120 = .ok (.aload_n 0, 1) := by decide +kernel
theorem dX21_check_121 : decode cX21_check 121 = .ok (.getfield 217, 3) := by decide +kernel
theorem dX21_check_124 : decode cX21_check 124 = .ok (.iload_n 1, 1) := by decide +kernel
theorem dX21_check_125 : decode cX21_check 125 = .ok (.iaload, 1) := by decide +kernel
theorem dX21_check_126 : decode cX21_check 126 = .ok (.iload 4, 2) := by decide +kernel
theorem dX21_check_128 : decode cX21_check 128 = .ok (.ifCond .ne 7, 3) := by decide +kernel
theorem dX21_check_131 : decode cX21_check 131 = .ok (.iconst 1, 1) := by decide +kernel
theorem dX21_check_132 : decode cX21_check 132 = .ok (.goto 4, 3) := by decide +kernel
theorem dX21_check_135 : decode cX21_check 135 = .ok (.iconst 0, 1) := by decide +kernel
theorem dX21_check_136 : decode cX21_check 136 = .ok (.invokevirtual 609, 3) := by decide +kernel
theorem dX21_check_139 : decode cX21_check 139 = .ok (.istore 5, 2) := by decide +kernel
theorem dX21_check_141 : decode cX21_check 141 = .ok (.iload 4, 2) := by decide +kernel
theorem dX21_check_143 : decode cX21_check 143 = .ok (.ifCond .eq 158, 3) := by decide +kernel
theorem dX21_check_146 : decode cX21_check 146 = .ok (.aload_n 0, 1) := by decide +kernel
theorem dX21_check_147 : decode cX21_check 147 = .ok (.aload_n 0, 1) := by decide +kernel
theorem dX21_check_148 : decode cX21_check 148 = .ok (.getfield 217, 3) := by decide +kernel
theorem dX21_check_151 : decode cX21_check 151 = .ok (.iload_n 1, 1) := by decide +kernel
theorem dX21_check_152 : decode cX21_check 152 = .ok (.iaload, 1) := by decide +kernel
theorem dX21_check_153 : decode cX21_check 153 = .ok (.iload 5, 2) := by decide +kernel
theorem dX21_check_155 : decode cX21_check 155 = .ok (.invokevirtual 613, 3) := by decide +kernel
theorem dX21_check_158 : decode cX21_check 158 = .ok (.goto 143, 3) := by decide +kernel
theorem dX21_check_161 : decode cX21_check 161 = .ok (.aload_n 0, 1) := by decide +kernel
theorem dX21_check_162 : decode cX21_check 162 = .ok (.aload_n 0, 1) := by decide +kernel
theorem dX21_check_163 : decode cX21_check 163 = .ok (.getfield 217, 3) := by decide +kernel
theorem dX21_check_166 : decode cX21_check 166 = .ok (.iload_n 1, 1) := by decide +kernel
theorem dX21_check_167 : decode cX21_check 167 = .ok (.iaload, 1) := by decide +kernel
theorem dX21_check_168 : decode cX21_check 168 = .ok (.iconst 0, 1) := by decide +kernel
theorem dX21_check_169 : decode cX21_check 169 = .ok (.invokevirtual 609, 3) := by decide +kernel
theorem dX21_check_172 : decode cX21_check 172 = .ok (.istore 6, 2) := by decide +kernel
theorem dX21_check_174 : decode cX21_check 174 = .ok (.aload_n 0, 1) := by decide +kernel
theorem dX21_check_175 : decode cX21_check 175 = .ok (.aload_n 0, 1) := by decide +kernel
theorem dX21_check_176 : decode cX21_check 176 = .ok (.getfield 217, 3) := by decide +kernel
theorem dX21_check_179 : decode cX21_check 179 = .ok (.iload_n 1, 1) := by decide +kernel
theorem dX21_check_180 : decode cX21_check 180 = .ok (.iaload, 1) := by decide +kernel
theorem dX21_check_181 : decode cX21_check 181 = .ok (.iload 6, 2) := by decide +kernel
theorem dX21_check_183 : decode cX21_check 183 = .ok (.invokevirtual 613, 3) := by decide +kernel
theorem dX21_check_186 : decode cX21_check 186 = .ok (.goto 115, 3) := by decide +kernel
theorem dX21_check_189 : decode cX21_check 189 = .ok (.aload_n 0, 1) := by decide +kernel
theorem dX21_check_190 : decode cX21_check 190 = .ok (.getfield 217, 3) := by decide +kernel
theorem dX21_check_193 : decode cX21_check 193 = .ok (.iload_n 1, 1) := by decide +kernel
theorem dX21_check_194 : decode cX21_check 194 = .ok (.iaload, 1) := by decide +kernel
theorem dX21_check_195 : decode cX21_check 195 = .ok (.istore 7, 2) := by decide +kernel
theorem dX21_check_197 : decode cX21_check 197 = .ok (.iload 7, 2) := by decide +kernel
theorem dX21_check_199 : decode cX21_check 199 = .ok (.ifCond .lt 23, 3) := by decide +kernel
theorem dX21_check_202 : decode cX21_check 202 = .ok (.aload_n 0, 1) := by decide +kernel
theorem dX21_check_203 : decode cX21_check 203 = .ok (.iload 7, 2) := by decide +kernel
theorem dX21_check_205 : decode cX21_check 205 = .ok (.iconst 1, 1) := by decide +kernel
theorem dX21_check_206 : decode cX21_check 206 = .ok (.invokevirtual 609, 3) := by decide +kernel
theorem dX21_check_209 : decode cX21_check 209 = .ok (.pop, 1) := by decide +kernel
theorem dX21_check_210 : decode cX21_check 210 = .ok (.aload_n 0, 1) := by decide +kernel
theorem dX21_check_211 : decode cX21_check 211 = .ok (.getfield 229, 3) := by decide +kernel
theorem dX21_check_214 : decode cX21_check 214 = .ok (.iload 7, 2) := by decide +kernel
theorem dX21_check_216 : decode cX21_check 216 = .ok (.iaload, 1) := by decide +kernel
theorem dX21_check_217 : decode cX21_check 217 = .ok (.istore 7, 2) := by decide +kernel
theorem dX21_check_219 : decode cX21_check 219 = .ok (.goto (-22), 3) := by decide +kernel
theorem dX21_check_222 : decode cX21_check 222 = .ok (.goto 79, 3) := by decide +kernel
theorem dX21_check_225 : decode cX21_check 225 = .ok (.aload_n 0, 1) := by decide +kernel
theorem dX21_check_226 : decode cX21_check 226 = .ok (.aload_n 0, 1) := by decide +kernel
theorem dX21_check_227 : decode cX21_check 227 = .ok (.getfield 217, 3) := by decide +kernel
theorem dX21_check_230 : decode cX21_check 230 = .ok (.iload_n 1, 1) := by decide +kernel
theorem dX21_check_231 : decode cX21_check 231 = .ok (.iaload, 1) := by decide +kernel
theorem dX21_check_232 : decode cX21_check 232 = .ok (.iconst 1, 1) := by decide +kernel
theorem dX21_check_233 : decode cX21_check 233 = .ok (.invokevirtual 609, 3) := by decide +kernel
theorem dX21_check_236 : decode cX21_check 236 = .ok (.pop, 1) := by decide +kernel
theorem dX21_check_237 : decode cX21_check 237 = .ok (.aload_n 0, 1) := by decide +kernel
theorem dX21_check_238 : decode cX21_check 238 = .ok (.aload_n 0, 1) := by decide +kernel
theorem dX21_check_239 : decode cX21_check 239 = .ok (.getfield 220, 3) := by decide +kernel
theorem dX21_check_242 : decode cX21_check 242 = .ok (.iload_n 1, 1) := by decide +kernel
theorem dX21_check_243 : decode cX21_check 243 = .ok (.iaload, 1) := by decide +kernel
theorem dX21_check_244 : decode cX21_check 244 = .ok (.iconst 1, 1) := by decide +kernel
theorem dX21_check_245 : decode cX21_check 245 = .ok (.invokevirtual 609, 3) := by decide +kernel
theorem dX21_check_248 : decode cX21_check 248 = .ok (.pop, 1) := by decide +kernel
theorem dX21_check_249 : decode cX21_check 249 = .ok (.aload_n 0, 1) := by decide +kernel
theorem dX21_check_250 : decode cX21_check 250 = .ok (.aload_n 0, 1) := by decide +kernel
theorem dX21_check_251 : decode cX21_check 251 = .ok (.getfield 223, 3) := by decide +kernel
theorem dX21_check_254 : decode cX21_check 254 = .ok (.iload_n 1, 1) := by decide +kernel
theorem dX21_check_255 : decode cX21_check 255 = .ok (.iaload, 1) := by decide +kernel
theorem dX21_check_256 : decode cX21_check 256 = .ok (.iconst 1, 1) := by decide +kernel
theorem dX21_check_257 : decode cX21_check 257 = .ok (.invokevirtual 609, 3) := by decide +kernel
theorem dX21_check_260 : decode cX21_check 260 = .ok (.pop, 1) := by decide +kernel
theorem dX21_check_261 : decode cX21_check 261 = .ok (.goto 40, 3) := by decide +kernel
theorem dX21_check_264 : decode cX21_check 264 = .ok (.aload_n 0, 1) := by decide +kernel
theorem dX21_check_265 : decode cX21_check 265 = .ok (.aload_n 0, 1) := by decide +kernel
theorem dX21_check_266 : decode cX21_check 266 = .ok (.getfield 217, 3) := by decide +kernel
theorem dX21_check_269 : decode cX21_check 269 = .ok (.iload_n 1, 1) := by decide +kernel
theorem dX21_check_270 : decode cX21_check 270 = .ok (.iaload, 1) := by decide +kernel
theorem dX21_check_271 : decode cX21_check 271 = .ok (.iconst 0, 1) := by decide +kernel
theorem dX21_check_272 : decode cX21_check 272 = .ok (.invokevirtual 609, 3) := by decide +kernel
theorem dX21_check_275 : decode cX21_check 275 = .ok (.istore 7, 2) := by decide +kernel
theorem dX21_check_277 : decode cX21_check 277 = .ok (.aload_n 0, 1) := by decide +kernel
theorem dX21_check_278 : decode cX21_check 278 = .ok (.aload_n 0, 1) := by decide +kernel
theorem dX21_check_279 : decode cX21_check 279 = .ok (.getfield 217, 3) := by decide +kernel
theorem dX21_check_282 : decode cX21_check 282 = .ok (.iload_n 1, 1) := by decide +kernel
theorem dX21_check_283 : decode cX21_check 283 = .ok (.iaload, 1) := by decide +kernel
theorem dX21_check_284 : decode cX21_check 284 = .ok (.iload 7, 2) := by decide +kernel
theorem dX21_check_286 : decode cX21_check 286 = .ok (.invokevirtual 613, 3) := by decide +kernel
theorem dX21_check_289 : decode cX21_check 289 = .ok (.aload_n 0, 1) := by decide +kernel
theorem dX21_check_290 : decode cX21_check 290 = .ok (.aload_n 0, 1) := by decide +kernel
theorem dX21_check_291 : decode cX21_check 291 = .ok (.getfield 220, 3) := by decide +kernel
theorem dX21_check_294 : decode cX21_check 294 = .ok (.iload_n 1, 1) := by decide +kernel
theorem dX21_check_295 : decode cX21_check 295 = .ok (.iaload, 1) := by decide +kernel
theorem dX21_check_296 : decode cX21_check 296 = .ok (.iconst 1, 1) := by decide +kernel
theorem dX21_check_297 : decode cX21_check 297 = .ok (.invokevirtual 609, 3) := by decide +kernel
theorem dX21_check_300 : decode cX21_check 300 = .ok (.pop, 1) := by decide +kernel
theorem dX21_check_301 : decode cX21_check 301 = .ok (.iload_n 2, 1) := by decide +kernel
theorem dX21_check_302 : decode cX21_check 302 = .ok (.ifCond .eq 26, 3) := by decide +kernel
theorem dX21_check_305 : decode cX21_check 305 = .ok (.iload_n 3, 1) := by decide +kernel
theorem dX21_check_306 : decode cX21_check 306 = .ok (.iconst 2, 1) := by decide +kernel
theorem dX21_check_307 : decode cX21_check 307 = .ok (.if_icmp .eq 8, 3) := by decide +kernel
theorem dX21_check_310 : decode cX21_check 310 = .ok (.iload_n 3, 1) := by decide +kernel
theorem dX21_check_311 : decode cX21_check 311 = .ok (.iconst 3, 1) := by decide +kernel
theorem dX21_check_312 : decode cX21_check 312 = .ok (.if_icmp .ne 16, 3) := by decide +kernel
theorem dX21_check_315 : decode cX21_check 315 = .ok (.aload_n 0, 1) := by decide +kernel
theorem dX21_check_316 : decode cX21_check 316 = .ok (.iconst 3, 1) := by decide +kernel
theorem dX21_check_317 : decode cX21_check 317 = .ok (.aload_n 0, 1) := by decide +kernel
theorem dX21_check_318 : decode cX21_check 318 = .ok (.iload_n 1, 1) := by decide +kernel
theorem dX21_check_319 : decode cX21_check 319 = .ok (.invokevirtual 616, 3) := by decide +kernel
theorem dX21_check_322 : decode cX21_check 322 = .ok (.invokevirtual 597, 3) := by decide +kernel
theorem dX21_check_325 : decode cX21_check 325 = .ok (.goto 23, 3) := by decide +kernel
theorem dX21_check_328 : decode cX21_check 328 = .ok (.iload_n 2, 1) := by decide +kernel
theorem dX21_check_329 : decode cX21_check 329 = .ok (.ifCond .eq 19, 3) := by decide +kernel
theorem dX21_check_332 : decode cX21_check 332 = .ok (.iload_n 3, 1) := by decide +kernel
theorem dX21_check_333 : decode cX21_check 333 = .ok (.iconst 4, 1) := by decide +kernel
theorem dX21_check_334 : decode cX21_check 334 = .ok (.if_icmp .ne 14, 3) := by decide +kernel
theorem dX21_check_337 : decode cX21_check 337 = .ok (.aload_n 0, 1) := by decide +kernel
theorem dX21_check_338 : decode cX21_check 338 = .ok (.iconst 5, 1) := by decide +kernel
theorem dX21_check_339 : decode cX21_check 339 = .ok (.aload_n 0, 1) := by decide +kernel
theorem dX21_check_340 : decode cX21_check 340 = .ok (.getfield 211, 3) := by decide +kernel
theorem dX21_check_343 : decode cX21_check 343 = .ok (.iload_n 1, 1) := by decide +kernel
theorem dX21_check_344 : decode cX21_check 344 = .ok (.iaload, 1) := by decide +kernel
theorem dX21_check_345 : decode cX21_check 345 = .ok (.invokevirtual 597, 3) := by decide +kernel
theorem dX21_check_348 : decode cX21_check 348 = .ok (.iload_n 3, 1) := by decide +kernel
theorem dX21_check_349 : decode cX21_check 349 = .ok (.ireturn, 1) := by decide +kernel
theorem dX21_checkName_0 : decode cX21_checkName 0 = .ok (.aload_n 0, 1) := by decide +kernel
theorem dX21_checkName_1 : decode cX21_checkName 1 = .ok (.aload_n 0, 1) := by decide +kernel
theorem dX21_checkName_2 : decode cX21_checkName 2 = .ok (.getfield 211, 3) := by decide +kernel
theorem dX21_checkName_5 : decode cX21_checkName 5 = .ok (.iload_n 1, 1) := by decide +kernel
theorem dX21_checkName_6 : decode cX21_checkName 6 = .ok (.iaload, 1) := by decide +kernel
theorem dX21_checkName_7 : decode cX21_checkName 7 = .ok (.iconst 0, 1) := by decide +kernel
theorem dX21_checkName_8 : decode cX21_checkName 8 = .ok (.invokevirtual 591, 3) := by decide +kernel
theorem dX21_checkName_11 : decode cX21_checkName 11 = .ok (.istore_n 2, 1) := by decide +kernel
theorem dX21_checkName_12 : decode cX21_checkName 12 = .ok (.iload_n 2, 1) := by decide +kernel
theorem dX21_checkName_13 : decode cX21_checkName 13 = .ok (.ifCond .ge 16, 3) := by decide +kernel
theorem dX21_checkName_16 : decode cX21_checkName 16 = .ok (.aload_n 0, 1) := by decide +kernel
theorem dX21_checkName_17 : decode cX21_checkName 17 = .ok (.iconst 2, 1) := by decide +kernel
theorem dX21_checkName_18 : decode cX21_checkName 18 = .ok (.aload_n 0, 1) := by decide +kernel
theorem dX21_checkName_19 : decode cX21_checkName 19 = .ok (.getfield 211, 3) := by decide +kernel
theorem dX21_checkName_22 : decode cX21_checkName 22 = .ok (.iload_n 1, 1) := by decide +kernel
theorem dX21_checkName_23 : decode cX21_checkName 23 = .ok (.iaload, 1) := by decide +kernel
theorem dX21_checkName_24 : decode cX21_checkName 24 = .ok (.invokevirtual 597, 3) := by decide +kernel
theorem dX21_checkName_27 : decode cX21_checkName 27 = .ok (.iconst 0, 1) := by decide +kernel
theorem dX21_checkName_28 : decode cX21_checkName 28 = .ok (.ireturn, 1) := by decide +kernel
theorem dX21_checkName_29 : decode cX21_checkName 29 = .ok (.aload_n 0, 1) := by decide +kernel
theorem dX21_checkName_30 : decode cX21_checkName 30 = .ok (.getfield 250, 3) := by decide +kernel
theorem dX21_checkName_33 : decode cX21_checkName 33 = .ok (.iload_n 2, 1) := by decide +kernel
theorem dX21_checkName_34 : decode cX21_checkName 34 = .ok (.iaload, 1) := by decide +kernel
theorem dX21_checkName_35 : decode cX21_checkName 35 = .ok (.istore_n 3, 1) := by decide +kernel
theorem dX21_checkName_36 : decode cX21_checkName 36 = .ok (.aload_n 0, 1) := by decide +kernel
theorem dX21_checkName_37 : decode cX21_checkName 37 = .ok (.getfield 220, 3) := by decide +kernel
theorem dX21_checkName_40 : decode cX21_checkName 40 = .ok (.iload_n 1, 1) := by decide +kernel
theorem dX21_checkName_41 : decode cX21_checkName 41 = .ok (.aload_n 0, 1) := by decide +kernel
theorem dX21_checkName_42 : decode cX21_checkName 42 = .ok (.getfield 275, 3) := by decide +kernel
theorem dX21_checkName_45 : decode cX21_checkName 45 = .ok (.iload_n 2, 1) := by decide +kernel
theorem dX21_checkName_46 : decode cX21_checkName 46 = .ok (.iaload, 1) := by decide +kernel
theorem dX21_checkName_47 : decode cX21_checkName 47 = .ok (.iastore, 1) := by decide +kernel
theorem dX21_checkName_48 : decode cX21_checkName 48 = .ok (.aload_n 0, 1) := by decide +kernel
theorem dX21_checkName_49 : decode cX21_checkName 49 = .ok (.getfield 223, 3) := by decide +kernel
theorem dX21_checkName_52 : decode cX21_checkName 52 = .ok (.iload_n 1, 1) := by decide +kernel
theorem dX21_checkName_53 : decode cX21_checkName 53 = .ok (.aload_n 0, 1) := by decide +kernel
theorem dX21_checkName_54 : decode cX21_checkName 54 = .ok (.getfield 253, 3) := by decide +kernel
theorem dX21_checkName_57 : decode cX21_checkName 57 = .ok (.iload_n 2, 1) := by decide +kernel
theorem dX21_checkName_58 : decode cX21_checkName 58 = .ok (.iaload, 1) := by decide +kernel
theorem dX21_checkName_59 : decode cX21_checkName 59 = .ok (.iastore, 1) := by decide +kernel
theorem dX21_checkName_60 : decode cX21_checkName 60 = .ok (.iload_n 3, 1) := by decide +kernel
theorem dX21_checkName_61 : decode cX21_checkName 61 = .ok (.iconst 2, 1) := by decide +kernel
theorem dX21_checkName_62 : decode cX21_checkName 62 = .ok (.if_icmp .ne 7, 3) := by decide +kernel
theorem dX21_checkName_65 : decode cX21_checkName 65 = .ok (.iconst 2, 1) := by decide +kernel
theorem dX21_checkName_66 : decode cX21_checkName 66 = .ok (.goto 13, 3) := by decide +kernel
theorem dX21_checkName_69 : decode cX21_checkName 69 = .ok (.iload_n 3, 1) := by decide +kernel
theorem dX21_checkName_70 : decode cX21_checkName 70 = .ok (.iconst 3, 1) := by decide +kernel
theorem dX21_checkName_71 : decode cX21_checkName 71 = .ok (.if_icmp .ne 7, 3) := by decide +kernel
theorem dX21_checkName_74 : decode cX21_checkName 74 = .ok (.iconst 3, 1) := by decide +kernel
theorem dX21_checkName_75 : decode cX21_checkName 75 = .ok (.goto 4, 3) := by decide +kernel
theorem dX21_checkName_78 : decode cX21_checkName 78 = .ok (.iconst 1, 1) := by decide +kernel
theorem dX21_checkName_79 : decode cX21_checkName 79 = .ok (.ireturn, 1) := by decide +kernel
theorem dX21_checkCall_0 : decode cX21_checkCall 0 = .ok (.aload_n 0, 1) := by decide +kernel
theorem dX21_checkCall_1 : decode cX21_checkCall 1 = .ok (.getfield 211, 3) := by decide +kernel
theorem dX21_checkCall_4 : decode cX21_checkCall 4 = .ok (.iload_n 1, 1) := by decide +kernel
theorem dX21_checkCall_5 : decode cX21_checkCall 5 = .ok (.iaload, 1) := by decide +kernel
theorem dX21_checkCall_6 : decode cX21_checkCall 6 = .ok (.istore_n 2, 1) := by decide +kernel
theorem dX21_checkCall_7 : decode cX21_checkCall 7 = .ok (.aload_n 0, 1) := by decide +kernel
theorem dX21_checkCall_8 : decode cX21_checkCall 8 = .ok (.iload_n 2, 1) := by decide +kernel
theorem dX21_checkCall_9 : decode cX21_checkCall 9 = .ok (.invokevirtual 576, 3) := by decide +kernel
theorem dX21_checkCall_12 : decode cX21_checkCall 12 = .ok (.istore_n 3, 1) := by decide +kernel
theorem dX21_checkCall_13 : decode cX21_checkCall 13 = .ok (.iload_n 3, 1) := by decide +kernel
theorem dX21_checkCall_14 : decode cX21_checkCall 14 = .ok (.ifCond .lt 7, 3) := by decide +kernel
theorem dX21_checkCall_17 : decode cX21_checkCall 17 = .ok (.iconst (-1), 1) := by decide +kernel
theorem dX21_checkCall_18 : decode cX21_checkCall 18 = .ok (.goto 8, 3) := by decide +kernel
theorem dX21_checkCall_21 : decode cX21_checkCall 21 = .ok (.aload_n 0, 1) := by decide +kernel
theorem dX21_checkCall_22 : decode cX21_checkCall 22 = .ok (.iload_n 2, 1) := by decide +kernel
theorem dX21_checkCall_23 : decode cX21_checkCall 23 = .ok (.invokevirtual 573, 3) := by decide +kernel
theorem dX21_checkCall_26 : decode cX21_checkCall 26 = .ok (.istore 4, 2) := by decide +kernel
theorem dX21_checkCall_28 : decode cX21_checkCall 28 = .ok (.aload_n 0, 1) := by decide +kernel
theorem dX21_checkCall_29 : decode cX21_checkCall 29 = .ok (.iload_n 2, 1) := by decide +kernel
theorem dX21_checkCall_30 : decode cX21_checkCall 30 = .ok (.iconst 0, 1) := by decide +kernel
theorem dX21_checkCall_31 : decode cX21_checkCall 31 = .ok (.invokevirtual 591, 3) := by decide +kernel
theorem dX21_checkCall_34 : decode cX21_checkCall 34 = .ok (.ifCond .ge 16, 3) := by decide +kernel
theorem dX21_checkCall_37 : decode cX21_checkCall 37 = .ok (.iload_n 3, 1) := by decide +kernel
theorem dX21_checkCall_38 : decode cX21_checkCall 38 = .ok (.ifCond .ge 8, 3) := by decide +kernel
theorem dX21_checkCall_41 : decode cX21_checkCall 41 = .ok (.iload 4, 2) := by decide +kernel
theorem dX21_checkCall_43 : decode cX21_checkCall 43 = .ok (.ifCond .lt 7, 3) := by decide +kernel
theorem dX21_checkCall_46 : decode cX21_checkCall 46 = .ok (.iconst 1, 1) := by decide +kernel
theorem dX21_checkCall_47 : decode cX21_checkCall 47 = .ok (.goto 4, 3) := by decide +kernel
theorem dX21_checkCall_50 : decode cX21_checkCall 50 = .ok (.iconst 0, 1) := by decide +kernel
theorem dX21_checkCall_51 : decode cX21_checkCall 51 = .ok (.istore 5, 2) := by decide +kernel
theorem dX21_checkCall_53 : decode cX21_checkCall 53 = .ok (.iload 5, 2) := by decide +kernel
theorem dX21_checkCall_55 : decode cX21_checkCall 55 = .ok (.ifCond .ne 9, 3) := by decide +kernel
theorem dX21_checkCall_58 : decode cX21_checkCall 58 = .ok (.aload_n 0, 1) := by decide +kernel
theorem dX21_checkCall_59 : decode cX21_checkCall 59 = .ok (.iconst 2, 1) := by decide +kernel
theorem dX21_checkCall_60 : decode cX21_checkCall 60 = .ok (.iload_n 2, 1) := by decide +kernel
theorem dX21_checkCall_61 : decode cX21_checkCall 61 = .ok (.invokevirtual 597, 3) := by decide +kernel
theorem dX21_checkCall_64 : decode cX21_checkCall 64 = .ok (.aload_n 0, 1) := by decide +kernel
theorem dX21_checkCall_65 : decode cX21_checkCall 65 = .ok (.getfield 220, 3) := by decide +kernel
theorem dX21_checkCall_68 : decode cX21_checkCall 68 = .ok (.iload_n 1, 1) := by decide +kernel
theorem dX21_checkCall_69 : decode cX21_checkCall 69 = .ok (.iload_n 3, 1) := by decide +kernel
theorem dX21_checkCall_70 : decode cX21_checkCall 70 = .ok (.ifCond .lt 7, 3) := by decide +kernel
theorem dX21_checkCall_73 : decode cX21_checkCall 73 = .ok (.iload_n 3, 1) := by decide +kernel
theorem dX21_checkCall_74 : decode cX21_checkCall 74 = .ok (.goto 8, 3) := by decide +kernel
theorem dX21_checkCall_77 : decode cX21_checkCall 77 = .ok (.bipush 100, 2) := by decide +kernel
theorem dX21_checkCall_79 : decode cX21_checkCall 79 = .ok (.iload 4, 2) := by decide +kernel
theorem dX21_checkCall_81 : decode cX21_checkCall 81 = .ok (.iadd, 1) := by decide +kernel
theorem dX21_checkCall_82 : decode cX21_checkCall 82 = .ok (.iastore, 1) := by decide +kernel
theorem dX21_checkCall_83 : decode cX21_checkCall 83 = .ok (.iconst 0, 1) := by decide +kernel
theorem dX21_checkCall_84 : decode cX21_checkCall 84 = .ok (.istore 6, 2) := by decide +kernel
theorem dX21_checkCall_86 : decode cX21_checkCall 86 = .ok (.aload_n 0, 1) := by decide +kernel
theorem dX21_checkCall_87 : decode cX21_checkCall 87 = .ok (.getfield 217, 3) := by decide +kernel
theorem dX21_checkCall_90 : decode cX21_checkCall 90 = .ok (.iload_n 1, 1) := by decide +kernel
theorem dX21_checkCall_91 : decode cX21_checkCall 91 = .ok (.iaload, 1) := by decide +kernel
theorem dX21_checkCall_92 : decode cX21_checkCall 92 = .ok (.istore 7, 2) := by decide +kernel
theorem dX21_checkCall_94 : decode cX21_checkCall 94 = .ok (.iload 7, 2) := by decide +kernel
theorem dX21_checkCall_96 : decode cX21_checkCall 96 = .ok (.ifCond .lt 47, 3) := by decide +kernel
theorem dX21_checkCall_99 : decode cX21_checkCall 99 = .ok (.iload 5, 2) := by decide +kernel
theorem dX21_checkCall_101 : decode cX21_checkCall 101 = .ok (.ifCond .eq 15, 3) := by decide +kernel
theorem dX21_checkCall_104 : decode cX21_checkCall 104 = .ok (.aload_n 0, 1) := by decide +kernel
theorem dX21_checkCall_105 : decode cX21_checkCall 105 = .ok (.iload 4, 2) := by decide +kernel
theorem dX21_checkCall_107 : decode cX21_checkCall 107 = .ok (.iload_n 3, 1) := by decide +kernel
theorem dX21_checkCall_108 : decode cX21_checkCall 108 = .ok (.iload 6, 2) := by decide +kernel
theorem dX21_checkCall_110 : decode cX21_checkCall 110 = .ok (.invokevirtual 619, 3) := by decide +kernel
theorem dX21_checkCall_113 : decode cX21_checkCall 113 = .ok (.goto 5, 3) := by decide +kernel
theorem dX21_checkCall_116 : decode cX21_checkCall 116 = .ok (.bipush 32, 2) := by decide +kernel
theorem dX21_checkCall_118 : decode cX21_checkCall 118 = .ok (.istore 8, 2) := by decide +kernel
theorem dX21_checkCall_120 : decode cX21_checkCall 120 = .ok (.aload_n 0, 1) := by decide +kernel
theorem dX21_checkCall_121 : decode cX21_checkCall 121 = .ok (.iload 7, 2) := by decide +kernel
theorem dX21_checkCall_123 : decode cX21_checkCall 123 = .ok (.iload 8, 2) := by decide +kernel
theorem dX21_checkCall_125 : decode cX21_checkCall 125 = .ok (.invokevirtual 622, 3) := by decide +kernel
theorem dX21_checkCall_128 : decode cX21_checkCall 128 = .ok (.iinc 6 1, 3) := by decide +kernel
theorem dX21_checkCall_131 : decode cX21_checkCall 131 = .ok (.aload_n 0, 1) := by decide +kernel
theorem dX21_checkCall_132 : decode cX21_checkCall 132 = .ok (.getfield 229, 3) := by decide +kernel
theorem dX21_checkCall_135 : decode cX21_checkCall 135 = .ok (.iload 7, 2) := by decide +kernel
theorem dX21_checkCall_137 : decode cX21_checkCall 137 = .ok (.iaload, 1) := by decide +kernel
theorem dX21_checkCall_138 : decode cX21_checkCall 138 = .ok (.istore 7, 2) := by decide +kernel
theorem dX21_checkCall_140 : decode cX21_checkCall 140 = .ok (.goto (-46), 3) := by decide +kernel
theorem dX21_checkCall_143 : decode cX21_checkCall 143 = .ok (.iload 5, 2) := by decide +kernel
theorem dX21_checkCall_145 : decode cX21_checkCall 145 = .ok (.ifCond .ne 5, 3) := by decide +kernel
theorem dX21_checkCall_148 : decode cX21_checkCall 148 = .ok (.iconst 0, 1) := by decide +kernel
theorem dX21_checkCall_149 : decode cX21_checkCall 149 = .ok (.ireturn, 1) := by decide +kernel
theorem dX21_checkCall_150 : decode cX21_checkCall 150 = .ok (.iload 6, 2) := by decide +kernel
theorem dX21_checkCall_152 : decode cX21_checkCall 152 = .ok (.ifCond .ne 19, 3) := by decide +kernel
theorem dX21_checkCall_155 : decode cX21_checkCall 155 = .ok (.aload_n 0, 1) := by decide +kernel
theorem dX21_checkCall_156 : decode cX21_checkCall 156 = .ok (.iload 4, 2) := by decide +kernel
theorem dX21_checkCall_158 : decode cX21_checkCall 158 = .ok (.iload_n 3, 1) := by decide +kernel
theorem dX21_checkCall_159 : decode cX21_checkCall 159 = .ok (.iconst 0, 1) := by decide +kernel
theorem dX21_checkCall_160 : decode cX21_checkCall 160 = .ok (.invokevirtual 619, 3) := by decide +kernel
theorem dX21_checkCall_163 : decode cX21_checkCall 163 = .ok (.bipush 32, 2) := by decide +kernel
theorem dX21_checkCall_165 : decode cX21_checkCall 165 = .ok (.if_icmp .eq 42, 3) := by decide +kernel
theorem dX21_checkCall_168 : decode cX21_checkCall 168 = .ok (.goto 33, 3) := by decide +kernel
theorem dX21_checkCall_171 : decode cX21_checkCall 171 = .ok (.aload_n 0, 1) := by decide +kernel
theorem dX21_checkCall_172 : decode cX21_checkCall 172 = .ok (.iload 4, 2) := by decide +kernel
theorem dX21_checkCall_174 : decode cX21_checkCall 174 = .ok (.iload_n 3, 1) := by decide +kernel
theorem dX21_checkCall_175 : decode cX21_checkCall 175 = .ok (.iload 6, 2) := by decide +kernel
theorem dX21_checkCall_177 : decode cX21_checkCall 177 = .ok (.iconst 1, 1) := by decide +kernel
theorem dX21_checkCall_178 : decode cX21_checkCall 178 = .ok (.isub, 1) := by decide +kernel
theorem dX21_checkCall_179 : decode cX21_checkCall 179 = .ok (.invokevirtual 619, 3) := by decide +kernel
theorem dX21_checkCall_182 : decode cX21_checkCall 182 = .ok (.bipush 32, 2) := by decide +kernel
theorem dX21_checkCall_184 : decode cX21_checkCall 184 = .ok (.if_icmp .eq 17, 3) := by decide +kernel
theorem dX21_checkCall_187 : decode cX21_checkCall 187 = .ok (.aload_n 0, 1) := by decide +kernel
theorem dX21_checkCall_188 : decode cX21_checkCall 188 = .ok (.iload 4, 2) := by decide +kernel
theorem dX21_checkCall_190 : decode cX21_checkCall 190 = .ok (.iload_n 3, 1) := by decide +kernel
theorem dX21_checkCall_191 : decode cX21_checkCall 191 = .ok (.iload 6, 2) := by decide +kernel
theorem dX21_checkCall_193 : decode cX21_checkCall 193 = .ok (.invokevirtual 619, 3) := by decide +kernel
theorem dX21_checkCall_196 : decode cX21_checkCall 196 = .ok (.bipush 32, 2) := by decide +kernel
theorem dX21_checkCall_198 : decode cX21_checkCall 198 = .ok (.if_icmp .eq 9, 3) := by decide +kernel
theorem dX21_checkCall_201 : decode cX21_checkCall 201 = .ok (.aload_n 0, 1) := by decide +kernel
theorem dX21_checkCall_202 : decode cX21_checkCall 202 = .ok (.iconst 4, 1) := by decide +kernel
theorem dX21_checkCall_203 : decode cX21_checkCall 203 = .ok (.iload_n 2, 1) := by decide +kernel
theorem dX21_checkCall_204 : decode cX21_checkCall 204 = .ok (.invokevirtual 597, 3) := by decide +kernel
theorem dX21_checkCall_207 : decode cX21_checkCall 207 = .ok (.iload_n 3, 1) := by decide +kernel
theorem dX21_checkCall_208 : decode cX21_checkCall 208 = .ok (.ifCond .lt 26, 3) := by decide +kernel
theorem dX21_checkCall_211 : decode cX21_checkCall 211 = .ok (.aload_n 0, 1) := by decide +kernel
theorem dX21_checkCall_212 : decode cX21_checkCall 212 = .ok (.getfield 185, 3) := by decide +kernel
theorem dX21_checkCall_215 : decode cX21_checkCall 215 = .ok (.iload_n 3, 1) := by decide +kernel
theorem dX21_checkCall_216 : decode cX21_checkCall 216 = .ok (.aaload, 1) := by decide +kernel
theorem dX21_checkCall_217 : decode cX21_checkCall 217 = .ok (.iconst 0, 1) := by decide +kernel
theorem dX21_checkCall_218 : decode cX21_checkCall 218 = .ok (.invokevirtual 338, 3) := by decide +kernel
theorem dX21_checkCall_221 : decode cX21_checkCall 221 = .ok (.bipush 118, 2) := by decide +kernel
theorem dX21_checkCall_223 : decode cX21_checkCall 223 = .ok (.if_icmp .ne 7, 3) := by decide +kernel
theorem dX21_checkCall_226 : decode cX21_checkCall 226 = .ok (.iconst 1, 1) := by decide +kernel
theorem dX21_checkCall_227 : decode cX21_checkCall 227 = .ok (.goto 28, 3) := by decide +kernel
theorem dX21_checkCall_230 : decode cX21_checkCall 230 = .ok (.iconst 0, 1) := by decide +kernel
theorem dX21_checkCall_231 : decode cX21_checkCall 231 = .ok (.goto 24, 3) := by decide +kernel
theorem dX21_checkCall_234 : decode cX21_checkCall 234 = .ok (.aload_n 0, 1) := by decide +kernel
theorem dX21_checkCall_235 : decode cX21_checkCall 235 = .ok (.getfield 232, 3) := by decide +kernel
theorem dX21_checkCall_238 : decode cX21_checkCall 238 = .ok (.aload_n 0, 1) := by decide +kernel
theorem dX21_checkCall_239 : decode cX21_checkCall 239 = .ok (.getfield 256, 3) := by decide +kernel
theorem dX21_checkCall_242 : decode cX21_checkCall 242 = .ok (.iload 4, 2) := by decide +kernel
theorem dX21_checkCall_244 : decode cX21_checkCall 244 = .ok (.iaload, 1) := by decide +kernel
theorem dX21_checkCall_245 : decode cX21_checkCall 245 = .ok (.iaload, 1) := by decide +kernel
theorem dX21_checkCall_246 : decode cX21_checkCall 246 = .ok (.iconst 2, 1) := by decide +kernel
theorem dX21_checkCall_247 : decode cX21_checkCall 247 = .ok (.if_icmp .ne 7, 3) := by decide +kernel
theorem dX21_checkCall_250 : decode cX21_checkCall 250 = .ok (.iconst 1, 1) := by decide +kernel
theorem dX21_checkCall_251 : decode cX21_checkCall 251 = .ok (.goto 4, 3) := by decide +kernel
theorem dX21_checkCall_254 : decode cX21_checkCall 254 = .ok (.iconst 0, 1) := by decide +kernel
theorem dX21_checkCall_255 : decode cX21_checkCall 255 = .ok (.istore 7, 2) := by decide +kernel
theorem dX21_checkCall_257 : decode cX21_checkCall 257 = .ok (.iload 7, 2) := by decide +kernel
theorem dX21_checkCall_259 : decode cX21_checkCall 259 = .ok (.ifCond .eq 7, 3) := by decide +kernel
theorem dX21_checkCall_262 : decode cX21_checkCall 262 = .ok (.iconst 4, 1) := by decide +kernel
theorem dX21_checkCall_263 : decode cX21_checkCall 263 = .ok (.goto 4, 3) := by decide +kernel
theorem dX21_checkCall_266 : decode cX21_checkCall 266 = .ok (.iconst 1, 1) := by decide +kernel
theorem dX21_checkCall_267 : decode cX21_checkCall 267 = .ok (.ireturn, 1) := by decide +kernel
theorem dX21_taken_0 : decode cX21_taken 0 = .ok (.iload_n 1, 1) := by decide +kernel
theorem dX21_taken_1 : decode cX21_taken 1 = .ok (.ifCond .ge 36, 3) := by decide +kernel
theorem dX21_taken_4 : decode cX21_taken 4 = .ok (.iload_n 3, 1) := by decide +kernel
theorem dX21_taken_5 : decode cX21_taken 5 = .ok (.iconst 1, 1) := by decide +kernel
theorem dX21_taken_6 : decode cX21_taken 6 = .ok (.iadd, 1) := by decide +kernel
theorem dX21_taken_7 : decode cX21_taken 7 = .ok (.aload_n 0, 1) := by decide +kernel
theorem dX21_taken_8 : decode cX21_taken 8 = .ok (.getfield 185, 3) := by decide +kernel
theorem dX21_taken_11 : decode cX21_taken 11 = .ok (.iload_n 2, 1) := by decide +kernel
theorem dX21_taken_12 : decode cX21_taken 12 = .ok (.aaload, 1) := by decide +kernel
theorem dX21_taken_13 : decode cX21_taken 13 = .ok (.invokevirtual 335, 3) := by decide +kernel
theorem dX21_taken_16 : decode cX21_taken 16 = .ok (.if_icmp .ge 18, 3) := by decide +kernel
theorem dX21_taken_19 : decode cX21_taken 19 = .ok (.aload_n 0, 1) := by decide +kernel
theorem dX21_taken_20 : decode cX21_taken 20 = .ok (.getfield 185, 3) := by decide +kernel
theorem dX21_taken_23 : decode cX21_taken 23 = .ok (.iload_n 2, 1) := by decide +kernel
theorem dX21_taken_24 : decode cX21_taken 24 = .ok (.aaload, 1) := by decide +kernel
theorem dX21_taken_25 : decode cX21_taken 25 = .ok (.iload_n 3, 1) := by decide +kernel
theorem dX21_taken_26 : decode cX21_taken 26 = .ok (.iconst 1, 1) := by decide +kernel
theorem dX21_taken_27 : decode cX21_taken 27 = .ok (.iadd, 1) := by decide +kernel
theorem dX21_taken_28 : decode cX21_taken 28 = .ok (.invokevirtual 338, 3) := by decide +kernel
theorem dX21_taken_31 : decode cX21_taken 31 = .ok (.goto 5, 3) := by decide +kernel
theorem dX21_taken_34 : decode cX21_taken 34 = .ok (.bipush 32, 2) := by decide +kernel
theorem dX21_taken_36 : decode cX21_taken 36 = .ok (.ireturn, 1) := by decide +kernel
theorem dX21_taken_37 : decode cX21_taken 37 = .ok (.aload_n 0, 1) := by decide +kernel
theorem dX21_taken_38 : decode cX21_taken 38 = .ok (.getfield 217, 3) := by decide +kernel
theorem dX21_taken_41 : decode cX21_taken 41 = .ok (.aload_n 0, 1) := by decide +kernel
theorem dX21_taken_42 : decode cX21_taken 42 = .ok (.getfield 256, 3) := by decide +kernel
theorem dX21_taken_45 : decode cX21_taken 45 = .ok (.iload_n 1, 1) := by decide +kernel
theorem dX21_taken_46 : decode cX21_taken 46 = .ok (.iaload, 1) := by decide +kernel
theorem dX21_taken_47 : decode cX21_taken 47 = .ok (.iaload, 1) := by decide +kernel
theorem dX21_taken_48 : decode cX21_taken 48 = .ok (.istore 4, 2) := by decide +kernel
theorem dX21_taken_50 : decode cX21_taken 50 = .ok (.iconst 0, 1) := by decide +kernel
theorem dX21_taken_51 : decode cX21_taken 51 = .ok (.istore 5, 2) := by decide +kernel
theorem dX21_taken_53 : decode cX21_taken 53 = .ok (.iload 5, 2) := by decide +kernel
theorem dX21_taken_55 : decode cX21_taken 55 = .ok (.iload_n 3, 1) := by decide +kernel
theorem dX21_taken_56 : decode cX21_taken 56 = .ok (.if_icmp .ge 23, 3) := by decide +kernel
theorem dX21_taken_59 : decode cX21_taken 59 = .ok (.iload 4, 2) := by decide +kernel
theorem dX21_taken_61 : decode cX21_taken 61 = .ok (.ifCond .lt 18, 3) := by decide +kernel
theorem dX21_taken_64 : decode cX21_taken 64 = .ok (.aload_n 0, 1) := by decide +kernel
theorem dX21_taken_65 : decode cX21_taken 65 = .ok (.getfield 229, 3) := by decide +kernel
theorem dX21_taken_68 : decode cX21_taken 68 = .ok (.iload 4, 2) := by decide +kernel
theorem dX21_taken_70 : decode cX21_taken 70 = .ok (.iaload, 1) := by decide +kernel
theorem dX21_taken_71 : decode cX21_taken 71 = .ok (.istore 4, 2) := by decide +kernel
theorem dX21_taken_73 : decode cX21_taken 73 = .ok (.iinc 5 1, 3) := by decide +kernel
theorem dX21_taken_76 : decode cX21_taken 76 = .ok (.goto (-23), 3) := by decide +kernel
theorem dX21_taken_79 : decode cX21_taken 79 = .ok (.iload 4, 2) := by decide +kernel
theorem dX21_taken_81 : decode cX21_taken 81 = .ok (.ifCond .ge 8, 3) := by decide +kernel
theorem dX21_taken_84 : decode cX21_taken 84 = .ok (.bipush 32, 2) := by decide +kernel
theorem dX21_taken_86 : decode cX21_taken 86 = .ok (.goto 35, 3) := by decide +kernel
theorem dX21_taken_89 : decode cX21_taken 89 = .ok (.aload_n 0, 1) := by decide +kernel
theorem dX21_taken_90 : decode cX21_taken 90 = .ok (.getfield 217, 3) := by decide +kernel
theorem dX21_taken_93 : decode cX21_taken 93 = .ok (.iload 4, 2) := by decide +kernel
theorem dX21_taken_95 : decode cX21_taken 95 = .ok (.iaload, 1) := by decide +kernel
theorem dX21_taken_96 : decode cX21_taken 96 = .ok (.ifCond .ge 8, 3) := by decide +kernel
theorem dX21_taken_99 : decode cX21_taken 99 = .ok (.bipush 105, 2) := by decide +kernel
theorem dX21_taken_101 : decode cX21_taken 101 = .ok (.goto 20, 3) := by decide +kernel
theorem dX21_taken_104 : decode cX21_taken 104 = .ok (.aload_n 0, 1) := by decide +kernel
theorem dX21_taken_105 : decode cX21_taken 105 = .ok (.getfield 232, 3) := by decide +kernel
theorem dX21_taken_108 : decode cX21_taken 108 = .ok (.iload 4, 2) := by decide +kernel
theorem dX21_taken_110 : decode cX21_taken 110 = .ok (.iaload, 1) := by decide +kernel
theorem dX21_taken_111 : decode cX21_taken 111 = .ok (.ifCond .ne 8, 3) := by decide +kernel
theorem dX21_taken_114 : decode cX21_taken 114 = .ok (.bipush 115, 2) := by decide +kernel
theorem dX21_taken_116 : decode cX21_taken 116 = .ok (.goto 5, 3) := by decide +kernel
theorem dX21_taken_119 : decode cX21_taken 119 = .ok (.bipush 99, 2) := by decide +kernel
theorem dX21_taken_121 : decode cX21_taken 121 = .ok (.ireturn, 1) := by decide +kernel
theorem dX21_checkArgument_0 : decode cX21_checkArgument 0 = .ok (.iload_n 2, 1) := by decide +kernel
theorem dX21_checkArgument_1 : decode cX21_checkArgument 1 = .ok (.bipush 105, 2) := by decide +kernel
theorem dX21_checkArgument_3 : decode cX21_checkArgument 3 = .ok (.if_icmp .ne 13, 3) := by decide +kernel
theorem dX21_checkArgument_6 : decode cX21_checkArgument 6 = .ok (.aload_n 0, 1) := by decide +kernel
theorem dX21_checkArgument_7 : decode cX21_checkArgument 7 = .ok (.iload_n 1, 1) := by decide +kernel
theorem dX21_checkArgument_8 : decode cX21_checkArgument 8 = .ok (.iconst 1, 1) := by decide +kernel
theorem dX21_checkArgument_9 : decode cX21_checkArgument 9 = .ok (.invokevirtual 609, 3) := by decide +kernel
theorem dX21_checkArgument_12 : decode cX21_checkArgument 12 = .ok (.pop, 1) := by decide +kernel
theorem dX21_checkArgument_13 : decode cX21_checkArgument 13 = .ok (.goto 79, 3) := by decide +kernel
theorem dX21_checkArgument_16 : decode cX21_checkArgument 16 = .ok (.iload_n 2, 1) := by decide +kernel
theorem dX21_checkArgument_17 : decode cX21_checkArgument 17 = .ok (.bipush 107, 2) := by decide +kernel
theorem dX21_checkArgument_19 : decode cX21_checkArgument 19 = .ok (.if_icmp .ne 12, 3) := by decide +kernel
theorem dX21_checkArgument_22 : decode cX21_checkArgument 22 = .ok (.aload_n 0, 1) := by decide +kernel
theorem dX21_checkArgument_23 : decode cX21_checkArgument 23 = .ok (.iload_n 1, 1) := by decide +kernel
theorem dX21_checkArgument_24 : decode cX21_checkArgument 24 = .ok (.invokevirtual 625, 3) := by decide +kernel
theorem dX21_checkArgument_27 : decode cX21_checkArgument 27 = .ok (.pop, 1) := by decide +kernel
theorem dX21_checkArgument_28 : decode cX21_checkArgument 28 = .ok (.goto 64, 3) := by decide +kernel
theorem dX21_checkArgument_31 : decode cX21_checkArgument 31 = .ok (.aload_n 0, 1) := by decide +kernel
theorem dX21_checkArgument_32 : decode cX21_checkArgument 32 = .ok (.iload_n 1, 1) := by decide +kernel
theorem dX21_checkArgument_33 : decode cX21_checkArgument 33 = .ok (.iconst 0, 1) := by decide +kernel
theorem dX21_checkArgument_34 : decode cX21_checkArgument 34 = .ok (.invokevirtual 609, 3) := by decide +kernel
theorem dX21_checkArgument_37 : decode cX21_checkArgument 37 = .ok (.istore_n 3, 1) := by decide +kernel
theorem dX21_checkArgument_38 : decode cX21_checkArgument 38 = .ok (.iload_n 2, 1) := by decide +kernel
theorem dX21_checkArgument_39 : decode cX21_checkArgument 39 = .ok (.bipush 32, 2) := by decide +kernel
theorem dX21_checkArgument_41 : decode cX21_checkArgument 41 = .ok (.if_icmp .eq 29, 3) := by decide +kernel
theorem dX21_checkArgument_44 : decode cX21_checkArgument 44 = .ok (.iload_n 3, 1) := by decide +kernel
theorem dX21_checkArgument_45 : decode cX21_checkArgument 45 = .ok (.ifCond .eq 25, 3) := by decide +kernel
theorem dX21_checkArgument_48 : decode cX21_checkArgument 48 = .ok (.iload_n 3, 1) := by decide +kernel
theorem dX21_checkArgument_49 : decode cX21_checkArgument 49 = .ok (.iconst 2, 1) := by decide +kernel
theorem dX21_checkArgument_50 : decode cX21_checkArgument 50 = .ok (.if_icmp .ne 9, 3) := by decide +kernel
theorem dX21_checkArgument_53 : decode cX21_checkArgument 53 = .ok (.iload_n 2, 1) := by decide +kernel
theorem dX21_checkArgument_54 : decode cX21_checkArgument 54 = .ok (.bipush 99, 2) := by decide +kernel
theorem dX21_checkArgument_56 : decode cX21_checkArgument 56 = .ok (.if_icmp .ne 14, 3) := by decide +kernel
theorem dX21_checkArgument_59 : decode cX21_checkArgument 59 = .ok (.iload_n 3, 1) := by decide +kernel
theorem dX21_checkArgument_60 : decode cX21_checkArgument 60 = .ok (.iconst 3, 1) := by decide +kernel
theorem dX21_checkArgument_61 : decode cX21_checkArgument 61 = .ok (.if_icmp .ne 13, 3) := by decide +kernel
theorem dX21_checkArgument_64 : decode cX21_checkArgument 64 = .ok (.iload_n 2, 1) := by decide +kernel
theorem dX21_checkArgument_65 : decode cX21_checkArgument 65 = .ok (.bipush 115, 2) := by decide +kernel
theorem dX21_checkArgument_67 : decode cX21_checkArgument 67 = .ok (.if_icmp .eq 7, 3) := by decide +kernel
theorem dX21_checkArgument_70 : decode cX21_checkArgument 70 = .ok (.iconst 1, 1) := by decide +kernel
theorem dX21_checkArgument_71 : decode cX21_checkArgument 71 = .ok (.goto 4, 3) := by decide +kernel
theorem dX21_checkArgument_74 : decode cX21_checkArgument 74 = .ok (.iconst 0, 1) := by decide +kernel
theorem dX21_checkArgument_75 : decode cX21_checkArgument 75 = .ok (.istore 4, 2) := by decide +kernel
theorem dX21_checkArgument_77 : decode cX21_checkArgument 77 = .ok (.iload 4, 2) := by decide +kernel
theorem dX21_checkArgument_79 : decode cX21_checkArgument 79 = .ok (.ifCond .ne 13, 3) := by decide +kernel
theorem dX21_checkArgument_82 : decode cX21_checkArgument 82 = .ok (.aload_n 0, 1) := by decide +kernel
theorem dX21_checkArgument_83 : decode cX21_checkArgument 83 = .ok (.iconst 3, 1) := by decide +kernel
theorem dX21_checkArgument_84 : decode cX21_checkArgument 84 = .ok (.aload_n 0, 1) := by decide +kernel
theorem dX21_checkArgument_85 : decode cX21_checkArgument 85 = .ok (.iload_n 1, 1) := by decide +kernel
theorem dX21_checkArgument_86 : decode cX21_checkArgument 86 = .ok (.invokevirtual 616, 3) := by decide +kernel
theorem dX21_checkArgument_89 : decode cX21_checkArgument 89 = .ok (.invokevirtual 597, 3) := by decide +kernel
theorem dX21_checkArgument_92 : decode cX21_checkArgument 92 = .ok (.return_, 1) := by decide +kernel
theorem dX21_checkConstant_0 : decode cX21_checkConstant 0 = .ok (.aload_n 0, 1) := by decide +kernel
theorem dX21_checkConstant_1 : decode cX21_checkConstant 1 = .ok (.getfield 634, 3) := by decide +kernel
theorem dX21_checkConstant_4 : decode cX21_checkConstant 4 = .ok (.istore_n 2, 1) := by decide +kernel
theorem dX21_checkConstant_5 : decode cX21_checkConstant 5 = .ok (.aload_n 0, 1) := by decide +kernel
theorem dX21_checkConstant_6 : decode cX21_checkConstant 6 = .ok (.getfield 637, 3) := by decide +kernel
theorem dX21_checkConstant_9 : decode cX21_checkConstant 9 = .ok (.istore_n 3, 1) := by decide +kernel
theorem dX21_checkConstant_10 : decode cX21_checkConstant 10 = .ok (.aload_n 0, 1) := by decide +kernel
theorem dX21_checkConstant_11 : decode cX21_checkConstant 11 = .ok (.iconst 0, 1) := by decide +kernel
theorem dX21_checkConstant_12 : decode cX21_checkConstant 12 = .ok (.putfield 634, 3) := by decide +kernel
theorem dX21_checkConstant_15 : decode cX21_checkConstant 15 = .ok (.aload_n 0, 1) := by decide +kernel
theorem dX21_checkConstant_16 : decode cX21_checkConstant 16 = .ok (.iconst 0, 1) := by decide +kernel
theorem dX21_checkConstant_17 : decode cX21_checkConstant 17 = .ok (.putfield 637, 3) := by decide +kernel
theorem dX21_checkConstant_20 : decode cX21_checkConstant 20 = .ok (.aload_n 0, 1) := by decide +kernel
theorem dX21_checkConstant_21 : decode cX21_checkConstant 21 = .ok (.iload_n 1, 1) := by decide +kernel
theorem dX21_checkConstant_22 : decode cX21_checkConstant 22 = .ok (.invokevirtual 631, 3) := by decide +kernel
theorem dX21_checkConstant_25 : decode cX21_checkConstant 25 = .ok (.aload_n 0, 1) := by decide +kernel
theorem dX21_checkConstant_26 : decode cX21_checkConstant 26 = .ok (.getfield 634, 3) := by decide +kernel
theorem dX21_checkConstant_29 : decode cX21_checkConstant 29 = .ok (.ifCond .ne 29, 3) := by decide +kernel
theorem dX21_checkConstant_32 : decode cX21_checkConstant 32 = .ok (.aload_n 0, 1) := by decide +kernel
theorem dX21_checkConstant_33 : decode cX21_checkConstant 33 = .ok (.getfield 637, 3) := by decide +kernel
theorem dX21_checkConstant_36 : decode cX21_checkConstant 36 = .ok (.ifCond .ne 22, 3) := by decide +kernel
theorem dX21_checkConstant_39 : decode cX21_checkConstant 39 = .ok (.aload_n 0, 1) := by decide +kernel
theorem dX21_checkConstant_40 : decode cX21_checkConstant 40 = .ok (.aload_n 0, 1) := by decide +kernel
theorem dX21_checkConstant_41 : decode cX21_checkConstant 41 = .ok (.iload_n 1, 1) := by decide +kernel
theorem dX21_checkConstant_42 : decode cX21_checkConstant 42 = .ok (.invokevirtual 640, 3) := by decide +kernel
theorem dX21_checkConstant_45 : decode cX21_checkConstant 45 = .ok (.putfield 643, 3) := by decide +kernel
theorem dX21_checkConstant_48 : decode cX21_checkConstant 48 = .ok (.aload_n 0, 1) := by decide +kernel
theorem dX21_checkConstant_49 : decode cX21_checkConstant 49 = .ok (.getfield 226, 3) := by decide +kernel
theorem dX21_checkConstant_52 : decode cX21_checkConstant 52 = .ok (.iload_n 1, 1) := by decide +kernel
theorem dX21_checkConstant_53 : decode cX21_checkConstant 53 = .ok (.aload_n 0, 1) := by decide +kernel
theorem dX21_checkConstant_54 : decode cX21_checkConstant 54 = .ok (.getfield 643, 3) := by decide +kernel
theorem dX21_checkConstant_57 : decode cX21_checkConstant 57 = .ok (.iastore, 1) := by decide +kernel
theorem dX21_checkConstant_58 : decode cX21_checkConstant 58 = .ok (.aload_n 0, 1) := by decide +kernel
theorem dX21_checkConstant_59 : decode cX21_checkConstant 59 = .ok (.getfield 634, 3) := by decide +kernel
theorem dX21_checkConstant_62 : decode cX21_checkConstant 62 = .ok (.ifCond .eq 14, 3) := by decide +kernel
theorem dX21_checkConstant_65 : decode cX21_checkConstant 65 = .ok (.aload_n 0, 1) := by decide +kernel
theorem dX21_checkConstant_66 : decode cX21_checkConstant 66 = .ok (.bipush 7, 2) := by decide +kernel
theorem dX21_checkConstant_68 : decode cX21_checkConstant 68 = .ok (.aload_n 0, 1) := by decide +kernel
theorem dX21_checkConstant_69 : decode cX21_checkConstant 69 = .ok (.iload_n 1, 1) := by decide +kernel
theorem dX21_checkConstant_70 : decode cX21_checkConstant 70 = .ok (.invokevirtual 616, 3) := by decide +kernel
theorem dX21_checkConstant_73 : decode cX21_checkConstant 73 = .ok (.invokevirtual 597, 3) := by decide +kernel
theorem dX21_checkConstant_76 : decode cX21_checkConstant 76 = .ok (.aload_n 0, 1) := by decide +kernel
theorem dX21_checkConstant_77 : decode cX21_checkConstant 77 = .ok (.getfield 634, 3) := by decide +kernel
theorem dX21_checkConstant_80 : decode cX21_checkConstant 80 = .ok (.ifCond .ne 14, 3) := by decide +kernel
theorem dX21_checkConstant_83 : decode cX21_checkConstant 83 = .ok (.aload_n 0, 1) := by decide +kernel
theorem dX21_checkConstant_84 : decode cX21_checkConstant 84 = .ok (.getfield 637, 3) := by decide +kernel
theorem dX21_checkConstant_87 : decode cX21_checkConstant 87 = .ok (.ifCond .ne 7, 3) := by decide +kernel
theorem dX21_checkConstant_90 : decode cX21_checkConstant 90 = .ok (.iconst 1, 1) := by decide +kernel
theorem dX21_checkConstant_91 : decode cX21_checkConstant 91 = .ok (.goto 4, 3) := by decide +kernel
theorem dX21_checkConstant_94 : decode cX21_checkConstant 94 = .ok (.iconst 0, 1) := by decide +kernel
theorem dX21_checkConstant_95 : decode cX21_checkConstant 95 = .ok (.istore 4, 2) := by decide +kernel
theorem dX21_checkConstant_97 : decode cX21_checkConstant 97 = .ok (.aload_n 0, 1) := by decide +kernel
theorem dX21_checkConstant_98 : decode cX21_checkConstant 98 = .ok (.iload_n 2, 1) := by decide +kernel
theorem dX21_checkConstant_99 : decode cX21_checkConstant 99 = .ok (.putfield 634, 3) := by decide +kernel
theorem dX21_checkConstant_102 : decode cX21_checkConstant 102 = .ok (.aload_n 0, 1) := by decide +kernel
theorem dX21_checkConstant_103 : decode cX21_checkConstant 103 = .ok (.iload_n 3, 1) := by decide +kernel
theorem dX21_checkConstant_104 : decode cX21_checkConstant 104 = .ok (.putfield 637, 3) := by decide +kernel
theorem dX21_checkConstant_107 : decode cX21_checkConstant 107 = .ok (.iload 4, 2) := by decide +kernel
theorem dX21_checkConstant_109 : decode cX21_checkConstant 109 = .ok (.ireturn, 1) := by decide +kernel
theorem dX21_meet_0 : decode cX21_meet 0 = .ok (.aload_n 0, 1) := by decide +kernel
theorem dX21_meet_1 : decode cX21_meet 1 = .ok (.getfield 208, 3) := by decide +kernel
theorem dX21_meet_4 : decode cX21_meet 4 = .ok (.iload_n 1, 1) := by decide +kernel
theorem dX21_meet_5 : decode cX21_meet 5 = .ok (.baload, 1) := by decide +kernel
theorem dX21_meet_6 : decode cX21_meet 6 = .ok (.tableswitch 162 1 8 #[46, 49, 162, 162, 119, 162, 57, 86], 46) := by decide +kernel
theorem dX21_meet_52 : decode cX21_meet 52 = .ok (.goto 128, 3) := by decide +kernel
theorem dX21_meet_55 : decode cX21_meet 55 = .ok (.aload_n 0, 1) := by decide +kernel
theorem dX21_meet_56 : decode cX21_meet 56 = .ok (.iload_n 1, 1) := by decide +kernel
theorem dX21_meet_57 : decode cX21_meet 57 = .ok (.invokevirtual 628, 3) := by decide +kernel
theorem dX21_meet_60 : decode cX21_meet 60 = .ok (.goto 120, 3) := by decide +kernel
theorem dX21_meet_63 : decode cX21_meet 63 = .ok (.aload_n 0, 1) := by decide +kernel
theorem dX21_meet_64 : decode cX21_meet 64 = .ok (.getfield 217, 3) := by decide +kernel
theorem dX21_meet_67 : decode cX21_meet 67 = .ok (.iload_n 1, 1) := by decide +kernel
theorem dX21_meet_68 : decode cX21_meet 68 = .ok (.iaload, 1) := by decide +kernel
theorem dX21_meet_69 : decode cX21_meet 69 = .ok (.istore_n 2, 1) := by decide +kernel
theorem dX21_meet_70 : decode cX21_meet 70 = .ok (.iload_n 2, 1) := by decide +kernel
theorem dX21_meet_71 : decode cX21_meet 71 = .ok (.ifCond .lt 18, 3) := by decide +kernel
theorem dX21_meet_74 : decode cX21_meet 74 = .ok (.aload_n 0, 1) := by decide +kernel
theorem dX21_meet_75 : decode cX21_meet 75 = .ok (.iload_n 2, 1) := by decide +kernel
theorem dX21_meet_76 : decode cX21_meet 76 = .ok (.invokevirtual 631, 3) := by decide +kernel
theorem dX21_meet_79 : decode cX21_meet 79 = .ok (.aload_n 0, 1) := by decide +kernel
theorem dX21_meet_80 : decode cX21_meet 80 = .ok (.getfield 229, 3) := by decide +kernel
theorem dX21_meet_83 : decode cX21_meet 83 = .ok (.iload_n 2, 1) := by decide +kernel
theorem dX21_meet_84 : decode cX21_meet 84 = .ok (.iaload, 1) := by decide +kernel
theorem dX21_meet_85 : decode cX21_meet 85 = .ok (.istore_n 2, 1) := by decide +kernel
theorem dX21_meet_86 : decode cX21_meet 86 = .ok (.goto (-16), 3) := by decide +kernel
theorem dX21_meet_89 : decode cX21_meet 89 = .ok (.goto 91, 3) := by decide +kernel
theorem dX21_meet_92 : decode cX21_meet 92 = .ok (.aload_n 0, 1) := by decide +kernel
theorem dX21_meet_93 : decode cX21_meet 93 = .ok (.aload_n 0, 1) := by decide +kernel
theorem dX21_meet_94 : decode cX21_meet 94 = .ok (.getfield 217, 3) := by decide +kernel
theorem dX21_meet_97 : decode cX21_meet 97 = .ok (.iload_n 1, 1) := by decide +kernel
theorem dX21_meet_98 : decode cX21_meet 98 = .ok (.iaload, 1) := by decide +kernel
theorem dX21_meet_99 : decode cX21_meet 99 = .ok (.invokevirtual 631, 3) := by decide +kernel
theorem dX21_meet_102 : decode cX21_meet 102 = .ok (.aload_n 0, 1) := by decide +kernel
theorem dX21_meet_103 : decode cX21_meet 103 = .ok (.aload_n 0, 1) := by decide +kernel
theorem dX21_meet_104 : decode cX21_meet 104 = .ok (.getfield 220, 3) := by decide +kernel
theorem dX21_meet_107 : decode cX21_meet 107 = .ok (.iload_n 1, 1) := by decide +kernel
theorem dX21_meet_108 : decode cX21_meet 108 = .ok (.iaload, 1) := by decide +kernel
theorem dX21_meet_109 : decode cX21_meet 109 = .ok (.invokevirtual 631, 3) := by decide +kernel
theorem dX21_meet_112 : decode cX21_meet 112 = .ok (.aload_n 0, 1) := by decide +kernel
theorem dX21_meet_113 : decode cX21_meet 113 = .ok (.aload_n 0, 1) := by decide +kernel
theorem dX21_meet_114 : decode cX21_meet 114 = .ok (.getfield 223, 3) := by decide +kernel
theorem dX21_meet_117 : decode cX21_meet 117 = .ok (.iload_n 1, 1) := by decide +kernel
theorem dX21_meet_118 : decode cX21_meet 118 = .ok (.iaload, 1) := by decide +kernel
theorem dX21_meet_119 : decode cX21_meet 119 = .ok (.invokevirtual 631, 3) := by decide +kernel
theorem dX21_meet_122 : decode cX21_meet 122 = .ok (.goto 58, 3) := by decide +kernel
theorem dX21_meet_125 : decode cX21_meet 125 = .ok (.aload_n 0, 1) := by decide +kernel
theorem dX21_meet_126 : decode cX21_meet 126 = .ok (.getfield 199, 3) := by decide +kernel
theorem dX21_meet_129 : decode cX21_meet 129 = .ok (.aload_n 0, 1) := by decide +kernel
theorem dX21_meet_130 : decode cX21_meet 130 = .ok (.getfield 211, 3) := by decide +kernel
theorem dX21_meet_133 : decode cX21_meet 133 = .ok (.iload_n 1, 1) := by decide +kernel
theorem dX21_meet_134 : decode cX21_meet 134 = .ok (.iaload, 1) := by decide +kernel
theorem dX21_meet_135 : decode cX21_meet 135 = .ok (.iaload, 1) := by decide +kernel
theorem dX21_meet_136 : decode cX21_meet 136 = .ok (.iconst 2, 1) := by decide +kernel
theorem dX21_meet_137 : decode cX21_meet 137 = .ok (.if_icmp .ne 18, 3) := by decide +kernel
theorem dX21_meet_140 : decode cX21_meet 140 = .ok (.aload_n 0, 1) := by decide +kernel
theorem dX21_meet_141 : decode cX21_meet 141 = .ok (.iload_n 1, 1) := by decide +kernel
theorem dX21_meet_142 : decode cX21_meet 142 = .ok (.iconst 1, 1) := by decide +kernel
theorem dX21_meet_143 : decode cX21_meet 143 = .ok (.invokevirtual 609, 3) := by decide +kernel
theorem dX21_meet_146 : decode cX21_meet 146 = .ok (.pop, 1) := by decide +kernel
theorem dX21_meet_147 : decode cX21_meet 147 = .ok (.aload_n 0, 1) := by decide +kernel
theorem dX21_meet_148 : decode cX21_meet 148 = .ok (.iconst 1, 1) := by decide +kernel
theorem dX21_meet_149 : decode cX21_meet 149 = .ok (.putfield 634, 3) := by decide +kernel
theorem dX21_meet_152 : decode cX21_meet 152 = .ok (.goto 28, 3) := by decide +kernel
theorem dX21_meet_155 : decode cX21_meet 155 = .ok (.aload_n 0, 1) := by decide +kernel
theorem dX21_meet_156 : decode cX21_meet 156 = .ok (.aload_n 0, 1) := by decide +kernel
theorem dX21_meet_157 : decode cX21_meet 157 = .ok (.getfield 217, 3) := by decide +kernel
theorem dX21_meet_160 : decode cX21_meet 160 = .ok (.iload_n 1, 1) := by decide +kernel
theorem dX21_meet_161 : decode cX21_meet 161 = .ok (.iaload, 1) := by decide +kernel
theorem dX21_meet_162 : decode cX21_meet 162 = .ok (.invokevirtual 631, 3) := by decide +kernel
theorem dX21_meet_165 : decode cX21_meet 165 = .ok (.goto 15, 3) := by decide +kernel
theorem dX21_meet_168 : decode cX21_meet 168 = .ok (.aload_n 0, 1) := by decide +kernel
theorem dX21_meet_169 : decode cX21_meet 169 = .ok (.iload_n 1, 1) := by decide +kernel
theorem dX21_meet_170 : decode cX21_meet 170 = .ok (.iconst 1, 1) := by decide +kernel
theorem dX21_meet_171 : decode cX21_meet 171 = .ok (.invokevirtual 609, 3) := by decide +kernel
theorem dX21_meet_174 : decode cX21_meet 174 = .ok (.pop, 1) := by decide +kernel
theorem dX21_meet_175 : decode cX21_meet 175 = .ok (.aload_n 0, 1) := by decide +kernel
theorem dX21_meet_176 : decode cX21_meet 176 = .ok (.iconst 1, 1) := by decide +kernel
theorem dX21_meet_177 : decode cX21_meet 177 = .ok (.putfield 634, 3) := by decide +kernel
theorem dX21_meet_180 : decode cX21_meet 180 = .ok (.return_, 1) := by decide +kernel
theorem dX21_meetName_0 : decode cX21_meetName 0 = .ok (.aload_n 0, 1) := by decide +kernel
theorem dX21_meetName_1 : decode cX21_meetName 1 = .ok (.iload_n 1, 1) := by decide +kernel
theorem dX21_meetName_2 : decode cX21_meetName 2 = .ok (.invokevirtual 600, 3) := by decide +kernel
theorem dX21_meetName_5 : decode cX21_meetName 5 = .ok (.istore_n 2, 1) := by decide +kernel
theorem dX21_meetName_6 : decode cX21_meetName 6 = .ok (.iload_n 2, 1) := by decide +kernel
theorem dX21_meetName_7 : decode cX21_meetName 7 = .ok (.ifCond .ne 9, 3) := by decide +kernel
theorem dX21_meetName_10 : decode cX21_meetName 10 = .ok (.aload_n 0, 1) := by decide +kernel
theorem dX21_meetName_11 : decode cX21_meetName 11 = .ok (.iconst 1, 1) := by decide +kernel
theorem dX21_meetName_12 : decode cX21_meetName 12 = .ok (.putfield 637, 3) := by decide +kernel
theorem dX21_meetName_15 : decode cX21_meetName 15 = .ok (.return_, 1) := by decide +kernel
theorem dX21_meetName_16 : decode cX21_meetName 16 = .ok (.iload_n 2, 1) := by decide +kernel
theorem dX21_meetName_17 : decode cX21_meetName 17 = .ok (.iconst 1, 1) := by decide +kernel
theorem dX21_meetName_18 : decode cX21_meetName 18 = .ok (.if_icmp .eq 13, 3) := by decide +kernel
theorem dX21_meetName_21 : decode cX21_meetName 21 = .ok (.aload_n 0, 1) := by decide +kernel
theorem dX21_meetName_22 : decode cX21_meetName 22 = .ok (.iconst 3, 1) := by decide +kernel
theorem dX21_meetName_23 : decode cX21_meetName 23 = .ok (.aload_n 0, 1) := by decide +kernel
theorem dX21_meetName_24 : decode cX21_meetName 24 = .ok (.iload_n 1, 1) := by decide +kernel
theorem dX21_meetName_25 : decode cX21_meetName 25 = .ok (.invokevirtual 616, 3) := by decide +kernel
theorem dX21_meetName_28 : decode cX21_meetName 28 = .ok (.invokevirtual 597, 3) := by decide +kernel
theorem dX21_meetName_31 : decode cX21_meetName 31 = .ok (.aload_n 0, 1) := by decide +kernel
theorem dX21_meetName_32 : decode cX21_meetName 32 = .ok (.aload_n 0, 1) := by decide +kernel
theorem dX21_meetName_33 : decode cX21_meetName 33 = .ok (.getfield 634, 3) := by decide +kernel
theorem dX21_meetName_36 : decode cX21_meetName 36 = .ok (.ifCond .ne 23, 3) := by decide +kernel
theorem dX21_meetName_39 : decode cX21_meetName 39 = .ok (.aload_n 0, 1) := by decide +kernel
theorem dX21_meetName_40 : decode cX21_meetName 40 = .ok (.getfield 250, 3) := by decide +kernel
theorem dX21_meetName_43 : decode cX21_meetName 43 = .ok (.aload_n 0, 1) := by decide +kernel
theorem dX21_meetName_44 : decode cX21_meetName 44 = .ok (.aload_n 0, 1) := by decide +kernel
theorem dX21_meetName_45 : decode cX21_meetName 45 = .ok (.getfield 211, 3) := by decide +kernel
theorem dX21_meetName_48 : decode cX21_meetName 48 = .ok (.iload_n 1, 1) := by decide +kernel
theorem dX21_meetName_49 : decode cX21_meetName 49 = .ok (.iaload, 1) := by decide +kernel
theorem dX21_meetName_50 : decode cX21_meetName 50 = .ok (.iconst 0, 1) := by decide +kernel
theorem dX21_meetName_51 : decode cX21_meetName 51 = .ok (.invokevirtual 591, 3) := by decide +kernel
theorem dX21_meetName_54 : decode cX21_meetName 54 = .ok (.iaload, 1) := by decide +kernel
theorem dX21_meetName_55 : decode cX21_meetName 55 = .ok (.iconst 4, 1) := by decide +kernel
theorem dX21_meetName_56 : decode cX21_meetName 56 = .ok (.if_icmp .eq 7, 3) := by decide +kernel
theorem dX21_meetName_59 : decode cX21_meetName 59 = .ok (.iconst 1, 1) := by decide +kernel
theorem dX21_meetName_60 : decode cX21_meetName 60 = .ok (.goto 4, 3) := by decide +kernel
theorem dX21_meetName_63 : decode cX21_meetName 63 = .ok (.iconst 0, 1) := by decide +kernel
theorem dX21_meetName_64 : decode cX21_meetName 64 = .ok (.putfield 634, 3) := by decide +kernel
theorem dX21_meetName_67 : decode cX21_meetName 67 = .ok (.return_, 1) := by decide +kernel
theorem dX21_first_0 : decode cX21_first 0 = .ok (.aload_n 0, 1) := by decide +kernel
theorem dX21_first_1 : decode cX21_first 1 = .ok (.getfield 214, 3) := by decide +kernel
theorem dX21_first_4 : decode cX21_first 4 = .ok (.iload_n 1, 1) := by decide +kernel
theorem dX21_first_5 : decode cX21_first 5 = .ok (.iaload, 1) := by decide +kernel
theorem dX21_first_6 : decode cX21_first 6 = .ok (.ireturn, 1) := by decide +kernel
theorem dX21_reckon_0 : decode cX21_reckon 0 = .ok (.aload_n 0, 1) := by decide +kernel
theorem dX21_reckon_1 : decode cX21_reckon 1 = .ok (.getfield 208, 3) := by decide +kernel
theorem dX21_reckon_4 : decode cX21_reckon 4 = .ok (.iload_n 1, 1) := by decide +kernel
theorem dX21_reckon_5 : decode cX21_reckon 5 = .ok (.baload, 1) := by decide +kernel
theorem dX21_reckon_6 : decode cX21_reckon 6 = .ok (.tableswitch 183 1 8 #[46, 58, 183, 183, 75, 183, 183, 146], 46) := by decide +kernel
theorem dX21_reckon_52 : decode cX21_reckon 52 = .ok (.aload_n 0, 1) := by decide +kernel
theorem dX21_reckon_53 : decode cX21_reckon 53 = .ok (.getfield 205, 3) := by decide +kernel
theorem dX21_reckon_56 : decode cX21_reckon 56 = .ok (.aload_n 0, 1) := by decide +kernel
theorem dX21_reckon_57 : decode cX21_reckon 57 = .ok (.getfield 211, 3) := by decide +kernel
theorem dX21_reckon_60 : decode cX21_reckon 60 = .ok (.iload_n 1, 1) := by decide +kernel
theorem dX21_reckon_61 : decode cX21_reckon 61 = .ok (.iaload, 1) := by decide +kernel
theorem dX21_reckon_62 : decode cX21_reckon 62 = .ok (.iaload, 1) := by decide +kernel
theorem dX21_reckon_63 : decode cX21_reckon 63 = .ok (.ireturn, 1) := by decide +kernel
theorem dX21_reckon_64 : decode cX21_reckon 64 = .ok (.aload_n 0, 1) := by decide +kernel
theorem dX21_reckon_65 : decode cX21_reckon 65 = .ok (.getfield 253, 3) := by decide +kernel
theorem dX21_reckon_68 : decode cX21_reckon 68 = .ok (.aload_n 0, 1) := by decide +kernel
theorem dX21_reckon_69 : decode cX21_reckon 69 = .ok (.aload_n 0, 1) := by decide +kernel
theorem dX21_reckon_70 : decode cX21_reckon 70 = .ok (.getfield 211, 3) := by decide +kernel
theorem dX21_reckon_73 : decode cX21_reckon 73 = .ok (.iload_n 1, 1) := by decide +kernel
theorem dX21_reckon_74 : decode cX21_reckon 74 = .ok (.iaload, 1) := by decide +kernel
theorem dX21_reckon_75 : decode cX21_reckon 75 = .ok (.iconst 0, 1) := by decide +kernel
theorem dX21_reckon_76 : decode cX21_reckon 76 = .ok (.invokevirtual 591, 3) := by decide +kernel
theorem dX21_reckon_79 : decode cX21_reckon 79 = .ok (.iaload, 1) := by decide +kernel
theorem dX21_reckon_80 : decode cX21_reckon 80 = .ok (.ireturn, 1) := by decide +kernel
theorem dX21_reckon_81 : decode cX21_reckon 81 = .ok (.aload_n 0, 1) := by decide +kernel
theorem dX21_reckon_82 : decode cX21_reckon 82 = .ok (.aload_n 0, 1) := by decide +kernel
theorem dX21_reckon_83 : decode cX21_reckon 83 = .ok (.getfield 217, 3) := by decide +kernel
theorem dX21_reckon_86 : decode cX21_reckon 86 = .ok (.iload_n 1, 1) := by decide +kernel
theorem dX21_reckon_87 : decode cX21_reckon 87 = .ok (.iaload, 1) := by decide +kernel
theorem dX21_reckon_88 : decode cX21_reckon 88 = .ok (.invokevirtual 640, 3) := by decide +kernel
theorem dX21_reckon_91 : decode cX21_reckon 91 = .ok (.istore_n 2, 1) := by decide +kernel
theorem dX21_reckon_92 : decode cX21_reckon 92 = .ok (.aload_n 0, 1) := by decide +kernel
theorem dX21_reckon_93 : decode cX21_reckon 93 = .ok (.getfield 192, 3) := by decide +kernel
theorem dX21_reckon_96 : decode cX21_reckon 96 = .ok (.aload_n 0, 1) := by decide +kernel
