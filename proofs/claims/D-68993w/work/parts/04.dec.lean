set_option maxRecDepth 100000
theorem dX13_name_20 : decode cX13_name 20 = .ok (.iconst (-1), 1) := by decide +kernel
theorem dX13_name_21 : decode cX13_name 21 = .ok (.if_icmp .eq 12, 3) := by decide +kernel
theorem dX13_name_24 : decode cX13_name 24 = .ok (.aload_n 0, 1) := by decide +kernel
theorem dX13_name_25 : decode cX13_name 25 = .ok (.getfield 68, 3) := by decide +kernel
theorem dX13_name_28 : decode cX13_name 28 = .ok (.iload_n 1, 1) := by decide +kernel
theorem dX13_name_29 : decode cX13_name 29 = .ok (.invokevirtual 210, 3) := by decide +kernel
theorem dX13_name_32 : decode cX13_name 32 = .ok (.ireturn, 1) := by decide +kernel
theorem dX13_name_33 : decode cX13_name 33 = .ok (.aload_n 0, 1) := by decide +kernel
theorem dX13_name_34 : decode cX13_name 34 = .ok (.iload_n 1, 1) := by decide +kernel
theorem dX13_name_35 : decode cX13_name 35 = .ok (.aload_n 0, 1) := by decide +kernel
theorem dX13_name_36 : decode cX13_name 36 = .ok (.iload_n 2, 1) := by decide +kernel
theorem dX13_name_37 : decode cX13_name 37 = .ok (.invokevirtual 246, 3) := by decide +kernel
theorem dX13_name_40 : decode cX13_name 40 = .ok (.invokevirtual 371, 3) := by decide +kernel
theorem dX13_name_43 : decode cX13_name 43 = .ok (.aload_n 0, 1) := by decide +kernel
theorem dX13_name_44 : decode cX13_name 44 = .ok (.iload_n 2, 1) := by decide +kernel
theorem dX13_name_45 : decode cX13_name 45 = .ok (.invokevirtual 252, 3) := by decide +kernel
theorem dX13_name_48 : decode cX13_name 48 = .ok (.ireturn, 1) := by decide +kernel
theorem dX13_read_0 : decode cX13_read 0 = .ok (.aload_n 0, 1) := by decide +kernel
theorem dX13_read_1 : decode cX13_read 1 = .ok (.getfield 39, 3) := by decide +kernel
theorem dX13_read_4 : decode cX13_read 4 = .ok (.iload_n 1, 1) := by decide +kernel
theorem dX13_read_5 : decode cX13_read 5 = .ok (.invokevirtual 78, 3) := by decide +kernel
theorem dX13_read_8 : decode cX13_read 8 = .ok (.iconst (-1), 1) := by decide +kernel
theorem dX13_read_9 : decode cX13_read 9 = .ok (.if_icmp .ne 31, 3) := by decide +kernel
theorem dX13_read_12 : decode cX13_read 12 = .ok (.aload_n 0, 1) := by decide +kernel
theorem dX13_read_13 : decode cX13_read 13 = .ok (.getfield 50, 3) := by decide +kernel
theorem dX13_read_16 : decode cX13_read 16 = .ok (.iload_n 2, 1) := by decide +kernel
theorem dX13_read_17 : decode cX13_read 17 = .ok (.aload_n 0, 1) := by decide +kernel
theorem dX13_read_18 : decode cX13_read 18 = .ok (.getfield 15, 3) := by decide +kernel
theorem dX13_read_21 : decode cX13_read 21 = .ok (.iload_n 1, 1) := by decide +kernel
theorem dX13_read_22 : decode cX13_read 22 = .ok (.iaload, 1) := by decide +kernel
theorem dX13_read_23 : decode cX13_read 23 = .ok (.invokevirtual 98, 3) := by decide +kernel
theorem dX13_read_26 : decode cX13_read 26 = .ok (.aload_n 0, 1) := by decide +kernel
theorem dX13_read_27 : decode cX13_read 27 = .ok (.getfield 50, 3) := by decide +kernel
theorem dX13_read_30 : decode cX13_read 30 = .ok (.iconst 2, 1) := by decide +kernel
theorem dX13_read_31 : decode cX13_read 31 = .ok (.iload_n 2, 1) := by decide +kernel
theorem dX13_read_32 : decode cX13_read 32 = .ok (.iload_n 2, 1) := by decide +kernel
theorem dX13_read_33 : decode cX13_read 33 = .ok (.iconst 0, 1) := by decide +kernel
theorem dX13_read_34 : decode cX13_read 34 = .ok (.invokevirtual 328, 3) := by decide +kernel
theorem dX13_read_37 : decode cX13_read 37 = .ok (.goto 54, 3) := by decide +kernel
theorem dX13_read_40 : decode cX13_read 40 = .ok (.aload_n 0, 1) := by decide +kernel
theorem dX13_read_41 : decode cX13_read 41 = .ok (.getfield 68, 3) := by decide +kernel
theorem dX13_read_44 : decode cX13_read 44 = .ok (.iload_n 1, 1) := by decide +kernel
theorem dX13_read_45 : decode cX13_read 45 = .ok (.invokevirtual 210, 3) := by decide +kernel
theorem dX13_read_48 : decode cX13_read 48 = .ok (.iconst (-1), 1) := by decide +kernel
theorem dX13_read_49 : decode cX13_read 49 = .ok (.if_icmp .eq 22, 3) := by decide +kernel
theorem dX13_read_52 : decode cX13_read 52 = .ok (.aload_n 0, 1) := by decide +kernel
theorem dX13_read_53 : decode cX13_read 53 = .ok (.getfield 50, 3) := by decide +kernel
theorem dX13_read_56 : decode cX13_read 56 = .ok (.iload_n 2, 1) := by decide +kernel
theorem dX13_read_57 : decode cX13_read 57 = .ok (.aload_n 0, 1) := by decide +kernel
theorem dX13_read_58 : decode cX13_read 58 = .ok (.getfield 68, 3) := by decide +kernel
theorem dX13_read_61 : decode cX13_read 61 = .ok (.iload_n 1, 1) := by decide +kernel
theorem dX13_read_62 : decode cX13_read 62 = .ok (.invokevirtual 210, 3) := by decide +kernel
theorem dX13_read_65 : decode cX13_read 65 = .ok (.invokevirtual 167, 3) := by decide +kernel
theorem dX13_read_68 : decode cX13_read 68 = .ok (.goto 23, 3) := by decide +kernel
theorem dX13_read_71 : decode cX13_read 71 = .ok (.aload_n 0, 1) := by decide +kernel
theorem dX13_read_72 : decode cX13_read 72 = .ok (.getfield 50, 3) := by decide +kernel
theorem dX13_read_75 : decode cX13_read 75 = .ok (.iload_n 2, 1) := by decide +kernel
theorem dX13_read_76 : decode cX13_read 76 = .ok (.bipush 8, 2) := by decide +kernel
theorem dX13_read_78 : decode cX13_read 78 = .ok (.aload_n 0, 1) := by decide +kernel
theorem dX13_read_79 : decode cX13_read 79 = .ok (.getfield 68, 3) := by decide +kernel
theorem dX13_read_82 : decode cX13_read 82 = .ok (.iload_n 1, 1) := by decide +kernel
theorem dX13_read_83 : decode cX13_read 83 = .ok (.invokevirtual 218, 3) := by decide +kernel
theorem dX13_read_86 : decode cX13_read 86 = .ok (.ineg, 1) := by decide +kernel
theorem dX13_read_87 : decode cX13_read 87 = .ok (.iload_n 2, 1) := by decide +kernel
theorem dX13_read_88 : decode cX13_read 88 = .ok (.invokevirtual 221, 3) := by decide +kernel
theorem dX13_read_91 : decode cX13_read 91 = .ok (.return_, 1) := by decide +kernel
theorem dX13_reach_0 : decode cX13_reach 0 = .ok (.aload_n 0, 1) := by decide +kernel
theorem dX13_reach_1 : decode cX13_reach 1 = .ok (.iload_n 2, 1) := by decide +kernel
theorem dX13_reach_2 : decode cX13_reach 2 = .ok (.iconst 5, 1) := by decide +kernel
theorem dX13_reach_3 : decode cX13_reach 3 = .ok (.invokevirtual 249, 3) := by decide +kernel
theorem dX13_reach_6 : decode cX13_reach 6 = .ok (.istore_n 3, 1) := by decide +kernel
theorem dX13_reach_7 : decode cX13_reach 7 = .ok (.aload_n 0, 1) := by decide +kernel
theorem dX13_reach_8 : decode cX13_reach 8 = .ok (.iload_n 1, 1) := by decide +kernel
theorem dX13_reach_9 : decode cX13_reach 9 = .ok (.bipush 6, 2) := by decide +kernel
theorem dX13_reach_11 : decode cX13_reach 11 = .ok (.invokevirtual 331, 3) := by decide +kernel
theorem dX13_reach_14 : decode cX13_reach 14 = .ok (.aload_n 0, 1) := by decide +kernel
theorem dX13_reach_15 : decode cX13_reach 15 = .ok (.getfield 50, 3) := by decide +kernel
theorem dX13_reach_18 : decode cX13_reach 18 = .ok (.invokevirtual 85, 3) := by decide +kernel
theorem dX13_reach_21 : decode cX13_reach 21 = .ok (.istore 4, 2) := by decide +kernel
theorem dX13_reach_23 : decode cX13_reach 23 = .ok (.aload_n 0, 1) := by decide +kernel
theorem dX13_reach_24 : decode cX13_reach 24 = .ok (.getfield 50, 3) := by decide +kernel
theorem dX13_reach_27 : decode cX13_reach 27 = .ok (.ldc_w 334, 3) := by decide +kernel
theorem dX13_reach_30 : decode cX13_reach 30 = .ok (.iload_n 3, 1) := by decide +kernel
theorem dX13_reach_31 : decode cX13_reach 31 = .ok (.bipush 15, 2) := by decide +kernel
theorem dX13_reach_33 : decode cX13_reach 33 = .ok (.ishl, 1) := by decide +kernel
theorem dX13_reach_34 : decode cX13_reach 34 = .ok (.ior, 1) := by decide +kernel
theorem dX13_reach_35 : decode cX13_reach 35 = .ok (.sipush 24576, 3) := by decide +kernel
theorem dX13_reach_38 : decode cX13_reach 38 = .ok (.ior, 1) := by decide +kernel
theorem dX13_reach_39 : decode cX13_reach 39 = .ok (.sipush 1024, 3) := by decide +kernel
theorem dX13_reach_42 : decode cX13_reach 42 = .ok (.ior, 1) := by decide +kernel
theorem dX13_reach_43 : decode cX13_reach 43 = .ok (.bipush 99, 2) := by decide +kernel
theorem dX13_reach_45 : decode cX13_reach 45 = .ok (.ior, 1) := by decide +kernel
theorem dX13_reach_46 : decode cX13_reach 46 = .ok (.invokevirtual 228, 3) := by decide +kernel
theorem dX13_reach_49 : decode cX13_reach 49 = .ok (.aload_n 0, 1) := by decide +kernel
theorem dX13_reach_50 : decode cX13_reach 50 = .ok (.getfield 50, 3) := by decide +kernel
theorem dX13_reach_53 : decode cX13_reach 53 = .ok (.iconst 0, 1) := by decide +kernel
theorem dX13_reach_54 : decode cX13_reach 54 = .ok (.aload_n 0, 1) := by decide +kernel
theorem dX13_reach_55 : decode cX13_reach 55 = .ok (.bipush 16, 2) := by decide +kernel
theorem dX13_reach_57 : decode cX13_reach 57 = .ok (.invokevirtual 146, 3) := by decide +kernel
theorem dX13_reach_60 : decode cX13_reach 60 = .ok (.invokevirtual 94, 3) := by decide +kernel
theorem dX13_reach_63 : decode cX13_reach 63 = .ok (.aload_n 0, 1) := by decide +kernel
theorem dX13_reach_64 : decode cX13_reach 64 = .ok (.getfield 50, 3) := by decide +kernel
theorem dX13_reach_67 : decode cX13_reach 67 = .ok (.iload 4, 2) := by decide +kernel
theorem dX13_reach_69 : decode cX13_reach 69 = .ok (.invokevirtual 104, 3) := by decide +kernel
theorem dX13_reach_72 : decode cX13_reach 72 = .ok (.aload_n 0, 1) := by decide +kernel
theorem dX13_reach_73 : decode cX13_reach 73 = .ok (.getfield 39, 3) := by decide +kernel
theorem dX13_reach_76 : decode cX13_reach 76 = .ok (.iload_n 1, 1) := by decide +kernel
theorem dX13_reach_77 : decode cX13_reach 77 = .ok (.invokevirtual 317, 3) := by decide +kernel
theorem dX13_reach_80 : decode cX13_reach 80 = .ok (.iconst 1, 1) := by decide +kernel
theorem dX13_reach_81 : decode cX13_reach 81 = .ok (.if_icmp .ne 16, 3) := by decide +kernel
theorem dX13_reach_84 : decode cX13_reach 84 = .ok (.aload_n 0, 1) := by decide +kernel
theorem dX13_reach_85 : decode cX13_reach 85 = .ok (.getfield 50, 3) := by decide +kernel
theorem dX13_reach_88 : decode cX13_reach 88 = .ok (.bipush 7, 2) := by decide +kernel
theorem dX13_reach_90 : decode cX13_reach 90 = .ok (.iload_n 3, 1) := by decide +kernel
theorem dX13_reach_91 : decode cX13_reach 91 = .ok (.invokevirtual 167, 3) := by decide +kernel
theorem dX13_reach_94 : decode cX13_reach 94 = .ok (.goto 15, 3) := by decide +kernel
theorem dX13_reach_97 : decode cX13_reach 97 = .ok (.aload_n 0, 1) := by decide +kernel
theorem dX13_reach_98 : decode cX13_reach 98 = .ok (.getfield 50, 3) := by decide +kernel
theorem dX13_reach_101 : decode cX13_reach 101 = .ok (.iconst 1, 1) := by decide +kernel
theorem dX13_reach_102 : decode cX13_reach 102 = .ok (.bipush 7, 2) := by decide +kernel
theorem dX13_reach_104 : decode cX13_reach 104 = .ok (.iload_n 3, 1) := by decide +kernel
theorem dX13_reach_105 : decode cX13_reach 105 = .ok (.iconst 2, 1) := by decide +kernel
theorem dX13_reach_106 : decode cX13_reach 106 = .ok (.invokevirtual 179, 3) := by decide +kernel
theorem dX13_reach_109 : decode cX13_reach 109 = .ok (.aload_n 0, 1) := by decide +kernel
theorem dX13_reach_110 : decode cX13_reach 110 = .ok (.iload_n 1, 1) := by decide +kernel
theorem dX13_reach_111 : decode cX13_reach 111 = .ok (.bipush 6, 2) := by decide +kernel
theorem dX13_reach_113 : decode cX13_reach 113 = .ok (.iconst 0, 1) := by decide +kernel
theorem dX13_reach_114 : decode cX13_reach 114 = .ok (.invokevirtual 335, 3) := by decide +kernel
theorem dX13_reach_117 : decode cX13_reach 117 = .ok (.aload_n 0, 1) := by decide +kernel
theorem dX13_reach_118 : decode cX13_reach 118 = .ok (.getfield 50, 3) := by decide +kernel
theorem dX13_reach_121 : decode cX13_reach 121 = .ok (.iconst 0, 1) := by decide +kernel
theorem dX13_reach_122 : decode cX13_reach 122 = .ok (.iconst 0, 1) := by decide +kernel
theorem dX13_reach_123 : decode cX13_reach 123 = .ok (.bipush 7, 2) := by decide +kernel
theorem dX13_reach_125 : decode cX13_reach 125 = .ok (.bipush 7, 2) := by decide +kernel
theorem dX13_reach_127 : decode cX13_reach 127 = .ok (.bipush 6, 2) := by decide +kernel
theorem dX13_reach_129 : decode cX13_reach 129 = .ok (.invokevirtual 185, 3) := by decide +kernel
theorem dX13_reach_132 : decode cX13_reach 132 = .ok (.return_, 1) := by decide +kernel
theorem dX13_use_0 : decode cX13_use 0 = .ok (.iload_n 1, 1) := by decide +kernel
theorem dX13_use_1 : decode cX13_use 1 = .ok (.bipush 64, 2) := by decide +kernel
theorem dX13_use_3 : decode cX13_use 3 = .ok (.if_icmp .ge 5, 3) := by decide +kernel
theorem dX13_use_6 : decode cX13_use 6 = .ok (.iload_n 1, 1) := by decide +kernel
theorem dX13_use_7 : decode cX13_use 7 = .ok (.ireturn, 1) := by decide +kernel
theorem dX13_use_8 : decode cX13_use 8 = .ok (.aload_n 0, 1) := by decide +kernel
theorem dX13_use_9 : decode cX13_use 9 = .ok (.getfield 50, 3) := by decide +kernel
theorem dX13_use_12 : decode cX13_use 12 = .ok (.iload_n 2, 1) := by decide +kernel
theorem dX13_use_13 : decode cX13_use 13 = .ok (.iconst 2, 1) := by decide +kernel
theorem dX13_use_14 : decode cX13_use 14 = .ok (.iload_n 1, 1) := by decide +kernel
theorem dX13_use_15 : decode cX13_use 15 = .ok (.bipush 64, 2) := by decide +kernel
theorem dX13_use_17 : decode cX13_use 17 = .ok (.isub, 1) := by decide +kernel
theorem dX13_use_18 : decode cX13_use 18 = .ok (.invokestatic 243, 3) := by decide +kernel
theorem dX13_use_21 : decode cX13_use 21 = .ok (.iload_n 2, 1) := by decide +kernel
theorem dX13_use_22 : decode cX13_use 22 = .ok (.invokevirtual 221, 3) := by decide +kernel
theorem dX13_use_25 : decode cX13_use 25 = .ok (.iload_n 2, 1) := by decide +kernel
theorem dX13_use_26 : decode cX13_use 26 = .ok (.ireturn, 1) := by decide +kernel
theorem dX13_length_0 : decode cX13_length 0 = .ok (.aload_n 0, 1) := by decide +kernel
theorem dX13_length_1 : decode cX13_length 1 = .ok (.getfield 39, 3) := by decide +kernel
theorem dX13_length_4 : decode cX13_length 4 = .ok (.iload_n 1, 1) := by decide +kernel
theorem dX13_length_5 : decode cX13_length 5 = .ok (.invokevirtual 215, 3) := by decide +kernel
theorem dX13_length_8 : decode cX13_length 8 = .ok (.iconst (-1), 1) := by decide +kernel
theorem dX13_length_9 : decode cX13_length 9 = .ok (.if_icmp .eq 22, 3) := by decide +kernel
theorem dX13_length_12 : decode cX13_length 12 = .ok (.aload_n 0, 1) := by decide +kernel
theorem dX13_length_13 : decode cX13_length 13 = .ok (.getfield 50, 3) := by decide +kernel
theorem dX13_length_16 : decode cX13_length 16 = .ok (.iload_n 2, 1) := by decide +kernel
theorem dX13_length_17 : decode cX13_length 17 = .ok (.aload_n 0, 1) := by decide +kernel
theorem dX13_length_18 : decode cX13_length 18 = .ok (.getfield 39, 3) := by decide +kernel
theorem dX13_length_21 : decode cX13_length 21 = .ok (.iload_n 1, 1) := by decide +kernel
theorem dX13_length_22 : decode cX13_length 22 = .ok (.invokevirtual 215, 3) := by decide +kernel
theorem dX13_length_25 : decode cX13_length 25 = .ok (.invokevirtual 98, 3) := by decide +kernel
theorem dX13_length_28 : decode cX13_length 28 = .ok (.goto 54, 3) := by decide +kernel
theorem dX13_length_31 : decode cX13_length 31 = .ok (.aload_n 0, 1) := by decide +kernel
theorem dX13_length_32 : decode cX13_length 32 = .ok (.getfield 68, 3) := by decide +kernel
theorem dX13_length_35 : decode cX13_length 35 = .ok (.iload_n 1, 1) := by decide +kernel
theorem dX13_length_36 : decode cX13_length 36 = .ok (.invokevirtual 224, 3) := by decide +kernel
theorem dX13_length_39 : decode cX13_length 39 = .ok (.iconst (-1), 1) := by decide +kernel
theorem dX13_length_40 : decode cX13_length 40 = .ok (.if_icmp .eq 22, 3) := by decide +kernel
theorem dX13_length_43 : decode cX13_length 43 = .ok (.aload_n 0, 1) := by decide +kernel
theorem dX13_length_44 : decode cX13_length 44 = .ok (.getfield 50, 3) := by decide +kernel
theorem dX13_length_47 : decode cX13_length 47 = .ok (.iload_n 2, 1) := by decide +kernel
theorem dX13_length_48 : decode cX13_length 48 = .ok (.aload_n 0, 1) := by decide +kernel
theorem dX13_length_49 : decode cX13_length 49 = .ok (.getfield 68, 3) := by decide +kernel
theorem dX13_length_52 : decode cX13_length 52 = .ok (.iload_n 1, 1) := by decide +kernel
theorem dX13_length_53 : decode cX13_length 53 = .ok (.invokevirtual 224, 3) := by decide +kernel
theorem dX13_length_56 : decode cX13_length 56 = .ok (.invokevirtual 167, 3) := by decide +kernel
theorem dX13_length_59 : decode cX13_length 59 = .ok (.goto 23, 3) := by decide +kernel
theorem dX13_length_62 : decode cX13_length 62 = .ok (.aload_n 0, 1) := by decide +kernel
theorem dX13_length_63 : decode cX13_length 63 = .ok (.getfield 50, 3) := by decide +kernel
theorem dX13_length_66 : decode cX13_length 66 = .ok (.iload_n 2, 1) := by decide +kernel
theorem dX13_length_67 : decode cX13_length 67 = .ok (.bipush 8, 2) := by decide +kernel
theorem dX13_length_69 : decode cX13_length 69 = .ok (.aload_n 0, 1) := by decide +kernel
theorem dX13_length_70 : decode cX13_length 70 = .ok (.getfield 68, 3) := by decide +kernel
theorem dX13_length_73 : decode cX13_length 73 = .ok (.iload_n 1, 1) := by decide +kernel
theorem dX13_length_74 : decode cX13_length 74 = .ok (.invokevirtual 218, 3) := by decide +kernel
theorem dX13_length_77 : decode cX13_length 77 = .ok (.ineg, 1) := by decide +kernel
theorem dX13_length_78 : decode cX13_length 78 = .ok (.iload_n 2, 1) := by decide +kernel
theorem dX13_length_79 : decode cX13_length 79 = .ok (.invokevirtual 221, 3) := by decide +kernel
theorem dX13_length_82 : decode cX13_length 82 = .ok (.return_, 1) := by decide +kernel
theorem dX13_address_0 : decode cX13_address 0 = .ok (.aload_n 0, 1) := by decide +kernel
theorem dX13_address_1 : decode cX13_address 1 = .ok (.getfield 39, 3) := by decide +kernel
theorem dX13_address_4 : decode cX13_address 4 = .ok (.iload_n 1, 1) := by decide +kernel
theorem dX13_address_5 : decode cX13_address 5 = .ok (.invokevirtual 78, 3) := by decide +kernel
theorem dX13_address_8 : decode cX13_address 8 = .ok (.iconst (-1), 1) := by decide +kernel
theorem dX13_address_9 : decode cX13_address 9 = .ok (.if_icmp .ne 22, 3) := by decide +kernel
theorem dX13_address_12 : decode cX13_address 12 = .ok (.aload_n 0, 1) := by decide +kernel
theorem dX13_address_13 : decode cX13_address 13 = .ok (.getfield 50, 3) := by decide +kernel
theorem dX13_address_16 : decode cX13_address 16 = .ok (.iload_n 2, 1) := by decide +kernel
theorem dX13_address_17 : decode cX13_address 17 = .ok (.aload_n 0, 1) := by decide +kernel
theorem dX13_address_18 : decode cX13_address 18 = .ok (.getfield 15, 3) := by decide +kernel
theorem dX13_address_21 : decode cX13_address 21 = .ok (.iload_n 1, 1) := by decide +kernel
theorem dX13_address_22 : decode cX13_address 22 = .ok (.iaload, 1) := by decide +kernel
theorem dX13_address_23 : decode cX13_address 23 = .ok (.iload_n 3, 1) := by decide +kernel
theorem dX13_address_24 : decode cX13_address 24 = .ok (.iadd, 1) := by decide +kernel
theorem dX13_address_25 : decode cX13_address 25 = .ok (.invokevirtual 98, 3) := by decide +kernel
theorem dX13_address_28 : decode cX13_address 28 = .ok (.goto 110, 3) := by decide +kernel
theorem dX13_address_31 : decode cX13_address 31 = .ok (.aload_n 0, 1) := by decide +kernel
theorem dX13_address_32 : decode cX13_address 32 = .ok (.getfield 39, 3) := by decide +kernel
theorem dX13_address_35 : decode cX13_address 35 = .ok (.iload_n 1, 1) := by decide +kernel
theorem dX13_address_36 : decode cX13_address 36 = .ok (.invokevirtual 215, 3) := by decide +kernel
theorem dX13_address_39 : decode cX13_address 39 = .ok (.iconst (-1), 1) := by decide +kernel
theorem dX13_address_40 : decode cX13_address 40 = .ok (.if_icmp .eq 28, 3) := by decide +kernel
theorem dX13_address_43 : decode cX13_address 43 = .ok (.aload_n 0, 1) := by decide +kernel
theorem dX13_address_44 : decode cX13_address 44 = .ok (.getfield 50, 3) := by decide +kernel
theorem dX13_address_47 : decode cX13_address 47 = .ok (.iload_n 2, 1) := by decide +kernel
theorem dX13_address_48 : decode cX13_address 48 = .ok (.bipush 8, 2) := by decide +kernel
theorem dX13_address_50 : decode cX13_address 50 = .ok (.aload_n 0, 1) := by decide +kernel
theorem dX13_address_51 : decode cX13_address 51 = .ok (.getfield 68, 3) := by decide +kernel
theorem dX13_address_54 : decode cX13_address 54 = .ok (.iload_n 1, 1) := by decide +kernel
theorem dX13_address_55 : decode cX13_address 55 = .ok (.invokevirtual 218, 3) := by decide +kernel
theorem dX13_address_58 : decode cX13_address 58 = .ok (.ineg, 1) := by decide +kernel
theorem dX13_address_59 : decode cX13_address 59 = .ok (.iload_n 3, 1) := by decide +kernel
theorem dX13_address_60 : decode cX13_address 60 = .ok (.iadd, 1) := by decide +kernel
theorem dX13_address_61 : decode cX13_address 61 = .ok (.iload_n 2, 1) := by decide +kernel
theorem dX13_address_62 : decode cX13_address 62 = .ok (.invokevirtual 143, 3) := by decide +kernel
theorem dX13_address_65 : decode cX13_address 65 = .ok (.goto 73, 3) := by decide +kernel
theorem dX13_address_68 : decode cX13_address 68 = .ok (.aload_n 0, 1) := by decide +kernel
theorem dX13_address_69 : decode cX13_address 69 = .ok (.getfield 68, 3) := by decide +kernel
theorem dX13_address_72 : decode cX13_address 72 = .ok (.iload_n 1, 1) := by decide +kernel
theorem dX13_address_73 : decode cX13_address 73 = .ok (.invokevirtual 210, 3) := by decide +kernel
theorem dX13_address_76 : decode cX13_address 76 = .ok (.iconst (-1), 1) := by decide +kernel
theorem dX13_address_77 : decode cX13_address 77 = .ok (.if_icmp .eq 24, 3) := by decide +kernel
theorem dX13_address_80 : decode cX13_address 80 = .ok (.aload_n 0, 1) := by decide +kernel
theorem dX13_address_81 : decode cX13_address 81 = .ok (.getfield 50, 3) := by decide +kernel
theorem dX13_address_84 : decode cX13_address 84 = .ok (.iload_n 2, 1) := by decide +kernel
theorem dX13_address_85 : decode cX13_address 85 = .ok (.aload_n 0, 1) := by decide +kernel
theorem dX13_address_86 : decode cX13_address 86 = .ok (.getfield 68, 3) := by decide +kernel
theorem dX13_address_89 : decode cX13_address 89 = .ok (.iload_n 1, 1) := by decide +kernel
theorem dX13_address_90 : decode cX13_address 90 = .ok (.invokevirtual 210, 3) := by decide +kernel
theorem dX13_address_93 : decode cX13_address 93 = .ok (.iload_n 3, 1) := by decide +kernel
theorem dX13_address_94 : decode cX13_address 94 = .ok (.iload_n 2, 1) := by decide +kernel
theorem dX13_address_95 : decode cX13_address 95 = .ok (.invokevirtual 143, 3) := by decide +kernel
theorem dX13_address_98 : decode cX13_address 98 = .ok (.goto 40, 3) := by decide +kernel
theorem dX13_address_101 : decode cX13_address 101 = .ok (.aload_n 0, 1) := by decide +kernel
theorem dX13_address_102 : decode cX13_address 102 = .ok (.getfield 50, 3) := by decide +kernel
theorem dX13_address_105 : decode cX13_address 105 = .ok (.iload_n 2, 1) := by decide +kernel
theorem dX13_address_106 : decode cX13_address 106 = .ok (.bipush 8, 2) := by decide +kernel
theorem dX13_address_108 : decode cX13_address 108 = .ok (.aload_n 0, 1) := by decide +kernel
theorem dX13_address_109 : decode cX13_address 109 = .ok (.getfield 68, 3) := by decide +kernel
theorem dX13_address_112 : decode cX13_address 112 = .ok (.iload_n 1, 1) := by decide +kernel
theorem dX13_address_113 : decode cX13_address 113 = .ok (.invokevirtual 218, 3) := by decide +kernel
theorem dX13_address_116 : decode cX13_address 116 = .ok (.ineg, 1) := by decide +kernel
theorem dX13_address_117 : decode cX13_address 117 = .ok (.iconst 4, 1) := by decide +kernel
theorem dX13_address_118 : decode cX13_address 118 = .ok (.iadd, 1) := by decide +kernel
theorem dX13_address_119 : decode cX13_address 119 = .ok (.iload_n 2, 1) := by decide +kernel
theorem dX13_address_120 : decode cX13_address 120 = .ok (.invokevirtual 221, 3) := by decide +kernel
theorem dX13_address_123 : decode cX13_address 123 = .ok (.iload_n 3, 1) := by decide +kernel
theorem dX13_address_124 : decode cX13_address 124 = .ok (.ifCond .eq 14, 3) := by decide +kernel
theorem dX13_address_127 : decode cX13_address 127 = .ok (.aload_n 0, 1) := by decide +kernel
theorem dX13_address_128 : decode cX13_address 128 = .ok (.getfield 50, 3) := by decide +kernel
theorem dX13_address_131 : decode cX13_address 131 = .ok (.iload_n 2, 1) := by decide +kernel
theorem dX13_address_132 : decode cX13_address 132 = .ok (.iload_n 2, 1) := by decide +kernel
theorem dX13_address_133 : decode cX13_address 133 = .ok (.iload_n 3, 1) := by decide +kernel
theorem dX13_address_134 : decode cX13_address 134 = .ok (.iconst 1, 1) := by decide +kernel
theorem dX13_address_135 : decode cX13_address 135 = .ok (.invokevirtual 143, 3) := by decide +kernel
theorem dX13_address_138 : decode cX13_address 138 = .ok (.return_, 1) := by decide +kernel
theorem dX13_loadElement_0 : decode cX13_loadElement 0 = .ok (.aload_n 0, 1) := by decide +kernel
theorem dX13_loadElement_1 : decode cX13_loadElement 1 = .ok (.getfield 50, 3) := by decide +kernel
theorem dX13_loadElement_4 : decode cX13_loadElement 4 = .ok (.aload_n 0, 1) := by decide +kernel
theorem dX13_loadElement_5 : decode cX13_loadElement 5 = .ok (.getfield 39, 3) := by decide +kernel
theorem dX13_loadElement_8 : decode cX13_loadElement 8 = .ok (.iload_n 1, 1) := by decide +kernel
theorem dX13_loadElement_9 : decode cX13_loadElement 9 = .ok (.invokevirtual 317, 3) := by decide +kernel
theorem dX13_loadElement_12 : decode cX13_loadElement 12 = .ok (.iconst 1, 1) := by decide +kernel
theorem dX13_loadElement_13 : decode cX13_loadElement 13 = .ok (.if_icmp .ne 7, 3) := by decide +kernel
theorem dX13_loadElement_16 : decode cX13_loadElement 16 = .ok (.iconst 4, 1) := by decide +kernel
theorem dX13_loadElement_17 : decode cX13_loadElement 17 = .ok (.goto 4, 3) := by decide +kernel
theorem dX13_loadElement_20 : decode cX13_loadElement 20 = .ok (.iconst 2, 1) := by decide +kernel
theorem dX13_loadElement_21 : decode cX13_loadElement 21 = .ok (.iload_n 2, 1) := by decide +kernel
theorem dX13_loadElement_22 : decode cX13_loadElement 22 = .ok (.bipush 7, 2) := by decide +kernel
theorem dX13_loadElement_24 : decode cX13_loadElement 24 = .ok (.iconst 0, 1) := by decide +kernel
theorem dX13_loadElement_25 : decode cX13_loadElement 25 = .ok (.invokevirtual 328, 3) := by decide +kernel
theorem dX13_loadElement_28 : decode cX13_loadElement 28 = .ok (.return_, 1) := by decide +kernel
theorem dX13_call_0 : decode cX13_call 0 = .ok (.aload_n 0, 1) := by decide +kernel
theorem dX13_call_1 : decode cX13_call 1 = .ok (.getfield 25, 3) := by decide +kernel
theorem dX13_call_4 : decode cX13_call 4 = .ok (.iload_n 1, 1) := by decide +kernel
theorem dX13_call_5 : decode cX13_call 5 = .ok (.invokevirtual 207, 3) := by decide +kernel
theorem dX13_call_8 : decode cX13_call 8 = .ok (.istore_n 3, 1) := by decide +kernel
theorem dX13_call_9 : decode cX13_call 9 = .ok (.iload_n 3, 1) := by decide +kernel
theorem dX13_call_10 : decode cX13_call 10 = .ok (.bipush 15, 2) := by decide +kernel
theorem dX13_call_12 : decode cX13_call 12 = .ok (.isub, 1) := by decide +kernel
theorem dX13_call_13 : decode cX13_call 13 = .ok (.istore 4, 2) := by decide +kernel
theorem dX13_call_15 : decode cX13_call 15 = .ok (.iload 4, 2) := by decide +kernel
theorem dX13_call_17 : decode cX13_call 17 = .ok (.ifCond .lt 22, 3) := by decide +kernel
theorem dX13_call_20 : decode cX13_call 20 = .ok (.aload_n 0, 1) := by decide +kernel
theorem dX13_call_21 : decode cX13_call 21 = .ok (.getfield 25, 3) := by decide +kernel
theorem dX13_call_24 : decode cX13_call 24 = .ok (.aload_n 0, 1) := by decide +kernel
theorem dX13_call_25 : decode cX13_call 25 = .ok (.getfield 29, 3) := by decide +kernel
theorem dX13_call_28 : decode cX13_call 28 = .ok (.iload 4, 2) := by decide +kernel
theorem dX13_call_30 : decode cX13_call 30 = .ok (.invokevirtual 108, 3) := by decide +kernel
theorem dX13_call_33 : decode cX13_call 33 = .ok (.invokevirtual 155, 3) := by decide +kernel
theorem dX13_call_36 : decode cX13_call 36 = .ok (.goto 4, 3) := by decide +kernel
theorem dX13_call_39 : decode cX13_call 39 = .ok (.iconst (-1), 1) := by decide +kernel
theorem dX13_call_40 : decode cX13_call 40 = .ok (.istore 5, 2) := by decide +kernel
theorem dX13_call_42 : decode cX13_call 42 = .ok (.iload 4, 2) := by decide +kernel
theorem dX13_call_44 : decode cX13_call 44 = .ok (.ifCond .ge 50, 3) := by decide +kernel
theorem dX13_call_47 : decode cX13_call 47 = .ok (.aload_n 0, 1) := by decide +kernel
theorem dX13_call_48 : decode cX13_call 48 = .ok (.getfield 42, 3) := by decide +kernel
theorem dX13_call_51 : decode cX13_call 51 = .ok (.iload_n 3, 1) := by decide +kernel
theorem dX13_call_52 : decode cX13_call 52 = .ok (.invokevirtual 410, 3) := by decide +kernel
theorem dX13_call_55 : decode cX13_call 55 = .ok (.iconst 1, 1) := by decide +kernel
theorem dX13_call_56 : decode cX13_call 56 = .ok (.invokevirtual 414, 3) := by decide +kernel
theorem dX13_call_59 : decode cX13_call 59 = .ok (.bipush 98, 2) := by decide +kernel
theorem dX13_call_61 : decode cX13_call 61 = .ok (.if_icmp .ne 33, 3) := by decide +kernel
theorem dX13_call_64 : decode cX13_call 64 = .ok (.aload_n 0, 1) := by decide +kernel
theorem dX13_call_65 : decode cX13_call 65 = .ok (.aload_n 0, 1) := by decide +kernel
theorem dX13_call_66 : decode cX13_call 66 = .ok (.getfield 25, 3) := by decide +kernel
theorem dX13_call_69 : decode cX13_call 69 = .ok (.aload_n 0, 1) := by decide +kernel
theorem dX13_call_70 : decode cX13_call 70 = .ok (.getfield 25, 3) := by decide +kernel
theorem dX13_call_73 : decode cX13_call 73 = .ok (.iload_n 1, 1) := by decide +kernel
theorem dX13_call_74 : decode cX13_call 74 = .ok (.invokevirtual 155, 3) := by decide +kernel
theorem dX13_call_77 : decode cX13_call 77 = .ok (.invokevirtual 207, 3) := by decide +kernel
theorem dX13_call_80 : decode cX13_call 80 = .ok (.aload_n 0, 1) := by decide +kernel
theorem dX13_call_81 : decode cX13_call 81 = .ok (.iload_n 2, 1) := by decide +kernel
theorem dX13_call_82 : decode cX13_call 82 = .ok (.invokevirtual 246, 3) := by decide +kernel
theorem dX13_call_85 : decode cX13_call 85 = .ok (.invokevirtual 331, 3) := by decide +kernel
theorem dX13_call_88 : decode cX13_call 88 = .ok (.aload_n 0, 1) := by decide +kernel
theorem dX13_call_89 : decode cX13_call 89 = .ok (.iload_n 2, 1) := by decide +kernel
theorem dX13_call_90 : decode cX13_call 90 = .ok (.invokevirtual 252, 3) := by decide +kernel
theorem dX13_call_93 : decode cX13_call 93 = .ok (.ireturn, 1) := by decide +kernel
theorem dX13_call_94 : decode cX13_call 94 = .ok (.iload 4, 2) := by decide +kernel
theorem dX13_call_96 : decode cX13_call 96 = .ok (.ifCond .ge 33, 3) := by decide +kernel
theorem dX13_call_99 : decode cX13_call 99 = .ok (.iload_n 3, 1) := by decide +kernel
theorem dX13_call_100 : decode cX13_call 100 = .ok (.bipush 10, 2) := by decide +kernel
theorem dX13_call_102 : decode cX13_call 102 = .ok (.if_icmp .lt 27, 3) := by decide +kernel
theorem dX13_call_105 : decode cX13_call 105 = .ok (.iload_n 3, 1) := by decide +kernel
theorem dX13_call_106 : decode cX13_call 106 = .ok (.bipush 14, 2) := by decide +kernel
theorem dX13_call_108 : decode cX13_call 108 = .ok (.if_icmp .eq 21, 3) := by decide +kernel
theorem dX13_call_111 : decode cX13_call 111 = .ok (.aload_n 0, 1) := by decide +kernel
theorem dX13_call_112 : decode cX13_call 112 = .ok (.iload_n 3, 1) := by decide +kernel
theorem dX13_call_113 : decode cX13_call 113 = .ok (.bipush 10, 2) := by decide +kernel
theorem dX13_call_115 : decode cX13_call 115 = .ok (.isub, 1) := by decide +kernel
theorem dX13_call_116 : decode cX13_call 116 = .ok (.aload_n 0, 1) := by decide +kernel
theorem dX13_call_117 : decode cX13_call 117 = .ok (.getfield 25, 3) := by decide +kernel
theorem dX13_call_120 : decode cX13_call 120 = .ok (.iload_n 1, 1) := by decide +kernel
theorem dX13_call_121 : decode cX13_call 121 = .ok (.invokevirtual 155, 3) := by decide +kernel
theorem dX13_call_124 : decode cX13_call 124 = .ok (.iload_n 2, 1) := by decide +kernel
theorem dX13_call_125 : decode cX13_call 125 = .ok (.invokevirtual 420, 3) := by decide +kernel
theorem dX13_call_128 : decode cX13_call 128 = .ok (.ireturn, 1) := by decide +kernel
theorem dX13_call_129 : decode cX13_call 129 = .ok (.iconst 0, 1) := by decide +kernel
theorem dX13_call_130 : decode cX13_call 130 = .ok (.istore 6, 2) := by decide +kernel
theorem dX13_call_132 : decode cX13_call 132 = .ok (.aload_n 0, 1) := by decide +kernel
theorem dX13_call_133 : decode cX13_call 133 = .ok (.getfield 25, 3) := by decide +kernel
theorem dX13_call_136 : decode cX13_call 136 = .ok (.iload_n 1, 1) := by decide +kernel
theorem dX13_call_137 : decode cX13_call 137 = .ok (.invokevirtual 155, 3) := by decide +kernel
theorem dX13_call_140 : decode cX13_call 140 = .ok (.istore 7, 2) := by decide +kernel
theorem dX13_call_142 : decode cX13_call 142 = .ok (.iload 7, 2) := by decide +kernel
theorem dX13_call_144 : decode cX13_call 144 = .ok (.iconst (-1), 1) := by decide +kernel
theorem dX13_call_145 : decode cX13_call 145 = .ok (.if_icmp .eq 141, 3) := by decide +kernel
theorem dX13_call_148 : decode cX13_call 148 = .ok (.aload_n 0, 1) := by decide +kernel
theorem dX13_call_149 : decode cX13_call 149 = .ok (.iload 7, 2) := by decide +kernel
theorem dX13_call_151 : decode cX13_call 151 = .ok (.invokevirtual 423, 3) := by decide +kernel
theorem dX13_call_154 : decode cX13_call 154 = .ok (.ifCond .eq 19, 3) := by decide +kernel
theorem dX13_call_157 : decode cX13_call 157 = .ok (.aload_n 0, 1) := by decide +kernel
theorem dX13_call_158 : decode cX13_call 158 = .ok (.iload 7, 2) := by decide +kernel
theorem dX13_call_160 : decode cX13_call 160 = .ok (.iload_n 2, 1) := by decide +kernel
theorem dX13_call_161 : decode cX13_call 161 = .ok (.iload 6, 2) := by decide +kernel
theorem dX13_call_163 : decode cX13_call 163 = .ok (.iadd, 1) := by decide +kernel
theorem dX13_call_164 : decode cX13_call 164 = .ok (.invokevirtual 426, 3) := by decide +kernel
theorem dX13_call_167 : decode cX13_call 167 = .ok (.iinc 6 2, 3) := by decide +kernel
theorem dX13_call_170 : decode cX13_call 170 = .ok (.goto 81, 3) := by decide +kernel
theorem dX13_call_173 : decode cX13_call 173 = .ok (.aload_n 0, 1) := by decide +kernel
theorem dX13_call_174 : decode cX13_call 174 = .ok (.aload_n 0, 1) := by decide +kernel
theorem dX13_call_175 : decode cX13_call 175 = .ok (.iload 7, 2) := by decide +kernel
theorem dX13_call_177 : decode cX13_call 177 = .ok (.iload_n 2, 1) := by decide +kernel
theorem dX13_call_178 : decode cX13_call 178 = .ok (.iload 6, 2) := by decide +kernel
theorem dX13_call_180 : decode cX13_call 180 = .ok (.iadd, 1) := by decide +kernel
theorem dX13_call_181 : decode cX13_call 181 = .ok (.invokevirtual 261, 3) := by decide +kernel
theorem dX13_call_184 : decode cX13_call 184 = .ok (.iload_n 2, 1) := by decide +kernel
theorem dX13_call_185 : decode cX13_call 185 = .ok (.iload 6, 2) := by decide +kernel
theorem dX13_call_187 : decode cX13_call 187 = .ok (.iadd, 1) := by decide +kernel
theorem dX13_call_188 : decode cX13_call 188 = .ok (.invokevirtual 285, 3) := by decide +kernel
theorem dX13_call_191 : decode cX13_call 191 = .ok (.istore 8, 2) := by decide +kernel
theorem dX13_call_193 : decode cX13_call 193 = .ok (.iload 4, 2) := by decide +kernel
theorem dX13_call_195 : decode cX13_call 195 = .ok (.ifCond .lt 53, 3) := by decide +kernel
theorem dX13_call_198 : decode cX13_call 198 = .ok (.aload_n 0, 1) := by decide +kernel
theorem dX13_call_199 : decode cX13_call 199 = .ok (.getfield 25, 3) := by decide +kernel
theorem dX13_call_202 : decode cX13_call 202 = .ok (.iload 5, 2) := by decide +kernel
theorem dX13_call_204 : decode cX13_call 204 = .ok (.invokevirtual 123, 3) := by decide +kernel
theorem dX13_call_207 : decode cX13_call 207 = .ok (.iconst 1, 1) := by decide +kernel
theorem dX13_call_208 : decode cX13_call 208 = .ok (.if_icmp .ne 40, 3) := by decide +kernel
theorem dX13_call_211 : decode cX13_call 211 = .ok (.aload_n 0, 1) := by decide +kernel
theorem dX13_call_212 : decode cX13_call 212 = .ok (.getfield 50, 3) := by decide +kernel
theorem dX13_call_215 : decode cX13_call 215 = .ok (.bipush 7, 2) := by decide +kernel
theorem dX13_call_217 : decode cX13_call 217 = .ok (.aload_n 0, 1) := by decide +kernel
theorem dX13_call_218 : decode cX13_call 218 = .ok (.iload_n 2, 1) := by decide +kernel
theorem dX13_call_219 : decode cX13_call 219 = .ok (.iload 6, 2) := by decide +kernel
theorem dX13_call_221 : decode cX13_call 221 = .ok (.iadd, 1) := by decide +kernel
theorem dX13_call_222 : decode cX13_call 222 = .ok (.invokevirtual 246, 3) := by decide +kernel
theorem dX13_call_225 : decode cX13_call 225 = .ok (.aload_n 0, 1) := by decide +kernel
theorem dX13_call_226 : decode cX13_call 226 = .ok (.iload 8, 2) := by decide +kernel
theorem dX13_call_228 : decode cX13_call 228 = .ok (.iconst 5, 1) := by decide +kernel
theorem dX13_call_229 : decode cX13_call 229 = .ok (.invokevirtual 249, 3) := by decide +kernel
theorem dX13_call_232 : decode cX13_call 232 = .ok (.sipush 255, 3) := by decide +kernel
theorem dX13_call_235 : decode cX13_call 235 = .ok (.invokevirtual 179, 3) := by decide +kernel
theorem dX13_call_238 : decode cX13_call 238 = .ok (.aload_n 0, 1) := by decide +kernel
theorem dX13_call_239 : decode cX13_call 239 = .ok (.iload_n 2, 1) := by decide +kernel
theorem dX13_call_240 : decode cX13_call 240 = .ok (.iload 6, 2) := by decide +kernel
theorem dX13_call_242 : decode cX13_call 242 = .ok (.iadd, 1) := by decide +kernel
theorem dX13_call_243 : decode cX13_call 243 = .ok (.invokevirtual 252, 3) := by decide +kernel
theorem dX13_call_246 : decode cX13_call 246 = .ok (.istore 8, 2) := by decide +kernel
theorem dX13_call_248 : decode cX13_call 248 = .ok (.iinc 6 1, 3) := by decide +kernel
theorem dX13_call_251 : decode cX13_call 251 = .ok (.iload 4, 2) := by decide +kernel
theorem dX13_call_253 : decode cX13_call 253 = .ok (.ifCond .lt 15, 3) := by decide +kernel
theorem dX13_call_256 : decode cX13_call 256 = .ok (.aload_n 0, 1) := by decide +kernel
theorem dX13_call_257 : decode cX13_call 257 = .ok (.getfield 25, 3) := by decide +kernel
theorem dX13_call_260 : decode cX13_call 260 = .ok (.iload 5, 2) := by decide +kernel
theorem dX13_call_262 : decode cX13_call 262 = .ok (.invokevirtual 161, 3) := by decide +kernel
theorem dX13_call_265 : decode cX13_call 265 = .ok (.goto 5, 3) := by decide +kernel
theorem dX13_call_268 : decode cX13_call 268 = .ok (.iload 5, 2) := by decide +kernel
theorem dX13_call_270 : decode cX13_call 270 = .ok (.istore 5, 2) := by decide +kernel
theorem dX13_call_272 : decode cX13_call 272 = .ok (.aload_n 0, 1) := by decide +kernel
theorem dX13_call_273 : decode cX13_call 273 = .ok (.getfield 25, 3) := by decide +kernel
theorem dX13_call_276 : decode cX13_call 276 = .ok (.iload 7, 2) := by decide +kernel
theorem dX13_call_278 : decode cX13_call 278 = .ok (.invokevirtual 161, 3) := by decide +kernel
theorem dX13_call_281 : decode cX13_call 281 = .ok (.istore 7, 2) := by decide +kernel
theorem dX13_call_283 : decode cX13_call 283 = .ok (.goto (-141), 3) := by decide +kernel
theorem dX13_call_286 : decode cX13_call 286 = .ok (.iload 4, 2) := by decide +kernel
theorem dX13_call_288 : decode cX13_call 288 = .ok (.ifCond .ge 13, 3) := by decide +kernel
theorem dX13_call_291 : decode cX13_call 291 = .ok (.iload_n 3, 1) := by decide +kernel
theorem dX13_call_292 : decode cX13_call 292 = .ok (.bipush 10, 2) := by decide +kernel
theorem dX13_call_294 : decode cX13_call 294 = .ok (.if_icmp .ge 7, 3) := by decide +kernel
theorem dX13_call_297 : decode cX13_call 297 = .ok (.aload_n 0, 1) := by decide +kernel
theorem dX13_call_298 : decode cX13_call 298 = .ok (.invokevirtual 137, 3) := by decide +kernel
theorem dX13_call_301 : decode cX13_call 301 = .ok (.aload_n 0, 1) := by decide +kernel
theorem dX13_call_302 : decode cX13_call 302 = .ok (.iload_n 2, 1) := by decide +kernel
theorem dX13_call_303 : decode cX13_call 303 = .ok (.invokevirtual 429, 3) := by decide +kernel
theorem dX13_call_306 : decode cX13_call 306 = .ok (.iconst 0, 1) := by decide +kernel
theorem dX13_call_307 : decode cX13_call 307 = .ok (.istore 7, 2) := by decide +kernel
theorem dX13_call_309 : decode cX13_call 309 = .ok (.iload 7, 2) := by decide +kernel
theorem dX13_call_311 : decode cX13_call 311 = .ok (.iload 6, 2) := by decide +kernel
theorem dX13_call_313 : decode cX13_call 313 = .ok (.if_icmp .ge 61, 3) := by decide +kernel
theorem dX13_call_316 : decode cX13_call 316 = .ok (.iload_n 2, 1) := by decide +kernel
theorem dX13_call_317 : decode cX13_call 317 = .ok (.iload 7, 2) := by decide +kernel
theorem dX13_call_319 : decode cX13_call 319 = .ok (.iadd, 1) := by decide +kernel
theorem dX13_call_320 : decode cX13_call 320 = .ok (.bipush 12, 2) := by decide +kernel
theorem dX13_call_322 : decode cX13_call 322 = .ok (.if_icmp .ge 13, 3) := by decide +kernel
theorem dX13_call_325 : decode cX13_call 325 = .ok (.iload_n 2, 1) := by decide +kernel
theorem dX13_call_326 : decode cX13_call 326 = .ok (.iload 7, 2) := by decide +kernel
theorem dX13_call_328 : decode cX13_call 328 = .ok (.iadd, 1) := by decide +kernel
theorem dX13_call_329 : decode cX13_call 329 = .ok (.invokestatic 237, 3) := by decide +kernel
theorem dX13_call_332 : decode cX13_call 332 = .ok (.goto 10, 3) := by decide +kernel
theorem dX13_call_335 : decode cX13_call 335 = .ok (.bipush 64, 2) := by decide +kernel
theorem dX13_call_337 : decode cX13_call 337 = .ok (.iload_n 2, 1) := by decide +kernel
theorem dX13_call_338 : decode cX13_call 338 = .ok (.iadd, 1) := by decide +kernel
theorem dX13_call_339 : decode cX13_call 339 = .ok (.iload 7, 2) := by decide +kernel
theorem dX13_call_341 : decode cX13_call 341 = .ok (.iadd, 1) := by decide +kernel
theorem dX13_call_342 : decode cX13_call 342 = .ok (.istore 8, 2) := by decide +kernel
theorem dX13_call_344 : decode cX13_call 344 = .ok (.aload_n 0, 1) := by decide +kernel
theorem dX13_call_345 : decode cX13_call 345 = .ok (.getfield 50, 3) := by decide +kernel
theorem dX13_call_348 : decode cX13_call 348 = .ok (.aload_n 0, 1) := by decide +kernel
theorem dX13_call_349 : decode cX13_call 349 = .ok (.iload 8, 2) := by decide +kernel
theorem dX13_call_351 : decode cX13_call 351 = .ok (.iconst 5, 1) := by decide +kernel
theorem dX13_call_352 : decode cX13_call 352 = .ok (.invokevirtual 249, 3) := by decide +kernel
theorem dX13_call_355 : decode cX13_call 355 = .ok (.iconst 2, 1) := by decide +kernel
theorem dX13_call_356 : decode cX13_call 356 = .ok (.bipush (-4), 2) := by decide +kernel
theorem dX13_call_358 : decode cX13_call 358 = .ok (.iload 7, 2) := by decide +kernel
theorem dX13_call_360 : decode cX13_call 360 = .ok (.iconst 1, 1) := by decide +kernel
theorem dX13_call_361 : decode cX13_call 361 = .ok (.iadd, 1) := by decide +kernel
theorem dX13_call_362 : decode cX13_call 362 = .ok (.imul, 1) := by decide +kernel
theorem dX13_call_363 : decode cX13_call 363 = .ok (.bipush 7, 2) := by decide +kernel
theorem dX13_call_365 : decode cX13_call 365 = .ok (.invokevirtual 192, 3) := by decide +kernel
theorem dX13_call_368 : decode cX13_call 368 = .ok (.iinc 7 1, 3) := by decide +kernel
theorem dX13_call_371 : decode cX13_call 371 = .ok (.goto (-62), 3) := by decide +kernel
theorem dX13_call_374 : decode cX13_call 374 = .ok (.iload 4, 2) := by decide +kernel
theorem dX13_call_376 : decode cX13_call 376 = .ok (.ifCond .lt 21, 3) := by decide +kernel
theorem dX13_call_379 : decode cX13_call 379 = .ok (.aload_n 0, 1) := by decide +kernel
theorem dX13_call_380 : decode cX13_call 380 = .ok (.getfield 50, 3) := by decide +kernel
theorem dX13_call_383 : decode cX13_call 383 = .ok (.iconst 1, 1) := by decide +kernel
theorem dX13_call_384 : decode cX13_call 384 = .ok (.aload_n 0, 1) := by decide +kernel
theorem dX13_call_385 : decode cX13_call 385 = .ok (.getfield 9, 3) := by decide +kernel
theorem dX13_call_388 : decode cX13_call 388 = .ok (.iload 4, 2) := by decide +kernel
theorem dX13_call_390 : decode cX13_call 390 = .ok (.iaload, 1) := by decide +kernel
theorem dX13_call_391 : decode cX13_call 391 = .ok (.invokevirtual 94, 3) := by decide +kernel
theorem dX13_call_394 : decode cX13_call 394 = .ok (.goto 57, 3) := by decide +kernel
theorem dX13_call_397 : decode cX13_call 397 = .ok (.iconst 0, 1) := by decide +kernel
theorem dX13_call_398 : decode cX13_call 398 = .ok (.istore 7, 2) := by decide +kernel
theorem dX13_call_400 : decode cX13_call 400 = .ok (.iload 7, 2) := by decide +kernel
theorem dX13_call_402 : decode cX13_call 402 = .ok (.iload 6, 2) := by decide +kernel
theorem dX13_call_404 : decode cX13_call 404 = .ok (.if_icmp .ge 30, 3) := by decide +kernel
theorem dX13_call_407 : decode cX13_call 407 = .ok (.aload_n 0, 1) := by decide +kernel
theorem dX13_call_408 : decode cX13_call 408 = .ok (.getfield 50, 3) := by decide +kernel
theorem dX13_call_411 : decode cX13_call 411 = .ok (.iconst 2, 1) := by decide +kernel
theorem dX13_call_412 : decode cX13_call 412 = .ok (.bipush 10, 2) := by decide +kernel
theorem dX13_call_414 : decode cX13_call 414 = .ok (.iload 7, 2) := by decide +kernel
theorem dX13_call_416 : decode cX13_call 416 = .ok (.iadd, 1) := by decide +kernel
theorem dX13_call_417 : decode cX13_call 417 = .ok (.iconst 2, 1) := by decide +kernel
theorem dX13_call_418 : decode cX13_call 418 = .ok (.bipush (-4), 2) := by decide +kernel
theorem dX13_call_420 : decode cX13_call 420 = .ok (.iload 7, 2) := by decide +kernel
theorem dX13_call_422 : decode cX13_call 422 = .ok (.iconst 1, 1) := by decide +kernel
theorem dX13_call_423 : decode cX13_call 423 = .ok (.iadd, 1) := by decide +kernel
theorem dX13_call_424 : decode cX13_call 424 = .ok (.imul, 1) := by decide +kernel
theorem dX13_call_425 : decode cX13_call 425 = .ok (.invokevirtual 328, 3) := by decide +kernel
theorem dX13_call_428 : decode cX13_call 428 = .ok (.iinc 7 1, 3) := by decide +kernel
theorem dX13_call_431 : decode cX13_call 431 = .ok (.goto (-31), 3) := by decide +kernel
theorem dX13_call_434 : decode cX13_call 434 = .ok (.aload_n 0, 1) := by decide +kernel
theorem dX13_call_435 : decode cX13_call 435 = .ok (.getfield 50, 3) := by decide +kernel
theorem dX13_call_438 : decode cX13_call 438 = .ok (.bipush 17, 2) := by decide +kernel
theorem dX13_call_440 : decode cX13_call 440 = .ok (.iload_n 3, 1) := by decide +kernel
theorem dX13_call_441 : decode cX13_call 441 = .ok (.invokevirtual 98, 3) := by decide +kernel
theorem dX13_call_444 : decode cX13_call 444 = .ok (.aload_n 0, 1) := by decide +kernel
theorem dX13_call_445 : decode cX13_call 445 = .ok (.getfield 50, 3) := by decide +kernel
theorem dX13_call_448 : decode cX13_call 448 = .ok (.invokevirtual 101, 3) := by decide +kernel
theorem dX13_call_451 : decode cX13_call 451 = .ok (.aload_n 0, 1) := by decide +kernel
theorem dX13_call_452 : decode cX13_call 452 = .ok (.getfield 50, 3) := by decide +kernel
theorem dX13_call_455 : decode cX13_call 455 = .ok (.iconst 5, 1) := by decide +kernel
theorem dX13_call_456 : decode cX13_call 456 = .ok (.bipush 10, 2) := by decide +kernel
theorem dX13_call_458 : decode cX13_call 458 = .ok (.invokevirtual 167, 3) := by decide +kernel
theorem dX13_call_461 : decode cX13_call 461 = .ok (.aload_n 0, 1) := by decide +kernel
theorem dX13_call_462 : decode cX13_call 462 = .ok (.iload_n 2, 1) := by decide +kernel
theorem dX13_call_463 : decode cX13_call 463 = .ok (.invokevirtual 432, 3) := by decide +kernel
theorem dX13_call_466 : decode cX13_call 466 = .ok (.aload_n 0, 1) := by decide +kernel
theorem dX13_call_467 : decode cX13_call 467 = .ok (.getfield 50, 3) := by decide +kernel
theorem dX13_call_470 : decode cX13_call 470 = .ok (.aload_n 0, 1) := by decide +kernel
theorem dX13_call_471 : decode cX13_call 471 = .ok (.iload_n 2, 1) := by decide +kernel
theorem dX13_call_472 : decode cX13_call 472 = .ok (.invokevirtual 246, 3) := by decide +kernel
theorem dX13_call_475 : decode cX13_call 475 = .ok (.iconst 5, 1) := by decide +kernel
theorem dX13_call_476 : decode cX13_call 476 = .ok (.invokevirtual 167, 3) := by decide +kernel
theorem dX13_call_479 : decode cX13_call 479 = .ok (.aload_n 0, 1) := by decide +kernel
theorem dX13_call_480 : decode cX13_call 480 = .ok (.iload_n 2, 1) := by decide +kernel
theorem dX13_call_481 : decode cX13_call 481 = .ok (.invokevirtual 252, 3) := by decide +kernel
theorem dX13_call_484 : decode cX13_call 484 = .ok (.ireturn, 1) := by decide +kernel
theorem dX13_own_0 : decode cX13_own 0 = .ok (.aload_n 0, 1) := by decide +kernel
theorem dX13_own_1 : decode cX13_own 1 = .ok (.getfield 25, 3) := by decide +kernel
theorem dX13_own_4 : decode cX13_own 4 = .ok (.iload_n 2, 1) := by decide +kernel
theorem dX13_own_5 : decode cX13_own 5 = .ok (.invokevirtual 161, 3) := by decide +kernel
theorem dX13_own_8 : decode cX13_own 8 = .ok (.istore 4, 2) := by decide +kernel
theorem dX13_own_10 : decode cX13_own 10 = .ok (.iload_n 1, 1) := by decide +kernel
theorem dX13_own_11 : decode cX13_own 11 = .ok (.iconst 2, 1) := by decide +kernel
theorem dX13_own_12 : decode cX13_own 12 = .ok (.if_icmp .ge 118, 3) := by decide +kernel
theorem dX13_own_15 : decode cX13_own 15 = .ok (.aload_n 0, 1) := by decide +kernel
theorem dX13_own_16 : decode cX13_own 16 = .ok (.iload_n 2, 1) := by decide +kernel
theorem dX13_own_17 : decode cX13_own 17 = .ok (.iload_n 3, 1) := by decide +kernel
theorem dX13_own_18 : decode cX13_own 18 = .ok (.invokevirtual 261, 3) := by decide +kernel
theorem dX13_own_21 : decode cX13_own 21 = .ok (.istore 5, 2) := by decide +kernel
theorem dX13_own_23 : decode cX13_own 23 = .ok (.iload_n 1, 1) := by decide +kernel
theorem dX13_own_24 : decode cX13_own 24 = .ok (.ifCond .ne 30, 3) := by decide +kernel
theorem dX13_own_27 : decode cX13_own 27 = .ok (.aload_n 0, 1) := by decide +kernel
theorem dX13_own_28 : decode cX13_own 28 = .ok (.getfield 50, 3) := by decide +kernel
theorem dX13_own_31 : decode cX13_own 31 = .ok (.iconst 2, 1) := by decide +kernel
theorem dX13_own_32 : decode cX13_own 32 = .ok (.aload_n 0, 1) := by decide +kernel
theorem dX13_own_33 : decode cX13_own 33 = .ok (.iload_n 3, 1) := by decide +kernel
theorem dX13_own_34 : decode cX13_own 34 = .ok (.invokevirtual 246, 3) := by decide +kernel
theorem dX13_own_37 : decode cX13_own 37 = .ok (.aload_n 0, 1) := by decide +kernel
theorem dX13_own_38 : decode cX13_own 38 = .ok (.iload 5, 2) := by decide +kernel
theorem dX13_own_40 : decode cX13_own 40 = .ok (.iconst 5, 1) := by decide +kernel
theorem dX13_own_41 : decode cX13_own 41 = .ok (.invokevirtual 249, 3) := by decide +kernel
theorem dX13_own_44 : decode cX13_own 44 = .ok (.iconst 0, 1) := by decide +kernel
theorem dX13_own_45 : decode cX13_own 45 = .ok (.invokevirtual 328, 3) := by decide +kernel
theorem dX13_own_48 : decode cX13_own 48 = .ok (.aload_n 0, 1) := by decide +kernel
theorem dX13_own_49 : decode cX13_own 49 = .ok (.iload_n 3, 1) := by decide +kernel
theorem dX13_own_50 : decode cX13_own 50 = .ok (.invokevirtual 252, 3) := by decide +kernel
theorem dX13_own_53 : decode cX13_own 53 = .ok (.ireturn, 1) := by decide +kernel
theorem dX13_own_54 : decode cX13_own 54 = .ok (.iload 5, 2) := by decide +kernel
theorem dX13_own_56 : decode cX13_own 56 = .ok (.iload_n 3, 1) := by decide +kernel
theorem dX13_own_57 : decode cX13_own 57 = .ok (.invokestatic 381, 3) := by decide +kernel
theorem dX13_own_60 : decode cX13_own 60 = .ok (.ifCond .eq 25, 3) := by decide +kernel
theorem dX13_own_63 : decode cX13_own 63 = .ok (.aload_n 0, 1) := by decide +kernel
theorem dX13_own_64 : decode cX13_own 64 = .ok (.getfield 59, 3) := by decide +kernel
theorem dX13_own_67 : decode cX13_own 67 = .ok (.iload 4, 2) := by decide +kernel
theorem dX13_own_69 : decode cX13_own 69 = .ok (.invokevirtual 384, 3) := by decide +kernel
theorem dX13_own_72 : decode cX13_own 72 = .ok (.ifCond .eq 13, 3) := by decide +kernel
theorem dX13_own_75 : decode cX13_own 75 = .ok (.aload_n 0, 1) := by decide +kernel
theorem dX13_own_76 : decode cX13_own 76 = .ok (.iload 5, 2) := by decide +kernel
theorem dX13_own_78 : decode cX13_own 78 = .ok (.iload_n 3, 1) := by decide +kernel
theorem dX13_own_79 : decode cX13_own 79 = .ok (.invokevirtual 285, 3) := by decide +kernel
theorem dX13_own_82 : decode cX13_own 82 = .ok (.goto 5, 3) := by decide +kernel
theorem dX13_own_85 : decode cX13_own 85 = .ok (.iload 5, 2) := by decide +kernel
theorem dX13_own_87 : decode cX13_own 87 = .ok (.istore 5, 2) := by decide +kernel
theorem dX13_own_89 : decode cX13_own 89 = .ok (.aload_n 0, 1) := by decide +kernel
theorem dX13_own_90 : decode cX13_own 90 = .ok (.iload 4, 2) := by decide +kernel
theorem dX13_own_92 : decode cX13_own 92 = .ok (.iload_n 3, 1) := by decide +kernel
theorem dX13_own_93 : decode cX13_own 93 = .ok (.iconst 1, 1) := by decide +kernel
theorem dX13_own_94 : decode cX13_own 94 = .ok (.iadd, 1) := by decide +kernel
theorem dX13_own_95 : decode cX13_own 95 = .ok (.invokevirtual 261, 3) := by decide +kernel
theorem dX13_own_98 : decode cX13_own 98 = .ok (.istore 6, 2) := by decide +kernel
theorem dX13_own_100 : decode cX13_own 100 = .ok (.aload_n 0, 1) := by decide +kernel
theorem dX13_own_101 : decode cX13_own 101 = .ok (.iload 5, 2) := by decide +kernel
theorem dX13_own_103 : decode cX13_own 103 = .ok (.iconst 5, 1) := by decide +kernel
theorem dX13_own_104 : decode cX13_own 104 = .ok (.invokevirtual 249, 3) := by decide +kernel
theorem dX13_own_107 : decode cX13_own 107 = .ok (.istore 7, 2) := by decide +kernel
theorem dX13_own_109 : decode cX13_own 109 = .ok (.aload_n 0, 1) := by decide +kernel
theorem dX13_own_110 : decode cX13_own 110 = .ok (.getfield 50, 3) := by decide +kernel
theorem dX13_own_113 : decode cX13_own 113 = .ok (.iconst 2, 1) := by decide +kernel
theorem dX13_own_114 : decode cX13_own 114 = .ok (.iload 7, 2) := by decide +kernel
theorem dX13_own_116 : decode cX13_own 116 = .ok (.aload_n 0, 1) := by decide +kernel
theorem dX13_own_117 : decode cX13_own 117 = .ok (.iload 6, 2) := by decide +kernel
theorem dX13_own_119 : decode cX13_own 119 = .ok (.bipush 6, 2) := by decide +kernel
theorem dX13_own_121 : decode cX13_own 121 = .ok (.invokevirtual 249, 3) := by decide +kernel
theorem dX13_own_124 : decode cX13_own 124 = .ok (.iconst 0, 1) := by decide +kernel
theorem dX13_own_125 : decode cX13_own 125 = .ok (.invokevirtual 90, 3) := by decide +kernel
theorem dX13_own_128 : decode cX13_own 128 = .ok (.iconst 0, 1) := by decide +kernel
theorem dX13_own_129 : decode cX13_own 129 = .ok (.ireturn, 1) := by decide +kernel
theorem dX13_own_130 : decode cX13_own 130 = .ok (.aload_n 0, 1) := by decide +kernel
theorem dX13_own_131 : decode cX13_own 131 = .ok (.getfield 59, 3) := by decide +kernel
theorem dX13_own_134 : decode cX13_own 134 = .ok (.iload_n 2, 1) := by decide +kernel
theorem dX13_own_135 : decode cX13_own 135 = .ok (.invokevirtual 338, 3) := by decide +kernel
theorem dX13_own_138 : decode cX13_own 138 = .ok (.ifCond .eq 13, 3) := by decide +kernel
theorem dX13_own_141 : decode cX13_own 141 = .ok (.aload_n 0, 1) := by decide +kernel
theorem dX13_own_142 : decode cX13_own 142 = .ok (.getfield 59, 3) := by decide +kernel
theorem dX13_own_145 : decode cX13_own 145 = .ok (.invokevirtual 342, 3) := by decide +kernel
theorem dX13_own_148 : decode cX13_own 148 = .ok (.goto 4, 3) := by decide +kernel
theorem dX13_own_151 : decode cX13_own 151 = .ok (.iconst 0, 1) := by decide +kernel
theorem dX13_own_152 : decode cX13_own 152 = .ok (.istore 5, 2) := by decide +kernel
theorem dX13_own_154 : decode cX13_own 154 = .ok (.iload_n 1, 1) := by decide +kernel
theorem dX13_own_155 : decode cX13_own 155 = .ok (.iconst 2, 1) := by decide +kernel
theorem dX13_own_156 : decode cX13_own 156 = .ok (.if_icmp .ne 25, 3) := by decide +kernel
theorem dX13_own_159 : decode cX13_own 159 = .ok (.aload_n 0, 1) := by decide +kernel
theorem dX13_own_160 : decode cX13_own 160 = .ok (.getfield 50, 3) := by decide +kernel
theorem dX13_own_163 : decode cX13_own 163 = .ok (.iconst 2, 1) := by decide +kernel
theorem dX13_own_164 : decode cX13_own 164 = .ok (.aload_n 0, 1) := by decide +kernel
theorem dX13_own_165 : decode cX13_own 165 = .ok (.iload_n 3, 1) := by decide +kernel
theorem dX13_own_166 : decode cX13_own 166 = .ok (.invokevirtual 246, 3) := by decide +kernel
theorem dX13_own_169 : decode cX13_own 169 = .ok (.iconst 0, 1) := by decide +kernel
theorem dX13_own_170 : decode cX13_own 170 = .ok (.iload 5, 2) := by decide +kernel
theorem dX13_own_172 : decode cX13_own 172 = .ok (.invokevirtual 435, 3) := by decide +kernel
theorem dX13_own_175 : decode cX13_own 175 = .ok (.aload_n 0, 1) := by decide +kernel
theorem dX13_own_176 : decode cX13_own 176 = .ok (.iload_n 3, 1) := by decide +kernel
theorem dX13_own_177 : decode cX13_own 177 = .ok (.invokevirtual 252, 3) := by decide +kernel
theorem dX13_own_180 : decode cX13_own 180 = .ok (.ireturn, 1) := by decide +kernel
theorem dX13_own_181 : decode cX13_own 181 = .ok (.aload_n 0, 1) := by decide +kernel
theorem dX13_own_182 : decode cX13_own 182 = .ok (.getfield 50, 3) := by decide +kernel
theorem dX13_own_185 : decode cX13_own 185 = .ok (.iconst 1, 1) := by decide +kernel
theorem dX13_own_186 : decode cX13_own 186 = .ok (.iconst 0, 1) := by decide +kernel
theorem dX13_own_187 : decode cX13_own 187 = .ok (.aload_n 0, 1) := by decide +kernel
theorem dX13_own_188 : decode cX13_own 188 = .ok (.aload_n 0, 1) := by decide +kernel
theorem dX13_own_189 : decode cX13_own 189 = .ok (.iload 4, 2) := by decide +kernel
theorem dX13_own_191 : decode cX13_own 191 = .ok (.iload_n 3, 1) := by decide +kernel
theorem dX13_own_192 : decode cX13_own 192 = .ok (.invokevirtual 261, 3) := by decide +kernel
theorem dX13_own_195 : decode cX13_own 195 = .ok (.iconst 5, 1) := by decide +kernel
theorem dX13_own_196 : decode cX13_own 196 = .ok (.invokevirtual 249, 3) := by decide +kernel
theorem dX13_own_199 : decode cX13_own 199 = .ok (.iload 5, 2) := by decide +kernel
theorem dX13_own_201 : decode cX13_own 201 = .ok (.invokevirtual 435, 3) := by decide +kernel
theorem dX13_own_204 : decode cX13_own 204 = .ok (.iconst 0, 1) := by decide +kernel
theorem dX13_own_205 : decode cX13_own 205 = .ok (.ireturn, 1) := by decide +kernel
theorem dX13_isHome_0 : decode cX13_isHome 0 = .ok (.iload_n 0, 1) := by decide +kernel
theorem dX13_isHome_1 : decode cX13_isHome 1 = .ok (.bipush 64, 2) := by decide +kernel
theorem dX13_isHome_3 : decode cX13_isHome 3 = .ok (.if_icmp .ge 25, 3) := by decide +kernel
theorem dX13_isHome_6 : decode cX13_isHome 6 = .ok (.iload_n 0, 1) := by decide +kernel
theorem dX13_isHome_7 : decode cX13_isHome 7 = .ok (.ifCond .eq 21, 3) := by decide +kernel
theorem dX13_isHome_10 : decode cX13_isHome 10 = .ok (.iload_n 1, 1) := by decide +kernel
theorem dX13_isHome_11 : decode cX13_isHome 11 = .ok (.bipush 12, 2) := by decide +kernel
theorem dX13_isHome_13 : decode cX13_isHome 13 = .ok (.if_icmp .ge 11, 3) := by decide +kernel
theorem dX13_isHome_16 : decode cX13_isHome 16 = .ok (.iload_n 0, 1) := by decide +kernel
theorem dX13_isHome_17 : decode cX13_isHome 17 = .ok (.iload_n 1, 1) := by decide +kernel
theorem dX13_isHome_18 : decode cX13_isHome 18 = .ok (.invokestatic 237, 3) := by decide +kernel
theorem dX13_isHome_21 : decode cX13_isHome 21 = .ok (.if_icmp .eq 7, 3) := by decide +kernel
theorem dX13_isHome_24 : decode cX13_isHome 24 = .ok (.iconst 1, 1) := by decide +kernel
theorem dX13_isHome_25 : decode cX13_isHome 25 = .ok (.goto 4, 3) := by decide +kernel
theorem dX13_isHome_28 : decode cX13_isHome 28 = .ok (.iconst 0, 1) := by decide +kernel
theorem dX13_isHome_29 : decode cX13_isHome 29 = .ok (.ireturn, 1) := by decide +kernel
theorem dX13_copy_0 : decode cX13_copy 0 = .ok (.iload_n 1, 1) := by decide +kernel
theorem dX13_copy_1 : decode cX13_copy 1 = .ok (.bipush 64, 2) := by decide +kernel
theorem dX13_copy_3 : decode cX13_copy 3 = .ok (.iload_n 2, 1) := by decide +kernel
theorem dX13_copy_4 : decode cX13_copy 4 = .ok (.iadd, 1) := by decide +kernel
theorem dX13_copy_5 : decode cX13_copy 5 = .ok (.if_icmp .ne 5, 3) := by decide +kernel
theorem dX13_copy_8 : decode cX13_copy 8 = .ok (.iload_n 1, 1) := by decide +kernel
theorem dX13_copy_9 : decode cX13_copy 9 = .ok (.ireturn, 1) := by decide +kernel
theorem dX13_copy_10 : decode cX13_copy 10 = .ok (.aload_n 0, 1) := by decide +kernel
theorem dX13_copy_11 : decode cX13_copy 11 = .ok (.getfield 50, 3) := by decide +kernel
theorem dX13_copy_14 : decode cX13_copy 14 = .ok (.aload_n 0, 1) := by decide +kernel
theorem dX13_copy_15 : decode cX13_copy 15 = .ok (.iload_n 2, 1) := by decide +kernel
theorem dX13_copy_16 : decode cX13_copy 16 = .ok (.invokevirtual 246, 3) := by decide +kernel
theorem dX13_copy_19 : decode cX13_copy 19 = .ok (.aload_n 0, 1) := by decide +kernel
theorem dX13_copy_20 : decode cX13_copy 20 = .ok (.iload_n 1, 1) := by decide +kernel
theorem dX13_copy_21 : decode cX13_copy 21 = .ok (.iconst 5, 1) := by decide +kernel
theorem dX13_copy_22 : decode cX13_copy 22 = .ok (.invokevirtual 249, 3) := by decide +kernel
theorem dX13_copy_25 : decode cX13_copy 25 = .ok (.invokevirtual 167, 3) := by decide +kernel
theorem dX13_copy_28 : decode cX13_copy 28 = .ok (.aload_n 0, 1) := by decide +kernel
theorem dX13_copy_29 : decode cX13_copy 29 = .ok (.iload_n 2, 1) := by decide +kernel
theorem dX13_copy_30 : decode cX13_copy 30 = .ok (.invokevirtual 252, 3) := by decide +kernel
theorem dX13_copy_33 : decode cX13_copy 33 = .ok (.ireturn, 1) := by decide +kernel
theorem dX13_isArray_0 : decode cX13_isArray 0 = .ok (.aload_n 0, 1) := by decide +kernel
theorem dX13_isArray_1 : decode cX13_isArray 1 = .ok (.getfield 25, 3) := by decide +kernel
theorem dX13_isArray_4 : decode cX13_isArray 4 = .ok (.iload_n 1, 1) := by decide +kernel
theorem dX13_isArray_5 : decode cX13_isArray 5 = .ok (.invokevirtual 158, 3) := by decide +kernel
theorem dX13_isArray_8 : decode cX13_isArray 8 = .ok (.bipush 38, 2) := by decide +kernel
theorem dX13_isArray_10 : decode cX13_isArray 10 = .ok (.if_icmp .ne 36, 3) := by decide +kernel
theorem dX13_isArray_13 : decode cX13_isArray 13 = .ok (.aload_n 0, 1) := by decide +kernel
theorem dX13_isArray_14 : decode cX13_isArray 14 = .ok (.getfield 25, 3) := by decide +kernel
theorem dX13_isArray_17 : decode cX13_isArray 17 = .ok (.iload_n 1, 1) := by decide +kernel
theorem dX13_isArray_18 : decode cX13_isArray 18 = .ok (.invokevirtual 207, 3) := by decide +kernel
theorem dX13_isArray_21 : decode cX13_isArray 21 = .ok (.ifCond .lt 25, 3) := by decide +kernel
theorem dX13_isArray_24 : decode cX13_isArray 24 = .ok (.aload_n 0, 1) := by decide +kernel
theorem dX13_isArray_25 : decode cX13_isArray 25 = .ok (.getfield 39, 3) := by decide +kernel
theorem dX13_isArray_28 : decode cX13_isArray 28 = .ok (.aload_n 0, 1) := by decide +kernel
theorem dX13_isArray_29 : decode cX13_isArray 29 = .ok (.getfield 25, 3) := by decide +kernel
theorem dX13_isArray_32 : decode cX13_isArray 32 = .ok (.iload_n 1, 1) := by decide +kernel
theorem dX13_isArray_33 : decode cX13_isArray 33 = .ok (.invokevirtual 207, 3) := by decide +kernel
theorem dX13_isArray_36 : decode cX13_isArray 36 = .ok (.invokevirtual 215, 3) := by decide +kernel
theorem dX13_isArray_39 : decode cX13_isArray 39 = .ok (.ifCond .eq 7, 3) := by decide +kernel
theorem dX13_isArray_42 : decode cX13_isArray 42 = .ok (.iconst 1, 1) := by decide +kernel
theorem dX13_isArray_43 : decode cX13_isArray 43 = .ok (.goto 4, 3) := by decide +kernel
theorem dX13_isArray_46 : decode cX13_isArray 46 = .ok (.iconst 0, 1) := by decide +kernel
theorem dX13_isArray_47 : decode cX13_isArray 47 = .ok (.ireturn, 1) := by decide +kernel
theorem dX13_handOn_0 : decode cX13_handOn 0 = .ok (.aload_n 0, 1) := by decide +kernel
theorem dX13_handOn_1 : decode cX13_handOn 1 = .ok (.getfield 25, 3) := by decide +kernel
theorem dX13_handOn_4 : decode cX13_handOn 4 = .ok (.iload_n 1, 1) := by decide +kernel
theorem dX13_handOn_5 : decode cX13_handOn 5 = .ok (.invokevirtual 207, 3) := by decide +kernel
theorem dX13_handOn_8 : decode cX13_handOn 8 = .ok (.istore_n 3, 1) := by decide +kernel
theorem dX13_handOn_9 : decode cX13_handOn 9 = .ok (.aload_n 0, 1) := by decide +kernel
theorem dX13_handOn_10 : decode cX13_handOn 10 = .ok (.iload_n 3, 1) := by decide +kernel
theorem dX13_handOn_11 : decode cX13_handOn 11 = .ok (.aload_n 0, 1) := by decide +kernel
theorem dX13_handOn_12 : decode cX13_handOn 12 = .ok (.iload_n 2, 1) := by decide +kernel
theorem dX13_handOn_13 : decode cX13_handOn 13 = .ok (.invokevirtual 246, 3) := by decide +kernel
theorem dX13_handOn_16 : decode cX13_handOn 16 = .ok (.iconst 0, 1) := by decide +kernel
theorem dX13_handOn_17 : decode cX13_handOn 17 = .ok (.invokevirtual 335, 3) := by decide +kernel
theorem dX13_handOn_20 : decode cX13_handOn 20 = .ok (.aload_n 0, 1) := by decide +kernel
theorem dX13_handOn_21 : decode cX13_handOn 21 = .ok (.iload_n 2, 1) := by decide +kernel
theorem dX13_handOn_22 : decode cX13_handOn 22 = .ok (.invokevirtual 252, 3) := by decide +kernel
theorem dX13_handOn_25 : decode cX13_handOn 25 = .ok (.istore 4, 2) := by decide +kernel
theorem dX13_handOn_27 : decode cX13_handOn 27 = .ok (.aload_n 0, 1) := by decide +kernel
theorem dX13_handOn_28 : decode cX13_handOn 28 = .ok (.iload_n 3, 1) := by decide +kernel
theorem dX13_handOn_29 : decode cX13_handOn 29 = .ok (.aload_n 0, 1) := by decide +kernel
theorem dX13_handOn_30 : decode cX13_handOn 30 = .ok (.iload_n 2, 1) := by decide +kernel
theorem dX13_handOn_31 : decode cX13_handOn 31 = .ok (.iconst 1, 1) := by decide +kernel
theorem dX13_handOn_32 : decode cX13_handOn 32 = .ok (.iadd, 1) := by decide +kernel
theorem dX13_handOn_33 : decode cX13_handOn 33 = .ok (.invokevirtual 246, 3) := by decide +kernel
theorem dX13_handOn_36 : decode cX13_handOn 36 = .ok (.invokevirtual 331, 3) := by decide +kernel
theorem dX13_handOn_39 : decode cX13_handOn 39 = .ok (.aload_n 0, 1) := by decide +kernel
theorem dX13_handOn_40 : decode cX13_handOn 40 = .ok (.iload_n 2, 1) := by decide +kernel
theorem dX13_handOn_41 : decode cX13_handOn 41 = .ok (.iconst 1, 1) := by decide +kernel
theorem dX13_handOn_42 : decode cX13_handOn 42 = .ok (.iadd, 1) := by decide +kernel
theorem dX13_handOn_43 : decode cX13_handOn 43 = .ok (.invokevirtual 252, 3) := by decide +kernel
theorem dX13_handOn_46 : decode cX13_handOn 46 = .ok (.istore 5, 2) := by decide +kernel
theorem dX13_handOn_48 : decode cX13_handOn 48 = .ok (.return_, 1) := by decide +kernel
theorem dX13_save_0 : decode cX13_save 0 = .ok (.iconst 0, 1) := by decide +kernel
theorem dX13_save_1 : decode cX13_save 1 = .ok (.istore_n 2, 1) := by decide +kernel
theorem dX13_save_2 : decode cX13_save 2 = .ok (.iload_n 2, 1) := by decide +kernel
theorem dX13_save_3 : decode cX13_save 3 = .ok (.iload_n 1, 1) := by decide +kernel
theorem dX13_save_4 : decode cX13_save 4 = .ok (.if_icmp .ge 38, 3) := by decide +kernel
theorem dX13_save_7 : decode cX13_save 7 = .ok (.iload_n 2, 1) := by decide +kernel
theorem dX13_save_8 : decode cX13_save 8 = .ok (.bipush 12, 2) := by decide +kernel
theorem dX13_save_10 : decode cX13_save 10 = .ok (.if_icmp .ge 32, 3) := by decide +kernel
theorem dX13_save_13 : decode cX13_save 13 = .ok (.aload_n 0, 1) := by decide +kernel
theorem dX13_save_14 : decode cX13_save 14 = .ok (.iload_n 2, 1) := by decide +kernel
theorem dX13_save_15 : decode cX13_save 15 = .ok (.invokevirtual 240, 3) := by decide +kernel
theorem dX13_save_18 : decode cX13_save 18 = .ok (.aload_n 0, 1) := by decide +kernel
theorem dX13_save_19 : decode cX13_save 19 = .ok (.getfield 50, 3) := by decide +kernel
theorem dX13_save_22 : decode cX13_save 22 = .ok (.iload_n 2, 1) := by decide +kernel
theorem dX13_save_23 : decode cX13_save 23 = .ok (.invokestatic 237, 3) := by decide +kernel
theorem dX13_save_26 : decode cX13_save 26 = .ok (.iconst 2, 1) := by decide +kernel
theorem dX13_save_27 : decode cX13_save 27 = .ok (.iload_n 2, 1) := by decide +kernel
theorem dX13_save_28 : decode cX13_save 28 = .ok (.invokestatic 243, 3) := by decide +kernel
theorem dX13_save_31 : decode cX13_save 31 = .ok (.bipush 7, 2) := by decide +kernel
theorem dX13_save_33 : decode cX13_save 33 = .ok (.invokevirtual 192, 3) := by decide +kernel
theorem dX13_save_36 : decode cX13_save 36 = .ok (.iinc 2 1, 3) := by decide +kernel
theorem dX13_save_39 : decode cX13_save 39 = .ok (.goto (-37), 3) := by decide +kernel
theorem dX13_save_42 : decode cX13_save 42 = .ok (.return_, 1) := by decide +kernel
theorem dX13_takeBack_0 : decode cX13_takeBack 0 = .ok (.iconst 0, 1) := by decide +kernel
theorem dX13_takeBack_1 : decode cX13_takeBack 1 = .ok (.istore_n 2, 1) := by decide +kernel
theorem dX13_takeBack_2 : decode cX13_takeBack 2 = .ok (.iload_n 2, 1) := by decide +kernel
theorem dX13_takeBack_3 : decode cX13_takeBack 3 = .ok (.iload_n 1, 1) := by decide +kernel
theorem dX13_takeBack_4 : decode cX13_takeBack 4 = .ok (.if_icmp .ge 33, 3) := by decide +kernel
theorem dX13_takeBack_7 : decode cX13_takeBack 7 = .ok (.iload_n 2, 1) := by decide +kernel
theorem dX13_takeBack_8 : decode cX13_takeBack 8 = .ok (.bipush 12, 2) := by decide +kernel
theorem dX13_takeBack_10 : decode cX13_takeBack 10 = .ok (.if_icmp .ge 27, 3) := by decide +kernel
theorem dX13_takeBack_13 : decode cX13_takeBack 13 = .ok (.aload_n 0, 1) := by decide +kernel
theorem dX13_takeBack_14 : decode cX13_takeBack 14 = .ok (.getfield 50, 3) := by decide +kernel
theorem dX13_takeBack_17 : decode cX13_takeBack 17 = .ok (.iload_n 2, 1) := by decide +kernel
theorem dX13_takeBack_18 : decode cX13_takeBack 18 = .ok (.invokestatic 237, 3) := by decide +kernel
theorem dX13_takeBack_21 : decode cX13_takeBack 21 = .ok (.iconst 2, 1) := by decide +kernel
theorem dX13_takeBack_22 : decode cX13_takeBack 22 = .ok (.iload_n 2, 1) := by decide +kernel
theorem dX13_takeBack_23 : decode cX13_takeBack 23 = .ok (.invokestatic 243, 3) := by decide +kernel
theorem dX13_takeBack_26 : decode cX13_takeBack 26 = .ok (.bipush 7, 2) := by decide +kernel
theorem dX13_takeBack_28 : decode cX13_takeBack 28 = .ok (.invokevirtual 221, 3) := by decide +kernel
theorem dX13_takeBack_31 : decode cX13_takeBack 31 = .ok (.iinc 2 1, 3) := by decide +kernel
theorem dX13_takeBack_34 : decode cX13_takeBack 34 = .ok (.goto (-32), 3) := by decide +kernel
theorem dX13_takeBack_37 : decode cX13_takeBack 37 = .ok (.return_, 1) := by decide +kernel
theorem dX13_set_0 : decode cX13_set 0 = .ok (.aload_n 0, 1) := by decide +kernel
theorem dX13_set_1 : decode cX13_set 1 = .ok (.getfield 25, 3) := by decide +kernel
theorem dX13_set_4 : decode cX13_set 4 = .ok (.iload_n 2, 1) := by decide +kernel
theorem dX13_set_5 : decode cX13_set 5 = .ok (.invokevirtual 161, 3) := by decide +kernel
theorem dX13_set_8 : decode cX13_set 8 = .ok (.istore 4, 2) := by decide +kernel
theorem dX13_set_10 : decode cX13_set 10 = .ok (.aload_n 0, 1) := by decide +kernel
theorem dX13_set_11 : decode cX13_set 11 = .ok (.getfield 25, 3) := by decide +kernel
theorem dX13_set_14 : decode cX13_set 14 = .ok (.iload_n 1, 1) := by decide +kernel
theorem dX13_set_15 : decode cX13_set 15 = .ok (.invokevirtual 123, 3) := by decide +kernel
theorem dX13_set_18 : decode cX13_set 18 = .ok (.invokestatic 398, 3) := by decide +kernel
theorem dX13_set_21 : decode cX13_set 21 = .ok (.istore 5, 2) := by decide +kernel
theorem dX13_set_23 : decode cX13_set 23 = .ok (.aload_n 0, 1) := by decide +kernel
theorem dX13_set_24 : decode cX13_set 24 = .ok (.getfield 25, 3) := by decide +kernel
theorem dX13_set_27 : decode cX13_set 27 = .ok (.iload_n 2, 1) := by decide +kernel
theorem dX13_set_28 : decode cX13_set 28 = .ok (.invokevirtual 207, 3) := by decide +kernel
theorem dX13_set_31 : decode cX13_set 31 = .ok (.istore 6, 2) := by decide +kernel
theorem dX13_set_33 : decode cX13_set 33 = .ok (.aload_n 0, 1) := by decide +kernel
theorem dX13_set_34 : decode cX13_set 34 = .ok (.getfield 25, 3) := by decide +kernel
theorem dX13_set_37 : decode cX13_set 37 = .ok (.iload_n 2, 1) := by decide +kernel
theorem dX13_set_38 : decode cX13_set 38 = .ok (.invokevirtual 158, 3) := by decide +kernel
theorem dX13_set_41 : decode cX13_set 41 = .ok (.bipush 38, 2) := by decide +kernel
theorem dX13_set_43 : decode cX13_set 43 = .ok (.if_icmp .ne 65, 3) := by decide +kernel
theorem dX13_set_46 : decode cX13_set 46 = .ok (.aload_n 0, 1) := by decide +kernel
theorem dX13_set_47 : decode cX13_set 47 = .ok (.iload 4, 2) := by decide +kernel
theorem dX13_set_49 : decode cX13_set 49 = .ok (.iload_n 3, 1) := by decide +kernel
theorem dX13_set_50 : decode cX13_set 50 = .ok (.invokevirtual 261, 3) := by decide +kernel
theorem dX13_set_53 : decode cX13_set 53 = .ok (.istore 7, 2) := by decide +kernel
theorem dX13_set_55 : decode cX13_set 55 = .ok (.iload 5, 2) := by decide +kernel
theorem dX13_set_57 : decode cX13_set 57 = .ok (.ifCond .eq 41, 3) := by decide +kernel
theorem dX13_set_60 : decode cX13_set 60 = .ok (.aload_n 0, 1) := by decide +kernel
theorem dX13_set_61 : decode cX13_set 61 = .ok (.iload 7, 2) := by decide +kernel
theorem dX13_set_63 : decode cX13_set 63 = .ok (.bipush 6, 2) := by decide +kernel
theorem dX13_set_65 : decode cX13_set 65 = .ok (.invokevirtual 249, 3) := by decide +kernel
theorem dX13_set_68 : decode cX13_set 68 = .ok (.istore 8, 2) := by decide +kernel
theorem dX13_set_70 : decode cX13_set 70 = .ok (.aload_n 0, 1) := by decide +kernel
theorem dX13_set_71 : decode cX13_set 71 = .ok (.iload 6, 2) := by decide +kernel
theorem dX13_set_73 : decode cX13_set 73 = .ok (.iconst 5, 1) := by decide +kernel
theorem dX13_set_74 : decode cX13_set 74 = .ok (.invokevirtual 371, 3) := by decide +kernel
theorem dX13_set_77 : decode cX13_set 77 = .ok (.aload_n 0, 1) := by decide +kernel
theorem dX13_set_78 : decode cX13_set 78 = .ok (.iload 5, 2) := by decide +kernel
theorem dX13_set_80 : decode cX13_set 80 = .ok (.aload_n 0, 1) := by decide +kernel
theorem dX13_set_81 : decode cX13_set 81 = .ok (.iload_n 3, 1) := by decide +kernel
theorem dX13_set_82 : decode cX13_set 82 = .ok (.invokevirtual 246, 3) := by decide +kernel
theorem dX13_set_85 : decode cX13_set 85 = .ok (.iconst 5, 1) := by decide +kernel
theorem dX13_set_86 : decode cX13_set 86 = .ok (.iload 8, 2) := by decide +kernel
theorem dX13_set_88 : decode cX13_set 88 = .ok (.invokevirtual 387, 3) := by decide +kernel
theorem dX13_set_91 : decode cX13_set 91 = .ok (.aload_n 0, 1) := by decide +kernel
theorem dX13_set_92 : decode cX13_set 92 = .ok (.iload_n 3, 1) := by decide +kernel
theorem dX13_set_93 : decode cX13_set 93 = .ok (.invokevirtual 252, 3) := by decide +kernel
theorem dX13_set_96 : decode cX13_set 96 = .ok (.istore 7, 2) := by decide +kernel
theorem dX13_set_98 : decode cX13_set 98 = .ok (.aload_n 0, 1) := by decide +kernel
theorem dX13_set_99 : decode cX13_set 99 = .ok (.iload 6, 2) := by decide +kernel
theorem dX13_set_101 : decode cX13_set 101 = .ok (.iload 7, 2) := by decide +kernel
theorem dX13_set_103 : decode cX13_set 103 = .ok (.iload_n 3, 1) := by decide +kernel
theorem dX13_set_104 : decode cX13_set 104 = .ok (.invokevirtual 296, 3) := by decide +kernel
theorem dX13_set_107 : decode cX13_set 107 = .ok (.ireturn, 1) := by decide +kernel
theorem dX13_set_108 : decode cX13_set 108 = .ok (.aload_n 0, 1) := by decide +kernel
theorem dX13_set_109 : decode cX13_set 109 = .ok (.aload_n 0, 1) := by decide +kernel
theorem dX13_set_110 : decode cX13_set 110 = .ok (.getfield 25, 3) := by decide +kernel
theorem dX13_set_113 : decode cX13_set 113 = .ok (.iload_n 2, 1) := by decide +kernel
theorem dX13_set_114 : decode cX13_set 114 = .ok (.invokevirtual 155, 3) := by decide +kernel
theorem dX13_set_117 : decode cX13_set 117 = .ok (.iload_n 3, 1) := by decide +kernel
theorem dX13_set_118 : decode cX13_set 118 = .ok (.invokevirtual 261, 3) := by decide +kernel
theorem dX13_set_121 : decode cX13_set 121 = .ok (.istore 7, 2) := by decide +kernel
theorem dX13_set_123 : decode cX13_set 123 = .ok (.iload 7, 2) := by decide +kernel
theorem dX13_set_125 : decode cX13_set 125 = .ok (.iload_n 3, 1) := by decide +kernel
theorem dX13_set_126 : decode cX13_set 126 = .ok (.invokestatic 381, 3) := by decide +kernel
theorem dX13_set_129 : decode cX13_set 129 = .ok (.ifCond .eq 25, 3) := by decide +kernel
theorem dX13_set_132 : decode cX13_set 132 = .ok (.aload_n 0, 1) := by decide +kernel
theorem dX13_set_133 : decode cX13_set 133 = .ok (.getfield 59, 3) := by decide +kernel
theorem dX13_set_136 : decode cX13_set 136 = .ok (.iload 4, 2) := by decide +kernel
theorem dX13_set_138 : decode cX13_set 138 = .ok (.invokevirtual 384, 3) := by decide +kernel
theorem dX13_set_141 : decode cX13_set 141 = .ok (.ifCond .eq 13, 3) := by decide +kernel
theorem dX13_set_144 : decode cX13_set 144 = .ok (.aload_n 0, 1) := by decide +kernel
theorem dX13_set_145 : decode cX13_set 145 = .ok (.iload 7, 2) := by decide +kernel
theorem dX13_set_147 : decode cX13_set 147 = .ok (.iload_n 3, 1) := by decide +kernel
theorem dX13_set_148 : decode cX13_set 148 = .ok (.invokevirtual 285, 3) := by decide +kernel
theorem dX13_set_151 : decode cX13_set 151 = .ok (.goto 5, 3) := by decide +kernel
theorem dX13_set_154 : decode cX13_set 154 = .ok (.iload 7, 2) := by decide +kernel
theorem dX13_set_156 : decode cX13_set 156 = .ok (.istore 7, 2) := by decide +kernel
theorem dX13_set_158 : decode cX13_set 158 = .ok (.aload_n 0, 1) := by decide +kernel
theorem dX13_set_159 : decode cX13_set 159 = .ok (.iload 4, 2) := by decide +kernel
theorem dX13_set_161 : decode cX13_set 161 = .ok (.iload_n 3, 1) := by decide +kernel
theorem dX13_set_162 : decode cX13_set 162 = .ok (.iconst 1, 1) := by decide +kernel
theorem dX13_set_163 : decode cX13_set 163 = .ok (.iadd, 1) := by decide +kernel
theorem dX13_set_164 : decode cX13_set 164 = .ok (.invokevirtual 261, 3) := by decide +kernel
theorem dX13_set_167 : decode cX13_set 167 = .ok (.istore 8, 2) := by decide +kernel
theorem dX13_set_169 : decode cX13_set 169 = .ok (.aload_n 0, 1) := by decide +kernel
theorem dX13_set_170 : decode cX13_set 170 = .ok (.iload 6, 2) := by decide +kernel
theorem dX13_set_172 : decode cX13_set 172 = .ok (.iload 7, 2) := by decide +kernel
theorem dX13_set_174 : decode cX13_set 174 = .ok (.invokevirtual 347, 3) := by decide +kernel
theorem dX13_set_177 : decode cX13_set 177 = .ok (.aload_n 0, 1) := by decide +kernel
theorem dX13_set_178 : decode cX13_set 178 = .ok (.iload 8, 2) := by decide +kernel
theorem dX13_set_180 : decode cX13_set 180 = .ok (.bipush 6, 2) := by decide +kernel
theorem dX13_set_182 : decode cX13_set 182 = .ok (.invokevirtual 249, 3) := by decide +kernel
theorem dX13_set_185 : decode cX13_set 185 = .ok (.istore 9, 2) := by decide +kernel
theorem dX13_set_187 : decode cX13_set 187 = .ok (.iload 5, 2) := by decide +kernel
theorem dX13_set_189 : decode cX13_set 189 = .ok (.ifCond .eq 23, 3) := by decide +kernel
theorem dX13_set_192 : decode cX13_set 192 = .ok (.aload_n 0, 1) := by decide +kernel
theorem dX13_set_193 : decode cX13_set 193 = .ok (.iload 6, 2) := by decide +kernel
theorem dX13_set_195 : decode cX13_set 195 = .ok (.iconst 5, 1) := by decide +kernel
theorem dX13_set_196 : decode cX13_set 196 = .ok (.invokevirtual 350, 3) := by decide +kernel
theorem dX13_set_199 : decode cX13_set 199 = .ok (.aload_n 0, 1) := by decide +kernel
theorem dX13_set_200 : decode cX13_set 200 = .ok (.iload 5, 2) := by decide +kernel
theorem dX13_set_202 : decode cX13_set 202 = .ok (.iconst 5, 1) := by decide +kernel
theorem dX13_set_203 : decode cX13_set 203 = .ok (.iconst 5, 1) := by decide +kernel
theorem dX13_set_204 : decode cX13_set 204 = .ok (.iload 9, 2) := by decide +kernel
theorem dX13_set_206 : decode cX13_set 206 = .ok (.invokevirtual 387, 3) := by decide +kernel
theorem dX13_set_209 : decode cX13_set 209 = .ok (.iconst 5, 1) := by decide +kernel
theorem dX13_set_210 : decode cX13_set 210 = .ok (.istore 9, 2) := by decide +kernel
theorem dX13_set_212 : decode cX13_set 212 = .ok (.aload_n 0, 1) := by decide +kernel
theorem dX13_set_213 : decode cX13_set 213 = .ok (.iload 6, 2) := by decide +kernel
theorem dX13_set_215 : decode cX13_set 215 = .ok (.iload 9, 2) := by decide +kernel
theorem dX13_set_217 : decode cX13_set 217 = .ok (.invokevirtual 401, 3) := by decide +kernel
theorem dX13_set_220 : decode cX13_set 220 = .ok (.aload_n 0, 1) := by decide +kernel
theorem dX13_set_221 : decode cX13_set 221 = .ok (.iload 6, 2) := by decide +kernel
theorem dX13_set_223 : decode cX13_set 223 = .ok (.iload 9, 2) := by decide +kernel
theorem dX13_set_225 : decode cX13_set 225 = .ok (.iload_n 3, 1) := by decide +kernel
theorem dX13_set_226 : decode cX13_set 226 = .ok (.invokevirtual 404, 3) := by decide +kernel
theorem dX13_set_229 : decode cX13_set 229 = .ok (.ireturn, 1) := by decide +kernel
theorem dX13_within_0 : decode cX13_within 0 = .ok (.iload_n 0, 1) := by decide +kernel
theorem dX13_within_1 : decode cX13_within 1 = .ok (.tableswitch 87 138 147 #[55, 58, 61, 64, 67, 70, 74, 78, 81, 84], 55) := by decide +kernel
theorem dX13_within_56 : decode cX13_within 56 = .ok (.bipush 43, 2) := by decide +kernel
theorem dX13_within_58 : decode cX13_within 58 = .ok (.ireturn, 1) := by decide +kernel
theorem dX13_within_59 : decode cX13_within 59 = .ok (.bipush 45, 2) := by decide +kernel
theorem dX13_within_61 : decode cX13_within 61 = .ok (.ireturn, 1) := by decide +kernel
theorem dX13_within_62 : decode cX13_within 62 = .ok (.bipush 42, 2) := by decide +kernel
theorem dX13_within_64 : decode cX13_within 64 = .ok (.ireturn, 1) := by decide +kernel
theorem dX13_within_65 : decode cX13_within 65 = .ok (.bipush 47, 2) := by decide +kernel
theorem dX13_within_67 : decode cX13_within 67 = .ok (.ireturn, 1) := by decide +kernel
theorem dX13_within_68 : decode cX13_within 68 = .ok (.bipush 37, 2) := by decide +kernel
theorem dX13_within_70 : decode cX13_within 70 = .ok (.ireturn, 1) := by decide +kernel
theorem dX13_within_71 : decode cX13_within 71 = .ok (.sipush 134, 3) := by decide +kernel
theorem dX13_within_74 : decode cX13_within 74 = .ok (.ireturn, 1) := by decide +kernel
theorem dX13_within_75 : decode cX13_within 75 = .ok (.sipush 135, 3) := by decide +kernel
theorem dX13_within_78 : decode cX13_within 78 = .ok (.ireturn, 1) := by decide +kernel
theorem dX13_within_79 : decode cX13_within 79 = .ok (.bipush 38, 2) := by decide +kernel
theorem dX13_within_81 : decode cX13_within 81 = .ok (.ireturn, 1) := by decide +kernel
theorem dX13_within_82 : decode cX13_within 82 = .ok (.bipush 124, 2) := by decide +kernel
theorem dX13_within_84 : decode cX13_within 84 = .ok (.ireturn, 1) := by decide +kernel
theorem dX13_within_85 : decode cX13_within 85 = .ok (.bipush 94, 2) := by decide +kernel
theorem dX13_within_87 : decode cX13_within 87 = .ok (.ireturn, 1) := by decide +kernel
theorem dX13_within_88 : decode cX13_within 88 = .ok (.iconst 0, 1) := by decide +kernel
theorem dX13_within_89 : decode cX13_within 89 = .ok (.ireturn, 1) := by decide +kernel
theorem dX13_reckon_0 : decode cX13_reckon 0 = .ok (.iload_n 1, 1) := by decide +kernel
theorem dX13_reckon_1 : decode cX13_reckon 1 = .ok (.lookupswitch 267 #[(37, 140), (38, 184), (42, 124), (43, 91), (45, 107), (47, 140), (94, 218), (124, 201), (134, 234), (135, 250)], 91) := by decide +kernel
theorem dX13_reckon_92 : decode cX13_reckon 92 = .ok (.aload_n 0, 1) := by decide +kernel
theorem dX13_reckon_93 : decode cX13_reckon 93 = .ok (.getfield 50, 3) := by decide +kernel
theorem dX13_reckon_96 : decode cX13_reckon 96 = .ok (.iconst 0, 1) := by decide +kernel
theorem dX13_reckon_97 : decode cX13_reckon 97 = .ok (.iconst 0, 1) := by decide +kernel
theorem dX13_reckon_98 : decode cX13_reckon 98 = .ok (.iload_n 2, 1) := by decide +kernel
theorem dX13_reckon_99 : decode cX13_reckon 99 = .ok (.iload_n 3, 1) := by decide +kernel
theorem dX13_reckon_100 : decode cX13_reckon 100 = .ok (.iload 4, 2) := by decide +kernel
theorem dX13_reckon_102 : decode cX13_reckon 102 = .ok (.invokevirtual 185, 3) := by decide +kernel
theorem dX13_reckon_105 : decode cX13_reckon 105 = .ok (.goto 172, 3) := by decide +kernel
theorem dX13_reckon_108 : decode cX13_reckon 108 = .ok (.aload_n 0, 1) := by decide +kernel
theorem dX13_reckon_109 : decode cX13_reckon 109 = .ok (.getfield 50, 3) := by decide +kernel
theorem dX13_reckon_112 : decode cX13_reckon 112 = .ok (.iconst 0, 1) := by decide +kernel
theorem dX13_reckon_113 : decode cX13_reckon 113 = .ok (.bipush 32, 2) := by decide +kernel
theorem dX13_reckon_115 : decode cX13_reckon 115 = .ok (.iload_n 2, 1) := by decide +kernel
theorem dX13_reckon_116 : decode cX13_reckon 116 = .ok (.iload_n 3, 1) := by decide +kernel
theorem dX13_reckon_117 : decode cX13_reckon 117 = .ok (.iload 4, 2) := by decide +kernel
theorem dX13_reckon_119 : decode cX13_reckon 119 = .ok (.invokevirtual 185, 3) := by decide +kernel
theorem dX13_reckon_122 : decode cX13_reckon 122 = .ok (.goto 155, 3) := by decide +kernel
theorem dX13_reckon_125 : decode cX13_reckon 125 = .ok (.aload_n 0, 1) := by decide +kernel
theorem dX13_reckon_126 : decode cX13_reckon 126 = .ok (.getfield 50, 3) := by decide +kernel
theorem dX13_reckon_129 : decode cX13_reckon 129 = .ok (.iconst 0, 1) := by decide +kernel
theorem dX13_reckon_130 : decode cX13_reckon 130 = .ok (.iconst 1, 1) := by decide +kernel
theorem dX13_reckon_131 : decode cX13_reckon 131 = .ok (.iload_n 2, 1) := by decide +kernel
theorem dX13_reckon_132 : decode cX13_reckon 132 = .ok (.iload_n 3, 1) := by decide +kernel
theorem dX13_reckon_133 : decode cX13_reckon 133 = .ok (.iload 4, 2) := by decide +kernel
theorem dX13_reckon_135 : decode cX13_reckon 135 = .ok (.invokevirtual 185, 3) := by decide +kernel
theorem dX13_reckon_138 : decode cX13_reckon 138 = .ok (.goto 139, 3) := by decide +kernel
theorem dX13_reckon_141 : decode cX13_reckon 141 = .ok (.aload_n 0, 1) := by decide +kernel
theorem dX13_reckon_142 : decode cX13_reckon 142 = .ok (.getfield 50, 3) := by decide +kernel
theorem dX13_reckon_145 : decode cX13_reckon 145 = .ok (.iconst 0, 1) := by decide +kernel
theorem dX13_reckon_146 : decode cX13_reckon 146 = .ok (.iload 4, 2) := by decide +kernel
theorem dX13_reckon_148 : decode cX13_reckon 148 = .ok (.iconst 0, 1) := by decide +kernel
theorem dX13_reckon_149 : decode cX13_reckon 149 = .ok (.aload_n 0, 1) := by decide +kernel
theorem dX13_reckon_150 : decode cX13_reckon 150 = .ok (.bipush 17, 2) := by decide +kernel
theorem dX13_reckon_152 : decode cX13_reckon 152 = .ok (.invokevirtual 146, 3) := by decide +kernel
theorem dX13_reckon_155 : decode cX13_reckon 155 = .ok (.invokevirtual 149, 3) := by decide +kernel
theorem dX13_reckon_158 : decode cX13_reckon 158 = .ok (.aload_n 0, 1) := by decide +kernel
theorem dX13_reckon_159 : decode cX13_reckon 159 = .ok (.getfield 50, 3) := by decide +kernel
theorem dX13_reckon_162 : decode cX13_reckon 162 = .ok (.iload_n 1, 1) := by decide +kernel
theorem dX13_reckon_163 : decode cX13_reckon 163 = .ok (.bipush 47, 2) := by decide +kernel
theorem dX13_reckon_165 : decode cX13_reckon 165 = .ok (.if_icmp .ne 7, 3) := by decide +kernel
theorem dX13_reckon_168 : decode cX13_reckon 168 = .ok (.iconst 4, 1) := by decide +kernel
theorem dX13_reckon_169 : decode cX13_reckon 169 = .ok (.goto 5, 3) := by decide +kernel
theorem dX13_reckon_172 : decode cX13_reckon 172 = .ok (.bipush 6, 2) := by decide +kernel
theorem dX13_reckon_174 : decode cX13_reckon 174 = .ok (.iconst 1, 1) := by decide +kernel
theorem dX13_reckon_175 : decode cX13_reckon 175 = .ok (.iload_n 2, 1) := by decide +kernel
theorem dX13_reckon_176 : decode cX13_reckon 176 = .ok (.iload_n 3, 1) := by decide +kernel
theorem dX13_reckon_177 : decode cX13_reckon 177 = .ok (.iload 4, 2) := by decide +kernel
theorem dX13_reckon_179 : decode cX13_reckon 179 = .ok (.invokevirtual 185, 3) := by decide +kernel
theorem dX13_reckon_182 : decode cX13_reckon 182 = .ok (.goto 95, 3) := by decide +kernel
theorem dX13_reckon_185 : decode cX13_reckon 185 = .ok (.aload_n 0, 1) := by decide +kernel
theorem dX13_reckon_186 : decode cX13_reckon 186 = .ok (.getfield 50, 3) := by decide +kernel
theorem dX13_reckon_189 : decode cX13_reckon 189 = .ok (.bipush 7, 2) := by decide +kernel
theorem dX13_reckon_191 : decode cX13_reckon 191 = .ok (.iconst 0, 1) := by decide +kernel
theorem dX13_reckon_192 : decode cX13_reckon 192 = .ok (.iload_n 2, 1) := by decide +kernel
theorem dX13_reckon_193 : decode cX13_reckon 193 = .ok (.iload_n 3, 1) := by decide +kernel
theorem dX13_reckon_194 : decode cX13_reckon 194 = .ok (.iload 4, 2) := by decide +kernel
theorem dX13_reckon_196 : decode cX13_reckon 196 = .ok (.invokevirtual 185, 3) := by decide +kernel
theorem dX13_reckon_199 : decode cX13_reckon 199 = .ok (.goto 78, 3) := by decide +kernel
theorem dX13_reckon_202 : decode cX13_reckon 202 = .ok (.aload_n 0, 1) := by decide +kernel
theorem dX13_reckon_203 : decode cX13_reckon 203 = .ok (.getfield 50, 3) := by decide +kernel
theorem dX13_reckon_206 : decode cX13_reckon 206 = .ok (.bipush 6, 2) := by decide +kernel
theorem dX13_reckon_208 : decode cX13_reckon 208 = .ok (.iconst 0, 1) := by decide +kernel
theorem dX13_reckon_209 : decode cX13_reckon 209 = .ok (.iload_n 2, 1) := by decide +kernel
theorem dX13_reckon_210 : decode cX13_reckon 210 = .ok (.iload_n 3, 1) := by decide +kernel
theorem dX13_reckon_211 : decode cX13_reckon 211 = .ok (.iload 4, 2) := by decide +kernel
theorem dX13_reckon_213 : decode cX13_reckon 213 = .ok (.invokevirtual 185, 3) := by decide +kernel
theorem dX13_reckon_216 : decode cX13_reckon 216 = .ok (.goto 61, 3) := by decide +kernel
theorem dX13_reckon_219 : decode cX13_reckon 219 = .ok (.aload_n 0, 1) := by decide +kernel
theorem dX13_reckon_220 : decode cX13_reckon 220 = .ok (.getfield 50, 3) := by decide +kernel
theorem dX13_reckon_223 : decode cX13_reckon 223 = .ok (.iconst 4, 1) := by decide +kernel
theorem dX13_reckon_224 : decode cX13_reckon 224 = .ok (.iconst 0, 1) := by decide +kernel
theorem dX13_reckon_225 : decode cX13_reckon 225 = .ok (.iload_n 2, 1) := by decide +kernel
theorem dX13_reckon_226 : decode cX13_reckon 226 = .ok (.iload_n 3, 1) := by decide +kernel
theorem dX13_reckon_227 : decode cX13_reckon 227 = .ok (.iload 4, 2) := by decide +kernel
theorem dX13_reckon_229 : decode cX13_reckon 229 = .ok (.invokevirtual 185, 3) := by decide +kernel
theorem dX13_reckon_232 : decode cX13_reckon 232 = .ok (.goto 45, 3) := by decide +kernel
theorem dX13_reckon_235 : decode cX13_reckon 235 = .ok (.aload_n 0, 1) := by decide +kernel
theorem dX13_reckon_236 : decode cX13_reckon 236 = .ok (.getfield 50, 3) := by decide +kernel
theorem dX13_reckon_239 : decode cX13_reckon 239 = .ok (.iconst 1, 1) := by decide +kernel
theorem dX13_reckon_240 : decode cX13_reckon 240 = .ok (.iconst 0, 1) := by decide +kernel
theorem dX13_reckon_241 : decode cX13_reckon 241 = .ok (.iload_n 2, 1) := by decide +kernel
theorem dX13_reckon_242 : decode cX13_reckon 242 = .ok (.iload_n 3, 1) := by decide +kernel
theorem dX13_reckon_243 : decode cX13_reckon 243 = .ok (.iload 4, 2) := by decide +kernel
theorem dX13_reckon_245 : decode cX13_reckon 245 = .ok (.invokevirtual 185, 3) := by decide +kernel
theorem dX13_reckon_248 : decode cX13_reckon 248 = .ok (.goto 29, 3) := by decide +kernel
theorem dX13_reckon_251 : decode cX13_reckon 251 = .ok (.aload_n 0, 1) := by decide +kernel
theorem dX13_reckon_252 : decode cX13_reckon 252 = .ok (.getfield 50, 3) := by decide +kernel
theorem dX13_reckon_255 : decode cX13_reckon 255 = .ok (.iconst 5, 1) := by decide +kernel
theorem dX13_reckon_256 : decode cX13_reckon 256 = .ok (.bipush 32, 2) := by decide +kernel
theorem dX13_reckon_258 : decode cX13_reckon 258 = .ok (.iload_n 2, 1) := by decide +kernel
theorem dX13_reckon_259 : decode cX13_reckon 259 = .ok (.iload_n 3, 1) := by decide +kernel
theorem dX13_reckon_260 : decode cX13_reckon 260 = .ok (.iload 4, 2) := by decide +kernel
theorem dX13_reckon_262 : decode cX13_reckon 262 = .ok (.invokevirtual 185, 3) := by decide +kernel
theorem dX13_reckon_265 : decode cX13_reckon 265 = .ok (.goto 12, 3) := by decide +kernel
theorem dX13_reckon_268 : decode cX13_reckon 268 = .ok (.aload_n 0, 1) := by decide +kernel
theorem dX13_reckon_269 : decode cX13_reckon 269 = .ok (.iload_n 1, 1) := by decide +kernel
theorem dX13_reckon_270 : decode cX13_reckon 270 = .ok (.iload_n 2, 1) := by decide +kernel
theorem dX13_reckon_271 : decode cX13_reckon 271 = .ok (.iload_n 3, 1) := by decide +kernel
theorem dX13_reckon_272 : decode cX13_reckon 272 = .ok (.iload 4, 2) := by decide +kernel
theorem dX13_reckon_274 : decode cX13_reckon 274 = .ok (.invokevirtual 393, 3) := by decide +kernel
theorem dX13_reckon_277 : decode cX13_reckon 277 = .ok (.return_, 1) := by decide +kernel
theorem dX13_compare_0 : decode cX13_compare 0 = .ok (.iload_n 1, 1) := by decide +kernel
theorem dX13_compare_1 : decode cX13_compare 1 = .ok (.lookupswitch 164 #[(60, 51), (62, 67), (130, 137), (132, 83), (133, 110)], 51) := by decide +kernel
theorem dX13_compare_52 : decode cX13_compare 52 = .ok (.aload_n 0, 1) := by decide +kernel
theorem dX13_compare_53 : decode cX13_compare 53 = .ok (.getfield 50, 3) := by decide +kernel
theorem dX13_compare_56 : decode cX13_compare 56 = .ok (.iconst 2, 1) := by decide +kernel
theorem dX13_compare_57 : decode cX13_compare 57 = .ok (.iconst 0, 1) := by decide +kernel
theorem dX13_compare_58 : decode cX13_compare 58 = .ok (.iload_n 2, 1) := by decide +kernel
theorem dX13_compare_59 : decode cX13_compare 59 = .ok (.iload_n 3, 1) := by decide +kernel
theorem dX13_compare_60 : decode cX13_compare 60 = .ok (.iload 4, 2) := by decide +kernel
theorem dX13_compare_62 : decode cX13_compare 62 = .ok (.invokevirtual 185, 3) := by decide +kernel
theorem dX13_compare_65 : decode cX13_compare 65 = .ok (.goto 125, 3) := by decide +kernel
theorem dX13_compare_68 : decode cX13_compare 68 = .ok (.aload_n 0, 1) := by decide +kernel
theorem dX13_compare_69 : decode cX13_compare 69 = .ok (.getfield 50, 3) := by decide +kernel
theorem dX13_compare_72 : decode cX13_compare 72 = .ok (.iconst 2, 1) := by decide +kernel
theorem dX13_compare_73 : decode cX13_compare 73 = .ok (.iconst 0, 1) := by decide +kernel
theorem dX13_compare_74 : decode cX13_compare 74 = .ok (.iload_n 2, 1) := by decide +kernel
theorem dX13_compare_75 : decode cX13_compare 75 = .ok (.iload 4, 2) := by decide +kernel
theorem dX13_compare_77 : decode cX13_compare 77 = .ok (.iload_n 3, 1) := by decide +kernel
theorem dX13_compare_78 : decode cX13_compare 78 = .ok (.invokevirtual 185, 3) := by decide +kernel
theorem dX13_compare_81 : decode cX13_compare 81 = .ok (.goto 109, 3) := by decide +kernel
theorem dX13_compare_84 : decode cX13_compare 84 = .ok (.aload_n 0, 1) := by decide +kernel
theorem dX13_compare_85 : decode cX13_compare 85 = .ok (.getfield 50, 3) := by decide +kernel
theorem dX13_compare_88 : decode cX13_compare 88 = .ok (.iconst 2, 1) := by decide +kernel
theorem dX13_compare_89 : decode cX13_compare 89 = .ok (.iconst 0, 1) := by decide +kernel
theorem dX13_compare_90 : decode cX13_compare 90 = .ok (.iload_n 2, 1) := by decide +kernel
theorem dX13_compare_91 : decode cX13_compare 91 = .ok (.iload 4, 2) := by decide +kernel
theorem dX13_compare_93 : decode cX13_compare 93 = .ok (.iload_n 3, 1) := by decide +kernel
theorem dX13_compare_94 : decode cX13_compare 94 = .ok (.invokevirtual 185, 3) := by decide +kernel
theorem dX13_compare_97 : decode cX13_compare 97 = .ok (.aload_n 0, 1) := by decide +kernel
theorem dX13_compare_98 : decode cX13_compare 98 = .ok (.getfield 50, 3) := by decide +kernel
theorem dX13_compare_101 : decode cX13_compare 101 = .ok (.iconst 4, 1) := by decide +kernel
theorem dX13_compare_102 : decode cX13_compare 102 = .ok (.iload_n 2, 1) := by decide +kernel
theorem dX13_compare_103 : decode cX13_compare 103 = .ok (.iload_n 2, 1) := by decide +kernel
theorem dX13_compare_104 : decode cX13_compare 104 = .ok (.iconst 1, 1) := by decide +kernel
theorem dX13_compare_105 : decode cX13_compare 105 = .ok (.invokevirtual 179, 3) := by decide +kernel
theorem dX13_compare_108 : decode cX13_compare 108 = .ok (.goto 82, 3) := by decide +kernel
theorem dX13_compare_111 : decode cX13_compare 111 = .ok (.aload_n 0, 1) := by decide +kernel
theorem dX13_compare_112 : decode cX13_compare 112 = .ok (.getfield 50, 3) := by decide +kernel
theorem dX13_compare_115 : decode cX13_compare 115 = .ok (.iconst 2, 1) := by decide +kernel
theorem dX13_compare_116 : decode cX13_compare 116 = .ok (.iconst 0, 1) := by decide +kernel
theorem dX13_compare_117 : decode cX13_compare 117 = .ok (.iload_n 2, 1) := by decide +kernel
theorem dX13_compare_118 : decode cX13_compare 118 = .ok (.iload_n 3, 1) := by decide +kernel
theorem dX13_compare_119 : decode cX13_compare 119 = .ok (.iload 4, 2) := by decide +kernel
theorem dX13_compare_121 : decode cX13_compare 121 = .ok (.invokevirtual 185, 3) := by decide +kernel
theorem dX13_compare_124 : decode cX13_compare 124 = .ok (.aload_n 0, 1) := by decide +kernel
theorem dX13_compare_125 : decode cX13_compare 125 = .ok (.getfield 50, 3) := by decide +kernel
theorem dX13_compare_128 : decode cX13_compare 128 = .ok (.iconst 4, 1) := by decide +kernel
theorem dX13_compare_129 : decode cX13_compare 129 = .ok (.iload_n 2, 1) := by decide +kernel
theorem dX13_compare_130 : decode cX13_compare 130 = .ok (.iload_n 2, 1) := by decide +kernel
theorem dX13_compare_131 : decode cX13_compare 131 = .ok (.iconst 1, 1) := by decide +kernel
theorem dX13_compare_132 : decode cX13_compare 132 = .ok (.invokevirtual 179, 3) := by decide +kernel
theorem dX13_compare_135 : decode cX13_compare 135 = .ok (.goto 55, 3) := by decide +kernel
theorem dX13_compare_138 : decode cX13_compare 138 = .ok (.aload_n 0, 1) := by decide +kernel
theorem dX13_compare_139 : decode cX13_compare 139 = .ok (.getfield 50, 3) := by decide +kernel
theorem dX13_compare_142 : decode cX13_compare 142 = .ok (.iconst 4, 1) := by decide +kernel
theorem dX13_compare_143 : decode cX13_compare 143 = .ok (.iconst 0, 1) := by decide +kernel
theorem dX13_compare_144 : decode cX13_compare 144 = .ok (.iload_n 2, 1) := by decide +kernel
theorem dX13_compare_145 : decode cX13_compare 145 = .ok (.iload_n 3, 1) := by decide +kernel
theorem dX13_compare_146 : decode cX13_compare 146 = .ok (.iload 4, 2) := by decide +kernel
theorem dX13_compare_148 : decode cX13_compare 148 = .ok (.invokevirtual 185, 3) := by decide +kernel
theorem dX13_compare_151 : decode cX13_compare 151 = .ok (.aload_n 0, 1) := by decide +kernel
theorem dX13_compare_152 : decode cX13_compare 152 = .ok (.getfield 50, 3) := by decide +kernel
theorem dX13_compare_155 : decode cX13_compare 155 = .ok (.iconst 3, 1) := by decide +kernel
theorem dX13_compare_156 : decode cX13_compare 156 = .ok (.iload_n 2, 1) := by decide +kernel
theorem dX13_compare_157 : decode cX13_compare 157 = .ok (.iload_n 2, 1) := by decide +kernel
theorem dX13_compare_158 : decode cX13_compare 158 = .ok (.iconst 1, 1) := by decide +kernel
theorem dX13_compare_159 : decode cX13_compare 159 = .ok (.invokevirtual 179, 3) := by decide +kernel
theorem dX13_compare_162 : decode cX13_compare 162 = .ok (.goto 28, 3) := by decide +kernel
theorem dX13_compare_165 : decode cX13_compare 165 = .ok (.aload_n 0, 1) := by decide +kernel
theorem dX13_compare_166 : decode cX13_compare 166 = .ok (.getfield 50, 3) := by decide +kernel
theorem dX13_compare_169 : decode cX13_compare 169 = .ok (.iconst 4, 1) := by decide +kernel
theorem dX13_compare_170 : decode cX13_compare 170 = .ok (.iconst 0, 1) := by decide +kernel
theorem dX13_compare_171 : decode cX13_compare 171 = .ok (.iload_n 2, 1) := by decide +kernel
theorem dX13_compare_172 : decode cX13_compare 172 = .ok (.iload_n 3, 1) := by decide +kernel
theorem dX13_compare_173 : decode cX13_compare 173 = .ok (.iload 4, 2) := by decide +kernel
theorem dX13_compare_175 : decode cX13_compare 175 = .ok (.invokevirtual 185, 3) := by decide +kernel
theorem dX13_compare_178 : decode cX13_compare 178 = .ok (.aload_n 0, 1) := by decide +kernel
theorem dX13_compare_179 : decode cX13_compare 179 = .ok (.getfield 50, 3) := by decide +kernel
theorem dX13_compare_182 : decode cX13_compare 182 = .ok (.iconst 3, 1) := by decide +kernel
theorem dX13_compare_183 : decode cX13_compare 183 = .ok (.iconst 0, 1) := by decide +kernel
theorem dX13_compare_184 : decode cX13_compare 184 = .ok (.iload_n 2, 1) := by decide +kernel
theorem dX13_compare_185 : decode cX13_compare 185 = .ok (.iconst 0, 1) := by decide +kernel
theorem dX13_compare_186 : decode cX13_compare 186 = .ok (.iload_n 2, 1) := by decide +kernel
theorem dX13_compare_187 : decode cX13_compare 187 = .ok (.invokevirtual 185, 3) := by decide +kernel
theorem dX13_compare_190 : decode cX13_compare 190 = .ok (.return_, 1) := by decide +kernel
theorem dX13_assign_0 : decode cX13_assign 0 = .ok (.aload_n 0, 1) := by decide +kernel
theorem dX13_assign_1 : decode cX13_assign 1 = .ok (.getfield 39, 3) := by decide +kernel
theorem dX13_assign_4 : decode cX13_assign 4 = .ok (.iload_n 1, 1) := by decide +kernel
theorem dX13_assign_5 : decode cX13_assign 5 = .ok (.invokevirtual 317, 3) := by decide +kernel
theorem dX13_assign_8 : decode cX13_assign 8 = .ok (.iconst 1, 1) := by decide +kernel
theorem dX13_assign_9 : decode cX13_assign 9 = .ok (.if_icmp .ne 7, 3) := by decide +kernel
theorem dX13_assign_12 : decode cX13_assign 12 = .ok (.iconst 1, 1) := by decide +kernel
theorem dX13_assign_13 : decode cX13_assign 13 = .ok (.goto 4, 3) := by decide +kernel
theorem dX13_assign_16 : decode cX13_assign 16 = .ok (.iconst 0, 1) := by decide +kernel
theorem dX13_assign_17 : decode cX13_assign 17 = .ok (.istore 4, 2) := by decide +kernel
theorem dX13_assign_19 : decode cX13_assign 19 = .ok (.aload_n 0, 1) := by decide +kernel
theorem dX13_assign_20 : decode cX13_assign 20 = .ok (.getfield 39, 3) := by decide +kernel
theorem dX13_assign_23 : decode cX13_assign 23 = .ok (.iload_n 1, 1) := by decide +kernel
theorem dX13_assign_24 : decode cX13_assign 24 = .ok (.invokevirtual 78, 3) := by decide +kernel
theorem dX13_assign_27 : decode cX13_assign 27 = .ok (.iconst (-1), 1) := by decide +kernel
theorem dX13_assign_28 : decode cX13_assign 28 = .ok (.if_icmp .ne 7, 3) := by decide +kernel
theorem dX13_assign_31 : decode cX13_assign 31 = .ok (.iconst (-1), 1) := by decide +kernel
theorem dX13_assign_32 : decode cX13_assign 32 = .ok (.goto 11, 3) := by decide +kernel
theorem dX13_assign_35 : decode cX13_assign 35 = .ok (.aload_n 0, 1) := by decide +kernel
theorem dX13_assign_36 : decode cX13_assign 36 = .ok (.getfield 68, 3) := by decide +kernel
theorem dX13_assign_39 : decode cX13_assign 39 = .ok (.iload_n 1, 1) := by decide +kernel
theorem dX13_assign_40 : decode cX13_assign 40 = .ok (.invokevirtual 210, 3) := by decide +kernel
theorem dX13_assign_43 : decode cX13_assign 43 = .ok (.istore 5, 2) := by decide +kernel
theorem dX13_assign_45 : decode cX13_assign 45 = .ok (.aload_n 0, 1) := by decide +kernel
theorem dX13_assign_46 : decode cX13_assign 46 = .ok (.iload_n 2, 1) := by decide +kernel
theorem dX13_assign_47 : decode cX13_assign 47 = .ok (.iconst 5, 1) := by decide +kernel
theorem dX13_assign_48 : decode cX13_assign 48 = .ok (.invokevirtual 249, 3) := by decide +kernel
theorem dX13_assign_51 : decode cX13_assign 51 = .ok (.istore 6, 2) := by decide +kernel
theorem dX13_assign_53 : decode cX13_assign 53 = .ok (.iload 5, 2) := by decide +kernel
theorem dX13_assign_55 : decode cX13_assign 55 = .ok (.iconst (-1), 1) := by decide +kernel
theorem dX13_assign_56 : decode cX13_assign 56 = .ok (.if_icmp .eq 41, 3) := by decide +kernel
theorem dX13_assign_59 : decode cX13_assign 59 = .ok (.iload 4, 2) := by decide +kernel
theorem dX13_assign_61 : decode cX13_assign 61 = .ok (.ifCond .eq 22, 3) := by decide +kernel
theorem dX13_assign_64 : decode cX13_assign 64 = .ok (.aload_n 0, 1) := by decide +kernel
theorem dX13_assign_65 : decode cX13_assign 65 = .ok (.getfield 50, 3) := by decide +kernel
theorem dX13_assign_68 : decode cX13_assign 68 = .ok (.bipush 7, 2) := by decide +kernel
theorem dX13_assign_70 : decode cX13_assign 70 = .ok (.iload 5, 2) := by decide +kernel
theorem dX13_assign_72 : decode cX13_assign 72 = .ok (.iload 6, 2) := by decide +kernel
theorem dX13_assign_74 : decode cX13_assign 74 = .ok (.sipush 255, 3) := by decide +kernel
theorem dX13_assign_77 : decode cX13_assign 77 = .ok (.invokevirtual 179, 3) := by decide +kernel
theorem dX13_assign_80 : decode cX13_assign 80 = .ok (.goto 14, 3) := by decide +kernel
theorem dX13_assign_83 : decode cX13_assign 83 = .ok (.aload_n 0, 1) := by decide +kernel
theorem dX13_assign_84 : decode cX13_assign 84 = .ok (.getfield 50, 3) := by decide +kernel
theorem dX13_assign_87 : decode cX13_assign 87 = .ok (.iload 5, 2) := by decide +kernel
theorem dX13_assign_89 : decode cX13_assign 89 = .ok (.iload 6, 2) := by decide +kernel
theorem dX13_assign_91 : decode cX13_assign 91 = .ok (.invokevirtual 167, 3) := by decide +kernel
theorem dX13_assign_94 : decode cX13_assign 94 = .ok (.iload 5, 2) := by decide +kernel
theorem dX13_assign_96 : decode cX13_assign 96 = .ok (.ireturn, 1) := by decide +kernel
theorem dX13_assign_97 : decode cX13_assign 97 = .ok (.iload_n 2, 1) := by decide +kernel
theorem dX13_assign_98 : decode cX13_assign 98 = .ok (.istore 7, 2) := by decide +kernel
theorem dX13_assign_100 : decode cX13_assign 100 = .ok (.iload 4, 2) := by decide +kernel
theorem dX13_assign_102 : decode cX13_assign 102 = .ok (.ifCond .eq 36, 3) := by decide +kernel
theorem dX13_assign_105 : decode cX13_assign 105 = .ok (.aload_n 0, 1) := by decide +kernel
theorem dX13_assign_106 : decode cX13_assign 106 = .ok (.getfield 50, 3) := by decide +kernel
theorem dX13_assign_109 : decode cX13_assign 109 = .ok (.bipush 7, 2) := by decide +kernel
theorem dX13_assign_111 : decode cX13_assign 111 = .ok (.aload_n 0, 1) := by decide +kernel
theorem dX13_assign_112 : decode cX13_assign 112 = .ok (.iload_n 3, 1) := by decide +kernel
theorem dX13_assign_113 : decode cX13_assign 113 = .ok (.invokevirtual 246, 3) := by decide +kernel
theorem dX13_assign_116 : decode cX13_assign 116 = .ok (.iload 6, 2) := by decide +kernel
theorem dX13_assign_118 : decode cX13_assign 118 = .ok (.sipush 255, 3) := by decide +kernel
theorem dX13_assign_121 : decode cX13_assign 121 = .ok (.invokevirtual 179, 3) := by decide +kernel
theorem dX13_assign_124 : decode cX13_assign 124 = .ok (.aload_n 0, 1) := by decide +kernel
theorem dX13_assign_125 : decode cX13_assign 125 = .ok (.iload_n 3, 1) := by decide +kernel
theorem dX13_assign_126 : decode cX13_assign 126 = .ok (.invokevirtual 246, 3) := by decide +kernel
theorem dX13_assign_129 : decode cX13_assign 129 = .ok (.istore 6, 2) := by decide +kernel
theorem dX13_assign_131 : decode cX13_assign 131 = .ok (.aload_n 0, 1) := by decide +kernel
theorem dX13_assign_132 : decode cX13_assign 132 = .ok (.iload_n 3, 1) := by decide +kernel
theorem dX13_assign_133 : decode cX13_assign 133 = .ok (.invokevirtual 252, 3) := by decide +kernel
theorem dX13_assign_136 : decode cX13_assign 136 = .ok (.istore 7, 2) := by decide +kernel
theorem dX13_assign_138 : decode cX13_assign 138 = .ok (.aload_n 0, 1) := by decide +kernel
theorem dX13_assign_139 : decode cX13_assign 139 = .ok (.getfield 39, 3) := by decide +kernel
theorem dX13_assign_142 : decode cX13_assign 142 = .ok (.iload_n 1, 1) := by decide +kernel
theorem dX13_assign_143 : decode cX13_assign 143 = .ok (.invokevirtual 78, 3) := by decide +kernel
theorem dX13_assign_146 : decode cX13_assign 146 = .ok (.iconst (-1), 1) := by decide +kernel
theorem dX13_assign_147 : decode cX13_assign 147 = .ok (.if_icmp .ne 34, 3) := by decide +kernel
theorem dX13_assign_150 : decode cX13_assign 150 = .ok (.aload_n 0, 1) := by decide +kernel
theorem dX13_assign_151 : decode cX13_assign 151 = .ok (.getfield 50, 3) := by decide +kernel
theorem dX13_assign_154 : decode cX13_assign 154 = .ok (.bipush 6, 2) := by decide +kernel
theorem dX13_assign_156 : decode cX13_assign 156 = .ok (.aload_n 0, 1) := by decide +kernel
theorem dX13_assign_157 : decode cX13_assign 157 = .ok (.getfield 15, 3) := by decide +kernel
theorem dX13_assign_160 : decode cX13_assign 160 = .ok (.iload_n 1, 1) := by decide +kernel
theorem dX13_assign_161 : decode cX13_assign 161 = .ok (.iaload, 1) := by decide +kernel
theorem dX13_assign_162 : decode cX13_assign 162 = .ok (.invokevirtual 98, 3) := by decide +kernel
theorem dX13_assign_165 : decode cX13_assign 165 = .ok (.aload_n 0, 1) := by decide +kernel
theorem dX13_assign_166 : decode cX13_assign 166 = .ok (.getfield 50, 3) := by decide +kernel
theorem dX13_assign_169 : decode cX13_assign 169 = .ok (.iconst 2, 1) := by decide +kernel
theorem dX13_assign_170 : decode cX13_assign 170 = .ok (.bipush 6, 2) := by decide +kernel
theorem dX13_assign_172 : decode cX13_assign 172 = .ok (.iload 6, 2) := by decide +kernel
theorem dX13_assign_174 : decode cX13_assign 174 = .ok (.iconst 0, 1) := by decide +kernel
theorem dX13_assign_175 : decode cX13_assign 175 = .ok (.invokevirtual 90, 3) := by decide +kernel
theorem dX13_assign_178 : decode cX13_assign 178 = .ok (.goto 25, 3) := by decide +kernel
theorem dX13_assign_181 : decode cX13_assign 181 = .ok (.aload_n 0, 1) := by decide +kernel
theorem dX13_assign_182 : decode cX13_assign 182 = .ok (.getfield 50, 3) := by decide +kernel
theorem dX13_assign_185 : decode cX13_assign 185 = .ok (.iload 6, 2) := by decide +kernel
theorem dX13_assign_187 : decode cX13_assign 187 = .ok (.bipush 8, 2) := by decide +kernel
theorem dX13_assign_189 : decode cX13_assign 189 = .ok (.aload_n 0, 1) := by decide +kernel
theorem dX13_assign_190 : decode cX13_assign 190 = .ok (.getfield 68, 3) := by decide +kernel
theorem dX13_assign_193 : decode cX13_assign 193 = .ok (.iload_n 1, 1) := by decide +kernel
theorem dX13_assign_194 : decode cX13_assign 194 = .ok (.invokevirtual 218, 3) := by decide +kernel
theorem dX13_assign_197 : decode cX13_assign 197 = .ok (.ineg, 1) := by decide +kernel
theorem dX13_assign_198 : decode cX13_assign 198 = .ok (.bipush 7, 2) := by decide +kernel
theorem dX13_assign_200 : decode cX13_assign 200 = .ok (.invokevirtual 192, 3) := by decide +kernel
theorem dX13_assign_203 : decode cX13_assign 203 = .ok (.iload 7, 2) := by decide +kernel
theorem dX13_assign_205 : decode cX13_assign 205 = .ok (.ireturn, 1) := by decide +kernel
theorem dX13_storeElement_0 : decode cX13_storeElement 0 = .ok (.aload_n 0, 1) := by decide +kernel
theorem dX13_storeElement_1 : decode cX13_storeElement 1 = .ok (.getfield 50, 3) := by decide +kernel
theorem dX13_storeElement_4 : decode cX13_storeElement 4 = .ok (.aload_n 0, 1) := by decide +kernel
theorem dX13_storeElement_5 : decode cX13_storeElement 5 = .ok (.getfield 39, 3) := by decide +kernel
theorem dX13_storeElement_8 : decode cX13_storeElement 8 = .ok (.iload_n 1, 1) := by decide +kernel
theorem dX13_storeElement_9 : decode cX13_storeElement 9 = .ok (.invokevirtual 317, 3) := by decide +kernel
theorem dX13_storeElement_12 : decode cX13_storeElement 12 = .ok (.iconst 1, 1) := by decide +kernel
theorem dX13_storeElement_13 : decode cX13_storeElement 13 = .ok (.if_icmp .ne 7, 3) := by decide +kernel
theorem dX13_storeElement_16 : decode cX13_storeElement 16 = .ok (.iconst 0, 1) := by decide +kernel
theorem dX13_storeElement_17 : decode cX13_storeElement 17 = .ok (.goto 4, 3) := by decide +kernel
theorem dX13_storeElement_20 : decode cX13_storeElement 20 = .ok (.iconst 2, 1) := by decide +kernel
theorem dX13_storeElement_21 : decode cX13_storeElement 21 = .ok (.bipush 7, 2) := by decide +kernel
theorem dX13_storeElement_23 : decode cX13_storeElement 23 = .ok (.iload_n 2, 1) := by decide +kernel
theorem dX13_storeElement_24 : decode cX13_storeElement 24 = .ok (.iconst 0, 1) := by decide +kernel
theorem dX13_storeElement_25 : decode cX13_storeElement 25 = .ok (.invokevirtual 90, 3) := by decide +kernel
theorem dX13_storeElement_28 : decode cX13_storeElement 28 = .ok (.return_, 1) := by decide +kernel
theorem dX13_narrowed_0 : decode cX13_narrowed 0 = .ok (.aload_n 0, 1) := by decide +kernel
theorem dX13_narrowed_1 : decode cX13_narrowed 1 = .ok (.getfield 39, 3) := by decide +kernel
theorem dX13_narrowed_4 : decode cX13_narrowed 4 = .ok (.iload_n 1, 1) := by decide +kernel
theorem dX13_narrowed_5 : decode cX13_narrowed 5 = .ok (.invokevirtual 317, 3) := by decide +kernel
theorem dX13_narrowed_8 : decode cX13_narrowed 8 = .ok (.iconst 1, 1) := by decide +kernel
theorem dX13_narrowed_9 : decode cX13_narrowed 9 = .ok (.if_icmp .ne 24, 3) := by decide +kernel
theorem dX13_narrowed_12 : decode cX13_narrowed 12 = .ok (.aload_n 0, 1) := by decide +kernel
theorem dX13_narrowed_13 : decode cX13_narrowed 13 = .ok (.getfield 50, 3) := by decide +kernel
theorem dX13_narrowed_16 : decode cX13_narrowed 16 = .ok (.bipush 7, 2) := by decide +kernel
theorem dX13_narrowed_18 : decode cX13_narrowed 18 = .ok (.aload_n 0, 1) := by decide +kernel
theorem dX13_narrowed_19 : decode cX13_narrowed 19 = .ok (.iload_n 3, 1) := by decide +kernel
theorem dX13_narrowed_20 : decode cX13_narrowed 20 = .ok (.invokevirtual 246, 3) := by decide +kernel
theorem dX13_narrowed_23 : decode cX13_narrowed 23 = .ok (.iload_n 2, 1) := by decide +kernel
theorem dX13_narrowed_24 : decode cX13_narrowed 24 = .ok (.sipush 255, 3) := by decide +kernel
theorem dX13_narrowed_27 : decode cX13_narrowed 27 = .ok (.invokevirtual 179, 3) := by decide +kernel
theorem dX13_narrowed_30 : decode cX13_narrowed 30 = .ok (.goto 16, 3) := by decide +kernel
theorem dX13_narrowed_33 : decode cX13_narrowed 33 = .ok (.aload_n 0, 1) := by decide +kernel
theorem dX13_narrowed_34 : decode cX13_narrowed 34 = .ok (.getfield 50, 3) := by decide +kernel
theorem dX13_narrowed_37 : decode cX13_narrowed 37 = .ok (.aload_n 0, 1) := by decide +kernel
theorem dX13_narrowed_38 : decode cX13_narrowed 38 = .ok (.iload_n 3, 1) := by decide +kernel
theorem dX13_narrowed_39 : decode cX13_narrowed 39 = .ok (.invokevirtual 246, 3) := by decide +kernel
theorem dX13_narrowed_42 : decode cX13_narrowed 42 = .ok (.iload_n 2, 1) := by decide +kernel
theorem dX13_narrowed_43 : decode cX13_narrowed 43 = .ok (.invokevirtual 167, 3) := by decide +kernel
theorem dX13_narrowed_46 : decode cX13_narrowed 46 = .ok (.aload_n 0, 1) := by decide +kernel
theorem dX13_narrowed_47 : decode cX13_narrowed 47 = .ok (.iload_n 3, 1) := by decide +kernel
theorem dX13_narrowed_48 : decode cX13_narrowed 48 = .ok (.invokevirtual 252, 3) := by decide +kernel
theorem dX13_narrowed_51 : decode cX13_narrowed 51 = .ok (.ireturn, 1) := by decide +kernel
theorem dX13_count_0 : decode cX13_count 0 = .ok (.aload_n 0, 1) := by decide +kernel
theorem dX13_count_1 : decode cX13_count 1 = .ok (.getfield 25, 3) := by decide +kernel
theorem dX13_count_4 : decode cX13_count 4 = .ok (.iload_n 1, 1) := by decide +kernel
theorem dX13_count_5 : decode cX13_count 5 = .ok (.invokevirtual 123, 3) := by decide +kernel
theorem dX13_count_8 : decode cX13_count 8 = .ok (.sipush 136, 3) := by decide +kernel
theorem dX13_count_11 : decode cX13_count 11 = .ok (.if_icmp .ne 7, 3) := by decide +kernel
theorem dX13_count_14 : decode cX13_count 14 = .ok (.iconst 1, 1) := by decide +kernel
theorem dX13_count_15 : decode cX13_count 15 = .ok (.goto 4, 3) := by decide +kernel
theorem dX13_count_18 : decode cX13_count 18 = .ok (.iconst (-1), 1) := by decide +kernel
theorem dX13_count_19 : decode cX13_count 19 = .ok (.istore 4, 2) := by decide +kernel
theorem dX13_count_21 : decode cX13_count 21 = .ok (.aload_n 0, 1) := by decide +kernel
theorem dX13_count_22 : decode cX13_count 22 = .ok (.getfield 25, 3) := by decide +kernel
theorem dX13_count_25 : decode cX13_count 25 = .ok (.iload_n 1, 1) := by decide +kernel
theorem dX13_count_26 : decode cX13_count 26 = .ok (.invokevirtual 158, 3) := by decide +kernel
theorem dX13_count_29 : decode cX13_count 29 = .ok (.bipush 36, 2) := by decide +kernel
theorem dX13_count_31 : decode cX13_count 31 = .ok (.if_icmp .ne 7, 3) := by decide +kernel
theorem dX13_count_34 : decode cX13_count 34 = .ok (.iconst 1, 1) := by decide +kernel
theorem dX13_count_35 : decode cX13_count 35 = .ok (.goto 4, 3) := by decide +kernel
theorem dX13_count_38 : decode cX13_count 38 = .ok (.iconst 0, 1) := by decide +kernel
theorem dX13_count_39 : decode cX13_count 39 = .ok (.istore 5, 2) := by decide +kernel
theorem dX13_count_41 : decode cX13_count 41 = .ok (.aload_n 0, 1) := by decide +kernel
theorem dX13_count_42 : decode cX13_count 42 = .ok (.getfield 25, 3) := by decide +kernel
theorem dX13_count_45 : decode cX13_count 45 = .ok (.iload_n 2, 1) := by decide +kernel
theorem dX13_count_46 : decode cX13_count 46 = .ok (.invokevirtual 207, 3) := by decide +kernel
theorem dX13_count_49 : decode cX13_count 49 = .ok (.istore 6, 2) := by decide +kernel
theorem dX13_count_51 : decode cX13_count 51 = .ok (.aload_n 0, 1) := by decide +kernel
theorem dX13_count_52 : decode cX13_count 52 = .ok (.getfield 25, 3) := by decide +kernel
theorem dX13_count_55 : decode cX13_count 55 = .ok (.iload_n 2, 1) := by decide +kernel
theorem dX13_count_56 : decode cX13_count 56 = .ok (.invokevirtual 158, 3) := by decide +kernel
theorem dX13_count_59 : decode cX13_count 59 = .ok (.bipush 38, 2) := by decide +kernel
theorem dX13_count_61 : decode cX13_count 61 = .ok (.if_icmp .ne 89, 3) := by decide +kernel
theorem dX13_count_64 : decode cX13_count 64 = .ok (.iload 5, 2) := by decide +kernel
theorem dX13_count_66 : decode cX13_count 66 = .ok (.ifCond .eq 48, 3) := by decide +kernel
theorem dX13_count_69 : decode cX13_count 69 = .ok (.aload_n 0, 1) := by decide +kernel
theorem dX13_count_70 : decode cX13_count 70 = .ok (.iload 6, 2) := by decide +kernel
theorem dX13_count_72 : decode cX13_count 72 = .ok (.aload_n 0, 1) := by decide +kernel
theorem dX13_count_73 : decode cX13_count 73 = .ok (.iload_n 3, 1) := by decide +kernel
theorem dX13_count_74 : decode cX13_count 74 = .ok (.invokevirtual 246, 3) := by decide +kernel
theorem dX13_count_77 : decode cX13_count 77 = .ok (.invokevirtual 371, 3) := by decide +kernel
theorem dX13_count_80 : decode cX13_count 80 = .ok (.aload_n 0, 1) := by decide +kernel
theorem dX13_count_81 : decode cX13_count 81 = .ok (.iload_n 3, 1) := by decide +kernel
theorem dX13_count_82 : decode cX13_count 82 = .ok (.invokevirtual 252, 3) := by decide +kernel
theorem dX13_count_85 : decode cX13_count 85 = .ok (.istore 7, 2) := by decide +kernel
theorem dX13_count_87 : decode cX13_count 87 = .ok (.aload_n 0, 1) := by decide +kernel
theorem dX13_count_88 : decode cX13_count 88 = .ok (.getfield 50, 3) := by decide +kernel
theorem dX13_count_91 : decode cX13_count 91 = .ok (.iconst 0, 1) := by decide +kernel
theorem dX13_count_92 : decode cX13_count 92 = .ok (.iconst 5, 1) := by decide +kernel
theorem dX13_count_93 : decode cX13_count 93 = .ok (.aload_n 0, 1) := by decide +kernel
theorem dX13_count_94 : decode cX13_count 94 = .ok (.iload 7, 2) := by decide +kernel
theorem dX13_count_96 : decode cX13_count 96 = .ok (.iconst 5, 1) := by decide +kernel
theorem dX13_count_97 : decode cX13_count 97 = .ok (.invokevirtual 249, 3) := by decide +kernel
theorem dX13_count_100 : decode cX13_count 100 = .ok (.iload 4, 2) := by decide +kernel
theorem dX13_count_102 : decode cX13_count 102 = .ok (.invokevirtual 179, 3) := by decide +kernel
theorem dX13_count_105 : decode cX13_count 105 = .ok (.aload_n 0, 1) := by decide +kernel
theorem dX13_count_106 : decode cX13_count 106 = .ok (.iload 6, 2) := by decide +kernel
theorem dX13_count_108 : decode cX13_count 108 = .ok (.invokevirtual 407, 3) := by decide +kernel
theorem dX13_count_111 : decode cX13_count 111 = .ok (.iload 7, 2) := by decide +kernel
theorem dX13_count_113 : decode cX13_count 113 = .ok (.ireturn, 1) := by decide +kernel
theorem dX13_count_114 : decode cX13_count 114 = .ok (.aload_n 0, 1) := by decide +kernel
theorem dX13_count_115 : decode cX13_count 115 = .ok (.iload 6, 2) := by decide +kernel
theorem dX13_count_117 : decode cX13_count 117 = .ok (.iconst 5, 1) := by decide +kernel
theorem dX13_count_118 : decode cX13_count 118 = .ok (.invokevirtual 371, 3) := by decide +kernel
theorem dX13_count_121 : decode cX13_count 121 = .ok (.aload_n 0, 1) := by decide +kernel
theorem dX13_count_122 : decode cX13_count 122 = .ok (.getfield 50, 3) := by decide +kernel
theorem dX13_count_125 : decode cX13_count 125 = .ok (.iconst 0, 1) := by decide +kernel
theorem dX13_count_126 : decode cX13_count 126 = .ok (.aload_n 0, 1) := by decide +kernel
theorem dX13_count_127 : decode cX13_count 127 = .ok (.iload_n 3, 1) := by decide +kernel
theorem dX13_count_128 : decode cX13_count 128 = .ok (.invokevirtual 246, 3) := by decide +kernel
theorem dX13_count_131 : decode cX13_count 131 = .ok (.iconst 5, 1) := by decide +kernel
theorem dX13_count_132 : decode cX13_count 132 = .ok (.iload 4, 2) := by decide +kernel
theorem dX13_count_134 : decode cX13_count 134 = .ok (.invokevirtual 179, 3) := by decide +kernel
theorem dX13_count_137 : decode cX13_count 137 = .ok (.aload_n 0, 1) := by decide +kernel
theorem dX13_count_138 : decode cX13_count 138 = .ok (.iload 6, 2) := by decide +kernel
theorem dX13_count_140 : decode cX13_count 140 = .ok (.aload_n 0, 1) := by decide +kernel
theorem dX13_count_141 : decode cX13_count 141 = .ok (.iload_n 3, 1) := by decide +kernel
theorem dX13_count_142 : decode cX13_count 142 = .ok (.invokevirtual 252, 3) := by decide +kernel
theorem dX13_count_145 : decode cX13_count 145 = .ok (.iload_n 3, 1) := by decide +kernel
theorem dX13_count_146 : decode cX13_count 146 = .ok (.invokevirtual 296, 3) := by decide +kernel
theorem dX13_count_149 : decode cX13_count 149 = .ok (.ireturn, 1) := by decide +kernel
theorem dX13_count_150 : decode cX13_count 150 = .ok (.aload_n 0, 1) := by decide +kernel
theorem dX13_count_151 : decode cX13_count 151 = .ok (.iload 6, 2) := by decide +kernel
theorem dX13_count_153 : decode cX13_count 153 = .ok (.aload_n 0, 1) := by decide +kernel
theorem dX13_count_154 : decode cX13_count 154 = .ok (.aload_n 0, 1) := by decide +kernel
theorem dX13_count_155 : decode cX13_count 155 = .ok (.getfield 25, 3) := by decide +kernel
theorem dX13_count_158 : decode cX13_count 158 = .ok (.iload_n 2, 1) := by decide +kernel
theorem dX13_count_159 : decode cX13_count 159 = .ok (.invokevirtual 155, 3) := by decide +kernel
theorem dX13_count_162 : decode cX13_count 162 = .ok (.iload_n 3, 1) := by decide +kernel
theorem dX13_count_163 : decode cX13_count 163 = .ok (.invokevirtual 261, 3) := by decide +kernel
theorem dX13_count_166 : decode cX13_count 166 = .ok (.invokevirtual 347, 3) := by decide +kernel
theorem dX13_count_169 : decode cX13_count 169 = .ok (.aload_n 0, 1) := by decide +kernel
theorem dX13_count_170 : decode cX13_count 170 = .ok (.iload 6, 2) := by decide +kernel
theorem dX13_count_172 : decode cX13_count 172 = .ok (.iconst 5, 1) := by decide +kernel
theorem dX13_count_173 : decode cX13_count 173 = .ok (.invokevirtual 350, 3) := by decide +kernel
theorem dX13_count_176 : decode cX13_count 176 = .ok (.iload 5, 2) := by decide +kernel
theorem dX13_count_178 : decode cX13_count 178 = .ok (.ifCond .eq 13, 3) := by decide +kernel
theorem dX13_count_181 : decode cX13_count 181 = .ok (.aload_n 0, 1) := by decide +kernel
theorem dX13_count_182 : decode cX13_count 182 = .ok (.getfield 50, 3) := by decide +kernel
theorem dX13_count_185 : decode cX13_count 185 = .ok (.bipush 6, 2) := by decide +kernel
theorem dX13_count_187 : decode cX13_count 187 = .ok (.iconst 5, 1) := by decide +kernel
theorem dX13_count_188 : decode cX13_count 188 = .ok (.invokevirtual 167, 3) := by decide +kernel
theorem dX13_count_191 : decode cX13_count 191 = .ok (.aload_n 0, 1) := by decide +kernel
theorem dX13_count_192 : decode cX13_count 192 = .ok (.getfield 50, 3) := by decide +kernel
theorem dX13_count_195 : decode cX13_count 195 = .ok (.iconst 0, 1) := by decide +kernel
theorem dX13_count_196 : decode cX13_count 196 = .ok (.iconst 5, 1) := by decide +kernel
theorem dX13_count_197 : decode cX13_count 197 = .ok (.iconst 5, 1) := by decide +kernel
theorem dX13_count_198 : decode cX13_count 198 = .ok (.iload 4, 2) := by decide +kernel
theorem dX13_count_200 : decode cX13_count 200 = .ok (.invokevirtual 179, 3) := by decide +kernel
theorem dX13_count_203 : decode cX13_count 203 = .ok (.aload_n 0, 1) := by decide +kernel
theorem dX13_count_204 : decode cX13_count 204 = .ok (.iload 6, 2) := by decide +kernel
theorem dX13_count_206 : decode cX13_count 206 = .ok (.iconst 5, 1) := by decide +kernel
theorem dX13_count_207 : decode cX13_count 207 = .ok (.invokevirtual 401, 3) := by decide +kernel
theorem dX13_count_210 : decode cX13_count 210 = .ok (.iload 5, 2) := by decide +kernel
theorem dX13_count_212 : decode cX13_count 212 = .ok (.ifCond .eq 15, 3) := by decide +kernel
theorem dX13_count_215 : decode cX13_count 215 = .ok (.aload_n 0, 1) := by decide +kernel
theorem dX13_count_216 : decode cX13_count 216 = .ok (.iload 6, 2) := by decide +kernel
theorem dX13_count_218 : decode cX13_count 218 = .ok (.bipush 6, 2) := by decide +kernel
theorem dX13_count_220 : decode cX13_count 220 = .ok (.iload_n 3, 1) := by decide +kernel
theorem dX13_count_221 : decode cX13_count 221 = .ok (.invokevirtual 404, 3) := by decide +kernel
theorem dX13_count_224 : decode cX13_count 224 = .ok (.goto 11, 3) := by decide +kernel
theorem dX13_count_227 : decode cX13_count 227 = .ok (.aload_n 0, 1) := by decide +kernel
theorem dX13_count_228 : decode cX13_count 228 = .ok (.iload 6, 2) := by decide +kernel
theorem dX13_count_230 : decode cX13_count 230 = .ok (.iconst 5, 1) := by decide +kernel
theorem dX13_count_231 : decode cX13_count 231 = .ok (.iload_n 3, 1) := by decide +kernel
theorem dX13_count_232 : decode cX13_count 232 = .ok (.invokevirtual 404, 3) := by decide +kernel
theorem dX13_count_235 : decode cX13_count 235 = .ok (.ireturn, 1) := by decide +kernel
theorem dX13_assignFromT0_0 : decode cX13_assignFromT0 0 = .ok (.aload_n 0, 1) := by decide +kernel
theorem dX13_assignFromT0_1 : decode cX13_assignFromT0 1 = .ok (.getfield 39, 3) := by decide +kernel
theorem dX13_assignFromT0_4 : decode cX13_assignFromT0 4 = .ok (.iload_n 1, 1) := by decide +kernel
theorem dX13_assignFromT0_5 : decode cX13_assignFromT0 5 = .ok (.invokevirtual 317, 3) := by decide +kernel
theorem dX13_assignFromT0_8 : decode cX13_assignFromT0 8 = .ok (.iconst 1, 1) := by decide +kernel
theorem dX13_assignFromT0_9 : decode cX13_assignFromT0 9 = .ok (.if_icmp .ne 17, 3) := by decide +kernel
theorem dX13_assignFromT0_12 : decode cX13_assignFromT0 12 = .ok (.aload_n 0, 1) := by decide +kernel
theorem dX13_assignFromT0_13 : decode cX13_assignFromT0 13 = .ok (.getfield 50, 3) := by decide +kernel
theorem dX13_assignFromT0_16 : decode cX13_assignFromT0 16 = .ok (.bipush 7, 2) := by decide +kernel
theorem dX13_assignFromT0_18 : decode cX13_assignFromT0 18 = .ok (.iconst 5, 1) := by decide +kernel
theorem dX13_assignFromT0_19 : decode cX13_assignFromT0 19 = .ok (.iconst 5, 1) := by decide +kernel
theorem dX13_assignFromT0_20 : decode cX13_assignFromT0 20 = .ok (.sipush 255, 3) := by decide +kernel
theorem dX13_assignFromT0_23 : decode cX13_assignFromT0 23 = .ok (.invokevirtual 179, 3) := by decide +kernel
theorem dX13_assignFromT0_26 : decode cX13_assignFromT0 26 = .ok (.aload_n 0, 1) := by decide +kernel
theorem dX13_assignFromT0_27 : decode cX13_assignFromT0 27 = .ok (.getfield 39, 3) := by decide +kernel
theorem dX13_assignFromT0_30 : decode cX13_assignFromT0 30 = .ok (.iload_n 1, 1) := by decide +kernel
theorem dX13_assignFromT0_31 : decode cX13_assignFromT0 31 = .ok (.invokevirtual 78, 3) := by decide +kernel
theorem dX13_assignFromT0_34 : decode cX13_assignFromT0 34 = .ok (.iconst (-1), 1) := by decide +kernel
theorem dX13_assignFromT0_35 : decode cX13_assignFromT0 35 = .ok (.if_icmp .ne 33, 3) := by decide +kernel
theorem dX13_assignFromT0_38 : decode cX13_assignFromT0 38 = .ok (.aload_n 0, 1) := by decide +kernel
theorem dX13_assignFromT0_39 : decode cX13_assignFromT0 39 = .ok (.getfield 50, 3) := by decide +kernel
theorem dX13_assignFromT0_42 : decode cX13_assignFromT0 42 = .ok (.bipush 6, 2) := by decide +kernel
theorem dX13_assignFromT0_44 : decode cX13_assignFromT0 44 = .ok (.aload_n 0, 1) := by decide +kernel
theorem dX13_assignFromT0_45 : decode cX13_assignFromT0 45 = .ok (.getfield 15, 3) := by decide +kernel
theorem dX13_assignFromT0_48 : decode cX13_assignFromT0 48 = .ok (.iload_n 1, 1) := by decide +kernel
theorem dX13_assignFromT0_49 : decode cX13_assignFromT0 49 = .ok (.iaload, 1) := by decide +kernel
theorem dX13_assignFromT0_50 : decode cX13_assignFromT0 50 = .ok (.invokevirtual 98, 3) := by decide +kernel
theorem dX13_assignFromT0_53 : decode cX13_assignFromT0 53 = .ok (.aload_n 0, 1) := by decide +kernel
theorem dX13_assignFromT0_54 : decode cX13_assignFromT0 54 = .ok (.getfield 50, 3) := by decide +kernel
theorem dX13_assignFromT0_57 : decode cX13_assignFromT0 57 = .ok (.iconst 2, 1) := by decide +kernel
theorem dX13_assignFromT0_58 : decode cX13_assignFromT0 58 = .ok (.bipush 6, 2) := by decide +kernel
theorem dX13_assignFromT0_60 : decode cX13_assignFromT0 60 = .ok (.iconst 5, 1) := by decide +kernel
theorem dX13_assignFromT0_61 : decode cX13_assignFromT0 61 = .ok (.iconst 0, 1) := by decide +kernel
theorem dX13_assignFromT0_62 : decode cX13_assignFromT0 62 = .ok (.invokevirtual 90, 3) := by decide +kernel
theorem dX13_assignFromT0_65 : decode cX13_assignFromT0 65 = .ok (.goto 55, 3) := by decide +kernel
theorem dX13_assignFromT0_68 : decode cX13_assignFromT0 68 = .ok (.aload_n 0, 1) := by decide +kernel
theorem dX13_assignFromT0_69 : decode cX13_assignFromT0 69 = .ok (.getfield 68, 3) := by decide +kernel
theorem dX13_assignFromT0_72 : decode cX13_assignFromT0 72 = .ok (.iload_n 1, 1) := by decide +kernel
theorem dX13_assignFromT0_73 : decode cX13_assignFromT0 73 = .ok (.invokevirtual 210, 3) := by decide +kernel
theorem dX13_assignFromT0_76 : decode cX13_assignFromT0 76 = .ok (.iconst (-1), 1) := by decide +kernel
theorem dX13_assignFromT0_77 : decode cX13_assignFromT0 77 = .ok (.if_icmp .eq 22, 3) := by decide +kernel
theorem dX13_assignFromT0_80 : decode cX13_assignFromT0 80 = .ok (.aload_n 0, 1) := by decide +kernel
theorem dX13_assignFromT0_81 : decode cX13_assignFromT0 81 = .ok (.getfield 50, 3) := by decide +kernel
theorem dX13_assignFromT0_84 : decode cX13_assignFromT0 84 = .ok (.aload_n 0, 1) := by decide +kernel
theorem dX13_assignFromT0_85 : decode cX13_assignFromT0 85 = .ok (.getfield 68, 3) := by decide +kernel
theorem dX13_assignFromT0_88 : decode cX13_assignFromT0 88 = .ok (.iload_n 1, 1) := by decide +kernel
theorem dX13_assignFromT0_89 : decode cX13_assignFromT0 89 = .ok (.invokevirtual 210, 3) := by decide +kernel
theorem dX13_assignFromT0_92 : decode cX13_assignFromT0 92 = .ok (.iconst 5, 1) := by decide +kernel
theorem dX13_assignFromT0_93 : decode cX13_assignFromT0 93 = .ok (.invokevirtual 167, 3) := by decide +kernel
theorem dX13_assignFromT0_96 : decode cX13_assignFromT0 96 = .ok (.goto 24, 3) := by decide +kernel
theorem dX13_assignFromT0_99 : decode cX13_assignFromT0 99 = .ok (.aload_n 0, 1) := by decide +kernel
theorem dX13_assignFromT0_100 : decode cX13_assignFromT0 100 = .ok (.getfield 50, 3) := by decide +kernel
theorem dX13_assignFromT0_103 : decode cX13_assignFromT0 103 = .ok (.iconst 5, 1) := by decide +kernel
theorem dX13_assignFromT0_104 : decode cX13_assignFromT0 104 = .ok (.bipush 8, 2) := by decide +kernel
theorem dX13_assignFromT0_106 : decode cX13_assignFromT0 106 = .ok (.aload_n 0, 1) := by decide +kernel
theorem dX13_assignFromT0_107 : decode cX13_assignFromT0 107 = .ok (.getfield 68, 3) := by decide +kernel
theorem dX13_assignFromT0_110 : decode cX13_assignFromT0 110 = .ok (.iload_n 1, 1) := by decide +kernel
theorem dX13_assignFromT0_111 : decode cX13_assignFromT0 111 = .ok (.invokevirtual 218, 3) := by decide +kernel
theorem dX13_assignFromT0_114 : decode cX13_assignFromT0 114 = .ok (.ineg, 1) := by decide +kernel
theorem dX13_assignFromT0_115 : decode cX13_assignFromT0 115 = .ok (.bipush 7, 2) := by decide +kernel
theorem dX13_assignFromT0_117 : decode cX13_assignFromT0 117 = .ok (.invokevirtual 192, 3) := by decide +kernel
theorem dX13_assignFromT0_120 : decode cX13_assignFromT0 120 = .ok (.return_, 1) := by decide +kernel
theorem dX13_unary_0 : decode cX13_unary 0 = .ok (.iload_n 1, 1) := by decide +kernel
theorem dX13_unary_1 : decode cX13_unary 1 = .ok (.bipush 43, 2) := by decide +kernel
theorem dX13_unary_3 : decode cX13_unary 3 = .ok (.if_icmp .ne 10, 3) := by decide +kernel
theorem dX13_unary_6 : decode cX13_unary 6 = .ok (.aload_n 0, 1) := by decide +kernel
theorem dX13_unary_7 : decode cX13_unary 7 = .ok (.iload_n 2, 1) := by decide +kernel
theorem dX13_unary_8 : decode cX13_unary 8 = .ok (.iload_n 3, 1) := by decide +kernel
theorem dX13_unary_9 : decode cX13_unary 9 = .ok (.invokevirtual 261, 3) := by decide +kernel
theorem dX13_unary_12 : decode cX13_unary 12 = .ok (.ireturn, 1) := by decide +kernel
theorem dX13_unary_13 : decode cX13_unary 13 = .ok (.aload_n 0, 1) := by decide +kernel
theorem dX13_unary_14 : decode cX13_unary 14 = .ok (.aload_n 0, 1) := by decide +kernel
theorem dX13_unary_15 : decode cX13_unary 15 = .ok (.iload_n 2, 1) := by decide +kernel
theorem dX13_unary_16 : decode cX13_unary 16 = .ok (.iload_n 3, 1) := by decide +kernel
theorem dX13_unary_17 : decode cX13_unary 17 = .ok (.invokevirtual 261, 3) := by decide +kernel
theorem dX13_unary_20 : decode cX13_unary 20 = .ok (.iconst 5, 1) := by decide +kernel
theorem dX13_unary_21 : decode cX13_unary 21 = .ok (.invokevirtual 249, 3) := by decide +kernel
theorem dX13_unary_24 : decode cX13_unary 24 = .ok (.istore 4, 2) := by decide +kernel
theorem dX13_unary_26 : decode cX13_unary 26 = .ok (.aload_n 0, 1) := by decide +kernel
theorem dX13_unary_27 : decode cX13_unary 27 = .ok (.iload_n 3, 1) := by decide +kernel
theorem dX13_unary_28 : decode cX13_unary 28 = .ok (.invokevirtual 246, 3) := by decide +kernel
theorem dX13_unary_31 : decode cX13_unary 31 = .ok (.istore 5, 2) := by decide +kernel
theorem dX13_unary_33 : decode cX13_unary 33 = .ok (.iload_n 1, 1) := by decide +kernel
theorem dX13_unary_34 : decode cX13_unary 34 = .ok (.bipush 45, 2) := by decide +kernel
theorem dX13_unary_36 : decode cX13_unary 36 = .ok (.if_icmp .ne 21, 3) := by decide +kernel
theorem dX13_unary_39 : decode cX13_unary 39 = .ok (.aload_n 0, 1) := by decide +kernel
theorem dX13_unary_40 : decode cX13_unary 40 = .ok (.getfield 50, 3) := by decide +kernel
theorem dX13_unary_43 : decode cX13_unary 43 = .ok (.iconst 0, 1) := by decide +kernel
theorem dX13_unary_44 : decode cX13_unary 44 = .ok (.bipush 32, 2) := by decide +kernel
theorem dX13_unary_46 : decode cX13_unary 46 = .ok (.iload 5, 2) := by decide +kernel
theorem dX13_unary_48 : decode cX13_unary 48 = .ok (.iconst 0, 1) := by decide +kernel
theorem dX13_unary_49 : decode cX13_unary 49 = .ok (.iload 4, 2) := by decide +kernel
theorem dX13_unary_51 : decode cX13_unary 51 = .ok (.invokevirtual 185, 3) := by decide +kernel
theorem dX13_unary_54 : decode cX13_unary 54 = .ok (.goto 38, 3) := by decide +kernel
theorem dX13_unary_57 : decode cX13_unary 57 = .ok (.iload_n 1, 1) := by decide +kernel
theorem dX13_unary_58 : decode cX13_unary 58 = .ok (.bipush 126, 2) := by decide +kernel
theorem dX13_unary_60 : decode cX13_unary 60 = .ok (.if_icmp .ne 19, 3) := by decide +kernel
theorem dX13_unary_63 : decode cX13_unary 63 = .ok (.aload_n 0, 1) := by decide +kernel
theorem dX13_unary_64 : decode cX13_unary 64 = .ok (.getfield 50, 3) := by decide +kernel
theorem dX13_unary_67 : decode cX13_unary 67 = .ok (.iconst 4, 1) := by decide +kernel
theorem dX13_unary_68 : decode cX13_unary 68 = .ok (.iload 5, 2) := by decide +kernel
theorem dX13_unary_70 : decode cX13_unary 70 = .ok (.iload 4, 2) := by decide +kernel
theorem dX13_unary_72 : decode cX13_unary 72 = .ok (.iconst (-1), 1) := by decide +kernel
theorem dX13_unary_73 : decode cX13_unary 73 = .ok (.invokevirtual 179, 3) := by decide +kernel
theorem dX13_unary_76 : decode cX13_unary 76 = .ok (.goto 16, 3) := by decide +kernel
theorem dX13_unary_79 : decode cX13_unary 79 = .ok (.aload_n 0, 1) := by decide +kernel
theorem dX13_unary_80 : decode cX13_unary 80 = .ok (.getfield 50, 3) := by decide +kernel
theorem dX13_unary_83 : decode cX13_unary 83 = .ok (.iconst 3, 1) := by decide +kernel
theorem dX13_unary_84 : decode cX13_unary 84 = .ok (.iload 5, 2) := by decide +kernel
theorem dX13_unary_86 : decode cX13_unary 86 = .ok (.iload 4, 2) := by decide +kernel
theorem dX13_unary_88 : decode cX13_unary 88 = .ok (.iconst 1, 1) := by decide +kernel
theorem dX13_unary_89 : decode cX13_unary 89 = .ok (.invokevirtual 179, 3) := by decide +kernel
theorem dX13_unary_92 : decode cX13_unary 92 = .ok (.aload_n 0, 1) := by decide +kernel
theorem dX13_unary_93 : decode cX13_unary 93 = .ok (.iload_n 3, 1) := by decide +kernel
theorem dX13_unary_94 : decode cX13_unary 94 = .ok (.invokevirtual 252, 3) := by decide +kernel
theorem dX13_unary_97 : decode cX13_unary 97 = .ok (.ireturn, 1) := by decide +kernel
theorem dX13_choice_0 : decode cX13_choice 0 = .ok (.aload_n 0, 1) := by decide +kernel
theorem dX13_choice_1 : decode cX13_choice 1 = .ok (.getfield 50, 3) := by decide +kernel
theorem dX13_choice_4 : decode cX13_choice 4 = .ok (.invokevirtual 85, 3) := by decide +kernel
theorem dX13_choice_7 : decode cX13_choice 7 = .ok (.istore_n 3, 1) := by decide +kernel
theorem dX13_choice_8 : decode cX13_choice 8 = .ok (.aload_n 0, 1) := by decide +kernel
theorem dX13_choice_9 : decode cX13_choice 9 = .ok (.getfield 50, 3) := by decide +kernel
theorem dX13_choice_12 : decode cX13_choice 12 = .ok (.invokevirtual 85, 3) := by decide +kernel
theorem dX13_choice_15 : decode cX13_choice 15 = .ok (.istore 4, 2) := by decide +kernel
theorem dX13_choice_17 : decode cX13_choice 17 = .ok (.aload_n 0, 1) := by decide +kernel
theorem dX13_choice_18 : decode cX13_choice 18 = .ok (.getfield 25, 3) := by decide +kernel
theorem dX13_choice_21 : decode cX13_choice 21 = .ok (.iload_n 1, 1) := by decide +kernel
theorem dX13_choice_22 : decode cX13_choice 22 = .ok (.invokevirtual 161, 3) := by decide +kernel
theorem dX13_choice_25 : decode cX13_choice 25 = .ok (.istore 5, 2) := by decide +kernel
theorem dX13_choice_27 : decode cX13_choice 27 = .ok (.aload_n 0, 1) := by decide +kernel
theorem dX13_choice_28 : decode cX13_choice 28 = .ok (.iload_n 1, 1) := by decide +kernel
theorem dX13_choice_29 : decode cX13_choice 29 = .ok (.iload_n 3, 1) := by decide +kernel
theorem dX13_choice_30 : decode cX13_choice 30 = .ok (.iconst 0, 1) := by decide +kernel
theorem dX13_choice_31 : decode cX13_choice 31 = .ok (.iload_n 2, 1) := by decide +kernel
theorem dX13_choice_32 : decode cX13_choice 32 = .ok (.invokevirtual 282, 3) := by decide +kernel
theorem dX13_choice_35 : decode cX13_choice 35 = .ok (.aload_n 0, 1) := by decide +kernel
theorem dX13_choice_36 : decode cX13_choice 36 = .ok (.aload_n 0, 1) := by decide +kernel
theorem dX13_choice_37 : decode cX13_choice 37 = .ok (.iload 5, 2) := by decide +kernel
theorem dX13_choice_39 : decode cX13_choice 39 = .ok (.iload_n 2, 1) := by decide +kernel
theorem dX13_choice_40 : decode cX13_choice 40 = .ok (.invokevirtual 261, 3) := by decide +kernel
theorem dX13_choice_43 : decode cX13_choice 43 = .ok (.iload_n 2, 1) := by decide +kernel
theorem dX13_choice_44 : decode cX13_choice 44 = .ok (.invokevirtual 285, 3) := by decide +kernel
theorem dX13_choice_47 : decode cX13_choice 47 = .ok (.istore 6, 2) := by decide +kernel
theorem dX13_choice_49 : decode cX13_choice 49 = .ok (.aload_n 0, 1) := by decide +kernel
theorem dX13_choice_50 : decode cX13_choice 50 = .ok (.getfield 50, 3) := by decide +kernel
theorem dX13_choice_53 : decode cX13_choice 53 = .ok (.iconst 0, 1) := by decide +kernel
theorem dX13_choice_54 : decode cX13_choice 54 = .ok (.iload 4, 2) := by decide +kernel
theorem dX13_choice_56 : decode cX13_choice 56 = .ok (.invokevirtual 94, 3) := by decide +kernel
theorem dX13_choice_59 : decode cX13_choice 59 = .ok (.aload_n 0, 1) := by decide +kernel
theorem dX13_choice_60 : decode cX13_choice 60 = .ok (.getfield 50, 3) := by decide +kernel
theorem dX13_choice_63 : decode cX13_choice 63 = .ok (.iload_n 3, 1) := by decide +kernel
theorem dX13_choice_64 : decode cX13_choice 64 = .ok (.invokevirtual 104, 3) := by decide +kernel
theorem dX13_choice_67 : decode cX13_choice 67 = .ok (.aload_n 0, 1) := by decide +kernel
theorem dX13_choice_68 : decode cX13_choice 68 = .ok (.aload_n 0, 1) := by decide +kernel
theorem dX13_choice_69 : decode cX13_choice 69 = .ok (.aload_n 0, 1) := by decide +kernel
theorem dX13_choice_70 : decode cX13_choice 70 = .ok (.getfield 25, 3) := by decide +kernel
theorem dX13_choice_73 : decode cX13_choice 73 = .ok (.iload 5, 2) := by decide +kernel
theorem dX13_choice_75 : decode cX13_choice 75 = .ok (.invokevirtual 161, 3) := by decide +kernel
theorem dX13_choice_78 : decode cX13_choice 78 = .ok (.iload_n 2, 1) := by decide +kernel
theorem dX13_choice_79 : decode cX13_choice 79 = .ok (.invokevirtual 261, 3) := by decide +kernel
theorem dX13_choice_82 : decode cX13_choice 82 = .ok (.iload_n 2, 1) := by decide +kernel
theorem dX13_choice_83 : decode cX13_choice 83 = .ok (.invokevirtual 285, 3) := by decide +kernel
theorem dX13_choice_86 : decode cX13_choice 86 = .ok (.istore 7, 2) := by decide +kernel
theorem dX13_choice_88 : decode cX13_choice 88 = .ok (.aload_n 0, 1) := by decide +kernel
theorem dX13_choice_89 : decode cX13_choice 89 = .ok (.getfield 50, 3) := by decide +kernel
theorem dX13_choice_92 : decode cX13_choice 92 = .ok (.iload 4, 2) := by decide +kernel
theorem dX13_choice_94 : decode cX13_choice 94 = .ok (.invokevirtual 104, 3) := by decide +kernel
theorem dX13_choice_97 : decode cX13_choice 97 = .ok (.iload 7, 2) := by decide +kernel
theorem dX13_choice_99 : decode cX13_choice 99 = .ok (.ireturn, 1) := by decide +kernel
theorem dX13_branch_0 : decode cX13_branch 0 = .ok (.aload_n 0, 1) := by decide +kernel
theorem dX13_branch_1 : decode cX13_branch 1 = .ok (.getfield 59, 3) := by decide +kernel
theorem dX13_branch_4 : decode cX13_branch 4 = .ok (.iload_n 1, 1) := by decide +kernel
theorem dX13_branch_5 : decode cX13_branch 5 = .ok (.invokevirtual 338, 3) := by decide +kernel
theorem dX13_branch_8 : decode cX13_branch 8 = .ok (.ifCond .eq 32, 3) := by decide +kernel
theorem dX13_branch_11 : decode cX13_branch 11 = .ok (.aload_n 0, 1) := by decide +kernel
theorem dX13_branch_12 : decode cX13_branch 12 = .ok (.getfield 59, 3) := by decide +kernel
theorem dX13_branch_15 : decode cX13_branch 15 = .ok (.invokevirtual 342, 3) := by decide +kernel
theorem dX13_branch_18 : decode cX13_branch 18 = .ok (.ifCond .eq 7, 3) := by decide +kernel
theorem dX13_branch_21 : decode cX13_branch 21 = .ok (.iconst 1, 1) := by decide +kernel
theorem dX13_branch_22 : decode cX13_branch 22 = .ok (.goto 4, 3) := by decide +kernel
theorem dX13_branch_25 : decode cX13_branch 25 = .ok (.iconst 0, 1) := by decide +kernel
theorem dX13_branch_26 : decode cX13_branch 26 = .ok (.iload_n 3, 1) := by decide +kernel
theorem dX13_branch_27 : decode cX13_branch 27 = .ok (.if_icmp .ne 12, 3) := by decide +kernel
theorem dX13_branch_30 : decode cX13_branch 30 = .ok (.aload_n 0, 1) := by decide +kernel
theorem dX13_branch_31 : decode cX13_branch 31 = .ok (.getfield 50, 3) := by decide +kernel
theorem dX13_branch_34 : decode cX13_branch 34 = .ok (.iconst 0, 1) := by decide +kernel
theorem dX13_branch_35 : decode cX13_branch 35 = .ok (.iload_n 2, 1) := by decide +kernel
theorem dX13_branch_36 : decode cX13_branch 36 = .ok (.invokevirtual 94, 3) := by decide +kernel
theorem dX13_branch_39 : decode cX13_branch 39 = .ok (.return_, 1) := by decide +kernel
theorem dX13_branch_40 : decode cX13_branch 40 = .ok (.aload_n 0, 1) := by decide +kernel
theorem dX13_branch_41 : decode cX13_branch 41 = .ok (.getfield 25, 3) := by decide +kernel
theorem dX13_branch_44 : decode cX13_branch 44 = .ok (.iload_n 1, 1) := by decide +kernel
theorem dX13_branch_45 : decode cX13_branch 45 = .ok (.invokevirtual 158, 3) := by decide +kernel
theorem dX13_branch_48 : decode cX13_branch 48 = .ok (.istore 5, 2) := by decide +kernel
theorem dX13_branch_50 : decode cX13_branch 50 = .ok (.aload_n 0, 1) := by decide +kernel
theorem dX13_branch_51 : decode cX13_branch 51 = .ok (.getfield 25, 3) := by decide +kernel
theorem dX13_branch_54 : decode cX13_branch 54 = .ok (.iload_n 1, 1) := by decide +kernel
theorem dX13_branch_55 : decode cX13_branch 55 = .ok (.invokevirtual 155, 3) := by decide +kernel
theorem dX13_branch_58 : decode cX13_branch 58 = .ok (.istore 6, 2) := by decide +kernel
theorem dX13_branch_60 : decode cX13_branch 60 = .ok (.iload 5, 2) := by decide +kernel
theorem dX13_branch_62 : decode cX13_branch 62 = .ok (.bipush 34, 2) := by decide +kernel
theorem dX13_branch_64 : decode cX13_branch 64 = .ok (.if_icmp .ne 37, 3) := by decide +kernel
theorem dX13_branch_67 : decode cX13_branch 67 = .ok (.aload_n 0, 1) := by decide +kernel
theorem dX13_branch_68 : decode cX13_branch 68 = .ok (.getfield 25, 3) := by decide +kernel
theorem dX13_branch_71 : decode cX13_branch 71 = .ok (.iload_n 1, 1) := by decide +kernel
theorem dX13_branch_72 : decode cX13_branch 72 = .ok (.invokevirtual 123, 3) := by decide +kernel
theorem dX13_branch_75 : decode cX13_branch 75 = .ok (.bipush 33, 2) := by decide +kernel
theorem dX13_branch_77 : decode cX13_branch 77 = .ok (.if_icmp .ne 24, 3) := by decide +kernel
theorem dX13_branch_80 : decode cX13_branch 80 = .ok (.aload_n 0, 1) := by decide +kernel
theorem dX13_branch_81 : decode cX13_branch 81 = .ok (.iload 6, 2) := by decide +kernel
theorem dX13_branch_83 : decode cX13_branch 83 = .ok (.iload_n 2, 1) := by decide +kernel
theorem dX13_branch_84 : decode cX13_branch 84 = .ok (.iload_n 3, 1) := by decide +kernel
theorem dX13_branch_85 : decode cX13_branch 85 = .ok (.ifCond .ne 7, 3) := by decide +kernel
theorem dX13_branch_88 : decode cX13_branch 88 = .ok (.iconst 1, 1) := by decide +kernel
theorem dX13_branch_89 : decode cX13_branch 89 = .ok (.goto 4, 3) := by decide +kernel
theorem dX13_branch_92 : decode cX13_branch 92 = .ok (.iconst 0, 1) := by decide +kernel
theorem dX13_branch_93 : decode cX13_branch 93 = .ok (.iload 4, 2) := by decide +kernel
theorem dX13_branch_95 : decode cX13_branch 95 = .ok (.invokevirtual 282, 3) := by decide +kernel
theorem dX13_branch_98 : decode cX13_branch 98 = .ok (.goto 136, 3) := by decide +kernel
theorem dX13_branch_101 : decode cX13_branch 101 = .ok (.iload 5, 2) := by decide +kernel
theorem dX13_branch_103 : decode cX13_branch 103 = .ok (.bipush 32, 2) := by decide +kernel
theorem dX13_branch_105 : decode cX13_branch 105 = .ok (.if_icmp .ne 29, 3) := by decide +kernel
theorem dX13_branch_108 : decode cX13_branch 108 = .ok (.aload_n 0, 1) := by decide +kernel
theorem dX13_branch_109 : decode cX13_branch 109 = .ok (.getfield 25, 3) := by decide +kernel
theorem dX13_branch_112 : decode cX13_branch 112 = .ok (.iload_n 1, 1) := by decide +kernel
theorem dX13_branch_113 : decode cX13_branch 113 = .ok (.invokevirtual 291, 3) := by decide +kernel
theorem dX13_branch_116 : decode cX13_branch 116 = .ok (.iconst 3, 1) := by decide +kernel
theorem dX13_branch_117 : decode cX13_branch 117 = .ok (.if_icmp .ge 17, 3) := by decide +kernel
theorem dX13_branch_120 : decode cX13_branch 120 = .ok (.aload_n 0, 1) := by decide +kernel
theorem dX13_branch_121 : decode cX13_branch 121 = .ok (.iload_n 1, 1) := by decide +kernel
theorem dX13_branch_122 : decode cX13_branch 122 = .ok (.iload 6, 2) := by decide +kernel
theorem dX13_branch_124 : decode cX13_branch 124 = .ok (.iload_n 2, 1) := by decide +kernel
theorem dX13_branch_125 : decode cX13_branch 125 = .ok (.iload_n 3, 1) := by decide +kernel
theorem dX13_branch_126 : decode cX13_branch 126 = .ok (.iload 4, 2) := by decide +kernel
theorem dX13_branch_128 : decode cX13_branch 128 = .ok (.invokevirtual 438, 3) := by decide +kernel
theorem dX13_branch_131 : decode cX13_branch 131 = .ok (.goto 103, 3) := by decide +kernel
theorem dX13_branch_134 : decode cX13_branch 134 = .ok (.iload 5, 2) := by decide +kernel
theorem dX13_branch_136 : decode cX13_branch 136 = .ok (.bipush 32, 2) := by decide +kernel
theorem dX13_branch_138 : decode cX13_branch 138 = .ok (.if_icmp .ne 62, 3) := by decide +kernel
theorem dX13_branch_141 : decode cX13_branch 141 = .ok (.aload_n 0, 1) := by decide +kernel
theorem dX13_branch_142 : decode cX13_branch 142 = .ok (.getfield 25, 3) := by decide +kernel
theorem dX13_branch_145 : decode cX13_branch 145 = .ok (.iload_n 1, 1) := by decide +kernel
theorem dX13_branch_146 : decode cX13_branch 146 = .ok (.invokevirtual 291, 3) := by decide +kernel
theorem dX13_branch_149 : decode cX13_branch 149 = .ok (.bipush 6, 2) := by decide +kernel
theorem dX13_branch_151 : decode cX13_branch 151 = .ok (.if_icmp .eq 16, 3) := by decide +kernel
theorem dX13_branch_154 : decode cX13_branch 154 = .ok (.aload_n 0, 1) := by decide +kernel
theorem dX13_branch_155 : decode cX13_branch 155 = .ok (.getfield 25, 3) := by decide +kernel
theorem dX13_branch_158 : decode cX13_branch 158 = .ok (.iload_n 1, 1) := by decide +kernel
theorem dX13_branch_159 : decode cX13_branch 159 = .ok (.invokevirtual 291, 3) := by decide +kernel
theorem dX13_branch_162 : decode cX13_branch 162 = .ok (.bipush 7, 2) := by decide +kernel
theorem dX13_branch_164 : decode cX13_branch 164 = .ok (.if_icmp .ne 36, 3) := by decide +kernel
theorem dX13_branch_167 : decode cX13_branch 167 = .ok (.aload_n 0, 1) := by decide +kernel
theorem dX13_branch_168 : decode cX13_branch 168 = .ok (.getfield 25, 3) := by decide +kernel
theorem dX13_branch_171 : decode cX13_branch 171 = .ok (.aload_n 0, 1) := by decide +kernel
theorem dX13_branch_172 : decode cX13_branch 172 = .ok (.getfield 25, 3) := by decide +kernel
theorem dX13_branch_175 : decode cX13_branch 175 = .ok (.iload 6, 2) := by decide +kernel
theorem dX13_branch_177 : decode cX13_branch 177 = .ok (.invokevirtual 161, 3) := by decide +kernel
theorem dX13_branch_180 : decode cX13_branch 180 = .ok (.invokevirtual 161, 3) := by decide +kernel
theorem dX13_branch_183 : decode cX13_branch 183 = .ok (.iconst (-1), 1) := by decide +kernel
theorem dX13_branch_184 : decode cX13_branch 184 = .ok (.if_icmp .ne 16, 3) := by decide +kernel
theorem dX13_branch_187 : decode cX13_branch 187 = .ok (.aload_n 0, 1) := by decide +kernel
theorem dX13_branch_188 : decode cX13_branch 188 = .ok (.iload 6, 2) := by decide +kernel
theorem dX13_branch_190 : decode cX13_branch 190 = .ok (.iload_n 2, 1) := by decide +kernel
theorem dX13_branch_191 : decode cX13_branch 191 = .ok (.iload_n 3, 1) := by decide +kernel
theorem dX13_branch_192 : decode cX13_branch 192 = .ok (.iload 4, 2) := by decide +kernel
theorem dX13_branch_194 : decode cX13_branch 194 = .ok (.invokevirtual 442, 3) := by decide +kernel
theorem dX13_branch_197 : decode cX13_branch 197 = .ok (.goto 37, 3) := by decide +kernel
theorem dX13_branch_200 : decode cX13_branch 200 = .ok (.aload_n 0, 1) := by decide +kernel
theorem dX13_branch_201 : decode cX13_branch 201 = .ok (.aload_n 0, 1) := by decide +kernel
theorem dX13_branch_202 : decode cX13_branch 202 = .ok (.iload_n 1, 1) := by decide +kernel
theorem dX13_branch_203 : decode cX13_branch 203 = .ok (.iload 4, 2) := by decide +kernel
theorem dX13_branch_205 : decode cX13_branch 205 = .ok (.invokevirtual 261, 3) := by decide +kernel
theorem dX13_branch_208 : decode cX13_branch 208 = .ok (.iconst 5, 1) := by decide +kernel
theorem dX13_branch_209 : decode cX13_branch 209 = .ok (.invokevirtual 249, 3) := by decide +kernel
theorem dX13_branch_212 : decode cX13_branch 212 = .ok (.istore 7, 2) := by decide +kernel
theorem dX13_branch_214 : decode cX13_branch 214 = .ok (.aload_n 0, 1) := by decide +kernel
theorem dX13_branch_215 : decode cX13_branch 215 = .ok (.getfield 50, 3) := by decide +kernel
theorem dX13_branch_218 : decode cX13_branch 218 = .ok (.iload_n 3, 1) := by decide +kernel
theorem dX13_branch_219 : decode cX13_branch 219 = .ok (.ifCond .eq 7, 3) := by decide +kernel
theorem dX13_branch_222 : decode cX13_branch 222 = .ok (.iconst 1, 1) := by decide +kernel
theorem dX13_branch_223 : decode cX13_branch 223 = .ok (.goto 4, 3) := by decide +kernel
theorem dX13_branch_226 : decode cX13_branch 226 = .ok (.iconst 0, 1) := by decide +kernel
theorem dX13_branch_227 : decode cX13_branch 227 = .ok (.iload 7, 2) := by decide +kernel
theorem dX13_branch_229 : decode cX13_branch 229 = .ok (.iconst 0, 1) := by decide +kernel
theorem dX13_branch_230 : decode cX13_branch 230 = .ok (.iload_n 2, 1) := by decide +kernel
theorem dX13_branch_231 : decode cX13_branch 231 = .ok (.invokevirtual 149, 3) := by decide +kernel
theorem dX13_branch_234 : decode cX13_branch 234 = .ok (.return_, 1) := by decide +kernel
theorem dX13_decide_0 : decode cX13_decide 0 = .ok (.aload_n 0, 1) := by decide +kernel
theorem dX13_decide_1 : decode cX13_decide 1 = .ok (.getfield 25, 3) := by decide +kernel
theorem dX13_decide_4 : decode cX13_decide 4 = .ok (.iload_n 1, 1) := by decide +kernel
theorem dX13_decide_5 : decode cX13_decide 5 = .ok (.invokevirtual 291, 3) := by decide +kernel
theorem dX13_decide_8 : decode cX13_decide 8 = .ok (.iconst 1, 1) := by decide +kernel
theorem dX13_decide_9 : decode cX13_decide 9 = .ok (.if_icmp .ne 7, 3) := by decide +kernel
theorem dX13_decide_12 : decode cX13_decide 12 = .ok (.iconst 1, 1) := by decide +kernel
theorem dX13_decide_13 : decode cX13_decide 13 = .ok (.goto 4, 3) := by decide +kernel
theorem dX13_decide_16 : decode cX13_decide 16 = .ok (.iconst 0, 1) := by decide +kernel
theorem dX13_decide_17 : decode cX13_decide 17 = .ok (.istore 6, 2) := by decide +kernel
theorem dX13_decide_19 : decode cX13_decide 19 = .ok (.aload_n 0, 1) := by decide +kernel
theorem dX13_decide_20 : decode cX13_decide 20 = .ok (.getfield 50, 3) := by decide +kernel
theorem dX13_decide_23 : decode cX13_decide 23 = .ok (.invokevirtual 85, 3) := by decide +kernel
theorem dX13_decide_26 : decode cX13_decide 26 = .ok (.istore 7, 2) := by decide +kernel
theorem dX13_decide_28 : decode cX13_decide 28 = .ok (.iload_n 2, 1) := by decide +kernel
theorem dX13_decide_29 : decode cX13_decide 29 = .ok (.istore 8, 2) := by decide +kernel
theorem dX13_decide_31 : decode cX13_decide 31 = .ok (.iload 8, 2) := by decide +kernel
theorem dX13_decide_33 : decode cX13_decide 33 = .ok (.iconst (-1), 1) := by decide +kernel
theorem dX13_decide_34 : decode cX13_decide 34 = .ok (.if_icmp .eq 101, 3) := by decide +kernel
theorem dX13_decide_37 : decode cX13_decide 37 = .ok (.iload 8, 2) := by decide +kernel
theorem dX13_decide_39 : decode cX13_decide 39 = .ok (.iload_n 2, 1) := by decide +kernel
theorem dX13_decide_40 : decode cX13_decide 40 = .ok (.if_icmp .ne 8, 3) := by decide +kernel
theorem dX13_decide_43 : decode cX13_decide 43 = .ok (.iload 8, 2) := by decide +kernel
theorem dX13_decide_45 : decode cX13_decide 45 = .ok (.goto 12, 3) := by decide +kernel
theorem dX13_decide_48 : decode cX13_decide 48 = .ok (.aload_n 0, 1) := by decide +kernel
theorem dX13_decide_49 : decode cX13_decide 49 = .ok (.getfield 25, 3) := by decide +kernel
theorem dX13_decide_52 : decode cX13_decide 52 = .ok (.iload 8, 2) := by decide +kernel
theorem dX13_decide_54 : decode cX13_decide 54 = .ok (.invokevirtual 155, 3) := by decide +kernel
theorem dX13_decide_57 : decode cX13_decide 57 = .ok (.istore 9, 2) := by decide +kernel
theorem dX13_decide_59 : decode cX13_decide 59 = .ok (.aload_n 0, 1) := by decide +kernel
theorem dX13_decide_60 : decode cX13_decide 60 = .ok (.getfield 25, 3) := by decide +kernel
theorem dX13_decide_63 : decode cX13_decide 63 = .ok (.iload 8, 2) := by decide +kernel
theorem dX13_decide_65 : decode cX13_decide 65 = .ok (.invokevirtual 161, 3) := by decide +kernel
theorem dX13_decide_68 : decode cX13_decide 68 = .ok (.iconst (-1), 1) := by decide +kernel
theorem dX13_decide_69 : decode cX13_decide 69 = .ok (.if_icmp .ne 7, 3) := by decide +kernel
theorem dX13_decide_72 : decode cX13_decide 72 = .ok (.iconst 1, 1) := by decide +kernel
theorem dX13_decide_73 : decode cX13_decide 73 = .ok (.goto 4, 3) := by decide +kernel
theorem dX13_decide_76 : decode cX13_decide 76 = .ok (.iconst 0, 1) := by decide +kernel
theorem dX13_decide_77 : decode cX13_decide 77 = .ok (.istore 10, 2) := by decide +kernel
theorem dX13_decide_79 : decode cX13_decide 79 = .ok (.iload 10, 2) := by decide +kernel
theorem dX13_decide_81 : decode cX13_decide 81 = .ok (.ifCond .eq 17, 3) := by decide +kernel
theorem dX13_decide_84 : decode cX13_decide 84 = .ok (.aload_n 0, 1) := by decide +kernel
theorem dX13_decide_85 : decode cX13_decide 85 = .ok (.iload 9, 2) := by decide +kernel
theorem dX13_decide_87 : decode cX13_decide 87 = .ok (.iload_n 3, 1) := by decide +kernel
theorem dX13_decide_88 : decode cX13_decide 88 = .ok (.iload 4, 2) := by decide +kernel
theorem dX13_decide_90 : decode cX13_decide 90 = .ok (.iload 5, 2) := by decide +kernel
theorem dX13_decide_92 : decode cX13_decide 92 = .ok (.invokevirtual 282, 3) := by decide +kernel
theorem dX13_decide_95 : decode cX13_decide 95 = .ok (.goto 26, 3) := by decide +kernel
theorem dX13_decide_98 : decode cX13_decide 98 = .ok (.aload_n 0, 1) := by decide +kernel
theorem dX13_decide_99 : decode cX13_decide 99 = .ok (.iload 9, 2) := by decide +kernel
theorem dX13_decide_101 : decode cX13_decide 101 = .ok (.iload 6, 2) := by decide +kernel
theorem dX13_decide_103 : decode cX13_decide 103 = .ok (.iload 4, 2) := by decide +kernel
theorem dX13_decide_105 : decode cX13_decide 105 = .ok (.if_icmp .ne 7, 3) := by decide +kernel
theorem dX13_decide_108 : decode cX13_decide 108 = .ok (.iload_n 3, 1) := by decide +kernel
theorem dX13_decide_109 : decode cX13_decide 109 = .ok (.goto 5, 3) := by decide +kernel
theorem dX13_decide_112 : decode cX13_decide 112 = .ok (.iload 7, 2) := by decide +kernel
theorem dX13_decide_114 : decode cX13_decide 114 = .ok (.iload 6, 2) := by decide +kernel
theorem dX13_decide_116 : decode cX13_decide 116 = .ok (.iload 5, 2) := by decide +kernel
theorem dX13_decide_118 : decode cX13_decide 118 = .ok (.invokevirtual 282, 3) := by decide +kernel
theorem dX13_decide_121 : decode cX13_decide 121 = .ok (.aload_n 0, 1) := by decide +kernel
theorem dX13_decide_122 : decode cX13_decide 122 = .ok (.getfield 25, 3) := by decide +kernel
theorem dX13_decide_125 : decode cX13_decide 125 = .ok (.iload 8, 2) := by decide +kernel
theorem dX13_decide_127 : decode cX13_decide 127 = .ok (.invokevirtual 161, 3) := by decide +kernel
theorem dX13_decide_130 : decode cX13_decide 130 = .ok (.istore 8, 2) := by decide +kernel
theorem dX13_decide_132 : decode cX13_decide 132 = .ok (.goto (-101), 3) := by decide +kernel
theorem dX13_decide_135 : decode cX13_decide 135 = .ok (.aload_n 0, 1) := by decide +kernel
theorem dX13_decide_136 : decode cX13_decide 136 = .ok (.getfield 50, 3) := by decide +kernel
theorem dX13_decide_139 : decode cX13_decide 139 = .ok (.iload 7, 2) := by decide +kernel
theorem dX13_decide_141 : decode cX13_decide 141 = .ok (.invokevirtual 104, 3) := by decide +kernel
theorem dX13_decide_144 : decode cX13_decide 144 = .ok (.return_, 1) := by decide +kernel
theorem dX13_compared_0 : decode cX13_compared 0 = .ok (.aload_n 0, 1) := by decide +kernel
theorem dX13_compared_1 : decode cX13_compared 1 = .ok (.getfield 25, 3) := by decide +kernel
theorem dX13_compared_4 : decode cX13_compared 4 = .ok (.iload_n 1, 1) := by decide +kernel
theorem dX13_compared_5 : decode cX13_compared 5 = .ok (.invokevirtual 161, 3) := by decide +kernel
theorem dX13_compared_8 : decode cX13_compared 8 = .ok (.istore 5, 2) := by decide +kernel
theorem dX13_compared_10 : decode cX13_compared 10 = .ok (.aload_n 0, 1) := by decide +kernel
theorem dX13_compared_11 : decode cX13_compared 11 = .ok (.getfield 25, 3) := by decide +kernel
theorem dX13_compared_14 : decode cX13_compared 14 = .ok (.iload 5, 2) := by decide +kernel
theorem dX13_compared_16 : decode cX13_compared 16 = .ok (.invokevirtual 155, 3) := by decide +kernel
theorem dX13_compared_19 : decode cX13_compared 19 = .ok (.istore 6, 2) := by decide +kernel
theorem dX13_compared_21 : decode cX13_compared 21 = .ok (.aload_n 0, 1) := by decide +kernel
theorem dX13_compared_22 : decode cX13_compared 22 = .ok (.iload_n 1, 1) := by decide +kernel
theorem dX13_compared_23 : decode cX13_compared 23 = .ok (.iload 4, 2) := by decide +kernel
theorem dX13_compared_25 : decode cX13_compared 25 = .ok (.invokevirtual 261, 3) := by decide +kernel
theorem dX13_compared_28 : decode cX13_compared 28 = .ok (.istore 7, 2) := by decide +kernel
theorem dX13_compared_30 : decode cX13_compared 30 = .ok (.iload 7, 2) := by decide +kernel
theorem dX13_compared_32 : decode cX13_compared 32 = .ok (.iload 4, 2) := by decide +kernel
theorem dX13_compared_34 : decode cX13_compared 34 = .ok (.invokestatic 381, 3) := by decide +kernel
theorem dX13_compared_37 : decode cX13_compared 37 = .ok (.ifCond .eq 26, 3) := by decide +kernel
theorem dX13_compared_40 : decode cX13_compared 40 = .ok (.aload_n 0, 1) := by decide +kernel
theorem dX13_compared_41 : decode cX13_compared 41 = .ok (.getfield 59, 3) := by decide +kernel
theorem dX13_compared_44 : decode cX13_compared 44 = .ok (.iload 6, 2) := by decide +kernel
theorem dX13_compared_46 : decode cX13_compared 46 = .ok (.invokevirtual 384, 3) := by decide +kernel
theorem dX13_compared_49 : decode cX13_compared 49 = .ok (.ifCond .eq 14, 3) := by decide +kernel
theorem dX13_compared_52 : decode cX13_compared 52 = .ok (.aload_n 0, 1) := by decide +kernel
theorem dX13_compared_53 : decode cX13_compared 53 = .ok (.iload 7, 2) := by decide +kernel
theorem dX13_compared_55 : decode cX13_compared 55 = .ok (.iload 4, 2) := by decide +kernel
theorem dX13_compared_57 : decode cX13_compared 57 = .ok (.invokevirtual 285, 3) := by decide +kernel
theorem dX13_compared_60 : decode cX13_compared 60 = .ok (.goto 5, 3) := by decide +kernel
theorem dX13_compared_63 : decode cX13_compared 63 = .ok (.iload 7, 2) := by decide +kernel
theorem dX13_compared_65 : decode cX13_compared 65 = .ok (.istore 7, 2) := by decide +kernel
theorem dX13_compared_67 : decode cX13_compared 67 = .ok (.aload_n 0, 1) := by decide +kernel
theorem dX13_compared_68 : decode cX13_compared 68 = .ok (.iload 6, 2) := by decide +kernel
theorem dX13_compared_70 : decode cX13_compared 70 = .ok (.iload 4, 2) := by decide +kernel
theorem dX13_compared_72 : decode cX13_compared 72 = .ok (.iconst 1, 1) := by decide +kernel
theorem dX13_compared_73 : decode cX13_compared 73 = .ok (.iadd, 1) := by decide +kernel
theorem dX13_compared_74 : decode cX13_compared 74 = .ok (.invokevirtual 261, 3) := by decide +kernel
theorem dX13_compared_77 : decode cX13_compared 77 = .ok (.istore 8, 2) := by decide +kernel
theorem dX13_compared_79 : decode cX13_compared 79 = .ok (.aload_n 0, 1) := by decide +kernel
theorem dX13_compared_80 : decode cX13_compared 80 = .ok (.iload 7, 2) := by decide +kernel
theorem dX13_compared_82 : decode cX13_compared 82 = .ok (.iconst 5, 1) := by decide +kernel
theorem dX13_compared_83 : decode cX13_compared 83 = .ok (.invokevirtual 249, 3) := by decide +kernel
theorem dX13_compared_86 : decode cX13_compared 86 = .ok (.istore 9, 2) := by decide +kernel
theorem dX13_compared_88 : decode cX13_compared 88 = .ok (.aload_n 0, 1) := by decide +kernel
theorem dX13_compared_89 : decode cX13_compared 89 = .ok (.iload 8, 2) := by decide +kernel
theorem dX13_compared_91 : decode cX13_compared 91 = .ok (.bipush 6, 2) := by decide +kernel
theorem dX13_compared_93 : decode cX13_compared 93 = .ok (.invokevirtual 249, 3) := by decide +kernel
theorem dX13_compared_96 : decode cX13_compared 96 = .ok (.istore 10, 2) := by decide +kernel
theorem dX13_compared_98 : decode cX13_compared 98 = .ok (.aload_n 0, 1) := by decide +kernel
theorem dX13_compared_99 : decode cX13_compared 99 = .ok (.getfield 25, 3) := by decide +kernel
theorem dX13_compared_102 : decode cX13_compared 102 = .ok (.iload 5, 2) := by decide +kernel
theorem dX13_compared_104 : decode cX13_compared 104 = .ok (.invokevirtual 123, 3) := by decide +kernel
theorem dX13_compared_107 : decode cX13_compared 107 = .ok (.istore 11, 2) := by decide +kernel
theorem dX13_compared_109 : decode cX13_compared 109 = .ok (.iload 11, 2) := by decide +kernel
theorem dX13_compared_111 : decode cX13_compared 111 = .ok (.bipush 62, 2) := by decide +kernel
theorem dX13_compared_113 : decode cX13_compared 113 = .ok (.if_icmp .eq 11, 3) := by decide +kernel
theorem dX13_compared_116 : decode cX13_compared 116 = .ok (.iload 11, 2) := by decide +kernel
theorem dX13_compared_118 : decode cX13_compared 118 = .ok (.sipush 132, 3) := by decide +kernel
theorem dX13_compared_121 : decode cX13_compared 121 = .ok (.if_icmp .ne 7, 3) := by decide +kernel
theorem dX13_compared_124 : decode cX13_compared 124 = .ok (.iconst 1, 1) := by decide +kernel
theorem dX13_compared_125 : decode cX13_compared 125 = .ok (.goto 4, 3) := by decide +kernel
theorem dX13_compared_128 : decode cX13_compared 128 = .ok (.iconst 0, 1) := by decide +kernel
theorem dX13_compared_129 : decode cX13_compared 129 = .ok (.istore 12, 2) := by decide +kernel
theorem dX13_compared_131 : decode cX13_compared 131 = .ok (.iload 11, 2) := by decide +kernel
theorem dX13_compared_133 : decode cX13_compared 133 = .ok (.sipush 130, 3) := by decide +kernel
theorem dX13_compared_136 : decode cX13_compared 136 = .ok (.if_icmp .ne 7, 3) := by decide +kernel
theorem dX13_compared_139 : decode cX13_compared 139 = .ok (.iconst 0, 1) := by decide +kernel
theorem dX13_compared_140 : decode cX13_compared 140 = .ok (.goto 34, 3) := by decide +kernel
theorem dX13_compared_143 : decode cX13_compared 143 = .ok (.iload 11, 2) := by decide +kernel
theorem dX13_compared_145 : decode cX13_compared 145 = .ok (.sipush 131, 3) := by decide +kernel
theorem dX13_compared_148 : decode cX13_compared 148 = .ok (.if_icmp .ne 7, 3) := by decide +kernel
theorem dX13_compared_151 : decode cX13_compared 151 = .ok (.iconst 1, 1) := by decide +kernel
theorem dX13_compared_152 : decode cX13_compared 152 = .ok (.goto 22, 3) := by decide +kernel
theorem dX13_compared_155 : decode cX13_compared 155 = .ok (.iload 11, 2) := by decide +kernel
theorem dX13_compared_157 : decode cX13_compared 157 = .ok (.bipush 60, 2) := by decide +kernel
theorem dX13_compared_159 : decode cX13_compared 159 = .ok (.if_icmp .eq 10, 3) := by decide +kernel
theorem dX13_compared_162 : decode cX13_compared 162 = .ok (.iload 11, 2) := by decide +kernel
theorem dX13_compared_164 : decode cX13_compared 164 = .ok (.bipush 62, 2) := by decide +kernel
theorem dX13_compared_166 : decode cX13_compared 166 = .ok (.if_icmp .ne 7, 3) := by decide +kernel
theorem dX13_compared_169 : decode cX13_compared 169 = .ok (.iconst 4, 1) := by decide +kernel
theorem dX13_compared_170 : decode cX13_compared 170 = .ok (.goto 4, 3) := by decide +kernel
theorem dX13_compared_173 : decode cX13_compared 173 = .ok (.iconst 5, 1) := by decide +kernel
theorem dX13_compared_174 : decode cX13_compared 174 = .ok (.istore 13, 2) := by decide +kernel
theorem dX13_compared_176 : decode cX13_compared 176 = .ok (.aload_n 0, 1) := by decide +kernel
theorem dX13_compared_177 : decode cX13_compared 177 = .ok (.getfield 50, 3) := by decide +kernel
theorem dX13_compared_180 : decode cX13_compared 180 = .ok (.iload_n 3, 1) := by decide +kernel
theorem dX13_compared_181 : decode cX13_compared 181 = .ok (.ifCond .eq 8, 3) := by decide +kernel
theorem dX13_compared_184 : decode cX13_compared 184 = .ok (.iload 13, 2) := by decide +kernel
theorem dX13_compared_186 : decode cX13_compared 186 = .ok (.goto 7, 3) := by decide +kernel
theorem dX13_compared_189 : decode cX13_compared 189 = .ok (.iload 13, 2) := by decide +kernel
theorem dX13_compared_191 : decode cX13_compared 191 = .ok (.iconst 1, 1) := by decide +kernel
theorem dX13_compared_192 : decode cX13_compared 192 = .ok (.ixor, 1) := by decide +kernel
theorem dX13_compared_193 : decode cX13_compared 193 = .ok (.iload 12, 2) := by decide +kernel
theorem dX13_compared_195 : decode cX13_compared 195 = .ok (.ifCond .eq 8, 3) := by decide +kernel
theorem dX13_compared_198 : decode cX13_compared 198 = .ok (.iload 10, 2) := by decide +kernel
theorem dX13_compared_200 : decode cX13_compared 200 = .ok (.goto 5, 3) := by decide +kernel
theorem dX13_compared_203 : decode cX13_compared 203 = .ok (.iload 9, 2) := by decide +kernel
theorem dX13_compared_205 : decode cX13_compared 205 = .ok (.iload 12, 2) := by decide +kernel
theorem dX13_compared_207 : decode cX13_compared 207 = .ok (.ifCond .eq 8, 3) := by decide +kernel
theorem dX13_compared_210 : decode cX13_compared 210 = .ok (.iload 9, 2) := by decide +kernel
theorem dX13_compared_212 : decode cX13_compared 212 = .ok (.goto 5, 3) := by decide +kernel
theorem dX13_compared_215 : decode cX13_compared 215 = .ok (.iload 10, 2) := by decide +kernel
theorem dX13_compared_217 : decode cX13_compared 217 = .ok (.iload_n 2, 1) := by decide +kernel
theorem dX13_compared_218 : decode cX13_compared 218 = .ok (.invokevirtual 149, 3) := by decide +kernel
theorem dX13_compared_221 : decode cX13_compared 221 = .ok (.return_, 1) := by decide +kernel
theorem dX13_truth_0 : decode cX13_truth 0 = .ok (.aload_n 0, 1) := by decide +kernel
theorem dX13_truth_1 : decode cX13_truth 1 = .ok (.getfield 50, 3) := by decide +kernel
theorem dX13_truth_4 : decode cX13_truth 4 = .ok (.invokevirtual 85, 3) := by decide +kernel
theorem dX13_truth_7 : decode cX13_truth 7 = .ok (.istore_n 3, 1) := by decide +kernel
theorem dX13_truth_8 : decode cX13_truth 8 = .ok (.aload_n 0, 1) := by decide +kernel
theorem dX13_truth_9 : decode cX13_truth 9 = .ok (.getfield 50, 3) := by decide +kernel
theorem dX13_truth_12 : decode cX13_truth 12 = .ok (.invokevirtual 85, 3) := by decide +kernel
theorem dX13_truth_15 : decode cX13_truth 15 = .ok (.istore 4, 2) := by decide +kernel
theorem dX13_truth_17 : decode cX13_truth 17 = .ok (.aload_n 0, 1) := by decide +kernel
theorem dX13_truth_18 : decode cX13_truth 18 = .ok (.iload_n 1, 1) := by decide +kernel
theorem dX13_truth_19 : decode cX13_truth 19 = .ok (.iload_n 3, 1) := by decide +kernel
theorem dX13_truth_20 : decode cX13_truth 20 = .ok (.iconst 0, 1) := by decide +kernel
theorem dX13_truth_21 : decode cX13_truth 21 = .ok (.iload_n 2, 1) := by decide +kernel
theorem dX13_truth_22 : decode cX13_truth 22 = .ok (.invokevirtual 282, 3) := by decide +kernel
theorem dX13_truth_25 : decode cX13_truth 25 = .ok (.aload_n 0, 1) := by decide +kernel
theorem dX13_truth_26 : decode cX13_truth 26 = .ok (.getfield 50, 3) := by decide +kernel
theorem dX13_truth_29 : decode cX13_truth 29 = .ok (.aload_n 0, 1) := by decide +kernel
theorem dX13_truth_30 : decode cX13_truth 30 = .ok (.iload_n 2, 1) := by decide +kernel
theorem dX13_truth_31 : decode cX13_truth 31 = .ok (.invokevirtual 246, 3) := by decide +kernel
theorem dX13_truth_34 : decode cX13_truth 34 = .ok (.iconst 1, 1) := by decide +kernel
theorem dX13_truth_35 : decode cX13_truth 35 = .ok (.invokevirtual 98, 3) := by decide +kernel
theorem dX13_truth_38 : decode cX13_truth 38 = .ok (.aload_n 0, 1) := by decide +kernel
theorem dX13_truth_39 : decode cX13_truth 39 = .ok (.getfield 50, 3) := by decide +kernel
theorem dX13_truth_42 : decode cX13_truth 42 = .ok (.iconst 0, 1) := by decide +kernel
theorem dX13_truth_43 : decode cX13_truth 43 = .ok (.iload 4, 2) := by decide +kernel
theorem dX13_truth_45 : decode cX13_truth 45 = .ok (.invokevirtual 94, 3) := by decide +kernel
theorem dX13_truth_48 : decode cX13_truth 48 = .ok (.aload_n 0, 1) := by decide +kernel
theorem dX13_truth_49 : decode cX13_truth 49 = .ok (.getfield 50, 3) := by decide +kernel
theorem dX13_truth_52 : decode cX13_truth 52 = .ok (.iload_n 3, 1) := by decide +kernel
theorem dX13_truth_53 : decode cX13_truth 53 = .ok (.invokevirtual 104, 3) := by decide +kernel
theorem dX13_truth_56 : decode cX13_truth 56 = .ok (.aload_n 0, 1) := by decide +kernel
theorem dX13_truth_57 : decode cX13_truth 57 = .ok (.getfield 50, 3) := by decide +kernel
theorem dX13_truth_60 : decode cX13_truth 60 = .ok (.aload_n 0, 1) := by decide +kernel
theorem dX13_truth_61 : decode cX13_truth 61 = .ok (.iload_n 2, 1) := by decide +kernel
theorem dX13_truth_62 : decode cX13_truth 62 = .ok (.invokevirtual 246, 3) := by decide +kernel
theorem dX13_truth_65 : decode cX13_truth 65 = .ok (.iconst 0, 1) := by decide +kernel
theorem dX13_truth_66 : decode cX13_truth 66 = .ok (.invokevirtual 98, 3) := by decide +kernel
theorem dX13_truth_69 : decode cX13_truth 69 = .ok (.aload_n 0, 1) := by decide +kernel
theorem dX13_truth_70 : decode cX13_truth 70 = .ok (.getfield 50, 3) := by decide +kernel
theorem dX13_truth_73 : decode cX13_truth 73 = .ok (.iload 4, 2) := by decide +kernel
theorem dX13_truth_75 : decode cX13_truth 75 = .ok (.invokevirtual 104, 3) := by decide +kernel
theorem dX13_truth_78 : decode cX13_truth 78 = .ok (.aload_n 0, 1) := by decide +kernel
theorem dX13_truth_79 : decode cX13_truth 79 = .ok (.iload_n 2, 1) := by decide +kernel
theorem dX13_truth_80 : decode cX13_truth 80 = .ok (.invokevirtual 252, 3) := by decide +kernel
theorem dX13_truth_83 : decode cX13_truth 83 = .ok (.ireturn, 1) := by decide +kernel
theorem dX13_chain_0 : decode cX13_chain 0 = .ok (.aload_n 0, 1) := by decide +kernel
theorem dX13_chain_1 : decode cX13_chain 1 = .ok (.iload_n 1, 1) := by decide +kernel
theorem dX13_chain_2 : decode cX13_chain 2 = .ok (.iload_n 2, 1) := by decide +kernel
theorem dX13_chain_3 : decode cX13_chain 3 = .ok (.invokevirtual 261, 3) := by decide +kernel
theorem dX13_chain_6 : decode cX13_chain 6 = .ok (.istore_n 3, 1) := by decide +kernel
theorem dX13_chain_7 : decode cX13_chain 7 = .ok (.aload_n 0, 1) := by decide +kernel
theorem dX13_chain_8 : decode cX13_chain 8 = .ok (.getfield 25, 3) := by decide +kernel
theorem dX13_chain_11 : decode cX13_chain 11 = .ok (.iload_n 1, 1) := by decide +kernel
theorem dX13_chain_12 : decode cX13_chain 12 = .ok (.invokevirtual 161, 3) := by decide +kernel
theorem dX13_chain_15 : decode cX13_chain 15 = .ok (.istore 4, 2) := by decide +kernel
theorem dX13_chain_17 : decode cX13_chain 17 = .ok (.iload 4, 2) := by decide +kernel
theorem dX13_chain_19 : decode cX13_chain 19 = .ok (.iconst (-1), 1) := by decide +kernel
theorem dX13_chain_20 : decode cX13_chain 20 = .ok (.if_icmp .eq 174, 3) := by decide +kernel
theorem dX13_chain_23 : decode cX13_chain 23 = .ok (.aload_n 0, 1) := by decide +kernel
theorem dX13_chain_24 : decode cX13_chain 24 = .ok (.getfield 25, 3) := by decide +kernel
theorem dX13_chain_27 : decode cX13_chain 27 = .ok (.iload 4, 2) := by decide +kernel
theorem dX13_chain_29 : decode cX13_chain 29 = .ok (.invokevirtual 155, 3) := by decide +kernel
theorem dX13_chain_32 : decode cX13_chain 32 = .ok (.istore 5, 2) := by decide +kernel
theorem dX13_chain_34 : decode cX13_chain 34 = .ok (.aload_n 0, 1) := by decide +kernel
theorem dX13_chain_35 : decode cX13_chain 35 = .ok (.getfield 25, 3) := by decide +kernel
theorem dX13_chain_38 : decode cX13_chain 38 = .ok (.iload 4, 2) := by decide +kernel
theorem dX13_chain_40 : decode cX13_chain 40 = .ok (.invokevirtual 123, 3) := by decide +kernel
theorem dX13_chain_43 : decode cX13_chain 43 = .ok (.istore 6, 2) := by decide +kernel
theorem dX13_chain_45 : decode cX13_chain 45 = .ok (.aload_n 0, 1) := by decide +kernel
theorem dX13_chain_46 : decode cX13_chain 46 = .ok (.getfield 59, 3) := by decide +kernel
theorem dX13_chain_49 : decode cX13_chain 49 = .ok (.iload 5, 2) := by decide +kernel
theorem dX13_chain_51 : decode cX13_chain 51 = .ok (.invokevirtual 338, 3) := by decide +kernel
theorem dX13_chain_54 : decode cX13_chain 54 = .ok (.ifCond .eq 49, 3) := by decide +kernel
theorem dX13_chain_57 : decode cX13_chain 57 = .ok (.iload 6, 2) := by decide +kernel
theorem dX13_chain_59 : decode cX13_chain 59 = .ok (.aload_n 0, 1) := by decide +kernel
theorem dX13_chain_60 : decode cX13_chain 60 = .ok (.getfield 59, 3) := by decide +kernel
theorem dX13_chain_63 : decode cX13_chain 63 = .ok (.invokevirtual 342, 3) := by decide +kernel
theorem dX13_chain_66 : decode cX13_chain 66 = .ok (.invokestatic 374, 3) := by decide +kernel
theorem dX13_chain_69 : decode cX13_chain 69 = .ok (.ifCond .eq 34, 3) := by decide +kernel
theorem dX13_chain_72 : decode cX13_chain 72 = .ok (.aload_n 0, 1) := by decide +kernel
theorem dX13_chain_73 : decode cX13_chain 73 = .ok (.getfield 59, 3) := by decide +kernel
theorem dX13_chain_76 : decode cX13_chain 76 = .ok (.invokevirtual 342, 3) := by decide +kernel
theorem dX13_chain_79 : decode cX13_chain 79 = .ok (.istore 7, 2) := by decide +kernel
theorem dX13_chain_81 : decode cX13_chain 81 = .ok (.aload_n 0, 1) := by decide +kernel
theorem dX13_chain_82 : decode cX13_chain 82 = .ok (.iload 6, 2) := by decide +kernel
theorem dX13_chain_84 : decode cX13_chain 84 = .ok (.aload_n 0, 1) := by decide +kernel
theorem dX13_chain_85 : decode cX13_chain 85 = .ok (.iload_n 2, 1) := by decide +kernel
theorem dX13_chain_86 : decode cX13_chain 86 = .ok (.invokevirtual 246, 3) := by decide +kernel
theorem dX13_chain_89 : decode cX13_chain 89 = .ok (.aload_n 0, 1) := by decide +kernel
theorem dX13_chain_90 : decode cX13_chain 90 = .ok (.iload_n 3, 1) := by decide +kernel
theorem dX13_chain_91 : decode cX13_chain 91 = .ok (.iconst 5, 1) := by decide +kernel
theorem dX13_chain_92 : decode cX13_chain 92 = .ok (.invokevirtual 249, 3) := by decide +kernel
theorem dX13_chain_95 : decode cX13_chain 95 = .ok (.iload 7, 2) := by decide +kernel
theorem dX13_chain_97 : decode cX13_chain 97 = .ok (.invokevirtual 378, 3) := by decide +kernel
theorem dX13_chain_100 : decode cX13_chain 100 = .ok (.goto 74, 3) := by decide +kernel
theorem dX13_chain_103 : decode cX13_chain 103 = .ok (.iload_n 3, 1) := by decide +kernel
theorem dX13_chain_104 : decode cX13_chain 104 = .ok (.iload_n 2, 1) := by decide +kernel
theorem dX13_chain_105 : decode cX13_chain 105 = .ok (.invokestatic 381, 3) := by decide +kernel
theorem dX13_chain_108 : decode cX13_chain 108 = .ok (.ifCond .eq 24, 3) := by decide +kernel
theorem dX13_chain_111 : decode cX13_chain 111 = .ok (.aload_n 0, 1) := by decide +kernel
theorem dX13_chain_112 : decode cX13_chain 112 = .ok (.getfield 59, 3) := by decide +kernel
theorem dX13_chain_115 : decode cX13_chain 115 = .ok (.iload 5, 2) := by decide +kernel
theorem dX13_chain_117 : decode cX13_chain 117 = .ok (.invokevirtual 384, 3) := by decide +kernel
theorem dX13_chain_120 : decode cX13_chain 120 = .ok (.ifCond .eq 12, 3) := by decide +kernel
theorem dX13_chain_123 : decode cX13_chain 123 = .ok (.aload_n 0, 1) := by decide +kernel
theorem dX13_chain_124 : decode cX13_chain 124 = .ok (.iload_n 3, 1) := by decide +kernel
theorem dX13_chain_125 : decode cX13_chain 125 = .ok (.iload_n 2, 1) := by decide +kernel
theorem dX13_chain_126 : decode cX13_chain 126 = .ok (.invokevirtual 285, 3) := by decide +kernel
theorem dX13_chain_129 : decode cX13_chain 129 = .ok (.goto 4, 3) := by decide +kernel
theorem dX13_chain_132 : decode cX13_chain 132 = .ok (.iload_n 3, 1) := by decide +kernel
theorem dX13_chain_133 : decode cX13_chain 133 = .ok (.istore_n 3, 1) := by decide +kernel
theorem dX13_chain_134 : decode cX13_chain 134 = .ok (.aload_n 0, 1) := by decide +kernel
theorem dX13_chain_135 : decode cX13_chain 135 = .ok (.iload 5, 2) := by decide +kernel
theorem dX13_chain_137 : decode cX13_chain 137 = .ok (.iload_n 2, 1) := by decide +kernel
theorem dX13_chain_138 : decode cX13_chain 138 = .ok (.iconst 1, 1) := by decide +kernel
theorem dX13_chain_139 : decode cX13_chain 139 = .ok (.iadd, 1) := by decide +kernel
theorem dX13_chain_140 : decode cX13_chain 140 = .ok (.invokevirtual 261, 3) := by decide +kernel
theorem dX13_chain_143 : decode cX13_chain 143 = .ok (.istore 7, 2) := by decide +kernel
theorem dX13_chain_145 : decode cX13_chain 145 = .ok (.aload_n 0, 1) := by decide +kernel
theorem dX13_chain_146 : decode cX13_chain 146 = .ok (.iload_n 3, 1) := by decide +kernel
theorem dX13_chain_147 : decode cX13_chain 147 = .ok (.iconst 5, 1) := by decide +kernel
theorem dX13_chain_148 : decode cX13_chain 148 = .ok (.invokevirtual 249, 3) := by decide +kernel
theorem dX13_chain_151 : decode cX13_chain 151 = .ok (.istore 8, 2) := by decide +kernel
theorem dX13_chain_153 : decode cX13_chain 153 = .ok (.aload_n 0, 1) := by decide +kernel
theorem dX13_chain_154 : decode cX13_chain 154 = .ok (.iload 6, 2) := by decide +kernel
theorem dX13_chain_156 : decode cX13_chain 156 = .ok (.aload_n 0, 1) := by decide +kernel
theorem dX13_chain_157 : decode cX13_chain 157 = .ok (.iload_n 2, 1) := by decide +kernel
theorem dX13_chain_158 : decode cX13_chain 158 = .ok (.invokevirtual 246, 3) := by decide +kernel
theorem dX13_chain_161 : decode cX13_chain 161 = .ok (.iload 8, 2) := by decide +kernel
theorem dX13_chain_163 : decode cX13_chain 163 = .ok (.aload_n 0, 1) := by decide +kernel
theorem dX13_chain_164 : decode cX13_chain 164 = .ok (.iload 7, 2) := by decide +kernel
theorem dX13_chain_166 : decode cX13_chain 166 = .ok (.bipush 6, 2) := by decide +kernel
theorem dX13_chain_168 : decode cX13_chain 168 = .ok (.invokevirtual 249, 3) := by decide +kernel
theorem dX13_chain_171 : decode cX13_chain 171 = .ok (.invokevirtual 387, 3) := by decide +kernel
theorem dX13_chain_174 : decode cX13_chain 174 = .ok (.aload_n 0, 1) := by decide +kernel
theorem dX13_chain_175 : decode cX13_chain 175 = .ok (.iload_n 2, 1) := by decide +kernel
theorem dX13_chain_176 : decode cX13_chain 176 = .ok (.invokevirtual 252, 3) := by decide +kernel
theorem dX13_chain_179 : decode cX13_chain 179 = .ok (.istore_n 3, 1) := by decide +kernel
theorem dX13_chain_180 : decode cX13_chain 180 = .ok (.aload_n 0, 1) := by decide +kernel
theorem dX13_chain_181 : decode cX13_chain 181 = .ok (.getfield 25, 3) := by decide +kernel
theorem dX13_chain_184 : decode cX13_chain 184 = .ok (.iload 4, 2) := by decide +kernel
theorem dX13_chain_186 : decode cX13_chain 186 = .ok (.invokevirtual 161, 3) := by decide +kernel
theorem dX13_chain_189 : decode cX13_chain 189 = .ok (.istore 4, 2) := by decide +kernel
theorem dX13_chain_191 : decode cX13_chain 191 = .ok (.goto (-174), 3) := by decide +kernel
theorem dX13_chain_194 : decode cX13_chain 194 = .ok (.iload_n 3, 1) := by decide +kernel
theorem dX13_chain_195 : decode cX13_chain 195 = .ok (.ireturn, 1) := by decide +kernel
theorem dX13_isShort_0 : decode cX13_isShort 0 = .ok (.iload_n 1, 1) := by decide +kernel
theorem dX13_isShort_1 : decode cX13_isShort 1 = .ok (.sipush (-2048), 3) := by decide +kernel
theorem dX13_isShort_4 : decode cX13_isShort 4 = .ok (.if_icmp .le 14, 3) := by decide +kernel
theorem dX13_isShort_7 : decode cX13_isShort 7 = .ok (.iload_n 1, 1) := by decide +kernel
theorem dX13_isShort_8 : decode cX13_isShort 8 = .ok (.sipush 2048, 3) := by decide +kernel
theorem dX13_isShort_11 : decode cX13_isShort 11 = .ok (.if_icmp .ge 7, 3) := by decide +kernel
theorem dX13_isShort_14 : decode cX13_isShort 14 = .ok (.iconst 1, 1) := by decide +kernel
theorem dX13_isShort_15 : decode cX13_isShort 15 = .ok (.goto 4, 3) := by decide +kernel
theorem dX13_isShort_18 : decode cX13_isShort 18 = .ok (.iconst 0, 1) := by decide +kernel
theorem dX13_isShort_19 : decode cX13_isShort 19 = .ok (.istore_n 2, 1) := by decide +kernel
theorem dX13_isShort_20 : decode cX13_isShort 20 = .ok (.iload_n 0, 1) := by decide +kernel
theorem dX13_isShort_21 : decode cX13_isShort 21 = .ok (.lookupswitch 105 #[(38, 83), (42, 87), (43, 83), (45, 83), (60, 83), (94, 83), (124, 83), (134, 85), (135, 85)], 83) := by decide +kernel
theorem dX13_isShort_104 : decode cX13_isShort 104 = .ok (.iload_n 2, 1) := by decide +kernel
theorem dX13_isShort_105 : decode cX13_isShort 105 = .ok (.ireturn, 1) := by decide +kernel
theorem dX13_isShort_106 : decode cX13_isShort 106 = .ok (.iconst 1, 1) := by decide +kernel
theorem dX13_isShort_107 : decode cX13_isShort 107 = .ok (.ireturn, 1) := by decide +kernel
theorem dX13_isShort_108 : decode cX13_isShort 108 = .ok (.iload_n 1, 1) := by decide +kernel
theorem dX13_isShort_109 : decode cX13_isShort 109 = .ok (.ifCond .le 15, 3) := by decide +kernel
theorem dX13_isShort_112 : decode cX13_isShort 112 = .ok (.iload_n 1, 1) := by decide +kernel
theorem dX13_isShort_113 : decode cX13_isShort 113 = .ok (.iload_n 1, 1) := by decide +kernel
theorem dX13_isShort_114 : decode cX13_isShort 114 = .ok (.iconst 1, 1) := by decide +kernel
theorem dX13_isShort_115 : decode cX13_isShort 115 = .ok (.isub, 1) := by decide +kernel
theorem dX13_isShort_116 : decode cX13_isShort 116 = .ok (.iand, 1) := by decide +kernel
theorem dX13_isShort_117 : decode cX13_isShort 117 = .ok (.ifCond .ne 7, 3) := by decide +kernel
theorem dX13_isShort_120 : decode cX13_isShort 120 = .ok (.iconst 1, 1) := by decide +kernel
theorem dX13_isShort_121 : decode cX13_isShort 121 = .ok (.goto 4, 3) := by decide +kernel
theorem dX13_isShort_124 : decode cX13_isShort 124 = .ok (.iconst 0, 1) := by decide +kernel
theorem dX13_isShort_125 : decode cX13_isShort 125 = .ok (.ireturn, 1) := by decide +kernel
theorem dX13_isShort_126 : decode cX13_isShort 126 = .ok (.iconst 0, 1) := by decide +kernel
theorem dX13_isShort_127 : decode cX13_isShort 127 = .ok (.ireturn, 1) := by decide +kernel
theorem dX13_withNumber_0 : decode cX13_withNumber 0 = .ok (.iload_n 1, 1) := by decide +kernel
theorem dX13_withNumber_1 : decode cX13_withNumber 1 = .ok (.lookupswitch 208 #[(38, 106), (43, 75), (45, 90), (60, 153), (94, 138), (124, 122), (134, 168), (135, 186)], 75) := by decide +kernel
theorem dX13_withNumber_76 : decode cX13_withNumber 76 = .ok (.aload_n 0, 1) := by decide +kernel
theorem dX13_withNumber_77 : decode cX13_withNumber 77 = .ok (.getfield 50, 3) := by decide +kernel
theorem dX13_withNumber_80 : decode cX13_withNumber 80 = .ok (.iconst 0, 1) := by decide +kernel
theorem dX13_withNumber_81 : decode cX13_withNumber 81 = .ok (.iload_n 2, 1) := by decide +kernel
theorem dX13_withNumber_82 : decode cX13_withNumber 82 = .ok (.iload_n 3, 1) := by decide +kernel
theorem dX13_withNumber_83 : decode cX13_withNumber 83 = .ok (.iload 4, 2) := by decide +kernel
theorem dX13_withNumber_85 : decode cX13_withNumber 85 = .ok (.invokevirtual 179, 3) := by decide +kernel
theorem dX13_withNumber_88 : decode cX13_withNumber 88 = .ok (.goto 136, 3) := by decide +kernel
theorem dX13_withNumber_91 : decode cX13_withNumber 91 = .ok (.aload_n 0, 1) := by decide +kernel
theorem dX13_withNumber_92 : decode cX13_withNumber 92 = .ok (.getfield 50, 3) := by decide +kernel
theorem dX13_withNumber_95 : decode cX13_withNumber 95 = .ok (.iconst 0, 1) := by decide +kernel
theorem dX13_withNumber_96 : decode cX13_withNumber 96 = .ok (.iload_n 2, 1) := by decide +kernel
theorem dX13_withNumber_97 : decode cX13_withNumber 97 = .ok (.iload_n 3, 1) := by decide +kernel
theorem dX13_withNumber_98 : decode cX13_withNumber 98 = .ok (.iload 4, 2) := by decide +kernel
theorem dX13_withNumber_100 : decode cX13_withNumber 100 = .ok (.ineg, 1) := by decide +kernel
theorem dX13_withNumber_101 : decode cX13_withNumber 101 = .ok (.invokevirtual 179, 3) := by decide +kernel
theorem dX13_withNumber_104 : decode cX13_withNumber 104 = .ok (.goto 120, 3) := by decide +kernel
theorem dX13_withNumber_107 : decode cX13_withNumber 107 = .ok (.aload_n 0, 1) := by decide +kernel
theorem dX13_withNumber_108 : decode cX13_withNumber 108 = .ok (.getfield 50, 3) := by decide +kernel
theorem dX13_withNumber_111 : decode cX13_withNumber 111 = .ok (.bipush 7, 2) := by decide +kernel
theorem dX13_withNumber_113 : decode cX13_withNumber 113 = .ok (.iload_n 2, 1) := by decide +kernel
theorem dX13_withNumber_114 : decode cX13_withNumber 114 = .ok (.iload_n 3, 1) := by decide +kernel
theorem dX13_withNumber_115 : decode cX13_withNumber 115 = .ok (.iload 4, 2) := by decide +kernel
theorem dX13_withNumber_117 : decode cX13_withNumber 117 = .ok (.invokevirtual 179, 3) := by decide +kernel
theorem dX13_withNumber_120 : decode cX13_withNumber 120 = .ok (.goto 104, 3) := by decide +kernel
theorem dX13_withNumber_123 : decode cX13_withNumber 123 = .ok (.aload_n 0, 1) := by decide +kernel
theorem dX13_withNumber_124 : decode cX13_withNumber 124 = .ok (.getfield 50, 3) := by decide +kernel
theorem dX13_withNumber_127 : decode cX13_withNumber 127 = .ok (.bipush 6, 2) := by decide +kernel
theorem dX13_withNumber_129 : decode cX13_withNumber 129 = .ok (.iload_n 2, 1) := by decide +kernel
theorem dX13_withNumber_130 : decode cX13_withNumber 130 = .ok (.iload_n 3, 1) := by decide +kernel
theorem dX13_withNumber_131 : decode cX13_withNumber 131 = .ok (.iload 4, 2) := by decide +kernel
theorem dX13_withNumber_133 : decode cX13_withNumber 133 = .ok (.invokevirtual 179, 3) := by decide +kernel
theorem dX13_withNumber_136 : decode cX13_withNumber 136 = .ok (.goto 88, 3) := by decide +kernel
theorem dX13_withNumber_139 : decode cX13_withNumber 139 = .ok (.aload_n 0, 1) := by decide +kernel
theorem dX13_withNumber_140 : decode cX13_withNumber 140 = .ok (.getfield 50, 3) := by decide +kernel
theorem dX13_withNumber_143 : decode cX13_withNumber 143 = .ok (.iconst 4, 1) := by decide +kernel
theorem dX13_withNumber_144 : decode cX13_withNumber 144 = .ok (.iload_n 2, 1) := by decide +kernel
theorem dX13_withNumber_145 : decode cX13_withNumber 145 = .ok (.iload_n 3, 1) := by decide +kernel
theorem dX13_withNumber_146 : decode cX13_withNumber 146 = .ok (.iload 4, 2) := by decide +kernel
theorem dX13_withNumber_148 : decode cX13_withNumber 148 = .ok (.invokevirtual 179, 3) := by decide +kernel
theorem dX13_withNumber_151 : decode cX13_withNumber 151 = .ok (.goto 73, 3) := by decide +kernel
theorem dX13_withNumber_154 : decode cX13_withNumber 154 = .ok (.aload_n 0, 1) := by decide +kernel
theorem dX13_withNumber_155 : decode cX13_withNumber 155 = .ok (.getfield 50, 3) := by decide +kernel
theorem dX13_withNumber_158 : decode cX13_withNumber 158 = .ok (.iconst 2, 1) := by decide +kernel
theorem dX13_withNumber_159 : decode cX13_withNumber 159 = .ok (.iload_n 2, 1) := by decide +kernel
theorem dX13_withNumber_160 : decode cX13_withNumber 160 = .ok (.iload_n 3, 1) := by decide +kernel
theorem dX13_withNumber_161 : decode cX13_withNumber 161 = .ok (.iload 4, 2) := by decide +kernel
theorem dX13_withNumber_163 : decode cX13_withNumber 163 = .ok (.invokevirtual 179, 3) := by decide +kernel
theorem dX13_withNumber_166 : decode cX13_withNumber 166 = .ok (.goto 58, 3) := by decide +kernel
theorem dX13_withNumber_169 : decode cX13_withNumber 169 = .ok (.aload_n 0, 1) := by decide +kernel
theorem dX13_withNumber_170 : decode cX13_withNumber 170 = .ok (.getfield 50, 3) := by decide +kernel
theorem dX13_withNumber_173 : decode cX13_withNumber 173 = .ok (.iconst 1, 1) := by decide +kernel
theorem dX13_withNumber_174 : decode cX13_withNumber 174 = .ok (.iload_n 2, 1) := by decide +kernel
theorem dX13_withNumber_175 : decode cX13_withNumber 175 = .ok (.iload_n 3, 1) := by decide +kernel
theorem dX13_withNumber_176 : decode cX13_withNumber 176 = .ok (.iload 4, 2) := by decide +kernel
theorem dX13_withNumber_178 : decode cX13_withNumber 178 = .ok (.bipush 31, 2) := by decide +kernel
theorem dX13_withNumber_180 : decode cX13_withNumber 180 = .ok (.iand, 1) := by decide +kernel
theorem dX13_withNumber_181 : decode cX13_withNumber 181 = .ok (.invokevirtual 179, 3) := by decide +kernel
theorem dX13_withNumber_184 : decode cX13_withNumber 184 = .ok (.goto 40, 3) := by decide +kernel
theorem dX13_withNumber_187 : decode cX13_withNumber 187 = .ok (.aload_n 0, 1) := by decide +kernel
theorem dX13_withNumber_188 : decode cX13_withNumber 188 = .ok (.getfield 50, 3) := by decide +kernel
theorem dX13_withNumber_191 : decode cX13_withNumber 191 = .ok (.iconst 5, 1) := by decide +kernel
theorem dX13_withNumber_192 : decode cX13_withNumber 192 = .ok (.iload_n 2, 1) := by decide +kernel
theorem dX13_withNumber_193 : decode cX13_withNumber 193 = .ok (.iload_n 3, 1) := by decide +kernel
theorem dX13_withNumber_194 : decode cX13_withNumber 194 = .ok (.iload 4, 2) := by decide +kernel
theorem dX13_withNumber_196 : decode cX13_withNumber 196 = .ok (.bipush 31, 2) := by decide +kernel
theorem dX13_withNumber_198 : decode cX13_withNumber 198 = .ok (.iand, 1) := by decide +kernel
theorem dX13_withNumber_199 : decode cX13_withNumber 199 = .ok (.sipush 1024, 3) := by decide +kernel
theorem dX13_withNumber_202 : decode cX13_withNumber 202 = .ok (.ior, 1) := by decide +kernel
theorem dX13_withNumber_203 : decode cX13_withNumber 203 = .ok (.invokevirtual 179, 3) := by decide +kernel
theorem dX13_withNumber_206 : decode cX13_withNumber 206 = .ok (.goto 18, 3) := by decide +kernel
theorem dX13_withNumber_209 : decode cX13_withNumber 209 = .ok (.aload_n 0, 1) := by decide +kernel
theorem dX13_withNumber_210 : decode cX13_withNumber 210 = .ok (.getfield 50, 3) := by decide +kernel
theorem dX13_withNumber_213 : decode cX13_withNumber 213 = .ok (.iconst 1, 1) := by decide +kernel
theorem dX13_withNumber_214 : decode cX13_withNumber 214 = .ok (.iload_n 2, 1) := by decide +kernel
theorem dX13_withNumber_215 : decode cX13_withNumber 215 = .ok (.iload_n 3, 1) := by decide +kernel
theorem dX13_withNumber_216 : decode cX13_withNumber 216 = .ok (.iload 4, 2) := by decide +kernel
theorem dX13_withNumber_218 : decode cX13_withNumber 218 = .ok (.invokestatic 390, 3) := by decide +kernel
theorem dX13_withNumber_221 : decode cX13_withNumber 221 = .ok (.invokevirtual 179, 3) := by decide +kernel
theorem dX13_withNumber_224 : decode cX13_withNumber 224 = .ok (.return_, 1) := by decide +kernel
theorem dX13_power_0 : decode cX13_power 0 = .ok (.iconst 0, 1) := by decide +kernel
theorem dX13_power_1 : decode cX13_power 1 = .ok (.istore_n 1, 1) := by decide +kernel
theorem dX13_power_2 : decode cX13_power 2 = .ok (.iconst 1, 1) := by decide +kernel
theorem dX13_power_3 : decode cX13_power 3 = .ok (.iload_n 1, 1) := by decide +kernel
theorem dX13_power_4 : decode cX13_power 4 = .ok (.ishl, 1) := by decide +kernel
theorem dX13_power_5 : decode cX13_power 5 = .ok (.iload_n 0, 1) := by decide +kernel
theorem dX13_power_6 : decode cX13_power 6 = .ok (.if_icmp .eq 9, 3) := by decide +kernel
theorem dX13_power_9 : decode cX13_power 9 = .ok (.iinc 1 1, 3) := by decide +kernel
theorem dX13_power_12 : decode cX13_power 12 = .ok (.goto (-10), 3) := by decide +kernel
theorem dX13_power_15 : decode cX13_power 15 = .ok (.iload_n 1, 1) := by decide +kernel
theorem dX13_power_16 : decode cX13_power 16 = .ok (.ireturn, 1) := by decide +kernel
theorem dX13_choosing_0 : decode cX13_choosing 0 = .ok (.aload_n 0, 1) := by decide +kernel
theorem dX13_choosing_1 : decode cX13_choosing 1 = .ok (.getfield 25, 3) := by decide +kernel
theorem dX13_choosing_4 : decode cX13_choosing 4 = .ok (.iload_n 1, 1) := by decide +kernel
theorem dX13_choosing_5 : decode cX13_choosing 5 = .ok (.invokevirtual 161, 3) := by decide +kernel
theorem dX13_choosing_8 : decode cX13_choosing 8 = .ok (.istore_n 2, 1) := by decide +kernel
theorem dX13_choosing_9 : decode cX13_choosing 9 = .ok (.aload_n 0, 1) := by decide +kernel
theorem dX13_choosing_10 : decode cX13_choosing 10 = .ok (.getfield 25, 3) := by decide +kernel
theorem dX13_choosing_13 : decode cX13_choosing 13 = .ok (.iload_n 2, 1) := by decide +kernel
theorem dX13_choosing_14 : decode cX13_choosing 14 = .ok (.invokevirtual 161, 3) := by decide +kernel
theorem dX13_choosing_17 : decode cX13_choosing 17 = .ok (.istore_n 3, 1) := by decide +kernel
theorem dX13_choosing_18 : decode cX13_choosing 18 = .ok (.aload_n 0, 1) := by decide +kernel
theorem dX13_choosing_19 : decode cX13_choosing 19 = .ok (.getfield 50, 3) := by decide +kernel
theorem dX13_choosing_22 : decode cX13_choosing 22 = .ok (.invokevirtual 85, 3) := by decide +kernel
theorem dX13_choosing_25 : decode cX13_choosing 25 = .ok (.istore 4, 2) := by decide +kernel
theorem dX13_choosing_27 : decode cX13_choosing 27 = .ok (.aload_n 0, 1) := by decide +kernel
theorem dX13_choosing_28 : decode cX13_choosing 28 = .ok (.iload_n 1, 1) := by decide +kernel
theorem dX13_choosing_29 : decode cX13_choosing 29 = .ok (.iload 4, 2) := by decide +kernel
theorem dX13_choosing_31 : decode cX13_choosing 31 = .ok (.iconst 0, 1) := by decide +kernel
theorem dX13_choosing_32 : decode cX13_choosing 32 = .ok (.iconst 0, 1) := by decide +kernel
theorem dX13_choosing_33 : decode cX13_choosing 33 = .ok (.invokevirtual 282, 3) := by decide +kernel
theorem dX13_choosing_36 : decode cX13_choosing 36 = .ok (.aload_n 0, 1) := by decide +kernel
theorem dX13_choosing_37 : decode cX13_choosing 37 = .ok (.iload_n 2, 1) := by decide +kernel
theorem dX13_choosing_38 : decode cX13_choosing 38 = .ok (.invokevirtual 255, 3) := by decide +kernel
theorem dX13_choosing_41 : decode cX13_choosing 41 = .ok (.iload_n 3, 1) := by decide +kernel
theorem dX13_choosing_42 : decode cX13_choosing 42 = .ok (.iconst (-1), 1) := by decide +kernel
theorem dX13_choosing_43 : decode cX13_choosing 43 = .ok (.if_icmp .ne 13, 3) := by decide +kernel
theorem dX13_choosing_46 : decode cX13_choosing 46 = .ok (.aload_n 0, 1) := by decide +kernel
theorem dX13_choosing_47 : decode cX13_choosing 47 = .ok (.getfield 50, 3) := by decide +kernel
theorem dX13_choosing_50 : decode cX13_choosing 50 = .ok (.iload 4, 2) := by decide +kernel
theorem dX13_choosing_52 : decode cX13_choosing 52 = .ok (.invokevirtual 104, 3) := by decide +kernel
theorem dX13_choosing_55 : decode cX13_choosing 55 = .ok (.return_, 1) := by decide +kernel
theorem dX13_choosing_56 : decode cX13_choosing 56 = .ok (.aload_n 0, 1) := by decide +kernel
theorem dX13_choosing_57 : decode cX13_choosing 57 = .ok (.getfield 50, 3) := by decide +kernel
theorem dX13_choosing_60 : decode cX13_choosing 60 = .ok (.invokevirtual 85, 3) := by decide +kernel
theorem dX13_choosing_63 : decode cX13_choosing 63 = .ok (.istore 5, 2) := by decide +kernel
theorem dX13_choosing_65 : decode cX13_choosing 65 = .ok (.aload_n 0, 1) := by decide +kernel
theorem dX13_choosing_66 : decode cX13_choosing 66 = .ok (.getfield 50, 3) := by decide +kernel
theorem dX13_choosing_69 : decode cX13_choosing 69 = .ok (.iconst 0, 1) := by decide +kernel
theorem dX13_choosing_70 : decode cX13_choosing 70 = .ok (.iload 5, 2) := by decide +kernel
theorem dX13_choosing_72 : decode cX13_choosing 72 = .ok (.invokevirtual 94, 3) := by decide +kernel
theorem dX13_choosing_75 : decode cX13_choosing 75 = .ok (.aload_n 0, 1) := by decide +kernel
theorem dX13_choosing_76 : decode cX13_choosing 76 = .ok (.getfield 50, 3) := by decide +kernel
theorem dX13_choosing_79 : decode cX13_choosing 79 = .ok (.iload 4, 2) := by decide +kernel
theorem dX13_choosing_81 : decode cX13_choosing 81 = .ok (.invokevirtual 104, 3) := by decide +kernel
theorem dX13_choosing_84 : decode cX13_choosing 84 = .ok (.aload_n 0, 1) := by decide +kernel
theorem dX13_choosing_85 : decode cX13_choosing 85 = .ok (.iload_n 3, 1) := by decide +kernel
theorem dX13_choosing_86 : decode cX13_choosing 86 = .ok (.invokevirtual 255, 3) := by decide +kernel
theorem dX13_choosing_89 : decode cX13_choosing 89 = .ok (.aload_n 0, 1) := by decide +kernel
theorem dX13_choosing_90 : decode cX13_choosing 90 = .ok (.getfield 50, 3) := by decide +kernel
theorem dX13_choosing_93 : decode cX13_choosing 93 = .ok (.iload 5, 2) := by decide +kernel
theorem dX13_choosing_95 : decode cX13_choosing 95 = .ok (.invokevirtual 104, 3) := by decide +kernel
theorem dX13_choosing_98 : decode cX13_choosing 98 = .ok (.return_, 1) := by decide +kernel
theorem dX13_looping_0 : decode cX13_looping 0 = .ok (.aload_n 0, 1) := by decide +kernel
theorem dX13_looping_1 : decode cX13_looping 1 = .ok (.getfield 131, 3) := by decide +kernel
theorem dX13_looping_4 : decode cX13_looping 4 = .ok (.istore 5, 2) := by decide +kernel
theorem dX13_looping_6 : decode cX13_looping 6 = .ok (.aload_n 0, 1) := by decide +kernel
theorem dX13_looping_7 : decode cX13_looping 7 = .ok (.getfield 134, 3) := by decide +kernel
theorem dX13_looping_10 : decode cX13_looping 10 = .ok (.istore 6, 2) := by decide +kernel
theorem dX13_looping_12 : decode cX13_looping 12 = .ok (.aload_n 0, 1) := by decide +kernel
theorem dX13_looping_13 : decode cX13_looping 13 = .ok (.aload_n 0, 1) := by decide +kernel
theorem dX13_looping_14 : decode cX13_looping 14 = .ok (.getfield 50, 3) := by decide +kernel
theorem dX13_looping_17 : decode cX13_looping 17 = .ok (.invokevirtual 85, 3) := by decide +kernel
theorem dX13_looping_20 : decode cX13_looping 20 = .ok (.putfield 131, 3) := by decide +kernel
theorem dX13_looping_23 : decode cX13_looping 23 = .ok (.aload_n 0, 1) := by decide +kernel
theorem dX13_looping_24 : decode cX13_looping 24 = .ok (.aload_n 0, 1) := by decide +kernel
theorem dX13_looping_25 : decode cX13_looping 25 = .ok (.getfield 50, 3) := by decide +kernel
theorem dX13_looping_28 : decode cX13_looping 28 = .ok (.invokevirtual 85, 3) := by decide +kernel
theorem dX13_looping_31 : decode cX13_looping 31 = .ok (.putfield 134, 3) := by decide +kernel
theorem dX13_looping_34 : decode cX13_looping 34 = .ok (.aload_n 0, 1) := by decide +kernel
theorem dX13_looping_35 : decode cX13_looping 35 = .ok (.getfield 50, 3) := by decide +kernel
theorem dX13_looping_38 : decode cX13_looping 38 = .ok (.invokevirtual 85, 3) := by decide +kernel
theorem dX13_looping_41 : decode cX13_looping 41 = .ok (.istore 7, 2) := by decide +kernel
theorem dX13_looping_43 : decode cX13_looping 43 = .ok (.aload_n 0, 1) := by decide +kernel
theorem dX13_looping_44 : decode cX13_looping 44 = .ok (.getfield 50, 3) := by decide +kernel
theorem dX13_looping_47 : decode cX13_looping 47 = .ok (.invokevirtual 85, 3) := by decide +kernel
theorem dX13_looping_50 : decode cX13_looping 50 = .ok (.istore 8, 2) := by decide +kernel
theorem dX13_looping_52 : decode cX13_looping 52 = .ok (.iload 4, 2) := by decide +kernel
theorem dX13_looping_54 : decode cX13_looping 54 = .ok (.ifCond .eq 13, 3) := by decide +kernel
theorem dX13_looping_57 : decode cX13_looping 57 = .ok (.aload_n 0, 1) := by decide +kernel
theorem dX13_looping_58 : decode cX13_looping 58 = .ok (.getfield 50, 3) := by decide +kernel
theorem dX13_looping_61 : decode cX13_looping 61 = .ok (.iconst 0, 1) := by decide +kernel
theorem dX13_looping_62 : decode cX13_looping 62 = .ok (.iload 8, 2) := by decide +kernel
theorem dX13_looping_64 : decode cX13_looping 64 = .ok (.invokevirtual 94, 3) := by decide +kernel
theorem dX13_looping_67 : decode cX13_looping 67 = .ok (.aload_n 0, 1) := by decide +kernel
theorem dX13_looping_68 : decode cX13_looping 68 = .ok (.getfield 50, 3) := by decide +kernel
theorem dX13_looping_71 : decode cX13_looping 71 = .ok (.iload 7, 2) := by decide +kernel
theorem dX13_looping_73 : decode cX13_looping 73 = .ok (.invokevirtual 104, 3) := by decide +kernel
theorem dX13_looping_76 : decode cX13_looping 76 = .ok (.aload_n 0, 1) := by decide +kernel
theorem dX13_looping_77 : decode cX13_looping 77 = .ok (.invokevirtual 137, 3) := by decide +kernel
theorem dX13_looping_80 : decode cX13_looping 80 = .ok (.aload_n 0, 1) := by decide +kernel
theorem dX13_looping_81 : decode cX13_looping 81 = .ok (.iload_n 3, 1) := by decide +kernel
theorem dX13_looping_82 : decode cX13_looping 82 = .ok (.invokevirtual 255, 3) := by decide +kernel
theorem dX13_looping_85 : decode cX13_looping 85 = .ok (.aload_n 0, 1) := by decide +kernel
theorem dX13_looping_86 : decode cX13_looping 86 = .ok (.getfield 50, 3) := by decide +kernel
theorem dX13_looping_89 : decode cX13_looping 89 = .ok (.aload_n 0, 1) := by decide +kernel
theorem dX13_looping_90 : decode cX13_looping 90 = .ok (.getfield 134, 3) := by decide +kernel
theorem dX13_looping_93 : decode cX13_looping 93 = .ok (.invokevirtual 104, 3) := by decide +kernel
theorem dX13_looping_96 : decode cX13_looping 96 = .ok (.iload_n 2, 1) := by decide +kernel
theorem dX13_looping_97 : decode cX13_looping 97 = .ok (.iconst (-1), 1) := by decide +kernel
theorem dX13_looping_98 : decode cX13_looping 98 = .ok (.if_icmp .eq 23, 3) := by decide +kernel
theorem dX13_looping_101 : decode cX13_looping 101 = .ok (.aload_n 0, 1) := by decide +kernel
theorem dX13_looping_102 : decode cX13_looping 102 = .ok (.getfield 25, 3) := by decide +kernel
theorem dX13_looping_105 : decode cX13_looping 105 = .ok (.iload_n 2, 1) := by decide +kernel
theorem dX13_looping_106 : decode cX13_looping 106 = .ok (.invokevirtual 158, 3) := by decide +kernel
theorem dX13_looping_109 : decode cX13_looping 109 = .ok (.bipush 11, 2) := by decide +kernel
theorem dX13_looping_111 : decode cX13_looping 111 = .ok (.if_icmp .eq 10, 3) := by decide +kernel
theorem dX13_looping_114 : decode cX13_looping 114 = .ok (.aload_n 0, 1) := by decide +kernel
theorem dX13_looping_115 : decode cX13_looping 115 = .ok (.iload_n 2, 1) := by decide +kernel
theorem dX13_looping_116 : decode cX13_looping 116 = .ok (.iconst 0, 1) := by decide +kernel
theorem dX13_looping_117 : decode cX13_looping 117 = .ok (.invokevirtual 261, 3) := by decide +kernel
theorem dX13_looping_120 : decode cX13_looping 120 = .ok (.pop, 1) := by decide +kernel
theorem dX13_looping_121 : decode cX13_looping 121 = .ok (.aload_n 0, 1) := by decide +kernel
theorem dX13_looping_122 : decode cX13_looping 122 = .ok (.getfield 50, 3) := by decide +kernel
theorem dX13_looping_125 : decode cX13_looping 125 = .ok (.iload 8, 2) := by decide +kernel
theorem dX13_looping_127 : decode cX13_looping 127 = .ok (.invokevirtual 104, 3) := by decide +kernel
theorem dX13_looping_130 : decode cX13_looping 130 = .ok (.aload_n 0, 1) := by decide +kernel
theorem dX13_looping_131 : decode cX13_looping 131 = .ok (.getfield 25, 3) := by decide +kernel
theorem dX13_looping_134 : decode cX13_looping 134 = .ok (.iload_n 1, 1) := by decide +kernel
theorem dX13_looping_135 : decode cX13_looping 135 = .ok (.invokevirtual 158, 3) := by decide +kernel
theorem dX13_looping_138 : decode cX13_looping 138 = .ok (.bipush 11, 2) := by decide +kernel
theorem dX13_looping_140 : decode cX13_looping 140 = .ok (.if_icmp .ne 16, 3) := by decide +kernel
theorem dX13_looping_143 : decode cX13_looping 143 = .ok (.aload_n 0, 1) := by decide +kernel
theorem dX13_looping_144 : decode cX13_looping 144 = .ok (.getfield 50, 3) := by decide +kernel
theorem dX13_looping_147 : decode cX13_looping 147 = .ok (.iconst 0, 1) := by decide +kernel
theorem dX13_looping_148 : decode cX13_looping 148 = .ok (.iload 7, 2) := by decide +kernel
theorem dX13_looping_150 : decode cX13_looping 150 = .ok (.invokevirtual 94, 3) := by decide +kernel
theorem dX13_looping_153 : decode cX13_looping 153 = .ok (.goto 12, 3) := by decide +kernel
theorem dX13_looping_156 : decode cX13_looping 156 = .ok (.aload_n 0, 1) := by decide +kernel
theorem dX13_looping_157 : decode cX13_looping 157 = .ok (.iload_n 1, 1) := by decide +kernel
theorem dX13_looping_158 : decode cX13_looping 158 = .ok (.iload 7, 2) := by decide +kernel
theorem dX13_looping_160 : decode cX13_looping 160 = .ok (.iconst 1, 1) := by decide +kernel
theorem dX13_looping_161 : decode cX13_looping 161 = .ok (.iconst 0, 1) := by decide +kernel
theorem dX13_looping_162 : decode cX13_looping 162 = .ok (.invokevirtual 282, 3) := by decide +kernel
theorem dX13_looping_165 : decode cX13_looping 165 = .ok (.aload_n 0, 1) := by decide +kernel
theorem dX13_looping_166 : decode cX13_looping 166 = .ok (.getfield 50, 3) := by decide +kernel
theorem dX13_looping_169 : decode cX13_looping 169 = .ok (.aload_n 0, 1) := by decide +kernel
theorem dX13_looping_170 : decode cX13_looping 170 = .ok (.getfield 131, 3) := by decide +kernel
theorem dX13_looping_173 : decode cX13_looping 173 = .ok (.invokevirtual 104, 3) := by decide +kernel
theorem dX13_looping_176 : decode cX13_looping 176 = .ok (.aload_n 0, 1) := by decide +kernel
theorem dX13_looping_177 : decode cX13_looping 177 = .ok (.iload 5, 2) := by decide +kernel
theorem dX13_looping_179 : decode cX13_looping 179 = .ok (.putfield 131, 3) := by decide +kernel
theorem dX13_looping_182 : decode cX13_looping 182 = .ok (.aload_n 0, 1) := by decide +kernel
theorem dX13_looping_183 : decode cX13_looping 183 = .ok (.iload 6, 2) := by decide +kernel
theorem dX13_looping_185 : decode cX13_looping 185 = .ok (.putfield 134, 3) := by decide +kernel
theorem dX13_looping_188 : decode cX13_looping 188 = .ok (.return_, 1) := by decide +kernel
theorem dX13_counting_0 : decode cX13_counting 0 = .ok (.aload_n 0, 1) := by decide +kernel
theorem dX13_counting_1 : decode cX13_counting 1 = .ok (.getfield 25, 3) := by decide +kernel
theorem dX13_counting_4 : decode cX13_counting 4 = .ok (.iload_n 1, 1) := by decide +kernel
theorem dX13_counting_5 : decode cX13_counting 5 = .ok (.invokevirtual 161, 3) := by decide +kernel
theorem dX13_counting_8 : decode cX13_counting 8 = .ok (.istore_n 2, 1) := by decide +kernel
theorem dX13_counting_9 : decode cX13_counting 9 = .ok (.aload_n 0, 1) := by decide +kernel
theorem dX13_counting_10 : decode cX13_counting 10 = .ok (.getfield 25, 3) := by decide +kernel
theorem dX13_counting_13 : decode cX13_counting 13 = .ok (.iload_n 2, 1) := by decide +kernel
theorem dX13_counting_14 : decode cX13_counting 14 = .ok (.invokevirtual 161, 3) := by decide +kernel
theorem dX13_counting_17 : decode cX13_counting 17 = .ok (.istore_n 3, 1) := by decide +kernel
theorem dX13_counting_18 : decode cX13_counting 18 = .ok (.aload_n 0, 1) := by decide +kernel
theorem dX13_counting_19 : decode cX13_counting 19 = .ok (.getfield 25, 3) := by decide +kernel
theorem dX13_counting_22 : decode cX13_counting 22 = .ok (.iload_n 1, 1) := by decide +kernel
theorem dX13_counting_23 : decode cX13_counting 23 = .ok (.invokevirtual 158, 3) := by decide +kernel
theorem dX13_counting_26 : decode cX13_counting 26 = .ok (.bipush 6, 2) := by decide +kernel
theorem dX13_counting_28 : decode cX13_counting 28 = .ok (.if_icmp .ne 11, 3) := by decide +kernel
theorem dX13_counting_31 : decode cX13_counting 31 = .ok (.aload_n 0, 1) := by decide +kernel
theorem dX13_counting_32 : decode cX13_counting 32 = .ok (.iload_n 1, 1) := by decide +kernel
theorem dX13_counting_33 : decode cX13_counting 33 = .ok (.invokevirtual 255, 3) := by decide +kernel
theorem dX13_counting_36 : decode cX13_counting 36 = .ok (.goto 23, 3) := by decide +kernel
theorem dX13_counting_39 : decode cX13_counting 39 = .ok (.aload_n 0, 1) := by decide +kernel
theorem dX13_counting_40 : decode cX13_counting 40 = .ok (.getfield 25, 3) := by decide +kernel
theorem dX13_counting_43 : decode cX13_counting 43 = .ok (.iload_n 1, 1) := by decide +kernel
theorem dX13_counting_44 : decode cX13_counting 44 = .ok (.invokevirtual 158, 3) := by decide +kernel
theorem dX13_counting_47 : decode cX13_counting 47 = .ok (.bipush 11, 2) := by decide +kernel
theorem dX13_counting_49 : decode cX13_counting 49 = .ok (.if_icmp .eq 10, 3) := by decide +kernel
theorem dX13_counting_52 : decode cX13_counting 52 = .ok (.aload_n 0, 1) := by decide +kernel
theorem dX13_counting_53 : decode cX13_counting 53 = .ok (.iload_n 1, 1) := by decide +kernel
theorem dX13_counting_54 : decode cX13_counting 54 = .ok (.iconst 0, 1) := by decide +kernel
theorem dX13_counting_55 : decode cX13_counting 55 = .ok (.invokevirtual 261, 3) := by decide +kernel
theorem dX13_counting_58 : decode cX13_counting 58 = .ok (.pop, 1) := by decide +kernel
theorem dX13_counting_59 : decode cX13_counting 59 = .ok (.aload_n 0, 1) := by decide +kernel
theorem dX13_counting_60 : decode cX13_counting 60 = .ok (.iload_n 2, 1) := by decide +kernel
theorem dX13_counting_61 : decode cX13_counting 61 = .ok (.iload_n 3, 1) := by decide +kernel
theorem dX13_counting_62 : decode cX13_counting 62 = .ok (.aload_n 0, 1) := by decide +kernel
theorem dX13_counting_63 : decode cX13_counting 63 = .ok (.getfield 25, 3) := by decide +kernel
theorem dX13_counting_66 : decode cX13_counting 66 = .ok (.iload_n 3, 1) := by decide +kernel
theorem dX13_counting_67 : decode cX13_counting 67 = .ok (.invokevirtual 161, 3) := by decide +kernel
theorem dX13_counting_70 : decode cX13_counting 70 = .ok (.iconst 1, 1) := by decide +kernel
theorem dX13_counting_71 : decode cX13_counting 71 = .ok (.invokevirtual 267, 3) := by decide +kernel
theorem dX13_counting_74 : decode cX13_counting 74 = .ok (.return_, 1) := by decide +kernel
theorem dX13_switching_0 : decode cX13_switching 0 = .ok (.aload_n 0, 1) := by decide +kernel
theorem dX13_switching_1 : decode cX13_switching 1 = .ok (.getfield 131, 3) := by decide +kernel
theorem dX13_switching_4 : decode cX13_switching 4 = .ok (.istore_n 3, 1) := by decide +kernel
theorem dX13_switching_5 : decode cX13_switching 5 = .ok (.aload_n 0, 1) := by decide +kernel
theorem dX13_switching_6 : decode cX13_switching 6 = .ok (.aload_n 0, 1) := by decide +kernel
theorem dX13_switching_7 : decode cX13_switching 7 = .ok (.getfield 50, 3) := by decide +kernel
theorem dX13_switching_10 : decode cX13_switching 10 = .ok (.invokevirtual 85, 3) := by decide +kernel
theorem dX13_switching_13 : decode cX13_switching 13 = .ok (.putfield 131, 3) := by decide +kernel
theorem dX13_switching_16 : decode cX13_switching 16 = .ok (.aload_n 0, 1) := by decide +kernel
theorem dX13_switching_17 : decode cX13_switching 17 = .ok (.aload_n 0, 1) := by decide +kernel
theorem dX13_switching_18 : decode cX13_switching 18 = .ok (.aload_n 0, 1) := by decide +kernel
theorem dX13_switching_19 : decode cX13_switching 19 = .ok (.iload_n 2, 1) := by decide +kernel
theorem dX13_switching_20 : decode cX13_switching 20 = .ok (.iconst 0, 1) := by decide +kernel
theorem dX13_switching_21 : decode cX13_switching 21 = .ok (.invokevirtual 261, 3) := by decide +kernel
theorem dX13_switching_24 : decode cX13_switching 24 = .ok (.iconst 0, 1) := by decide +kernel
theorem dX13_switching_25 : decode cX13_switching 25 = .ok (.invokevirtual 285, 3) := by decide +kernel
theorem dX13_switching_28 : decode cX13_switching 28 = .ok (.iconst 5, 1) := by decide +kernel
theorem dX13_switching_29 : decode cX13_switching 29 = .ok (.invokevirtual 249, 3) := by decide +kernel
theorem dX13_switching_32 : decode cX13_switching 32 = .ok (.istore 4, 2) := by decide +kernel
theorem dX13_switching_34 : decode cX13_switching 34 = .ok (.aload_n 0, 1) := by decide +kernel
theorem dX13_switching_35 : decode cX13_switching 35 = .ok (.getfield 131, 3) := by decide +kernel
theorem dX13_switching_38 : decode cX13_switching 38 = .ok (.istore 5, 2) := by decide +kernel
theorem dX13_switching_40 : decode cX13_switching 40 = .ok (.aload_n 0, 1) := by decide +kernel
theorem dX13_switching_41 : decode cX13_switching 41 = .ok (.getfield 25, 3) := by decide +kernel
theorem dX13_switching_44 : decode cX13_switching 44 = .ok (.iload_n 2, 1) := by decide +kernel
theorem dX13_switching_45 : decode cX13_switching 45 = .ok (.invokevirtual 161, 3) := by decide +kernel
theorem dX13_switching_48 : decode cX13_switching 48 = .ok (.istore 6, 2) := by decide +kernel
theorem dX13_switching_50 : decode cX13_switching 50 = .ok (.iload 6, 2) := by decide +kernel
theorem dX13_switching_52 : decode cX13_switching 52 = .ok (.iconst (-1), 1) := by decide +kernel
theorem dX13_switching_53 : decode cX13_switching 53 = .ok (.if_icmp .eq 137, 3) := by decide +kernel
theorem dX13_switching_56 : decode cX13_switching 56 = .ok (.aload_n 0, 1) := by decide +kernel
theorem dX13_switching_57 : decode cX13_switching 57 = .ok (.getfield 25, 3) := by decide +kernel
theorem dX13_switching_60 : decode cX13_switching 60 = .ok (.iload 6, 2) := by decide +kernel
theorem dX13_switching_62 : decode cX13_switching 62 = .ok (.invokevirtual 158, 3) := by decide +kernel
theorem dX13_switching_65 : decode cX13_switching 65 = .ok (.bipush 18, 2) := by decide +kernel
theorem dX13_switching_67 : decode cX13_switching 67 = .ok (.if_icmp .ne 68, 3) := by decide +kernel
theorem dX13_switching_70 : decode cX13_switching 70 = .ok (.aload_n 0, 1) := by decide +kernel
theorem dX13_switching_71 : decode cX13_switching 71 = .ok (.getfield 25, 3) := by decide +kernel
theorem dX13_switching_74 : decode cX13_switching 74 = .ok (.iload 6, 2) := by decide +kernel
theorem dX13_switching_76 : decode cX13_switching 76 = .ok (.aload_n 0, 1) := by decide +kernel
theorem dX13_switching_77 : decode cX13_switching 77 = .ok (.getfield 50, 3) := by decide +kernel
theorem dX13_switching_80 : decode cX13_switching 80 = .ok (.invokevirtual 85, 3) := by decide +kernel
theorem dX13_switching_83 : decode cX13_switching 83 = .ok (.invokevirtual 288, 3) := by decide +kernel
theorem dX13_switching_86 : decode cX13_switching 86 = .ok (.aload_n 0, 1) := by decide +kernel
theorem dX13_switching_87 : decode cX13_switching 87 = .ok (.getfield 50, 3) := by decide +kernel
theorem dX13_switching_90 : decode cX13_switching 90 = .ok (.bipush 6, 2) := by decide +kernel
theorem dX13_switching_92 : decode cX13_switching 92 = .ok (.aload_n 0, 1) := by decide +kernel
theorem dX13_switching_93 : decode cX13_switching 93 = .ok (.getfield 25, 3) := by decide +kernel
theorem dX13_switching_96 : decode cX13_switching 96 = .ok (.aload_n 0, 1) := by decide +kernel
theorem dX13_switching_97 : decode cX13_switching 97 = .ok (.getfield 25, 3) := by decide +kernel
theorem dX13_switching_100 : decode cX13_switching 100 = .ok (.iload 6, 2) := by decide +kernel
theorem dX13_switching_102 : decode cX13_switching 102 = .ok (.invokevirtual 155, 3) := by decide +kernel
theorem dX13_switching_105 : decode cX13_switching 105 = .ok (.invokevirtual 291, 3) := by decide +kernel
theorem dX13_switching_108 : decode cX13_switching 108 = .ok (.invokevirtual 98, 3) := by decide +kernel
theorem dX13_switching_111 : decode cX13_switching 111 = .ok (.aload_n 0, 1) := by decide +kernel
theorem dX13_switching_112 : decode cX13_switching 112 = .ok (.getfield 50, 3) := by decide +kernel
theorem dX13_switching_115 : decode cX13_switching 115 = .ok (.iconst 0, 1) := by decide +kernel
theorem dX13_switching_116 : decode cX13_switching 116 = .ok (.iload 4, 2) := by decide +kernel
theorem dX13_switching_118 : decode cX13_switching 118 = .ok (.bipush 6, 2) := by decide +kernel
theorem dX13_switching_120 : decode cX13_switching 120 = .ok (.aload_n 0, 1) := by decide +kernel
theorem dX13_switching_121 : decode cX13_switching 121 = .ok (.getfield 25, 3) := by decide +kernel
theorem dX13_switching_124 : decode cX13_switching 124 = .ok (.iload 6, 2) := by decide +kernel
theorem dX13_switching_126 : decode cX13_switching 126 = .ok (.invokevirtual 213, 3) := by decide +kernel
theorem dX13_switching_129 : decode cX13_switching 129 = .ok (.invokevirtual 149, 3) := by decide +kernel
theorem dX13_switching_132 : decode cX13_switching 132 = .ok (.goto 44, 3) := by decide +kernel
theorem dX13_switching_135 : decode cX13_switching 135 = .ok (.aload_n 0, 1) := by decide +kernel
theorem dX13_switching_136 : decode cX13_switching 136 = .ok (.getfield 25, 3) := by decide +kernel
theorem dX13_switching_139 : decode cX13_switching 139 = .ok (.iload 6, 2) := by decide +kernel
theorem dX13_switching_141 : decode cX13_switching 141 = .ok (.invokevirtual 158, 3) := by decide +kernel
theorem dX13_switching_144 : decode cX13_switching 144 = .ok (.bipush 19, 2) := by decide +kernel
theorem dX13_switching_146 : decode cX13_switching 146 = .ok (.if_icmp .ne 30, 3) := by decide +kernel
theorem dX13_switching_149 : decode cX13_switching 149 = .ok (.aload_n 0, 1) := by decide +kernel
theorem dX13_switching_150 : decode cX13_switching 150 = .ok (.getfield 25, 3) := by decide +kernel
theorem dX13_switching_153 : decode cX13_switching 153 = .ok (.iload 6, 2) := by decide +kernel
theorem dX13_switching_155 : decode cX13_switching 155 = .ok (.aload_n 0, 1) := by decide +kernel
theorem dX13_switching_156 : decode cX13_switching 156 = .ok (.getfield 50, 3) := by decide +kernel
theorem dX13_switching_159 : decode cX13_switching 159 = .ok (.invokevirtual 85, 3) := by decide +kernel
theorem dX13_switching_162 : decode cX13_switching 162 = .ok (.invokevirtual 288, 3) := by decide +kernel
theorem dX13_switching_165 : decode cX13_switching 165 = .ok (.aload_n 0, 1) := by decide +kernel
theorem dX13_switching_166 : decode cX13_switching 166 = .ok (.getfield 25, 3) := by decide +kernel
theorem dX13_switching_169 : decode cX13_switching 169 = .ok (.iload 6, 2) := by decide +kernel
theorem dX13_switching_171 : decode cX13_switching 171 = .ok (.invokevirtual 213, 3) := by decide +kernel
theorem dX13_switching_174 : decode cX13_switching 174 = .ok (.istore 5, 2) := by decide +kernel
theorem dX13_switching_176 : decode cX13_switching 176 = .ok (.aload_n 0, 1) := by decide +kernel
theorem dX13_switching_177 : decode cX13_switching 177 = .ok (.getfield 25, 3) := by decide +kernel
theorem dX13_switching_180 : decode cX13_switching 180 = .ok (.iload 6, 2) := by decide +kernel
theorem dX13_switching_182 : decode cX13_switching 182 = .ok (.invokevirtual 161, 3) := by decide +kernel
theorem dX13_switching_185 : decode cX13_switching 185 = .ok (.istore 6, 2) := by decide +kernel
theorem dX13_switching_187 : decode cX13_switching 187 = .ok (.goto (-137), 3) := by decide +kernel
theorem dX13_switching_190 : decode cX13_switching 190 = .ok (.aload_n 0, 1) := by decide +kernel
theorem dX13_switching_191 : decode cX13_switching 191 = .ok (.getfield 50, 3) := by decide +kernel
theorem dX13_switching_194 : decode cX13_switching 194 = .ok (.iconst 0, 1) := by decide +kernel
theorem dX13_switching_195 : decode cX13_switching 195 = .ok (.iload 5, 2) := by decide +kernel
theorem dX13_switching_197 : decode cX13_switching 197 = .ok (.invokevirtual 94, 3) := by decide +kernel
theorem dX13_switching_200 : decode cX13_switching 200 = .ok (.aload_n 0, 1) := by decide +kernel
theorem dX13_switching_201 : decode cX13_switching 201 = .ok (.getfield 25, 3) := by decide +kernel
theorem dX13_switching_204 : decode cX13_switching 204 = .ok (.iload_n 2, 1) := by decide +kernel
theorem dX13_switching_205 : decode cX13_switching 205 = .ok (.invokevirtual 161, 3) := by decide +kernel
theorem dX13_switching_208 : decode cX13_switching 208 = .ok (.istore 6, 2) := by decide +kernel
theorem dX13_switching_210 : decode cX13_switching 210 = .ok (.iload 6, 2) := by decide +kernel
theorem dX13_switching_212 : decode cX13_switching 212 = .ok (.iconst (-1), 1) := by decide +kernel
theorem dX13_switching_213 : decode cX13_switching 213 = .ok (.if_icmp .eq 70, 3) := by decide +kernel
theorem dX13_switching_216 : decode cX13_switching 216 = .ok (.aload_n 0, 1) := by decide +kernel
theorem dX13_switching_217 : decode cX13_switching 217 = .ok (.getfield 25, 3) := by decide +kernel
theorem dX13_switching_220 : decode cX13_switching 220 = .ok (.iload 6, 2) := by decide +kernel
theorem dX13_switching_222 : decode cX13_switching 222 = .ok (.invokevirtual 158, 3) := by decide +kernel
theorem dX13_switching_225 : decode cX13_switching 225 = .ok (.bipush 18, 2) := by decide +kernel
theorem dX13_switching_227 : decode cX13_switching 227 = .ok (.if_icmp .eq 17, 3) := by decide +kernel
theorem dX13_switching_230 : decode cX13_switching 230 = .ok (.aload_n 0, 1) := by decide +kernel
theorem dX13_switching_231 : decode cX13_switching 231 = .ok (.getfield 25, 3) := by decide +kernel
theorem dX13_switching_234 : decode cX13_switching 234 = .ok (.iload 6, 2) := by decide +kernel
theorem dX13_switching_236 : decode cX13_switching 236 = .ok (.invokevirtual 158, 3) := by decide +kernel
theorem dX13_switching_239 : decode cX13_switching 239 = .ok (.bipush 19, 2) := by decide +kernel
theorem dX13_switching_241 : decode cX13_switching 241 = .ok (.if_icmp .ne 22, 3) := by decide +kernel
theorem dX13_switching_244 : decode cX13_switching 244 = .ok (.aload_n 0, 1) := by decide +kernel
theorem dX13_switching_245 : decode cX13_switching 245 = .ok (.getfield 50, 3) := by decide +kernel
theorem dX13_switching_248 : decode cX13_switching 248 = .ok (.aload_n 0, 1) := by decide +kernel
theorem dX13_switching_249 : decode cX13_switching 249 = .ok (.getfield 25, 3) := by decide +kernel
theorem dX13_switching_252 : decode cX13_switching 252 = .ok (.iload 6, 2) := by decide +kernel
theorem dX13_switching_254 : decode cX13_switching 254 = .ok (.invokevirtual 213, 3) := by decide +kernel
theorem dX13_switching_257 : decode cX13_switching 257 = .ok (.invokevirtual 104, 3) := by decide +kernel
theorem dX13_switching_260 : decode cX13_switching 260 = .ok (.goto 9, 3) := by decide +kernel
theorem dX13_switching_263 : decode cX13_switching 263 = .ok (.aload_n 0, 1) := by decide +kernel
theorem dX13_switching_264 : decode cX13_switching 264 = .ok (.iload 6, 2) := by decide +kernel
theorem dX13_switching_266 : decode cX13_switching 266 = .ok (.invokevirtual 255, 3) := by decide +kernel
theorem dX13_switching_269 : decode cX13_switching 269 = .ok (.aload_n 0, 1) := by decide +kernel
theorem dX13_switching_270 : decode cX13_switching 270 = .ok (.getfield 25, 3) := by decide +kernel
theorem dX13_switching_273 : decode cX13_switching 273 = .ok (.iload 6, 2) := by decide +kernel
theorem dX13_switching_275 : decode cX13_switching 275 = .ok (.invokevirtual 161, 3) := by decide +kernel
theorem dX13_switching_278 : decode cX13_switching 278 = .ok (.istore 6, 2) := by decide +kernel
theorem dX13_switching_280 : decode cX13_switching 280 = .ok (.goto (-70), 3) := by decide +kernel
theorem dX13_switching_283 : decode cX13_switching 283 = .ok (.aload_n 0, 1) := by decide +kernel
theorem dX13_switching_284 : decode cX13_switching 284 = .ok (.getfield 50, 3) := by decide +kernel
theorem dX13_switching_287 : decode cX13_switching 287 = .ok (.aload_n 0, 1) := by decide +kernel
theorem dX13_switching_288 : decode cX13_switching 288 = .ok (.getfield 131, 3) := by decide +kernel
theorem dX13_switching_291 : decode cX13_switching 291 = .ok (.invokevirtual 104, 3) := by decide +kernel
theorem dX13_switching_294 : decode cX13_switching 294 = .ok (.aload_n 0, 1) := by decide +kernel
theorem dX13_switching_295 : decode cX13_switching 295 = .ok (.iload_n 3, 1) := by decide +kernel
theorem dX13_switching_296 : decode cX13_switching 296 = .ok (.putfield 131, 3) := by decide +kernel
theorem dX13_switching_299 : decode cX13_switching 299 = .ok (.return_, 1) := by decide +kernel
theorem dX13_returning_0 : decode cX13_returning 0 = .ok (.iload_n 1, 1) := by decide +kernel
theorem dX13_returning_1 : decode cX13_returning 1 = .ok (.iconst (-1), 1) := by decide +kernel
theorem dX13_returning_2 : decode cX13_returning 2 = .ok (.if_icmp .ne 16, 3) := by decide +kernel
theorem dX13_returning_5 : decode cX13_returning 5 = .ok (.aload_n 0, 1) := by decide +kernel
theorem dX13_returning_6 : decode cX13_returning 6 = .ok (.getfield 50, 3) := by decide +kernel
theorem dX13_returning_9 : decode cX13_returning 9 = .ok (.bipush 10, 2) := by decide +kernel
theorem dX13_returning_11 : decode cX13_returning 11 = .ok (.iconst 0, 1) := by decide +kernel
theorem dX13_returning_12 : decode cX13_returning 12 = .ok (.invokevirtual 167, 3) := by decide +kernel
theorem dX13_returning_15 : decode cX13_returning 15 = .ok (.goto 51, 3) := by decide +kernel
theorem dX13_returning_18 : decode cX13_returning 18 = .ok (.aload_n 0, 1) := by decide +kernel
theorem dX13_returning_19 : decode cX13_returning 19 = .ok (.aload_n 0, 1) := by decide +kernel
theorem dX13_returning_20 : decode cX13_returning 20 = .ok (.iload_n 1, 1) := by decide +kernel
theorem dX13_returning_21 : decode cX13_returning 21 = .ok (.iconst 0, 1) := by decide +kernel
theorem dX13_returning_22 : decode cX13_returning 22 = .ok (.invokevirtual 261, 3) := by decide +kernel
theorem dX13_returning_25 : decode cX13_returning 25 = .ok (.iconst 5, 1) := by decide +kernel
theorem dX13_returning_26 : decode cX13_returning 26 = .ok (.invokevirtual 249, 3) := by decide +kernel
theorem dX13_returning_29 : decode cX13_returning 29 = .ok (.istore_n 2, 1) := by decide +kernel
theorem dX13_returning_30 : decode cX13_returning 30 = .ok (.aload_n 0, 1) := by decide +kernel
theorem dX13_returning_31 : decode cX13_returning 31 = .ok (.getfield 128, 3) := by decide +kernel
theorem dX13_returning_34 : decode cX13_returning 34 = .ok (.iconst 1, 1) := by decide +kernel
theorem dX13_returning_35 : decode cX13_returning 35 = .ok (.if_icmp .ne 21, 3) := by decide +kernel
theorem dX13_returning_38 : decode cX13_returning 38 = .ok (.aload_n 0, 1) := by decide +kernel
theorem dX13_returning_39 : decode cX13_returning 39 = .ok (.getfield 50, 3) := by decide +kernel
theorem dX13_returning_42 : decode cX13_returning 42 = .ok (.bipush 7, 2) := by decide +kernel
theorem dX13_returning_44 : decode cX13_returning 44 = .ok (.bipush 10, 2) := by decide +kernel
theorem dX13_returning_46 : decode cX13_returning 46 = .ok (.iload_n 2, 1) := by decide +kernel
theorem dX13_returning_47 : decode cX13_returning 47 = .ok (.sipush 255, 3) := by decide +kernel
theorem dX13_returning_50 : decode cX13_returning 50 = .ok (.invokevirtual 179, 3) := by decide +kernel
theorem dX13_returning_53 : decode cX13_returning 53 = .ok (.goto 13, 3) := by decide +kernel
theorem dX13_returning_56 : decode cX13_returning 56 = .ok (.aload_n 0, 1) := by decide +kernel
theorem dX13_returning_57 : decode cX13_returning 57 = .ok (.getfield 50, 3) := by decide +kernel
theorem dX13_returning_60 : decode cX13_returning 60 = .ok (.bipush 10, 2) := by decide +kernel
theorem dX13_returning_62 : decode cX13_returning 62 = .ok (.iload_n 2, 1) := by decide +kernel
theorem dX13_returning_63 : decode cX13_returning 63 = .ok (.invokevirtual 167, 3) := by decide +kernel
theorem dX13_returning_66 : decode cX13_returning 66 = .ok (.aload_n 0, 1) := by decide +kernel
theorem dX13_returning_67 : decode cX13_returning 67 = .ok (.getfield 50, 3) := by decide +kernel
theorem dX13_returning_70 : decode cX13_returning 70 = .ok (.iconst 0, 1) := by decide +kernel
theorem dX13_returning_71 : decode cX13_returning 71 = .ok (.aload_n 0, 1) := by decide +kernel
theorem dX13_returning_72 : decode cX13_returning 72 = .ok (.getfield 120, 3) := by decide +kernel
theorem dX13_returning_75 : decode cX13_returning 75 = .ok (.invokevirtual 94, 3) := by decide +kernel
theorem dX13_returning_78 : decode cX13_returning 78 = .ok (.return_, 1) := by decide +kernel
theorem dX13_finish_0 : decode cX13_finish 0 = .ok (.bipush (-4), 2) := by decide +kernel
theorem dX13_finish_2 : decode cX13_finish 2 = .ok (.aload_n 0, 1) := by decide +kernel
theorem dX13_finish_3 : decode cX13_finish 3 = .ok (.getfield 68, 3) := by decide +kernel
theorem dX13_finish_6 : decode cX13_finish 6 = .ok (.invokevirtual 189, 3) := by decide +kernel
theorem dX13_finish_9 : decode cX13_finish 9 = .ok (.iconst 1, 1) := by decide +kernel
theorem dX13_finish_10 : decode cX13_finish 10 = .ok (.iadd, 1) := by decide +kernel
theorem dX13_finish_11 : decode cX13_finish 11 = .ok (.imul, 1) := by decide +kernel
theorem dX13_finish_12 : decode cX13_finish 12 = .ok (.istore_n 2, 1) := by decide +kernel
theorem dX13_finish_13 : decode cX13_finish 13 = .ok (.aload_n 0, 1) := by decide +kernel
theorem dX13_finish_14 : decode cX13_finish 14 = .ok (.getfield 50, 3) := by decide +kernel
theorem dX13_finish_17 : decode cX13_finish 17 = .ok (.iconst 5, 1) := by decide +kernel
theorem dX13_finish_18 : decode cX13_finish 18 = .ok (.bipush 8, 2) := by decide +kernel
theorem dX13_finish_20 : decode cX13_finish 20 = .ok (.invokevirtual 167, 3) := by decide +kernel
theorem dX13_finish_23 : decode cX13_finish 23 = .ok (.aload_n 0, 1) := by decide +kernel
theorem dX13_finish_24 : decode cX13_finish 24 = .ok (.getfield 50, 3) := by decide +kernel
theorem dX13_finish_27 : decode cX13_finish 27 = .ok (.iconst 1, 1) := by decide +kernel
theorem dX13_finish_28 : decode cX13_finish 28 = .ok (.iconst 5, 1) := by decide +kernel
theorem dX13_finish_29 : decode cX13_finish 29 = .ok (.iload_n 2, 1) := by decide +kernel
theorem dX13_finish_30 : decode cX13_finish 30 = .ok (.bipush 7, 2) := by decide +kernel
theorem dX13_finish_32 : decode cX13_finish 32 = .ok (.invokevirtual 221, 3) := by decide +kernel
theorem dX13_finish_35 : decode cX13_finish 35 = .ok (.aload_n 0, 1) := by decide +kernel
theorem dX13_finish_36 : decode cX13_finish 36 = .ok (.getfield 50, 3) := by decide +kernel
theorem dX13_finish_39 : decode cX13_finish 39 = .ok (.bipush 8, 2) := by decide +kernel
theorem dX13_finish_41 : decode cX13_finish 41 = .ok (.iconst 5, 1) := by decide +kernel
theorem dX13_finish_42 : decode cX13_finish 42 = .ok (.iload_n 2, 1) := by decide +kernel
theorem dX13_finish_43 : decode cX13_finish 43 = .ok (.iconst 4, 1) := by decide +kernel
theorem dX13_finish_44 : decode cX13_finish 44 = .ok (.isub, 1) := by decide +kernel
theorem dX13_finish_45 : decode cX13_finish 45 = .ok (.bipush 7, 2) := by decide +kernel
theorem dX13_finish_47 : decode cX13_finish 47 = .ok (.invokevirtual 221, 3) := by decide +kernel
theorem dX13_finish_50 : decode cX13_finish 50 = .ok (.iconst 0, 1) := by decide +kernel
theorem dX13_finish_51 : decode cX13_finish 51 = .ok (.istore_n 3, 1) := by decide +kernel
theorem dX13_finish_52 : decode cX13_finish 52 = .ok (.iload_n 3, 1) := by decide +kernel
theorem dX13_finish_53 : decode cX13_finish 53 = .ok (.aload_n 0, 1) := by decide +kernel
theorem dX13_finish_54 : decode cX13_finish 54 = .ok (.getfield 68, 3) := by decide +kernel
theorem dX13_finish_57 : decode cX13_finish 57 = .ok (.invokevirtual 195, 3) := by decide +kernel
theorem dX13_finish_60 : decode cX13_finish 60 = .ok (.if_icmp .ge 31, 3) := by decide +kernel
theorem dX13_finish_63 : decode cX13_finish 63 = .ok (.aload_n 0, 1) := by decide +kernel
theorem dX13_finish_64 : decode cX13_finish 64 = .ok (.getfield 50, 3) := by decide +kernel
theorem dX13_finish_67 : decode cX13_finish 67 = .ok (.iload_n 3, 1) := by decide +kernel
theorem dX13_finish_68 : decode cX13_finish 68 = .ok (.invokestatic 198, 3) := by decide +kernel
theorem dX13_finish_71 : decode cX13_finish 71 = .ok (.iconst 5, 1) := by decide +kernel
theorem dX13_finish_72 : decode cX13_finish 72 = .ok (.iload_n 2, 1) := by decide +kernel
theorem dX13_finish_73 : decode cX13_finish 73 = .ok (.bipush 8, 2) := by decide +kernel
theorem dX13_finish_75 : decode cX13_finish 75 = .ok (.isub, 1) := by decide +kernel
theorem dX13_finish_76 : decode cX13_finish 76 = .ok (.iconst 4, 1) := by decide +kernel
theorem dX13_finish_77 : decode cX13_finish 77 = .ok (.iload_n 3, 1) := by decide +kernel
theorem dX13_finish_78 : decode cX13_finish 78 = .ok (.imul, 1) := by decide +kernel
theorem dX13_finish_79 : decode cX13_finish 79 = .ok (.isub, 1) := by decide +kernel
theorem dX13_finish_80 : decode cX13_finish 80 = .ok (.bipush 7, 2) := by decide +kernel
theorem dX13_finish_82 : decode cX13_finish 82 = .ok (.invokevirtual 221, 3) := by decide +kernel
theorem dX13_finish_85 : decode cX13_finish 85 = .ok (.iinc 3 1, 3) := by decide +kernel
theorem dX13_finish_88 : decode cX13_finish 88 = .ok (.goto (-36), 3) := by decide +kernel
theorem dX13_finish_91 : decode cX13_finish 91 = .ok (.aload_n 0, 1) := by decide +kernel
theorem dX13_finish_92 : decode cX13_finish 92 = .ok (.getfield 50, 3) := by decide +kernel
theorem dX13_finish_95 : decode cX13_finish 95 = .ok (.iconst 2, 1) := by decide +kernel
theorem dX13_finish_96 : decode cX13_finish 96 = .ok (.iconst 5, 1) := by decide +kernel
theorem dX13_finish_97 : decode cX13_finish 97 = .ok (.invokevirtual 167, 3) := by decide +kernel
theorem dX13_finish_100 : decode cX13_finish 100 = .ok (.aload_n 0, 1) := by decide +kernel
theorem dX13_finish_101 : decode cX13_finish 101 = .ok (.getfield 50, 3) := by decide +kernel
theorem dX13_finish_104 : decode cX13_finish 104 = .ok (.iconst 4, 1) := by decide +kernel
theorem dX13_finish_105 : decode cX13_finish 105 = .ok (.iconst 4, 1) := by decide +kernel
theorem dX13_finish_106 : decode cX13_finish 106 = .ok (.iload_n 1, 1) := by decide +kernel
theorem dX13_finish_107 : decode cX13_finish 107 = .ok (.bipush 6, 2) := by decide +kernel
theorem dX13_finish_109 : decode cX13_finish 109 = .ok (.invokevirtual 143, 3) := by decide +kernel
theorem dX13_finish_112 : decode cX13_finish 112 = .ok (.aload_n 0, 1) := by decide +kernel
theorem dX13_finish_113 : decode cX13_finish 113 = .ok (.getfield 50, 3) := by decide +kernel
theorem dX13_finish_116 : decode cX13_finish 116 = .ok (.ldc 227, 2) := by decide +kernel
theorem dX13_finish_118 : decode cX13_finish 118 = .ok (.invokevirtual 228, 3) := by decide +kernel
theorem dX13_finish_121 : decode cX13_finish 121 = .ok (.return_, 1) := by decide +kernel
theorem dX13_address_2_0 : decode cX13_address_2 0 = .ok (.aload_n 0, 1) := by decide +kernel
theorem dX13_address_2_1 : decode cX13_address_2 1 = .ok (.getfield 15, 3) := by decide +kernel
theorem dX13_address_2_4 : decode cX13_address_2 4 = .ok (.iload_n 1, 1) := by decide +kernel
theorem dX13_address_2_5 : decode cX13_address_2 5 = .ok (.iaload, 1) := by decide +kernel
theorem dX13_address_2_6 : decode cX13_address_2 6 = .ok (.ireturn, 1) := by decide +kernel
theorem dX14_init_0 : decode cX14_init 0 = .ok (.aload_n 0, 1) := by decide +kernel
theorem dX14_init_1 : decode cX14_init 1 = .ok (.invokespecial 3, 3) := by decide +kernel
theorem dX14_init_4 : decode cX14_init 4 = .ok (.aload_n 0, 1) := by decide +kernel
theorem dX14_init_5 : decode cX14_init 5 = .ok (.aload_n 1, 1) := by decide +kernel
theorem dX14_init_6 : decode cX14_init 6 = .ok (.putfield 9, 3) := by decide +kernel
theorem dX14_init_9 : decode cX14_init 9 = .ok (.return_, 1) := by decide +kernel
theorem dX14_isNumber_0 : decode cX14_isNumber 0 = .ok (.aload_n 0, 1) := by decide +kernel
theorem dX14_isNumber_1 : decode cX14_isNumber 1 = .ok (.getfield 9, 3) := by decide +kernel
theorem dX14_isNumber_4 : decode cX14_isNumber 4 = .ok (.iload_n 1, 1) := by decide +kernel
theorem dX14_isNumber_5 : decode cX14_isNumber 5 = .ok (.invokevirtual 19, 3) := by decide +kernel
theorem dX14_isNumber_8 : decode cX14_isNumber 8 = .ok (.istore_n 2, 1) := by decide +kernel
theorem dX14_isNumber_9 : decode cX14_isNumber 9 = .ok (.aload_n 0, 1) := by decide +kernel
theorem dX14_isNumber_10 : decode cX14_isNumber 10 = .ok (.getfield 9, 3) := by decide +kernel
theorem dX14_isNumber_13 : decode cX14_isNumber 13 = .ok (.iload_n 1, 1) := by decide +kernel
theorem dX14_isNumber_14 : decode cX14_isNumber 14 = .ok (.invokevirtual 25, 3) := by decide +kernel
theorem dX14_isNumber_17 : decode cX14_isNumber 17 = .ok (.tableswitch 252 31 38 #[191, 245, 252, 92, 252, 252, 47, 61], 47) := by decide +kernel
theorem dX14_isNumber_64 : decode cX14_isNumber 64 = .ok (.aload_n 0, 1) := by decide +kernel
theorem dX14_isNumber_65 : decode cX14_isNumber 65 = .ok (.aload_n 0, 1) := by decide +kernel
theorem dX14_isNumber_66 : decode cX14_isNumber 66 = .ok (.getfield 9, 3) := by decide +kernel
theorem dX14_isNumber_69 : decode cX14_isNumber 69 = .ok (.iload_n 1, 1) := by decide +kernel
theorem dX14_isNumber_70 : decode cX14_isNumber 70 = .ok (.invokevirtual 28, 3) := by decide +kernel
theorem dX14_isNumber_73 : decode cX14_isNumber 73 = .ok (.putfield 15, 3) := by decide +kernel
theorem dX14_isNumber_76 : decode cX14_isNumber 76 = .ok (.iconst 1, 1) := by decide +kernel
theorem dX14_isNumber_77 : decode cX14_isNumber 77 = .ok (.ireturn, 1) := by decide +kernel
theorem dX14_isNumber_78 : decode cX14_isNumber 78 = .ok (.aload_n 0, 1) := by decide +kernel
theorem dX14_isNumber_79 : decode cX14_isNumber 79 = .ok (.aload_n 0, 1) := by decide +kernel
theorem dX14_isNumber_80 : decode cX14_isNumber 80 = .ok (.getfield 9, 3) := by decide +kernel
theorem dX14_isNumber_83 : decode cX14_isNumber 83 = .ok (.iload_n 1, 1) := by decide +kernel
theorem dX14_isNumber_84 : decode cX14_isNumber 84 = .ok (.invokevirtual 30, 3) := by decide +kernel
theorem dX14_isNumber_87 : decode cX14_isNumber 87 = .ok (.putfield 15, 3) := by decide +kernel
theorem dX14_isNumber_90 : decode cX14_isNumber 90 = .ok (.aload_n 0, 1) := by decide +kernel
theorem dX14_isNumber_91 : decode cX14_isNumber 91 = .ok (.getfield 9, 3) := by decide +kernel
theorem dX14_isNumber_94 : decode cX14_isNumber 94 = .ok (.iload_n 1, 1) := by decide +kernel
theorem dX14_isNumber_95 : decode cX14_isNumber 95 = .ok (.invokevirtual 33, 3) := by decide +kernel
theorem dX14_isNumber_98 : decode cX14_isNumber 98 = .ok (.bipush (-2), 2) := by decide +kernel
theorem dX14_isNumber_100 : decode cX14_isNumber 100 = .ok (.if_icmp .ne 7, 3) := by decide +kernel
theorem dX14_isNumber_103 : decode cX14_isNumber 103 = .ok (.iconst 1, 1) := by decide +kernel
theorem dX14_isNumber_104 : decode cX14_isNumber 104 = .ok (.goto 4, 3) := by decide +kernel
theorem dX14_isNumber_107 : decode cX14_isNumber 107 = .ok (.iconst 0, 1) := by decide +kernel
theorem dX14_isNumber_108 : decode cX14_isNumber 108 = .ok (.ireturn, 1) := by decide +kernel
theorem dX14_isNumber_109 : decode cX14_isNumber 109 = .ok (.aload_n 0, 1) := by decide +kernel
theorem dX14_isNumber_110 : decode cX14_isNumber 110 = .ok (.iload_n 2, 1) := by decide +kernel
theorem dX14_isNumber_111 : decode cX14_isNumber 111 = .ok (.invokevirtual 36, 3) := by decide +kernel
theorem dX14_isNumber_114 : decode cX14_isNumber 114 = .ok (.ifCond .eq 92, 3) := by decide +kernel
theorem dX14_isNumber_117 : decode cX14_isNumber 117 = .ok (.aload_n 0, 1) := by decide +kernel
theorem dX14_isNumber_118 : decode cX14_isNumber 118 = .ok (.aload_n 0, 1) := by decide +kernel
theorem dX14_isNumber_119 : decode cX14_isNumber 119 = .ok (.getfield 9, 3) := by decide +kernel
theorem dX14_isNumber_122 : decode cX14_isNumber 122 = .ok (.iload_n 1, 1) := by decide +kernel
theorem dX14_isNumber_123 : decode cX14_isNumber 123 = .ok (.invokevirtual 40, 3) := by decide +kernel
theorem dX14_isNumber_126 : decode cX14_isNumber 126 = .ok (.bipush 43, 2) := by decide +kernel
theorem dX14_isNumber_128 : decode cX14_isNumber 128 = .ok (.if_icmp .ne 10, 3) := by decide +kernel
theorem dX14_isNumber_131 : decode cX14_isNumber 131 = .ok (.aload_n 0, 1) := by decide +kernel
theorem dX14_isNumber_132 : decode cX14_isNumber 132 = .ok (.getfield 15, 3) := by decide +kernel
theorem dX14_isNumber_135 : decode cX14_isNumber 135 = .ok (.goto 61, 3) := by decide +kernel
theorem dX14_isNumber_138 : decode cX14_isNumber 138 = .ok (.aload_n 0, 1) := by decide +kernel
theorem dX14_isNumber_139 : decode cX14_isNumber 139 = .ok (.getfield 9, 3) := by decide +kernel
theorem dX14_isNumber_142 : decode cX14_isNumber 142 = .ok (.iload_n 1, 1) := by decide +kernel
theorem dX14_isNumber_143 : decode cX14_isNumber 143 = .ok (.invokevirtual 40, 3) := by decide +kernel
theorem dX14_isNumber_146 : decode cX14_isNumber 146 = .ok (.bipush 45, 2) := by decide +kernel
theorem dX14_isNumber_148 : decode cX14_isNumber 148 = .ok (.if_icmp .ne 11, 3) := by decide +kernel
theorem dX14_isNumber_151 : decode cX14_isNumber 151 = .ok (.aload_n 0, 1) := by decide +kernel
theorem dX14_isNumber_152 : decode cX14_isNumber 152 = .ok (.getfield 15, 3) := by decide +kernel
theorem dX14_isNumber_155 : decode cX14_isNumber 155 = .ok (.ineg, 1) := by decide +kernel
theorem dX14_isNumber_156 : decode cX14_isNumber 156 = .ok (.goto 40, 3) := by decide +kernel
theorem dX14_isNumber_159 : decode cX14_isNumber 159 = .ok (.aload_n 0, 1) := by decide +kernel
theorem dX14_isNumber_160 : decode cX14_isNumber 160 = .ok (.getfield 9, 3) := by decide +kernel
theorem dX14_isNumber_163 : decode cX14_isNumber 163 = .ok (.iload_n 1, 1) := by decide +kernel
theorem dX14_isNumber_164 : decode cX14_isNumber 164 = .ok (.invokevirtual 40, 3) := by decide +kernel
theorem dX14_isNumber_167 : decode cX14_isNumber 167 = .ok (.bipush 126, 2) := by decide +kernel
theorem dX14_isNumber_169 : decode cX14_isNumber 169 = .ok (.if_icmp .ne 12, 3) := by decide +kernel
theorem dX14_isNumber_172 : decode cX14_isNumber 172 = .ok (.aload_n 0, 1) := by decide +kernel
theorem dX14_isNumber_173 : decode cX14_isNumber 173 = .ok (.getfield 15, 3) := by decide +kernel
theorem dX14_isNumber_176 : decode cX14_isNumber 176 = .ok (.iconst (-1), 1) := by decide +kernel
theorem dX14_isNumber_177 : decode cX14_isNumber 177 = .ok (.ixor, 1) := by decide +kernel
theorem dX14_isNumber_178 : decode cX14_isNumber 178 = .ok (.goto 18, 3) := by decide +kernel
theorem dX14_isNumber_181 : decode cX14_isNumber 181 = .ok (.aload_n 0, 1) := by decide +kernel
theorem dX14_isNumber_182 : decode cX14_isNumber 182 = .ok (.getfield 15, 3) := by decide +kernel
theorem dX14_isNumber_185 : decode cX14_isNumber 185 = .ok (.ifCond .ne 7, 3) := by decide +kernel
theorem dX14_isNumber_188 : decode cX14_isNumber 188 = .ok (.iconst 1, 1) := by decide +kernel
theorem dX14_isNumber_189 : decode cX14_isNumber 189 = .ok (.goto 4, 3) := by decide +kernel
theorem dX14_isNumber_192 : decode cX14_isNumber 192 = .ok (.iconst 0, 1) := by decide +kernel
theorem dX14_isNumber_193 : decode cX14_isNumber 193 = .ok (.invokestatic 43, 3) := by decide +kernel
theorem dX14_isNumber_196 : decode cX14_isNumber 196 = .ok (.invokevirtual 47, 3) := by decide +kernel
theorem dX14_isNumber_199 : decode cX14_isNumber 199 = .ok (.ifCond .eq 7, 3) := by decide +kernel
theorem dX14_isNumber_202 : decode cX14_isNumber 202 = .ok (.iconst 1, 1) := by decide +kernel
theorem dX14_isNumber_203 : decode cX14_isNumber 203 = .ok (.goto 4, 3) := by decide +kernel
theorem dX14_isNumber_206 : decode cX14_isNumber 206 = .ok (.iconst 0, 1) := by decide +kernel
theorem dX14_isNumber_207 : decode cX14_isNumber 207 = .ok (.ireturn, 1) := by decide +kernel
theorem dX14_isNumber_208 : decode cX14_isNumber 208 = .ok (.aload_n 0, 1) := by decide +kernel
theorem dX14_isNumber_209 : decode cX14_isNumber 209 = .ok (.iload_n 2, 1) := by decide +kernel
theorem dX14_isNumber_210 : decode cX14_isNumber 210 = .ok (.invokevirtual 36, 3) := by decide +kernel
theorem dX14_isNumber_213 : decode cX14_isNumber 213 = .ok (.ifCond .eq 47, 3) := by decide +kernel
theorem dX14_isNumber_216 : decode cX14_isNumber 216 = .ok (.aload_n 0, 1) := by decide +kernel
theorem dX14_isNumber_217 : decode cX14_isNumber 217 = .ok (.aload_n 0, 1) := by decide +kernel
theorem dX14_isNumber_218 : decode cX14_isNumber 218 = .ok (.getfield 15, 3) := by decide +kernel
theorem dX14_isNumber_221 : decode cX14_isNumber 221 = .ok (.ifCond .eq 14, 3) := by decide +kernel
theorem dX14_isNumber_224 : decode cX14_isNumber 224 = .ok (.aload_n 0, 1) := by decide +kernel
theorem dX14_isNumber_225 : decode cX14_isNumber 225 = .ok (.getfield 9, 3) := by decide +kernel
theorem dX14_isNumber_228 : decode cX14_isNumber 228 = .ok (.iload_n 2, 1) := by decide +kernel
theorem dX14_isNumber_229 : decode cX14_isNumber 229 = .ok (.invokevirtual 50, 3) := by decide +kernel
theorem dX14_isNumber_232 : decode cX14_isNumber 232 = .ok (.goto 18, 3) := by decide +kernel
theorem dX14_isNumber_235 : decode cX14_isNumber 235 = .ok (.aload_n 0, 1) := by decide +kernel
theorem dX14_isNumber_236 : decode cX14_isNumber 236 = .ok (.getfield 9, 3) := by decide +kernel
theorem dX14_isNumber_239 : decode cX14_isNumber 239 = .ok (.aload_n 0, 1) := by decide +kernel
theorem dX14_isNumber_240 : decode cX14_isNumber 240 = .ok (.getfield 9, 3) := by decide +kernel
theorem dX14_isNumber_243 : decode cX14_isNumber 243 = .ok (.iload_n 2, 1) := by decide +kernel
theorem dX14_isNumber_244 : decode cX14_isNumber 244 = .ok (.invokevirtual 50, 3) := by decide +kernel
theorem dX14_isNumber_247 : decode cX14_isNumber 247 = .ok (.invokevirtual 50, 3) := by decide +kernel
theorem dX14_isNumber_250 : decode cX14_isNumber 250 = .ok (.invokevirtual 36, 3) := by decide +kernel
theorem dX14_isNumber_253 : decode cX14_isNumber 253 = .ok (.ifCond .eq 7, 3) := by decide +kernel
theorem dX14_isNumber_256 : decode cX14_isNumber 256 = .ok (.iconst 1, 1) := by decide +kernel
theorem dX14_isNumber_257 : decode cX14_isNumber 257 = .ok (.goto 4, 3) := by decide +kernel
theorem dX14_isNumber_260 : decode cX14_isNumber 260 = .ok (.iconst 0, 1) := by decide +kernel
theorem dX14_isNumber_261 : decode cX14_isNumber 261 = .ok (.ireturn, 1) := by decide +kernel
theorem dX14_isNumber_262 : decode cX14_isNumber 262 = .ok (.aload_n 0, 1) := by decide +kernel
theorem dX14_isNumber_263 : decode cX14_isNumber 263 = .ok (.iload_n 1, 1) := by decide +kernel
theorem dX14_isNumber_264 : decode cX14_isNumber 264 = .ok (.iload_n 2, 1) := by decide +kernel
theorem dX14_isNumber_265 : decode cX14_isNumber 265 = .ok (.invokevirtual 53, 3) := by decide +kernel
theorem dX14_isNumber_268 : decode cX14_isNumber 268 = .ok (.ireturn, 1) := by decide +kernel
theorem dX14_isNumber_269 : decode cX14_isNumber 269 = .ok (.iconst 0, 1) := by decide +kernel
theorem dX14_isNumber_270 : decode cX14_isNumber 270 = .ok (.ireturn, 1) := by decide +kernel
theorem dX14_truth_0 : decode cX14_truth 0 = .ok (.iload_n 0, 1) := by decide +kernel
theorem dX14_truth_1 : decode cX14_truth 1 = .ok (.ifCond .eq 7, 3) := by decide +kernel
theorem dX14_truth_4 : decode cX14_truth 4 = .ok (.iconst 1, 1) := by decide +kernel
theorem dX14_truth_5 : decode cX14_truth 5 = .ok (.goto 4, 3) := by decide +kernel
theorem dX14_truth_8 : decode cX14_truth 8 = .ok (.iconst 0, 1) := by decide +kernel
theorem dX14_truth_9 : decode cX14_truth 9 = .ok (.ireturn, 1) := by decide +kernel
theorem dX14_told_0 : decode cX14_told 0 = .ok (.aload_n 0, 1) := by decide +kernel
theorem dX14_told_1 : decode cX14_told 1 = .ok (.iload_n 1, 1) := by decide +kernel
theorem dX14_told_2 : decode cX14_told 2 = .ok (.putfield 15, 3) := by decide +kernel
theorem dX14_told_5 : decode cX14_told 5 = .ok (.iconst 1, 1) := by decide +kernel
theorem dX14_told_6 : decode cX14_told 6 = .ok (.ireturn, 1) := by decide +kernel
theorem dX14_isChain_0 : decode cX14_isChain 0 = .ok (.aload_n 0, 1) := by decide +kernel
theorem dX14_isChain_1 : decode cX14_isChain 1 = .ok (.iload_n 2, 1) := by decide +kernel
theorem dX14_isChain_2 : decode cX14_isChain 2 = .ok (.invokevirtual 36, 3) := by decide +kernel
theorem dX14_isChain_5 : decode cX14_isChain 5 = .ok (.istore_n 3, 1) := by decide +kernel
theorem dX14_isChain_6 : decode cX14_isChain 6 = .ok (.aload_n 0, 1) := by decide +kernel
theorem dX14_isChain_7 : decode cX14_isChain 7 = .ok (.getfield 9, 3) := by decide +kernel
theorem dX14_isChain_10 : decode cX14_isChain 10 = .ok (.iload_n 1, 1) := by decide +kernel
theorem dX14_isChain_11 : decode cX14_isChain 11 = .ok (.invokevirtual 28, 3) := by decide +kernel
theorem dX14_isChain_14 : decode cX14_isChain 14 = .ok (.istore 4, 2) := by decide +kernel
theorem dX14_isChain_16 : decode cX14_isChain 16 = .ok (.aload_n 0, 1) := by decide +kernel
theorem dX14_isChain_17 : decode cX14_isChain 17 = .ok (.getfield 15, 3) := by decide +kernel
theorem dX14_isChain_20 : decode cX14_isChain 20 = .ok (.istore 5, 2) := by decide +kernel
theorem dX14_isChain_22 : decode cX14_isChain 22 = .ok (.aload_n 0, 1) := by decide +kernel
theorem dX14_isChain_23 : decode cX14_isChain 23 = .ok (.getfield 9, 3) := by decide +kernel
theorem dX14_isChain_26 : decode cX14_isChain 26 = .ok (.iload_n 2, 1) := by decide +kernel
theorem dX14_isChain_27 : decode cX14_isChain 27 = .ok (.invokevirtual 50, 3) := by decide +kernel
theorem dX14_isChain_30 : decode cX14_isChain 30 = .ok (.istore 6, 2) := by decide +kernel
theorem dX14_isChain_32 : decode cX14_isChain 32 = .ok (.iload 6, 2) := by decide +kernel
theorem dX14_isChain_34 : decode cX14_isChain 34 = .ok (.iconst (-1), 1) := by decide +kernel
theorem dX14_isChain_35 : decode cX14_isChain 35 = .ok (.if_icmp .eq 186, 3) := by decide +kernel
theorem dX14_isChain_38 : decode cX14_isChain 38 = .ok (.iload_n 3, 1) := by decide +kernel
theorem dX14_isChain_39 : decode cX14_isChain 39 = .ok (.ifCond .eq 182, 3) := by decide +kernel
theorem dX14_isChain_42 : decode cX14_isChain 42 = .ok (.iload 4, 2) := by decide +kernel
theorem dX14_isChain_44 : decode cX14_isChain 44 = .ok (.iconst 2, 1) := by decide +kernel
theorem dX14_isChain_45 : decode cX14_isChain 45 = .ok (.if_icmp .gt 27, 3) := by decide +kernel
theorem dX14_isChain_48 : decode cX14_isChain 48 = .ok (.iload 5, 2) := by decide +kernel
theorem dX14_isChain_50 : decode cX14_isChain 50 = .ok (.ifCond .ne 7, 3) := by decide +kernel
theorem dX14_isChain_53 : decode cX14_isChain 53 = .ok (.iconst 1, 1) := by decide +kernel
theorem dX14_isChain_54 : decode cX14_isChain 54 = .ok (.goto 4, 3) := by decide +kernel
theorem dX14_isChain_57 : decode cX14_isChain 57 = .ok (.iconst 0, 1) := by decide +kernel
theorem dX14_isChain_58 : decode cX14_isChain 58 = .ok (.iload 4, 2) := by decide +kernel
theorem dX14_isChain_60 : decode cX14_isChain 60 = .ok (.iconst 1, 1) := by decide +kernel
theorem dX14_isChain_61 : decode cX14_isChain 61 = .ok (.if_icmp .ne 7, 3) := by decide +kernel
theorem dX14_isChain_64 : decode cX14_isChain 64 = .ok (.iconst 1, 1) := by decide +kernel
theorem dX14_isChain_65 : decode cX14_isChain 65 = .ok (.goto 4, 3) := by decide +kernel
theorem dX14_isChain_68 : decode cX14_isChain 68 = .ok (.iconst 0, 1) := by decide +kernel
theorem dX14_isChain_69 : decode cX14_isChain 69 = .ok (.if_icmp .ne 7, 3) := by decide +kernel
theorem dX14_isChain_72 : decode cX14_isChain 72 = .ok (.iconst 1, 1) := by decide +kernel
theorem dX14_isChain_73 : decode cX14_isChain 73 = .ok (.goto 4, 3) := by decide +kernel
theorem dX14_isChain_76 : decode cX14_isChain 76 = .ok (.iconst 0, 1) := by decide +kernel
theorem dX14_isChain_77 : decode cX14_isChain 77 = .ok (.istore 7, 2) := by decide +kernel
theorem dX14_isChain_79 : decode cX14_isChain 79 = .ok (.iload 7, 2) := by decide +kernel
theorem dX14_isChain_81 : decode cX14_isChain 81 = .ok (.ifCond .eq 126, 3) := by decide +kernel
theorem dX14_isChain_84 : decode cX14_isChain 84 = .ok (.aload_n 0, 1) := by decide +kernel
theorem dX14_isChain_85 : decode cX14_isChain 85 = .ok (.aload_n 0, 1) := by decide +kernel
theorem dX14_isChain_86 : decode cX14_isChain 86 = .ok (.getfield 9, 3) := by decide +kernel
theorem dX14_isChain_89 : decode cX14_isChain 89 = .ok (.iload 6, 2) := by decide +kernel
theorem dX14_isChain_91 : decode cX14_isChain 91 = .ok (.invokevirtual 19, 3) := by decide +kernel
theorem dX14_isChain_94 : decode cX14_isChain 94 = .ok (.invokevirtual 36, 3) := by decide +kernel
theorem dX14_isChain_97 : decode cX14_isChain 97 = .ok (.istore_n 3, 1) := by decide +kernel
theorem dX14_isChain_98 : decode cX14_isChain 98 = .ok (.aload_n 0, 1) := by decide +kernel
theorem dX14_isChain_99 : decode cX14_isChain 99 = .ok (.getfield 15, 3) := by decide +kernel
theorem dX14_isChain_102 : decode cX14_isChain 102 = .ok (.istore 8, 2) := by decide +kernel
theorem dX14_isChain_104 : decode cX14_isChain 104 = .ok (.aload_n 0, 1) := by decide +kernel
theorem dX14_isChain_105 : decode cX14_isChain 105 = .ok (.getfield 9, 3) := by decide +kernel
theorem dX14_isChain_108 : decode cX14_isChain 108 = .ok (.iload 6, 2) := by decide +kernel
theorem dX14_isChain_110 : decode cX14_isChain 110 = .ok (.invokevirtual 40, 3) := by decide +kernel
theorem dX14_isChain_113 : decode cX14_isChain 113 = .ok (.bipush 47, 2) := by decide +kernel
theorem dX14_isChain_115 : decode cX14_isChain 115 = .ok (.if_icmp .eq 17, 3) := by decide +kernel
theorem dX14_isChain_118 : decode cX14_isChain 118 = .ok (.aload_n 0, 1) := by decide +kernel
theorem dX14_isChain_119 : decode cX14_isChain 119 = .ok (.getfield 9, 3) := by decide +kernel
theorem dX14_isChain_122 : decode cX14_isChain 122 = .ok (.iload 6, 2) := by decide +kernel
theorem dX14_isChain_124 : decode cX14_isChain 124 = .ok (.invokevirtual 40, 3) := by decide +kernel
theorem dX14_isChain_127 : decode cX14_isChain 127 = .ok (.bipush 37, 2) := by decide +kernel
theorem dX14_isChain_129 : decode cX14_isChain 129 = .ok (.if_icmp .ne 7, 3) := by decide +kernel
theorem dX14_isChain_132 : decode cX14_isChain 132 = .ok (.iconst 1, 1) := by decide +kernel
theorem dX14_isChain_133 : decode cX14_isChain 133 = .ok (.goto 4, 3) := by decide +kernel
theorem dX14_isChain_136 : decode cX14_isChain 136 = .ok (.iconst 0, 1) := by decide +kernel
theorem dX14_isChain_137 : decode cX14_isChain 137 = .ok (.istore 9, 2) := by decide +kernel
theorem dX14_isChain_139 : decode cX14_isChain 139 = .ok (.iload_n 3, 1) := by decide +kernel
theorem dX14_isChain_140 : decode cX14_isChain 140 = .ok (.ifCond .eq 17, 3) := by decide +kernel
theorem dX14_isChain_143 : decode cX14_isChain 143 = .ok (.iload 9, 2) := by decide +kernel
theorem dX14_isChain_145 : decode cX14_isChain 145 = .ok (.ifCond .eq 8, 3) := by decide +kernel
theorem dX14_isChain_148 : decode cX14_isChain 148 = .ok (.iload 8, 2) := by decide +kernel
theorem dX14_isChain_150 : decode cX14_isChain 150 = .ok (.ifCond .eq 7, 3) := by decide +kernel
theorem dX14_isChain_153 : decode cX14_isChain 153 = .ok (.iconst 1, 1) := by decide +kernel
theorem dX14_isChain_154 : decode cX14_isChain 154 = .ok (.goto 4, 3) := by decide +kernel
theorem dX14_isChain_157 : decode cX14_isChain 157 = .ok (.iconst 0, 1) := by decide +kernel
theorem dX14_isChain_158 : decode cX14_isChain 158 = .ok (.istore_n 3, 1) := by decide +kernel
theorem dX14_isChain_159 : decode cX14_isChain 159 = .ok (.iload_n 3, 1) := by decide +kernel
theorem dX14_isChain_160 : decode cX14_isChain 160 = .ok (.ifCond .ne 7, 3) := by decide +kernel
theorem dX14_isChain_163 : decode cX14_isChain 163 = .ok (.iconst 0, 1) := by decide +kernel
theorem dX14_isChain_164 : decode cX14_isChain 164 = .ok (.goto 41, 3) := by decide +kernel
theorem dX14_isChain_167 : decode cX14_isChain 167 = .ok (.iload 4, 2) := by decide +kernel
theorem dX14_isChain_169 : decode cX14_isChain 169 = .ok (.iconst 3, 1) := by decide +kernel
theorem dX14_isChain_170 : decode cX14_isChain 170 = .ok (.if_icmp .ge 19, 3) := by decide +kernel
theorem dX14_isChain_173 : decode cX14_isChain 173 = .ok (.iload 8, 2) := by decide +kernel
theorem dX14_isChain_175 : decode cX14_isChain 175 = .ok (.ifCond .eq 7, 3) := by decide +kernel
theorem dX14_isChain_178 : decode cX14_isChain 178 = .ok (.iconst 1, 1) := by decide +kernel
theorem dX14_isChain_179 : decode cX14_isChain 179 = .ok (.goto 4, 3) := by decide +kernel
theorem dX14_isChain_182 : decode cX14_isChain 182 = .ok (.iconst 0, 1) := by decide +kernel
theorem dX14_isChain_183 : decode cX14_isChain 183 = .ok (.invokestatic 43, 3) := by decide +kernel
theorem dX14_isChain_186 : decode cX14_isChain 186 = .ok (.goto 19, 3) := by decide +kernel
theorem dX14_isChain_189 : decode cX14_isChain 189 = .ok (.aload_n 0, 1) := by decide +kernel
theorem dX14_isChain_190 : decode cX14_isChain 190 = .ok (.getfield 9, 3) := by decide +kernel
theorem dX14_isChain_193 : decode cX14_isChain 193 = .ok (.iload 6, 2) := by decide +kernel
theorem dX14_isChain_195 : decode cX14_isChain 195 = .ok (.invokevirtual 40, 3) := by decide +kernel
theorem dX14_isChain_198 : decode cX14_isChain 198 = .ok (.iload 5, 2) := by decide +kernel
theorem dX14_isChain_200 : decode cX14_isChain 200 = .ok (.iload 8, 2) := by decide +kernel
theorem dX14_isChain_202 : decode cX14_isChain 202 = .ok (.invokestatic 57, 3) := by decide +kernel
theorem dX14_isChain_205 : decode cX14_isChain 205 = .ok (.istore 5, 2) := by decide +kernel
theorem dX14_isChain_207 : decode cX14_isChain 207 = .ok (.aload_n 0, 1) := by decide +kernel
theorem dX14_isChain_208 : decode cX14_isChain 208 = .ok (.getfield 9, 3) := by decide +kernel
theorem dX14_isChain_211 : decode cX14_isChain 211 = .ok (.iload 6, 2) := by decide +kernel
theorem dX14_isChain_213 : decode cX14_isChain 213 = .ok (.invokevirtual 50, 3) := by decide +kernel
theorem dX14_isChain_216 : decode cX14_isChain 216 = .ok (.istore 6, 2) := by decide +kernel
theorem dX14_isChain_218 : decode cX14_isChain 218 = .ok (.goto (-186), 3) := by decide +kernel
theorem dX14_isChain_221 : decode cX14_isChain 221 = .ok (.iload 4, 2) := by decide +kernel
theorem dX14_isChain_223 : decode cX14_isChain 223 = .ok (.iconst 3, 1) := by decide +kernel
theorem dX14_isChain_224 : decode cX14_isChain 224 = .ok (.if_icmp .ge 11, 3) := by decide +kernel
theorem dX14_isChain_227 : decode cX14_isChain 227 = .ok (.iload_n 3, 1) := by decide +kernel
theorem dX14_isChain_228 : decode cX14_isChain 228 = .ok (.ifCond .eq 7, 3) := by decide +kernel
theorem dX14_isChain_231 : decode cX14_isChain 231 = .ok (.iconst 1, 1) := by decide +kernel
theorem dX14_isChain_232 : decode cX14_isChain 232 = .ok (.goto 4, 3) := by decide +kernel
theorem dX14_isChain_235 : decode cX14_isChain 235 = .ok (.iconst 0, 1) := by decide +kernel
theorem dX14_isChain_236 : decode cX14_isChain 236 = .ok (.istore 6, 2) := by decide +kernel
theorem dX14_isChain_238 : decode cX14_isChain 238 = .ok (.aload_n 0, 1) := by decide +kernel
theorem dX14_isChain_239 : decode cX14_isChain 239 = .ok (.iload 6, 2) := by decide +kernel
theorem dX14_isChain_241 : decode cX14_isChain 241 = .ok (.ifCond .eq 19, 3) := by decide +kernel
theorem dX14_isChain_244 : decode cX14_isChain 244 = .ok (.iload 5, 2) := by decide +kernel
theorem dX14_isChain_246 : decode cX14_isChain 246 = .ok (.ifCond .eq 7, 3) := by decide +kernel
theorem dX14_isChain_249 : decode cX14_isChain 249 = .ok (.iconst 1, 1) := by decide +kernel
theorem dX14_isChain_250 : decode cX14_isChain 250 = .ok (.goto 4, 3) := by decide +kernel
theorem dX14_isChain_253 : decode cX14_isChain 253 = .ok (.iconst 0, 1) := by decide +kernel
theorem dX14_isChain_254 : decode cX14_isChain 254 = .ok (.invokestatic 43, 3) := by decide +kernel
theorem dX14_isChain_257 : decode cX14_isChain 257 = .ok (.goto 5, 3) := by decide +kernel
theorem dX14_isChain_260 : decode cX14_isChain 260 = .ok (.iload 5, 2) := by decide +kernel
theorem dX14_isChain_262 : decode cX14_isChain 262 = .ok (.putfield 15, 3) := by decide +kernel
theorem dX14_isChain_265 : decode cX14_isChain 265 = .ok (.iload_n 3, 1) := by decide +kernel
theorem dX14_isChain_266 : decode cX14_isChain 266 = .ok (.ireturn, 1) := by decide +kernel
theorem dX14_reckon_0 : decode cX14_reckon 0 = .ok (.iload_n 0, 1) := by decide +kernel
theorem dX14_reckon_1 : decode cX14_reckon 1 = .ok (.lookupswitch 239 #[(38, 131), (42, 235), (43, 227), (45, 231), (60, 163), (62, 177), (94, 127), (124, 123), (130, 135), (131, 149), (132, 191), (133, 205), (134, 219), (135, 223)], 123) := by decide +kernel
theorem dX14_reckon_124 : decode cX14_reckon 124 = .ok (.iload_n 1, 1) := by decide +kernel
theorem dX14_reckon_125 : decode cX14_reckon 125 = .ok (.iload_n 2, 1) := by decide +kernel
theorem dX14_reckon_126 : decode cX14_reckon 126 = .ok (.ior, 1) := by decide +kernel
theorem dX14_reckon_127 : decode cX14_reckon 127 = .ok (.ireturn, 1) := by decide +kernel
theorem dX14_reckon_128 : decode cX14_reckon 128 = .ok (.iload_n 1, 1) := by decide +kernel
theorem dX14_reckon_129 : decode cX14_reckon 129 = .ok (.iload_n 2, 1) := by decide +kernel
theorem dX14_reckon_130 : decode cX14_reckon 130 = .ok (.ixor, 1) := by decide +kernel
theorem dX14_reckon_131 : decode cX14_reckon 131 = .ok (.ireturn, 1) := by decide +kernel
theorem dX14_reckon_132 : decode cX14_reckon 132 = .ok (.iload_n 1, 1) := by decide +kernel
theorem dX14_reckon_133 : decode cX14_reckon 133 = .ok (.iload_n 2, 1) := by decide +kernel
theorem dX14_reckon_134 : decode cX14_reckon 134 = .ok (.iand, 1) := by decide +kernel
theorem dX14_reckon_135 : decode cX14_reckon 135 = .ok (.ireturn, 1) := by decide +kernel
theorem dX14_reckon_136 : decode cX14_reckon 136 = .ok (.iload_n 1, 1) := by decide +kernel
theorem dX14_reckon_137 : decode cX14_reckon 137 = .ok (.iload_n 2, 1) := by decide +kernel
theorem dX14_reckon_138 : decode cX14_reckon 138 = .ok (.if_icmp .ne 7, 3) := by decide +kernel
theorem dX14_reckon_141 : decode cX14_reckon 141 = .ok (.iconst 1, 1) := by decide +kernel
theorem dX14_reckon_142 : decode cX14_reckon 142 = .ok (.goto 4, 3) := by decide +kernel
theorem dX14_reckon_145 : decode cX14_reckon 145 = .ok (.iconst 0, 1) := by decide +kernel
theorem dX14_reckon_146 : decode cX14_reckon 146 = .ok (.invokestatic 43, 3) := by decide +kernel
theorem dX14_reckon_149 : decode cX14_reckon 149 = .ok (.ireturn, 1) := by decide +kernel
theorem dX14_reckon_150 : decode cX14_reckon 150 = .ok (.iload_n 1, 1) := by decide +kernel
theorem dX14_reckon_151 : decode cX14_reckon 151 = .ok (.iload_n 2, 1) := by decide +kernel
theorem dX14_reckon_152 : decode cX14_reckon 152 = .ok (.if_icmp .eq 7, 3) := by decide +kernel
theorem dX14_reckon_155 : decode cX14_reckon 155 = .ok (.iconst 1, 1) := by decide +kernel
theorem dX14_reckon_156 : decode cX14_reckon 156 = .ok (.goto 4, 3) := by decide +kernel
theorem dX14_reckon_159 : decode cX14_reckon 159 = .ok (.iconst 0, 1) := by decide +kernel
theorem dX14_reckon_160 : decode cX14_reckon 160 = .ok (.invokestatic 43, 3) := by decide +kernel
theorem dX14_reckon_163 : decode cX14_reckon 163 = .ok (.ireturn, 1) := by decide +kernel
theorem dX14_reckon_164 : decode cX14_reckon 164 = .ok (.iload_n 1, 1) := by decide +kernel
theorem dX14_reckon_165 : decode cX14_reckon 165 = .ok (.iload_n 2, 1) := by decide +kernel
theorem dX14_reckon_166 : decode cX14_reckon 166 = .ok (.if_icmp .ge 7, 3) := by decide +kernel
theorem dX14_reckon_169 : decode cX14_reckon 169 = .ok (.iconst 1, 1) := by decide +kernel
theorem dX14_reckon_170 : decode cX14_reckon 170 = .ok (.goto 4, 3) := by decide +kernel
theorem dX14_reckon_173 : decode cX14_reckon 173 = .ok (.iconst 0, 1) := by decide +kernel
theorem dX14_reckon_174 : decode cX14_reckon 174 = .ok (.invokestatic 43, 3) := by decide +kernel
theorem dX14_reckon_177 : decode cX14_reckon 177 = .ok (.ireturn, 1) := by decide +kernel
theorem dX14_reckon_178 : decode cX14_reckon 178 = .ok (.iload_n 1, 1) := by decide +kernel
theorem dX14_reckon_179 : decode cX14_reckon 179 = .ok (.iload_n 2, 1) := by decide +kernel
theorem dX14_reckon_180 : decode cX14_reckon 180 = .ok (.if_icmp .le 7, 3) := by decide +kernel
theorem dX14_reckon_183 : decode cX14_reckon 183 = .ok (.iconst 1, 1) := by decide +kernel
theorem dX14_reckon_184 : decode cX14_reckon 184 = .ok (.goto 4, 3) := by decide +kernel
theorem dX14_reckon_187 : decode cX14_reckon 187 = .ok (.iconst 0, 1) := by decide +kernel
theorem dX14_reckon_188 : decode cX14_reckon 188 = .ok (.invokestatic 43, 3) := by decide +kernel
theorem dX14_reckon_191 : decode cX14_reckon 191 = .ok (.ireturn, 1) := by decide +kernel
theorem dX14_reckon_192 : decode cX14_reckon 192 = .ok (.iload_n 1, 1) := by decide +kernel
theorem dX14_reckon_193 : decode cX14_reckon 193 = .ok (.iload_n 2, 1) := by decide +kernel
theorem dX14_reckon_194 : decode cX14_reckon 194 = .ok (.if_icmp .gt 7, 3) := by decide +kernel
theorem dX14_reckon_197 : decode cX14_reckon 197 = .ok (.iconst 1, 1) := by decide +kernel
theorem dX14_reckon_198 : decode cX14_reckon 198 = .ok (.goto 4, 3) := by decide +kernel
theorem dX14_reckon_201 : decode cX14_reckon 201 = .ok (.iconst 0, 1) := by decide +kernel
theorem dX14_reckon_202 : decode cX14_reckon 202 = .ok (.invokestatic 43, 3) := by decide +kernel
theorem dX14_reckon_205 : decode cX14_reckon 205 = .ok (.ireturn, 1) := by decide +kernel
theorem dX14_reckon_206 : decode cX14_reckon 206 = .ok (.iload_n 1, 1) := by decide +kernel
theorem dX14_reckon_207 : decode cX14_reckon 207 = .ok (.iload_n 2, 1) := by decide +kernel
theorem dX14_reckon_208 : decode cX14_reckon 208 = .ok (.if_icmp .lt 7, 3) := by decide +kernel
theorem dX14_reckon_211 : decode cX14_reckon 211 = .ok (.iconst 1, 1) := by decide +kernel
theorem dX14_reckon_212 : decode cX14_reckon 212 = .ok (.goto 4, 3) := by decide +kernel
theorem dX14_reckon_215 : decode cX14_reckon 215 = .ok (.iconst 0, 1) := by decide +kernel
theorem dX14_reckon_216 : decode cX14_reckon 216 = .ok (.invokestatic 43, 3) := by decide +kernel
theorem dX14_reckon_219 : decode cX14_reckon 219 = .ok (.ireturn, 1) := by decide +kernel
theorem dX14_reckon_220 : decode cX14_reckon 220 = .ok (.iload_n 1, 1) := by decide +kernel
theorem dX14_reckon_221 : decode cX14_reckon 221 = .ok (.iload_n 2, 1) := by decide +kernel
theorem dX14_reckon_222 : decode cX14_reckon 222 = .ok (.ishl, 1) := by decide +kernel
theorem dX14_reckon_223 : decode cX14_reckon 223 = .ok (.ireturn, 1) := by decide +kernel
theorem dX14_reckon_224 : decode cX14_reckon 224 = .ok (.iload_n 1, 1) := by decide +kernel
theorem dX14_reckon_225 : decode cX14_reckon 225 = .ok (.iload_n 2, 1) := by decide +kernel
theorem dX14_reckon_226 : decode cX14_reckon 226 = .ok (.ishr, 1) := by decide +kernel
theorem dX14_reckon_227 : decode cX14_reckon 227 = .ok (.ireturn, 1) := by decide +kernel
theorem dX14_reckon_228 : decode cX14_reckon 228 = .ok (.iload_n 1, 1) := by decide +kernel
theorem dX14_reckon_229 : decode cX14_reckon 229 = .ok (.iload_n 2, 1) := by decide +kernel
theorem dX14_reckon_230 : decode cX14_reckon 230 = .ok (.iadd, 1) := by decide +kernel
theorem dX14_reckon_231 : decode cX14_reckon 231 = .ok (.ireturn, 1) := by decide +kernel
theorem dX14_reckon_232 : decode cX14_reckon 232 = .ok (.iload_n 1, 1) := by decide +kernel
theorem dX14_reckon_233 : decode cX14_reckon 233 = .ok (.iload_n 2, 1) := by decide +kernel
theorem dX14_reckon_234 : decode cX14_reckon 234 = .ok (.isub, 1) := by decide +kernel
theorem dX14_reckon_235 : decode cX14_reckon 235 = .ok (.ireturn, 1) := by decide +kernel
theorem dX14_reckon_236 : decode cX14_reckon 236 = .ok (.iload_n 1, 1) := by decide +kernel
theorem dX14_reckon_237 : decode cX14_reckon 237 = .ok (.iload_n 2, 1) := by decide +kernel
theorem dX14_reckon_238 : decode cX14_reckon 238 = .ok (.imul, 1) := by decide +kernel
theorem dX14_reckon_239 : decode cX14_reckon 239 = .ok (.ireturn, 1) := by decide +kernel
theorem dX14_reckon_240 : decode cX14_reckon 240 = .ok (.iload_n 0, 1) := by decide +kernel
theorem dX14_reckon_241 : decode cX14_reckon 241 = .ok (.bipush 47, 2) := by decide +kernel
theorem dX14_reckon_243 : decode cX14_reckon 243 = .ok (.if_icmp .ne 9, 3) := by decide +kernel
theorem dX14_reckon_246 : decode cX14_reckon 246 = .ok (.iload_n 1, 1) := by decide +kernel
theorem dX14_reckon_247 : decode cX14_reckon 247 = .ok (.iload_n 2, 1) := by decide +kernel
theorem dX14_reckon_248 : decode cX14_reckon 248 = .ok (.idiv, 1) := by decide +kernel
theorem dX14_reckon_249 : decode cX14_reckon 249 = .ok (.goto 6, 3) := by decide +kernel
theorem dX14_reckon_252 : decode cX14_reckon 252 = .ok (.iload_n 1, 1) := by decide +kernel
theorem dX14_reckon_253 : decode cX14_reckon 253 = .ok (.iload_n 2, 1) := by decide +kernel
theorem dX14_reckon_254 : decode cX14_reckon 254 = .ok (.irem, 1) := by decide +kernel
theorem dX14_reckon_255 : decode cX14_reckon 255 = .ok (.ireturn, 1) := by decide +kernel
theorem dX14_value_0 : decode cX14_value 0 = .ok (.aload_n 0, 1) := by decide +kernel
theorem dX14_value_1 : decode cX14_value 1 = .ok (.getfield 15, 3) := by decide +kernel
theorem dX14_value_4 : decode cX14_value 4 = .ok (.ireturn, 1) := by decide +kernel
theorem dX14_changes_0 : decode cX14_changes 0 = .ok (.aload_n 0, 1) := by decide +kernel
theorem dX14_changes_1 : decode cX14_changes 1 = .ok (.getfield 9, 3) := by decide +kernel
theorem dX14_changes_4 : decode cX14_changes 4 = .ok (.iload_n 1, 1) := by decide +kernel
theorem dX14_changes_5 : decode cX14_changes 5 = .ok (.invokevirtual 25, 3) := by decide +kernel
theorem dX14_changes_8 : decode cX14_changes 8 = .ok (.istore_n 2, 1) := by decide +kernel
theorem dX14_changes_9 : decode cX14_changes 9 = .ok (.iload_n 2, 1) := by decide +kernel
theorem dX14_changes_10 : decode cX14_changes 10 = .ok (.bipush 30, 2) := by decide +kernel
theorem dX14_changes_12 : decode cX14_changes 12 = .ok (.if_icmp .eq 15, 3) := by decide +kernel
theorem dX14_changes_15 : decode cX14_changes 15 = .ok (.iload_n 2, 1) := by decide +kernel
theorem dX14_changes_16 : decode cX14_changes 16 = .ok (.bipush 35, 2) := by decide +kernel
theorem dX14_changes_18 : decode cX14_changes 18 = .ok (.if_icmp .eq 9, 3) := by decide +kernel
theorem dX14_changes_21 : decode cX14_changes 21 = .ok (.iload_n 2, 1) := by decide +kernel
theorem dX14_changes_22 : decode cX14_changes 22 = .ok (.bipush 36, 2) := by decide +kernel
theorem dX14_changes_24 : decode cX14_changes 24 = .ok (.if_icmp .ne 7, 3) := by decide +kernel
theorem dX14_changes_27 : decode cX14_changes 27 = .ok (.iconst 1, 1) := by decide +kernel
theorem dX14_changes_28 : decode cX14_changes 28 = .ok (.goto 4, 3) := by decide +kernel
theorem dX14_changes_31 : decode cX14_changes 31 = .ok (.iconst 0, 1) := by decide +kernel
theorem dX14_changes_32 : decode cX14_changes 32 = .ok (.istore_n 3, 1) := by decide +kernel
theorem dX14_changes_33 : decode cX14_changes 33 = .ok (.aload_n 0, 1) := by decide +kernel
theorem dX14_changes_34 : decode cX14_changes 34 = .ok (.getfield 9, 3) := by decide +kernel
theorem dX14_changes_37 : decode cX14_changes 37 = .ok (.iload_n 1, 1) := by decide +kernel
theorem dX14_changes_38 : decode cX14_changes 38 = .ok (.invokevirtual 19, 3) := by decide +kernel
theorem dX14_changes_41 : decode cX14_changes 41 = .ok (.istore 4, 2) := by decide +kernel
theorem dX14_changes_43 : decode cX14_changes 43 = .ok (.iload 4, 2) := by decide +kernel
theorem dX14_changes_45 : decode cX14_changes 45 = .ok (.iconst (-1), 1) := by decide +kernel
theorem dX14_changes_46 : decode cX14_changes 46 = .ok (.if_icmp .eq 28, 3) := by decide +kernel
theorem dX14_changes_49 : decode cX14_changes 49 = .ok (.iload_n 3, 1) := by decide +kernel
theorem dX14_changes_50 : decode cX14_changes 50 = .ok (.ifCond .ne 24, 3) := by decide +kernel
theorem dX14_changes_53 : decode cX14_changes 53 = .ok (.aload_n 0, 1) := by decide +kernel
theorem dX14_changes_54 : decode cX14_changes 54 = .ok (.iload 4, 2) := by decide +kernel
theorem dX14_changes_56 : decode cX14_changes 56 = .ok (.invokevirtual 61, 3) := by decide +kernel
theorem dX14_changes_59 : decode cX14_changes 59 = .ok (.istore_n 3, 1) := by decide +kernel
theorem dX14_changes_60 : decode cX14_changes 60 = .ok (.aload_n 0, 1) := by decide +kernel
theorem dX14_changes_61 : decode cX14_changes 61 = .ok (.getfield 9, 3) := by decide +kernel
theorem dX14_changes_64 : decode cX14_changes 64 = .ok (.iload 4, 2) := by decide +kernel
theorem dX14_changes_66 : decode cX14_changes 66 = .ok (.invokevirtual 50, 3) := by decide +kernel
theorem dX14_changes_69 : decode cX14_changes 69 = .ok (.istore 4, 2) := by decide +kernel
theorem dX14_changes_71 : decode cX14_changes 71 = .ok (.goto (-28), 3) := by decide +kernel
theorem dX14_changes_74 : decode cX14_changes 74 = .ok (.iload_n 3, 1) := by decide +kernel
theorem dX14_changes_75 : decode cX14_changes 75 = .ok (.ireturn, 1) := by decide +kernel
theorem dX15_init_0 : decode cX15_init 0 = .ok (.aload_n 0, 1) := by decide +kernel
theorem dX15_init_1 : decode cX15_init 1 = .ok (.invokespecial 3, 3) := by decide +kernel
theorem dX15_init_4 : decode cX15_init 4 = .ok (.aload_n 0, 1) := by decide +kernel
theorem dX15_init_5 : decode cX15_init 5 = .ok (.sipush 256, 3) := by decide +kernel
theorem dX15_init_8 : decode cX15_init 8 = .ok (.newarray .int, 2) := by decide +kernel
theorem dX15_init_10 : decode cX15_init 10 = .ok (.putfield 9, 3) := by decide +kernel
theorem dX15_init_13 : decode cX15_init 13 = .ok (.aload_n 0, 1) := by decide +kernel
theorem dX15_init_14 : decode cX15_init 14 = .ok (.sipush 256, 3) := by decide +kernel
theorem dX15_init_17 : decode cX15_init 17 = .ok (.newarray .int, 2) := by decide +kernel
theorem dX15_init_19 : decode cX15_init 19 = .ok (.putfield 15, 3) := by decide +kernel
theorem dX15_init_22 : decode cX15_init 22 = .ok (.aload_n 0, 1) := by decide +kernel
theorem dX15_init_23 : decode cX15_init 23 = .ok (.sipush 256, 3) := by decide +kernel
theorem dX15_init_26 : decode cX15_init 26 = .ok (.newarray .int, 2) := by decide +kernel
theorem dX15_init_28 : decode cX15_init 28 = .ok (.putfield 18, 3) := by decide +kernel
theorem dX15_init_31 : decode cX15_init 31 = .ok (.aload_n 0, 1) := by decide +kernel
theorem dX15_init_32 : decode cX15_init 32 = .ok (.sipush 256, 3) := by decide +kernel
theorem dX15_init_35 : decode cX15_init 35 = .ok (.newarray .int, 2) := by decide +kernel
theorem dX15_init_37 : decode cX15_init 37 = .ok (.putfield 21, 3) := by decide +kernel
theorem dX15_init_40 : decode cX15_init 40 = .ok (.aload_n 0, 1) := by decide +kernel
theorem dX15_init_41 : decode cX15_init 41 = .ok (.aload_n 1, 1) := by decide +kernel
theorem dX15_init_42 : decode cX15_init 42 = .ok (.putfield 24, 3) := by decide +kernel
theorem dX15_init_45 : decode cX15_init 45 = .ok (.aload_n 0, 1) := by decide +kernel
theorem dX15_init_46 : decode cX15_init 46 = .ok (.aload_n 2, 1) := by decide +kernel
theorem dX15_init_47 : decode cX15_init 47 = .ok (.putfield 28, 3) := by decide +kernel
theorem dX15_init_50 : decode cX15_init 50 = .ok (.return_, 1) := by decide +kernel
theorem dX15_find_0 : decode cX15_find 0 = .ok (.aload_n 0, 1) := by decide +kernel
theorem dX15_find_1 : decode cX15_find 1 = .ok (.invokevirtual 57, 3) := by decide +kernel
theorem dX15_find_4 : decode cX15_find 4 = .ok (.iconst 0, 1) := by decide +kernel
theorem dX15_find_5 : decode cX15_find 5 = .ok (.istore_n 3, 1) := by decide +kernel
theorem dX15_find_6 : decode cX15_find 6 = .ok (.iload_n 3, 1) := by decide +kernel
theorem dX15_find_7 : decode cX15_find 7 = .ok (.aload_n 0, 1) := by decide +kernel
theorem dX15_find_8 : decode cX15_find 8 = .ok (.getfield 28, 3) := by decide +kernel
theorem dX15_find_11 : decode cX15_find 11 = .ok (.invokevirtual 32, 3) := by decide +kernel
theorem dX15_find_14 : decode cX15_find 14 = .ok (.if_icmp .ge 42, 3) := by decide +kernel
theorem dX15_find_17 : decode cX15_find 17 = .ok (.aload_n 0, 1) := by decide +kernel
theorem dX15_find_18 : decode cX15_find 18 = .ok (.getfield 28, 3) := by decide +kernel
theorem dX15_find_21 : decode cX15_find 21 = .ok (.iload_n 3, 1) := by decide +kernel
theorem dX15_find_22 : decode cX15_find 22 = .ok (.invokevirtual 60, 3) := by decide +kernel
theorem dX15_find_25 : decode cX15_find 25 = .ok (.iload_n 2, 1) := by decide +kernel
theorem dX15_find_26 : decode cX15_find 26 = .ok (.if_icmp .ne 24, 3) := by decide +kernel
theorem dX15_find_29 : decode cX15_find 29 = .ok (.aload_n 0, 1) := by decide +kernel
theorem dX15_find_30 : decode cX15_find 30 = .ok (.getfield 9, 3) := by decide +kernel
theorem dX15_find_33 : decode cX15_find 33 = .ok (.iload_n 3, 1) := by decide +kernel
theorem dX15_find_34 : decode cX15_find 34 = .ok (.iconst 0, 1) := by decide +kernel
theorem dX15_find_35 : decode cX15_find 35 = .ok (.iastore, 1) := by decide +kernel
theorem dX15_find_36 : decode cX15_find 36 = .ok (.aload_n 0, 1) := by decide +kernel
theorem dX15_find_37 : decode cX15_find 37 = .ok (.getfield 15, 3) := by decide +kernel
theorem dX15_find_40 : decode cX15_find 40 = .ok (.iload_n 3, 1) := by decide +kernel
theorem dX15_find_41 : decode cX15_find 41 = .ok (.iconst (-1), 1) := by decide +kernel
theorem dX15_find_42 : decode cX15_find 42 = .ok (.iastore, 1) := by decide +kernel
theorem dX15_find_43 : decode cX15_find 43 = .ok (.aload_n 0, 1) := by decide +kernel
theorem dX15_find_44 : decode cX15_find 44 = .ok (.getfield 18, 3) := by decide +kernel
theorem dX15_find_47 : decode cX15_find 47 = .ok (.iload_n 3, 1) := by decide +kernel
theorem dX15_find_48 : decode cX15_find 48 = .ok (.iconst (-1), 1) := by decide +kernel
theorem dX15_find_49 : decode cX15_find 49 = .ok (.iastore, 1) := by decide +kernel
theorem dX15_find_50 : decode cX15_find 50 = .ok (.iinc 3 1, 3) := by decide +kernel
theorem dX15_find_53 : decode cX15_find 53 = .ok (.goto (-47), 3) := by decide +kernel
theorem dX15_find_56 : decode cX15_find 56 = .ok (.aload_n 0, 1) := by decide +kernel
theorem dX15_find_57 : decode cX15_find 57 = .ok (.iload_n 1, 1) := by decide +kernel
theorem dX15_find_58 : decode cX15_find 58 = .ok (.iconst 1, 1) := by decide +kernel
theorem dX15_find_59 : decode cX15_find 59 = .ok (.invokevirtual 50, 3) := by decide +kernel
theorem dX15_find_62 : decode cX15_find 62 = .ok (.aload_n 0, 1) := by decide +kernel
theorem dX15_find_63 : decode cX15_find 63 = .ok (.iconst 0, 1) := by decide +kernel
theorem dX15_find_64 : decode cX15_find 64 = .ok (.putfield 63, 3) := by decide +kernel
theorem dX15_find_67 : decode cX15_find 67 = .ok (.aload_n 0, 1) := by decide +kernel
theorem dX15_find_68 : decode cX15_find 68 = .ok (.iload_n 2, 1) := by decide +kernel
theorem dX15_find_69 : decode cX15_find 69 = .ok (.invokevirtual 67, 3) := by decide +kernel
theorem dX15_find_72 : decode cX15_find 72 = .ok (.istore_n 3, 1) := by decide +kernel
theorem dX15_find_73 : decode cX15_find 73 = .ok (.iload_n 3, 1) := by decide +kernel
theorem dX15_find_74 : decode cX15_find 74 = .ok (.iconst (-1), 1) := by decide +kernel
theorem dX15_find_75 : decode cX15_find 75 = .ok (.if_icmp .eq 77, 3) := by decide +kernel
theorem dX15_find_78 : decode cX15_find 78 = .ok (.aload_n 0, 1) := by decide +kernel
theorem dX15_find_79 : decode cX15_find 79 = .ok (.getfield 15, 3) := by decide +kernel
theorem dX15_find_82 : decode cX15_find 82 = .ok (.iload_n 3, 1) := by decide +kernel
theorem dX15_find_83 : decode cX15_find 83 = .ok (.aload_n 0, 1) := by decide +kernel
theorem dX15_find_84 : decode cX15_find 84 = .ok (.dup, 1) := by decide +kernel
theorem dX15_find_85 : decode cX15_find 85 = .ok (.getfield 63, 3) := by decide +kernel
theorem dX15_find_88 : decode cX15_find 88 = .ok (.dup_x1, 1) := by decide +kernel
theorem dX15_find_89 : decode cX15_find 89 = .ok (.iconst 1, 1) := by decide +kernel
theorem dX15_find_90 : decode cX15_find 90 = .ok (.iadd, 1) := by decide +kernel
theorem dX15_find_91 : decode cX15_find 91 = .ok (.putfield 63, 3) := by decide +kernel
theorem dX15_find_94 : decode cX15_find 94 = .ok (.invokestatic 70, 3) := by decide +kernel
theorem dX15_find_97 : decode cX15_find 97 = .ok (.iastore, 1) := by decide +kernel
theorem dX15_find_98 : decode cX15_find 98 = .ok (.aload_n 0, 1) := by decide +kernel
theorem dX15_find_99 : decode cX15_find 99 = .ok (.getfield 28, 3) := by decide +kernel
theorem dX15_find_102 : decode cX15_find 102 = .ok (.iload_n 3, 1) := by decide +kernel
theorem dX15_find_103 : decode cX15_find 103 = .ok (.invokevirtual 73, 3) := by decide +kernel
theorem dX15_find_106 : decode cX15_find 106 = .ok (.iconst (-1), 1) := by decide +kernel
theorem dX15_find_107 : decode cX15_find 107 = .ok (.if_icmp .ne 23, 3) := by decide +kernel
theorem dX15_find_110 : decode cX15_find 110 = .ok (.aload_n 0, 1) := by decide +kernel
theorem dX15_find_111 : decode cX15_find 111 = .ok (.getfield 18, 3) := by decide +kernel
theorem dX15_find_114 : decode cX15_find 114 = .ok (.iload_n 3, 1) := by decide +kernel
theorem dX15_find_115 : decode cX15_find 115 = .ok (.aload_n 0, 1) := by decide +kernel
theorem dX15_find_116 : decode cX15_find 116 = .ok (.dup, 1) := by decide +kernel
theorem dX15_find_117 : decode cX15_find 117 = .ok (.getfield 63, 3) := by decide +kernel
theorem dX15_find_120 : decode cX15_find 120 = .ok (.dup_x1, 1) := by decide +kernel
theorem dX15_find_121 : decode cX15_find 121 = .ok (.iconst 1, 1) := by decide +kernel
theorem dX15_find_122 : decode cX15_find 122 = .ok (.iadd, 1) := by decide +kernel
theorem dX15_find_123 : decode cX15_find 123 = .ok (.putfield 63, 3) := by decide +kernel
theorem dX15_find_126 : decode cX15_find 126 = .ok (.invokestatic 70, 3) := by decide +kernel
theorem dX15_find_129 : decode cX15_find 129 = .ok (.iastore, 1) := by decide +kernel
theorem dX15_find_130 : decode cX15_find 130 = .ok (.aload_n 0, 1) := by decide +kernel
theorem dX15_find_131 : decode cX15_find 131 = .ok (.getfield 63, 3) := by decide +kernel
theorem dX15_find_134 : decode cX15_find 134 = .ok (.bipush 10, 2) := by decide +kernel
theorem dX15_find_136 : decode cX15_find 136 = .ok (.if_icmp .ge 11, 3) := by decide +kernel
theorem dX15_find_139 : decode cX15_find 139 = .ok (.aload_n 0, 1) := by decide +kernel
theorem dX15_find_140 : decode cX15_find 140 = .ok (.iload_n 2, 1) := by decide +kernel
theorem dX15_find_141 : decode cX15_find 141 = .ok (.invokevirtual 67, 3) := by decide +kernel
theorem dX15_find_144 : decode cX15_find 144 = .ok (.goto 4, 3) := by decide +kernel
theorem dX15_find_147 : decode cX15_find 147 = .ok (.iconst (-1), 1) := by decide +kernel
theorem dX15_find_148 : decode cX15_find 148 = .ok (.istore_n 3, 1) := by decide +kernel
theorem dX15_find_149 : decode cX15_find 149 = .ok (.goto (-76), 3) := by decide +kernel
theorem dX15_find_152 : decode cX15_find 152 = .ok (.aload_n 0, 1) := by decide +kernel
theorem dX15_find_153 : decode cX15_find 153 = .ok (.iload_n 1, 1) := by decide +kernel
theorem dX15_find_154 : decode cX15_find 154 = .ok (.iload_n 2, 1) := by decide +kernel
theorem dX15_find_155 : decode cX15_find 155 = .ok (.invokevirtual 76, 3) := by decide +kernel
theorem dX15_find_158 : decode cX15_find 158 = .ok (.return_, 1) := by decide +kernel
theorem dX15_room_0 : decode cX15_room 0 = .ok (.aload_n 0, 1) := by decide +kernel
theorem dX15_room_1 : decode cX15_room 1 = .ok (.getfield 28, 3) := by decide +kernel
theorem dX15_room_4 : decode cX15_room 4 = .ok (.invokevirtual 32, 3) := by decide +kernel
theorem dX15_room_7 : decode cX15_room 7 = .ok (.aload_n 0, 1) := by decide +kernel
theorem dX15_room_8 : decode cX15_room 8 = .ok (.getfield 9, 3) := by decide +kernel
theorem dX15_room_11 : decode cX15_room 11 = .ok (.arraylength, 1) := by decide +kernel
theorem dX15_room_12 : decode cX15_room 12 = .ok (.if_icmp .le 41, 3) := by decide +kernel
theorem dX15_room_15 : decode cX15_room 15 = .ok (.iconst 2, 1) := by decide +kernel
theorem dX15_room_16 : decode cX15_room 16 = .ok (.aload_n 0, 1) := by decide +kernel
theorem dX15_room_17 : decode cX15_room 17 = .ok (.getfield 28, 3) := by decide +kernel
theorem dX15_room_20 : decode cX15_room 20 = .ok (.invokevirtual 32, 3) := by decide +kernel
theorem dX15_room_23 : decode cX15_room 23 = .ok (.imul, 1) := by decide +kernel
theorem dX15_room_24 : decode cX15_room 24 = .ok (.istore_n 1, 1) := by decide +kernel
theorem dX15_room_25 : decode cX15_room 25 = .ok (.aload_n 0, 1) := by decide +kernel
theorem dX15_room_26 : decode cX15_room 26 = .ok (.iload_n 1, 1) := by decide +kernel
theorem dX15_room_27 : decode cX15_room 27 = .ok (.newarray .int, 2) := by decide +kernel
theorem dX15_room_29 : decode cX15_room 29 = .ok (.putfield 9, 3) := by decide +kernel
theorem dX15_room_32 : decode cX15_room 32 = .ok (.aload_n 0, 1) := by decide +kernel
theorem dX15_room_33 : decode cX15_room 33 = .ok (.iload_n 1, 1) := by decide +kernel
theorem dX15_room_34 : decode cX15_room 34 = .ok (.newarray .int, 2) := by decide +kernel
theorem dX15_room_36 : decode cX15_room 36 = .ok (.putfield 15, 3) := by decide +kernel
theorem dX15_room_39 : decode cX15_room 39 = .ok (.aload_n 0, 1) := by decide +kernel
theorem dX15_room_40 : decode cX15_room 40 = .ok (.iload_n 1, 1) := by decide +kernel
theorem dX15_room_41 : decode cX15_room 41 = .ok (.newarray .int, 2) := by decide +kernel
theorem dX15_room_43 : decode cX15_room 43 = .ok (.putfield 18, 3) := by decide +kernel
theorem dX15_room_46 : decode cX15_room 46 = .ok (.aload_n 0, 1) := by decide +kernel
theorem dX15_room_47 : decode cX15_room 47 = .ok (.iload_n 1, 1) := by decide +kernel
theorem dX15_room_48 : decode cX15_room 48 = .ok (.newarray .int, 2) := by decide +kernel
theorem dX15_room_50 : decode cX15_room 50 = .ok (.putfield 21, 3) := by decide +kernel
theorem dX15_room_53 : decode cX15_room 53 = .ok (.return_, 1) := by decide +kernel
theorem dX15_weigh_0 : decode cX15_weigh 0 = .ok (.aload_n 0, 1) := by decide +kernel
theorem dX15_weigh_1 : decode cX15_weigh 1 = .ok (.getfield 24, 3) := by decide +kernel
theorem dX15_weigh_4 : decode cX15_weigh 4 = .ok (.iload_n 1, 1) := by decide +kernel
theorem dX15_weigh_5 : decode cX15_weigh 5 = .ok (.invokevirtual 38, 3) := by decide +kernel
theorem dX15_weigh_8 : decode cX15_weigh 8 = .ok (.istore_n 3, 1) := by decide +kernel
theorem dX15_weigh_9 : decode cX15_weigh 9 = .ok (.iload_n 3, 1) := by decide +kernel
theorem dX15_weigh_10 : decode cX15_weigh 10 = .ok (.bipush 38, 2) := by decide +kernel
theorem dX15_weigh_12 : decode cX15_weigh 12 = .ok (.if_icmp .eq 9, 3) := by decide +kernel
theorem dX15_weigh_15 : decode cX15_weigh 15 = .ok (.iload_n 3, 1) := by decide +kernel
theorem dX15_weigh_16 : decode cX15_weigh 16 = .ok (.bipush 40, 2) := by decide +kernel
theorem dX15_weigh_18 : decode cX15_weigh 18 = .ok (.if_icmp .ne 7, 3) := by decide +kernel
theorem dX15_weigh_21 : decode cX15_weigh 21 = .ok (.iconst 1, 1) := by decide +kernel
theorem dX15_weigh_22 : decode cX15_weigh 22 = .ok (.goto 4, 3) := by decide +kernel
theorem dX15_weigh_25 : decode cX15_weigh 25 = .ok (.iconst 0, 1) := by decide +kernel
theorem dX15_weigh_26 : decode cX15_weigh 26 = .ok (.istore 4, 2) := by decide +kernel
theorem dX15_weigh_28 : decode cX15_weigh 28 = .ok (.iload 4, 2) := by decide +kernel
theorem dX15_weigh_30 : decode cX15_weigh 30 = .ok (.ifCond .eq 31, 3) := by decide +kernel
theorem dX15_weigh_33 : decode cX15_weigh 33 = .ok (.aload_n 0, 1) := by decide +kernel
theorem dX15_weigh_34 : decode cX15_weigh 34 = .ok (.getfield 24, 3) := by decide +kernel
theorem dX15_weigh_37 : decode cX15_weigh 37 = .ok (.iload_n 1, 1) := by decide +kernel
theorem dX15_weigh_38 : decode cX15_weigh 38 = .ok (.invokevirtual 44, 3) := by decide +kernel
theorem dX15_weigh_41 : decode cX15_weigh 41 = .ok (.ifCond .lt 20, 3) := by decide +kernel
theorem dX15_weigh_44 : decode cX15_weigh 44 = .ok (.aload_n 0, 1) := by decide +kernel
theorem dX15_weigh_45 : decode cX15_weigh 45 = .ok (.getfield 9, 3) := by decide +kernel
theorem dX15_weigh_48 : decode cX15_weigh 48 = .ok (.aload_n 0, 1) := by decide +kernel
theorem dX15_weigh_49 : decode cX15_weigh 49 = .ok (.getfield 24, 3) := by decide +kernel
theorem dX15_weigh_52 : decode cX15_weigh 52 = .ok (.iload_n 1, 1) := by decide +kernel
theorem dX15_weigh_53 : decode cX15_weigh 53 = .ok (.invokevirtual 44, 3) := by decide +kernel
theorem dX15_weigh_56 : decode cX15_weigh 56 = .ok (.dup2, 1) := by decide +kernel
theorem dX15_weigh_57 : decode cX15_weigh 57 = .ok (.iaload, 1) := by decide +kernel
theorem dX15_weigh_58 : decode cX15_weigh 58 = .ok (.iload_n 2, 1) := by decide +kernel
theorem dX15_weigh_59 : decode cX15_weigh 59 = .ok (.iadd, 1) := by decide +kernel
theorem dX15_weigh_60 : decode cX15_weigh 60 = .ok (.iastore, 1) := by decide +kernel
theorem dX15_weigh_61 : decode cX15_weigh 61 = .ok (.iload_n 3, 1) := by decide +kernel
theorem dX15_weigh_62 : decode cX15_weigh 62 = .ok (.bipush 14, 2) := by decide +kernel
theorem dX15_weigh_64 : decode cX15_weigh 64 = .ok (.if_icmp .eq 15, 3) := by decide +kernel
theorem dX15_weigh_67 : decode cX15_weigh 67 = .ok (.iload_n 3, 1) := by decide +kernel
theorem dX15_weigh_68 : decode cX15_weigh 68 = .ok (.bipush 15, 2) := by decide +kernel
theorem dX15_weigh_70 : decode cX15_weigh 70 = .ok (.if_icmp .eq 9, 3) := by decide +kernel
theorem dX15_weigh_73 : decode cX15_weigh 73 = .ok (.iload_n 3, 1) := by decide +kernel
theorem dX15_weigh_74 : decode cX15_weigh 74 = .ok (.bipush 16, 2) := by decide +kernel
theorem dX15_weigh_76 : decode cX15_weigh 76 = .ok (.if_icmp .ne 7, 3) := by decide +kernel
theorem dX15_weigh_79 : decode cX15_weigh 79 = .ok (.iconst 1, 1) := by decide +kernel
theorem dX15_weigh_80 : decode cX15_weigh 80 = .ok (.goto 4, 3) := by decide +kernel
theorem dX15_weigh_83 : decode cX15_weigh 83 = .ok (.iconst 0, 1) := by decide +kernel
theorem dX15_weigh_84 : decode cX15_weigh 84 = .ok (.istore 5, 2) := by decide +kernel
theorem dX15_weigh_86 : decode cX15_weigh 86 = .ok (.iload 5, 2) := by decide +kernel
theorem dX15_weigh_88 : decode cX15_weigh 88 = .ok (.ifCond .eq 17, 3) := by decide +kernel
theorem dX15_weigh_91 : decode cX15_weigh 91 = .ok (.iload_n 2, 1) := by decide +kernel
theorem dX15_weigh_92 : decode cX15_weigh 92 = .ok (.sipush 4096, 3) := by decide +kernel
theorem dX15_weigh_95 : decode cX15_weigh 95 = .ok (.if_icmp .ge 10, 3) := by decide +kernel
theorem dX15_weigh_98 : decode cX15_weigh 98 = .ok (.bipush 8, 2) := by decide +kernel
theorem dX15_weigh_100 : decode cX15_weigh 100 = .ok (.iload_n 2, 1) := by decide +kernel
theorem dX15_weigh_101 : decode cX15_weigh 101 = .ok (.imul, 1) := by decide +kernel
theorem dX15_weigh_102 : decode cX15_weigh 102 = .ok (.goto 4, 3) := by decide +kernel
theorem dX15_weigh_105 : decode cX15_weigh 105 = .ok (.iload_n 2, 1) := by decide +kernel
theorem dX15_weigh_106 : decode cX15_weigh 106 = .ok (.istore 6, 2) := by decide +kernel
theorem dX15_weigh_108 : decode cX15_weigh 108 = .ok (.aload_n 0, 1) := by decide +kernel
theorem dX15_weigh_109 : decode cX15_weigh 109 = .ok (.getfield 24, 3) := by decide +kernel
theorem dX15_weigh_112 : decode cX15_weigh 112 = .ok (.iload_n 1, 1) := by decide +kernel
theorem dX15_weigh_113 : decode cX15_weigh 113 = .ok (.invokevirtual 47, 3) := by decide +kernel
theorem dX15_weigh_116 : decode cX15_weigh 116 = .ok (.istore 7, 2) := by decide +kernel
theorem dX15_weigh_118 : decode cX15_weigh 118 = .ok (.iload 7, 2) := by decide +kernel
theorem dX15_weigh_120 : decode cX15_weigh 120 = .ok (.iconst (-1), 1) := by decide +kernel
theorem dX15_weigh_121 : decode cX15_weigh 121 = .ok (.if_icmp .eq 25, 3) := by decide +kernel
theorem dX15_weigh_124 : decode cX15_weigh 124 = .ok (.aload_n 0, 1) := by decide +kernel
theorem dX15_weigh_125 : decode cX15_weigh 125 = .ok (.iload 7, 2) := by decide +kernel
theorem dX15_weigh_127 : decode cX15_weigh 127 = .ok (.iload 6, 2) := by decide +kernel
theorem dX15_weigh_129 : decode cX15_weigh 129 = .ok (.invokevirtual 50, 3) := by decide +kernel
theorem dX15_weigh_132 : decode cX15_weigh 132 = .ok (.aload_n 0, 1) := by decide +kernel
theorem dX15_weigh_133 : decode cX15_weigh 133 = .ok (.getfield 24, 3) := by decide +kernel
theorem dX15_weigh_136 : decode cX15_weigh 136 = .ok (.iload 7, 2) := by decide +kernel
theorem dX15_weigh_138 : decode cX15_weigh 138 = .ok (.invokevirtual 54, 3) := by decide +kernel
theorem dX15_weigh_141 : decode cX15_weigh 141 = .ok (.istore 7, 2) := by decide +kernel
theorem dX15_weigh_143 : decode cX15_weigh 143 = .ok (.goto (-25), 3) := by decide +kernel
theorem dX15_weigh_146 : decode cX15_weigh 146 = .ok (.return_, 1) := by decide +kernel
theorem dX15_heaviest_0 : decode cX15_heaviest 0 = .ok (.iconst (-1), 1) := by decide +kernel
theorem dX15_heaviest_1 : decode cX15_heaviest 1 = .ok (.istore_n 2, 1) := by decide +kernel
theorem dX15_heaviest_2 : decode cX15_heaviest 2 = .ok (.iconst 0, 1) := by decide +kernel
theorem dX15_heaviest_3 : decode cX15_heaviest 3 = .ok (.istore_n 3, 1) := by decide +kernel
theorem dX15_heaviest_4 : decode cX15_heaviest 4 = .ok (.iload_n 3, 1) := by decide +kernel
theorem dX15_heaviest_5 : decode cX15_heaviest 5 = .ok (.aload_n 0, 1) := by decide +kernel
theorem dX15_heaviest_6 : decode cX15_heaviest 6 = .ok (.getfield 28, 3) := by decide +kernel
theorem dX15_heaviest_9 : decode cX15_heaviest 9 = .ok (.invokevirtual 32, 3) := by decide +kernel
theorem dX15_heaviest_12 : decode cX15_heaviest 12 = .ok (.if_icmp .ge 120, 3) := by decide +kernel
theorem dX15_heaviest_15 : decode cX15_heaviest 15 = .ok (.aload_n 0, 1) := by decide +kernel
theorem dX15_heaviest_16 : decode cX15_heaviest 16 = .ok (.getfield 28, 3) := by decide +kernel
theorem dX15_heaviest_19 : decode cX15_heaviest 19 = .ok (.iload_n 3, 1) := by decide +kernel
theorem dX15_heaviest_20 : decode cX15_heaviest 20 = .ok (.invokevirtual 73, 3) := by decide +kernel
theorem dX15_heaviest_23 : decode cX15_heaviest 23 = .ok (.iconst (-1), 1) := by decide +kernel
theorem dX15_heaviest_24 : decode cX15_heaviest 24 = .ok (.if_icmp .ne 7, 3) := by decide +kernel
theorem dX15_heaviest_27 : decode cX15_heaviest 27 = .ok (.iconst 2, 1) := by decide +kernel
theorem dX15_heaviest_28 : decode cX15_heaviest 28 = .ok (.goto 4, 3) := by decide +kernel
theorem dX15_heaviest_31 : decode cX15_heaviest 31 = .ok (.iconst 1, 1) := by decide +kernel
theorem dX15_heaviest_32 : decode cX15_heaviest 32 = .ok (.istore 4, 2) := by decide +kernel
theorem dX15_heaviest_34 : decode cX15_heaviest 34 = .ok (.aload_n 0, 1) := by decide +kernel
theorem dX15_heaviest_35 : decode cX15_heaviest 35 = .ok (.getfield 28, 3) := by decide +kernel
theorem dX15_heaviest_38 : decode cX15_heaviest 38 = .ok (.iload_n 3, 1) := by decide +kernel
theorem dX15_heaviest_39 : decode cX15_heaviest 39 = .ok (.invokevirtual 60, 3) := by decide +kernel
theorem dX15_heaviest_42 : decode cX15_heaviest 42 = .ok (.iload_n 1, 1) := by decide +kernel
theorem dX15_heaviest_43 : decode cX15_heaviest 43 = .ok (.if_icmp .ne 49, 3) := by decide +kernel
theorem dX15_heaviest_46 : decode cX15_heaviest 46 = .ok (.aload_n 0, 1) := by decide +kernel
theorem dX15_heaviest_47 : decode cX15_heaviest 47 = .ok (.getfield 28, 3) := by decide +kernel
theorem dX15_heaviest_50 : decode cX15_heaviest 50 = .ok (.iload_n 3, 1) := by decide +kernel
theorem dX15_heaviest_51 : decode cX15_heaviest 51 = .ok (.invokevirtual 73, 3) := by decide +kernel
theorem dX15_heaviest_54 : decode cX15_heaviest 54 = .ok (.ifCond .gt 38, 3) := by decide +kernel
theorem dX15_heaviest_57 : decode cX15_heaviest 57 = .ok (.aload_n 0, 1) := by decide +kernel
theorem dX15_heaviest_58 : decode cX15_heaviest 58 = .ok (.getfield 15, 3) := by decide +kernel
theorem dX15_heaviest_61 : decode cX15_heaviest 61 = .ok (.iload_n 3, 1) := by decide +kernel
theorem dX15_heaviest_62 : decode cX15_heaviest 62 = .ok (.iaload, 1) := by decide +kernel
theorem dX15_heaviest_63 : decode cX15_heaviest 63 = .ok (.iconst (-1), 1) := by decide +kernel
theorem dX15_heaviest_64 : decode cX15_heaviest 64 = .ok (.if_icmp .ne 28, 3) := by decide +kernel
theorem dX15_heaviest_67 : decode cX15_heaviest 67 = .ok (.aload_n 0, 1) := by decide +kernel
theorem dX15_heaviest_68 : decode cX15_heaviest 68 = .ok (.getfield 9, 3) := by decide +kernel
theorem dX15_heaviest_71 : decode cX15_heaviest 71 = .ok (.iload_n 3, 1) := by decide +kernel
theorem dX15_heaviest_72 : decode cX15_heaviest 72 = .ok (.iaload, 1) := by decide +kernel
theorem dX15_heaviest_73 : decode cX15_heaviest 73 = .ok (.ifCond .le 19, 3) := by decide +kernel
theorem dX15_heaviest_76 : decode cX15_heaviest 76 = .ok (.aload_n 0, 1) := by decide +kernel
theorem dX15_heaviest_77 : decode cX15_heaviest 77 = .ok (.getfield 63, 3) := by decide +kernel
theorem dX15_heaviest_80 : decode cX15_heaviest 80 = .ok (.iload 4, 2) := by decide +kernel
theorem dX15_heaviest_82 : decode cX15_heaviest 82 = .ok (.iadd, 1) := by decide +kernel
theorem dX15_heaviest_83 : decode cX15_heaviest 83 = .ok (.bipush 10, 2) := by decide +kernel
theorem dX15_heaviest_85 : decode cX15_heaviest 85 = .ok (.if_icmp .gt 7, 3) := by decide +kernel
theorem dX15_heaviest_88 : decode cX15_heaviest 88 = .ok (.iconst 1, 1) := by decide +kernel
theorem dX15_heaviest_89 : decode cX15_heaviest 89 = .ok (.goto 4, 3) := by decide +kernel
theorem dX15_heaviest_92 : decode cX15_heaviest 92 = .ok (.iconst 0, 1) := by decide +kernel
theorem dX15_heaviest_93 : decode cX15_heaviest 93 = .ok (.istore 5, 2) := by decide +kernel
theorem dX15_heaviest_95 : decode cX15_heaviest 95 = .ok (.iload 5, 2) := by decide +kernel
theorem dX15_heaviest_97 : decode cX15_heaviest 97 = .ok (.ifCond .eq 27, 3) := by decide +kernel
theorem dX15_heaviest_100 : decode cX15_heaviest 100 = .ok (.iload_n 2, 1) := by decide +kernel
theorem dX15_heaviest_101 : decode cX15_heaviest 101 = .ok (.iconst (-1), 1) := by decide +kernel
theorem dX15_heaviest_102 : decode cX15_heaviest 102 = .ok (.if_icmp .eq 18, 3) := by decide +kernel
theorem dX15_heaviest_105 : decode cX15_heaviest 105 = .ok (.aload_n 0, 1) := by decide +kernel
theorem dX15_heaviest_106 : decode cX15_heaviest 106 = .ok (.getfield 9, 3) := by decide +kernel
theorem dX15_heaviest_109 : decode cX15_heaviest 109 = .ok (.iload_n 3, 1) := by decide +kernel
theorem dX15_heaviest_110 : decode cX15_heaviest 110 = .ok (.iaload, 1) := by decide +kernel
theorem dX15_heaviest_111 : decode cX15_heaviest 111 = .ok (.aload_n 0, 1) := by decide +kernel
theorem dX15_heaviest_112 : decode cX15_heaviest 112 = .ok (.getfield 9, 3) := by decide +kernel
theorem dX15_heaviest_115 : decode cX15_heaviest 115 = .ok (.iload_n 2, 1) := by decide +kernel
theorem dX15_heaviest_116 : decode cX15_heaviest 116 = .ok (.iaload, 1) := by decide +kernel
theorem dX15_heaviest_117 : decode cX15_heaviest 117 = .ok (.if_icmp .le 7, 3) := by decide +kernel
theorem dX15_heaviest_120 : decode cX15_heaviest 120 = .ok (.iload_n 3, 1) := by decide +kernel
theorem dX15_heaviest_121 : decode cX15_heaviest 121 = .ok (.goto 4, 3) := by decide +kernel
theorem dX15_heaviest_124 : decode cX15_heaviest 124 = .ok (.iload_n 2, 1) := by decide +kernel
theorem dX15_heaviest_125 : decode cX15_heaviest 125 = .ok (.istore_n 2, 1) := by decide +kernel
theorem dX15_heaviest_126 : decode cX15_heaviest 126 = .ok (.iinc 3 1, 3) := by decide +kernel
theorem dX15_heaviest_129 : decode cX15_heaviest 129 = .ok (.goto (-125), 3) := by decide +kernel
theorem dX15_heaviest_132 : decode cX15_heaviest 132 = .ok (.iload_n 2, 1) := by decide +kernel
theorem dX15_heaviest_133 : decode cX15_heaviest 133 = .ok (.ireturn, 1) := by decide +kernel
theorem dX15_register_0 : decode cX15_register 0 = .ok (.iload_n 0, 1) := by decide +kernel
theorem dX15_register_1 : decode cX15_register 1 = .ok (.ifCond .ne 8, 3) := by decide +kernel
theorem dX15_register_4 : decode cX15_register 4 = .ok (.bipush 9, 2) := by decide +kernel
theorem dX15_register_6 : decode cX15_register 6 = .ok (.goto 7, 3) := by decide +kernel
theorem dX15_register_9 : decode cX15_register 9 = .ok (.bipush 17, 2) := by decide +kernel
theorem dX15_register_11 : decode cX15_register 11 = .ok (.iload_n 0, 1) := by decide +kernel
theorem dX15_register_12 : decode cX15_register 12 = .ok (.iadd, 1) := by decide +kernel
theorem dX15_register_13 : decode cX15_register 13 = .ok (.ireturn, 1) := by decide +kernel
theorem dX15_place_0 : decode cX15_place 0 = .ok (.aload_n 0, 1) := by decide +kernel
theorem dX15_place_1 : decode cX15_place 1 = .ok (.iconst 0, 1) := by decide +kernel
theorem dX15_place_2 : decode cX15_place 2 = .ok (.putfield 79, 3) := by decide +kernel
theorem dX15_place_5 : decode cX15_place 5 = .ok (.aload_n 0, 1) := by decide +kernel
theorem dX15_place_6 : decode cX15_place 6 = .ok (.getfield 24, 3) := by decide +kernel
theorem dX15_place_9 : decode cX15_place 9 = .ok (.iload_n 1, 1) := by decide +kernel
theorem dX15_place_10 : decode cX15_place 10 = .ok (.invokevirtual 47, 3) := by decide +kernel
theorem dX15_place_13 : decode cX15_place 13 = .ok (.istore_n 3, 1) := by decide +kernel
theorem dX15_place_14 : decode cX15_place 14 = .ok (.aload_n 0, 1) := by decide +kernel
theorem dX15_place_15 : decode cX15_place 15 = .ok (.getfield 24, 3) := by decide +kernel
theorem dX15_place_18 : decode cX15_place 18 = .ok (.iload_n 3, 1) := by decide +kernel
theorem dX15_place_19 : decode cX15_place 19 = .ok (.invokevirtual 38, 3) := by decide +kernel
theorem dX15_place_22 : decode cX15_place 22 = .ok (.iconst 5, 1) := by decide +kernel
theorem dX15_place_23 : decode cX15_place 23 = .ok (.if_icmp .ne 56, 3) := by decide +kernel
theorem dX15_place_26 : decode cX15_place 26 = .ok (.aload_n 0, 1) := by decide +kernel
theorem dX15_place_27 : decode cX15_place 27 = .ok (.getfield 24, 3) := by decide +kernel
theorem dX15_place_30 : decode cX15_place 30 = .ok (.iload_n 3, 1) := by decide +kernel
theorem dX15_place_31 : decode cX15_place 31 = .ok (.invokevirtual 82, 3) := by decide +kernel
theorem dX15_place_34 : decode cX15_place 34 = .ok (.istore 4, 2) := by decide +kernel
theorem dX15_place_36 : decode cX15_place 36 = .ok (.aload_n 0, 1) := by decide +kernel
theorem dX15_place_37 : decode cX15_place 37 = .ok (.dup, 1) := by decide +kernel
theorem dX15_place_38 : decode cX15_place 38 = .ok (.getfield 79, 3) := by decide +kernel
theorem dX15_place_41 : decode cX15_place 41 = .ok (.aload_n 0, 1) := by decide +kernel
theorem dX15_place_42 : decode cX15_place 42 = .ok (.getfield 28, 3) := by decide +kernel
theorem dX15_place_45 : decode cX15_place 45 = .ok (.iload 4, 2) := by decide +kernel
theorem dX15_place_47 : decode cX15_place 47 = .ok (.invokevirtual 85, 3) := by decide +kernel
theorem dX15_place_50 : decode cX15_place 50 = .ok (.iadd, 1) := by decide +kernel
theorem dX15_place_51 : decode cX15_place 51 = .ok (.putfield 79, 3) := by decide +kernel
theorem dX15_place_54 : decode cX15_place 54 = .ok (.aload_n 0, 1) := by decide +kernel
theorem dX15_place_55 : decode cX15_place 55 = .ok (.getfield 21, 3) := by decide +kernel
theorem dX15_place_58 : decode cX15_place 58 = .ok (.iload 4, 2) := by decide +kernel
theorem dX15_place_60 : decode cX15_place 60 = .ok (.iconst 4, 1) := by decide +kernel
theorem dX15_place_61 : decode cX15_place 61 = .ok (.aload_n 0, 1) := by decide +kernel
theorem dX15_place_62 : decode cX15_place 62 = .ok (.getfield 79, 3) := by decide +kernel
theorem dX15_place_65 : decode cX15_place 65 = .ok (.imul, 1) := by decide +kernel
theorem dX15_place_66 : decode cX15_place 66 = .ok (.iastore, 1) := by decide +kernel
theorem dX15_place_67 : decode cX15_place 67 = .ok (.aload_n 0, 1) := by decide +kernel
theorem dX15_place_68 : decode cX15_place 68 = .ok (.getfield 24, 3) := by decide +kernel
theorem dX15_place_71 : decode cX15_place 71 = .ok (.iload_n 3, 1) := by decide +kernel
theorem dX15_place_72 : decode cX15_place 72 = .ok (.invokevirtual 54, 3) := by decide +kernel
theorem dX15_place_75 : decode cX15_place 75 = .ok (.istore_n 3, 1) := by decide +kernel
theorem dX15_place_76 : decode cX15_place 76 = .ok (.goto (-62), 3) := by decide +kernel
theorem dX15_place_79 : decode cX15_place 79 = .ok (.aload_n 0, 1) := by decide +kernel
theorem dX15_place_80 : decode cX15_place 80 = .ok (.iconst 0, 1) := by decide +kernel
theorem dX15_place_81 : decode cX15_place 81 = .ok (.putfield 88, 3) := by decide +kernel
theorem dX15_place_84 : decode cX15_place 84 = .ok (.aload_n 0, 1) := by decide +kernel
theorem dX15_place_85 : decode cX15_place 85 = .ok (.getfield 79, 3) := by decide +kernel
theorem dX15_place_88 : decode cX15_place 88 = .ok (.aload_n 0, 1) := by decide +kernel
theorem dX15_place_89 : decode cX15_place 89 = .ok (.getfield 63, 3) := by decide +kernel
theorem dX15_place_92 : decode cX15_place 92 = .ok (.iadd, 1) := by decide +kernel
theorem dX15_place_93 : decode cX15_place 93 = .ok (.iconst 2, 1) := by decide +kernel
theorem dX15_place_94 : decode cX15_place 94 = .ok (.iadd, 1) := by decide +kernel
theorem dX15_place_95 : decode cX15_place 95 = .ok (.istore 4, 2) := by decide +kernel
theorem dX15_place_97 : decode cX15_place 97 = .ok (.iconst 0, 1) := by decide +kernel
theorem dX15_place_98 : decode cX15_place 98 = .ok (.istore 5, 2) := by decide +kernel
theorem dX15_place_100 : decode cX15_place 100 = .ok (.iload 5, 2) := by decide +kernel
theorem dX15_place_102 : decode cX15_place 102 = .ok (.aload_n 0, 1) := by decide +kernel
theorem dX15_place_103 : decode cX15_place 103 = .ok (.getfield 28, 3) := by decide +kernel
theorem dX15_place_106 : decode cX15_place 106 = .ok (.invokevirtual 32, 3) := by decide +kernel
theorem dX15_place_109 : decode cX15_place 109 = .ok (.if_icmp .ge 102, 3) := by decide +kernel
theorem dX15_place_112 : decode cX15_place 112 = .ok (.aload_n 0, 1) := by decide +kernel
theorem dX15_place_113 : decode cX15_place 113 = .ok (.getfield 28, 3) := by decide +kernel
theorem dX15_place_116 : decode cX15_place 116 = .ok (.iload 5, 2) := by decide +kernel
theorem dX15_place_118 : decode cX15_place 118 = .ok (.invokevirtual 60, 3) := by decide +kernel
theorem dX15_place_121 : decode cX15_place 121 = .ok (.iload_n 2, 1) := by decide +kernel
theorem dX15_place_122 : decode cX15_place 122 = .ok (.if_icmp .ne 41, 3) := by decide +kernel
theorem dX15_place_125 : decode cX15_place 125 = .ok (.aload_n 0, 1) := by decide +kernel
theorem dX15_place_126 : decode cX15_place 126 = .ok (.getfield 28, 3) := by decide +kernel
theorem dX15_place_129 : decode cX15_place 129 = .ok (.iload 5, 2) := by decide +kernel
theorem dX15_place_131 : decode cX15_place 131 = .ok (.invokevirtual 73, 3) := by decide +kernel
theorem dX15_place_134 : decode cX15_place 134 = .ok (.iconst (-1), 1) := by decide +kernel
theorem dX15_place_135 : decode cX15_place 135 = .ok (.if_icmp .eq 28, 3) := by decide +kernel
theorem dX15_place_138 : decode cX15_place 138 = .ok (.aload_n 0, 1) := by decide +kernel
theorem dX15_place_139 : decode cX15_place 139 = .ok (.getfield 15, 3) := by decide +kernel
theorem dX15_place_142 : decode cX15_place 142 = .ok (.iload 5, 2) := by decide +kernel
theorem dX15_place_144 : decode cX15_place 144 = .ok (.iaload, 1) := by decide +kernel
theorem dX15_place_145 : decode cX15_place 145 = .ok (.iconst (-1), 1) := by decide +kernel
theorem dX15_place_146 : decode cX15_place 146 = .ok (.if_icmp .ne 17, 3) := by decide +kernel
theorem dX15_place_149 : decode cX15_place 149 = .ok (.aload_n 0, 1) := by decide +kernel
theorem dX15_place_150 : decode cX15_place 150 = .ok (.iload_n 1, 1) := by decide +kernel
theorem dX15_place_151 : decode cX15_place 151 = .ok (.iload 5, 2) := by decide +kernel
theorem dX15_place_153 : decode cX15_place 153 = .ok (.invokevirtual 91, 3) := by decide +kernel
theorem dX15_place_156 : decode cX15_place 156 = .ok (.ifCond .ne 7, 3) := by decide +kernel
theorem dX15_place_159 : decode cX15_place 159 = .ok (.iconst 1, 1) := by decide +kernel
theorem dX15_place_160 : decode cX15_place 160 = .ok (.goto 4, 3) := by decide +kernel
theorem dX15_place_163 : decode cX15_place 163 = .ok (.iconst 0, 1) := by decide +kernel
theorem dX15_place_164 : decode cX15_place 164 = .ok (.istore 6, 2) := by decide +kernel
theorem dX15_place_166 : decode cX15_place 166 = .ok (.iload 6, 2) := by decide +kernel
theorem dX15_place_168 : decode cX15_place 168 = .ok (.ifCond .eq 37, 3) := by decide +kernel
theorem dX15_place_171 : decode cX15_place 171 = .ok (.aload_n 0, 1) := by decide +kernel
theorem dX15_place_172 : decode cX15_place 172 = .ok (.dup, 1) := by decide +kernel
theorem dX15_place_173 : decode cX15_place 173 = .ok (.getfield 88, 3) := by decide +kernel
theorem dX15_place_176 : decode cX15_place 176 = .ok (.aload_n 0, 1) := by decide +kernel
theorem dX15_place_177 : decode cX15_place 177 = .ok (.getfield 28, 3) := by decide +kernel
theorem dX15_place_180 : decode cX15_place 180 = .ok (.iload 5, 2) := by decide +kernel
theorem dX15_place_182 : decode cX15_place 182 = .ok (.invokevirtual 85, 3) := by decide +kernel
theorem dX15_place_185 : decode cX15_place 185 = .ok (.iadd, 1) := by decide +kernel
theorem dX15_place_186 : decode cX15_place 186 = .ok (.putfield 88, 3) := by decide +kernel
theorem dX15_place_189 : decode cX15_place 189 = .ok (.aload_n 0, 1) := by decide +kernel
theorem dX15_place_190 : decode cX15_place 190 = .ok (.getfield 21, 3) := by decide +kernel
theorem dX15_place_193 : decode cX15_place 193 = .ok (.iload 5, 2) := by decide +kernel
theorem dX15_place_195 : decode cX15_place 195 = .ok (.iconst 4, 1) := by decide +kernel
theorem dX15_place_196 : decode cX15_place 196 = .ok (.iload 4, 2) := by decide +kernel
theorem dX15_place_198 : decode cX15_place 198 = .ok (.aload_n 0, 1) := by decide +kernel
theorem dX15_place_199 : decode cX15_place 199 = .ok (.getfield 88, 3) := by decide +kernel
theorem dX15_place_202 : decode cX15_place 202 = .ok (.iadd, 1) := by decide +kernel
theorem dX15_place_203 : decode cX15_place 203 = .ok (.imul, 1) := by decide +kernel
theorem dX15_place_204 : decode cX15_place 204 = .ok (.iastore, 1) := by decide +kernel
theorem dX15_place_205 : decode cX15_place 205 = .ok (.iinc 5 1, 3) := by decide +kernel
theorem dX15_place_208 : decode cX15_place 208 = .ok (.goto (-108), 3) := by decide +kernel
theorem dX15_place_211 : decode cX15_place 211 = .ok (.return_, 1) := by decide +kernel
theorem dX15_isParameter_0 : decode cX15_isParameter 0 = .ok (.iconst 0, 1) := by decide +kernel
theorem dX15_isParameter_1 : decode cX15_isParameter 1 = .ok (.istore_n 3, 1) := by decide +kernel
theorem dX15_isParameter_2 : decode cX15_isParameter 2 = .ok (.aload_n 0, 1) := by decide +kernel
theorem dX15_isParameter_3 : decode cX15_isParameter 3 = .ok (.getfield 24, 3) := by decide +kernel
theorem dX15_isParameter_6 : decode cX15_isParameter 6 = .ok (.iload_n 1, 1) := by decide +kernel
theorem dX15_isParameter_7 : decode cX15_isParameter 7 = .ok (.invokevirtual 47, 3) := by decide +kernel
theorem dX15_isParameter_10 : decode cX15_isParameter 10 = .ok (.istore 4, 2) := by decide +kernel
theorem dX15_isParameter_12 : decode cX15_isParameter 12 = .ok (.iload 4, 2) := by decide +kernel
theorem dX15_isParameter_14 : decode cX15_isParameter 14 = .ok (.iconst (-1), 1) := by decide +kernel
theorem dX15_isParameter_15 : decode cX15_isParameter 15 = .ok (.if_icmp .eq 51, 3) := by decide +kernel
theorem dX15_isParameter_18 : decode cX15_isParameter 18 = .ok (.iload_n 3, 1) := by decide +kernel
theorem dX15_isParameter_19 : decode cX15_isParameter 19 = .ok (.aload_n 0, 1) := by decide +kernel
theorem dX15_isParameter_20 : decode cX15_isParameter 20 = .ok (.getfield 24, 3) := by decide +kernel
theorem dX15_isParameter_23 : decode cX15_isParameter 23 = .ok (.iload 4, 2) := by decide +kernel
theorem dX15_isParameter_25 : decode cX15_isParameter 25 = .ok (.invokevirtual 38, 3) := by decide +kernel
theorem dX15_isParameter_28 : decode cX15_isParameter 28 = .ok (.iconst 5, 1) := by decide +kernel
theorem dX15_isParameter_29 : decode cX15_isParameter 29 = .ok (.if_icmp .ne 20, 3) := by decide +kernel
theorem dX15_isParameter_32 : decode cX15_isParameter 32 = .ok (.aload_n 0, 1) := by decide +kernel
theorem dX15_isParameter_33 : decode cX15_isParameter 33 = .ok (.getfield 24, 3) := by decide +kernel
theorem dX15_isParameter_36 : decode cX15_isParameter 36 = .ok (.iload 4, 2) := by decide +kernel
theorem dX15_isParameter_38 : decode cX15_isParameter 38 = .ok (.invokevirtual 82, 3) := by decide +kernel
theorem dX15_isParameter_41 : decode cX15_isParameter 41 = .ok (.iload_n 2, 1) := by decide +kernel
theorem dX15_isParameter_42 : decode cX15_isParameter 42 = .ok (.if_icmp .ne 7, 3) := by decide +kernel
theorem dX15_isParameter_45 : decode cX15_isParameter 45 = .ok (.iconst 1, 1) := by decide +kernel
theorem dX15_isParameter_46 : decode cX15_isParameter 46 = .ok (.goto 4, 3) := by decide +kernel
theorem dX15_isParameter_49 : decode cX15_isParameter 49 = .ok (.iconst 0, 1) := by decide +kernel
theorem dX15_isParameter_50 : decode cX15_isParameter 50 = .ok (.ior, 1) := by decide +kernel
theorem dX15_isParameter_51 : decode cX15_isParameter 51 = .ok (.istore_n 3, 1) := by decide +kernel
theorem dX15_isParameter_52 : decode cX15_isParameter 52 = .ok (.aload_n 0, 1) := by decide +kernel
theorem dX15_isParameter_53 : decode cX15_isParameter 53 = .ok (.getfield 24, 3) := by decide +kernel
theorem dX15_isParameter_56 : decode cX15_isParameter 56 = .ok (.iload 4, 2) := by decide +kernel
theorem dX15_isParameter_58 : decode cX15_isParameter 58 = .ok (.invokevirtual 54, 3) := by decide +kernel
theorem dX15_isParameter_61 : decode cX15_isParameter 61 = .ok (.istore 4, 2) := by decide +kernel
theorem dX15_isParameter_63 : decode cX15_isParameter 63 = .ok (.goto (-51), 3) := by decide +kernel
theorem dX15_isParameter_66 : decode cX15_isParameter 66 = .ok (.iload_n 3, 1) := by decide +kernel
theorem dX15_isParameter_67 : decode cX15_isParameter 67 = .ok (.ireturn, 1) := by decide +kernel
theorem dX15_parameterWords_0 : decode cX15_parameterWords 0 = .ok (.aload_n 0, 1) := by decide +kernel
theorem dX15_parameterWords_1 : decode cX15_parameterWords 1 = .ok (.getfield 79, 3) := by decide +kernel
theorem dX15_parameterWords_4 : decode cX15_parameterWords 4 = .ok (.ireturn, 1) := by decide +kernel
theorem dX15_used_0 : decode cX15_used 0 = .ok (.aload_n 0, 1) := by decide +kernel
theorem dX15_used_1 : decode cX15_used 1 = .ok (.getfield 63, 3) := by decide +kernel
theorem dX15_used_4 : decode cX15_used 4 = .ok (.ireturn, 1) := by decide +kernel
theorem dX15_localWords_0 : decode cX15_localWords 0 = .ok (.aload_n 0, 1) := by decide +kernel
theorem dX15_localWords_1 : decode cX15_localWords 1 = .ok (.getfield 88, 3) := by decide +kernel
theorem dX15_localWords_4 : decode cX15_localWords 4 = .ok (.ireturn, 1) := by decide +kernel
theorem dX15_words_0 : decode cX15_words 0 = .ok (.aload_n 0, 1) := by decide +kernel
theorem dX15_words_1 : decode cX15_words 1 = .ok (.getfield 79, 3) := by decide +kernel
theorem dX15_words_4 : decode cX15_words 4 = .ok (.aload_n 0, 1) := by decide +kernel
theorem dX15_words_5 : decode cX15_words 5 = .ok (.getfield 63, 3) := by decide +kernel
theorem dX15_words_8 : decode cX15_words 8 = .ok (.iadd, 1) := by decide +kernel
theorem dX15_words_9 : decode cX15_words 9 = .ok (.iconst 2, 1) := by decide +kernel
theorem dX15_words_10 : decode cX15_words 10 = .ok (.iadd, 1) := by decide +kernel
theorem dX15_words_11 : decode cX15_words 11 = .ok (.aload_n 0, 1) := by decide +kernel
theorem dX15_words_12 : decode cX15_words 12 = .ok (.getfield 88, 3) := by decide +kernel
theorem dX15_words_15 : decode cX15_words 15 = .ok (.iadd, 1) := by decide +kernel
theorem dX15_words_16 : decode cX15_words 16 = .ok (.ireturn, 1) := by decide +kernel
theorem dX15_of_0 : decode cX15_of 0 = .ok (.aload_n 0, 1) := by decide +kernel
theorem dX15_of_1 : decode cX15_of 1 = .ok (.getfield 15, 3) := by decide +kernel
theorem dX15_of_4 : decode cX15_of 4 = .ok (.iload_n 1, 1) := by decide +kernel
theorem dX15_of_5 : decode cX15_of 5 = .ok (.iaload, 1) := by decide +kernel
theorem dX15_of_6 : decode cX15_of 6 = .ok (.ireturn, 1) := by decide +kernel
theorem dX15_place_2_0 : decode cX15_place_2 0 = .ok (.aload_n 0, 1) := by decide +kernel
theorem dX15_place_2_1 : decode cX15_place_2 1 = .ok (.getfield 21, 3) := by decide +kernel
theorem dX15_place_2_4 : decode cX15_place_2 4 = .ok (.iload_n 1, 1) := by decide +kernel
theorem dX15_place_2_5 : decode cX15_place_2 5 = .ok (.iaload, 1) := by decide +kernel
theorem dX15_place_2_6 : decode cX15_place_2 6 = .ok (.ireturn, 1) := by decide +kernel
theorem dX15_lengthOf_0 : decode cX15_lengthOf 0 = .ok (.aload_n 0, 1) := by decide +kernel
theorem dX15_lengthOf_1 : decode cX15_lengthOf 1 = .ok (.getfield 18, 3) := by decide +kernel
theorem dX15_lengthOf_4 : decode cX15_lengthOf 4 = .ok (.iload_n 1, 1) := by decide +kernel
theorem dX15_lengthOf_5 : decode cX15_lengthOf 5 = .ok (.iaload, 1) := by decide +kernel
theorem dX15_lengthOf_6 : decode cX15_lengthOf 6 = .ok (.ireturn, 1) := by decide +kernel
theorem dX16_init_0 : decode cX16_init 0 = .ok (.aload_n 0, 1) := by decide +kernel
theorem dX16_init_1 : decode cX16_init 1 = .ok (.invokespecial 5, 3) := by decide +kernel
theorem dX16_init_4 : decode cX16_init 4 = .ok (.aload_n 0, 1) := by decide +kernel
theorem dX16_init_5 : decode cX16_init 5 = .ok (.new 11, 3) := by decide +kernel
theorem dX16_init_8 : decode cX16_init 8 = .ok (.dup, 1) := by decide +kernel
theorem dX16_init_9 : decode cX16_init 9 = .ok (.bipush 20, 2) := by decide +kernel
theorem dX16_init_11 : decode cX16_init 11 = .ok (.invokespecial 13, 3) := by decide +kernel
theorem dX16_init_14 : decode cX16_init 14 = .ok (.putfield 16, 3) := by decide +kernel
theorem dX16_init_17 : decode cX16_init 17 = .ok (.aload_n 0, 1) := by decide +kernel
theorem dX16_init_18 : decode cX16_init 18 = .ok (.new 20, 3) := by decide +kernel
theorem dX16_init_21 : decode cX16_init 21 = .ok (.dup, 1) := by decide +kernel
theorem dX16_init_22 : decode cX16_init 22 = .ok (.invokespecial 22, 3) := by decide +kernel
theorem dX16_init_25 : decode cX16_init 25 = .ok (.putfield 23, 3) := by decide +kernel
theorem dX16_init_28 : decode cX16_init 28 = .ok (.aload_n 0, 1) := by decide +kernel
theorem dX16_init_29 : decode cX16_init 29 = .ok (.new 27, 3) := by decide +kernel
theorem dX16_init_32 : decode cX16_init 32 = .ok (.dup, 1) := by decide +kernel
theorem dX16_init_33 : decode cX16_init 33 = .ok (.aload_n 0, 1) := by decide +kernel
theorem dX16_init_34 : decode cX16_init 34 = .ok (.getfield 16, 3) := by decide +kernel
theorem dX16_init_37 : decode cX16_init 37 = .ok (.aload_n 0, 1) := by decide +kernel
theorem dX16_init_38 : decode cX16_init 38 = .ok (.getfield 23, 3) := by decide +kernel
theorem dX16_init_41 : decode cX16_init 41 = .ok (.invokespecial 29, 3) := by decide +kernel
theorem dX16_init_44 : decode cX16_init 44 = .ok (.putfield 32, 3) := by decide +kernel
theorem dX16_init_47 : decode cX16_init 47 = .ok (.aload_n 0, 1) := by decide +kernel
theorem dX16_init_48 : decode cX16_init 48 = .ok (.sipush 1024, 3) := by decide +kernel
theorem dX16_init_51 : decode cX16_init 51 = .ok (.newarray .int, 2) := by decide +kernel
theorem dX16_init_53 : decode cX16_init 53 = .ok (.putfield 36, 3) := by decide +kernel
theorem dX16_init_56 : decode cX16_init 56 = .ok (.aload_n 0, 1) := by decide +kernel
theorem dX16_init_57 : decode cX16_init 57 = .ok (.bipush 64, 2) := by decide +kernel
theorem dX16_init_59 : decode cX16_init 59 = .ok (.newarray .int, 2) := by decide +kernel
theorem dX16_init_61 : decode cX16_init 61 = .ok (.putfield 40, 3) := by decide +kernel
theorem dX16_init_64 : decode cX16_init 64 = .ok (.aload_n 0, 1) := by decide +kernel
theorem dX16_init_65 : decode cX16_init 65 = .ok (.sipush 128, 3) := by decide +kernel
theorem dX16_init_68 : decode cX16_init 68 = .ok (.newarray .int, 2) := by decide +kernel
theorem dX16_init_70 : decode cX16_init 70 = .ok (.putfield 43, 3) := by decide +kernel
theorem dX16_init_73 : decode cX16_init 73 = .ok (.return_, 1) := by decide +kernel
theorem dX16_run_0 : decode cX16_run 0 = .ok (.aload_n 0, 1) := by decide +kernel
theorem dX16_run_1 : decode cX16_run 1 = .ok (.getfield 16, 3) := by decide +kernel
theorem dX16_run_4 : decode cX16_run 4 = .ok (.iconst 0, 1) := by decide +kernel
theorem dX16_run_5 : decode cX16_run 5 = .ok (.bipush 115, 2) := by decide +kernel
theorem dX16_run_7 : decode cX16_run 7 = .ok (.invokevirtual 46, 3) := by decide +kernel
theorem dX16_run_10 : decode cX16_run 10 = .ok (.aload_n 0, 1) := by decide +kernel
theorem dX16_run_11 : decode cX16_run 11 = .ok (.iconst 0, 1) := by decide +kernel
theorem dX16_run_12 : decode cX16_run 12 = .ok (.putfield 50, 3) := by decide +kernel
theorem dX16_run_15 : decode cX16_run 15 = .ok (.iconst 1, 1) := by decide +kernel
theorem dX16_run_16 : decode cX16_run 16 = .ok (.istore 5, 2) := by decide +kernel
theorem dX16_run_18 : decode cX16_run 18 = .ok (.iload 5, 2) := by decide +kernel
theorem dX16_run_20 : decode cX16_run 20 = .ok (.bipush 32, 2) := by decide +kernel
theorem dX16_run_22 : decode cX16_run 22 = .ok (.if_icmp .ge 20, 3) := by decide +kernel
theorem dX16_run_25 : decode cX16_run 25 = .ok (.aload_n 0, 1) := by decide +kernel
theorem dX16_run_26 : decode cX16_run 26 = .ok (.getfield 32, 3) := by decide +kernel
theorem dX16_run_29 : decode cX16_run 29 = .ok (.getfield 54, 3) := by decide +kernel
theorem dX16_run_32 : decode cX16_run 32 = .ok (.iload 5, 2) := by decide +kernel
theorem dX16_run_34 : decode cX16_run 34 = .ok (.iconst 0, 1) := by decide +kernel
theorem dX16_run_35 : decode cX16_run 35 = .ok (.iastore, 1) := by decide +kernel
