set_option maxRecDepth 100000
theorem dX7_variables_17 : decode cX7_variables 17 = .ok (.iconst 0, 1) := by decide +kernel
theorem dX7_variables_18 : decode cX7_variables 18 = .ok (.aload_n 0, 1) := by decide +kernel
theorem dX7_variables_19 : decode cX7_variables 19 = .ok (.getfield 16, 3) := by decide +kernel
theorem dX7_variables_22 : decode cX7_variables 22 = .ok (.invokevirtual 89, 3) := by decide +kernel
theorem dX7_variables_25 : decode cX7_variables 25 = .ok (.invokevirtual 70, 3) := by decide +kernel
theorem dX7_variables_28 : decode cX7_variables 28 = .ok (.istore_n 1, 1) := by decide +kernel
theorem dX7_variables_29 : decode cX7_variables 29 = .ok (.iconst 1, 1) := by decide +kernel
theorem dX7_variables_30 : decode cX7_variables 30 = .ok (.istore_n 2, 1) := by decide +kernel
theorem dX7_variables_31 : decode cX7_variables 31 = .ok (.iload_n 2, 1) := by decide +kernel
theorem dX7_variables_32 : decode cX7_variables 32 = .ok (.ifCond .eq 49, 3) := by decide +kernel
theorem dX7_variables_35 : decode cX7_variables 35 = .ok (.aload_n 0, 1) := by decide +kernel
theorem dX7_variables_36 : decode cX7_variables 36 = .ok (.getfield 16, 3) := by decide +kernel
theorem dX7_variables_39 : decode cX7_variables 39 = .ok (.invokevirtual 37, 3) := by decide +kernel
theorem dX7_variables_42 : decode cX7_variables 42 = .ok (.aload_n 0, 1) := by decide +kernel
theorem dX7_variables_43 : decode cX7_variables 43 = .ok (.getfield 16, 3) := by decide +kernel
theorem dX7_variables_46 : decode cX7_variables 46 = .ok (.invokevirtual 89, 3) := by decide +kernel
theorem dX7_variables_49 : decode cX7_variables 49 = .ok (.istore_n 3, 1) := by decide +kernel
theorem dX7_variables_50 : decode cX7_variables 50 = .ok (.aload_n 0, 1) := by decide +kernel
theorem dX7_variables_51 : decode cX7_variables 51 = .ok (.invokevirtual 105, 3) := by decide +kernel
theorem dX7_variables_54 : decode cX7_variables 54 = .ok (.istore 4, 2) := by decide +kernel
theorem dX7_variables_56 : decode cX7_variables 56 = .ok (.aload_n 0, 1) := by decide +kernel
theorem dX7_variables_57 : decode cX7_variables 57 = .ok (.getfield 20, 3) := by decide +kernel
theorem dX7_variables_60 : decode cX7_variables 60 = .ok (.iload_n 1, 1) := by decide +kernel
theorem dX7_variables_61 : decode cX7_variables 61 = .ok (.aload_n 0, 1) := by decide +kernel
theorem dX7_variables_62 : decode cX7_variables 62 = .ok (.iload 4, 2) := by decide +kernel
theorem dX7_variables_64 : decode cX7_variables 64 = .ok (.iload_n 3, 1) := by decide +kernel
theorem dX7_variables_65 : decode cX7_variables 65 = .ok (.invokevirtual 115, 3) := by decide +kernel
theorem dX7_variables_68 : decode cX7_variables 68 = .ok (.invokevirtual 85, 3) := by decide +kernel
theorem dX7_variables_71 : decode cX7_variables 71 = .ok (.aload_n 0, 1) := by decide +kernel
theorem dX7_variables_72 : decode cX7_variables 72 = .ok (.bipush 44, 2) := by decide +kernel
theorem dX7_variables_74 : decode cX7_variables 74 = .ok (.invokevirtual 33, 3) := by decide +kernel
theorem dX7_variables_77 : decode cX7_variables 77 = .ok (.istore_n 2, 1) := by decide +kernel
theorem dX7_variables_78 : decode cX7_variables 78 = .ok (.goto (-47), 3) := by decide +kernel
theorem dX7_variables_81 : decode cX7_variables 81 = .ok (.aload_n 0, 1) := by decide +kernel
theorem dX7_variables_82 : decode cX7_variables 82 = .ok (.bipush 59, 2) := by decide +kernel
theorem dX7_variables_84 : decode cX7_variables 84 = .ok (.invokevirtual 60, 3) := by decide +kernel
theorem dX7_variables_87 : decode cX7_variables 87 = .ok (.iload_n 1, 1) := by decide +kernel
theorem dX7_variables_88 : decode cX7_variables 88 = .ok (.ireturn, 1) := by decide +kernel
theorem dX7_variable_0 : decode cX7_variable 0 = .ok (.aload_n 0, 1) := by decide +kernel
theorem dX7_variable_1 : decode cX7_variable 1 = .ok (.getfield 20, 3) := by decide +kernel
theorem dX7_variable_4 : decode cX7_variable 4 = .ok (.bipush 7, 2) := by decide +kernel
theorem dX7_variable_6 : decode cX7_variable 6 = .ok (.iconst 0, 1) := by decide +kernel
theorem dX7_variable_7 : decode cX7_variable 7 = .ok (.iload_n 1, 1) := by decide +kernel
theorem dX7_variable_8 : decode cX7_variable 8 = .ok (.iload_n 2, 1) := by decide +kernel
theorem dX7_variable_9 : decode cX7_variable 9 = .ok (.invokevirtual 70, 3) := by decide +kernel
theorem dX7_variable_12 : decode cX7_variable 12 = .ok (.istore_n 3, 1) := by decide +kernel
theorem dX7_variable_13 : decode cX7_variable 13 = .ok (.aload_n 0, 1) := by decide +kernel
theorem dX7_variable_14 : decode cX7_variable 14 = .ok (.bipush 91, 2) := by decide +kernel
theorem dX7_variable_16 : decode cX7_variable 16 = .ok (.invokevirtual 33, 3) := by decide +kernel
theorem dX7_variable_19 : decode cX7_variable 19 = .ok (.ifCond .eq 79, 3) := by decide +kernel
theorem dX7_variable_22 : decode cX7_variable 22 = .ok (.aload_n 0, 1) := by decide +kernel
theorem dX7_variable_23 : decode cX7_variable 23 = .ok (.bipush 91, 2) := by decide +kernel
theorem dX7_variable_25 : decode cX7_variable 25 = .ok (.invokevirtual 102, 3) := by decide +kernel
theorem dX7_variable_28 : decode cX7_variable 28 = .ok (.aload_n 0, 1) := by decide +kernel
theorem dX7_variable_29 : decode cX7_variable 29 = .ok (.invokevirtual 106, 3) := by decide +kernel
theorem dX7_variable_32 : decode cX7_variable 32 = .ok (.istore 4, 2) := by decide +kernel
theorem dX7_variable_34 : decode cX7_variable 34 = .ok (.aload_n 0, 1) := by decide +kernel
theorem dX7_variable_35 : decode cX7_variable 35 = .ok (.bipush 93, 2) := by decide +kernel
theorem dX7_variable_37 : decode cX7_variable 37 = .ok (.invokevirtual 109, 3) := by decide +kernel
theorem dX7_variable_40 : decode cX7_variable 40 = .ok (.aload_n 0, 1) := by decide +kernel
theorem dX7_variable_41 : decode cX7_variable 41 = .ok (.getfield 20, 3) := by decide +kernel
theorem dX7_variable_44 : decode cX7_variable 44 = .ok (.iload_n 3, 1) := by decide +kernel
theorem dX7_variable_45 : decode cX7_variable 45 = .ok (.iconst 1, 1) := by decide +kernel
theorem dX7_variable_46 : decode cX7_variable 46 = .ok (.invokevirtual 131, 3) := by decide +kernel
theorem dX7_variable_49 : decode cX7_variable 49 = .ok (.aload_n 0, 1) := by decide +kernel
theorem dX7_variable_50 : decode cX7_variable 50 = .ok (.getfield 20, 3) := by decide +kernel
theorem dX7_variable_53 : decode cX7_variable 53 = .ok (.iload_n 3, 1) := by decide +kernel
theorem dX7_variable_54 : decode cX7_variable 54 = .ok (.iload 4, 2) := by decide +kernel
theorem dX7_variable_56 : decode cX7_variable 56 = .ok (.invokevirtual 85, 3) := by decide +kernel
theorem dX7_variable_59 : decode cX7_variable 59 = .ok (.aload_n 0, 1) := by decide +kernel
theorem dX7_variable_60 : decode cX7_variable 60 = .ok (.bipush 61, 2) := by decide +kernel
theorem dX7_variable_62 : decode cX7_variable 62 = .ok (.invokevirtual 40, 3) := by decide +kernel
theorem dX7_variable_65 : decode cX7_variable 65 = .ok (.ifCond .eq 30, 3) := by decide +kernel
theorem dX7_variable_68 : decode cX7_variable 68 = .ok (.aload_n 0, 1) := by decide +kernel
theorem dX7_variable_69 : decode cX7_variable 69 = .ok (.getfield 20, 3) := by decide +kernel
theorem dX7_variable_72 : decode cX7_variable 72 = .ok (.iload_n 3, 1) := by decide +kernel
theorem dX7_variable_73 : decode cX7_variable 73 = .ok (.aload_n 0, 1) := by decide +kernel
theorem dX7_variable_74 : decode cX7_variable 74 = .ok (.iconst 3, 1) := by decide +kernel
theorem dX7_variable_75 : decode cX7_variable 75 = .ok (.invokevirtual 33, 3) := by decide +kernel
theorem dX7_variable_78 : decode cX7_variable 78 = .ok (.ifCond .eq 10, 3) := by decide +kernel
theorem dX7_variable_81 : decode cX7_variable 81 = .ok (.aload_n 0, 1) := by decide +kernel
theorem dX7_variable_82 : decode cX7_variable 82 = .ok (.invokevirtual 134, 3) := by decide +kernel
theorem dX7_variable_85 : decode cX7_variable 85 = .ok (.goto 7, 3) := by decide +kernel
theorem dX7_variable_88 : decode cX7_variable 88 = .ok (.aload_n 0, 1) := by decide +kernel
theorem dX7_variable_89 : decode cX7_variable 89 = .ok (.invokevirtual 137, 3) := by decide +kernel
theorem dX7_variable_92 : decode cX7_variable 92 = .ok (.invokevirtual 85, 3) := by decide +kernel
theorem dX7_variable_95 : decode cX7_variable 95 = .ok (.goto 58, 3) := by decide +kernel
theorem dX7_variable_98 : decode cX7_variable 98 = .ok (.aload_n 0, 1) := by decide +kernel
theorem dX7_variable_99 : decode cX7_variable 99 = .ok (.bipush 61, 2) := by decide +kernel
theorem dX7_variable_101 : decode cX7_variable 101 = .ok (.invokevirtual 40, 3) := by decide +kernel
theorem dX7_variable_104 : decode cX7_variable 104 = .ok (.ifCond .eq 49, 3) := by decide +kernel
theorem dX7_variable_107 : decode cX7_variable 107 = .ok (.aload_n 0, 1) := by decide +kernel
theorem dX7_variable_108 : decode cX7_variable 108 = .ok (.getfield 16, 3) := by decide +kernel
theorem dX7_variable_111 : decode cX7_variable 111 = .ok (.invokevirtual 89, 3) := by decide +kernel
theorem dX7_variable_114 : decode cX7_variable 114 = .ok (.istore 4, 2) := by decide +kernel
theorem dX7_variable_116 : decode cX7_variable 116 = .ok (.aload_n 0, 1) := by decide +kernel
theorem dX7_variable_117 : decode cX7_variable 117 = .ok (.getfield 20, 3) := by decide +kernel
theorem dX7_variable_120 : decode cX7_variable 120 = .ok (.bipush 12, 2) := by decide +kernel
theorem dX7_variable_122 : decode cX7_variable 122 = .ok (.iconst 0, 1) := by decide +kernel
theorem dX7_variable_123 : decode cX7_variable 123 = .ok (.aload_n 0, 1) := by decide +kernel
theorem dX7_variable_124 : decode cX7_variable 124 = .ok (.invokevirtual 140, 3) := by decide +kernel
theorem dX7_variable_127 : decode cX7_variable 127 = .ok (.invokevirtual 95, 3) := by decide +kernel
theorem dX7_variable_130 : decode cX7_variable 130 = .ok (.istore 5, 2) := by decide +kernel
theorem dX7_variable_132 : decode cX7_variable 132 = .ok (.aload_n 0, 1) := by decide +kernel
theorem dX7_variable_133 : decode cX7_variable 133 = .ok (.getfield 20, 3) := by decide +kernel
theorem dX7_variable_136 : decode cX7_variable 136 = .ok (.iload 5, 2) := by decide +kernel
theorem dX7_variable_138 : decode cX7_variable 138 = .ok (.iload 4, 2) := by decide +kernel
theorem dX7_variable_140 : decode cX7_variable 140 = .ok (.invokevirtual 99, 3) := by decide +kernel
theorem dX7_variable_143 : decode cX7_variable 143 = .ok (.aload_n 0, 1) := by decide +kernel
theorem dX7_variable_144 : decode cX7_variable 144 = .ok (.getfield 20, 3) := by decide +kernel
theorem dX7_variable_147 : decode cX7_variable 147 = .ok (.iload_n 3, 1) := by decide +kernel
theorem dX7_variable_148 : decode cX7_variable 148 = .ok (.iload 5, 2) := by decide +kernel
theorem dX7_variable_150 : decode cX7_variable 150 = .ok (.invokevirtual 85, 3) := by decide +kernel
theorem dX7_variable_153 : decode cX7_variable 153 = .ok (.iload_n 3, 1) := by decide +kernel
theorem dX7_variable_154 : decode cX7_variable 154 = .ok (.ireturn, 1) := by decide +kernel
theorem dX7_string_0 : decode cX7_string 0 = .ok (.aload_n 0, 1) := by decide +kernel
theorem dX7_string_1 : decode cX7_string 1 = .ok (.getfield 20, 3) := by decide +kernel
theorem dX7_string_4 : decode cX7_string 4 = .ok (.bipush 9, 2) := by decide +kernel
theorem dX7_string_6 : decode cX7_string 6 = .ok (.aload_n 0, 1) := by decide +kernel
theorem dX7_string_7 : decode cX7_string 7 = .ok (.getfield 16, 3) := by decide +kernel
theorem dX7_string_10 : decode cX7_string 10 = .ok (.invokevirtual 143, 3) := by decide +kernel
theorem dX7_string_13 : decode cX7_string 13 = .ok (.aload_n 0, 1) := by decide +kernel
theorem dX7_string_14 : decode cX7_string 14 = .ok (.getfield 16, 3) := by decide +kernel
theorem dX7_string_17 : decode cX7_string 17 = .ok (.invokevirtual 146, 3) := by decide +kernel
theorem dX7_string_20 : decode cX7_string 20 = .ok (.aload_n 0, 1) := by decide +kernel
theorem dX7_string_21 : decode cX7_string 21 = .ok (.getfield 16, 3) := by decide +kernel
theorem dX7_string_24 : decode cX7_string 24 = .ok (.invokevirtual 89, 3) := by decide +kernel
theorem dX7_string_27 : decode cX7_string 27 = .ok (.invokevirtual 70, 3) := by decide +kernel
theorem dX7_string_30 : decode cX7_string 30 = .ok (.istore_n 1, 1) := by decide +kernel
theorem dX7_string_31 : decode cX7_string 31 = .ok (.aload_n 0, 1) := by decide +kernel
theorem dX7_string_32 : decode cX7_string 32 = .ok (.getfield 16, 3) := by decide +kernel
theorem dX7_string_35 : decode cX7_string 35 = .ok (.invokevirtual 37, 3) := by decide +kernel
theorem dX7_string_38 : decode cX7_string 38 = .ok (.iload_n 1, 1) := by decide +kernel
theorem dX7_string_39 : decode cX7_string 39 = .ok (.ireturn, 1) := by decide +kernel
theorem dX7_list_0 : decode cX7_list 0 = .ok (.aload_n 0, 1) := by decide +kernel
theorem dX7_list_1 : decode cX7_list 1 = .ok (.getfield 20, 3) := by decide +kernel
theorem dX7_list_4 : decode cX7_list 4 = .ok (.bipush 8, 2) := by decide +kernel
theorem dX7_list_6 : decode cX7_list 6 = .ok (.iconst 0, 1) := by decide +kernel
theorem dX7_list_7 : decode cX7_list 7 = .ok (.iconst 0, 1) := by decide +kernel
theorem dX7_list_8 : decode cX7_list 8 = .ok (.aload_n 0, 1) := by decide +kernel
theorem dX7_list_9 : decode cX7_list 9 = .ok (.getfield 16, 3) := by decide +kernel
theorem dX7_list_12 : decode cX7_list 12 = .ok (.invokevirtual 89, 3) := by decide +kernel
theorem dX7_list_15 : decode cX7_list 15 = .ok (.invokevirtual 70, 3) := by decide +kernel
theorem dX7_list_18 : decode cX7_list 18 = .ok (.istore_n 1, 1) := by decide +kernel
theorem dX7_list_19 : decode cX7_list 19 = .ok (.aload_n 0, 1) := by decide +kernel
theorem dX7_list_20 : decode cX7_list 20 = .ok (.bipush 123, 2) := by decide +kernel
theorem dX7_list_22 : decode cX7_list 22 = .ok (.invokevirtual 102, 3) := by decide +kernel
theorem dX7_list_25 : decode cX7_list 25 = .ok (.aload_n 0, 1) := by decide +kernel
theorem dX7_list_26 : decode cX7_list 26 = .ok (.getfield 20, 3) := by decide +kernel
theorem dX7_list_29 : decode cX7_list 29 = .ok (.iload_n 1, 1) := by decide +kernel
theorem dX7_list_30 : decode cX7_list 30 = .ok (.aload_n 0, 1) := by decide +kernel
theorem dX7_list_31 : decode cX7_list 31 = .ok (.invokevirtual 106, 3) := by decide +kernel
theorem dX7_list_34 : decode cX7_list 34 = .ok (.invokevirtual 85, 3) := by decide +kernel
theorem dX7_list_37 : decode cX7_list 37 = .ok (.aload_n 0, 1) := by decide +kernel
theorem dX7_list_38 : decode cX7_list 38 = .ok (.bipush 44, 2) := by decide +kernel
theorem dX7_list_40 : decode cX7_list 40 = .ok (.invokevirtual 40, 3) := by decide +kernel
theorem dX7_list_43 : decode cX7_list 43 = .ok (.ifCond .eq 18, 3) := by decide +kernel
theorem dX7_list_46 : decode cX7_list 46 = .ok (.aload_n 0, 1) := by decide +kernel
theorem dX7_list_47 : decode cX7_list 47 = .ok (.getfield 20, 3) := by decide +kernel
theorem dX7_list_50 : decode cX7_list 50 = .ok (.iload_n 1, 1) := by decide +kernel
theorem dX7_list_51 : decode cX7_list 51 = .ok (.aload_n 0, 1) := by decide +kernel
theorem dX7_list_52 : decode cX7_list 52 = .ok (.invokevirtual 106, 3) := by decide +kernel
theorem dX7_list_55 : decode cX7_list 55 = .ok (.invokevirtual 85, 3) := by decide +kernel
theorem dX7_list_58 : decode cX7_list 58 = .ok (.goto (-21), 3) := by decide +kernel
theorem dX7_list_61 : decode cX7_list 61 = .ok (.aload_n 0, 1) := by decide +kernel
theorem dX7_list_62 : decode cX7_list 62 = .ok (.bipush 125, 2) := by decide +kernel
theorem dX7_list_64 : decode cX7_list 64 = .ok (.invokevirtual 109, 3) := by decide +kernel
theorem dX7_list_67 : decode cX7_list 67 = .ok (.iload_n 1, 1) := by decide +kernel
theorem dX7_list_68 : decode cX7_list 68 = .ok (.ireturn, 1) := by decide +kernel
theorem dX7_choosing_0 : decode cX7_choosing 0 = .ok (.aload_n 0, 1) := by decide +kernel
theorem dX7_choosing_1 : decode cX7_choosing 1 = .ok (.getfield 20, 3) := by decide +kernel
theorem dX7_choosing_4 : decode cX7_choosing 4 = .ok (.bipush 13, 2) := by decide +kernel
theorem dX7_choosing_6 : decode cX7_choosing 6 = .ok (.iconst 0, 1) := by decide +kernel
theorem dX7_choosing_7 : decode cX7_choosing 7 = .ok (.iconst 0, 1) := by decide +kernel
theorem dX7_choosing_8 : decode cX7_choosing 8 = .ok (.iload_n 1, 1) := by decide +kernel
theorem dX7_choosing_9 : decode cX7_choosing 9 = .ok (.invokevirtual 70, 3) := by decide +kernel
theorem dX7_choosing_12 : decode cX7_choosing 12 = .ok (.istore_n 2, 1) := by decide +kernel
theorem dX7_choosing_13 : decode cX7_choosing 13 = .ok (.aload_n 0, 1) := by decide +kernel
theorem dX7_choosing_14 : decode cX7_choosing 14 = .ok (.invokevirtual 57, 3) := by decide +kernel
theorem dX7_choosing_17 : decode cX7_choosing 17 = .ok (.aload_n 0, 1) := by decide +kernel
theorem dX7_choosing_18 : decode cX7_choosing 18 = .ok (.getfield 20, 3) := by decide +kernel
theorem dX7_choosing_21 : decode cX7_choosing 21 = .ok (.iload_n 2, 1) := by decide +kernel
theorem dX7_choosing_22 : decode cX7_choosing 22 = .ok (.aload_n 0, 1) := by decide +kernel
theorem dX7_choosing_23 : decode cX7_choosing 23 = .ok (.invokevirtual 175, 3) := by decide +kernel
theorem dX7_choosing_26 : decode cX7_choosing 26 = .ok (.invokevirtual 85, 3) := by decide +kernel
theorem dX7_choosing_29 : decode cX7_choosing 29 = .ok (.aload_n 0, 1) := by decide +kernel
theorem dX7_choosing_30 : decode cX7_choosing 30 = .ok (.getfield 20, 3) := by decide +kernel
theorem dX7_choosing_33 : decode cX7_choosing 33 = .ok (.iload_n 2, 1) := by decide +kernel
theorem dX7_choosing_34 : decode cX7_choosing 34 = .ok (.aload_n 0, 1) := by decide +kernel
theorem dX7_choosing_35 : decode cX7_choosing 35 = .ok (.invokevirtual 147, 3) := by decide +kernel
theorem dX7_choosing_38 : decode cX7_choosing 38 = .ok (.invokevirtual 85, 3) := by decide +kernel
theorem dX7_choosing_41 : decode cX7_choosing 41 = .ok (.aload_n 0, 1) := by decide +kernel
theorem dX7_choosing_42 : decode cX7_choosing 42 = .ok (.iconst 5, 1) := by decide +kernel
theorem dX7_choosing_43 : decode cX7_choosing 43 = .ok (.invokevirtual 119, 3) := by decide +kernel
theorem dX7_choosing_46 : decode cX7_choosing 46 = .ok (.ifCond .eq 15, 3) := by decide +kernel
theorem dX7_choosing_49 : decode cX7_choosing 49 = .ok (.aload_n 0, 1) := by decide +kernel
theorem dX7_choosing_50 : decode cX7_choosing 50 = .ok (.getfield 20, 3) := by decide +kernel
theorem dX7_choosing_53 : decode cX7_choosing 53 = .ok (.iload_n 2, 1) := by decide +kernel
theorem dX7_choosing_54 : decode cX7_choosing 54 = .ok (.aload_n 0, 1) := by decide +kernel
theorem dX7_choosing_55 : decode cX7_choosing 55 = .ok (.invokevirtual 147, 3) := by decide +kernel
theorem dX7_choosing_58 : decode cX7_choosing 58 = .ok (.invokevirtual 85, 3) := by decide +kernel
theorem dX7_choosing_61 : decode cX7_choosing 61 = .ok (.aload_n 0, 1) := by decide +kernel
theorem dX7_choosing_62 : decode cX7_choosing 62 = .ok (.dup, 1) := by decide +kernel
theorem dX7_choosing_63 : decode cX7_choosing 63 = .ok (.getfield 47, 3) := by decide +kernel
theorem dX7_choosing_66 : decode cX7_choosing 66 = .ok (.iconst 1, 1) := by decide +kernel
theorem dX7_choosing_67 : decode cX7_choosing 67 = .ok (.isub, 1) := by decide +kernel
theorem dX7_choosing_68 : decode cX7_choosing 68 = .ok (.putfield 47, 3) := by decide +kernel
theorem dX7_choosing_71 : decode cX7_choosing 71 = .ok (.iload_n 2, 1) := by decide +kernel
theorem dX7_choosing_72 : decode cX7_choosing 72 = .ok (.ireturn, 1) := by decide +kernel
theorem dX7_condition_0 : decode cX7_condition 0 = .ok (.aload_n 0, 1) := by decide +kernel
theorem dX7_condition_1 : decode cX7_condition 1 = .ok (.bipush 40, 2) := by decide +kernel
theorem dX7_condition_3 : decode cX7_condition 3 = .ok (.invokevirtual 102, 3) := by decide +kernel
theorem dX7_condition_6 : decode cX7_condition 6 = .ok (.aload_n 0, 1) := by decide +kernel
theorem dX7_condition_7 : decode cX7_condition 7 = .ok (.invokevirtual 140, 3) := by decide +kernel
theorem dX7_condition_10 : decode cX7_condition 10 = .ok (.istore_n 1, 1) := by decide +kernel
theorem dX7_condition_11 : decode cX7_condition 11 = .ok (.aload_n 0, 1) := by decide +kernel
theorem dX7_condition_12 : decode cX7_condition 12 = .ok (.bipush 41, 2) := by decide +kernel
theorem dX7_condition_14 : decode cX7_condition 14 = .ok (.invokevirtual 109, 3) := by decide +kernel
theorem dX7_condition_17 : decode cX7_condition 17 = .ok (.iload_n 1, 1) := by decide +kernel
theorem dX7_condition_18 : decode cX7_condition 18 = .ok (.ireturn, 1) := by decide +kernel
theorem dX7_looping_0 : decode cX7_looping 0 = .ok (.aload_n 0, 1) := by decide +kernel
theorem dX7_looping_1 : decode cX7_looping 1 = .ok (.getfield 20, 3) := by decide +kernel
theorem dX7_looping_4 : decode cX7_looping 4 = .ok (.bipush 14, 2) := by decide +kernel
theorem dX7_looping_6 : decode cX7_looping 6 = .ok (.iconst 0, 1) := by decide +kernel
theorem dX7_looping_7 : decode cX7_looping 7 = .ok (.iconst 0, 1) := by decide +kernel
theorem dX7_looping_8 : decode cX7_looping 8 = .ok (.iload_n 1, 1) := by decide +kernel
theorem dX7_looping_9 : decode cX7_looping 9 = .ok (.invokevirtual 70, 3) := by decide +kernel
theorem dX7_looping_12 : decode cX7_looping 12 = .ok (.istore_n 2, 1) := by decide +kernel
theorem dX7_looping_13 : decode cX7_looping 13 = .ok (.aload_n 0, 1) := by decide +kernel
theorem dX7_looping_14 : decode cX7_looping 14 = .ok (.invokevirtual 57, 3) := by decide +kernel
theorem dX7_looping_17 : decode cX7_looping 17 = .ok (.aload_n 0, 1) := by decide +kernel
theorem dX7_looping_18 : decode cX7_looping 18 = .ok (.getfield 20, 3) := by decide +kernel
theorem dX7_looping_21 : decode cX7_looping 21 = .ok (.iload_n 2, 1) := by decide +kernel
theorem dX7_looping_22 : decode cX7_looping 22 = .ok (.aload_n 0, 1) := by decide +kernel
theorem dX7_looping_23 : decode cX7_looping 23 = .ok (.invokevirtual 175, 3) := by decide +kernel
theorem dX7_looping_26 : decode cX7_looping 26 = .ok (.invokevirtual 85, 3) := by decide +kernel
theorem dX7_looping_29 : decode cX7_looping 29 = .ok (.aload_n 0, 1) := by decide +kernel
theorem dX7_looping_30 : decode cX7_looping 30 = .ok (.getfield 20, 3) := by decide +kernel
theorem dX7_looping_33 : decode cX7_looping 33 = .ok (.iload_n 2, 1) := by decide +kernel
theorem dX7_looping_34 : decode cX7_looping 34 = .ok (.aload_n 0, 1) := by decide +kernel
theorem dX7_looping_35 : decode cX7_looping 35 = .ok (.invokevirtual 147, 3) := by decide +kernel
theorem dX7_looping_38 : decode cX7_looping 38 = .ok (.invokevirtual 85, 3) := by decide +kernel
theorem dX7_looping_41 : decode cX7_looping 41 = .ok (.aload_n 0, 1) := by decide +kernel
theorem dX7_looping_42 : decode cX7_looping 42 = .ok (.dup, 1) := by decide +kernel
theorem dX7_looping_43 : decode cX7_looping 43 = .ok (.getfield 47, 3) := by decide +kernel
theorem dX7_looping_46 : decode cX7_looping 46 = .ok (.iconst 1, 1) := by decide +kernel
theorem dX7_looping_47 : decode cX7_looping 47 = .ok (.isub, 1) := by decide +kernel
theorem dX7_looping_48 : decode cX7_looping 48 = .ok (.putfield 47, 3) := by decide +kernel
theorem dX7_looping_51 : decode cX7_looping 51 = .ok (.iload_n 2, 1) := by decide +kernel
theorem dX7_looping_52 : decode cX7_looping 52 = .ok (.ireturn, 1) := by decide +kernel
theorem dX7_doing_0 : decode cX7_doing 0 = .ok (.aload_n 0, 1) := by decide +kernel
theorem dX7_doing_1 : decode cX7_doing 1 = .ok (.getfield 20, 3) := by decide +kernel
theorem dX7_doing_4 : decode cX7_doing 4 = .ok (.bipush 15, 2) := by decide +kernel
theorem dX7_doing_6 : decode cX7_doing 6 = .ok (.iconst 0, 1) := by decide +kernel
theorem dX7_doing_7 : decode cX7_doing 7 = .ok (.iconst 0, 1) := by decide +kernel
theorem dX7_doing_8 : decode cX7_doing 8 = .ok (.iload_n 1, 1) := by decide +kernel
theorem dX7_doing_9 : decode cX7_doing 9 = .ok (.invokevirtual 70, 3) := by decide +kernel
theorem dX7_doing_12 : decode cX7_doing 12 = .ok (.istore_n 2, 1) := by decide +kernel
theorem dX7_doing_13 : decode cX7_doing 13 = .ok (.aload_n 0, 1) := by decide +kernel
theorem dX7_doing_14 : decode cX7_doing 14 = .ok (.invokevirtual 57, 3) := by decide +kernel
theorem dX7_doing_17 : decode cX7_doing 17 = .ok (.aload_n 0, 1) := by decide +kernel
theorem dX7_doing_18 : decode cX7_doing 18 = .ok (.getfield 20, 3) := by decide +kernel
theorem dX7_doing_21 : decode cX7_doing 21 = .ok (.iload_n 2, 1) := by decide +kernel
theorem dX7_doing_22 : decode cX7_doing 22 = .ok (.aload_n 0, 1) := by decide +kernel
theorem dX7_doing_23 : decode cX7_doing 23 = .ok (.invokevirtual 147, 3) := by decide +kernel
theorem dX7_doing_26 : decode cX7_doing 26 = .ok (.invokevirtual 85, 3) := by decide +kernel
theorem dX7_doing_29 : decode cX7_doing 29 = .ok (.aload_n 0, 1) := by decide +kernel
theorem dX7_doing_30 : decode cX7_doing 30 = .ok (.bipush 6, 2) := by decide +kernel
theorem dX7_doing_32 : decode cX7_doing 32 = .ok (.invokevirtual 119, 3) := by decide +kernel
theorem dX7_doing_35 : decode cX7_doing 35 = .ok (.invokestatic 43, 3) := by decide +kernel
theorem dX7_doing_38 : decode cX7_doing 38 = .ok (.aload_n 0, 1) := by decide +kernel
theorem dX7_doing_39 : decode cX7_doing 39 = .ok (.getfield 20, 3) := by decide +kernel
theorem dX7_doing_42 : decode cX7_doing 42 = .ok (.iload_n 2, 1) := by decide +kernel
theorem dX7_doing_43 : decode cX7_doing 43 = .ok (.aload_n 0, 1) := by decide +kernel
theorem dX7_doing_44 : decode cX7_doing 44 = .ok (.invokevirtual 175, 3) := by decide +kernel
theorem dX7_doing_47 : decode cX7_doing 47 = .ok (.invokevirtual 85, 3) := by decide +kernel
theorem dX7_doing_50 : decode cX7_doing 50 = .ok (.aload_n 0, 1) := by decide +kernel
theorem dX7_doing_51 : decode cX7_doing 51 = .ok (.bipush 59, 2) := by decide +kernel
theorem dX7_doing_53 : decode cX7_doing 53 = .ok (.invokevirtual 60, 3) := by decide +kernel
theorem dX7_doing_56 : decode cX7_doing 56 = .ok (.aload_n 0, 1) := by decide +kernel
theorem dX7_doing_57 : decode cX7_doing 57 = .ok (.dup, 1) := by decide +kernel
theorem dX7_doing_58 : decode cX7_doing 58 = .ok (.getfield 47, 3) := by decide +kernel
theorem dX7_doing_61 : decode cX7_doing 61 = .ok (.iconst 1, 1) := by decide +kernel
theorem dX7_doing_62 : decode cX7_doing 62 = .ok (.isub, 1) := by decide +kernel
theorem dX7_doing_63 : decode cX7_doing 63 = .ok (.putfield 47, 3) := by decide +kernel
theorem dX7_doing_66 : decode cX7_doing 66 = .ok (.iload_n 2, 1) := by decide +kernel
theorem dX7_doing_67 : decode cX7_doing 67 = .ok (.ireturn, 1) := by decide +kernel
theorem dX7_counting_0 : decode cX7_counting 0 = .ok (.aload_n 0, 1) := by decide +kernel
theorem dX7_counting_1 : decode cX7_counting 1 = .ok (.getfield 20, 3) := by decide +kernel
theorem dX7_counting_4 : decode cX7_counting 4 = .ok (.bipush 16, 2) := by decide +kernel
theorem dX7_counting_6 : decode cX7_counting 6 = .ok (.iconst 0, 1) := by decide +kernel
theorem dX7_counting_7 : decode cX7_counting 7 = .ok (.iconst 0, 1) := by decide +kernel
theorem dX7_counting_8 : decode cX7_counting 8 = .ok (.iload_n 1, 1) := by decide +kernel
theorem dX7_counting_9 : decode cX7_counting 9 = .ok (.invokevirtual 70, 3) := by decide +kernel
theorem dX7_counting_12 : decode cX7_counting 12 = .ok (.istore_n 2, 1) := by decide +kernel
theorem dX7_counting_13 : decode cX7_counting 13 = .ok (.aload_n 0, 1) := by decide +kernel
theorem dX7_counting_14 : decode cX7_counting 14 = .ok (.invokevirtual 57, 3) := by decide +kernel
theorem dX7_counting_17 : decode cX7_counting 17 = .ok (.aload_n 0, 1) := by decide +kernel
theorem dX7_counting_18 : decode cX7_counting 18 = .ok (.bipush 40, 2) := by decide +kernel
theorem dX7_counting_20 : decode cX7_counting 20 = .ok (.invokevirtual 102, 3) := by decide +kernel
theorem dX7_counting_23 : decode cX7_counting 23 = .ok (.aload_n 0, 1) := by decide +kernel
theorem dX7_counting_24 : decode cX7_counting 24 = .ok (.invokevirtual 150, 3) := by decide +kernel
theorem dX7_counting_27 : decode cX7_counting 27 = .ok (.ifCond .eq 18, 3) := by decide +kernel
theorem dX7_counting_30 : decode cX7_counting 30 = .ok (.aload_n 0, 1) := by decide +kernel
theorem dX7_counting_31 : decode cX7_counting 31 = .ok (.getfield 20, 3) := by decide +kernel
theorem dX7_counting_34 : decode cX7_counting 34 = .ok (.iload_n 2, 1) := by decide +kernel
theorem dX7_counting_35 : decode cX7_counting 35 = .ok (.aload_n 0, 1) := by decide +kernel
theorem dX7_counting_36 : decode cX7_counting 36 = .ok (.invokevirtual 154, 3) := by decide +kernel
theorem dX7_counting_39 : decode cX7_counting 39 = .ok (.invokevirtual 85, 3) := by decide +kernel
theorem dX7_counting_42 : decode cX7_counting 42 = .ok (.goto 37, 3) := by decide +kernel
theorem dX7_counting_45 : decode cX7_counting 45 = .ok (.aload_n 0, 1) := by decide +kernel
theorem dX7_counting_46 : decode cX7_counting 46 = .ok (.getfield 20, 3) := by decide +kernel
theorem dX7_counting_49 : decode cX7_counting 49 = .ok (.iload_n 2, 1) := by decide +kernel
theorem dX7_counting_50 : decode cX7_counting 50 = .ok (.aload_n 0, 1) := by decide +kernel
theorem dX7_counting_51 : decode cX7_counting 51 = .ok (.bipush 59, 2) := by decide +kernel
theorem dX7_counting_53 : decode cX7_counting 53 = .ok (.invokevirtual 33, 3) := by decide +kernel
theorem dX7_counting_56 : decode cX7_counting 56 = .ok (.ifCond .eq 10, 3) := by decide +kernel
theorem dX7_counting_59 : decode cX7_counting 59 = .ok (.aload_n 0, 1) := by decide +kernel
theorem dX7_counting_60 : decode cX7_counting 60 = .ok (.invokevirtual 178, 3) := by decide +kernel
theorem dX7_counting_63 : decode cX7_counting 63 = .ok (.goto 7, 3) := by decide +kernel
theorem dX7_counting_66 : decode cX7_counting 66 = .ok (.aload_n 0, 1) := by decide +kernel
theorem dX7_counting_67 : decode cX7_counting 67 = .ok (.invokevirtual 140, 3) := by decide +kernel
theorem dX7_counting_70 : decode cX7_counting 70 = .ok (.invokevirtual 85, 3) := by decide +kernel
theorem dX7_counting_73 : decode cX7_counting 73 = .ok (.aload_n 0, 1) := by decide +kernel
theorem dX7_counting_74 : decode cX7_counting 74 = .ok (.bipush 59, 2) := by decide +kernel
theorem dX7_counting_76 : decode cX7_counting 76 = .ok (.invokevirtual 60, 3) := by decide +kernel
theorem dX7_counting_79 : decode cX7_counting 79 = .ok (.aload_n 0, 1) := by decide +kernel
theorem dX7_counting_80 : decode cX7_counting 80 = .ok (.getfield 20, 3) := by decide +kernel
theorem dX7_counting_83 : decode cX7_counting 83 = .ok (.iload_n 2, 1) := by decide +kernel
theorem dX7_counting_84 : decode cX7_counting 84 = .ok (.aload_n 0, 1) := by decide +kernel
theorem dX7_counting_85 : decode cX7_counting 85 = .ok (.bipush 59, 2) := by decide +kernel
theorem dX7_counting_87 : decode cX7_counting 87 = .ok (.invokevirtual 33, 3) := by decide +kernel
theorem dX7_counting_90 : decode cX7_counting 90 = .ok (.ifCond .eq 10, 3) := by decide +kernel
theorem dX7_counting_93 : decode cX7_counting 93 = .ok (.aload_n 0, 1) := by decide +kernel
theorem dX7_counting_94 : decode cX7_counting 94 = .ok (.invokevirtual 178, 3) := by decide +kernel
theorem dX7_counting_97 : decode cX7_counting 97 = .ok (.goto 7, 3) := by decide +kernel
theorem dX7_counting_100 : decode cX7_counting 100 = .ok (.aload_n 0, 1) := by decide +kernel
theorem dX7_counting_101 : decode cX7_counting 101 = .ok (.invokevirtual 140, 3) := by decide +kernel
theorem dX7_counting_104 : decode cX7_counting 104 = .ok (.invokevirtual 85, 3) := by decide +kernel
theorem dX7_counting_107 : decode cX7_counting 107 = .ok (.aload_n 0, 1) := by decide +kernel
theorem dX7_counting_108 : decode cX7_counting 108 = .ok (.bipush 59, 2) := by decide +kernel
theorem dX7_counting_110 : decode cX7_counting 110 = .ok (.invokevirtual 60, 3) := by decide +kernel
theorem dX7_counting_113 : decode cX7_counting 113 = .ok (.aload_n 0, 1) := by decide +kernel
theorem dX7_counting_114 : decode cX7_counting 114 = .ok (.getfield 20, 3) := by decide +kernel
theorem dX7_counting_117 : decode cX7_counting 117 = .ok (.iload_n 2, 1) := by decide +kernel
theorem dX7_counting_118 : decode cX7_counting 118 = .ok (.aload_n 0, 1) := by decide +kernel
theorem dX7_counting_119 : decode cX7_counting 119 = .ok (.bipush 41, 2) := by decide +kernel
theorem dX7_counting_121 : decode cX7_counting 121 = .ok (.invokevirtual 33, 3) := by decide +kernel
theorem dX7_counting_124 : decode cX7_counting 124 = .ok (.ifCond .eq 10, 3) := by decide +kernel
theorem dX7_counting_127 : decode cX7_counting 127 = .ok (.aload_n 0, 1) := by decide +kernel
theorem dX7_counting_128 : decode cX7_counting 128 = .ok (.invokevirtual 178, 3) := by decide +kernel
theorem dX7_counting_131 : decode cX7_counting 131 = .ok (.goto 7, 3) := by decide +kernel
theorem dX7_counting_134 : decode cX7_counting 134 = .ok (.aload_n 0, 1) := by decide +kernel
theorem dX7_counting_135 : decode cX7_counting 135 = .ok (.invokevirtual 140, 3) := by decide +kernel
theorem dX7_counting_138 : decode cX7_counting 138 = .ok (.invokevirtual 85, 3) := by decide +kernel
theorem dX7_counting_141 : decode cX7_counting 141 = .ok (.aload_n 0, 1) := by decide +kernel
theorem dX7_counting_142 : decode cX7_counting 142 = .ok (.bipush 41, 2) := by decide +kernel
theorem dX7_counting_144 : decode cX7_counting 144 = .ok (.invokevirtual 109, 3) := by decide +kernel
theorem dX7_counting_147 : decode cX7_counting 147 = .ok (.aload_n 0, 1) := by decide +kernel
theorem dX7_counting_148 : decode cX7_counting 148 = .ok (.getfield 20, 3) := by decide +kernel
theorem dX7_counting_151 : decode cX7_counting 151 = .ok (.iload_n 2, 1) := by decide +kernel
theorem dX7_counting_152 : decode cX7_counting 152 = .ok (.aload_n 0, 1) := by decide +kernel
theorem dX7_counting_153 : decode cX7_counting 153 = .ok (.invokevirtual 147, 3) := by decide +kernel
theorem dX7_counting_156 : decode cX7_counting 156 = .ok (.invokevirtual 85, 3) := by decide +kernel
theorem dX7_counting_159 : decode cX7_counting 159 = .ok (.aload_n 0, 1) := by decide +kernel
theorem dX7_counting_160 : decode cX7_counting 160 = .ok (.dup, 1) := by decide +kernel
theorem dX7_counting_161 : decode cX7_counting 161 = .ok (.getfield 47, 3) := by decide +kernel
theorem dX7_counting_164 : decode cX7_counting 164 = .ok (.iconst 1, 1) := by decide +kernel
theorem dX7_counting_165 : decode cX7_counting 165 = .ok (.isub, 1) := by decide +kernel
theorem dX7_counting_166 : decode cX7_counting 166 = .ok (.putfield 47, 3) := by decide +kernel
theorem dX7_counting_169 : decode cX7_counting 169 = .ok (.iload_n 2, 1) := by decide +kernel
theorem dX7_counting_170 : decode cX7_counting 170 = .ok (.ireturn, 1) := by decide +kernel
theorem dX7_empty_0 : decode cX7_empty 0 = .ok (.aload_n 0, 1) := by decide +kernel
theorem dX7_empty_1 : decode cX7_empty 1 = .ok (.getfield 20, 3) := by decide +kernel
theorem dX7_empty_4 : decode cX7_empty 4 = .ok (.bipush 11, 2) := by decide +kernel
theorem dX7_empty_6 : decode cX7_empty 6 = .ok (.iconst 0, 1) := by decide +kernel
theorem dX7_empty_7 : decode cX7_empty 7 = .ok (.iconst 0, 1) := by decide +kernel
theorem dX7_empty_8 : decode cX7_empty 8 = .ok (.aload_n 0, 1) := by decide +kernel
theorem dX7_empty_9 : decode cX7_empty 9 = .ok (.getfield 16, 3) := by decide +kernel
theorem dX7_empty_12 : decode cX7_empty 12 = .ok (.invokevirtual 89, 3) := by decide +kernel
theorem dX7_empty_15 : decode cX7_empty 15 = .ok (.invokevirtual 70, 3) := by decide +kernel
theorem dX7_empty_18 : decode cX7_empty 18 = .ok (.ireturn, 1) := by decide +kernel
theorem dX7_switching_0 : decode cX7_switching 0 = .ok (.aload_n 0, 1) := by decide +kernel
theorem dX7_switching_1 : decode cX7_switching 1 = .ok (.getfield 20, 3) := by decide +kernel
theorem dX7_switching_4 : decode cX7_switching 4 = .ok (.bipush 17, 2) := by decide +kernel
theorem dX7_switching_6 : decode cX7_switching 6 = .ok (.iconst 0, 1) := by decide +kernel
theorem dX7_switching_7 : decode cX7_switching 7 = .ok (.iconst 0, 1) := by decide +kernel
theorem dX7_switching_8 : decode cX7_switching 8 = .ok (.iload_n 1, 1) := by decide +kernel
theorem dX7_switching_9 : decode cX7_switching 9 = .ok (.invokevirtual 70, 3) := by decide +kernel
theorem dX7_switching_12 : decode cX7_switching 12 = .ok (.istore_n 2, 1) := by decide +kernel
theorem dX7_switching_13 : decode cX7_switching 13 = .ok (.aload_n 0, 1) := by decide +kernel
theorem dX7_switching_14 : decode cX7_switching 14 = .ok (.invokevirtual 57, 3) := by decide +kernel
theorem dX7_switching_17 : decode cX7_switching 17 = .ok (.aload_n 0, 1) := by decide +kernel
theorem dX7_switching_18 : decode cX7_switching 18 = .ok (.getfield 20, 3) := by decide +kernel
theorem dX7_switching_21 : decode cX7_switching 21 = .ok (.iload_n 2, 1) := by decide +kernel
theorem dX7_switching_22 : decode cX7_switching 22 = .ok (.aload_n 0, 1) := by decide +kernel
theorem dX7_switching_23 : decode cX7_switching 23 = .ok (.invokevirtual 175, 3) := by decide +kernel
theorem dX7_switching_26 : decode cX7_switching 26 = .ok (.invokevirtual 85, 3) := by decide +kernel
theorem dX7_switching_29 : decode cX7_switching 29 = .ok (.aload_n 0, 1) := by decide +kernel
theorem dX7_switching_30 : decode cX7_switching 30 = .ok (.bipush 123, 2) := by decide +kernel
theorem dX7_switching_32 : decode cX7_switching 32 = .ok (.invokevirtual 102, 3) := by decide +kernel
theorem dX7_switching_35 : decode cX7_switching 35 = .ok (.aload_n 0, 1) := by decide +kernel
theorem dX7_switching_36 : decode cX7_switching 36 = .ok (.bipush 125, 2) := by decide +kernel
theorem dX7_switching_38 : decode cX7_switching 38 = .ok (.invokevirtual 33, 3) := by decide +kernel
theorem dX7_switching_41 : decode cX7_switching 41 = .ok (.ifCond .ne 21, 3) := by decide +kernel
theorem dX7_switching_44 : decode cX7_switching 44 = .ok (.aload_n 0, 1) := by decide +kernel
theorem dX7_switching_45 : decode cX7_switching 45 = .ok (.bipush 10, 2) := by decide +kernel
theorem dX7_switching_47 : decode cX7_switching 47 = .ok (.invokevirtual 76, 3) := by decide +kernel
theorem dX7_switching_50 : decode cX7_switching 50 = .ok (.ifCond .ne 12, 3) := by decide +kernel
theorem dX7_switching_53 : decode cX7_switching 53 = .ok (.aload_n 0, 1) := by decide +kernel
theorem dX7_switching_54 : decode cX7_switching 54 = .ok (.bipush 11, 2) := by decide +kernel
theorem dX7_switching_56 : decode cX7_switching 56 = .ok (.invokevirtual 76, 3) := by decide +kernel
theorem dX7_switching_59 : decode cX7_switching 59 = .ok (.ifCond .eq 7, 3) := by decide +kernel
theorem dX7_switching_62 : decode cX7_switching 62 = .ok (.iconst 1, 1) := by decide +kernel
theorem dX7_switching_63 : decode cX7_switching 63 = .ok (.goto 4, 3) := by decide +kernel
theorem dX7_switching_66 : decode cX7_switching 66 = .ok (.iconst 0, 1) := by decide +kernel
theorem dX7_switching_67 : decode cX7_switching 67 = .ok (.invokestatic 43, 3) := by decide +kernel
theorem dX7_switching_70 : decode cX7_switching 70 = .ok (.aload_n 0, 1) := by decide +kernel
theorem dX7_switching_71 : decode cX7_switching 71 = .ok (.bipush 125, 2) := by decide +kernel
theorem dX7_switching_73 : decode cX7_switching 73 = .ok (.invokevirtual 33, 3) := by decide +kernel
theorem dX7_switching_76 : decode cX7_switching 76 = .ok (.ifCond .ne 18, 3) := by decide +kernel
theorem dX7_switching_79 : decode cX7_switching 79 = .ok (.aload_n 0, 1) := by decide +kernel
theorem dX7_switching_80 : decode cX7_switching 80 = .ok (.getfield 20, 3) := by decide +kernel
theorem dX7_switching_83 : decode cX7_switching 83 = .ok (.iload_n 2, 1) := by decide +kernel
theorem dX7_switching_84 : decode cX7_switching 84 = .ok (.aload_n 0, 1) := by decide +kernel
theorem dX7_switching_85 : decode cX7_switching 85 = .ok (.invokevirtual 181, 3) := by decide +kernel
theorem dX7_switching_88 : decode cX7_switching 88 = .ok (.invokevirtual 85, 3) := by decide +kernel
theorem dX7_switching_91 : decode cX7_switching 91 = .ok (.goto (-21), 3) := by decide +kernel
theorem dX7_switching_94 : decode cX7_switching 94 = .ok (.aload_n 0, 1) := by decide +kernel
theorem dX7_switching_95 : decode cX7_switching 95 = .ok (.bipush 125, 2) := by decide +kernel
theorem dX7_switching_97 : decode cX7_switching 97 = .ok (.invokevirtual 109, 3) := by decide +kernel
theorem dX7_switching_100 : decode cX7_switching 100 = .ok (.aload_n 0, 1) := by decide +kernel
theorem dX7_switching_101 : decode cX7_switching 101 = .ok (.dup, 1) := by decide +kernel
theorem dX7_switching_102 : decode cX7_switching 102 = .ok (.getfield 47, 3) := by decide +kernel
theorem dX7_switching_105 : decode cX7_switching 105 = .ok (.iconst 1, 1) := by decide +kernel
theorem dX7_switching_106 : decode cX7_switching 106 = .ok (.isub, 1) := by decide +kernel
theorem dX7_switching_107 : decode cX7_switching 107 = .ok (.putfield 47, 3) := by decide +kernel
theorem dX7_switching_110 : decode cX7_switching 110 = .ok (.iload_n 2, 1) := by decide +kernel
theorem dX7_switching_111 : decode cX7_switching 111 = .ok (.ireturn, 1) := by decide +kernel
theorem dX7_part_0 : decode cX7_part 0 = .ok (.aload_n 0, 1) := by decide +kernel
theorem dX7_part_1 : decode cX7_part 1 = .ok (.getfield 16, 3) := by decide +kernel
theorem dX7_part_4 : decode cX7_part 4 = .ok (.invokevirtual 89, 3) := by decide +kernel
theorem dX7_part_7 : decode cX7_part 7 = .ok (.istore_n 1, 1) := by decide +kernel
theorem dX7_part_8 : decode cX7_part 8 = .ok (.aload_n 0, 1) := by decide +kernel
theorem dX7_part_9 : decode cX7_part 9 = .ok (.bipush 10, 2) := by decide +kernel
theorem dX7_part_11 : decode cX7_part 11 = .ok (.invokevirtual 119, 3) := by decide +kernel
theorem dX7_part_14 : decode cX7_part 14 = .ok (.ifCond .eq 36, 3) := by decide +kernel
theorem dX7_part_17 : decode cX7_part 17 = .ok (.aload_n 0, 1) := by decide +kernel
theorem dX7_part_18 : decode cX7_part 18 = .ok (.getfield 20, 3) := by decide +kernel
theorem dX7_part_21 : decode cX7_part 21 = .ok (.bipush 18, 2) := by decide +kernel
theorem dX7_part_23 : decode cX7_part 23 = .ok (.iconst 0, 1) := by decide +kernel
theorem dX7_part_24 : decode cX7_part 24 = .ok (.iconst 0, 1) := by decide +kernel
theorem dX7_part_25 : decode cX7_part 25 = .ok (.iload_n 1, 1) := by decide +kernel
theorem dX7_part_26 : decode cX7_part 26 = .ok (.invokevirtual 70, 3) := by decide +kernel
theorem dX7_part_29 : decode cX7_part 29 = .ok (.istore_n 2, 1) := by decide +kernel
theorem dX7_part_30 : decode cX7_part 30 = .ok (.aload_n 0, 1) := by decide +kernel
theorem dX7_part_31 : decode cX7_part 31 = .ok (.getfield 20, 3) := by decide +kernel
theorem dX7_part_34 : decode cX7_part 34 = .ok (.iload_n 2, 1) := by decide +kernel
theorem dX7_part_35 : decode cX7_part 35 = .ok (.aload_n 0, 1) := by decide +kernel
theorem dX7_part_36 : decode cX7_part 36 = .ok (.invokevirtual 106, 3) := by decide +kernel
theorem dX7_part_39 : decode cX7_part 39 = .ok (.invokevirtual 85, 3) := by decide +kernel
theorem dX7_part_42 : decode cX7_part 42 = .ok (.aload_n 0, 1) := by decide +kernel
theorem dX7_part_43 : decode cX7_part 43 = .ok (.bipush 58, 2) := by decide +kernel
theorem dX7_part_45 : decode cX7_part 45 = .ok (.invokevirtual 60, 3) := by decide +kernel
theorem dX7_part_48 : decode cX7_part 48 = .ok (.iload_n 2, 1) := by decide +kernel
theorem dX7_part_49 : decode cX7_part 49 = .ok (.ireturn, 1) := by decide +kernel
theorem dX7_part_50 : decode cX7_part 50 = .ok (.aload_n 0, 1) := by decide +kernel
theorem dX7_part_51 : decode cX7_part 51 = .ok (.bipush 11, 2) := by decide +kernel
theorem dX7_part_53 : decode cX7_part 53 = .ok (.invokevirtual 119, 3) := by decide +kernel
theorem dX7_part_56 : decode cX7_part 56 = .ok (.ifCond .eq 22, 3) := by decide +kernel
theorem dX7_part_59 : decode cX7_part 59 = .ok (.aload_n 0, 1) := by decide +kernel
theorem dX7_part_60 : decode cX7_part 60 = .ok (.bipush 58, 2) := by decide +kernel
theorem dX7_part_62 : decode cX7_part 62 = .ok (.invokevirtual 60, 3) := by decide +kernel
theorem dX7_part_65 : decode cX7_part 65 = .ok (.aload_n 0, 1) := by decide +kernel
theorem dX7_part_66 : decode cX7_part 66 = .ok (.getfield 20, 3) := by decide +kernel
theorem dX7_part_69 : decode cX7_part 69 = .ok (.bipush 19, 2) := by decide +kernel
theorem dX7_part_71 : decode cX7_part 71 = .ok (.iconst 0, 1) := by decide +kernel
theorem dX7_part_72 : decode cX7_part 72 = .ok (.iconst 0, 1) := by decide +kernel
theorem dX7_part_73 : decode cX7_part 73 = .ok (.iload_n 1, 1) := by decide +kernel
theorem dX7_part_74 : decode cX7_part 74 = .ok (.invokevirtual 70, 3) := by decide +kernel
theorem dX7_part_77 : decode cX7_part 77 = .ok (.ireturn, 1) := by decide +kernel
theorem dX7_part_78 : decode cX7_part 78 = .ok (.aload_n 0, 1) := by decide +kernel
theorem dX7_part_79 : decode cX7_part 79 = .ok (.invokevirtual 147, 3) := by decide +kernel
theorem dX7_part_82 : decode cX7_part 82 = .ok (.ireturn, 1) := by decide +kernel
theorem dX7_returning_0 : decode cX7_returning 0 = .ok (.aload_n 0, 1) := by decide +kernel
theorem dX7_returning_1 : decode cX7_returning 1 = .ok (.getfield 20, 3) := by decide +kernel
theorem dX7_returning_4 : decode cX7_returning 4 = .ok (.bipush 22, 2) := by decide +kernel
theorem dX7_returning_6 : decode cX7_returning 6 = .ok (.iconst 0, 1) := by decide +kernel
theorem dX7_returning_7 : decode cX7_returning 7 = .ok (.iconst 0, 1) := by decide +kernel
theorem dX7_returning_8 : decode cX7_returning 8 = .ok (.iload_n 1, 1) := by decide +kernel
theorem dX7_returning_9 : decode cX7_returning 9 = .ok (.invokevirtual 70, 3) := by decide +kernel
theorem dX7_returning_12 : decode cX7_returning 12 = .ok (.istore_n 2, 1) := by decide +kernel
theorem dX7_returning_13 : decode cX7_returning 13 = .ok (.aload_n 0, 1) := by decide +kernel
theorem dX7_returning_14 : decode cX7_returning 14 = .ok (.getfield 16, 3) := by decide +kernel
theorem dX7_returning_17 : decode cX7_returning 17 = .ok (.invokevirtual 37, 3) := by decide +kernel
theorem dX7_returning_20 : decode cX7_returning 20 = .ok (.aload_n 0, 1) := by decide +kernel
theorem dX7_returning_21 : decode cX7_returning 21 = .ok (.bipush 59, 2) := by decide +kernel
theorem dX7_returning_23 : decode cX7_returning 23 = .ok (.invokevirtual 33, 3) := by decide +kernel
theorem dX7_returning_26 : decode cX7_returning 26 = .ok (.ifCond .ne 15, 3) := by decide +kernel
theorem dX7_returning_29 : decode cX7_returning 29 = .ok (.aload_n 0, 1) := by decide +kernel
theorem dX7_returning_30 : decode cX7_returning 30 = .ok (.getfield 20, 3) := by decide +kernel
theorem dX7_returning_33 : decode cX7_returning 33 = .ok (.iload_n 2, 1) := by decide +kernel
theorem dX7_returning_34 : decode cX7_returning 34 = .ok (.aload_n 0, 1) := by decide +kernel
theorem dX7_returning_35 : decode cX7_returning 35 = .ok (.invokevirtual 140, 3) := by decide +kernel
theorem dX7_returning_38 : decode cX7_returning 38 = .ok (.invokevirtual 85, 3) := by decide +kernel
theorem dX7_returning_41 : decode cX7_returning 41 = .ok (.aload_n 0, 1) := by decide +kernel
theorem dX7_returning_42 : decode cX7_returning 42 = .ok (.bipush 59, 2) := by decide +kernel
theorem dX7_returning_44 : decode cX7_returning 44 = .ok (.invokevirtual 60, 3) := by decide +kernel
theorem dX7_returning_47 : decode cX7_returning 47 = .ok (.iload_n 2, 1) := by decide +kernel
theorem dX7_returning_48 : decode cX7_returning 48 = .ok (.ireturn, 1) := by decide +kernel
theorem dX8_init_0 : decode cX8_init 0 = .ok (.aload_n 0, 1) := by decide +kernel
theorem dX8_init_1 : decode cX8_init 1 = .ok (.invokespecial 3, 3) := by decide +kernel
theorem dX8_init_4 : decode cX8_init 4 = .ok (.aload_n 0, 1) := by decide +kernel
theorem dX8_init_5 : decode cX8_init 5 = .ok (.new 9, 3) := by decide +kernel
theorem dX8_init_8 : decode cX8_init 8 = .ok (.dup, 1) := by decide +kernel
theorem dX8_init_9 : decode cX8_init 9 = .ok (.invokespecial 11, 3) := by decide +kernel
theorem dX8_init_12 : decode cX8_init 12 = .ok (.putfield 12, 3) := by decide +kernel
theorem dX8_init_15 : decode cX8_init 15 = .ok (.aload_n 0, 1) := by decide +kernel
theorem dX8_init_16 : decode cX8_init 16 = .ok (.new 18, 3) := by decide +kernel
theorem dX8_init_19 : decode cX8_init 19 = .ok (.dup, 1) := by decide +kernel
theorem dX8_init_20 : decode cX8_init 20 = .ok (.invokespecial 20, 3) := by decide +kernel
theorem dX8_init_23 : decode cX8_init 23 = .ok (.putfield 21, 3) := by decide +kernel
theorem dX8_init_26 : decode cX8_init 26 = .ok (.aload_n 0, 1) := by decide +kernel
theorem dX8_init_27 : decode cX8_init 27 = .ok (.new 25, 3) := by decide +kernel
theorem dX8_init_30 : decode cX8_init 30 = .ok (.dup, 1) := by decide +kernel
theorem dX8_init_31 : decode cX8_init 31 = .ok (.invokespecial 27, 3) := by decide +kernel
theorem dX8_init_34 : decode cX8_init 34 = .ok (.putfield 28, 3) := by decide +kernel
theorem dX8_init_37 : decode cX8_init 37 = .ok (.aload_n 0, 1) := by decide +kernel
theorem dX8_init_38 : decode cX8_init 38 = .ok (.new 32, 3) := by decide +kernel
theorem dX8_init_41 : decode cX8_init 41 = .ok (.dup, 1) := by decide +kernel
theorem dX8_init_42 : decode cX8_init 42 = .ok (.invokespecial 34, 3) := by decide +kernel
theorem dX8_init_45 : decode cX8_init 45 = .ok (.putfield 35, 3) := by decide +kernel
theorem dX8_init_48 : decode cX8_init 48 = .ok (.aload_n 0, 1) := by decide +kernel
theorem dX8_init_49 : decode cX8_init 49 = .ok (.bipush 64, 2) := by decide +kernel
theorem dX8_init_51 : decode cX8_init 51 = .ok (.newarray .int, 2) := by decide +kernel
theorem dX8_init_53 : decode cX8_init 53 = .ok (.putfield 39, 3) := by decide +kernel
theorem dX8_init_56 : decode cX8_init 56 = .ok (.aload_n 0, 1) := by decide +kernel
theorem dX8_init_57 : decode cX8_init 57 = .ok (.bipush 64, 2) := by decide +kernel
theorem dX8_init_59 : decode cX8_init 59 = .ok (.newarray .int, 2) := by decide +kernel
theorem dX8_init_61 : decode cX8_init 61 = .ok (.putfield 43, 3) := by decide +kernel
theorem dX8_init_64 : decode cX8_init 64 = .ok (.aload_n 0, 1) := by decide +kernel
theorem dX8_init_65 : decode cX8_init 65 = .ok (.aload_n 1, 1) := by decide +kernel
theorem dX8_init_66 : decode cX8_init 66 = .ok (.putfield 46, 3) := by decide +kernel
theorem dX8_init_69 : decode cX8_init 69 = .ok (.aload_n 0, 1) := by decide +kernel
theorem dX8_init_70 : decode cX8_init 70 = .ok (.aload_n 2, 1) := by decide +kernel
theorem dX8_init_71 : decode cX8_init 71 = .ok (.putfield 50, 3) := by decide +kernel
theorem dX8_init_74 : decode cX8_init 74 = .ok (.aload_n 0, 1) := by decide +kernel
theorem dX8_init_75 : decode cX8_init 75 = .ok (.aload_n 3, 1) := by decide +kernel
theorem dX8_init_76 : decode cX8_init 76 = .ok (.putfield 54, 3) := by decide +kernel
theorem dX8_init_79 : decode cX8_init 79 = .ok (.return_, 1) := by decide +kernel
theorem dX8_variables_0 : decode cX8_variables 0 = .ok (.aload_n 0, 1) := by decide +kernel
theorem dX8_variables_1 : decode cX8_variables 1 = .ok (.getfield 28, 3) := by decide +kernel
theorem dX8_variables_4 : decode cX8_variables 4 = .ok (.areturn, 1) := by decide +kernel
theorem dX8_clear_0 : decode cX8_clear 0 = .ok (.aload_n 0, 1) := by decide +kernel
theorem dX8_clear_1 : decode cX8_clear 1 = .ok (.getfield 12, 3) := by decide +kernel
theorem dX8_clear_4 : decode cX8_clear 4 = .ok (.invokevirtual 62, 3) := by decide +kernel
theorem dX8_clear_7 : decode cX8_clear 7 = .ok (.aload_n 0, 1) := by decide +kernel
theorem dX8_clear_8 : decode cX8_clear 8 = .ok (.getfield 28, 3) := by decide +kernel
theorem dX8_clear_11 : decode cX8_clear 11 = .ok (.invokevirtual 65, 3) := by decide +kernel
theorem dX8_clear_14 : decode cX8_clear 14 = .ok (.aload_n 0, 1) := by decide +kernel
theorem dX8_clear_15 : decode cX8_clear 15 = .ok (.iconst 0, 1) := by decide +kernel
theorem dX8_clear_16 : decode cX8_clear 16 = .ok (.putfield 58, 3) := by decide +kernel
theorem dX8_clear_19 : decode cX8_clear 19 = .ok (.return_, 1) := by decide +kernel
theorem dX8_check_0 : decode cX8_check 0 = .ok (.aload_n 0, 1) := by decide +kernel
theorem dX8_check_1 : decode cX8_check 1 = .ok (.invokevirtual 66, 3) := by decide +kernel
theorem dX8_check_4 : decode cX8_check 4 = .ok (.aload_n 0, 1) := by decide +kernel
theorem dX8_check_5 : decode cX8_check 5 = .ok (.getfield 21, 3) := by decide +kernel
theorem dX8_check_8 : decode cX8_check 8 = .ok (.aload_n 0, 1) := by decide +kernel
theorem dX8_check_9 : decode cX8_check 9 = .ok (.getfield 50, 3) := by decide +kernel
theorem dX8_check_12 : decode cX8_check 12 = .ok (.invokevirtual 67, 3) := by decide +kernel
theorem dX8_check_15 : decode cX8_check 15 = .ok (.bipush 15, 2) := by decide +kernel
theorem dX8_check_17 : decode cX8_check 17 = .ok (.iadd, 1) := by decide +kernel
theorem dX8_check_18 : decode cX8_check 18 = .ok (.iconst 2, 1) := by decide +kernel
theorem dX8_check_19 : decode cX8_check 19 = .ok (.iadd, 1) := by decide +kernel
theorem dX8_check_20 : decode cX8_check 20 = .ok (.invokevirtual 74, 3) := by decide +kernel
theorem dX8_check_23 : decode cX8_check 23 = .ok (.aload_n 0, 1) := by decide +kernel
theorem dX8_check_24 : decode cX8_check 24 = .ok (.iload_n 2, 1) := by decide +kernel
theorem dX8_check_25 : decode cX8_check 25 = .ok (.ifCond .eq 8, 3) := by decide +kernel
theorem dX8_check_28 : decode cX8_check 28 = .ok (.bipush 15, 2) := by decide +kernel
theorem dX8_check_30 : decode cX8_check 30 = .ok (.goto 5, 3) := by decide +kernel
theorem dX8_check_33 : decode cX8_check 33 = .ok (.bipush 10, 2) := by decide +kernel
theorem dX8_check_35 : decode cX8_check 35 = .ok (.putfield 77, 3) := by decide +kernel
theorem dX8_check_38 : decode cX8_check 38 = .ok (.iconst 0, 1) := by decide +kernel
theorem dX8_check_39 : decode cX8_check 39 = .ok (.istore 4, 2) := by decide +kernel
theorem dX8_check_41 : decode cX8_check 41 = .ok (.iload 4, 2) := by decide +kernel
theorem dX8_check_43 : decode cX8_check 43 = .ok (.aload_n 0, 1) := by decide +kernel
theorem dX8_check_44 : decode cX8_check 44 = .ok (.getfield 77, 3) := by decide +kernel
theorem dX8_check_47 : decode cX8_check 47 = .ok (.if_icmp .ge 32, 3) := by decide +kernel
theorem dX8_check_50 : decode cX8_check 50 = .ok (.aload_n 0, 1) := by decide +kernel
theorem dX8_check_51 : decode cX8_check 51 = .ok (.getfield 21, 3) := by decide +kernel
theorem dX8_check_54 : decode cX8_check 54 = .ok (.aload_n 0, 1) := by decide +kernel
theorem dX8_check_55 : decode cX8_check 55 = .ok (.aload_n 0, 1) := by decide +kernel
theorem dX8_check_56 : decode cX8_check 56 = .ok (.getfield 54, 3) := by decide +kernel
theorem dX8_check_59 : decode cX8_check 59 = .ok (.iload 4, 2) := by decide +kernel
theorem dX8_check_61 : decode cX8_check 61 = .ok (.invokevirtual 80, 3) := by decide +kernel
theorem dX8_check_64 : decode cX8_check 64 = .ok (.invokevirtual 83, 3) := by decide +kernel
theorem dX8_check_67 : decode cX8_check 67 = .ok (.iconst 2, 1) := by decide +kernel
theorem dX8_check_68 : decode cX8_check 68 = .ok (.iload 4, 2) := by decide +kernel
theorem dX8_check_70 : decode cX8_check 70 = .ok (.invokevirtual 87, 3) := by decide +kernel
theorem dX8_check_73 : decode cX8_check 73 = .ok (.iinc 4 1, 3) := by decide +kernel
theorem dX8_check_76 : decode cX8_check 76 = .ok (.goto (-35), 3) := by decide +kernel
theorem dX8_check_79 : decode cX8_check 79 = .ok (.aload_n 0, 1) := by decide +kernel
theorem dX8_check_80 : decode cX8_check 80 = .ok (.getfield 46, 3) := by decide +kernel
theorem dX8_check_83 : decode cX8_check 83 = .ok (.iload_n 1, 1) := by decide +kernel
theorem dX8_check_84 : decode cX8_check 84 = .ok (.invokevirtual 91, 3) := by decide +kernel
theorem dX8_check_87 : decode cX8_check 87 = .ok (.istore 4, 2) := by decide +kernel
theorem dX8_check_89 : decode cX8_check 89 = .ok (.iload 4, 2) := by decide +kernel
theorem dX8_check_91 : decode cX8_check 91 = .ok (.iconst (-1), 1) := by decide +kernel
theorem dX8_check_92 : decode cX8_check 92 = .ok (.if_icmp .eq 36, 3) := by decide +kernel
theorem dX8_check_95 : decode cX8_check 95 = .ok (.aload_n 0, 1) := by decide +kernel
theorem dX8_check_96 : decode cX8_check 96 = .ok (.getfield 46, 3) := by decide +kernel
theorem dX8_check_99 : decode cX8_check 99 = .ok (.iload 4, 2) := by decide +kernel
theorem dX8_check_101 : decode cX8_check 101 = .ok (.invokevirtual 97, 3) := by decide +kernel
theorem dX8_check_104 : decode cX8_check 104 = .ok (.iconst 4, 1) := by decide +kernel
theorem dX8_check_105 : decode cX8_check 105 = .ok (.if_icmp .ne 9, 3) := by decide +kernel
theorem dX8_check_108 : decode cX8_check 108 = .ok (.aload_n 0, 1) := by decide +kernel
theorem dX8_check_109 : decode cX8_check 109 = .ok (.iload 4, 2) := by decide +kernel
theorem dX8_check_111 : decode cX8_check 111 = .ok (.invokevirtual 100, 3) := by decide +kernel
theorem dX8_check_114 : decode cX8_check 114 = .ok (.aload_n 0, 1) := by decide +kernel
theorem dX8_check_115 : decode cX8_check 115 = .ok (.getfield 46, 3) := by decide +kernel
theorem dX8_check_118 : decode cX8_check 118 = .ok (.iload 4, 2) := by decide +kernel
theorem dX8_check_120 : decode cX8_check 120 = .ok (.invokevirtual 103, 3) := by decide +kernel
theorem dX8_check_123 : decode cX8_check 123 = .ok (.istore 4, 2) := by decide +kernel
theorem dX8_check_125 : decode cX8_check 125 = .ok (.goto (-36), 3) := by decide +kernel
theorem dX8_check_128 : decode cX8_check 128 = .ok (.aload_n 0, 1) := by decide +kernel
theorem dX8_check_129 : decode cX8_check 129 = .ok (.getfield 46, 3) := by decide +kernel
theorem dX8_check_132 : decode cX8_check 132 = .ok (.iload_n 1, 1) := by decide +kernel
theorem dX8_check_133 : decode cX8_check 133 = .ok (.invokevirtual 91, 3) := by decide +kernel
theorem dX8_check_136 : decode cX8_check 136 = .ok (.istore 4, 2) := by decide +kernel
theorem dX8_check_138 : decode cX8_check 138 = .ok (.iload 4, 2) := by decide +kernel
theorem dX8_check_140 : decode cX8_check 140 = .ok (.iconst (-1), 1) := by decide +kernel
theorem dX8_check_141 : decode cX8_check 141 = .ok (.if_icmp .eq 23, 3) := by decide +kernel
theorem dX8_check_144 : decode cX8_check 144 = .ok (.aload_n 0, 1) := by decide +kernel
theorem dX8_check_145 : decode cX8_check 145 = .ok (.iload 4, 2) := by decide +kernel
theorem dX8_check_147 : decode cX8_check 147 = .ok (.invokevirtual 106, 3) := by decide +kernel
theorem dX8_check_150 : decode cX8_check 150 = .ok (.aload_n 0, 1) := by decide +kernel
theorem dX8_check_151 : decode cX8_check 151 = .ok (.getfield 46, 3) := by decide +kernel
theorem dX8_check_154 : decode cX8_check 154 = .ok (.iload 4, 2) := by decide +kernel
theorem dX8_check_156 : decode cX8_check 156 = .ok (.invokevirtual 103, 3) := by decide +kernel
theorem dX8_check_159 : decode cX8_check 159 = .ok (.istore 4, 2) := by decide +kernel
theorem dX8_check_161 : decode cX8_check 161 = .ok (.goto (-23), 3) := by decide +kernel
theorem dX8_check_164 : decode cX8_check 164 = .ok (.aload_n 0, 1) := by decide +kernel
theorem dX8_check_165 : decode cX8_check 165 = .ok (.getfield 12, 3) := by decide +kernel
theorem dX8_check_168 : decode cX8_check 168 = .ok (.invokevirtual 109, 3) := by decide +kernel
theorem dX8_check_171 : decode cX8_check 171 = .ok (.ifCond .ne 8, 3) := by decide +kernel
theorem dX8_check_174 : decode cX8_check 174 = .ok (.aload_n 0, 1) := by decide +kernel
theorem dX8_check_175 : decode cX8_check 175 = .ok (.iload_n 3, 1) := by decide +kernel
theorem dX8_check_176 : decode cX8_check 176 = .ok (.invokevirtual 112, 3) := by decide +kernel
theorem dX8_check_179 : decode cX8_check 179 = .ok (.return_, 1) := by decide +kernel
theorem dX8_nameOf_0 : decode cX8_nameOf 0 = .ok (.aload_n 0, 1) := by decide +kernel
theorem dX8_nameOf_1 : decode cX8_nameOf 1 = .ok (.getfield 35, 3) := by decide +kernel
theorem dX8_nameOf_4 : decode cX8_nameOf 4 = .ok (.invokevirtual 115, 3) := by decide +kernel
theorem dX8_nameOf_7 : decode cX8_nameOf 7 = .ok (.istore_n 2, 1) := by decide +kernel
theorem dX8_nameOf_8 : decode cX8_nameOf 8 = .ok (.iconst 0, 1) := by decide +kernel
theorem dX8_nameOf_9 : decode cX8_nameOf 9 = .ok (.istore_n 3, 1) := by decide +kernel
theorem dX8_nameOf_10 : decode cX8_nameOf 10 = .ok (.iload_n 3, 1) := by decide +kernel
theorem dX8_nameOf_11 : decode cX8_nameOf 11 = .ok (.aload_n 1, 1) := by decide +kernel
theorem dX8_nameOf_12 : decode cX8_nameOf 12 = .ok (.invokevirtual 118, 3) := by decide +kernel
theorem dX8_nameOf_15 : decode cX8_nameOf 15 = .ok (.if_icmp .ge 21, 3) := by decide +kernel
theorem dX8_nameOf_18 : decode cX8_nameOf 18 = .ok (.aload_n 0, 1) := by decide +kernel
theorem dX8_nameOf_19 : decode cX8_nameOf 19 = .ok (.getfield 35, 3) := by decide +kernel
theorem dX8_nameOf_22 : decode cX8_nameOf 22 = .ok (.aload_n 1, 1) := by decide +kernel
theorem dX8_nameOf_23 : decode cX8_nameOf 23 = .ok (.iload_n 3, 1) := by decide +kernel
theorem dX8_nameOf_24 : decode cX8_nameOf 24 = .ok (.invokevirtual 123, 3) := by decide +kernel
theorem dX8_nameOf_27 : decode cX8_nameOf 27 = .ok (.invokevirtual 127, 3) := by decide +kernel
theorem dX8_nameOf_30 : decode cX8_nameOf 30 = .ok (.iinc 3 1, 3) := by decide +kernel
theorem dX8_nameOf_33 : decode cX8_nameOf 33 = .ok (.goto (-23), 3) := by decide +kernel
theorem dX8_nameOf_36 : decode cX8_nameOf 36 = .ok (.aload_n 0, 1) := by decide +kernel
theorem dX8_nameOf_37 : decode cX8_nameOf 37 = .ok (.getfield 50, 3) := by decide +kernel
theorem dX8_nameOf_40 : decode cX8_nameOf 40 = .ok (.aload_n 0, 1) := by decide +kernel
theorem dX8_nameOf_41 : decode cX8_nameOf 41 = .ok (.getfield 35, 3) := by decide +kernel
theorem dX8_nameOf_44 : decode cX8_nameOf 44 = .ok (.iload_n 2, 1) := by decide +kernel
theorem dX8_nameOf_45 : decode cX8_nameOf 45 = .ok (.aload_n 1, 1) := by decide +kernel
theorem dX8_nameOf_46 : decode cX8_nameOf 46 = .ok (.invokevirtual 118, 3) := by decide +kernel
theorem dX8_nameOf_49 : decode cX8_nameOf 49 = .ok (.invokevirtual 129, 3) := by decide +kernel
theorem dX8_nameOf_52 : decode cX8_nameOf 52 = .ok (.istore_n 3, 1) := by decide +kernel
theorem dX8_nameOf_53 : decode cX8_nameOf 53 = .ok (.aload_n 0, 1) := by decide +kernel
theorem dX8_nameOf_54 : decode cX8_nameOf 54 = .ok (.getfield 35, 3) := by decide +kernel
theorem dX8_nameOf_57 : decode cX8_nameOf 57 = .ok (.iload_n 2, 1) := by decide +kernel
theorem dX8_nameOf_58 : decode cX8_nameOf 58 = .ok (.invokevirtual 133, 3) := by decide +kernel
theorem dX8_nameOf_61 : decode cX8_nameOf 61 = .ok (.iload_n 3, 1) := by decide +kernel
theorem dX8_nameOf_62 : decode cX8_nameOf 62 = .ok (.ireturn, 1) := by decide +kernel
theorem dX8_know_0 : decode cX8_know 0 = .ok (.aload_n 0, 1) := by decide +kernel
theorem dX8_know_1 : decode cX8_know 1 = .ok (.getfield 58, 3) := by decide +kernel
theorem dX8_know_4 : decode cX8_know 4 = .ok (.aload_n 0, 1) := by decide +kernel
theorem dX8_know_5 : decode cX8_know 5 = .ok (.getfield 39, 3) := by decide +kernel
theorem dX8_know_8 : decode cX8_know 8 = .ok (.arraylength, 1) := by decide +kernel
theorem dX8_know_9 : decode cX8_know 9 = .ok (.if_icmp .ne 43, 3) := by decide +kernel
theorem dX8_know_12 : decode cX8_know 12 = .ok (.iconst 2, 1) := by decide +kernel
theorem dX8_know_13 : decode cX8_know 13 = .ok (.aload_n 0, 1) := by decide +kernel
theorem dX8_know_14 : decode cX8_know 14 = .ok (.getfield 58, 3) := by decide +kernel
theorem dX8_know_17 : decode cX8_know 17 = .ok (.imul, 1) := by decide +kernel
theorem dX8_know_18 : decode cX8_know 18 = .ok (.newarray .int, 2) := by decide +kernel
theorem dX8_know_20 : decode cX8_know 20 = .ok (.astore_n 2, 1) := by decide +kernel
theorem dX8_know_21 : decode cX8_know 21 = .ok (.aload_n 0, 1) := by decide +kernel
theorem dX8_know_22 : decode cX8_know 22 = .ok (.getfield 39, 3) := by decide +kernel
theorem dX8_know_25 : decode cX8_know 25 = .ok (.iconst 0, 1) := by decide +kernel
theorem dX8_know_26 : decode cX8_know 26 = .ok (.aload_n 2, 1) := by decide +kernel
theorem dX8_know_27 : decode cX8_know 27 = .ok (.iconst 0, 1) := by decide +kernel
theorem dX8_know_28 : decode cX8_know 28 = .ok (.aload_n 0, 1) := by decide +kernel
theorem dX8_know_29 : decode cX8_know 29 = .ok (.getfield 58, 3) := by decide +kernel
theorem dX8_know_32 : decode cX8_know 32 = .ok (.invokestatic 136, 3) := by decide +kernel
theorem dX8_know_35 : decode cX8_know 35 = .ok (.aload_n 0, 1) := by decide +kernel
theorem dX8_know_36 : decode cX8_know 36 = .ok (.aload_n 2, 1) := by decide +kernel
theorem dX8_know_37 : decode cX8_know 37 = .ok (.putfield 39, 3) := by decide +kernel
theorem dX8_know_40 : decode cX8_know 40 = .ok (.aload_n 0, 1) := by decide +kernel
theorem dX8_know_41 : decode cX8_know 41 = .ok (.iconst 2, 1) := by decide +kernel
theorem dX8_know_42 : decode cX8_know 42 = .ok (.aload_n 0, 1) := by decide +kernel
theorem dX8_know_43 : decode cX8_know 43 = .ok (.getfield 58, 3) := by decide +kernel
theorem dX8_know_46 : decode cX8_know 46 = .ok (.imul, 1) := by decide +kernel
theorem dX8_know_47 : decode cX8_know 47 = .ok (.newarray .int, 2) := by decide +kernel
theorem dX8_know_49 : decode cX8_know 49 = .ok (.putfield 43, 3) := by decide +kernel
theorem dX8_know_52 : decode cX8_know 52 = .ok (.aload_n 0, 1) := by decide +kernel
theorem dX8_know_53 : decode cX8_know 53 = .ok (.getfield 39, 3) := by decide +kernel
theorem dX8_know_56 : decode cX8_know 56 = .ok (.aload_n 0, 1) := by decide +kernel
theorem dX8_know_57 : decode cX8_know 57 = .ok (.getfield 58, 3) := by decide +kernel
theorem dX8_know_60 : decode cX8_know 60 = .ok (.iload_n 1, 1) := by decide +kernel
theorem dX8_know_61 : decode cX8_know 61 = .ok (.iastore, 1) := by decide +kernel
theorem dX8_know_62 : decode cX8_know 62 = .ok (.aload_n 0, 1) := by decide +kernel
theorem dX8_know_63 : decode cX8_know 63 = .ok (.getfield 21, 3) := by decide +kernel
theorem dX8_know_66 : decode cX8_know 66 = .ok (.aload_n 0, 1) := by decide +kernel
theorem dX8_know_67 : decode cX8_know 67 = .ok (.getfield 46, 3) := by decide +kernel
theorem dX8_know_70 : decode cX8_know 70 = .ok (.iload_n 1, 1) := by decide +kernel
theorem dX8_know_71 : decode cX8_know 71 = .ok (.invokevirtual 142, 3) := by decide +kernel
theorem dX8_know_74 : decode cX8_know 74 = .ok (.invokevirtual 145, 3) := by decide +kernel
theorem dX8_know_77 : decode cX8_know 77 = .ok (.ifCond .eq 22, 3) := by decide +kernel
theorem dX8_know_80 : decode cX8_know 80 = .ok (.aload_n 0, 1) := by decide +kernel
theorem dX8_know_81 : decode cX8_know 81 = .ok (.getfield 12, 3) := by decide +kernel
theorem dX8_know_84 : decode cX8_know 84 = .ok (.iconst 1, 1) := by decide +kernel
theorem dX8_know_85 : decode cX8_know 85 = .ok (.aload_n 0, 1) := by decide +kernel
theorem dX8_know_86 : decode cX8_know 86 = .ok (.getfield 46, 3) := by decide +kernel
theorem dX8_know_89 : decode cX8_know 89 = .ok (.iload_n 1, 1) := by decide +kernel
theorem dX8_know_90 : decode cX8_know 90 = .ok (.invokevirtual 149, 3) := by decide +kernel
theorem dX8_know_93 : decode cX8_know 93 = .ok (.invokevirtual 152, 3) := by decide +kernel
theorem dX8_know_96 : decode cX8_know 96 = .ok (.goto 26, 3) := by decide +kernel
theorem dX8_know_99 : decode cX8_know 99 = .ok (.aload_n 0, 1) := by decide +kernel
theorem dX8_know_100 : decode cX8_know 100 = .ok (.getfield 21, 3) := by decide +kernel
theorem dX8_know_103 : decode cX8_know 103 = .ok (.aload_n 0, 1) := by decide +kernel
theorem dX8_know_104 : decode cX8_know 104 = .ok (.getfield 46, 3) := by decide +kernel
theorem dX8_know_107 : decode cX8_know 107 = .ok (.iload_n 1, 1) := by decide +kernel
theorem dX8_know_108 : decode cX8_know 108 = .ok (.invokevirtual 142, 3) := by decide +kernel
theorem dX8_know_111 : decode cX8_know 111 = .ok (.iconst 2, 1) := by decide +kernel
theorem dX8_know_112 : decode cX8_know 112 = .ok (.bipush 15, 2) := by decide +kernel
theorem dX8_know_114 : decode cX8_know 114 = .ok (.aload_n 0, 1) := by decide +kernel
theorem dX8_know_115 : decode cX8_know 115 = .ok (.getfield 58, 3) := by decide +kernel
theorem dX8_know_118 : decode cX8_know 118 = .ok (.iadd, 1) := by decide +kernel
theorem dX8_know_119 : decode cX8_know 119 = .ok (.invokevirtual 87, 3) := by decide +kernel
theorem dX8_know_122 : decode cX8_know 122 = .ok (.aload_n 0, 1) := by decide +kernel
theorem dX8_know_123 : decode cX8_know 123 = .ok (.getfield 46, 3) := by decide +kernel
theorem dX8_know_126 : decode cX8_know 126 = .ok (.iload_n 1, 1) := by decide +kernel
theorem dX8_know_127 : decode cX8_know 127 = .ok (.aload_n 0, 1) := by decide +kernel
theorem dX8_know_128 : decode cX8_know 128 = .ok (.getfield 58, 3) := by decide +kernel
theorem dX8_know_131 : decode cX8_know 131 = .ok (.invokevirtual 156, 3) := by decide +kernel
theorem dX8_know_134 : decode cX8_know 134 = .ok (.aload_n 0, 1) := by decide +kernel
theorem dX8_know_135 : decode cX8_know 135 = .ok (.dup, 1) := by decide +kernel
theorem dX8_know_136 : decode cX8_know 136 = .ok (.getfield 58, 3) := by decide +kernel
theorem dX8_know_139 : decode cX8_know 139 = .ok (.iconst 1, 1) := by decide +kernel
theorem dX8_know_140 : decode cX8_know 140 = .ok (.iadd, 1) := by decide +kernel
theorem dX8_know_141 : decode cX8_know 141 = .ok (.putfield 58, 3) := by decide +kernel
theorem dX8_know_144 : decode cX8_know 144 = .ok (.return_, 1) := by decide +kernel
theorem dX8_part_0 : decode cX8_part 0 = .ok (.aload_n 0, 1) := by decide +kernel
theorem dX8_part_1 : decode cX8_part 1 = .ok (.getfield 46, 3) := by decide +kernel
theorem dX8_part_4 : decode cX8_part 4 = .ok (.iload_n 1, 1) := by decide +kernel
theorem dX8_part_5 : decode cX8_part 5 = .ok (.invokevirtual 97, 3) := by decide +kernel
theorem dX8_part_8 : decode cX8_part 8 = .ok (.iconst 2, 1) := by decide +kernel
theorem dX8_part_9 : decode cX8_part 9 = .ok (.if_icmp .ne 109, 3) := by decide +kernel
theorem dX8_part_12 : decode cX8_part 12 = .ok (.iconst 0, 1) := by decide +kernel
theorem dX8_part_13 : decode cX8_part 13 = .ok (.istore_n 2, 1) := by decide +kernel
theorem dX8_part_14 : decode cX8_part 14 = .ok (.aload_n 0, 1) := by decide +kernel
theorem dX8_part_15 : decode cX8_part 15 = .ok (.getfield 46, 3) := by decide +kernel
theorem dX8_part_18 : decode cX8_part 18 = .ok (.iload_n 1, 1) := by decide +kernel
theorem dX8_part_19 : decode cX8_part 19 = .ok (.invokevirtual 91, 3) := by decide +kernel
theorem dX8_part_22 : decode cX8_part 22 = .ok (.istore_n 3, 1) := by decide +kernel
theorem dX8_part_23 : decode cX8_part 23 = .ok (.iload_n 3, 1) := by decide +kernel
theorem dX8_part_24 : decode cX8_part 24 = .ok (.iconst (-1), 1) := by decide +kernel
theorem dX8_part_25 : decode cX8_part 25 = .ok (.if_icmp .eq 90, 3) := by decide +kernel
theorem dX8_part_28 : decode cX8_part 28 = .ok (.aload_n 0, 1) := by decide +kernel
theorem dX8_part_29 : decode cX8_part 29 = .ok (.getfield 46, 3) := by decide +kernel
theorem dX8_part_32 : decode cX8_part 32 = .ok (.iload_n 3, 1) := by decide +kernel
theorem dX8_part_33 : decode cX8_part 33 = .ok (.invokevirtual 91, 3) := by decide +kernel
theorem dX8_part_36 : decode cX8_part 36 = .ok (.iconst (-1), 1) := by decide +kernel
theorem dX8_part_37 : decode cX8_part 37 = .ok (.if_icmp .eq 32, 3) := by decide +kernel
theorem dX8_part_40 : decode cX8_part 40 = .ok (.aload_n 0, 1) := by decide +kernel
theorem dX8_part_41 : decode cX8_part 41 = .ok (.aload_n 0, 1) := by decide +kernel
theorem dX8_part_42 : decode cX8_part 42 = .ok (.getfield 46, 3) := by decide +kernel
theorem dX8_part_45 : decode cX8_part 45 = .ok (.iload_n 3, 1) := by decide +kernel
theorem dX8_part_46 : decode cX8_part 46 = .ok (.invokevirtual 91, 3) := by decide +kernel
theorem dX8_part_49 : decode cX8_part 49 = .ok (.invokevirtual 196, 3) := by decide +kernel
theorem dX8_part_52 : decode cX8_part 52 = .ok (.pop, 1) := by decide +kernel
theorem dX8_part_53 : decode cX8_part 53 = .ok (.aload_n 0, 1) := by decide +kernel
theorem dX8_part_54 : decode cX8_part 54 = .ok (.getfield 46, 3) := by decide +kernel
theorem dX8_part_57 : decode cX8_part 57 = .ok (.aload_n 0, 1) := by decide +kernel
theorem dX8_part_58 : decode cX8_part 58 = .ok (.getfield 46, 3) := by decide +kernel
theorem dX8_part_61 : decode cX8_part 61 = .ok (.iload_n 3, 1) := by decide +kernel
theorem dX8_part_62 : decode cX8_part 62 = .ok (.invokevirtual 91, 3) := by decide +kernel
theorem dX8_part_65 : decode cX8_part 65 = .ok (.invokevirtual 142, 3) := by decide +kernel
theorem dX8_part_68 : decode cX8_part 68 = .ok (.istore_n 2, 1) := by decide +kernel
theorem dX8_part_69 : decode cX8_part 69 = .ok (.aload_n 0, 1) := by decide +kernel
theorem dX8_part_70 : decode cX8_part 70 = .ok (.getfield 46, 3) := by decide +kernel
theorem dX8_part_73 : decode cX8_part 73 = .ok (.iload_n 3, 1) := by decide +kernel
theorem dX8_part_74 : decode cX8_part 74 = .ok (.iload_n 2, 1) := by decide +kernel
theorem dX8_part_75 : decode cX8_part 75 = .ok (.invokevirtual 156, 3) := by decide +kernel
theorem dX8_part_78 : decode cX8_part 78 = .ok (.aload_n 0, 1) := by decide +kernel
theorem dX8_part_79 : decode cX8_part 79 = .ok (.aload_n 0, 1) := by decide +kernel
theorem dX8_part_80 : decode cX8_part 80 = .ok (.getfield 46, 3) := by decide +kernel
theorem dX8_part_83 : decode cX8_part 83 = .ok (.iload_n 3, 1) := by decide +kernel
theorem dX8_part_84 : decode cX8_part 84 = .ok (.invokevirtual 142, 3) := by decide +kernel
theorem dX8_part_87 : decode cX8_part 87 = .ok (.iconst 3, 1) := by decide +kernel
theorem dX8_part_88 : decode cX8_part 88 = .ok (.iload_n 2, 1) := by decide +kernel
theorem dX8_part_89 : decode cX8_part 89 = .ok (.aload_n 0, 1) := by decide +kernel
theorem dX8_part_90 : decode cX8_part 90 = .ok (.getfield 46, 3) := by decide +kernel
theorem dX8_part_93 : decode cX8_part 93 = .ok (.iload_n 3, 1) := by decide +kernel
theorem dX8_part_94 : decode cX8_part 94 = .ok (.invokevirtual 149, 3) := by decide +kernel
theorem dX8_part_97 : decode cX8_part 97 = .ok (.invokevirtual 199, 3) := by decide +kernel
theorem dX8_part_100 : decode cX8_part 100 = .ok (.iinc 2 1, 3) := by decide +kernel
theorem dX8_part_103 : decode cX8_part 103 = .ok (.aload_n 0, 1) := by decide +kernel
theorem dX8_part_104 : decode cX8_part 104 = .ok (.getfield 46, 3) := by decide +kernel
theorem dX8_part_107 : decode cX8_part 107 = .ok (.iload_n 3, 1) := by decide +kernel
theorem dX8_part_108 : decode cX8_part 108 = .ok (.invokevirtual 103, 3) := by decide +kernel
theorem dX8_part_111 : decode cX8_part 111 = .ok (.istore_n 3, 1) := by decide +kernel
theorem dX8_part_112 : decode cX8_part 112 = .ok (.goto (-89), 3) := by decide +kernel
theorem dX8_part_115 : decode cX8_part 115 = .ok (.goto 34, 3) := by decide +kernel
theorem dX8_part_118 : decode cX8_part 118 = .ok (.aload_n 0, 1) := by decide +kernel
theorem dX8_part_119 : decode cX8_part 119 = .ok (.getfield 46, 3) := by decide +kernel
theorem dX8_part_122 : decode cX8_part 122 = .ok (.iload_n 1, 1) := by decide +kernel
theorem dX8_part_123 : decode cX8_part 123 = .ok (.invokevirtual 97, 3) := by decide +kernel
theorem dX8_part_126 : decode cX8_part 126 = .ok (.bipush 6, 2) := by decide +kernel
theorem dX8_part_128 : decode cX8_part 128 = .ok (.if_icmp .ne 16, 3) := by decide +kernel
theorem dX8_part_131 : decode cX8_part 131 = .ok (.aload_n 0, 1) := by decide +kernel
theorem dX8_part_132 : decode cX8_part 132 = .ok (.iconst (-1), 1) := by decide +kernel
theorem dX8_part_133 : decode cX8_part 133 = .ok (.putfield 203, 3) := by decide +kernel
theorem dX8_part_136 : decode cX8_part 136 = .ok (.aload_n 0, 1) := by decide +kernel
theorem dX8_part_137 : decode cX8_part 137 = .ok (.iload_n 1, 1) := by decide +kernel
theorem dX8_part_138 : decode cX8_part 138 = .ok (.invokevirtual 206, 3) := by decide +kernel
theorem dX8_part_141 : decode cX8_part 141 = .ok (.goto 8, 3) := by decide +kernel
theorem dX8_part_144 : decode cX8_part 144 = .ok (.aload_n 0, 1) := by decide +kernel
theorem dX8_part_145 : decode cX8_part 145 = .ok (.iload_n 1, 1) := by decide +kernel
theorem dX8_part_146 : decode cX8_part 146 = .ok (.invokevirtual 208, 3) := by decide +kernel
theorem dX8_part_149 : decode cX8_part 149 = .ok (.return_, 1) := by decide +kernel
theorem dX8_constant_0 : decode cX8_constant 0 = .ok (.aload_n 0, 1) := by decide +kernel
theorem dX8_constant_1 : decode cX8_constant 1 = .ok (.aload_n 0, 1) := by decide +kernel
theorem dX8_constant_2 : decode cX8_constant 2 = .ok (.getfield 46, 3) := by decide +kernel
theorem dX8_constant_5 : decode cX8_constant 5 = .ok (.iload_n 1, 1) := by decide +kernel
theorem dX8_constant_6 : decode cX8_constant 6 = .ok (.invokevirtual 91, 3) := by decide +kernel
theorem dX8_constant_9 : decode cX8_constant 9 = .ok (.invokevirtual 317, 3) := by decide +kernel
theorem dX8_constant_12 : decode cX8_constant 12 = .ok (.istore_n 2, 1) := by decide +kernel
theorem dX8_constant_13 : decode cX8_constant 13 = .ok (.aload_n 0, 1) := by decide +kernel
theorem dX8_constant_14 : decode cX8_constant 14 = .ok (.getfield 46, 3) := by decide +kernel
theorem dX8_constant_17 : decode cX8_constant 17 = .ok (.iload_n 1, 1) := by decide +kernel
theorem dX8_constant_18 : decode cX8_constant 18 = .ok (.iload_n 2, 1) := by decide +kernel
theorem dX8_constant_19 : decode cX8_constant 19 = .ok (.ifCond .eq 10, 3) := by decide +kernel
theorem dX8_constant_22 : decode cX8_constant 22 = .ok (.aload_n 0, 1) := by decide +kernel
theorem dX8_constant_23 : decode cX8_constant 23 = .ok (.getfield 318, 3) := by decide +kernel
theorem dX8_constant_26 : decode cX8_constant 26 = .ok (.goto 4, 3) := by decide +kernel
theorem dX8_constant_29 : decode cX8_constant 29 = .ok (.iconst 0, 1) := by decide +kernel
theorem dX8_constant_30 : decode cX8_constant 30 = .ok (.invokevirtual 222, 3) := by decide +kernel
theorem dX8_constant_33 : decode cX8_constant 33 = .ok (.iload_n 2, 1) := by decide +kernel
theorem dX8_constant_34 : decode cX8_constant 34 = .ok (.ireturn, 1) := by decide +kernel
theorem dX8_isTold_0 : decode cX8_isTold 0 = .ok (.aload_n 0, 1) := by decide +kernel
theorem dX8_isTold_1 : decode cX8_isTold 1 = .ok (.iload_n 1, 1) := by decide +kernel
theorem dX8_isTold_2 : decode cX8_isTold 2 = .ok (.invokevirtual 228, 3) := by decide +kernel
theorem dX8_isTold_5 : decode cX8_isTold 5 = .ok (.aload_n 0, 1) := by decide +kernel
theorem dX8_isTold_6 : decode cX8_isTold 6 = .ok (.iload_n 1, 1) := by decide +kernel
theorem dX8_isTold_7 : decode cX8_isTold 7 = .ok (.invokevirtual 320, 3) := by decide +kernel
theorem dX8_isTold_10 : decode cX8_isTold 10 = .ok (.istore_n 2, 1) := by decide +kernel
theorem dX8_isTold_11 : decode cX8_isTold 11 = .ok (.iload_n 2, 1) := by decide +kernel
theorem dX8_isTold_12 : decode cX8_isTold 12 = .ok (.ifCond .ne 22, 3) := by decide +kernel
theorem dX8_isTold_15 : decode cX8_isTold 15 = .ok (.aload_n 0, 1) := by decide +kernel
theorem dX8_isTold_16 : decode cX8_isTold 16 = .ok (.getfield 12, 3) := by decide +kernel
theorem dX8_isTold_19 : decode cX8_isTold 19 = .ok (.bipush 7, 2) := by decide +kernel
theorem dX8_isTold_21 : decode cX8_isTold 21 = .ok (.aload_n 0, 1) := by decide +kernel
theorem dX8_isTold_22 : decode cX8_isTold 22 = .ok (.getfield 46, 3) := by decide +kernel
theorem dX8_isTold_25 : decode cX8_isTold 25 = .ok (.iload_n 1, 1) := by decide +kernel
theorem dX8_isTold_26 : decode cX8_isTold 26 = .ok (.invokevirtual 149, 3) := by decide +kernel
theorem dX8_isTold_29 : decode cX8_isTold 29 = .ok (.invokevirtual 152, 3) := by decide +kernel
theorem dX8_isTold_32 : decode cX8_isTold 32 = .ok (.iconst 0, 1) := by decide +kernel
theorem dX8_isTold_33 : decode cX8_isTold 33 = .ok (.ireturn, 1) := by decide +kernel
theorem dX8_isTold_34 : decode cX8_isTold 34 = .ok (.iload_n 2, 1) := by decide +kernel
theorem dX8_isTold_35 : decode cX8_isTold 35 = .ok (.iconst 2, 1) := by decide +kernel
theorem dX8_isTold_36 : decode cX8_isTold 36 = .ok (.if_icmp .ne 5, 3) := by decide +kernel
theorem dX8_isTold_39 : decode cX8_isTold 39 = .ok (.iconst 0, 1) := by decide +kernel
theorem dX8_isTold_40 : decode cX8_isTold 40 = .ok (.ireturn, 1) := by decide +kernel
theorem dX8_isTold_41 : decode cX8_isTold 41 = .ok (.aload_n 0, 1) := by decide +kernel
theorem dX8_isTold_42 : decode cX8_isTold 42 = .ok (.iconst 0, 1) := by decide +kernel
theorem dX8_isTold_43 : decode cX8_isTold 43 = .ok (.putfield 323, 3) := by decide +kernel
theorem dX8_isTold_46 : decode cX8_isTold 46 = .ok (.aload_n 0, 1) := by decide +kernel
theorem dX8_isTold_47 : decode cX8_isTold 47 = .ok (.aload_n 0, 1) := by decide +kernel
theorem dX8_isTold_48 : decode cX8_isTold 48 = .ok (.iload_n 1, 1) := by decide +kernel
theorem dX8_isTold_49 : decode cX8_isTold 49 = .ok (.invokevirtual 327, 3) := by decide +kernel
theorem dX8_isTold_52 : decode cX8_isTold 52 = .ok (.putfield 318, 3) := by decide +kernel
theorem dX8_isTold_55 : decode cX8_isTold 55 = .ok (.aload_n 0, 1) := by decide +kernel
theorem dX8_isTold_56 : decode cX8_isTold 56 = .ok (.getfield 323, 3) := by decide +kernel
theorem dX8_isTold_59 : decode cX8_isTold 59 = .ok (.ifCond .eq 20, 3) := by decide +kernel
theorem dX8_isTold_62 : decode cX8_isTold 62 = .ok (.aload_n 0, 1) := by decide +kernel
theorem dX8_isTold_63 : decode cX8_isTold 63 = .ok (.getfield 12, 3) := by decide +kernel
theorem dX8_isTold_66 : decode cX8_isTold 66 = .ok (.bipush 7, 2) := by decide +kernel
theorem dX8_isTold_68 : decode cX8_isTold 68 = .ok (.aload_n 0, 1) := by decide +kernel
theorem dX8_isTold_69 : decode cX8_isTold 69 = .ok (.getfield 46, 3) := by decide +kernel
theorem dX8_isTold_72 : decode cX8_isTold 72 = .ok (.iload_n 1, 1) := by decide +kernel
theorem dX8_isTold_73 : decode cX8_isTold 73 = .ok (.invokevirtual 149, 3) := by decide +kernel
theorem dX8_isTold_76 : decode cX8_isTold 76 = .ok (.invokevirtual 152, 3) := by decide +kernel
theorem dX8_isTold_79 : decode cX8_isTold 79 = .ok (.aload_n 0, 1) := by decide +kernel
theorem dX8_isTold_80 : decode cX8_isTold 80 = .ok (.getfield 323, 3) := by decide +kernel
theorem dX8_isTold_83 : decode cX8_isTold 83 = .ok (.ifCond .ne 7, 3) := by decide +kernel
theorem dX8_isTold_86 : decode cX8_isTold 86 = .ok (.iconst 1, 1) := by decide +kernel
theorem dX8_isTold_87 : decode cX8_isTold 87 = .ok (.goto 4, 3) := by decide +kernel
theorem dX8_isTold_90 : decode cX8_isTold 90 = .ok (.iconst 0, 1) := by decide +kernel
theorem dX8_isTold_91 : decode cX8_isTold 91 = .ok (.ireturn, 1) := by decide +kernel
theorem dX8_number_0 : decode cX8_number 0 = .ok (.aload_n 0, 1) := by decide +kernel
theorem dX8_number_1 : decode cX8_number 1 = .ok (.iload_n 1, 1) := by decide +kernel
theorem dX8_number_2 : decode cX8_number 2 = .ok (.invokevirtual 276, 3) := by decide +kernel
theorem dX8_number_5 : decode cX8_number 5 = .ok (.istore_n 2, 1) := by decide +kernel
theorem dX8_number_6 : decode cX8_number 6 = .ok (.iload_n 2, 1) := by decide +kernel
theorem dX8_number_7 : decode cX8_number 7 = .ok (.iconst 1, 1) := by decide +kernel
theorem dX8_number_8 : decode cX8_number 8 = .ok (.if_icmp .eq 8, 3) := by decide +kernel
theorem dX8_number_11 : decode cX8_number 11 = .ok (.iload_n 2, 1) := by decide +kernel
theorem dX8_number_12 : decode cX8_number 12 = .ok (.iconst 2, 1) := by decide +kernel
theorem dX8_number_13 : decode cX8_number 13 = .ok (.if_icmp .ne 19, 3) := by decide +kernel
theorem dX8_number_16 : decode cX8_number 16 = .ok (.aload_n 0, 1) := by decide +kernel
theorem dX8_number_17 : decode cX8_number 17 = .ok (.getfield 12, 3) := by decide +kernel
theorem dX8_number_20 : decode cX8_number 20 = .ok (.iconst 3, 1) := by decide +kernel
theorem dX8_number_21 : decode cX8_number 21 = .ok (.aload_n 0, 1) := by decide +kernel
theorem dX8_number_22 : decode cX8_number 22 = .ok (.getfield 46, 3) := by decide +kernel
theorem dX8_number_25 : decode cX8_number 25 = .ok (.iload_n 1, 1) := by decide +kernel
theorem dX8_number_26 : decode cX8_number 26 = .ok (.invokevirtual 149, 3) := by decide +kernel
theorem dX8_number_29 : decode cX8_number 29 = .ok (.invokevirtual 152, 3) := by decide +kernel
theorem dX8_number_32 : decode cX8_number 32 = .ok (.iload_n 2, 1) := by decide +kernel
theorem dX8_number_33 : decode cX8_number 33 = .ok (.iconst 3, 1) := by decide +kernel
theorem dX8_number_34 : decode cX8_number 34 = .ok (.if_icmp .ne 19, 3) := by decide +kernel
theorem dX8_number_37 : decode cX8_number 37 = .ok (.aload_n 0, 1) := by decide +kernel
theorem dX8_number_38 : decode cX8_number 38 = .ok (.getfield 12, 3) := by decide +kernel
theorem dX8_number_41 : decode cX8_number 41 = .ok (.iconst 5, 1) := by decide +kernel
theorem dX8_number_42 : decode cX8_number 42 = .ok (.aload_n 0, 1) := by decide +kernel
theorem dX8_number_43 : decode cX8_number 43 = .ok (.getfield 46, 3) := by decide +kernel
theorem dX8_number_46 : decode cX8_number 46 = .ok (.iload_n 1, 1) := by decide +kernel
theorem dX8_number_47 : decode cX8_number 47 = .ok (.invokevirtual 168, 3) := by decide +kernel
theorem dX8_number_50 : decode cX8_number 50 = .ok (.invokevirtual 152, 3) := by decide +kernel
theorem dX8_number_53 : decode cX8_number 53 = .ok (.return_, 1) := by decide +kernel
theorem dX8_typeOf_0 : decode cX8_typeOf 0 = .ok (.aload_n 0, 1) := by decide +kernel
theorem dX8_typeOf_1 : decode cX8_typeOf 1 = .ok (.getfield 46, 3) := by decide +kernel
theorem dX8_typeOf_4 : decode cX8_typeOf 4 = .ok (.iload_n 1, 1) := by decide +kernel
theorem dX8_typeOf_5 : decode cX8_typeOf 5 = .ok (.invokevirtual 97, 3) := by decide +kernel
theorem dX8_typeOf_8 : decode cX8_typeOf 8 = .ok (.tableswitch 186 30 40 #[80, 186, 127, 186, 186, 113, 113, 60, 62, 68, 74], 60) := by decide +kernel
theorem dX8_typeOf_68 : decode cX8_typeOf 68 = .ok (.iconst 0, 1) := by decide +kernel
theorem dX8_typeOf_69 : decode cX8_typeOf 69 = .ok (.ireturn, 1) := by decide +kernel
theorem dX8_typeOf_70 : decode cX8_typeOf 70 = .ok (.aload_n 0, 1) := by decide +kernel
theorem dX8_typeOf_71 : decode cX8_typeOf 71 = .ok (.iload_n 1, 1) := by decide +kernel
theorem dX8_typeOf_72 : decode cX8_typeOf 72 = .ok (.invokevirtual 279, 3) := by decide +kernel
theorem dX8_typeOf_75 : decode cX8_typeOf 75 = .ok (.ireturn, 1) := by decide +kernel
theorem dX8_typeOf_76 : decode cX8_typeOf 76 = .ok (.aload_n 0, 1) := by decide +kernel
theorem dX8_typeOf_77 : decode cX8_typeOf 77 = .ok (.iload_n 1, 1) := by decide +kernel
theorem dX8_typeOf_78 : decode cX8_typeOf 78 = .ok (.invokevirtual 282, 3) := by decide +kernel
theorem dX8_typeOf_81 : decode cX8_typeOf 81 = .ok (.ireturn, 1) := by decide +kernel
theorem dX8_typeOf_82 : decode cX8_typeOf 82 = .ok (.aload_n 0, 1) := by decide +kernel
theorem dX8_typeOf_83 : decode cX8_typeOf 83 = .ok (.iload_n 1, 1) := by decide +kernel
theorem dX8_typeOf_84 : decode cX8_typeOf 84 = .ok (.invokevirtual 285, 3) := by decide +kernel
theorem dX8_typeOf_87 : decode cX8_typeOf 87 = .ok (.ireturn, 1) := by decide +kernel
theorem dX8_typeOf_88 : decode cX8_typeOf 88 = .ok (.aload_n 0, 1) := by decide +kernel
theorem dX8_typeOf_89 : decode cX8_typeOf 89 = .ok (.aload_n 0, 1) := by decide +kernel
theorem dX8_typeOf_90 : decode cX8_typeOf 90 = .ok (.getfield 46, 3) := by decide +kernel
theorem dX8_typeOf_93 : decode cX8_typeOf 93 = .ok (.iload_n 1, 1) := by decide +kernel
theorem dX8_typeOf_94 : decode cX8_typeOf 94 = .ok (.invokevirtual 91, 3) := by decide +kernel
theorem dX8_typeOf_97 : decode cX8_typeOf 97 = .ok (.invokevirtual 288, 3) := by decide +kernel
theorem dX8_typeOf_100 : decode cX8_typeOf 100 = .ok (.aload_n 0, 1) := by decide +kernel
theorem dX8_typeOf_101 : decode cX8_typeOf 101 = .ok (.aload_n 0, 1) := by decide +kernel
theorem dX8_typeOf_102 : decode cX8_typeOf 102 = .ok (.getfield 46, 3) := by decide +kernel
theorem dX8_typeOf_105 : decode cX8_typeOf 105 = .ok (.aload_n 0, 1) := by decide +kernel
theorem dX8_typeOf_106 : decode cX8_typeOf 106 = .ok (.getfield 46, 3) := by decide +kernel
theorem dX8_typeOf_109 : decode cX8_typeOf 109 = .ok (.iload_n 1, 1) := by decide +kernel
theorem dX8_typeOf_110 : decode cX8_typeOf 110 = .ok (.invokevirtual 91, 3) := by decide +kernel
theorem dX8_typeOf_113 : decode cX8_typeOf 113 = .ok (.invokevirtual 103, 3) := by decide +kernel
theorem dX8_typeOf_116 : decode cX8_typeOf 116 = .ok (.invokevirtual 228, 3) := by decide +kernel
theorem dX8_typeOf_119 : decode cX8_typeOf 119 = .ok (.iconst 0, 1) := by decide +kernel
theorem dX8_typeOf_120 : decode cX8_typeOf 120 = .ok (.ireturn, 1) := by decide +kernel
theorem dX8_typeOf_121 : decode cX8_typeOf 121 = .ok (.aload_n 0, 1) := by decide +kernel
theorem dX8_typeOf_122 : decode cX8_typeOf 122 = .ok (.aload_n 0, 1) := by decide +kernel
theorem dX8_typeOf_123 : decode cX8_typeOf 123 = .ok (.getfield 46, 3) := by decide +kernel
theorem dX8_typeOf_126 : decode cX8_typeOf 126 = .ok (.iload_n 1, 1) := by decide +kernel
theorem dX8_typeOf_127 : decode cX8_typeOf 127 = .ok (.invokevirtual 91, 3) := by decide +kernel
theorem dX8_typeOf_130 : decode cX8_typeOf 130 = .ok (.invokevirtual 288, 3) := by decide +kernel
theorem dX8_typeOf_133 : decode cX8_typeOf 133 = .ok (.iconst 0, 1) := by decide +kernel
theorem dX8_typeOf_134 : decode cX8_typeOf 134 = .ok (.ireturn, 1) := by decide +kernel
theorem dX8_typeOf_135 : decode cX8_typeOf 135 = .ok (.aload_n 0, 1) := by decide +kernel
theorem dX8_typeOf_136 : decode cX8_typeOf 136 = .ok (.aload_n 0, 1) := by decide +kernel
theorem dX8_typeOf_137 : decode cX8_typeOf 137 = .ok (.getfield 46, 3) := by decide +kernel
theorem dX8_typeOf_140 : decode cX8_typeOf 140 = .ok (.iload_n 1, 1) := by decide +kernel
theorem dX8_typeOf_141 : decode cX8_typeOf 141 = .ok (.invokevirtual 91, 3) := by decide +kernel
theorem dX8_typeOf_144 : decode cX8_typeOf 144 = .ok (.invokevirtual 228, 3) := by decide +kernel
theorem dX8_typeOf_147 : decode cX8_typeOf 147 = .ok (.aload_n 0, 1) := by decide +kernel
theorem dX8_typeOf_148 : decode cX8_typeOf 148 = .ok (.getfield 46, 3) := by decide +kernel
theorem dX8_typeOf_151 : decode cX8_typeOf 151 = .ok (.aload_n 0, 1) := by decide +kernel
theorem dX8_typeOf_152 : decode cX8_typeOf 152 = .ok (.getfield 46, 3) := by decide +kernel
theorem dX8_typeOf_155 : decode cX8_typeOf 155 = .ok (.iload_n 1, 1) := by decide +kernel
theorem dX8_typeOf_156 : decode cX8_typeOf 156 = .ok (.invokevirtual 91, 3) := by decide +kernel
theorem dX8_typeOf_159 : decode cX8_typeOf 159 = .ok (.invokevirtual 103, 3) := by decide +kernel
theorem dX8_typeOf_162 : decode cX8_typeOf 162 = .ok (.istore_n 2, 1) := by decide +kernel
theorem dX8_typeOf_163 : decode cX8_typeOf 163 = .ok (.iload_n 2, 1) := by decide +kernel
theorem dX8_typeOf_164 : decode cX8_typeOf 164 = .ok (.iconst (-1), 1) := by decide +kernel
theorem dX8_typeOf_165 : decode cX8_typeOf 165 = .ok (.if_icmp .eq 27, 3) := by decide +kernel
theorem dX8_typeOf_168 : decode cX8_typeOf 168 = .ok (.aload_n 0, 1) := by decide +kernel
theorem dX8_typeOf_169 : decode cX8_typeOf 169 = .ok (.aload_n 0, 1) := by decide +kernel
theorem dX8_typeOf_170 : decode cX8_typeOf 170 = .ok (.getfield 46, 3) := by decide +kernel
theorem dX8_typeOf_173 : decode cX8_typeOf 173 = .ok (.iload_n 2, 1) := by decide +kernel
theorem dX8_typeOf_174 : decode cX8_typeOf 174 = .ok (.invokevirtual 91, 3) := by decide +kernel
theorem dX8_typeOf_177 : decode cX8_typeOf 177 = .ok (.invokevirtual 228, 3) := by decide +kernel
theorem dX8_typeOf_180 : decode cX8_typeOf 180 = .ok (.aload_n 0, 1) := by decide +kernel
theorem dX8_typeOf_181 : decode cX8_typeOf 181 = .ok (.getfield 46, 3) := by decide +kernel
theorem dX8_typeOf_184 : decode cX8_typeOf 184 = .ok (.iload_n 2, 1) := by decide +kernel
theorem dX8_typeOf_185 : decode cX8_typeOf 185 = .ok (.invokevirtual 103, 3) := by decide +kernel
theorem dX8_typeOf_188 : decode cX8_typeOf 188 = .ok (.istore_n 2, 1) := by decide +kernel
theorem dX8_typeOf_189 : decode cX8_typeOf 189 = .ok (.goto (-26), 3) := by decide +kernel
theorem dX8_typeOf_192 : decode cX8_typeOf 192 = .ok (.iconst 0, 1) := by decide +kernel
theorem dX8_typeOf_193 : decode cX8_typeOf 193 = .ok (.ireturn, 1) := by decide +kernel
theorem dX8_typeOf_194 : decode cX8_typeOf 194 = .ok (.aload_n 0, 1) := by decide +kernel
theorem dX8_typeOf_195 : decode cX8_typeOf 195 = .ok (.getfield 46, 3) := by decide +kernel
theorem dX8_typeOf_198 : decode cX8_typeOf 198 = .ok (.iload_n 1, 1) := by decide +kernel
theorem dX8_typeOf_199 : decode cX8_typeOf 199 = .ok (.invokevirtual 91, 3) := by decide +kernel
theorem dX8_typeOf_202 : decode cX8_typeOf 202 = .ok (.istore_n 2, 1) := by decide +kernel
theorem dX8_typeOf_203 : decode cX8_typeOf 203 = .ok (.iload_n 2, 1) := by decide +kernel
theorem dX8_typeOf_204 : decode cX8_typeOf 204 = .ok (.iconst (-1), 1) := by decide +kernel
theorem dX8_typeOf_205 : decode cX8_typeOf 205 = .ok (.if_icmp .eq 20, 3) := by decide +kernel
theorem dX8_typeOf_208 : decode cX8_typeOf 208 = .ok (.aload_n 0, 1) := by decide +kernel
theorem dX8_typeOf_209 : decode cX8_typeOf 209 = .ok (.iload_n 2, 1) := by decide +kernel
theorem dX8_typeOf_210 : decode cX8_typeOf 210 = .ok (.invokevirtual 228, 3) := by decide +kernel
theorem dX8_typeOf_213 : decode cX8_typeOf 213 = .ok (.aload_n 0, 1) := by decide +kernel
theorem dX8_typeOf_214 : decode cX8_typeOf 214 = .ok (.getfield 46, 3) := by decide +kernel
theorem dX8_typeOf_217 : decode cX8_typeOf 217 = .ok (.iload_n 2, 1) := by decide +kernel
theorem dX8_typeOf_218 : decode cX8_typeOf 218 = .ok (.invokevirtual 103, 3) := by decide +kernel
theorem dX8_typeOf_221 : decode cX8_typeOf 221 = .ok (.istore_n 2, 1) := by decide +kernel
theorem dX8_typeOf_222 : decode cX8_typeOf 222 = .ok (.goto (-19), 3) := by decide +kernel
theorem dX8_typeOf_225 : decode cX8_typeOf 225 = .ok (.iconst 0, 1) := by decide +kernel
theorem dX8_typeOf_226 : decode cX8_typeOf 226 = .ok (.ireturn, 1) := by decide +kernel
theorem dX8_typeOfName_0 : decode cX8_typeOfName 0 = .ok (.aload_n 0, 1) := by decide +kernel
theorem dX8_typeOfName_1 : decode cX8_typeOfName 1 = .ok (.getfield 21, 3) := by decide +kernel
theorem dX8_typeOfName_4 : decode cX8_typeOfName 4 = .ok (.aload_n 0, 1) := by decide +kernel
theorem dX8_typeOfName_5 : decode cX8_typeOfName 5 = .ok (.getfield 46, 3) := by decide +kernel
theorem dX8_typeOfName_8 : decode cX8_typeOfName 8 = .ok (.iload_n 1, 1) := by decide +kernel
theorem dX8_typeOfName_9 : decode cX8_typeOfName 9 = .ok (.invokevirtual 142, 3) := by decide +kernel
theorem dX8_typeOfName_12 : decode cX8_typeOfName 12 = .ok (.invokevirtual 294, 3) := by decide +kernel
theorem dX8_typeOfName_15 : decode cX8_typeOfName 15 = .ok (.istore_n 2, 1) := by decide +kernel
theorem dX8_typeOfName_16 : decode cX8_typeOfName 16 = .ok (.iload_n 2, 1) := by decide +kernel
theorem dX8_typeOfName_17 : decode cX8_typeOfName 17 = .ok (.iconst (-1), 1) := by decide +kernel
theorem dX8_typeOfName_18 : decode cX8_typeOfName 18 = .ok (.if_icmp .eq 15, 3) := by decide +kernel
theorem dX8_typeOfName_21 : decode cX8_typeOfName 21 = .ok (.aload_n 0, 1) := by decide +kernel
theorem dX8_typeOfName_22 : decode cX8_typeOfName 22 = .ok (.getfield 21, 3) := by decide +kernel
theorem dX8_typeOfName_25 : decode cX8_typeOfName 25 = .ok (.iload_n 2, 1) := by decide +kernel
theorem dX8_typeOfName_26 : decode cX8_typeOfName 26 = .ok (.invokevirtual 297, 3) := by decide +kernel
theorem dX8_typeOfName_29 : decode cX8_typeOfName 29 = .ok (.iconst 2, 1) := by decide +kernel
theorem dX8_typeOfName_30 : decode cX8_typeOfName 30 = .ok (.if_icmp .ne 21, 3) := by decide +kernel
theorem dX8_typeOfName_33 : decode cX8_typeOfName 33 = .ok (.aload_n 0, 1) := by decide +kernel
theorem dX8_typeOfName_34 : decode cX8_typeOfName 34 = .ok (.getfield 12, 3) := by decide +kernel
theorem dX8_typeOfName_37 : decode cX8_typeOfName 37 = .ok (.iconst 2, 1) := by decide +kernel
theorem dX8_typeOfName_38 : decode cX8_typeOfName 38 = .ok (.aload_n 0, 1) := by decide +kernel
theorem dX8_typeOfName_39 : decode cX8_typeOfName 39 = .ok (.getfield 46, 3) := by decide +kernel
theorem dX8_typeOfName_42 : decode cX8_typeOfName 42 = .ok (.iload_n 1, 1) := by decide +kernel
theorem dX8_typeOfName_43 : decode cX8_typeOfName 43 = .ok (.invokevirtual 168, 3) := by decide +kernel
theorem dX8_typeOfName_46 : decode cX8_typeOfName 46 = .ok (.invokevirtual 152, 3) := by decide +kernel
theorem dX8_typeOfName_49 : decode cX8_typeOfName 49 = .ok (.iconst 4, 1) := by decide +kernel
theorem dX8_typeOfName_50 : decode cX8_typeOfName 50 = .ok (.ireturn, 1) := by decide +kernel
theorem dX8_typeOfName_51 : decode cX8_typeOfName 51 = .ok (.aload_n 0, 1) := by decide +kernel
theorem dX8_typeOfName_52 : decode cX8_typeOfName 52 = .ok (.getfield 21, 3) := by decide +kernel
theorem dX8_typeOfName_55 : decode cX8_typeOfName 55 = .ok (.iload_n 2, 1) := by decide +kernel
theorem dX8_typeOfName_56 : decode cX8_typeOfName 56 = .ok (.invokevirtual 297, 3) := by decide +kernel
theorem dX8_typeOfName_59 : decode cX8_typeOfName 59 = .ok (.iconst 3, 1) := by decide +kernel
theorem dX8_typeOfName_60 : decode cX8_typeOfName 60 = .ok (.if_icmp .ne 31, 3) := by decide +kernel
theorem dX8_typeOfName_63 : decode cX8_typeOfName 63 = .ok (.aload_n 0, 1) := by decide +kernel
theorem dX8_typeOfName_64 : decode cX8_typeOfName 64 = .ok (.getfield 46, 3) := by decide +kernel
theorem dX8_typeOfName_67 : decode cX8_typeOfName 67 = .ok (.iload_n 1, 1) := by decide +kernel
theorem dX8_typeOfName_68 : decode cX8_typeOfName 68 = .ok (.bipush (-2), 2) := by decide +kernel
theorem dX8_typeOfName_70 : decode cX8_typeOfName 70 = .ok (.invokevirtual 156, 3) := by decide +kernel
theorem dX8_typeOfName_73 : decode cX8_typeOfName 73 = .ok (.aload_n 0, 1) := by decide +kernel
theorem dX8_typeOfName_74 : decode cX8_typeOfName 74 = .ok (.getfield 46, 3) := by decide +kernel
theorem dX8_typeOfName_77 : decode cX8_typeOfName 77 = .ok (.iload_n 1, 1) := by decide +kernel
theorem dX8_typeOfName_78 : decode cX8_typeOfName 78 = .ok (.aload_n 0, 1) := by decide +kernel
theorem dX8_typeOfName_79 : decode cX8_typeOfName 79 = .ok (.getfield 21, 3) := by decide +kernel
theorem dX8_typeOfName_82 : decode cX8_typeOfName 82 = .ok (.iload_n 2, 1) := by decide +kernel
theorem dX8_typeOfName_83 : decode cX8_typeOfName 83 = .ok (.invokevirtual 300, 3) := by decide +kernel
theorem dX8_typeOfName_86 : decode cX8_typeOfName 86 = .ok (.invokevirtual 245, 3) := by decide +kernel
theorem dX8_typeOfName_89 : decode cX8_typeOfName 89 = .ok (.iconst 0, 1) := by decide +kernel
theorem dX8_typeOfName_90 : decode cX8_typeOfName 90 = .ok (.ireturn, 1) := by decide +kernel
theorem dX8_typeOfName_91 : decode cX8_typeOfName 91 = .ok (.aload_n 0, 1) := by decide +kernel
theorem dX8_typeOfName_92 : decode cX8_typeOfName 92 = .ok (.iload_n 1, 1) := by decide +kernel
theorem dX8_typeOfName_93 : decode cX8_typeOfName 93 = .ok (.aload_n 0, 1) := by decide +kernel
theorem dX8_typeOfName_94 : decode cX8_typeOfName 94 = .ok (.getfield 21, 3) := by decide +kernel
theorem dX8_typeOfName_97 : decode cX8_typeOfName 97 = .ok (.iload_n 2, 1) := by decide +kernel
theorem dX8_typeOfName_98 : decode cX8_typeOfName 98 = .ok (.invokevirtual 300, 3) := by decide +kernel
theorem dX8_typeOfName_101 : decode cX8_typeOfName 101 = .ok (.invokevirtual 301, 3) := by decide +kernel
theorem dX8_typeOfName_104 : decode cX8_typeOfName 104 = .ok (.ireturn, 1) := by decide +kernel
theorem dX8_typeOfVariable_0 : decode cX8_typeOfVariable 0 = .ok (.aload_n 0, 1) := by decide +kernel
theorem dX8_typeOfVariable_1 : decode cX8_typeOfVariable 1 = .ok (.getfield 46, 3) := by decide +kernel
theorem dX8_typeOfVariable_4 : decode cX8_typeOfVariable 4 = .ok (.iload_n 1, 1) := by decide +kernel
theorem dX8_typeOfVariable_5 : decode cX8_typeOfVariable 5 = .ok (.iload_n 2, 1) := by decide +kernel
theorem dX8_typeOfVariable_6 : decode cX8_typeOfVariable 6 = .ok (.invokevirtual 156, 3) := by decide +kernel
theorem dX8_typeOfVariable_9 : decode cX8_typeOfVariable 9 = .ok (.aload_n 0, 1) := by decide +kernel
theorem dX8_typeOfVariable_10 : decode cX8_typeOfVariable 10 = .ok (.getfield 28, 3) := by decide +kernel
theorem dX8_typeOfVariable_13 : decode cX8_typeOfVariable 13 = .ok (.iload_n 2, 1) := by decide +kernel
theorem dX8_typeOfVariable_14 : decode cX8_typeOfVariable 14 = .ok (.invokevirtual 176, 3) := by decide +kernel
theorem dX8_typeOfVariable_17 : decode cX8_typeOfVariable 17 = .ok (.ifCond .ne 7, 3) := by decide +kernel
theorem dX8_typeOfVariable_20 : decode cX8_typeOfVariable 20 = .ok (.iconst 0, 1) := by decide +kernel
theorem dX8_typeOfVariable_21 : decode cX8_typeOfVariable 21 = .ok (.goto 19, 3) := by decide +kernel
theorem dX8_typeOfVariable_24 : decode cX8_typeOfVariable 24 = .ok (.aload_n 0, 1) := by decide +kernel
theorem dX8_typeOfVariable_25 : decode cX8_typeOfVariable 25 = .ok (.getfield 28, 3) := by decide +kernel
theorem dX8_typeOfVariable_28 : decode cX8_typeOfVariable 28 = .ok (.iload_n 2, 1) := by decide +kernel
theorem dX8_typeOfVariable_29 : decode cX8_typeOfVariable 29 = .ok (.invokevirtual 291, 3) := by decide +kernel
theorem dX8_typeOfVariable_32 : decode cX8_typeOfVariable 32 = .ok (.ifCond .ne 7, 3) := by decide +kernel
theorem dX8_typeOfVariable_35 : decode cX8_typeOfVariable 35 = .ok (.iconst 1, 1) := by decide +kernel
theorem dX8_typeOfVariable_36 : decode cX8_typeOfVariable 36 = .ok (.goto 4, 3) := by decide +kernel
theorem dX8_typeOfVariable_39 : decode cX8_typeOfVariable 39 = .ok (.iconst 2, 1) := by decide +kernel
theorem dX8_typeOfVariable_40 : decode cX8_typeOfVariable 40 = .ok (.ireturn, 1) := by decide +kernel
theorem dX8_typeOfCall_0 : decode cX8_typeOfCall 0 = .ok (.aload_n 0, 1) := by decide +kernel
theorem dX8_typeOfCall_1 : decode cX8_typeOfCall 1 = .ok (.getfield 21, 3) := by decide +kernel
theorem dX8_typeOfCall_4 : decode cX8_typeOfCall 4 = .ok (.aload_n 0, 1) := by decide +kernel
theorem dX8_typeOfCall_5 : decode cX8_typeOfCall 5 = .ok (.getfield 46, 3) := by decide +kernel
theorem dX8_typeOfCall_8 : decode cX8_typeOfCall 8 = .ok (.iload_n 1, 1) := by decide +kernel
theorem dX8_typeOfCall_9 : decode cX8_typeOfCall 9 = .ok (.invokevirtual 142, 3) := by decide +kernel
theorem dX8_typeOfCall_12 : decode cX8_typeOfCall 12 = .ok (.invokevirtual 294, 3) := by decide +kernel
theorem dX8_typeOfCall_15 : decode cX8_typeOfCall 15 = .ok (.istore_n 2, 1) := by decide +kernel
theorem dX8_typeOfCall_16 : decode cX8_typeOfCall 16 = .ok (.iload_n 2, 1) := by decide +kernel
theorem dX8_typeOfCall_17 : decode cX8_typeOfCall 17 = .ok (.iconst (-1), 1) := by decide +kernel
theorem dX8_typeOfCall_18 : decode cX8_typeOfCall 18 = .ok (.if_icmp .eq 15, 3) := by decide +kernel
theorem dX8_typeOfCall_21 : decode cX8_typeOfCall 21 = .ok (.aload_n 0, 1) := by decide +kernel
theorem dX8_typeOfCall_22 : decode cX8_typeOfCall 22 = .ok (.getfield 21, 3) := by decide +kernel
theorem dX8_typeOfCall_25 : decode cX8_typeOfCall 25 = .ok (.iload_n 2, 1) := by decide +kernel
theorem dX8_typeOfCall_26 : decode cX8_typeOfCall 26 = .ok (.invokevirtual 297, 3) := by decide +kernel
theorem dX8_typeOfCall_29 : decode cX8_typeOfCall 29 = .ok (.iconst 2, 1) := by decide +kernel
theorem dX8_typeOfCall_30 : decode cX8_typeOfCall 30 = .ok (.if_icmp .eq 54, 3) := by decide +kernel
theorem dX8_typeOfCall_33 : decode cX8_typeOfCall 33 = .ok (.aload_n 0, 1) := by decide +kernel
theorem dX8_typeOfCall_34 : decode cX8_typeOfCall 34 = .ok (.getfield 12, 3) := by decide +kernel
theorem dX8_typeOfCall_37 : decode cX8_typeOfCall 37 = .ok (.iconst 2, 1) := by decide +kernel
theorem dX8_typeOfCall_38 : decode cX8_typeOfCall 38 = .ok (.aload_n 0, 1) := by decide +kernel
theorem dX8_typeOfCall_39 : decode cX8_typeOfCall 39 = .ok (.getfield 46, 3) := by decide +kernel
theorem dX8_typeOfCall_42 : decode cX8_typeOfCall 42 = .ok (.iload_n 1, 1) := by decide +kernel
theorem dX8_typeOfCall_43 : decode cX8_typeOfCall 43 = .ok (.invokevirtual 168, 3) := by decide +kernel
theorem dX8_typeOfCall_46 : decode cX8_typeOfCall 46 = .ok (.invokevirtual 152, 3) := by decide +kernel
theorem dX8_typeOfCall_49 : decode cX8_typeOfCall 49 = .ok (.aload_n 0, 1) := by decide +kernel
theorem dX8_typeOfCall_50 : decode cX8_typeOfCall 50 = .ok (.getfield 46, 3) := by decide +kernel
theorem dX8_typeOfCall_53 : decode cX8_typeOfCall 53 = .ok (.iload_n 1, 1) := by decide +kernel
theorem dX8_typeOfCall_54 : decode cX8_typeOfCall 54 = .ok (.invokevirtual 91, 3) := by decide +kernel
theorem dX8_typeOfCall_57 : decode cX8_typeOfCall 57 = .ok (.istore_n 3, 1) := by decide +kernel
theorem dX8_typeOfCall_58 : decode cX8_typeOfCall 58 = .ok (.iload_n 3, 1) := by decide +kernel
theorem dX8_typeOfCall_59 : decode cX8_typeOfCall 59 = .ok (.iconst (-1), 1) := by decide +kernel
theorem dX8_typeOfCall_60 : decode cX8_typeOfCall 60 = .ok (.if_icmp .eq 22, 3) := by decide +kernel
theorem dX8_typeOfCall_63 : decode cX8_typeOfCall 63 = .ok (.aload_n 0, 1) := by decide +kernel
theorem dX8_typeOfCall_64 : decode cX8_typeOfCall 64 = .ok (.iload_n 3, 1) := by decide +kernel
theorem dX8_typeOfCall_65 : decode cX8_typeOfCall 65 = .ok (.invokevirtual 276, 3) := by decide +kernel
theorem dX8_typeOfCall_68 : decode cX8_typeOfCall 68 = .ok (.istore 4, 2) := by decide +kernel
theorem dX8_typeOfCall_70 : decode cX8_typeOfCall 70 = .ok (.aload_n 0, 1) := by decide +kernel
theorem dX8_typeOfCall_71 : decode cX8_typeOfCall 71 = .ok (.getfield 46, 3) := by decide +kernel
theorem dX8_typeOfCall_74 : decode cX8_typeOfCall 74 = .ok (.iload_n 3, 1) := by decide +kernel
theorem dX8_typeOfCall_75 : decode cX8_typeOfCall 75 = .ok (.invokevirtual 103, 3) := by decide +kernel
theorem dX8_typeOfCall_78 : decode cX8_typeOfCall 78 = .ok (.istore_n 3, 1) := by decide +kernel
theorem dX8_typeOfCall_79 : decode cX8_typeOfCall 79 = .ok (.goto (-21), 3) := by decide +kernel
theorem dX8_typeOfCall_82 : decode cX8_typeOfCall 82 = .ok (.iconst 4, 1) := by decide +kernel
theorem dX8_typeOfCall_83 : decode cX8_typeOfCall 83 = .ok (.ireturn, 1) := by decide +kernel
theorem dX8_typeOfCall_84 : decode cX8_typeOfCall 84 = .ok (.aload_n 0, 1) := by decide +kernel
theorem dX8_typeOfCall_85 : decode cX8_typeOfCall 85 = .ok (.getfield 21, 3) := by decide +kernel
theorem dX8_typeOfCall_88 : decode cX8_typeOfCall 88 = .ok (.iload_n 2, 1) := by decide +kernel
theorem dX8_typeOfCall_89 : decode cX8_typeOfCall 89 = .ok (.invokevirtual 300, 3) := by decide +kernel
theorem dX8_typeOfCall_92 : decode cX8_typeOfCall 92 = .ok (.istore_n 3, 1) := by decide +kernel
theorem dX8_typeOfCall_93 : decode cX8_typeOfCall 93 = .ok (.aload_n 0, 1) := by decide +kernel
theorem dX8_typeOfCall_94 : decode cX8_typeOfCall 94 = .ok (.getfield 46, 3) := by decide +kernel
theorem dX8_typeOfCall_97 : decode cX8_typeOfCall 97 = .ok (.iload_n 1, 1) := by decide +kernel
theorem dX8_typeOfCall_98 : decode cX8_typeOfCall 98 = .ok (.iload_n 3, 1) := by decide +kernel
theorem dX8_typeOfCall_99 : decode cX8_typeOfCall 99 = .ok (.invokevirtual 156, 3) := by decide +kernel
theorem dX8_typeOfCall_102 : decode cX8_typeOfCall 102 = .ok (.iload_n 3, 1) := by decide +kernel
theorem dX8_typeOfCall_103 : decode cX8_typeOfCall 103 = .ok (.bipush 15, 2) := by decide +kernel
theorem dX8_typeOfCall_105 : decode cX8_typeOfCall 105 = .ok (.if_icmp .ge 19, 3) := by decide +kernel
theorem dX8_typeOfCall_108 : decode cX8_typeOfCall 108 = .ok (.aload_n 0, 1) := by decide +kernel
theorem dX8_typeOfCall_109 : decode cX8_typeOfCall 109 = .ok (.iload_n 1, 1) := by decide +kernel
theorem dX8_typeOfCall_110 : decode cX8_typeOfCall 110 = .ok (.aload_n 0, 1) := by decide +kernel
theorem dX8_typeOfCall_111 : decode cX8_typeOfCall 111 = .ok (.getfield 54, 3) := by decide +kernel
theorem dX8_typeOfCall_114 : decode cX8_typeOfCall 114 = .ok (.iload_n 3, 1) := by decide +kernel
theorem dX8_typeOfCall_115 : decode cX8_typeOfCall 115 = .ok (.invokevirtual 304, 3) := by decide +kernel
theorem dX8_typeOfCall_118 : decode cX8_typeOfCall 118 = .ok (.invokevirtual 307, 3) := by decide +kernel
theorem dX8_typeOfCall_121 : decode cX8_typeOfCall 121 = .ok (.goto 17, 3) := by decide +kernel
theorem dX8_typeOfCall_124 : decode cX8_typeOfCall 124 = .ok (.aload_n 0, 1) := by decide +kernel
theorem dX8_typeOfCall_125 : decode cX8_typeOfCall 125 = .ok (.iload_n 1, 1) := by decide +kernel
theorem dX8_typeOfCall_126 : decode cX8_typeOfCall 126 = .ok (.aload_n 0, 1) := by decide +kernel
theorem dX8_typeOfCall_127 : decode cX8_typeOfCall 127 = .ok (.getfield 39, 3) := by decide +kernel
theorem dX8_typeOfCall_130 : decode cX8_typeOfCall 130 = .ok (.iload_n 3, 1) := by decide +kernel
theorem dX8_typeOfCall_131 : decode cX8_typeOfCall 131 = .ok (.bipush 15, 2) := by decide +kernel
theorem dX8_typeOfCall_133 : decode cX8_typeOfCall 133 = .ok (.isub, 1) := by decide +kernel
theorem dX8_typeOfCall_134 : decode cX8_typeOfCall 134 = .ok (.iaload, 1) := by decide +kernel
theorem dX8_typeOfCall_135 : decode cX8_typeOfCall 135 = .ok (.invokevirtual 311, 3) := by decide +kernel
theorem dX8_typeOfCall_138 : decode cX8_typeOfCall 138 = .ok (.ireturn, 1) := by decide +kernel
theorem dX8_typeOfGiven_0 : decode cX8_typeOfGiven 0 = .ok (.aload_n 0, 1) := by decide +kernel
theorem dX8_typeOfGiven_1 : decode cX8_typeOfGiven 1 = .ok (.getfield 46, 3) := by decide +kernel
theorem dX8_typeOfGiven_4 : decode cX8_typeOfGiven 4 = .ok (.iload_n 1, 1) := by decide +kernel
theorem dX8_typeOfGiven_5 : decode cX8_typeOfGiven 5 = .ok (.invokevirtual 233, 3) := by decide +kernel
theorem dX8_typeOfGiven_8 : decode cX8_typeOfGiven 8 = .ok (.aload_n 2, 1) := by decide +kernel
theorem dX8_typeOfGiven_9 : decode cX8_typeOfGiven 9 = .ok (.invokevirtual 118, 3) := by decide +kernel
theorem dX8_typeOfGiven_12 : decode cX8_typeOfGiven 12 = .ok (.iconst 1, 1) := by decide +kernel
theorem dX8_typeOfGiven_13 : decode cX8_typeOfGiven 13 = .ok (.isub, 1) := by decide +kernel
theorem dX8_typeOfGiven_14 : decode cX8_typeOfGiven 14 = .ok (.if_icmp .eq 19, 3) := by decide +kernel
theorem dX8_typeOfGiven_17 : decode cX8_typeOfGiven 17 = .ok (.aload_n 0, 1) := by decide +kernel
theorem dX8_typeOfGiven_18 : decode cX8_typeOfGiven 18 = .ok (.getfield 12, 3) := by decide +kernel
theorem dX8_typeOfGiven_21 : decode cX8_typeOfGiven 21 = .ok (.iconst 4, 1) := by decide +kernel
theorem dX8_typeOfGiven_22 : decode cX8_typeOfGiven 22 = .ok (.aload_n 0, 1) := by decide +kernel
theorem dX8_typeOfGiven_23 : decode cX8_typeOfGiven 23 = .ok (.getfield 46, 3) := by decide +kernel
theorem dX8_typeOfGiven_26 : decode cX8_typeOfGiven 26 = .ok (.iload_n 1, 1) := by decide +kernel
theorem dX8_typeOfGiven_27 : decode cX8_typeOfGiven 27 = .ok (.invokevirtual 168, 3) := by decide +kernel
theorem dX8_typeOfGiven_30 : decode cX8_typeOfGiven 30 = .ok (.invokevirtual 152, 3) := by decide +kernel
theorem dX8_typeOfGiven_33 : decode cX8_typeOfGiven 33 = .ok (.iconst 1, 1) := by decide +kernel
theorem dX8_typeOfGiven_34 : decode cX8_typeOfGiven 34 = .ok (.istore_n 3, 1) := by decide +kernel
theorem dX8_typeOfGiven_35 : decode cX8_typeOfGiven 35 = .ok (.aload_n 0, 1) := by decide +kernel
theorem dX8_typeOfGiven_36 : decode cX8_typeOfGiven 36 = .ok (.getfield 46, 3) := by decide +kernel
theorem dX8_typeOfGiven_39 : decode cX8_typeOfGiven 39 = .ok (.iload_n 1, 1) := by decide +kernel
theorem dX8_typeOfGiven_40 : decode cX8_typeOfGiven 40 = .ok (.invokevirtual 91, 3) := by decide +kernel
theorem dX8_typeOfGiven_43 : decode cX8_typeOfGiven 43 = .ok (.istore 4, 2) := by decide +kernel
theorem dX8_typeOfGiven_45 : decode cX8_typeOfGiven 45 = .ok (.iload 4, 2) := by decide +kernel
theorem dX8_typeOfGiven_47 : decode cX8_typeOfGiven 47 = .ok (.iconst (-1), 1) := by decide +kernel
theorem dX8_typeOfGiven_48 : decode cX8_typeOfGiven 48 = .ok (.if_icmp .eq 44, 3) := by decide +kernel
theorem dX8_typeOfGiven_51 : decode cX8_typeOfGiven 51 = .ok (.aload_n 0, 1) := by decide +kernel
theorem dX8_typeOfGiven_52 : decode cX8_typeOfGiven 52 = .ok (.iload 4, 2) := by decide +kernel
theorem dX8_typeOfGiven_54 : decode cX8_typeOfGiven 54 = .ok (.iload_n 3, 1) := by decide +kernel
theorem dX8_typeOfGiven_55 : decode cX8_typeOfGiven 55 = .ok (.aload_n 2, 1) := by decide +kernel
theorem dX8_typeOfGiven_56 : decode cX8_typeOfGiven 56 = .ok (.invokevirtual 118, 3) := by decide +kernel
theorem dX8_typeOfGiven_59 : decode cX8_typeOfGiven 59 = .ok (.if_icmp .ge 11, 3) := by decide +kernel
theorem dX8_typeOfGiven_62 : decode cX8_typeOfGiven 62 = .ok (.aload_n 2, 1) := by decide +kernel
theorem dX8_typeOfGiven_63 : decode cX8_typeOfGiven 63 = .ok (.iload_n 3, 1) := by decide +kernel
theorem dX8_typeOfGiven_64 : decode cX8_typeOfGiven 64 = .ok (.invokevirtual 123, 3) := by decide +kernel
theorem dX8_typeOfGiven_67 : decode cX8_typeOfGiven 67 = .ok (.goto 5, 3) := by decide +kernel
theorem dX8_typeOfGiven_70 : decode cX8_typeOfGiven 70 = .ok (.bipush 63, 2) := by decide +kernel
theorem dX8_typeOfGiven_72 : decode cX8_typeOfGiven 72 = .ok (.invokevirtual 314, 3) := by decide +kernel
theorem dX8_typeOfGiven_75 : decode cX8_typeOfGiven 75 = .ok (.iinc 3 1, 3) := by decide +kernel
theorem dX8_typeOfGiven_78 : decode cX8_typeOfGiven 78 = .ok (.aload_n 0, 1) := by decide +kernel
theorem dX8_typeOfGiven_79 : decode cX8_typeOfGiven 79 = .ok (.getfield 46, 3) := by decide +kernel
theorem dX8_typeOfGiven_82 : decode cX8_typeOfGiven 82 = .ok (.iload 4, 2) := by decide +kernel
theorem dX8_typeOfGiven_84 : decode cX8_typeOfGiven 84 = .ok (.invokevirtual 103, 3) := by decide +kernel
theorem dX8_typeOfGiven_87 : decode cX8_typeOfGiven 87 = .ok (.istore 4, 2) := by decide +kernel
theorem dX8_typeOfGiven_89 : decode cX8_typeOfGiven 89 = .ok (.goto (-44), 3) := by decide +kernel
theorem dX8_typeOfGiven_92 : decode cX8_typeOfGiven 92 = .ok (.aload_n 2, 1) := by decide +kernel
theorem dX8_typeOfGiven_93 : decode cX8_typeOfGiven 93 = .ok (.iconst 0, 1) := by decide +kernel
theorem dX8_typeOfGiven_94 : decode cX8_typeOfGiven 94 = .ok (.invokevirtual 123, 3) := by decide +kernel
theorem dX8_typeOfGiven_97 : decode cX8_typeOfGiven 97 = .ok (.bipush 118, 2) := by decide +kernel
theorem dX8_typeOfGiven_99 : decode cX8_typeOfGiven 99 = .ok (.if_icmp .ne 7, 3) := by decide +kernel
theorem dX8_typeOfGiven_102 : decode cX8_typeOfGiven 102 = .ok (.iconst 3, 1) := by decide +kernel
theorem dX8_typeOfGiven_103 : decode cX8_typeOfGiven 103 = .ok (.goto 4, 3) := by decide +kernel
theorem dX8_typeOfGiven_106 : decode cX8_typeOfGiven 106 = .ok (.iconst 0, 1) := by decide +kernel
theorem dX8_typeOfGiven_107 : decode cX8_typeOfGiven 107 = .ok (.ireturn, 1) := by decide +kernel
theorem dX8_argument_0 : decode cX8_argument 0 = .ok (.iload_n 2, 1) := by decide +kernel
theorem dX8_argument_1 : decode cX8_argument 1 = .ok (.bipush 105, 2) := by decide +kernel
theorem dX8_argument_3 : decode cX8_argument 3 = .ok (.if_icmp .ne 11, 3) := by decide +kernel
theorem dX8_argument_6 : decode cX8_argument 6 = .ok (.aload_n 0, 1) := by decide +kernel
theorem dX8_argument_7 : decode cX8_argument 7 = .ok (.iload_n 1, 1) := by decide +kernel
theorem dX8_argument_8 : decode cX8_argument 8 = .ok (.invokevirtual 228, 3) := by decide +kernel
theorem dX8_argument_11 : decode cX8_argument 11 = .ok (.goto 103, 3) := by decide +kernel
theorem dX8_argument_14 : decode cX8_argument 14 = .ok (.iload_n 2, 1) := by decide +kernel
theorem dX8_argument_15 : decode cX8_argument 15 = .ok (.bipush 107, 2) := by decide +kernel
theorem dX8_argument_17 : decode cX8_argument 17 = .ok (.if_icmp .ne 30, 3) := by decide +kernel
theorem dX8_argument_20 : decode cX8_argument 20 = .ok (.aload_n 0, 1) := by decide +kernel
theorem dX8_argument_21 : decode cX8_argument 21 = .ok (.getfield 46, 3) := by decide +kernel
theorem dX8_argument_24 : decode cX8_argument 24 = .ok (.iload_n 1, 1) := by decide +kernel
theorem dX8_argument_25 : decode cX8_argument 25 = .ok (.aload_n 0, 1) := by decide +kernel
theorem dX8_argument_26 : decode cX8_argument 26 = .ok (.iload_n 1, 1) := by decide +kernel
theorem dX8_argument_27 : decode cX8_argument 27 = .ok (.invokevirtual 317, 3) := by decide +kernel
theorem dX8_argument_30 : decode cX8_argument 30 = .ok (.ifCond .eq 10, 3) := by decide +kernel
theorem dX8_argument_33 : decode cX8_argument 33 = .ok (.aload_n 0, 1) := by decide +kernel
theorem dX8_argument_34 : decode cX8_argument 34 = .ok (.getfield 318, 3) := by decide +kernel
theorem dX8_argument_37 : decode cX8_argument 37 = .ok (.goto 4, 3) := by decide +kernel
theorem dX8_argument_40 : decode cX8_argument 40 = .ok (.iconst 0, 1) := by decide +kernel
theorem dX8_argument_41 : decode cX8_argument 41 = .ok (.invokevirtual 245, 3) := by decide +kernel
theorem dX8_argument_44 : decode cX8_argument 44 = .ok (.goto 70, 3) := by decide +kernel
theorem dX8_argument_47 : decode cX8_argument 47 = .ok (.aload_n 0, 1) := by decide +kernel
theorem dX8_argument_48 : decode cX8_argument 48 = .ok (.iload_n 1, 1) := by decide +kernel
theorem dX8_argument_49 : decode cX8_argument 49 = .ok (.invokevirtual 276, 3) := by decide +kernel
theorem dX8_argument_52 : decode cX8_argument 52 = .ok (.istore_n 3, 1) := by decide +kernel
theorem dX8_argument_53 : decode cX8_argument 53 = .ok (.iload_n 3, 1) := by decide +kernel
theorem dX8_argument_54 : decode cX8_argument 54 = .ok (.iconst 1, 1) := by decide +kernel
theorem dX8_argument_55 : decode cX8_argument 55 = .ok (.if_icmp .ne 9, 3) := by decide +kernel
theorem dX8_argument_58 : decode cX8_argument 58 = .ok (.iload_n 2, 1) := by decide +kernel
theorem dX8_argument_59 : decode cX8_argument 59 = .ok (.bipush 99, 2) := by decide +kernel
theorem dX8_argument_61 : decode cX8_argument 61 = .ok (.if_icmp .ne 14, 3) := by decide +kernel
theorem dX8_argument_64 : decode cX8_argument 64 = .ok (.iload_n 3, 1) := by decide +kernel
theorem dX8_argument_65 : decode cX8_argument 65 = .ok (.iconst 2, 1) := by decide +kernel
theorem dX8_argument_66 : decode cX8_argument 66 = .ok (.if_icmp .ne 13, 3) := by decide +kernel
theorem dX8_argument_69 : decode cX8_argument 69 = .ok (.iload_n 2, 1) := by decide +kernel
theorem dX8_argument_70 : decode cX8_argument 70 = .ok (.bipush 97, 2) := by decide +kernel
theorem dX8_argument_72 : decode cX8_argument 72 = .ok (.if_icmp .eq 7, 3) := by decide +kernel
theorem dX8_argument_75 : decode cX8_argument 75 = .ok (.iconst 1, 1) := by decide +kernel
theorem dX8_argument_76 : decode cX8_argument 76 = .ok (.goto 4, 3) := by decide +kernel
theorem dX8_argument_79 : decode cX8_argument 79 = .ok (.iconst 0, 1) := by decide +kernel
theorem dX8_argument_80 : decode cX8_argument 80 = .ok (.istore 4, 2) := by decide +kernel
theorem dX8_argument_82 : decode cX8_argument 82 = .ok (.iload_n 2, 1) := by decide +kernel
theorem dX8_argument_83 : decode cX8_argument 83 = .ok (.bipush 63, 2) := by decide +kernel
theorem dX8_argument_85 : decode cX8_argument 85 = .ok (.if_icmp .eq 29, 3) := by decide +kernel
theorem dX8_argument_88 : decode cX8_argument 88 = .ok (.iload_n 3, 1) := by decide +kernel
theorem dX8_argument_89 : decode cX8_argument 89 = .ok (.iconst 4, 1) := by decide +kernel
theorem dX8_argument_90 : decode cX8_argument 90 = .ok (.if_icmp .eq 24, 3) := by decide +kernel
theorem dX8_argument_93 : decode cX8_argument 93 = .ok (.iload 4, 2) := by decide +kernel
theorem dX8_argument_95 : decode cX8_argument 95 = .ok (.ifCond .ne 19, 3) := by decide +kernel
theorem dX8_argument_98 : decode cX8_argument 98 = .ok (.aload_n 0, 1) := by decide +kernel
theorem dX8_argument_99 : decode cX8_argument 99 = .ok (.getfield 12, 3) := by decide +kernel
theorem dX8_argument_102 : decode cX8_argument 102 = .ok (.iconst 3, 1) := by decide +kernel
theorem dX8_argument_103 : decode cX8_argument 103 = .ok (.aload_n 0, 1) := by decide +kernel
theorem dX8_argument_104 : decode cX8_argument 104 = .ok (.getfield 46, 3) := by decide +kernel
theorem dX8_argument_107 : decode cX8_argument 107 = .ok (.iload_n 1, 1) := by decide +kernel
theorem dX8_argument_108 : decode cX8_argument 108 = .ok (.invokevirtual 149, 3) := by decide +kernel
theorem dX8_argument_111 : decode cX8_argument 111 = .ok (.invokevirtual 152, 3) := by decide +kernel
theorem dX8_argument_114 : decode cX8_argument 114 = .ok (.return_, 1) := by decide +kernel
theorem dX8_typeOfOwn_0 : decode cX8_typeOfOwn 0 = .ok (.aload_n 0, 1) := by decide +kernel
theorem dX8_typeOfOwn_1 : decode cX8_typeOfOwn 1 = .ok (.getfield 46, 3) := by decide +kernel
theorem dX8_typeOfOwn_4 : decode cX8_typeOfOwn 4 = .ok (.iload_n 2, 1) := by decide +kernel
theorem dX8_typeOfOwn_5 : decode cX8_typeOfOwn 5 = .ok (.invokevirtual 91, 3) := by decide +kernel
theorem dX8_typeOfOwn_8 : decode cX8_typeOfOwn 8 = .ok (.istore_n 3, 1) := by decide +kernel
theorem dX8_typeOfOwn_9 : decode cX8_typeOfOwn 9 = .ok (.iconst 0, 1) := by decide +kernel
theorem dX8_typeOfOwn_10 : decode cX8_typeOfOwn 10 = .ok (.istore 4, 2) := by decide +kernel
theorem dX8_typeOfOwn_12 : decode cX8_typeOfOwn 12 = .ok (.aload_n 0, 1) := by decide +kernel
theorem dX8_typeOfOwn_13 : decode cX8_typeOfOwn 13 = .ok (.getfield 46, 3) := by decide +kernel
theorem dX8_typeOfOwn_16 : decode cX8_typeOfOwn 16 = .ok (.iload_n 1, 1) := by decide +kernel
theorem dX8_typeOfOwn_17 : decode cX8_typeOfOwn 17 = .ok (.invokevirtual 91, 3) := by decide +kernel
theorem dX8_typeOfOwn_20 : decode cX8_typeOfOwn 20 = .ok (.istore 5, 2) := by decide +kernel
theorem dX8_typeOfOwn_22 : decode cX8_typeOfOwn 22 = .ok (.iload 5, 2) := by decide +kernel
theorem dX8_typeOfOwn_24 : decode cX8_typeOfOwn 24 = .ok (.iconst (-1), 1) := by decide +kernel
theorem dX8_typeOfOwn_25 : decode cX8_typeOfOwn 25 = .ok (.if_icmp .eq 120, 3) := by decide +kernel
theorem dX8_typeOfOwn_28 : decode cX8_typeOfOwn 28 = .ok (.aload_n 0, 1) := by decide +kernel
theorem dX8_typeOfOwn_29 : decode cX8_typeOfOwn 29 = .ok (.getfield 46, 3) := by decide +kernel
theorem dX8_typeOfOwn_32 : decode cX8_typeOfOwn 32 = .ok (.iload_n 3, 1) := by decide +kernel
theorem dX8_typeOfOwn_33 : decode cX8_typeOfOwn 33 = .ok (.invokevirtual 97, 3) := by decide +kernel
theorem dX8_typeOfOwn_36 : decode cX8_typeOfOwn 36 = .ok (.iconst 5, 1) := by decide +kernel
theorem dX8_typeOfOwn_37 : decode cX8_typeOfOwn 37 = .ok (.if_icmp .ne 7, 3) := by decide +kernel
theorem dX8_typeOfOwn_40 : decode cX8_typeOfOwn 40 = .ok (.iconst 1, 1) := by decide +kernel
theorem dX8_typeOfOwn_41 : decode cX8_typeOfOwn 41 = .ok (.goto 4, 3) := by decide +kernel
theorem dX8_typeOfOwn_44 : decode cX8_typeOfOwn 44 = .ok (.iconst 0, 1) := by decide +kernel
theorem dX8_typeOfOwn_45 : decode cX8_typeOfOwn 45 = .ok (.istore 6, 2) := by decide +kernel
theorem dX8_typeOfOwn_47 : decode cX8_typeOfOwn 47 = .ok (.iload 4, 2) := by decide +kernel
theorem dX8_typeOfOwn_49 : decode cX8_typeOfOwn 49 = .ok (.iload 6, 2) := by decide +kernel
theorem dX8_typeOfOwn_51 : decode cX8_typeOfOwn 51 = .ok (.ifCond .ne 7, 3) := by decide +kernel
theorem dX8_typeOfOwn_54 : decode cX8_typeOfOwn 54 = .ok (.iconst 1, 1) := by decide +kernel
theorem dX8_typeOfOwn_55 : decode cX8_typeOfOwn 55 = .ok (.goto 4, 3) := by decide +kernel
theorem dX8_typeOfOwn_58 : decode cX8_typeOfOwn 58 = .ok (.iconst 0, 1) := by decide +kernel
theorem dX8_typeOfOwn_59 : decode cX8_typeOfOwn 59 = .ok (.ior, 1) := by decide +kernel
theorem dX8_typeOfOwn_60 : decode cX8_typeOfOwn 60 = .ok (.istore 4, 2) := by decide +kernel
theorem dX8_typeOfOwn_62 : decode cX8_typeOfOwn 62 = .ok (.aload_n 0, 1) := by decide +kernel
theorem dX8_typeOfOwn_63 : decode cX8_typeOfOwn 63 = .ok (.iload 5, 2) := by decide +kernel
theorem dX8_typeOfOwn_65 : decode cX8_typeOfOwn 65 = .ok (.iload 6, 2) := by decide +kernel
theorem dX8_typeOfOwn_67 : decode cX8_typeOfOwn 67 = .ok (.ifCond .ne 8, 3) := by decide +kernel
theorem dX8_typeOfOwn_70 : decode cX8_typeOfOwn 70 = .ok (.bipush 63, 2) := by decide +kernel
theorem dX8_typeOfOwn_72 : decode cX8_typeOfOwn 72 = .ok (.goto 38, 3) := by decide +kernel
theorem dX8_typeOfOwn_75 : decode cX8_typeOfOwn 75 = .ok (.aload_n 0, 1) := by decide +kernel
theorem dX8_typeOfOwn_76 : decode cX8_typeOfOwn 76 = .ok (.getfield 46, 3) := by decide +kernel
theorem dX8_typeOfOwn_79 : decode cX8_typeOfOwn 79 = .ok (.iload_n 3, 1) := by decide +kernel
theorem dX8_typeOfOwn_80 : decode cX8_typeOfOwn 80 = .ok (.invokevirtual 171, 3) := by decide +kernel
theorem dX8_typeOfOwn_83 : decode cX8_typeOfOwn 83 = .ok (.iconst (-1), 1) := by decide +kernel
theorem dX8_typeOfOwn_84 : decode cX8_typeOfOwn 84 = .ok (.if_icmp .ne 8, 3) := by decide +kernel
theorem dX8_typeOfOwn_87 : decode cX8_typeOfOwn 87 = .ok (.bipush 105, 2) := by decide +kernel
theorem dX8_typeOfOwn_89 : decode cX8_typeOfOwn 89 = .ok (.goto 21, 3) := by decide +kernel
theorem dX8_typeOfOwn_92 : decode cX8_typeOfOwn 92 = .ok (.aload_n 0, 1) := by decide +kernel
theorem dX8_typeOfOwn_93 : decode cX8_typeOfOwn 93 = .ok (.getfield 46, 3) := by decide +kernel
theorem dX8_typeOfOwn_96 : decode cX8_typeOfOwn 96 = .ok (.iload_n 3, 1) := by decide +kernel
theorem dX8_typeOfOwn_97 : decode cX8_typeOfOwn 97 = .ok (.invokevirtual 168, 3) := by decide +kernel
theorem dX8_typeOfOwn_100 : decode cX8_typeOfOwn 100 = .ok (.ifCond .ne 8, 3) := by decide +kernel
theorem dX8_typeOfOwn_103 : decode cX8_typeOfOwn 103 = .ok (.bipush 97, 2) := by decide +kernel
theorem dX8_typeOfOwn_105 : decode cX8_typeOfOwn 105 = .ok (.goto 5, 3) := by decide +kernel
theorem dX8_typeOfOwn_108 : decode cX8_typeOfOwn 108 = .ok (.bipush 99, 2) := by decide +kernel
theorem dX8_typeOfOwn_110 : decode cX8_typeOfOwn 110 = .ok (.invokevirtual 314, 3) := by decide +kernel
theorem dX8_typeOfOwn_113 : decode cX8_typeOfOwn 113 = .ok (.iload 6, 2) := by decide +kernel
theorem dX8_typeOfOwn_115 : decode cX8_typeOfOwn 115 = .ok (.ifCond .eq 14, 3) := by decide +kernel
theorem dX8_typeOfOwn_118 : decode cX8_typeOfOwn 118 = .ok (.aload_n 0, 1) := by decide +kernel
theorem dX8_typeOfOwn_119 : decode cX8_typeOfOwn 119 = .ok (.getfield 46, 3) := by decide +kernel
theorem dX8_typeOfOwn_122 : decode cX8_typeOfOwn 122 = .ok (.iload_n 3, 1) := by decide +kernel
theorem dX8_typeOfOwn_123 : decode cX8_typeOfOwn 123 = .ok (.invokevirtual 103, 3) := by decide +kernel
theorem dX8_typeOfOwn_126 : decode cX8_typeOfOwn 126 = .ok (.goto 4, 3) := by decide +kernel
theorem dX8_typeOfOwn_129 : decode cX8_typeOfOwn 129 = .ok (.iload_n 3, 1) := by decide +kernel
theorem dX8_typeOfOwn_130 : decode cX8_typeOfOwn 130 = .ok (.istore_n 3, 1) := by decide +kernel
theorem dX8_typeOfOwn_131 : decode cX8_typeOfOwn 131 = .ok (.aload_n 0, 1) := by decide +kernel
theorem dX8_typeOfOwn_132 : decode cX8_typeOfOwn 132 = .ok (.getfield 46, 3) := by decide +kernel
theorem dX8_typeOfOwn_135 : decode cX8_typeOfOwn 135 = .ok (.iload 5, 2) := by decide +kernel
theorem dX8_typeOfOwn_137 : decode cX8_typeOfOwn 137 = .ok (.invokevirtual 103, 3) := by decide +kernel
theorem dX8_typeOfOwn_140 : decode cX8_typeOfOwn 140 = .ok (.istore 5, 2) := by decide +kernel
theorem dX8_typeOfOwn_142 : decode cX8_typeOfOwn 142 = .ok (.goto (-120), 3) := by decide +kernel
theorem dX8_typeOfOwn_145 : decode cX8_typeOfOwn 145 = .ok (.iload 4, 2) := by decide +kernel
theorem dX8_typeOfOwn_147 : decode cX8_typeOfOwn 147 = .ok (.ifCond .ne 15, 3) := by decide +kernel
theorem dX8_typeOfOwn_150 : decode cX8_typeOfOwn 150 = .ok (.aload_n 0, 1) := by decide +kernel
theorem dX8_typeOfOwn_151 : decode cX8_typeOfOwn 151 = .ok (.getfield 46, 3) := by decide +kernel
theorem dX8_typeOfOwn_154 : decode cX8_typeOfOwn 154 = .ok (.iload_n 3, 1) := by decide +kernel
theorem dX8_typeOfOwn_155 : decode cX8_typeOfOwn 155 = .ok (.invokevirtual 97, 3) := by decide +kernel
theorem dX8_typeOfOwn_158 : decode cX8_typeOfOwn 158 = .ok (.iconst 5, 1) := by decide +kernel
theorem dX8_typeOfOwn_159 : decode cX8_typeOfOwn 159 = .ok (.if_icmp .ne 19, 3) := by decide +kernel
theorem dX8_typeOfOwn_162 : decode cX8_typeOfOwn 162 = .ok (.aload_n 0, 1) := by decide +kernel
theorem dX8_typeOfOwn_163 : decode cX8_typeOfOwn 163 = .ok (.getfield 12, 3) := by decide +kernel
theorem dX8_typeOfOwn_166 : decode cX8_typeOfOwn 166 = .ok (.iconst 4, 1) := by decide +kernel
theorem dX8_typeOfOwn_167 : decode cX8_typeOfOwn 167 = .ok (.aload_n 0, 1) := by decide +kernel
theorem dX8_typeOfOwn_168 : decode cX8_typeOfOwn 168 = .ok (.getfield 46, 3) := by decide +kernel
theorem dX8_typeOfOwn_171 : decode cX8_typeOfOwn 171 = .ok (.iload_n 1, 1) := by decide +kernel
theorem dX8_typeOfOwn_172 : decode cX8_typeOfOwn 172 = .ok (.invokevirtual 168, 3) := by decide +kernel
theorem dX8_typeOfOwn_175 : decode cX8_typeOfOwn 175 = .ok (.invokevirtual 152, 3) := by decide +kernel
theorem dX8_typeOfOwn_178 : decode cX8_typeOfOwn 178 = .ok (.aload_n 0, 1) := by decide +kernel
theorem dX8_typeOfOwn_179 : decode cX8_typeOfOwn 179 = .ok (.getfield 46, 3) := by decide +kernel
theorem dX8_typeOfOwn_182 : decode cX8_typeOfOwn 182 = .ok (.iload_n 2, 1) := by decide +kernel
theorem dX8_typeOfOwn_183 : decode cX8_typeOfOwn 183 = .ok (.invokevirtual 168, 3) := by decide +kernel
theorem dX8_typeOfOwn_186 : decode cX8_typeOfOwn 186 = .ok (.iconst 2, 1) := by decide +kernel
theorem dX8_typeOfOwn_187 : decode cX8_typeOfOwn 187 = .ok (.if_icmp .ne 7, 3) := by decide +kernel
theorem dX8_typeOfOwn_190 : decode cX8_typeOfOwn 190 = .ok (.iconst 3, 1) := by decide +kernel
theorem dX8_typeOfOwn_191 : decode cX8_typeOfOwn 191 = .ok (.goto 4, 3) := by decide +kernel
theorem dX8_typeOfOwn_194 : decode cX8_typeOfOwn 194 = .ok (.iconst 0, 1) := by decide +kernel
theorem dX8_typeOfOwn_195 : decode cX8_typeOfOwn 195 = .ok (.ireturn, 1) := by decide +kernel
theorem dX8_typeOfIndex_0 : decode cX8_typeOfIndex 0 = .ok (.aload_n 0, 1) := by decide +kernel
theorem dX8_typeOfIndex_1 : decode cX8_typeOfIndex 1 = .ok (.getfield 21, 3) := by decide +kernel
theorem dX8_typeOfIndex_4 : decode cX8_typeOfIndex 4 = .ok (.aload_n 0, 1) := by decide +kernel
theorem dX8_typeOfIndex_5 : decode cX8_typeOfIndex 5 = .ok (.getfield 46, 3) := by decide +kernel
theorem dX8_typeOfIndex_8 : decode cX8_typeOfIndex 8 = .ok (.iload_n 1, 1) := by decide +kernel
theorem dX8_typeOfIndex_9 : decode cX8_typeOfIndex 9 = .ok (.invokevirtual 142, 3) := by decide +kernel
theorem dX8_typeOfIndex_12 : decode cX8_typeOfIndex 12 = .ok (.invokevirtual 294, 3) := by decide +kernel
theorem dX8_typeOfIndex_15 : decode cX8_typeOfIndex 15 = .ok (.istore_n 2, 1) := by decide +kernel
theorem dX8_typeOfIndex_16 : decode cX8_typeOfIndex 16 = .ok (.iload_n 2, 1) := by decide +kernel
theorem dX8_typeOfIndex_17 : decode cX8_typeOfIndex 17 = .ok (.iconst (-1), 1) := by decide +kernel
theorem dX8_typeOfIndex_18 : decode cX8_typeOfIndex 18 = .ok (.if_icmp .ne 22, 3) := by decide +kernel
theorem dX8_typeOfIndex_21 : decode cX8_typeOfIndex 21 = .ok (.aload_n 0, 1) := by decide +kernel
theorem dX8_typeOfIndex_22 : decode cX8_typeOfIndex 22 = .ok (.getfield 12, 3) := by decide +kernel
theorem dX8_typeOfIndex_25 : decode cX8_typeOfIndex 25 = .ok (.iconst 2, 1) := by decide +kernel
theorem dX8_typeOfIndex_26 : decode cX8_typeOfIndex 26 = .ok (.aload_n 0, 1) := by decide +kernel
theorem dX8_typeOfIndex_27 : decode cX8_typeOfIndex 27 = .ok (.getfield 46, 3) := by decide +kernel
theorem dX8_typeOfIndex_30 : decode cX8_typeOfIndex 30 = .ok (.iload_n 1, 1) := by decide +kernel
theorem dX8_typeOfIndex_31 : decode cX8_typeOfIndex 31 = .ok (.invokevirtual 168, 3) := by decide +kernel
theorem dX8_typeOfIndex_34 : decode cX8_typeOfIndex 34 = .ok (.invokevirtual 152, 3) := by decide +kernel
theorem dX8_typeOfIndex_37 : decode cX8_typeOfIndex 37 = .ok (.goto 47, 3) := by decide +kernel
theorem dX8_typeOfIndex_40 : decode cX8_typeOfIndex 40 = .ok (.aload_n 0, 1) := by decide +kernel
theorem dX8_typeOfIndex_41 : decode cX8_typeOfIndex 41 = .ok (.getfield 21, 3) := by decide +kernel
theorem dX8_typeOfIndex_44 : decode cX8_typeOfIndex 44 = .ok (.iload_n 2, 1) := by decide +kernel
theorem dX8_typeOfIndex_45 : decode cX8_typeOfIndex 45 = .ok (.invokevirtual 297, 3) := by decide +kernel
theorem dX8_typeOfIndex_48 : decode cX8_typeOfIndex 48 = .ok (.iconst 1, 1) := by decide +kernel
theorem dX8_typeOfIndex_49 : decode cX8_typeOfIndex 49 = .ok (.if_icmp .ne 19, 3) := by decide +kernel
theorem dX8_typeOfIndex_52 : decode cX8_typeOfIndex 52 = .ok (.aload_n 0, 1) := by decide +kernel
theorem dX8_typeOfIndex_53 : decode cX8_typeOfIndex 53 = .ok (.iload_n 1, 1) := by decide +kernel
theorem dX8_typeOfIndex_54 : decode cX8_typeOfIndex 54 = .ok (.aload_n 0, 1) := by decide +kernel
theorem dX8_typeOfIndex_55 : decode cX8_typeOfIndex 55 = .ok (.getfield 21, 3) := by decide +kernel
theorem dX8_typeOfIndex_58 : decode cX8_typeOfIndex 58 = .ok (.iload_n 2, 1) := by decide +kernel
theorem dX8_typeOfIndex_59 : decode cX8_typeOfIndex 59 = .ok (.invokevirtual 300, 3) := by decide +kernel
theorem dX8_typeOfIndex_62 : decode cX8_typeOfIndex 62 = .ok (.invokevirtual 301, 3) := by decide +kernel
theorem dX8_typeOfIndex_65 : decode cX8_typeOfIndex 65 = .ok (.ifCond .ne 19, 3) := by decide +kernel
theorem dX8_typeOfIndex_68 : decode cX8_typeOfIndex 68 = .ok (.aload_n 0, 1) := by decide +kernel
theorem dX8_typeOfIndex_69 : decode cX8_typeOfIndex 69 = .ok (.getfield 12, 3) := by decide +kernel
theorem dX8_typeOfIndex_72 : decode cX8_typeOfIndex 72 = .ok (.iconst 3, 1) := by decide +kernel
theorem dX8_typeOfIndex_73 : decode cX8_typeOfIndex 73 = .ok (.aload_n 0, 1) := by decide +kernel
theorem dX8_typeOfIndex_74 : decode cX8_typeOfIndex 74 = .ok (.getfield 46, 3) := by decide +kernel
theorem dX8_typeOfIndex_77 : decode cX8_typeOfIndex 77 = .ok (.iload_n 1, 1) := by decide +kernel
theorem dX8_typeOfIndex_78 : decode cX8_typeOfIndex 78 = .ok (.invokevirtual 168, 3) := by decide +kernel
theorem dX8_typeOfIndex_81 : decode cX8_typeOfIndex 81 = .ok (.invokevirtual 152, 3) := by decide +kernel
theorem dX8_typeOfIndex_84 : decode cX8_typeOfIndex 84 = .ok (.aload_n 0, 1) := by decide +kernel
theorem dX8_typeOfIndex_85 : decode cX8_typeOfIndex 85 = .ok (.aload_n 0, 1) := by decide +kernel
theorem dX8_typeOfIndex_86 : decode cX8_typeOfIndex 86 = .ok (.getfield 46, 3) := by decide +kernel
theorem dX8_typeOfIndex_89 : decode cX8_typeOfIndex 89 = .ok (.iload_n 1, 1) := by decide +kernel
theorem dX8_typeOfIndex_90 : decode cX8_typeOfIndex 90 = .ok (.invokevirtual 91, 3) := by decide +kernel
theorem dX8_typeOfIndex_93 : decode cX8_typeOfIndex 93 = .ok (.invokevirtual 228, 3) := by decide +kernel
theorem dX8_typeOfIndex_96 : decode cX8_typeOfIndex 96 = .ok (.iconst 0, 1) := by decide +kernel
theorem dX8_typeOfIndex_97 : decode cX8_typeOfIndex 97 = .ok (.ireturn, 1) := by decide +kernel
theorem dX8_target_0 : decode cX8_target 0 = .ok (.aload_n 0, 1) := by decide +kernel
theorem dX8_target_1 : decode cX8_target 1 = .ok (.getfield 46, 3) := by decide +kernel
theorem dX8_target_4 : decode cX8_target 4 = .ok (.iload_n 1, 1) := by decide +kernel
theorem dX8_target_5 : decode cX8_target 5 = .ok (.invokevirtual 97, 3) := by decide +kernel
theorem dX8_target_8 : decode cX8_target 8 = .ok (.istore_n 2, 1) := by decide +kernel
theorem dX8_target_9 : decode cX8_target 9 = .ok (.iload_n 2, 1) := by decide +kernel
theorem dX8_target_10 : decode cX8_target 10 = .ok (.bipush 40, 2) := by decide +kernel
theorem dX8_target_12 : decode cX8_target 12 = .ok (.if_icmp .ne 10, 3) := by decide +kernel
theorem dX8_target_15 : decode cX8_target 15 = .ok (.aload_n 0, 1) := by decide +kernel
theorem dX8_target_16 : decode cX8_target 16 = .ok (.iload_n 1, 1) := by decide +kernel
theorem dX8_target_17 : decode cX8_target 17 = .ok (.invokevirtual 285, 3) := by decide +kernel
theorem dX8_target_20 : decode cX8_target 20 = .ok (.istore_n 3, 1) := by decide +kernel
theorem dX8_target_21 : decode cX8_target 21 = .ok (.return_, 1) := by decide +kernel
theorem dX8_target_22 : decode cX8_target 22 = .ok (.aload_n 0, 1) := by decide +kernel
theorem dX8_target_23 : decode cX8_target 23 = .ok (.iload_n 1, 1) := by decide +kernel
theorem dX8_target_24 : decode cX8_target 24 = .ok (.invokevirtual 276, 3) := by decide +kernel
theorem dX8_target_27 : decode cX8_target 27 = .ok (.istore_n 3, 1) := by decide +kernel
theorem dX8_target_28 : decode cX8_target 28 = .ok (.iload_n 2, 1) := by decide +kernel
theorem dX8_target_29 : decode cX8_target 29 = .ok (.bipush 38, 2) := by decide +kernel
theorem dX8_target_31 : decode cX8_target 31 = .ok (.if_icmp .ne 21, 3) := by decide +kernel
theorem dX8_target_34 : decode cX8_target 34 = .ok (.aload_n 0, 1) := by decide +kernel
theorem dX8_target_35 : decode cX8_target 35 = .ok (.getfield 21, 3) := by decide +kernel
theorem dX8_target_38 : decode cX8_target 38 = .ok (.aload_n 0, 1) := by decide +kernel
theorem dX8_target_39 : decode cX8_target 39 = .ok (.getfield 46, 3) := by decide +kernel
theorem dX8_target_42 : decode cX8_target 42 = .ok (.iload_n 1, 1) := by decide +kernel
theorem dX8_target_43 : decode cX8_target 43 = .ok (.invokevirtual 142, 3) := by decide +kernel
theorem dX8_target_46 : decode cX8_target 46 = .ok (.invokevirtual 294, 3) := by decide +kernel
theorem dX8_target_49 : decode cX8_target 49 = .ok (.goto 4, 3) := by decide +kernel
theorem dX8_target_52 : decode cX8_target 52 = .ok (.iconst (-1), 1) := by decide +kernel
theorem dX8_target_53 : decode cX8_target 53 = .ok (.istore 4, 2) := by decide +kernel
theorem dX8_target_55 : decode cX8_target 55 = .ok (.iload_n 2, 1) := by decide +kernel
theorem dX8_target_56 : decode cX8_target 56 = .ok (.bipush 38, 2) := by decide +kernel
theorem dX8_target_58 : decode cX8_target 58 = .ok (.if_icmp .ne 22, 3) := by decide +kernel
theorem dX8_target_61 : decode cX8_target 61 = .ok (.iload 4, 2) := by decide +kernel
theorem dX8_target_63 : decode cX8_target 63 = .ok (.iconst (-1), 1) := by decide +kernel
theorem dX8_target_64 : decode cX8_target 64 = .ok (.if_icmp .eq 36, 3) := by decide +kernel
theorem dX8_target_67 : decode cX8_target 67 = .ok (.aload_n 0, 1) := by decide +kernel
theorem dX8_target_68 : decode cX8_target 68 = .ok (.getfield 21, 3) := by decide +kernel
theorem dX8_target_71 : decode cX8_target 71 = .ok (.iload 4, 2) := by decide +kernel
theorem dX8_target_73 : decode cX8_target 73 = .ok (.invokevirtual 297, 3) := by decide +kernel
theorem dX8_target_76 : decode cX8_target 76 = .ok (.iconst 3, 1) := by decide +kernel
theorem dX8_target_77 : decode cX8_target 77 = .ok (.if_icmp .ne 23, 3) := by decide +kernel
theorem dX8_target_80 : decode cX8_target 80 = .ok (.aload_n 0, 1) := by decide +kernel
theorem dX8_target_81 : decode cX8_target 81 = .ok (.getfield 12, 3) := by decide +kernel
theorem dX8_target_84 : decode cX8_target 84 = .ok (.bipush 6, 2) := by decide +kernel
theorem dX8_target_86 : decode cX8_target 86 = .ok (.aload_n 0, 1) := by decide +kernel
theorem dX8_target_87 : decode cX8_target 87 = .ok (.getfield 46, 3) := by decide +kernel
theorem dX8_target_90 : decode cX8_target 90 = .ok (.iload_n 1, 1) := by decide +kernel
theorem dX8_target_91 : decode cX8_target 91 = .ok (.invokevirtual 149, 3) := by decide +kernel
theorem dX8_target_94 : decode cX8_target 94 = .ok (.invokevirtual 152, 3) := by decide +kernel
theorem dX8_target_97 : decode cX8_target 97 = .ok (.goto 29, 3) := by decide +kernel
theorem dX8_target_100 : decode cX8_target 100 = .ok (.iload_n 3, 1) := by decide +kernel
theorem dX8_target_101 : decode cX8_target 101 = .ok (.iconst 1, 1) := by decide +kernel
theorem dX8_target_102 : decode cX8_target 102 = .ok (.if_icmp .eq 8, 3) := by decide +kernel
theorem dX8_target_105 : decode cX8_target 105 = .ok (.iload_n 3, 1) := by decide +kernel
theorem dX8_target_106 : decode cX8_target 106 = .ok (.iconst 2, 1) := by decide +kernel
theorem dX8_target_107 : decode cX8_target 107 = .ok (.if_icmp .ne 19, 3) := by decide +kernel
theorem dX8_target_110 : decode cX8_target 110 = .ok (.aload_n 0, 1) := by decide +kernel
theorem dX8_target_111 : decode cX8_target 111 = .ok (.getfield 12, 3) := by decide +kernel
theorem dX8_target_114 : decode cX8_target 114 = .ok (.iconst 3, 1) := by decide +kernel
theorem dX8_target_115 : decode cX8_target 115 = .ok (.aload_n 0, 1) := by decide +kernel
theorem dX8_target_116 : decode cX8_target 116 = .ok (.getfield 46, 3) := by decide +kernel
theorem dX8_target_119 : decode cX8_target 119 = .ok (.iload_n 1, 1) := by decide +kernel
theorem dX8_target_120 : decode cX8_target 120 = .ok (.invokevirtual 149, 3) := by decide +kernel
theorem dX8_target_123 : decode cX8_target 123 = .ok (.invokevirtual 152, 3) := by decide +kernel
theorem dX8_target_126 : decode cX8_target 126 = .ok (.return_, 1) := by decide +kernel
theorem dX8_sortOf_0 : decode cX8_sortOf 0 = .ok (.aload_n 0, 1) := by decide +kernel
theorem dX8_sortOf_1 : decode cX8_sortOf 1 = .ok (.getfield 46, 3) := by decide +kernel
theorem dX8_sortOf_4 : decode cX8_sortOf 4 = .ok (.iload_n 1, 1) := by decide +kernel
theorem dX8_sortOf_5 : decode cX8_sortOf 5 = .ok (.invokevirtual 97, 3) := by decide +kernel
theorem dX8_sortOf_8 : decode cX8_sortOf 8 = .ok (.istore_n 2, 1) := by decide +kernel
theorem dX8_sortOf_9 : decode cX8_sortOf 9 = .ok (.iload_n 2, 1) := by decide +kernel
theorem dX8_sortOf_10 : decode cX8_sortOf 10 = .ok (.bipush 37, 2) := by decide +kernel
theorem dX8_sortOf_12 : decode cX8_sortOf 12 = .ok (.if_icmp .ne 5, 3) := by decide +kernel
theorem dX8_sortOf_15 : decode cX8_sortOf 15 = .ok (.iconst 1, 1) := by decide +kernel
theorem dX8_sortOf_16 : decode cX8_sortOf 16 = .ok (.ireturn, 1) := by decide +kernel
theorem dX8_sortOf_17 : decode cX8_sortOf 17 = .ok (.iload_n 2, 1) := by decide +kernel
theorem dX8_sortOf_18 : decode cX8_sortOf 18 = .ok (.bipush 38, 2) := by decide +kernel
theorem dX8_sortOf_20 : decode cX8_sortOf 20 = .ok (.if_icmp .ne 58, 3) := by decide +kernel
theorem dX8_sortOf_23 : decode cX8_sortOf 23 = .ok (.aload_n 0, 1) := by decide +kernel
theorem dX8_sortOf_24 : decode cX8_sortOf 24 = .ok (.getfield 21, 3) := by decide +kernel
theorem dX8_sortOf_27 : decode cX8_sortOf 27 = .ok (.aload_n 0, 1) := by decide +kernel
theorem dX8_sortOf_28 : decode cX8_sortOf 28 = .ok (.getfield 46, 3) := by decide +kernel
theorem dX8_sortOf_31 : decode cX8_sortOf 31 = .ok (.iload_n 1, 1) := by decide +kernel
theorem dX8_sortOf_32 : decode cX8_sortOf 32 = .ok (.invokevirtual 142, 3) := by decide +kernel
theorem dX8_sortOf_35 : decode cX8_sortOf 35 = .ok (.invokevirtual 294, 3) := by decide +kernel
theorem dX8_sortOf_38 : decode cX8_sortOf 38 = .ok (.istore_n 3, 1) := by decide +kernel
theorem dX8_sortOf_39 : decode cX8_sortOf 39 = .ok (.iload_n 3, 1) := by decide +kernel
theorem dX8_sortOf_40 : decode cX8_sortOf 40 = .ok (.iconst (-1), 1) := by decide +kernel
theorem dX8_sortOf_41 : decode cX8_sortOf 41 = .ok (.if_icmp .eq 15, 3) := by decide +kernel
theorem dX8_sortOf_44 : decode cX8_sortOf 44 = .ok (.aload_n 0, 1) := by decide +kernel
theorem dX8_sortOf_45 : decode cX8_sortOf 45 = .ok (.getfield 21, 3) := by decide +kernel
theorem dX8_sortOf_48 : decode cX8_sortOf 48 = .ok (.iload_n 3, 1) := by decide +kernel
theorem dX8_sortOf_49 : decode cX8_sortOf 49 = .ok (.invokevirtual 297, 3) := by decide +kernel
theorem dX8_sortOf_52 : decode cX8_sortOf 52 = .ok (.iconst 2, 1) := by decide +kernel
theorem dX8_sortOf_53 : decode cX8_sortOf 53 = .ok (.if_icmp .ne 7, 3) := by decide +kernel
theorem dX8_sortOf_56 : decode cX8_sortOf 56 = .ok (.iconst 2, 1) := by decide +kernel
theorem dX8_sortOf_57 : decode cX8_sortOf 57 = .ok (.goto 20, 3) := by decide +kernel
theorem dX8_sortOf_60 : decode cX8_sortOf 60 = .ok (.aload_n 0, 1) := by decide +kernel
theorem dX8_sortOf_61 : decode cX8_sortOf 61 = .ok (.getfield 21, 3) := by decide +kernel
theorem dX8_sortOf_64 : decode cX8_sortOf 64 = .ok (.iload_n 3, 1) := by decide +kernel
theorem dX8_sortOf_65 : decode cX8_sortOf 65 = .ok (.invokevirtual 297, 3) := by decide +kernel
theorem dX8_sortOf_68 : decode cX8_sortOf 68 = .ok (.iconst 3, 1) := by decide +kernel
theorem dX8_sortOf_69 : decode cX8_sortOf 69 = .ok (.if_icmp .ne 7, 3) := by decide +kernel
theorem dX8_sortOf_72 : decode cX8_sortOf 72 = .ok (.iconst 1, 1) := by decide +kernel
theorem dX8_sortOf_73 : decode cX8_sortOf 73 = .ok (.goto 4, 3) := by decide +kernel
theorem dX8_sortOf_76 : decode cX8_sortOf 76 = .ok (.iconst 0, 1) := by decide +kernel
theorem dX8_sortOf_77 : decode cX8_sortOf 77 = .ok (.ireturn, 1) := by decide +kernel
theorem dX8_sortOf_78 : decode cX8_sortOf 78 = .ok (.iload_n 2, 1) := by decide +kernel
theorem dX8_sortOf_79 : decode cX8_sortOf 79 = .ok (.bipush 32, 2) := by decide +kernel
theorem dX8_sortOf_81 : decode cX8_sortOf 81 = .ok (.if_icmp .eq 23, 3) := by decide +kernel
theorem dX8_sortOf_84 : decode cX8_sortOf 84 = .ok (.iload_n 2, 1) := by decide +kernel
theorem dX8_sortOf_85 : decode cX8_sortOf 85 = .ok (.bipush 33, 2) := by decide +kernel
theorem dX8_sortOf_87 : decode cX8_sortOf 87 = .ok (.if_icmp .eq 17, 3) := by decide +kernel
theorem dX8_sortOf_90 : decode cX8_sortOf 90 = .ok (.iload_n 2, 1) := by decide +kernel
theorem dX8_sortOf_91 : decode cX8_sortOf 91 = .ok (.bipush 34, 2) := by decide +kernel
theorem dX8_sortOf_93 : decode cX8_sortOf 93 = .ok (.if_icmp .eq 11, 3) := by decide +kernel
theorem dX8_sortOf_96 : decode cX8_sortOf 96 = .ok (.iload_n 2, 1) := by decide +kernel
theorem dX8_sortOf_97 : decode cX8_sortOf 97 = .ok (.bipush 31, 2) := by decide +kernel
theorem dX8_sortOf_99 : decode cX8_sortOf 99 = .ok (.if_icmp .eq 5, 3) := by decide +kernel
theorem dX8_sortOf_102 : decode cX8_sortOf 102 = .ok (.iconst 0, 1) := by decide +kernel
theorem dX8_sortOf_103 : decode cX8_sortOf 103 = .ok (.ireturn, 1) := by decide +kernel
theorem dX8_sortOf_104 : decode cX8_sortOf 104 = .ok (.iconst 1, 1) := by decide +kernel
theorem dX8_sortOf_105 : decode cX8_sortOf 105 = .ok (.istore_n 3, 1) := by decide +kernel
theorem dX8_sortOf_106 : decode cX8_sortOf 106 = .ok (.aload_n 0, 1) := by decide +kernel
theorem dX8_sortOf_107 : decode cX8_sortOf 107 = .ok (.getfield 46, 3) := by decide +kernel
theorem dX8_sortOf_110 : decode cX8_sortOf 110 = .ok (.iload_n 1, 1) := by decide +kernel
theorem dX8_sortOf_111 : decode cX8_sortOf 111 = .ok (.invokevirtual 91, 3) := by decide +kernel
theorem dX8_sortOf_114 : decode cX8_sortOf 114 = .ok (.istore 4, 2) := by decide +kernel
theorem dX8_sortOf_116 : decode cX8_sortOf 116 = .ok (.iload 4, 2) := by decide +kernel
theorem dX8_sortOf_118 : decode cX8_sortOf 118 = .ok (.iconst (-1), 1) := by decide +kernel
theorem dX8_sortOf_119 : decode cX8_sortOf 119 = .ok (.if_icmp .eq 75, 3) := by decide +kernel
theorem dX8_sortOf_122 : decode cX8_sortOf 122 = .ok (.aload_n 0, 1) := by decide +kernel
theorem dX8_sortOf_123 : decode cX8_sortOf 123 = .ok (.getfield 46, 3) := by decide +kernel
theorem dX8_sortOf_126 : decode cX8_sortOf 126 = .ok (.iload 4, 2) := by decide +kernel
theorem dX8_sortOf_128 : decode cX8_sortOf 128 = .ok (.invokevirtual 97, 3) := by decide +kernel
theorem dX8_sortOf_131 : decode cX8_sortOf 131 = .ok (.bipush 33, 2) := by decide +kernel
theorem dX8_sortOf_133 : decode cX8_sortOf 133 = .ok (.if_icmp .ne 19, 3) := by decide +kernel
theorem dX8_sortOf_136 : decode cX8_sortOf 136 = .ok (.aload_n 0, 1) := by decide +kernel
theorem dX8_sortOf_137 : decode cX8_sortOf 137 = .ok (.aload_n 0, 1) := by decide +kernel
theorem dX8_sortOf_138 : decode cX8_sortOf 138 = .ok (.getfield 46, 3) := by decide +kernel
theorem dX8_sortOf_141 : decode cX8_sortOf 141 = .ok (.iload 4, 2) := by decide +kernel
theorem dX8_sortOf_143 : decode cX8_sortOf 143 = .ok (.invokevirtual 91, 3) := by decide +kernel
theorem dX8_sortOf_146 : decode cX8_sortOf 146 = .ok (.invokevirtual 320, 3) := by decide +kernel
theorem dX8_sortOf_149 : decode cX8_sortOf 149 = .ok (.goto 9, 3) := by decide +kernel
theorem dX8_sortOf_152 : decode cX8_sortOf 152 = .ok (.aload_n 0, 1) := by decide +kernel
theorem dX8_sortOf_153 : decode cX8_sortOf 153 = .ok (.iload 4, 2) := by decide +kernel
theorem dX8_sortOf_155 : decode cX8_sortOf 155 = .ok (.invokevirtual 320, 3) := by decide +kernel
theorem dX8_sortOf_158 : decode cX8_sortOf 158 = .ok (.istore 5, 2) := by decide +kernel
theorem dX8_sortOf_160 : decode cX8_sortOf 160 = .ok (.iload_n 3, 1) := by decide +kernel
theorem dX8_sortOf_161 : decode cX8_sortOf 161 = .ok (.ifCond .eq 8, 3) := by decide +kernel
theorem dX8_sortOf_164 : decode cX8_sortOf 164 = .ok (.iload 5, 2) := by decide +kernel
theorem dX8_sortOf_166 : decode cX8_sortOf 166 = .ok (.ifCond .ne 7, 3) := by decide +kernel
theorem dX8_sortOf_169 : decode cX8_sortOf 169 = .ok (.iconst 0, 1) := by decide +kernel
theorem dX8_sortOf_170 : decode cX8_sortOf 170 = .ok (.goto 9, 3) := by decide +kernel
theorem dX8_sortOf_173 : decode cX8_sortOf 173 = .ok (.iload_n 3, 1) := by decide +kernel
theorem dX8_sortOf_174 : decode cX8_sortOf 174 = .ok (.iload 5, 2) := by decide +kernel
theorem dX8_sortOf_176 : decode cX8_sortOf 176 = .ok (.invokestatic 187, 3) := by decide +kernel
theorem dX8_sortOf_179 : decode cX8_sortOf 179 = .ok (.istore_n 3, 1) := by decide +kernel
theorem dX8_sortOf_180 : decode cX8_sortOf 180 = .ok (.aload_n 0, 1) := by decide +kernel
theorem dX8_sortOf_181 : decode cX8_sortOf 181 = .ok (.getfield 46, 3) := by decide +kernel
theorem dX8_sortOf_184 : decode cX8_sortOf 184 = .ok (.iload 4, 2) := by decide +kernel
theorem dX8_sortOf_186 : decode cX8_sortOf 186 = .ok (.invokevirtual 103, 3) := by decide +kernel
theorem dX8_sortOf_189 : decode cX8_sortOf 189 = .ok (.istore 4, 2) := by decide +kernel
theorem dX8_sortOf_191 : decode cX8_sortOf 191 = .ok (.goto (-75), 3) := by decide +kernel
theorem dX8_sortOf_194 : decode cX8_sortOf 194 = .ok (.iload_n 3, 1) := by decide +kernel
theorem dX8_sortOf_195 : decode cX8_sortOf 195 = .ok (.ireturn, 1) := by decide +kernel
theorem dX8_valueOf_0 : decode cX8_valueOf 0 = .ok (.aload_n 0, 1) := by decide +kernel
theorem dX8_valueOf_1 : decode cX8_valueOf 1 = .ok (.getfield 46, 3) := by decide +kernel
theorem dX8_valueOf_4 : decode cX8_valueOf 4 = .ok (.iload_n 1, 1) := by decide +kernel
theorem dX8_valueOf_5 : decode cX8_valueOf 5 = .ok (.invokevirtual 91, 3) := by decide +kernel
theorem dX8_valueOf_8 : decode cX8_valueOf 8 = .ok (.istore_n 2, 1) := by decide +kernel
theorem dX8_valueOf_9 : decode cX8_valueOf 9 = .ok (.aload_n 0, 1) := by decide +kernel
theorem dX8_valueOf_10 : decode cX8_valueOf 10 = .ok (.getfield 46, 3) := by decide +kernel
theorem dX8_valueOf_13 : decode cX8_valueOf 13 = .ok (.iload_n 1, 1) := by decide +kernel
theorem dX8_valueOf_14 : decode cX8_valueOf 14 = .ok (.invokevirtual 97, 3) := by decide +kernel
theorem dX8_valueOf_17 : decode cX8_valueOf 17 = .ok (.tableswitch 188 31 38 #[149, 188, 188, 79, 188, 188, 47, 56], 47) := by decide +kernel
theorem dX8_valueOf_64 : decode cX8_valueOf 64 = .ok (.aload_n 0, 1) := by decide +kernel
theorem dX8_valueOf_65 : decode cX8_valueOf 65 = .ok (.getfield 46, 3) := by decide +kernel
theorem dX8_valueOf_68 : decode cX8_valueOf 68 = .ok (.iload_n 1, 1) := by decide +kernel
theorem dX8_valueOf_69 : decode cX8_valueOf 69 = .ok (.invokevirtual 142, 3) := by decide +kernel
theorem dX8_valueOf_72 : decode cX8_valueOf 72 = .ok (.ireturn, 1) := by decide +kernel
theorem dX8_valueOf_73 : decode cX8_valueOf 73 = .ok (.aload_n 0, 1) := by decide +kernel
theorem dX8_valueOf_74 : decode cX8_valueOf 74 = .ok (.getfield 21, 3) := by decide +kernel
theorem dX8_valueOf_77 : decode cX8_valueOf 77 = .ok (.aload_n 0, 1) := by decide +kernel
theorem dX8_valueOf_78 : decode cX8_valueOf 78 = .ok (.getfield 21, 3) := by decide +kernel
theorem dX8_valueOf_81 : decode cX8_valueOf 81 = .ok (.aload_n 0, 1) := by decide +kernel
theorem dX8_valueOf_82 : decode cX8_valueOf 82 = .ok (.getfield 46, 3) := by decide +kernel
theorem dX8_valueOf_85 : decode cX8_valueOf 85 = .ok (.iload_n 1, 1) := by decide +kernel
theorem dX8_valueOf_86 : decode cX8_valueOf 86 = .ok (.invokevirtual 142, 3) := by decide +kernel
theorem dX8_valueOf_89 : decode cX8_valueOf 89 = .ok (.invokevirtual 294, 3) := by decide +kernel
theorem dX8_valueOf_92 : decode cX8_valueOf 92 = .ok (.invokevirtual 300, 3) := by decide +kernel
theorem dX8_valueOf_95 : decode cX8_valueOf 95 = .ok (.ireturn, 1) := by decide +kernel
theorem dX8_valueOf_96 : decode cX8_valueOf 96 = .ok (.aload_n 0, 1) := by decide +kernel
theorem dX8_valueOf_97 : decode cX8_valueOf 97 = .ok (.iload_n 2, 1) := by decide +kernel
theorem dX8_valueOf_98 : decode cX8_valueOf 98 = .ok (.invokevirtual 327, 3) := by decide +kernel
theorem dX8_valueOf_101 : decode cX8_valueOf 101 = .ok (.istore_n 3, 1) := by decide +kernel
theorem dX8_valueOf_102 : decode cX8_valueOf 102 = .ok (.aload_n 0, 1) := by decide +kernel
theorem dX8_valueOf_103 : decode cX8_valueOf 103 = .ok (.getfield 46, 3) := by decide +kernel
theorem dX8_valueOf_106 : decode cX8_valueOf 106 = .ok (.iload_n 1, 1) := by decide +kernel
theorem dX8_valueOf_107 : decode cX8_valueOf 107 = .ok (.invokevirtual 168, 3) := by decide +kernel
theorem dX8_valueOf_110 : decode cX8_valueOf 110 = .ok (.bipush 43, 2) := by decide +kernel
theorem dX8_valueOf_112 : decode cX8_valueOf 112 = .ok (.if_icmp .ne 7, 3) := by decide +kernel
theorem dX8_valueOf_115 : decode cX8_valueOf 115 = .ok (.iload_n 3, 1) := by decide +kernel
theorem dX8_valueOf_116 : decode cX8_valueOf 116 = .ok (.goto 49, 3) := by decide +kernel
theorem dX8_valueOf_119 : decode cX8_valueOf 119 = .ok (.aload_n 0, 1) := by decide +kernel
theorem dX8_valueOf_120 : decode cX8_valueOf 120 = .ok (.getfield 46, 3) := by decide +kernel
theorem dX8_valueOf_123 : decode cX8_valueOf 123 = .ok (.iload_n 1, 1) := by decide +kernel
theorem dX8_valueOf_124 : decode cX8_valueOf 124 = .ok (.invokevirtual 168, 3) := by decide +kernel
theorem dX8_valueOf_127 : decode cX8_valueOf 127 = .ok (.bipush 45, 2) := by decide +kernel
theorem dX8_valueOf_129 : decode cX8_valueOf 129 = .ok (.if_icmp .ne 8, 3) := by decide +kernel
theorem dX8_valueOf_132 : decode cX8_valueOf 132 = .ok (.iload_n 3, 1) := by decide +kernel
theorem dX8_valueOf_133 : decode cX8_valueOf 133 = .ok (.ineg, 1) := by decide +kernel
theorem dX8_valueOf_134 : decode cX8_valueOf 134 = .ok (.goto 31, 3) := by decide +kernel
theorem dX8_valueOf_137 : decode cX8_valueOf 137 = .ok (.aload_n 0, 1) := by decide +kernel
theorem dX8_valueOf_138 : decode cX8_valueOf 138 = .ok (.getfield 46, 3) := by decide +kernel
theorem dX8_valueOf_141 : decode cX8_valueOf 141 = .ok (.iload_n 1, 1) := by decide +kernel
theorem dX8_valueOf_142 : decode cX8_valueOf 142 = .ok (.invokevirtual 168, 3) := by decide +kernel
theorem dX8_valueOf_145 : decode cX8_valueOf 145 = .ok (.bipush 126, 2) := by decide +kernel
theorem dX8_valueOf_147 : decode cX8_valueOf 147 = .ok (.if_icmp .ne 9, 3) := by decide +kernel
theorem dX8_valueOf_150 : decode cX8_valueOf 150 = .ok (.iload_n 3, 1) := by decide +kernel
theorem dX8_valueOf_151 : decode cX8_valueOf 151 = .ok (.iconst (-1), 1) := by decide +kernel
theorem dX8_valueOf_152 : decode cX8_valueOf 152 = .ok (.ixor, 1) := by decide +kernel
theorem dX8_valueOf_153 : decode cX8_valueOf 153 = .ok (.goto 12, 3) := by decide +kernel
theorem dX8_valueOf_156 : decode cX8_valueOf 156 = .ok (.iload_n 3, 1) := by decide +kernel
theorem dX8_valueOf_157 : decode cX8_valueOf 157 = .ok (.ifCond .ne 7, 3) := by decide +kernel
theorem dX8_valueOf_160 : decode cX8_valueOf 160 = .ok (.iconst 1, 1) := by decide +kernel
theorem dX8_valueOf_161 : decode cX8_valueOf 161 = .ok (.goto 4, 3) := by decide +kernel
theorem dX8_valueOf_164 : decode cX8_valueOf 164 = .ok (.iconst 0, 1) := by decide +kernel
theorem dX8_valueOf_165 : decode cX8_valueOf 165 = .ok (.ireturn, 1) := by decide +kernel
theorem dX8_valueOf_166 : decode cX8_valueOf 166 = .ok (.aload_n 0, 1) := by decide +kernel
theorem dX8_valueOf_167 : decode cX8_valueOf 167 = .ok (.aload_n 0, 1) := by decide +kernel
theorem dX8_valueOf_168 : decode cX8_valueOf 168 = .ok (.iload_n 2, 1) := by decide +kernel
theorem dX8_valueOf_169 : decode cX8_valueOf 169 = .ok (.invokevirtual 327, 3) := by decide +kernel
theorem dX8_valueOf_172 : decode cX8_valueOf 172 = .ok (.ifCond .eq 14, 3) := by decide +kernel
theorem dX8_valueOf_175 : decode cX8_valueOf 175 = .ok (.aload_n 0, 1) := by decide +kernel
theorem dX8_valueOf_176 : decode cX8_valueOf 176 = .ok (.getfield 46, 3) := by decide +kernel
theorem dX8_valueOf_179 : decode cX8_valueOf 179 = .ok (.iload_n 2, 1) := by decide +kernel
theorem dX8_valueOf_180 : decode cX8_valueOf 180 = .ok (.invokevirtual 103, 3) := by decide +kernel
theorem dX8_valueOf_183 : decode cX8_valueOf 183 = .ok (.goto 18, 3) := by decide +kernel
theorem dX8_valueOf_186 : decode cX8_valueOf 186 = .ok (.aload_n 0, 1) := by decide +kernel
theorem dX8_valueOf_187 : decode cX8_valueOf 187 = .ok (.getfield 46, 3) := by decide +kernel
theorem dX8_valueOf_190 : decode cX8_valueOf 190 = .ok (.aload_n 0, 1) := by decide +kernel
theorem dX8_valueOf_191 : decode cX8_valueOf 191 = .ok (.getfield 46, 3) := by decide +kernel
theorem dX8_valueOf_194 : decode cX8_valueOf 194 = .ok (.iload_n 2, 1) := by decide +kernel
theorem dX8_valueOf_195 : decode cX8_valueOf 195 = .ok (.invokevirtual 103, 3) := by decide +kernel
theorem dX8_valueOf_198 : decode cX8_valueOf 198 = .ok (.invokevirtual 103, 3) := by decide +kernel
theorem dX8_valueOf_201 : decode cX8_valueOf 201 = .ok (.invokevirtual 327, 3) := by decide +kernel
theorem dX8_valueOf_204 : decode cX8_valueOf 204 = .ok (.ireturn, 1) := by decide +kernel
theorem dX8_valueOf_205 : decode cX8_valueOf 205 = .ok (.aload_n 0, 1) := by decide +kernel
theorem dX8_valueOf_206 : decode cX8_valueOf 206 = .ok (.iload_n 1, 1) := by decide +kernel
theorem dX8_valueOf_207 : decode cX8_valueOf 207 = .ok (.invokevirtual 330, 3) := by decide +kernel
theorem dX8_valueOf_210 : decode cX8_valueOf 210 = .ok (.ireturn, 1) := by decide +kernel
theorem dX8_valueOfChain_0 : decode cX8_valueOfChain 0 = .ok (.aload_n 0, 1) := by decide +kernel
theorem dX8_valueOfChain_1 : decode cX8_valueOfChain 1 = .ok (.aload_n 0, 1) := by decide +kernel
theorem dX8_valueOfChain_2 : decode cX8_valueOfChain 2 = .ok (.getfield 46, 3) := by decide +kernel
theorem dX8_valueOfChain_5 : decode cX8_valueOfChain 5 = .ok (.iload_n 1, 1) := by decide +kernel
theorem dX8_valueOfChain_6 : decode cX8_valueOfChain 6 = .ok (.invokevirtual 91, 3) := by decide +kernel
theorem dX8_valueOfChain_9 : decode cX8_valueOfChain 9 = .ok (.invokevirtual 327, 3) := by decide +kernel
theorem dX8_valueOfChain_12 : decode cX8_valueOfChain 12 = .ok (.istore_n 2, 1) := by decide +kernel
theorem dX8_valueOfChain_13 : decode cX8_valueOfChain 13 = .ok (.aload_n 0, 1) := by decide +kernel
theorem dX8_valueOfChain_14 : decode cX8_valueOfChain 14 = .ok (.getfield 46, 3) := by decide +kernel
theorem dX8_valueOfChain_17 : decode cX8_valueOfChain 17 = .ok (.iload_n 1, 1) := by decide +kernel
theorem dX8_valueOfChain_18 : decode cX8_valueOfChain 18 = .ok (.invokevirtual 142, 3) := by decide +kernel
theorem dX8_valueOfChain_21 : decode cX8_valueOfChain 21 = .ok (.istore_n 3, 1) := by decide +kernel
theorem dX8_valueOfChain_22 : decode cX8_valueOfChain 22 = .ok (.aload_n 0, 1) := by decide +kernel
theorem dX8_valueOfChain_23 : decode cX8_valueOfChain 23 = .ok (.getfield 46, 3) := by decide +kernel
theorem dX8_valueOfChain_26 : decode cX8_valueOfChain 26 = .ok (.aload_n 0, 1) := by decide +kernel
theorem dX8_valueOfChain_27 : decode cX8_valueOfChain 27 = .ok (.getfield 46, 3) := by decide +kernel
theorem dX8_valueOfChain_30 : decode cX8_valueOfChain 30 = .ok (.iload_n 1, 1) := by decide +kernel
theorem dX8_valueOfChain_31 : decode cX8_valueOfChain 31 = .ok (.invokevirtual 91, 3) := by decide +kernel
theorem dX8_valueOfChain_34 : decode cX8_valueOfChain 34 = .ok (.invokevirtual 103, 3) := by decide +kernel
theorem dX8_valueOfChain_37 : decode cX8_valueOfChain 37 = .ok (.istore 4, 2) := by decide +kernel
theorem dX8_valueOfChain_39 : decode cX8_valueOfChain 39 = .ok (.iload 4, 2) := by decide +kernel
theorem dX8_valueOfChain_41 : decode cX8_valueOfChain 41 = .ok (.iconst (-1), 1) := by decide +kernel
theorem dX8_valueOfChain_42 : decode cX8_valueOfChain 42 = .ok (.if_icmp .eq 122, 3) := by decide +kernel
theorem dX8_valueOfChain_45 : decode cX8_valueOfChain 45 = .ok (.iload_n 3, 1) := by decide +kernel
theorem dX8_valueOfChain_46 : decode cX8_valueOfChain 46 = .ok (.iconst 3, 1) := by decide +kernel
theorem dX8_valueOfChain_47 : decode cX8_valueOfChain 47 = .ok (.if_icmp .ge 75, 3) := by decide +kernel
theorem dX8_valueOfChain_50 : decode cX8_valueOfChain 50 = .ok (.iload_n 2, 1) := by decide +kernel
theorem dX8_valueOfChain_51 : decode cX8_valueOfChain 51 = .ok (.ifCond .ne 7, 3) := by decide +kernel
theorem dX8_valueOfChain_54 : decode cX8_valueOfChain 54 = .ok (.iconst 1, 1) := by decide +kernel
theorem dX8_valueOfChain_55 : decode cX8_valueOfChain 55 = .ok (.goto 4, 3) := by decide +kernel
theorem dX8_valueOfChain_58 : decode cX8_valueOfChain 58 = .ok (.iconst 0, 1) := by decide +kernel
theorem dX8_valueOfChain_59 : decode cX8_valueOfChain 59 = .ok (.iload_n 3, 1) := by decide +kernel
theorem dX8_valueOfChain_60 : decode cX8_valueOfChain 60 = .ok (.iconst 1, 1) := by decide +kernel
theorem dX8_valueOfChain_61 : decode cX8_valueOfChain 61 = .ok (.if_icmp .ne 7, 3) := by decide +kernel
theorem dX8_valueOfChain_64 : decode cX8_valueOfChain 64 = .ok (.iconst 1, 1) := by decide +kernel
theorem dX8_valueOfChain_65 : decode cX8_valueOfChain 65 = .ok (.goto 4, 3) := by decide +kernel
theorem dX8_valueOfChain_68 : decode cX8_valueOfChain 68 = .ok (.iconst 0, 1) := by decide +kernel
theorem dX8_valueOfChain_69 : decode cX8_valueOfChain 69 = .ok (.if_icmp .ne 7, 3) := by decide +kernel
theorem dX8_valueOfChain_72 : decode cX8_valueOfChain 72 = .ok (.iconst 1, 1) := by decide +kernel
theorem dX8_valueOfChain_73 : decode cX8_valueOfChain 73 = .ok (.goto 4, 3) := by decide +kernel
theorem dX8_valueOfChain_76 : decode cX8_valueOfChain 76 = .ok (.iconst 0, 1) := by decide +kernel
theorem dX8_valueOfChain_77 : decode cX8_valueOfChain 77 = .ok (.istore 5, 2) := by decide +kernel
theorem dX8_valueOfChain_79 : decode cX8_valueOfChain 79 = .ok (.iload 5, 2) := by decide +kernel
theorem dX8_valueOfChain_81 : decode cX8_valueOfChain 81 = .ok (.ifCond .eq 27, 3) := by decide +kernel
theorem dX8_valueOfChain_84 : decode cX8_valueOfChain 84 = .ok (.aload_n 0, 1) := by decide +kernel
theorem dX8_valueOfChain_85 : decode cX8_valueOfChain 85 = .ok (.aload_n 0, 1) := by decide +kernel
theorem dX8_valueOfChain_86 : decode cX8_valueOfChain 86 = .ok (.getfield 46, 3) := by decide +kernel
theorem dX8_valueOfChain_89 : decode cX8_valueOfChain 89 = .ok (.iload 4, 2) := by decide +kernel
theorem dX8_valueOfChain_91 : decode cX8_valueOfChain 91 = .ok (.invokevirtual 91, 3) := by decide +kernel
theorem dX8_valueOfChain_94 : decode cX8_valueOfChain 94 = .ok (.invokevirtual 327, 3) := by decide +kernel
theorem dX8_valueOfChain_97 : decode cX8_valueOfChain 97 = .ok (.ifCond .eq 7, 3) := by decide +kernel
theorem dX8_valueOfChain_100 : decode cX8_valueOfChain 100 = .ok (.iconst 1, 1) := by decide +kernel
theorem dX8_valueOfChain_101 : decode cX8_valueOfChain 101 = .ok (.goto 17, 3) := by decide +kernel
theorem dX8_valueOfChain_104 : decode cX8_valueOfChain 104 = .ok (.iconst 0, 1) := by decide +kernel
theorem dX8_valueOfChain_105 : decode cX8_valueOfChain 105 = .ok (.goto 13, 3) := by decide +kernel
theorem dX8_valueOfChain_108 : decode cX8_valueOfChain 108 = .ok (.iload_n 3, 1) := by decide +kernel
theorem dX8_valueOfChain_109 : decode cX8_valueOfChain 109 = .ok (.iconst 1, 1) := by decide +kernel
theorem dX8_valueOfChain_110 : decode cX8_valueOfChain 110 = .ok (.if_icmp .ne 7, 3) := by decide +kernel
theorem dX8_valueOfChain_113 : decode cX8_valueOfChain 113 = .ok (.iconst 1, 1) := by decide +kernel
theorem dX8_valueOfChain_114 : decode cX8_valueOfChain 114 = .ok (.goto 4, 3) := by decide +kernel
theorem dX8_valueOfChain_117 : decode cX8_valueOfChain 117 = .ok (.iconst 0, 1) := by decide +kernel
theorem dX8_valueOfChain_118 : decode cX8_valueOfChain 118 = .ok (.istore_n 2, 1) := by decide +kernel
theorem dX8_valueOfChain_119 : decode cX8_valueOfChain 119 = .ok (.goto 31, 3) := by decide +kernel
theorem dX8_valueOfChain_122 : decode cX8_valueOfChain 122 = .ok (.aload_n 0, 1) := by decide +kernel
theorem dX8_valueOfChain_123 : decode cX8_valueOfChain 123 = .ok (.aload_n 0, 1) := by decide +kernel
theorem dX8_valueOfChain_124 : decode cX8_valueOfChain 124 = .ok (.getfield 46, 3) := by decide +kernel
theorem dX8_valueOfChain_127 : decode cX8_valueOfChain 127 = .ok (.iload 4, 2) := by decide +kernel
theorem dX8_valueOfChain_129 : decode cX8_valueOfChain 129 = .ok (.invokevirtual 168, 3) := by decide +kernel
theorem dX8_valueOfChain_132 : decode cX8_valueOfChain 132 = .ok (.iload_n 2, 1) := by decide +kernel
theorem dX8_valueOfChain_133 : decode cX8_valueOfChain 133 = .ok (.aload_n 0, 1) := by decide +kernel
theorem dX8_valueOfChain_134 : decode cX8_valueOfChain 134 = .ok (.aload_n 0, 1) := by decide +kernel
theorem dX8_valueOfChain_135 : decode cX8_valueOfChain 135 = .ok (.getfield 46, 3) := by decide +kernel
theorem dX8_valueOfChain_138 : decode cX8_valueOfChain 138 = .ok (.iload 4, 2) := by decide +kernel
theorem dX8_valueOfChain_140 : decode cX8_valueOfChain 140 = .ok (.invokevirtual 91, 3) := by decide +kernel
theorem dX8_valueOfChain_143 : decode cX8_valueOfChain 143 = .ok (.invokevirtual 327, 3) := by decide +kernel
theorem dX8_valueOfChain_146 : decode cX8_valueOfChain 146 = .ok (.invokevirtual 333, 3) := by decide +kernel
theorem dX8_valueOfChain_149 : decode cX8_valueOfChain 149 = .ok (.istore_n 2, 1) := by decide +kernel
theorem dX8_valueOfChain_150 : decode cX8_valueOfChain 150 = .ok (.aload_n 0, 1) := by decide +kernel
theorem dX8_valueOfChain_151 : decode cX8_valueOfChain 151 = .ok (.getfield 46, 3) := by decide +kernel
theorem dX8_valueOfChain_154 : decode cX8_valueOfChain 154 = .ok (.iload 4, 2) := by decide +kernel
theorem dX8_valueOfChain_156 : decode cX8_valueOfChain 156 = .ok (.invokevirtual 103, 3) := by decide +kernel
theorem dX8_valueOfChain_159 : decode cX8_valueOfChain 159 = .ok (.istore 4, 2) := by decide +kernel
theorem dX8_valueOfChain_161 : decode cX8_valueOfChain 161 = .ok (.goto (-122), 3) := by decide +kernel
theorem dX8_valueOfChain_164 : decode cX8_valueOfChain 164 = .ok (.iload_n 2, 1) := by decide +kernel
theorem dX8_valueOfChain_165 : decode cX8_valueOfChain 165 = .ok (.ireturn, 1) := by decide +kernel
theorem dX8_reckon_0 : decode cX8_reckon 0 = .ok (.iload_n 1, 1) := by decide +kernel
theorem dX8_reckon_1 : decode cX8_reckon 1 = .ok (.lookupswitch 239 #[(38, 131), (42, 235), (43, 227), (45, 231), (60, 163), (62, 177), (94, 127), (124, 123), (130, 135), (131, 149), (132, 191), (133, 205), (134, 219), (135, 223)], 123) := by decide +kernel
theorem dX8_reckon_124 : decode cX8_reckon 124 = .ok (.iload_n 2, 1) := by decide +kernel
theorem dX8_reckon_125 : decode cX8_reckon 125 = .ok (.iload_n 3, 1) := by decide +kernel
theorem dX8_reckon_126 : decode cX8_reckon 126 = .ok (.ior, 1) := by decide +kernel
theorem dX8_reckon_127 : decode cX8_reckon 127 = .ok (.ireturn, 1) := by decide +kernel
theorem dX8_reckon_128 : decode cX8_reckon 128 = .ok (.iload_n 2, 1) := by decide +kernel
theorem dX8_reckon_129 : decode cX8_reckon 129 = .ok (.iload_n 3, 1) := by decide +kernel
theorem dX8_reckon_130 : decode cX8_reckon 130 = .ok (.ixor, 1) := by decide +kernel
theorem dX8_reckon_131 : decode cX8_reckon 131 = .ok (.ireturn, 1) := by decide +kernel
theorem dX8_reckon_132 : decode cX8_reckon 132 = .ok (.iload_n 2, 1) := by decide +kernel
theorem dX8_reckon_133 : decode cX8_reckon 133 = .ok (.iload_n 3, 1) := by decide +kernel
theorem dX8_reckon_134 : decode cX8_reckon 134 = .ok (.iand, 1) := by decide +kernel
theorem dX8_reckon_135 : decode cX8_reckon 135 = .ok (.ireturn, 1) := by decide +kernel
theorem dX8_reckon_136 : decode cX8_reckon 136 = .ok (.iload_n 2, 1) := by decide +kernel
theorem dX8_reckon_137 : decode cX8_reckon 137 = .ok (.iload_n 3, 1) := by decide +kernel
theorem dX8_reckon_138 : decode cX8_reckon 138 = .ok (.if_icmp .ne 7, 3) := by decide +kernel
theorem dX8_reckon_141 : decode cX8_reckon 141 = .ok (.iconst 1, 1) := by decide +kernel
theorem dX8_reckon_142 : decode cX8_reckon 142 = .ok (.goto 4, 3) := by decide +kernel
theorem dX8_reckon_145 : decode cX8_reckon 145 = .ok (.iconst 0, 1) := by decide +kernel
theorem dX8_reckon_146 : decode cX8_reckon 146 = .ok (.invokestatic 336, 3) := by decide +kernel
theorem dX8_reckon_149 : decode cX8_reckon 149 = .ok (.ireturn, 1) := by decide +kernel
theorem dX8_reckon_150 : decode cX8_reckon 150 = .ok (.iload_n 2, 1) := by decide +kernel
theorem dX8_reckon_151 : decode cX8_reckon 151 = .ok (.iload_n 3, 1) := by decide +kernel
theorem dX8_reckon_152 : decode cX8_reckon 152 = .ok (.if_icmp .eq 7, 3) := by decide +kernel
theorem dX8_reckon_155 : decode cX8_reckon 155 = .ok (.iconst 1, 1) := by decide +kernel
theorem dX8_reckon_156 : decode cX8_reckon 156 = .ok (.goto 4, 3) := by decide +kernel
theorem dX8_reckon_159 : decode cX8_reckon 159 = .ok (.iconst 0, 1) := by decide +kernel
theorem dX8_reckon_160 : decode cX8_reckon 160 = .ok (.invokestatic 336, 3) := by decide +kernel
theorem dX8_reckon_163 : decode cX8_reckon 163 = .ok (.ireturn, 1) := by decide +kernel
theorem dX8_reckon_164 : decode cX8_reckon 164 = .ok (.iload_n 2, 1) := by decide +kernel
theorem dX8_reckon_165 : decode cX8_reckon 165 = .ok (.iload_n 3, 1) := by decide +kernel
theorem dX8_reckon_166 : decode cX8_reckon 166 = .ok (.if_icmp .ge 7, 3) := by decide +kernel
theorem dX8_reckon_169 : decode cX8_reckon 169 = .ok (.iconst 1, 1) := by decide +kernel
theorem dX8_reckon_170 : decode cX8_reckon 170 = .ok (.goto 4, 3) := by decide +kernel
theorem dX8_reckon_173 : decode cX8_reckon 173 = .ok (.iconst 0, 1) := by decide +kernel
theorem dX8_reckon_174 : decode cX8_reckon 174 = .ok (.invokestatic 336, 3) := by decide +kernel
theorem dX8_reckon_177 : decode cX8_reckon 177 = .ok (.ireturn, 1) := by decide +kernel
theorem dX8_reckon_178 : decode cX8_reckon 178 = .ok (.iload_n 2, 1) := by decide +kernel
theorem dX8_reckon_179 : decode cX8_reckon 179 = .ok (.iload_n 3, 1) := by decide +kernel
theorem dX8_reckon_180 : decode cX8_reckon 180 = .ok (.if_icmp .le 7, 3) := by decide +kernel
theorem dX8_reckon_183 : decode cX8_reckon 183 = .ok (.iconst 1, 1) := by decide +kernel
theorem dX8_reckon_184 : decode cX8_reckon 184 = .ok (.goto 4, 3) := by decide +kernel
theorem dX8_reckon_187 : decode cX8_reckon 187 = .ok (.iconst 0, 1) := by decide +kernel
theorem dX8_reckon_188 : decode cX8_reckon 188 = .ok (.invokestatic 336, 3) := by decide +kernel
theorem dX8_reckon_191 : decode cX8_reckon 191 = .ok (.ireturn, 1) := by decide +kernel
theorem dX8_reckon_192 : decode cX8_reckon 192 = .ok (.iload_n 2, 1) := by decide +kernel
theorem dX8_reckon_193 : decode cX8_reckon 193 = .ok (.iload_n 3, 1) := by decide +kernel
theorem dX8_reckon_194 : decode cX8_reckon 194 = .ok (.if_icmp .gt 7, 3) := by decide +kernel
theorem dX8_reckon_197 : decode cX8_reckon 197 = .ok (.iconst 1, 1) := by decide +kernel
theorem dX8_reckon_198 : decode cX8_reckon 198 = .ok (.goto 4, 3) := by decide +kernel
theorem dX8_reckon_201 : decode cX8_reckon 201 = .ok (.iconst 0, 1) := by decide +kernel
theorem dX8_reckon_202 : decode cX8_reckon 202 = .ok (.invokestatic 336, 3) := by decide +kernel
theorem dX8_reckon_205 : decode cX8_reckon 205 = .ok (.ireturn, 1) := by decide +kernel
theorem dX8_reckon_206 : decode cX8_reckon 206 = .ok (.iload_n 2, 1) := by decide +kernel
theorem dX8_reckon_207 : decode cX8_reckon 207 = .ok (.iload_n 3, 1) := by decide +kernel
theorem dX8_reckon_208 : decode cX8_reckon 208 = .ok (.if_icmp .lt 7, 3) := by decide +kernel
theorem dX8_reckon_211 : decode cX8_reckon 211 = .ok (.iconst 1, 1) := by decide +kernel
theorem dX8_reckon_212 : decode cX8_reckon 212 = .ok (.goto 4, 3) := by decide +kernel
theorem dX8_reckon_215 : decode cX8_reckon 215 = .ok (.iconst 0, 1) := by decide +kernel
theorem dX8_reckon_216 : decode cX8_reckon 216 = .ok (.invokestatic 336, 3) := by decide +kernel
theorem dX8_reckon_219 : decode cX8_reckon 219 = .ok (.ireturn, 1) := by decide +kernel
theorem dX8_reckon_220 : decode cX8_reckon 220 = .ok (.iload_n 2, 1) := by decide +kernel
theorem dX8_reckon_221 : decode cX8_reckon 221 = .ok (.iload_n 3, 1) := by decide +kernel
theorem dX8_reckon_222 : decode cX8_reckon 222 = .ok (.ishl, 1) := by decide +kernel
theorem dX8_reckon_223 : decode cX8_reckon 223 = .ok (.ireturn, 1) := by decide +kernel
theorem dX8_reckon_224 : decode cX8_reckon 224 = .ok (.iload_n 2, 1) := by decide +kernel
theorem dX8_reckon_225 : decode cX8_reckon 225 = .ok (.iload_n 3, 1) := by decide +kernel
theorem dX8_reckon_226 : decode cX8_reckon 226 = .ok (.ishr, 1) := by decide +kernel
theorem dX8_reckon_227 : decode cX8_reckon 227 = .ok (.ireturn, 1) := by decide +kernel
theorem dX8_reckon_228 : decode cX8_reckon 228 = .ok (.iload_n 2, 1) := by decide +kernel
theorem dX8_reckon_229 : decode cX8_reckon 229 = .ok (.iload_n 3, 1) := by decide +kernel
theorem dX8_reckon_230 : decode cX8_reckon 230 = .ok (.iadd, 1) := by decide +kernel
theorem dX8_reckon_231 : decode cX8_reckon 231 = .ok (.ireturn, 1) := by decide +kernel
theorem dX8_reckon_232 : decode cX8_reckon 232 = .ok (.iload_n 2, 1) := by decide +kernel
theorem dX8_reckon_233 : decode cX8_reckon 233 = .ok (.iload_n 3, 1) := by decide +kernel
theorem dX8_reckon_234 : decode cX8_reckon 234 = .ok (.isub, 1) := by decide +kernel
theorem dX8_reckon_235 : decode cX8_reckon 235 = .ok (.ireturn, 1) := by decide +kernel
theorem dX8_reckon_236 : decode cX8_reckon 236 = .ok (.iload_n 2, 1) := by decide +kernel
theorem dX8_reckon_237 : decode cX8_reckon 237 = .ok (.iload_n 3, 1) := by decide +kernel
theorem dX8_reckon_238 : decode cX8_reckon 238 = .ok (.imul, 1) := by decide +kernel
theorem dX8_reckon_239 : decode cX8_reckon 239 = .ok (.ireturn, 1) := by decide +kernel
theorem dX8_reckon_240 : decode cX8_reckon 240 = .ok (.aload_n 0, 1) := by decide +kernel
theorem dX8_reckon_241 : decode cX8_reckon 241 = .ok (.iload_n 1, 1) := by decide +kernel
theorem dX8_reckon_242 : decode cX8_reckon 242 = .ok (.iload_n 2, 1) := by decide +kernel
theorem dX8_reckon_243 : decode cX8_reckon 243 = .ok (.iload_n 3, 1) := by decide +kernel
theorem dX8_reckon_244 : decode cX8_reckon 244 = .ok (.invokevirtual 340, 3) := by decide +kernel
theorem dX8_reckon_247 : decode cX8_reckon 247 = .ok (.ireturn, 1) := by decide +kernel
theorem dX8_truth_0 : decode cX8_truth 0 = .ok (.iload_n 0, 1) := by decide +kernel
theorem dX8_truth_1 : decode cX8_truth 1 = .ok (.ifCond .eq 7, 3) := by decide +kernel
theorem dX8_truth_4 : decode cX8_truth 4 = .ok (.iconst 1, 1) := by decide +kernel
theorem dX8_truth_5 : decode cX8_truth 5 = .ok (.goto 4, 3) := by decide +kernel
theorem dX8_truth_8 : decode cX8_truth 8 = .ok (.iconst 0, 1) := by decide +kernel
theorem dX8_truth_9 : decode cX8_truth 9 = .ok (.ireturn, 1) := by decide +kernel
theorem dX8_divide_0 : decode cX8_divide 0 = .ok (.aload_n 0, 1) := by decide +kernel
theorem dX8_divide_1 : decode cX8_divide 1 = .ok (.dup, 1) := by decide +kernel
theorem dX8_divide_2 : decode cX8_divide 2 = .ok (.getfield 323, 3) := by decide +kernel
theorem dX8_divide_5 : decode cX8_divide 5 = .ok (.iload_n 3, 1) := by decide +kernel
theorem dX8_divide_6 : decode cX8_divide 6 = .ok (.ifCond .ne 7, 3) := by decide +kernel
theorem dX8_divide_9 : decode cX8_divide 9 = .ok (.iconst 1, 1) := by decide +kernel
theorem dX8_divide_10 : decode cX8_divide 10 = .ok (.goto 4, 3) := by decide +kernel
theorem dX8_divide_13 : decode cX8_divide 13 = .ok (.iconst 0, 1) := by decide +kernel
theorem dX8_divide_14 : decode cX8_divide 14 = .ok (.ior, 1) := by decide +kernel
theorem dX8_divide_15 : decode cX8_divide 15 = .ok (.putfield 323, 3) := by decide +kernel
theorem dX8_divide_18 : decode cX8_divide 18 = .ok (.iload_n 3, 1) := by decide +kernel
theorem dX8_divide_19 : decode cX8_divide 19 = .ok (.ifCond .ne 7, 3) := by decide +kernel
theorem dX8_divide_22 : decode cX8_divide 22 = .ok (.iconst 0, 1) := by decide +kernel
theorem dX8_divide_23 : decode cX8_divide 23 = .ok (.goto 18, 3) := by decide +kernel
theorem dX8_divide_26 : decode cX8_divide 26 = .ok (.iload_n 1, 1) := by decide +kernel
theorem dX8_divide_27 : decode cX8_divide 27 = .ok (.bipush 47, 2) := by decide +kernel
theorem dX8_divide_29 : decode cX8_divide 29 = .ok (.if_icmp .ne 9, 3) := by decide +kernel
theorem dX8_divide_32 : decode cX8_divide 32 = .ok (.iload_n 2, 1) := by decide +kernel
theorem dX8_divide_33 : decode cX8_divide 33 = .ok (.iload_n 3, 1) := by decide +kernel
theorem dX8_divide_34 : decode cX8_divide 34 = .ok (.idiv, 1) := by decide +kernel
theorem dX8_divide_35 : decode cX8_divide 35 = .ok (.goto 6, 3) := by decide +kernel
theorem dX8_divide_38 : decode cX8_divide 38 = .ok (.iload_n 2, 1) := by decide +kernel
theorem dX8_divide_39 : decode cX8_divide 39 = .ok (.iload_n 3, 1) := by decide +kernel
theorem dX8_divide_40 : decode cX8_divide 40 = .ok (.irem, 1) := by decide +kernel
theorem dX8_divide_41 : decode cX8_divide 41 = .ok (.ireturn, 1) := by decide +kernel
theorem dX8_declare_0 : decode cX8_declare 0 = .ok (.aload_n 0, 1) := by decide +kernel
theorem dX8_declare_1 : decode cX8_declare 1 = .ok (.getfield 21, 3) := by decide +kernel
theorem dX8_declare_4 : decode cX8_declare 4 = .ok (.iload_n 1, 1) := by decide +kernel
theorem dX8_declare_5 : decode cX8_declare 5 = .ok (.invokevirtual 145, 3) := by decide +kernel
theorem dX8_declare_8 : decode cX8_declare 8 = .ok (.ifCond .eq 13, 3) := by decide +kernel
theorem dX8_declare_11 : decode cX8_declare 11 = .ok (.aload_n 0, 1) := by decide +kernel
theorem dX8_declare_12 : decode cX8_declare 12 = .ok (.getfield 12, 3) := by decide +kernel
theorem dX8_declare_15 : decode cX8_declare 15 = .ok (.iconst 1, 1) := by decide +kernel
theorem dX8_declare_16 : decode cX8_declare 16 = .ok (.iload 4, 2) := by decide +kernel
theorem dX8_declare_18 : decode cX8_declare 18 = .ok (.invokevirtual 152, 3) := by decide +kernel
theorem dX8_declare_21 : decode cX8_declare 21 = .ok (.aload_n 0, 1) := by decide +kernel
theorem dX8_declare_22 : decode cX8_declare 22 = .ok (.getfield 21, 3) := by decide +kernel
theorem dX8_declare_25 : decode cX8_declare 25 = .ok (.iload_n 1, 1) := by decide +kernel
theorem dX8_declare_26 : decode cX8_declare 26 = .ok (.iload_n 2, 1) := by decide +kernel
theorem dX8_declare_27 : decode cX8_declare 27 = .ok (.iload_n 3, 1) := by decide +kernel
theorem dX8_declare_28 : decode cX8_declare 28 = .ok (.invokevirtual 87, 3) := by decide +kernel
theorem dX8_declare_31 : decode cX8_declare 31 = .ok (.return_, 1) := by decide +kernel
theorem dX8_variables_2_0 : decode cX8_variables_2 0 = .ok (.aload_n 0, 1) := by decide +kernel
theorem dX8_variables_2_1 : decode cX8_variables_2 1 = .ok (.getfield 46, 3) := by decide +kernel
theorem dX8_variables_2_4 : decode cX8_variables_2 4 = .ok (.iload_n 1, 1) := by decide +kernel
theorem dX8_variables_2_5 : decode cX8_variables_2 5 = .ok (.invokevirtual 91, 3) := by decide +kernel
theorem dX8_variables_2_8 : decode cX8_variables_2 8 = .ok (.istore_n 2, 1) := by decide +kernel
theorem dX8_variables_2_9 : decode cX8_variables_2 9 = .ok (.iload_n 2, 1) := by decide +kernel
theorem dX8_variables_2_10 : decode cX8_variables_2 10 = .ok (.iconst (-1), 1) := by decide +kernel
theorem dX8_variables_2_11 : decode cX8_variables_2 11 = .ok (.if_icmp .eq 28, 3) := by decide +kernel
theorem dX8_variables_2_14 : decode cX8_variables_2 14 = .ok (.aload_n 0, 1) := by decide +kernel
theorem dX8_variables_2_15 : decode cX8_variables_2 15 = .ok (.iload_n 2, 1) := by decide +kernel
theorem dX8_variables_2_16 : decode cX8_variables_2 16 = .ok (.aload_n 0, 1) := by decide +kernel
theorem dX8_variables_2_17 : decode cX8_variables_2 17 = .ok (.getfield 46, 3) := by decide +kernel
theorem dX8_variables_2_20 : decode cX8_variables_2 20 = .ok (.iload_n 1, 1) := by decide +kernel
theorem dX8_variables_2_21 : decode cX8_variables_2 21 = .ok (.invokevirtual 168, 3) := by decide +kernel
theorem dX8_variables_2_24 : decode cX8_variables_2 24 = .ok (.invokevirtual 210, 3) := by decide +kernel
theorem dX8_variables_2_27 : decode cX8_variables_2 27 = .ok (.aload_n 0, 1) := by decide +kernel
theorem dX8_variables_2_28 : decode cX8_variables_2 28 = .ok (.getfield 46, 3) := by decide +kernel
theorem dX8_variables_2_31 : decode cX8_variables_2 31 = .ok (.iload_n 2, 1) := by decide +kernel
theorem dX8_variables_2_32 : decode cX8_variables_2 32 = .ok (.invokevirtual 103, 3) := by decide +kernel
theorem dX8_variables_2_35 : decode cX8_variables_2 35 = .ok (.istore_n 2, 1) := by decide +kernel
theorem dX8_variables_2_36 : decode cX8_variables_2 36 = .ok (.goto (-27), 3) := by decide +kernel
theorem dX8_variables_2_39 : decode cX8_variables_2 39 = .ok (.return_, 1) := by decide +kernel
theorem dX8_variable_0 : decode cX8_variable 0 = .ok (.iconst 0, 1) := by decide +kernel
theorem dX8_variable_1 : decode cX8_variable 1 = .ok (.istore_n 3, 1) := by decide +kernel
theorem dX8_variable_2 : decode cX8_variable 2 = .ok (.aload_n 0, 1) := by decide +kernel
theorem dX8_variable_3 : decode cX8_variable 3 = .ok (.getfield 46, 3) := by decide +kernel
theorem dX8_variable_6 : decode cX8_variable 6 = .ok (.iload_n 1, 1) := by decide +kernel
theorem dX8_variable_7 : decode cX8_variable 7 = .ok (.invokevirtual 91, 3) := by decide +kernel
theorem dX8_variable_10 : decode cX8_variable 10 = .ok (.istore 4, 2) := by decide +kernel
theorem dX8_variable_12 : decode cX8_variable 12 = .ok (.aload_n 0, 1) := by decide +kernel
theorem dX8_variable_13 : decode cX8_variable 13 = .ok (.getfield 46, 3) := by decide +kernel
theorem dX8_variable_16 : decode cX8_variable 16 = .ok (.iload_n 1, 1) := by decide +kernel
theorem dX8_variable_17 : decode cX8_variable 17 = .ok (.invokevirtual 168, 3) := by decide +kernel
theorem dX8_variable_20 : decode cX8_variable 20 = .ok (.iconst 1, 1) := by decide +kernel
theorem dX8_variable_21 : decode cX8_variable 21 = .ok (.if_icmp .ne 95, 3) := by decide +kernel
theorem dX8_variable_24 : decode cX8_variable 24 = .ok (.iconst 1, 1) := by decide +kernel
theorem dX8_variable_25 : decode cX8_variable 25 = .ok (.istore_n 3, 1) := by decide +kernel
theorem dX8_variable_26 : decode cX8_variable 26 = .ok (.aload_n 0, 1) := by decide +kernel
theorem dX8_variable_27 : decode cX8_variable 27 = .ok (.iload 4, 2) := by decide +kernel
theorem dX8_variable_29 : decode cX8_variable 29 = .ok (.invokevirtual 196, 3) := by decide +kernel
theorem dX8_variable_32 : decode cX8_variable 32 = .ok (.ifCond .eq 65, 3) := by decide +kernel
theorem dX8_variable_35 : decode cX8_variable 35 = .ok (.aload_n 0, 1) := by decide +kernel
theorem dX8_variable_36 : decode cX8_variable 36 = .ok (.getfield 46, 3) := by decide +kernel
theorem dX8_variable_39 : decode cX8_variable 39 = .ok (.iload 4, 2) := by decide +kernel
theorem dX8_variable_41 : decode cX8_variable 41 = .ok (.invokevirtual 142, 3) := by decide +kernel
theorem dX8_variable_44 : decode cX8_variable 44 = .ok (.istore_n 3, 1) := by decide +kernel
theorem dX8_variable_45 : decode cX8_variable 45 = .ok (.iload_n 3, 1) := by decide +kernel
theorem dX8_variable_46 : decode cX8_variable 46 = .ok (.iconst 1, 1) := by decide +kernel
theorem dX8_variable_47 : decode cX8_variable 47 = .ok (.if_icmp .lt 10, 3) := by decide +kernel
theorem dX8_variable_50 : decode cX8_variable 50 = .ok (.iload_n 3, 1) := by decide +kernel
theorem dX8_variable_51 : decode cX8_variable 51 = .ok (.sipush 4096, 3) := by decide +kernel
theorem dX8_variable_54 : decode cX8_variable 54 = .ok (.if_icmp .le 25, 3) := by decide +kernel
theorem dX8_variable_57 : decode cX8_variable 57 = .ok (.aload_n 0, 1) := by decide +kernel
theorem dX8_variable_58 : decode cX8_variable 58 = .ok (.getfield 12, 3) := by decide +kernel
theorem dX8_variable_61 : decode cX8_variable 61 = .ok (.bipush 8, 2) := by decide +kernel
theorem dX8_variable_63 : decode cX8_variable 63 = .ok (.aload_n 0, 1) := by decide +kernel
theorem dX8_variable_64 : decode cX8_variable 64 = .ok (.getfield 46, 3) := by decide +kernel
theorem dX8_variable_67 : decode cX8_variable 67 = .ok (.iload 4, 2) := by decide +kernel
theorem dX8_variable_69 : decode cX8_variable 69 = .ok (.invokevirtual 149, 3) := by decide +kernel
theorem dX8_variable_72 : decode cX8_variable 72 = .ok (.invokevirtual 152, 3) := by decide +kernel
theorem dX8_variable_75 : decode cX8_variable 75 = .ok (.sipush 4096, 3) := by decide +kernel
theorem dX8_variable_78 : decode cX8_variable 78 = .ok (.istore_n 3, 1) := by decide +kernel
theorem dX8_variable_79 : decode cX8_variable 79 = .ok (.aload_n 0, 1) := by decide +kernel
theorem dX8_variable_80 : decode cX8_variable 80 = .ok (.aload_n 0, 1) := by decide +kernel
theorem dX8_variable_81 : decode cX8_variable 81 = .ok (.getfield 46, 3) := by decide +kernel
theorem dX8_variable_84 : decode cX8_variable 84 = .ok (.iload 4, 2) := by decide +kernel
theorem dX8_variable_86 : decode cX8_variable 86 = .ok (.invokevirtual 103, 3) := by decide +kernel
theorem dX8_variable_89 : decode cX8_variable 89 = .ok (.iload_n 2, 1) := by decide +kernel
theorem dX8_variable_90 : decode cX8_variable 90 = .ok (.iload_n 3, 1) := by decide +kernel
theorem dX8_variable_91 : decode cX8_variable 91 = .ok (.invokevirtual 213, 3) := by decide +kernel
theorem dX8_variable_94 : decode cX8_variable 94 = .ok (.goto 83, 3) := by decide +kernel
theorem dX8_variable_97 : decode cX8_variable 97 = .ok (.aload_n 0, 1) := by decide +kernel
theorem dX8_variable_98 : decode cX8_variable 98 = .ok (.aload_n 0, 1) := by decide +kernel
theorem dX8_variable_99 : decode cX8_variable 99 = .ok (.getfield 46, 3) := by decide +kernel
theorem dX8_variable_102 : decode cX8_variable 102 = .ok (.iload 4, 2) := by decide +kernel
theorem dX8_variable_104 : decode cX8_variable 104 = .ok (.invokevirtual 103, 3) := by decide +kernel
theorem dX8_variable_107 : decode cX8_variable 107 = .ok (.iload_n 2, 1) := by decide +kernel
theorem dX8_variable_108 : decode cX8_variable 108 = .ok (.ldc 218, 2) := by decide +kernel
theorem dX8_variable_110 : decode cX8_variable 110 = .ok (.invokevirtual 213, 3) := by decide +kernel
theorem dX8_variable_113 : decode cX8_variable 113 = .ok (.goto 64, 3) := by decide +kernel
theorem dX8_variable_116 : decode cX8_variable 116 = .ok (.iload 4, 2) := by decide +kernel
theorem dX8_variable_118 : decode cX8_variable 118 = .ok (.iconst (-1), 1) := by decide +kernel
theorem dX8_variable_119 : decode cX8_variable 119 = .ok (.if_icmp .eq 39, 3) := by decide +kernel
theorem dX8_variable_122 : decode cX8_variable 122 = .ok (.aload_n 0, 1) := by decide +kernel
theorem dX8_variable_123 : decode cX8_variable 123 = .ok (.getfield 203, 3) := by decide +kernel
theorem dX8_variable_126 : decode cX8_variable 126 = .ok (.iconst (-1), 1) := by decide +kernel
theorem dX8_variable_127 : decode cX8_variable 127 = .ok (.if_icmp .ne 31, 3) := by decide +kernel
theorem dX8_variable_130 : decode cX8_variable 130 = .ok (.aload_n 0, 1) := by decide +kernel
theorem dX8_variable_131 : decode cX8_variable 131 = .ok (.getfield 46, 3) := by decide +kernel
theorem dX8_variable_134 : decode cX8_variable 134 = .ok (.iload 4, 2) := by decide +kernel
theorem dX8_variable_136 : decode cX8_variable 136 = .ok (.aload_n 0, 1) := by decide +kernel
theorem dX8_variable_137 : decode cX8_variable 137 = .ok (.iload 4, 2) := by decide +kernel
theorem dX8_variable_139 : decode cX8_variable 139 = .ok (.invokevirtual 219, 3) := by decide +kernel
theorem dX8_variable_142 : decode cX8_variable 142 = .ok (.invokevirtual 222, 3) := by decide +kernel
theorem dX8_variable_145 : decode cX8_variable 145 = .ok (.aload_n 0, 1) := by decide +kernel
theorem dX8_variable_146 : decode cX8_variable 146 = .ok (.getfield 46, 3) := by decide +kernel
theorem dX8_variable_149 : decode cX8_variable 149 = .ok (.iload 4, 2) := by decide +kernel
theorem dX8_variable_151 : decode cX8_variable 151 = .ok (.iconst 1, 1) := by decide +kernel
theorem dX8_variable_152 : decode cX8_variable 152 = .ok (.invokevirtual 225, 3) := by decide +kernel
theorem dX8_variable_155 : decode cX8_variable 155 = .ok (.goto 22, 3) := by decide +kernel
theorem dX8_variable_158 : decode cX8_variable 158 = .ok (.iload 4, 2) := by decide +kernel
theorem dX8_variable_160 : decode cX8_variable 160 = .ok (.iconst (-1), 1) := by decide +kernel
theorem dX8_variable_161 : decode cX8_variable 161 = .ok (.if_icmp .eq 16, 3) := by decide +kernel
theorem dX8_variable_164 : decode cX8_variable 164 = .ok (.aload_n 0, 1) := by decide +kernel
theorem dX8_variable_165 : decode cX8_variable 165 = .ok (.aload_n 0, 1) := by decide +kernel
theorem dX8_variable_166 : decode cX8_variable 166 = .ok (.getfield 46, 3) := by decide +kernel
theorem dX8_variable_169 : decode cX8_variable 169 = .ok (.iload 4, 2) := by decide +kernel
theorem dX8_variable_171 : decode cX8_variable 171 = .ok (.invokevirtual 91, 3) := by decide +kernel
theorem dX8_variable_174 : decode cX8_variable 174 = .ok (.invokevirtual 228, 3) := by decide +kernel
theorem dX8_variable_177 : decode cX8_variable 177 = .ok (.aload_n 0, 1) := by decide +kernel
theorem dX8_variable_178 : decode cX8_variable 178 = .ok (.getfield 28, 3) := by decide +kernel
theorem dX8_variable_181 : decode cX8_variable 181 = .ok (.iload_n 2, 1) := by decide +kernel
theorem dX8_variable_182 : decode cX8_variable 182 = .ok (.iload_n 3, 1) := by decide +kernel
theorem dX8_variable_183 : decode cX8_variable 183 = .ok (.aload_n 0, 1) := by decide +kernel
theorem dX8_variable_184 : decode cX8_variable 184 = .ok (.getfield 203, 3) := by decide +kernel
theorem dX8_variable_187 : decode cX8_variable 187 = .ok (.invokevirtual 230, 3) := by decide +kernel
theorem dX8_variable_190 : decode cX8_variable 190 = .ok (.istore 5, 2) := by decide +kernel
theorem dX8_variable_192 : decode cX8_variable 192 = .ok (.aload_n 0, 1) := by decide +kernel
theorem dX8_variable_193 : decode cX8_variable 193 = .ok (.getfield 46, 3) := by decide +kernel
theorem dX8_variable_196 : decode cX8_variable 196 = .ok (.iload_n 1, 1) := by decide +kernel
theorem dX8_variable_197 : decode cX8_variable 197 = .ok (.iload 5, 2) := by decide +kernel
theorem dX8_variable_199 : decode cX8_variable 199 = .ok (.invokevirtual 156, 3) := by decide +kernel
theorem dX8_variable_202 : decode cX8_variable 202 = .ok (.aload_n 0, 1) := by decide +kernel
theorem dX8_variable_203 : decode cX8_variable 203 = .ok (.aload_n 0, 1) := by decide +kernel
theorem dX8_variable_204 : decode cX8_variable 204 = .ok (.getfield 46, 3) := by decide +kernel
theorem dX8_variable_207 : decode cX8_variable 207 = .ok (.iload_n 1, 1) := by decide +kernel
theorem dX8_variable_208 : decode cX8_variable 208 = .ok (.invokevirtual 142, 3) := by decide +kernel
theorem dX8_variable_211 : decode cX8_variable 211 = .ok (.iconst 1, 1) := by decide +kernel
theorem dX8_variable_212 : decode cX8_variable 212 = .ok (.iload 5, 2) := by decide +kernel
theorem dX8_variable_214 : decode cX8_variable 214 = .ok (.aload_n 0, 1) := by decide +kernel
theorem dX8_variable_215 : decode cX8_variable 215 = .ok (.getfield 46, 3) := by decide +kernel
theorem dX8_variable_218 : decode cX8_variable 218 = .ok (.iload_n 1, 1) := by decide +kernel
theorem dX8_variable_219 : decode cX8_variable 219 = .ok (.invokevirtual 149, 3) := by decide +kernel
theorem dX8_variable_222 : decode cX8_variable 222 = .ok (.invokevirtual 199, 3) := by decide +kernel
theorem dX8_variable_225 : decode cX8_variable 225 = .ok (.return_, 1) := by decide +kernel
theorem dX8_fill_0 : decode cX8_fill 0 = .ok (.iload_n 1, 1) := by decide +kernel
theorem dX8_fill_1 : decode cX8_fill 1 = .ok (.iconst (-1), 1) := by decide +kernel
theorem dX8_fill_2 : decode cX8_fill 2 = .ok (.if_icmp .ne 4, 3) := by decide +kernel
theorem dX8_fill_5 : decode cX8_fill 5 = .ok (.return_, 1) := by decide +kernel
theorem dX8_fill_6 : decode cX8_fill 6 = .ok (.aload_n 0, 1) := by decide +kernel
theorem dX8_fill_7 : decode cX8_fill 7 = .ok (.getfield 46, 3) := by decide +kernel
theorem dX8_fill_10 : decode cX8_fill 10 = .ok (.iload_n 1, 1) := by decide +kernel
theorem dX8_fill_11 : decode cX8_fill 11 = .ok (.invokevirtual 97, 3) := by decide +kernel
theorem dX8_fill_14 : decode cX8_fill 14 = .ok (.bipush 9, 2) := by decide +kernel
theorem dX8_fill_16 : decode cX8_fill 16 = .ok (.if_icmp .ne 39, 3) := by decide +kernel
theorem dX8_fill_19 : decode cX8_fill 19 = .ok (.iload_n 2, 1) := by decide +kernel
theorem dX8_fill_20 : decode cX8_fill 20 = .ok (.ifCond .eq 17, 3) := by decide +kernel
theorem dX8_fill_23 : decode cX8_fill 23 = .ok (.aload_n 0, 1) := by decide +kernel
theorem dX8_fill_24 : decode cX8_fill 24 = .ok (.getfield 46, 3) := by decide +kernel
theorem dX8_fill_27 : decode cX8_fill 27 = .ok (.iload_n 1, 1) := by decide +kernel
theorem dX8_fill_28 : decode cX8_fill 28 = .ok (.invokevirtual 168, 3) := by decide +kernel
theorem dX8_fill_31 : decode cX8_fill 31 = .ok (.iconst 1, 1) := by decide +kernel
theorem dX8_fill_32 : decode cX8_fill 32 = .ok (.iadd, 1) := by decide +kernel
theorem dX8_fill_33 : decode cX8_fill 33 = .ok (.iload_n 3, 1) := by decide +kernel
theorem dX8_fill_34 : decode cX8_fill 34 = .ok (.if_icmp .le 20, 3) := by decide +kernel
theorem dX8_fill_37 : decode cX8_fill 37 = .ok (.aload_n 0, 1) := by decide +kernel
theorem dX8_fill_38 : decode cX8_fill 38 = .ok (.getfield 12, 3) := by decide +kernel
theorem dX8_fill_41 : decode cX8_fill 41 = .ok (.bipush 8, 2) := by decide +kernel
theorem dX8_fill_43 : decode cX8_fill 43 = .ok (.aload_n 0, 1) := by decide +kernel
theorem dX8_fill_44 : decode cX8_fill 44 = .ok (.getfield 46, 3) := by decide +kernel
theorem dX8_fill_47 : decode cX8_fill 47 = .ok (.iload_n 1, 1) := by decide +kernel
theorem dX8_fill_48 : decode cX8_fill 48 = .ok (.invokevirtual 149, 3) := by decide +kernel
theorem dX8_fill_51 : decode cX8_fill 51 = .ok (.invokevirtual 152, 3) := by decide +kernel
theorem dX8_fill_54 : decode cX8_fill 54 = .ok (.return_, 1) := by decide +kernel
theorem dX8_fill_55 : decode cX8_fill 55 = .ok (.aload_n 0, 1) := by decide +kernel
theorem dX8_fill_56 : decode cX8_fill 56 = .ok (.getfield 46, 3) := by decide +kernel
theorem dX8_fill_59 : decode cX8_fill 59 = .ok (.iload_n 1, 1) := by decide +kernel
theorem dX8_fill_60 : decode cX8_fill 60 = .ok (.invokevirtual 91, 3) := by decide +kernel
theorem dX8_fill_63 : decode cX8_fill 63 = .ok (.istore 4, 2) := by decide +kernel
theorem dX8_fill_65 : decode cX8_fill 65 = .ok (.iload 4, 2) := by decide +kernel
theorem dX8_fill_67 : decode cX8_fill 67 = .ok (.iconst (-1), 1) := by decide +kernel
theorem dX8_fill_68 : decode cX8_fill 68 = .ok (.if_icmp .eq 24, 3) := by decide +kernel
theorem dX8_fill_71 : decode cX8_fill 71 = .ok (.aload_n 0, 1) := by decide +kernel
theorem dX8_fill_72 : decode cX8_fill 72 = .ok (.iload 4, 2) := by decide +kernel
theorem dX8_fill_74 : decode cX8_fill 74 = .ok (.invokevirtual 196, 3) := by decide +kernel
theorem dX8_fill_77 : decode cX8_fill 77 = .ok (.pop, 1) := by decide +kernel
theorem dX8_fill_78 : decode cX8_fill 78 = .ok (.aload_n 0, 1) := by decide +kernel
theorem dX8_fill_79 : decode cX8_fill 79 = .ok (.getfield 46, 3) := by decide +kernel
theorem dX8_fill_82 : decode cX8_fill 82 = .ok (.iload 4, 2) := by decide +kernel
theorem dX8_fill_84 : decode cX8_fill 84 = .ok (.invokevirtual 103, 3) := by decide +kernel
theorem dX8_fill_87 : decode cX8_fill 87 = .ok (.istore 4, 2) := by decide +kernel
theorem dX8_fill_89 : decode cX8_fill 89 = .ok (.goto (-24), 3) := by decide +kernel
theorem dX8_fill_92 : decode cX8_fill 92 = .ok (.aload_n 0, 1) := by decide +kernel
theorem dX8_fill_93 : decode cX8_fill 93 = .ok (.getfield 46, 3) := by decide +kernel
theorem dX8_fill_96 : decode cX8_fill 96 = .ok (.iload_n 1, 1) := by decide +kernel
theorem dX8_fill_97 : decode cX8_fill 97 = .ok (.invokevirtual 233, 3) := by decide +kernel
theorem dX8_fill_100 : decode cX8_fill 100 = .ok (.iload_n 3, 1) := by decide +kernel
theorem dX8_fill_101 : decode cX8_fill 101 = .ok (.if_icmp .le 20, 3) := by decide +kernel
theorem dX8_fill_104 : decode cX8_fill 104 = .ok (.aload_n 0, 1) := by decide +kernel
theorem dX8_fill_105 : decode cX8_fill 105 = .ok (.getfield 12, 3) := by decide +kernel
theorem dX8_fill_108 : decode cX8_fill 108 = .ok (.bipush 8, 2) := by decide +kernel
theorem dX8_fill_110 : decode cX8_fill 110 = .ok (.aload_n 0, 1) := by decide +kernel
theorem dX8_fill_111 : decode cX8_fill 111 = .ok (.getfield 46, 3) := by decide +kernel
theorem dX8_fill_114 : decode cX8_fill 114 = .ok (.iload_n 1, 1) := by decide +kernel
theorem dX8_fill_115 : decode cX8_fill 115 = .ok (.invokevirtual 149, 3) := by decide +kernel
theorem dX8_fill_118 : decode cX8_fill 118 = .ok (.invokevirtual 152, 3) := by decide +kernel
theorem dX8_fill_121 : decode cX8_fill 121 = .ok (.return_, 1) := by decide +kernel
theorem dX8_told_0 : decode cX8_told 0 = .ok (.aload_n 0, 1) := by decide +kernel
theorem dX8_told_1 : decode cX8_told 1 = .ok (.aload_n 0, 1) := by decide +kernel
theorem dX8_told_2 : decode cX8_told 2 = .ok (.getfield 46, 3) := by decide +kernel
theorem dX8_told_5 : decode cX8_told 5 = .ok (.iload_n 1, 1) := by decide +kernel
theorem dX8_told_6 : decode cX8_told 6 = .ok (.invokevirtual 91, 3) := by decide +kernel
theorem dX8_told_9 : decode cX8_told 9 = .ok (.invokevirtual 317, 3) := by decide +kernel
theorem dX8_told_12 : decode cX8_told 12 = .ok (.ifCond .eq 10, 3) := by decide +kernel
theorem dX8_told_15 : decode cX8_told 15 = .ok (.aload_n 0, 1) := by decide +kernel
theorem dX8_told_16 : decode cX8_told 16 = .ok (.getfield 318, 3) := by decide +kernel
theorem dX8_told_19 : decode cX8_told 19 = .ok (.goto 4, 3) := by decide +kernel
theorem dX8_told_22 : decode cX8_told 22 = .ok (.iconst 0, 1) := by decide +kernel
theorem dX8_told_23 : decode cX8_told 23 = .ok (.ireturn, 1) := by decide +kernel
theorem dX8_function_0 : decode cX8_function 0 = .ok (.aload_n 0, 1) := by decide +kernel
theorem dX8_function_1 : decode cX8_function 1 = .ok (.aload_n 0, 1) := by decide +kernel
theorem dX8_function_2 : decode cX8_function 2 = .ok (.getfield 46, 3) := by decide +kernel
theorem dX8_function_5 : decode cX8_function 5 = .ok (.iload_n 1, 1) := by decide +kernel
theorem dX8_function_6 : decode cX8_function 6 = .ok (.invokevirtual 171, 3) := by decide +kernel
theorem dX8_function_9 : decode cX8_function 9 = .ok (.putfield 203, 3) := by decide +kernel
theorem dX8_function_12 : decode cX8_function 12 = .ok (.aload_n 0, 1) := by decide +kernel
theorem dX8_function_13 : decode cX8_function 13 = .ok (.iconst 0, 1) := by decide +kernel
theorem dX8_function_14 : decode cX8_function 14 = .ok (.putfield 236, 3) := by decide +kernel
theorem dX8_function_17 : decode cX8_function 17 = .ok (.aload_n 0, 1) := by decide +kernel
theorem dX8_function_18 : decode cX8_function 18 = .ok (.iconst 0, 1) := by decide +kernel
theorem dX8_function_19 : decode cX8_function 19 = .ok (.putfield 239, 3) := by decide +kernel
theorem dX8_function_22 : decode cX8_function 22 = .ok (.aload_n 0, 1) := by decide +kernel
theorem dX8_function_23 : decode cX8_function 23 = .ok (.getfield 21, 3) := by decide +kernel
theorem dX8_function_26 : decode cX8_function 26 = .ok (.invokevirtual 242, 3) := by decide +kernel
theorem dX8_function_29 : decode cX8_function 29 = .ok (.aload_n 0, 1) := by decide +kernel
theorem dX8_function_30 : decode cX8_function 30 = .ok (.getfield 46, 3) := by decide +kernel
theorem dX8_function_33 : decode cX8_function 33 = .ok (.iload_n 1, 1) := by decide +kernel
theorem dX8_function_34 : decode cX8_function 34 = .ok (.invokevirtual 91, 3) := by decide +kernel
theorem dX8_function_37 : decode cX8_function 37 = .ok (.istore_n 2, 1) := by decide +kernel
theorem dX8_function_38 : decode cX8_function 38 = .ok (.aload_n 0, 1) := by decide +kernel
theorem dX8_function_39 : decode cX8_function 39 = .ok (.getfield 46, 3) := by decide +kernel
theorem dX8_function_42 : decode cX8_function 42 = .ok (.iload_n 2, 1) := by decide +kernel
theorem dX8_function_43 : decode cX8_function 43 = .ok (.invokevirtual 97, 3) := by decide +kernel
theorem dX8_function_46 : decode cX8_function 46 = .ok (.iconst 5, 1) := by decide +kernel
theorem dX8_function_47 : decode cX8_function 47 = .ok (.if_icmp .ne 83, 3) := by decide +kernel
theorem dX8_function_50 : decode cX8_function 50 = .ok (.aload_n 0, 1) := by decide +kernel
theorem dX8_function_51 : decode cX8_function 51 = .ok (.getfield 28, 3) := by decide +kernel
theorem dX8_function_54 : decode cX8_function 54 = .ok (.aload_n 0, 1) := by decide +kernel
theorem dX8_function_55 : decode cX8_function 55 = .ok (.getfield 46, 3) := by decide +kernel
theorem dX8_function_58 : decode cX8_function 58 = .ok (.iload_n 2, 1) := by decide +kernel
theorem dX8_function_59 : decode cX8_function 59 = .ok (.invokevirtual 168, 3) := by decide +kernel
theorem dX8_function_62 : decode cX8_function 62 = .ok (.aload_n 0, 1) := by decide +kernel
theorem dX8_function_63 : decode cX8_function 63 = .ok (.getfield 46, 3) := by decide +kernel
theorem dX8_function_66 : decode cX8_function 66 = .ok (.iload_n 2, 1) := by decide +kernel
theorem dX8_function_67 : decode cX8_function 67 = .ok (.invokevirtual 171, 3) := by decide +kernel
theorem dX8_function_70 : decode cX8_function 70 = .ok (.iconst (-1), 1) := by decide +kernel
theorem dX8_function_71 : decode cX8_function 71 = .ok (.if_icmp .ne 7, 3) := by decide +kernel
theorem dX8_function_74 : decode cX8_function 74 = .ok (.iconst 0, 1) := by decide +kernel
theorem dX8_function_75 : decode cX8_function 75 = .ok (.goto 4, 3) := by decide +kernel
theorem dX8_function_78 : decode cX8_function 78 = .ok (.iconst (-1), 1) := by decide +kernel
theorem dX8_function_79 : decode cX8_function 79 = .ok (.aload_n 0, 1) := by decide +kernel
theorem dX8_function_80 : decode cX8_function 80 = .ok (.getfield 203, 3) := by decide +kernel
theorem dX8_function_83 : decode cX8_function 83 = .ok (.invokevirtual 230, 3) := by decide +kernel
theorem dX8_function_86 : decode cX8_function 86 = .ok (.istore_n 3, 1) := by decide +kernel
theorem dX8_function_87 : decode cX8_function 87 = .ok (.aload_n 0, 1) := by decide +kernel
theorem dX8_function_88 : decode cX8_function 88 = .ok (.getfield 46, 3) := by decide +kernel
theorem dX8_function_91 : decode cX8_function 91 = .ok (.iload_n 2, 1) := by decide +kernel
theorem dX8_function_92 : decode cX8_function 92 = .ok (.iload_n 3, 1) := by decide +kernel
theorem dX8_function_93 : decode cX8_function 93 = .ok (.invokevirtual 245, 3) := by decide +kernel
theorem dX8_function_96 : decode cX8_function 96 = .ok (.aload_n 0, 1) := by decide +kernel
theorem dX8_function_97 : decode cX8_function 97 = .ok (.aload_n 0, 1) := by decide +kernel
theorem dX8_function_98 : decode cX8_function 98 = .ok (.getfield 46, 3) := by decide +kernel
theorem dX8_function_101 : decode cX8_function 101 = .ok (.iload_n 2, 1) := by decide +kernel
theorem dX8_function_102 : decode cX8_function 102 = .ok (.invokevirtual 142, 3) := by decide +kernel
theorem dX8_function_105 : decode cX8_function 105 = .ok (.iconst 1, 1) := by decide +kernel
theorem dX8_function_106 : decode cX8_function 106 = .ok (.iload_n 3, 1) := by decide +kernel
theorem dX8_function_107 : decode cX8_function 107 = .ok (.aload_n 0, 1) := by decide +kernel
theorem dX8_function_108 : decode cX8_function 108 = .ok (.getfield 46, 3) := by decide +kernel
theorem dX8_function_111 : decode cX8_function 111 = .ok (.iload_n 2, 1) := by decide +kernel
theorem dX8_function_112 : decode cX8_function 112 = .ok (.invokevirtual 149, 3) := by decide +kernel
theorem dX8_function_115 : decode cX8_function 115 = .ok (.invokevirtual 199, 3) := by decide +kernel
theorem dX8_function_118 : decode cX8_function 118 = .ok (.aload_n 0, 1) := by decide +kernel
theorem dX8_function_119 : decode cX8_function 119 = .ok (.getfield 46, 3) := by decide +kernel
theorem dX8_function_122 : decode cX8_function 122 = .ok (.iload_n 2, 1) := by decide +kernel
theorem dX8_function_123 : decode cX8_function 123 = .ok (.invokevirtual 103, 3) := by decide +kernel
theorem dX8_function_126 : decode cX8_function 126 = .ok (.istore_n 2, 1) := by decide +kernel
theorem dX8_function_127 : decode cX8_function 127 = .ok (.goto (-89), 3) := by decide +kernel
theorem dX8_function_130 : decode cX8_function 130 = .ok (.aload_n 0, 1) := by decide +kernel
theorem dX8_function_131 : decode cX8_function 131 = .ok (.iload_n 2, 1) := by decide +kernel
theorem dX8_function_132 : decode cX8_function 132 = .ok (.invokevirtual 248, 3) := by decide +kernel
theorem dX8_function_135 : decode cX8_function 135 = .ok (.aload_n 0, 1) := by decide +kernel
theorem dX8_function_136 : decode cX8_function 136 = .ok (.getfield 43, 3) := by decide +kernel
theorem dX8_function_139 : decode cX8_function 139 = .ok (.aload_n 0, 1) := by decide +kernel
theorem dX8_function_140 : decode cX8_function 140 = .ok (.getfield 203, 3) := by decide +kernel
theorem dX8_function_143 : decode cX8_function 143 = .ok (.aload_n 0, 1) := by decide +kernel
theorem dX8_function_144 : decode cX8_function 144 = .ok (.iload_n 2, 1) := by decide +kernel
theorem dX8_function_145 : decode cX8_function 145 = .ok (.invokevirtual 193, 3) := by decide +kernel
theorem dX8_function_148 : decode cX8_function 148 = .ok (.iastore, 1) := by decide +kernel
theorem dX8_function_149 : decode cX8_function 149 = .ok (.aload_n 0, 1) := by decide +kernel
theorem dX8_function_150 : decode cX8_function 150 = .ok (.getfield 21, 3) := by decide +kernel
theorem dX8_function_153 : decode cX8_function 153 = .ok (.invokevirtual 251, 3) := by decide +kernel
theorem dX8_function_156 : decode cX8_function 156 = .ok (.return_, 1) := by decide +kernel
theorem dX8_statements_0 : decode cX8_statements 0 = .ok (.aload_n 0, 1) := by decide +kernel
theorem dX8_statements_1 : decode cX8_statements 1 = .ok (.getfield 46, 3) := by decide +kernel
theorem dX8_statements_4 : decode cX8_statements 4 = .ok (.iload_n 1, 1) := by decide +kernel
theorem dX8_statements_5 : decode cX8_statements 5 = .ok (.invokevirtual 91, 3) := by decide +kernel
theorem dX8_statements_8 : decode cX8_statements 8 = .ok (.istore_n 2, 1) := by decide +kernel
theorem dX8_statements_9 : decode cX8_statements 9 = .ok (.iload_n 2, 1) := by decide +kernel
theorem dX8_statements_10 : decode cX8_statements 10 = .ok (.iconst (-1), 1) := by decide +kernel
theorem dX8_statements_11 : decode cX8_statements 11 = .ok (.if_icmp .eq 20, 3) := by decide +kernel
theorem dX8_statements_14 : decode cX8_statements 14 = .ok (.aload_n 0, 1) := by decide +kernel
theorem dX8_statements_15 : decode cX8_statements 15 = .ok (.iload_n 2, 1) := by decide +kernel
theorem dX8_statements_16 : decode cX8_statements 16 = .ok (.invokevirtual 254, 3) := by decide +kernel
theorem dX8_statements_19 : decode cX8_statements 19 = .ok (.aload_n 0, 1) := by decide +kernel
theorem dX8_statements_20 : decode cX8_statements 20 = .ok (.getfield 46, 3) := by decide +kernel
theorem dX8_statements_23 : decode cX8_statements 23 = .ok (.iload_n 2, 1) := by decide +kernel
theorem dX8_statements_24 : decode cX8_statements 24 = .ok (.invokevirtual 103, 3) := by decide +kernel
theorem dX8_statements_27 : decode cX8_statements 27 = .ok (.istore_n 2, 1) := by decide +kernel
theorem dX8_statements_28 : decode cX8_statements 28 = .ok (.goto (-19), 3) := by decide +kernel
theorem dX8_statements_31 : decode cX8_statements 31 = .ok (.return_, 1) := by decide +kernel
theorem dX8_statement_0 : decode cX8_statement 0 = .ok (.aload_n 0, 1) := by decide +kernel
theorem dX8_statement_1 : decode cX8_statement 1 = .ok (.getfield 46, 3) := by decide +kernel
theorem dX8_statement_4 : decode cX8_statement 4 = .ok (.iload_n 1, 1) := by decide +kernel
theorem dX8_statement_5 : decode cX8_statement 5 = .ok (.invokevirtual 91, 3) := by decide +kernel
theorem dX8_statement_8 : decode cX8_statement 8 = .ok (.istore_n 2, 1) := by decide +kernel
theorem dX8_statement_9 : decode cX8_statement 9 = .ok (.aload_n 0, 1) := by decide +kernel
theorem dX8_statement_10 : decode cX8_statement 10 = .ok (.getfield 46, 3) := by decide +kernel
theorem dX8_statement_13 : decode cX8_statement 13 = .ok (.iload_n 1, 1) := by decide +kernel
theorem dX8_statement_14 : decode cX8_statement 14 = .ok (.invokevirtual 97, 3) := by decide +kernel
theorem dX8_statement_17 : decode cX8_statement 17 = .ok (.tableswitch 215 6 17 #[85, 215, 215, 215, 63, 215, 93, 101, 159, 179, 199, 207], 63) := by decide +kernel
theorem dX8_statement_80 : decode cX8_statement 80 = .ok (.aload_n 0, 1) := by decide +kernel
theorem dX8_statement_81 : decode cX8_statement 81 = .ok (.getfield 21, 3) := by decide +kernel
theorem dX8_statement_84 : decode cX8_statement 84 = .ok (.invokevirtual 242, 3) := by decide +kernel
theorem dX8_statement_87 : decode cX8_statement 87 = .ok (.aload_n 0, 1) := by decide +kernel
theorem dX8_statement_88 : decode cX8_statement 88 = .ok (.iload_n 1, 1) := by decide +kernel
theorem dX8_statement_89 : decode cX8_statement 89 = .ok (.invokevirtual 248, 3) := by decide +kernel
theorem dX8_statement_92 : decode cX8_statement 92 = .ok (.aload_n 0, 1) := by decide +kernel
theorem dX8_statement_93 : decode cX8_statement 93 = .ok (.getfield 21, 3) := by decide +kernel
theorem dX8_statement_96 : decode cX8_statement 96 = .ok (.invokevirtual 251, 3) := by decide +kernel
theorem dX8_statement_99 : decode cX8_statement 99 = .ok (.goto 138, 3) := by decide +kernel
theorem dX8_statement_102 : decode cX8_statement 102 = .ok (.aload_n 0, 1) := by decide +kernel
theorem dX8_statement_103 : decode cX8_statement 103 = .ok (.iload_n 1, 1) := by decide +kernel
theorem dX8_statement_104 : decode cX8_statement 104 = .ok (.invokevirtual 206, 3) := by decide +kernel
theorem dX8_statement_107 : decode cX8_statement 107 = .ok (.goto 130, 3) := by decide +kernel
theorem dX8_statement_110 : decode cX8_statement 110 = .ok (.aload_n 0, 1) := by decide +kernel
theorem dX8_statement_111 : decode cX8_statement 111 = .ok (.iload_n 2, 1) := by decide +kernel
theorem dX8_statement_112 : decode cX8_statement 112 = .ok (.invokevirtual 257, 3) := by decide +kernel
theorem dX8_statement_115 : decode cX8_statement 115 = .ok (.goto 122, 3) := by decide +kernel
theorem dX8_statement_118 : decode cX8_statement 118 = .ok (.aload_n 0, 1) := by decide +kernel
theorem dX8_statement_119 : decode cX8_statement 119 = .ok (.iload_n 2, 1) := by decide +kernel
theorem dX8_statement_120 : decode cX8_statement 120 = .ok (.invokevirtual 228, 3) := by decide +kernel
theorem dX8_statement_123 : decode cX8_statement 123 = .ok (.aload_n 0, 1) := by decide +kernel
theorem dX8_statement_124 : decode cX8_statement 124 = .ok (.aload_n 0, 1) := by decide +kernel
theorem dX8_statement_125 : decode cX8_statement 125 = .ok (.getfield 46, 3) := by decide +kernel
theorem dX8_statement_128 : decode cX8_statement 128 = .ok (.iload_n 2, 1) := by decide +kernel
theorem dX8_statement_129 : decode cX8_statement 129 = .ok (.invokevirtual 103, 3) := by decide +kernel
theorem dX8_statement_132 : decode cX8_statement 132 = .ok (.invokevirtual 254, 3) := by decide +kernel
theorem dX8_statement_135 : decode cX8_statement 135 = .ok (.aload_n 0, 1) := by decide +kernel
theorem dX8_statement_136 : decode cX8_statement 136 = .ok (.getfield 46, 3) := by decide +kernel
theorem dX8_statement_139 : decode cX8_statement 139 = .ok (.aload_n 0, 1) := by decide +kernel
theorem dX8_statement_140 : decode cX8_statement 140 = .ok (.getfield 46, 3) := by decide +kernel
theorem dX8_statement_143 : decode cX8_statement 143 = .ok (.iload_n 2, 1) := by decide +kernel
theorem dX8_statement_144 : decode cX8_statement 144 = .ok (.invokevirtual 103, 3) := by decide +kernel
theorem dX8_statement_147 : decode cX8_statement 147 = .ok (.invokevirtual 103, 3) := by decide +kernel
theorem dX8_statement_150 : decode cX8_statement 150 = .ok (.iconst (-1), 1) := by decide +kernel
theorem dX8_statement_151 : decode cX8_statement 151 = .ok (.if_icmp .eq 86, 3) := by decide +kernel
theorem dX8_statement_154 : decode cX8_statement 154 = .ok (.aload_n 0, 1) := by decide +kernel
theorem dX8_statement_155 : decode cX8_statement 155 = .ok (.aload_n 0, 1) := by decide +kernel
theorem dX8_statement_156 : decode cX8_statement 156 = .ok (.getfield 46, 3) := by decide +kernel
theorem dX8_statement_159 : decode cX8_statement 159 = .ok (.aload_n 0, 1) := by decide +kernel
theorem dX8_statement_160 : decode cX8_statement 160 = .ok (.getfield 46, 3) := by decide +kernel
theorem dX8_statement_163 : decode cX8_statement 163 = .ok (.iload_n 2, 1) := by decide +kernel
theorem dX8_statement_164 : decode cX8_statement 164 = .ok (.invokevirtual 103, 3) := by decide +kernel
theorem dX8_statement_167 : decode cX8_statement 167 = .ok (.invokevirtual 103, 3) := by decide +kernel
theorem dX8_statement_170 : decode cX8_statement 170 = .ok (.invokevirtual 254, 3) := by decide +kernel
theorem dX8_statement_173 : decode cX8_statement 173 = .ok (.goto 64, 3) := by decide +kernel
theorem dX8_statement_176 : decode cX8_statement 176 = .ok (.aload_n 0, 1) := by decide +kernel
theorem dX8_statement_177 : decode cX8_statement 177 = .ok (.iload_n 2, 1) := by decide +kernel
theorem dX8_statement_178 : decode cX8_statement 178 = .ok (.invokevirtual 228, 3) := by decide +kernel
theorem dX8_statement_181 : decode cX8_statement 181 = .ok (.aload_n 0, 1) := by decide +kernel
theorem dX8_statement_182 : decode cX8_statement 182 = .ok (.aload_n 0, 1) := by decide +kernel
theorem dX8_statement_183 : decode cX8_statement 183 = .ok (.getfield 46, 3) := by decide +kernel
theorem dX8_statement_186 : decode cX8_statement 186 = .ok (.iload_n 2, 1) := by decide +kernel
theorem dX8_statement_187 : decode cX8_statement 187 = .ok (.invokevirtual 103, 3) := by decide +kernel
theorem dX8_statement_190 : decode cX8_statement 190 = .ok (.invokevirtual 260, 3) := by decide +kernel
theorem dX8_statement_193 : decode cX8_statement 193 = .ok (.goto 44, 3) := by decide +kernel
theorem dX8_statement_196 : decode cX8_statement 196 = .ok (.aload_n 0, 1) := by decide +kernel
theorem dX8_statement_197 : decode cX8_statement 197 = .ok (.iload_n 2, 1) := by decide +kernel
theorem dX8_statement_198 : decode cX8_statement 198 = .ok (.invokevirtual 260, 3) := by decide +kernel
theorem dX8_statement_201 : decode cX8_statement 201 = .ok (.aload_n 0, 1) := by decide +kernel
theorem dX8_statement_202 : decode cX8_statement 202 = .ok (.aload_n 0, 1) := by decide +kernel
theorem dX8_statement_203 : decode cX8_statement 203 = .ok (.getfield 46, 3) := by decide +kernel
theorem dX8_statement_206 : decode cX8_statement 206 = .ok (.iload_n 2, 1) := by decide +kernel
theorem dX8_statement_207 : decode cX8_statement 207 = .ok (.invokevirtual 103, 3) := by decide +kernel
theorem dX8_statement_210 : decode cX8_statement 210 = .ok (.invokevirtual 228, 3) := by decide +kernel
theorem dX8_statement_213 : decode cX8_statement 213 = .ok (.goto 24, 3) := by decide +kernel
theorem dX8_statement_216 : decode cX8_statement 216 = .ok (.aload_n 0, 1) := by decide +kernel
theorem dX8_statement_217 : decode cX8_statement 217 = .ok (.iload_n 2, 1) := by decide +kernel
theorem dX8_statement_218 : decode cX8_statement 218 = .ok (.invokevirtual 263, 3) := by decide +kernel
theorem dX8_statement_221 : decode cX8_statement 221 = .ok (.goto 16, 3) := by decide +kernel
theorem dX8_statement_224 : decode cX8_statement 224 = .ok (.aload_n 0, 1) := by decide +kernel
theorem dX8_statement_225 : decode cX8_statement 225 = .ok (.iload_n 1, 1) := by decide +kernel
theorem dX8_statement_226 : decode cX8_statement 226 = .ok (.invokevirtual 266, 3) := by decide +kernel
theorem dX8_statement_229 : decode cX8_statement 229 = .ok (.goto 8, 3) := by decide +kernel
theorem dX8_statement_232 : decode cX8_statement 232 = .ok (.aload_n 0, 1) := by decide +kernel
theorem dX8_statement_233 : decode cX8_statement 233 = .ok (.iload_n 1, 1) := by decide +kernel
theorem dX8_statement_234 : decode cX8_statement 234 = .ok (.invokevirtual 269, 3) := by decide +kernel
theorem dX8_statement_237 : decode cX8_statement 237 = .ok (.return_, 1) := by decide +kernel
theorem dX8_anything_0 : decode cX8_anything 0 = .ok (.aload_n 0, 1) := by decide +kernel
theorem dX8_anything_1 : decode cX8_anything 1 = .ok (.iload_n 1, 1) := by decide +kernel
theorem dX8_anything_2 : decode cX8_anything 2 = .ok (.invokevirtual 276, 3) := by decide +kernel
theorem dX8_anything_5 : decode cX8_anything 5 = .ok (.istore_n 2, 1) := by decide +kernel
theorem dX8_anything_6 : decode cX8_anything 6 = .ok (.iload_n 2, 1) := by decide +kernel
theorem dX8_anything_7 : decode cX8_anything 7 = .ok (.iconst 1, 1) := by decide +kernel
theorem dX8_anything_8 : decode cX8_anything 8 = .ok (.if_icmp .eq 8, 3) := by decide +kernel
theorem dX8_anything_11 : decode cX8_anything 11 = .ok (.iload_n 2, 1) := by decide +kernel
theorem dX8_anything_12 : decode cX8_anything 12 = .ok (.iconst 2, 1) := by decide +kernel
theorem dX8_anything_13 : decode cX8_anything 13 = .ok (.if_icmp .ne 19, 3) := by decide +kernel
theorem dX8_anything_16 : decode cX8_anything 16 = .ok (.aload_n 0, 1) := by decide +kernel
theorem dX8_anything_17 : decode cX8_anything 17 = .ok (.getfield 12, 3) := by decide +kernel
theorem dX8_anything_20 : decode cX8_anything 20 = .ok (.iconst 3, 1) := by decide +kernel
theorem dX8_anything_21 : decode cX8_anything 21 = .ok (.aload_n 0, 1) := by decide +kernel
theorem dX8_anything_22 : decode cX8_anything 22 = .ok (.getfield 46, 3) := by decide +kernel
theorem dX8_anything_25 : decode cX8_anything 25 = .ok (.iload_n 1, 1) := by decide +kernel
theorem dX8_anything_26 : decode cX8_anything 26 = .ok (.invokevirtual 149, 3) := by decide +kernel
theorem dX8_anything_29 : decode cX8_anything 29 = .ok (.invokevirtual 152, 3) := by decide +kernel
theorem dX8_anything_32 : decode cX8_anything 32 = .ok (.return_, 1) := by decide +kernel
theorem dX8_body_0 : decode cX8_body 0 = .ok (.aload_n 0, 1) := by decide +kernel
theorem dX8_body_1 : decode cX8_body 1 = .ok (.dup, 1) := by decide +kernel
theorem dX8_body_2 : decode cX8_body 2 = .ok (.getfield 236, 3) := by decide +kernel
theorem dX8_body_5 : decode cX8_body 5 = .ok (.iconst 1, 1) := by decide +kernel
theorem dX8_body_6 : decode cX8_body 6 = .ok (.iadd, 1) := by decide +kernel
theorem dX8_body_7 : decode cX8_body 7 = .ok (.putfield 236, 3) := by decide +kernel
theorem dX8_body_10 : decode cX8_body 10 = .ok (.aload_n 0, 1) := by decide +kernel
theorem dX8_body_11 : decode cX8_body 11 = .ok (.dup, 1) := by decide +kernel
theorem dX8_body_12 : decode cX8_body 12 = .ok (.getfield 239, 3) := by decide +kernel
theorem dX8_body_15 : decode cX8_body 15 = .ok (.iconst 1, 1) := by decide +kernel
theorem dX8_body_16 : decode cX8_body 16 = .ok (.iadd, 1) := by decide +kernel
theorem dX8_body_17 : decode cX8_body 17 = .ok (.putfield 239, 3) := by decide +kernel
theorem dX8_body_20 : decode cX8_body 20 = .ok (.aload_n 0, 1) := by decide +kernel
theorem dX8_body_21 : decode cX8_body 21 = .ok (.iload_n 1, 1) := by decide +kernel
theorem dX8_body_22 : decode cX8_body 22 = .ok (.invokevirtual 254, 3) := by decide +kernel
theorem dX8_body_25 : decode cX8_body 25 = .ok (.aload_n 0, 1) := by decide +kernel
theorem dX8_body_26 : decode cX8_body 26 = .ok (.dup, 1) := by decide +kernel
theorem dX8_body_27 : decode cX8_body 27 = .ok (.getfield 236, 3) := by decide +kernel
theorem dX8_body_30 : decode cX8_body 30 = .ok (.iconst 1, 1) := by decide +kernel
theorem dX8_body_31 : decode cX8_body 31 = .ok (.isub, 1) := by decide +kernel
theorem dX8_body_32 : decode cX8_body 32 = .ok (.putfield 236, 3) := by decide +kernel
theorem dX8_body_35 : decode cX8_body 35 = .ok (.aload_n 0, 1) := by decide +kernel
theorem dX8_body_36 : decode cX8_body 36 = .ok (.dup, 1) := by decide +kernel
theorem dX8_body_37 : decode cX8_body 37 = .ok (.getfield 239, 3) := by decide +kernel
theorem dX8_body_40 : decode cX8_body 40 = .ok (.iconst 1, 1) := by decide +kernel
theorem dX8_body_41 : decode cX8_body 41 = .ok (.isub, 1) := by decide +kernel
theorem dX8_body_42 : decode cX8_body 42 = .ok (.putfield 239, 3) := by decide +kernel
theorem dX8_body_45 : decode cX8_body 45 = .ok (.return_, 1) := by decide +kernel
theorem dX8_counting_0 : decode cX8_counting 0 = .ok (.aload_n 0, 1) := by decide +kernel
theorem dX8_counting_1 : decode cX8_counting 1 = .ok (.getfield 21, 3) := by decide +kernel
theorem dX8_counting_4 : decode cX8_counting 4 = .ok (.invokevirtual 242, 3) := by decide +kernel
theorem dX8_counting_7 : decode cX8_counting 7 = .ok (.aload_n 0, 1) := by decide +kernel
theorem dX8_counting_8 : decode cX8_counting 8 = .ok (.getfield 46, 3) := by decide +kernel
theorem dX8_counting_11 : decode cX8_counting 11 = .ok (.iload_n 1, 1) := by decide +kernel
theorem dX8_counting_12 : decode cX8_counting 12 = .ok (.invokevirtual 103, 3) := by decide +kernel
theorem dX8_counting_15 : decode cX8_counting 15 = .ok (.istore_n 2, 1) := by decide +kernel
theorem dX8_counting_16 : decode cX8_counting 16 = .ok (.aload_n 0, 1) := by decide +kernel
theorem dX8_counting_17 : decode cX8_counting 17 = .ok (.getfield 46, 3) := by decide +kernel
theorem dX8_counting_20 : decode cX8_counting 20 = .ok (.iload_n 2, 1) := by decide +kernel
theorem dX8_counting_21 : decode cX8_counting 21 = .ok (.invokevirtual 103, 3) := by decide +kernel
theorem dX8_counting_24 : decode cX8_counting 24 = .ok (.istore_n 3, 1) := by decide +kernel
theorem dX8_counting_25 : decode cX8_counting 25 = .ok (.aload_n 0, 1) := by decide +kernel
theorem dX8_counting_26 : decode cX8_counting 26 = .ok (.getfield 46, 3) := by decide +kernel
theorem dX8_counting_29 : decode cX8_counting 29 = .ok (.iload_n 1, 1) := by decide +kernel
theorem dX8_counting_30 : decode cX8_counting 30 = .ok (.invokevirtual 97, 3) := by decide +kernel
theorem dX8_counting_33 : decode cX8_counting 33 = .ok (.bipush 6, 2) := by decide +kernel
theorem dX8_counting_35 : decode cX8_counting 35 = .ok (.if_icmp .ne 11, 3) := by decide +kernel
theorem dX8_counting_38 : decode cX8_counting 38 = .ok (.aload_n 0, 1) := by decide +kernel
theorem dX8_counting_39 : decode cX8_counting 39 = .ok (.iload_n 1, 1) := by decide +kernel
theorem dX8_counting_40 : decode cX8_counting 40 = .ok (.invokevirtual 206, 3) := by decide +kernel
theorem dX8_counting_43 : decode cX8_counting 43 = .ok (.goto 21, 3) := by decide +kernel
theorem dX8_counting_46 : decode cX8_counting 46 = .ok (.aload_n 0, 1) := by decide +kernel
theorem dX8_counting_47 : decode cX8_counting 47 = .ok (.getfield 46, 3) := by decide +kernel
theorem dX8_counting_50 : decode cX8_counting 50 = .ok (.iload_n 1, 1) := by decide +kernel
theorem dX8_counting_51 : decode cX8_counting 51 = .ok (.invokevirtual 97, 3) := by decide +kernel
theorem dX8_counting_54 : decode cX8_counting 54 = .ok (.bipush 11, 2) := by decide +kernel
theorem dX8_counting_56 : decode cX8_counting 56 = .ok (.if_icmp .eq 8, 3) := by decide +kernel
theorem dX8_counting_59 : decode cX8_counting 59 = .ok (.aload_n 0, 1) := by decide +kernel
theorem dX8_counting_60 : decode cX8_counting 60 = .ok (.iload_n 1, 1) := by decide +kernel
theorem dX8_counting_61 : decode cX8_counting 61 = .ok (.invokevirtual 257, 3) := by decide +kernel
theorem dX8_counting_64 : decode cX8_counting 64 = .ok (.aload_n 0, 1) := by decide +kernel
theorem dX8_counting_65 : decode cX8_counting 65 = .ok (.getfield 46, 3) := by decide +kernel
theorem dX8_counting_68 : decode cX8_counting 68 = .ok (.iload_n 2, 1) := by decide +kernel
theorem dX8_counting_69 : decode cX8_counting 69 = .ok (.invokevirtual 97, 3) := by decide +kernel
theorem dX8_counting_72 : decode cX8_counting 72 = .ok (.bipush 11, 2) := by decide +kernel
theorem dX8_counting_74 : decode cX8_counting 74 = .ok (.if_icmp .eq 8, 3) := by decide +kernel
theorem dX8_counting_77 : decode cX8_counting 77 = .ok (.aload_n 0, 1) := by decide +kernel
theorem dX8_counting_78 : decode cX8_counting 78 = .ok (.iload_n 2, 1) := by decide +kernel
theorem dX8_counting_79 : decode cX8_counting 79 = .ok (.invokevirtual 228, 3) := by decide +kernel
theorem dX8_counting_82 : decode cX8_counting 82 = .ok (.aload_n 0, 1) := by decide +kernel
theorem dX8_counting_83 : decode cX8_counting 83 = .ok (.getfield 46, 3) := by decide +kernel
theorem dX8_counting_86 : decode cX8_counting 86 = .ok (.iload_n 3, 1) := by decide +kernel
theorem dX8_counting_87 : decode cX8_counting 87 = .ok (.invokevirtual 97, 3) := by decide +kernel
theorem dX8_counting_90 : decode cX8_counting 90 = .ok (.bipush 11, 2) := by decide +kernel
theorem dX8_counting_92 : decode cX8_counting 92 = .ok (.if_icmp .eq 8, 3) := by decide +kernel
theorem dX8_counting_95 : decode cX8_counting 95 = .ok (.aload_n 0, 1) := by decide +kernel
theorem dX8_counting_96 : decode cX8_counting 96 = .ok (.iload_n 3, 1) := by decide +kernel
theorem dX8_counting_97 : decode cX8_counting 97 = .ok (.invokevirtual 257, 3) := by decide +kernel
theorem dX8_counting_100 : decode cX8_counting 100 = .ok (.aload_n 0, 1) := by decide +kernel
theorem dX8_counting_101 : decode cX8_counting 101 = .ok (.aload_n 0, 1) := by decide +kernel
theorem dX8_counting_102 : decode cX8_counting 102 = .ok (.getfield 46, 3) := by decide +kernel
theorem dX8_counting_105 : decode cX8_counting 105 = .ok (.iload_n 3, 1) := by decide +kernel
theorem dX8_counting_106 : decode cX8_counting 106 = .ok (.invokevirtual 103, 3) := by decide +kernel
theorem dX8_counting_109 : decode cX8_counting 109 = .ok (.invokevirtual 260, 3) := by decide +kernel
theorem dX8_counting_112 : decode cX8_counting 112 = .ok (.aload_n 0, 1) := by decide +kernel
theorem dX8_counting_113 : decode cX8_counting 113 = .ok (.getfield 21, 3) := by decide +kernel
theorem dX8_counting_116 : decode cX8_counting 116 = .ok (.invokevirtual 251, 3) := by decide +kernel
theorem dX8_counting_119 : decode cX8_counting 119 = .ok (.return_, 1) := by decide +kernel
theorem dX8_switching_0 : decode cX8_switching 0 = .ok (.aload_n 0, 1) := by decide +kernel
theorem dX8_switching_1 : decode cX8_switching 1 = .ok (.aload_n 0, 1) := by decide +kernel
theorem dX8_switching_2 : decode cX8_switching 2 = .ok (.getfield 46, 3) := by decide +kernel
theorem dX8_switching_5 : decode cX8_switching 5 = .ok (.iload_n 1, 1) := by decide +kernel
theorem dX8_switching_6 : decode cX8_switching 6 = .ok (.invokevirtual 91, 3) := by decide +kernel
theorem dX8_switching_9 : decode cX8_switching 9 = .ok (.invokevirtual 228, 3) := by decide +kernel
theorem dX8_switching_12 : decode cX8_switching 12 = .ok (.aload_n 0, 1) := by decide +kernel
theorem dX8_switching_13 : decode cX8_switching 13 = .ok (.getfield 21, 3) := by decide +kernel
theorem dX8_switching_16 : decode cX8_switching 16 = .ok (.invokevirtual 242, 3) := by decide +kernel
theorem dX8_switching_19 : decode cX8_switching 19 = .ok (.aload_n 0, 1) := by decide +kernel
theorem dX8_switching_20 : decode cX8_switching 20 = .ok (.dup, 1) := by decide +kernel
theorem dX8_switching_21 : decode cX8_switching 21 = .ok (.getfield 239, 3) := by decide +kernel
theorem dX8_switching_24 : decode cX8_switching 24 = .ok (.iconst 1, 1) := by decide +kernel
theorem dX8_switching_25 : decode cX8_switching 25 = .ok (.iadd, 1) := by decide +kernel
theorem dX8_switching_26 : decode cX8_switching 26 = .ok (.putfield 239, 3) := by decide +kernel
theorem dX8_switching_29 : decode cX8_switching 29 = .ok (.aload_n 0, 1) := by decide +kernel
theorem dX8_switching_30 : decode cX8_switching 30 = .ok (.getfield 46, 3) := by decide +kernel
theorem dX8_switching_33 : decode cX8_switching 33 = .ok (.aload_n 0, 1) := by decide +kernel
theorem dX8_switching_34 : decode cX8_switching 34 = .ok (.getfield 46, 3) := by decide +kernel
theorem dX8_switching_37 : decode cX8_switching 37 = .ok (.iload_n 1, 1) := by decide +kernel
theorem dX8_switching_38 : decode cX8_switching 38 = .ok (.invokevirtual 91, 3) := by decide +kernel
theorem dX8_switching_41 : decode cX8_switching 41 = .ok (.invokevirtual 103, 3) := by decide +kernel
theorem dX8_switching_44 : decode cX8_switching 44 = .ok (.istore_n 2, 1) := by decide +kernel
theorem dX8_switching_45 : decode cX8_switching 45 = .ok (.iload_n 2, 1) := by decide +kernel
theorem dX8_switching_46 : decode cX8_switching 46 = .ok (.iconst (-1), 1) := by decide +kernel
theorem dX8_switching_47 : decode cX8_switching 47 = .ok (.if_icmp .eq 135, 3) := by decide +kernel
theorem dX8_switching_50 : decode cX8_switching 50 = .ok (.aload_n 0, 1) := by decide +kernel
theorem dX8_switching_51 : decode cX8_switching 51 = .ok (.getfield 46, 3) := by decide +kernel
theorem dX8_switching_54 : decode cX8_switching 54 = .ok (.iload_n 2, 1) := by decide +kernel
theorem dX8_switching_55 : decode cX8_switching 55 = .ok (.invokevirtual 97, 3) := by decide +kernel
theorem dX8_switching_58 : decode cX8_switching 58 = .ok (.istore_n 3, 1) := by decide +kernel
theorem dX8_switching_59 : decode cX8_switching 59 = .ok (.iload_n 3, 1) := by decide +kernel
theorem dX8_switching_60 : decode cX8_switching 60 = .ok (.bipush 18, 2) := by decide +kernel
theorem dX8_switching_62 : decode cX8_switching 62 = .ok (.if_icmp .eq 9, 3) := by decide +kernel
theorem dX8_switching_65 : decode cX8_switching 65 = .ok (.iload_n 3, 1) := by decide +kernel
theorem dX8_switching_66 : decode cX8_switching 66 = .ok (.bipush 19, 2) := by decide +kernel
theorem dX8_switching_68 : decode cX8_switching 68 = .ok (.if_icmp .ne 97, 3) := by decide +kernel
theorem dX8_switching_71 : decode cX8_switching 71 = .ok (.iload_n 3, 1) := by decide +kernel
theorem dX8_switching_72 : decode cX8_switching 72 = .ok (.bipush 19, 2) := by decide +kernel
theorem dX8_switching_74 : decode cX8_switching 74 = .ok (.if_icmp .eq 18, 3) := by decide +kernel
theorem dX8_switching_77 : decode cX8_switching 77 = .ok (.aload_n 0, 1) := by decide +kernel
theorem dX8_switching_78 : decode cX8_switching 78 = .ok (.aload_n 0, 1) := by decide +kernel
theorem dX8_switching_79 : decode cX8_switching 79 = .ok (.getfield 46, 3) := by decide +kernel
theorem dX8_switching_82 : decode cX8_switching 82 = .ok (.iload_n 2, 1) := by decide +kernel
theorem dX8_switching_83 : decode cX8_switching 83 = .ok (.invokevirtual 91, 3) := by decide +kernel
theorem dX8_switching_86 : decode cX8_switching 86 = .ok (.invokevirtual 196, 3) := by decide +kernel
theorem dX8_switching_89 : decode cX8_switching 89 = .ok (.ifCond .eq 7, 3) := by decide +kernel
theorem dX8_switching_92 : decode cX8_switching 92 = .ok (.iconst 1, 1) := by decide +kernel
theorem dX8_switching_93 : decode cX8_switching 93 = .ok (.goto 4, 3) := by decide +kernel
theorem dX8_switching_96 : decode cX8_switching 96 = .ok (.iconst 0, 1) := by decide +kernel
theorem dX8_switching_97 : decode cX8_switching 97 = .ok (.istore 4, 2) := by decide +kernel
theorem dX8_switching_99 : decode cX8_switching 99 = .ok (.aload_n 0, 1) := by decide +kernel
theorem dX8_switching_100 : decode cX8_switching 100 = .ok (.getfield 46, 3) := by decide +kernel
theorem dX8_switching_103 : decode cX8_switching 103 = .ok (.iload_n 2, 1) := by decide +kernel
theorem dX8_switching_104 : decode cX8_switching 104 = .ok (.iload 4, 2) := by decide +kernel
theorem dX8_switching_106 : decode cX8_switching 106 = .ok (.ifCond .eq 7, 3) := by decide +kernel
theorem dX8_switching_109 : decode cX8_switching 109 = .ok (.iconst 1, 1) := by decide +kernel
theorem dX8_switching_110 : decode cX8_switching 110 = .ok (.goto 4, 3) := by decide +kernel
theorem dX8_switching_113 : decode cX8_switching 113 = .ok (.iconst 0, 1) := by decide +kernel
theorem dX8_switching_114 : decode cX8_switching 114 = .ok (.invokevirtual 156, 3) := by decide +kernel
theorem dX8_switching_117 : decode cX8_switching 117 = .ok (.iload 4, 2) := by decide +kernel
theorem dX8_switching_119 : decode cX8_switching 119 = .ok (.ifCond .eq 43, 3) := by decide +kernel
theorem dX8_switching_122 : decode cX8_switching 122 = .ok (.aload_n 0, 1) := by decide +kernel
theorem dX8_switching_123 : decode cX8_switching 123 = .ok (.aload_n 0, 1) := by decide +kernel
theorem dX8_switching_124 : decode cX8_switching 124 = .ok (.getfield 46, 3) := by decide +kernel
theorem dX8_switching_127 : decode cX8_switching 127 = .ok (.aload_n 0, 1) := by decide +kernel
theorem dX8_switching_128 : decode cX8_switching 128 = .ok (.getfield 46, 3) := by decide +kernel
theorem dX8_switching_131 : decode cX8_switching 131 = .ok (.iload_n 1, 1) := by decide +kernel
theorem dX8_switching_132 : decode cX8_switching 132 = .ok (.invokevirtual 91, 3) := by decide +kernel
theorem dX8_switching_135 : decode cX8_switching 135 = .ok (.invokevirtual 103, 3) := by decide +kernel
theorem dX8_switching_138 : decode cX8_switching 138 = .ok (.iload_n 2, 1) := by decide +kernel
theorem dX8_switching_139 : decode cX8_switching 139 = .ok (.invokevirtual 272, 3) := by decide +kernel
theorem dX8_switching_142 : decode cX8_switching 142 = .ok (.ifCond .eq 20, 3) := by decide +kernel
theorem dX8_switching_145 : decode cX8_switching 145 = .ok (.aload_n 0, 1) := by decide +kernel
theorem dX8_switching_146 : decode cX8_switching 146 = .ok (.getfield 12, 3) := by decide +kernel
theorem dX8_switching_149 : decode cX8_switching 149 = .ok (.bipush 10, 2) := by decide +kernel
theorem dX8_switching_151 : decode cX8_switching 151 = .ok (.aload_n 0, 1) := by decide +kernel
theorem dX8_switching_152 : decode cX8_switching 152 = .ok (.getfield 46, 3) := by decide +kernel
theorem dX8_switching_155 : decode cX8_switching 155 = .ok (.iload_n 2, 1) := by decide +kernel
theorem dX8_switching_156 : decode cX8_switching 156 = .ok (.invokevirtual 149, 3) := by decide +kernel
theorem dX8_switching_159 : decode cX8_switching 159 = .ok (.invokevirtual 152, 3) := by decide +kernel
theorem dX8_switching_162 : decode cX8_switching 162 = .ok (.goto 8, 3) := by decide +kernel
theorem dX8_switching_165 : decode cX8_switching 165 = .ok (.aload_n 0, 1) := by decide +kernel
theorem dX8_switching_166 : decode cX8_switching 166 = .ok (.iload_n 2, 1) := by decide +kernel
theorem dX8_switching_167 : decode cX8_switching 167 = .ok (.invokevirtual 254, 3) := by decide +kernel
theorem dX8_switching_170 : decode cX8_switching 170 = .ok (.aload_n 0, 1) := by decide +kernel
theorem dX8_switching_171 : decode cX8_switching 171 = .ok (.getfield 46, 3) := by decide +kernel
theorem dX8_switching_174 : decode cX8_switching 174 = .ok (.iload_n 2, 1) := by decide +kernel
theorem dX8_switching_175 : decode cX8_switching 175 = .ok (.invokevirtual 103, 3) := by decide +kernel
theorem dX8_switching_178 : decode cX8_switching 178 = .ok (.istore_n 2, 1) := by decide +kernel
theorem dX8_switching_179 : decode cX8_switching 179 = .ok (.goto (-134), 3) := by decide +kernel
theorem dX8_switching_182 : decode cX8_switching 182 = .ok (.aload_n 0, 1) := by decide +kernel
theorem dX8_switching_183 : decode cX8_switching 183 = .ok (.dup, 1) := by decide +kernel
theorem dX8_switching_184 : decode cX8_switching 184 = .ok (.getfield 239, 3) := by decide +kernel
theorem dX8_switching_187 : decode cX8_switching 187 = .ok (.iconst 1, 1) := by decide +kernel
theorem dX8_switching_188 : decode cX8_switching 188 = .ok (.isub, 1) := by decide +kernel
theorem dX8_switching_189 : decode cX8_switching 189 = .ok (.putfield 239, 3) := by decide +kernel
theorem dX8_switching_192 : decode cX8_switching 192 = .ok (.aload_n 0, 1) := by decide +kernel
theorem dX8_switching_193 : decode cX8_switching 193 = .ok (.getfield 21, 3) := by decide +kernel
theorem dX8_switching_196 : decode cX8_switching 196 = .ok (.invokevirtual 251, 3) := by decide +kernel
theorem dX8_switching_199 : decode cX8_switching 199 = .ok (.return_, 1) := by decide +kernel
theorem dX8_isTwice_0 : decode cX8_isTwice 0 = .ok (.iconst 0, 1) := by decide +kernel
theorem dX8_isTwice_1 : decode cX8_isTwice 1 = .ok (.istore_n 3, 1) := by decide +kernel
theorem dX8_isTwice_2 : decode cX8_isTwice 2 = .ok (.aload_n 0, 1) := by decide +kernel
theorem dX8_isTwice_3 : decode cX8_isTwice 3 = .ok (.getfield 46, 3) := by decide +kernel
theorem dX8_isTwice_6 : decode cX8_isTwice 6 = .ok (.iload_n 2, 1) := by decide +kernel
theorem dX8_isTwice_7 : decode cX8_isTwice 7 = .ok (.invokevirtual 97, 3) := by decide +kernel
theorem dX8_isTwice_10 : decode cX8_isTwice 10 = .ok (.bipush 18, 2) := by decide +kernel
theorem dX8_isTwice_12 : decode cX8_isTwice 12 = .ok (.if_icmp .ne 7, 3) := by decide +kernel
theorem dX8_isTwice_15 : decode cX8_isTwice 15 = .ok (.iconst 1, 1) := by decide +kernel
theorem dX8_isTwice_16 : decode cX8_isTwice 16 = .ok (.goto 4, 3) := by decide +kernel
theorem dX8_isTwice_19 : decode cX8_isTwice 19 = .ok (.iconst 0, 1) := by decide +kernel
theorem dX8_isTwice_20 : decode cX8_isTwice 20 = .ok (.istore 4, 2) := by decide +kernel
theorem dX8_isTwice_22 : decode cX8_isTwice 22 = .ok (.iload_n 1, 1) := by decide +kernel
theorem dX8_isTwice_23 : decode cX8_isTwice 23 = .ok (.istore 5, 2) := by decide +kernel
theorem dX8_isTwice_25 : decode cX8_isTwice 25 = .ok (.iload 5, 2) := by decide +kernel
theorem dX8_isTwice_27 : decode cX8_isTwice 27 = .ok (.iload_n 2, 1) := by decide +kernel
theorem dX8_isTwice_28 : decode cX8_isTwice 28 = .ok (.if_icmp .eq 111, 3) := by decide +kernel
theorem dX8_isTwice_31 : decode cX8_isTwice 31 = .ok (.iload_n 3, 1) := by decide +kernel
theorem dX8_isTwice_32 : decode cX8_isTwice 32 = .ok (.ifCond .ne 107, 3) := by decide +kernel
theorem dX8_isTwice_35 : decode cX8_isTwice 35 = .ok (.aload_n 0, 1) := by decide +kernel
theorem dX8_isTwice_36 : decode cX8_isTwice 36 = .ok (.getfield 46, 3) := by decide +kernel
theorem dX8_isTwice_39 : decode cX8_isTwice 39 = .ok (.iload 5, 2) := by decide +kernel
theorem dX8_isTwice_41 : decode cX8_isTwice 41 = .ok (.invokevirtual 97, 3) := by decide +kernel
theorem dX8_isTwice_44 : decode cX8_isTwice 44 = .ok (.aload_n 0, 1) := by decide +kernel
theorem dX8_isTwice_45 : decode cX8_isTwice 45 = .ok (.getfield 46, 3) := by decide +kernel
theorem dX8_isTwice_48 : decode cX8_isTwice 48 = .ok (.iload_n 2, 1) := by decide +kernel
theorem dX8_isTwice_49 : decode cX8_isTwice 49 = .ok (.invokevirtual 97, 3) := by decide +kernel
theorem dX8_isTwice_52 : decode cX8_isTwice 52 = .ok (.if_icmp .ne 20, 3) := by decide +kernel
theorem dX8_isTwice_55 : decode cX8_isTwice 55 = .ok (.aload_n 0, 1) := by decide +kernel
theorem dX8_isTwice_56 : decode cX8_isTwice 56 = .ok (.getfield 46, 3) := by decide +kernel
theorem dX8_isTwice_59 : decode cX8_isTwice 59 = .ok (.iload 5, 2) := by decide +kernel
theorem dX8_isTwice_61 : decode cX8_isTwice 61 = .ok (.invokevirtual 171, 3) := by decide +kernel
theorem dX8_isTwice_64 : decode cX8_isTwice 64 = .ok (.iconst 1, 1) := by decide +kernel
theorem dX8_isTwice_65 : decode cX8_isTwice 65 = .ok (.if_icmp .ne 7, 3) := by decide +kernel
theorem dX8_isTwice_68 : decode cX8_isTwice 68 = .ok (.iconst 1, 1) := by decide +kernel
theorem dX8_isTwice_69 : decode cX8_isTwice 69 = .ok (.goto 4, 3) := by decide +kernel
theorem dX8_isTwice_72 : decode cX8_isTwice 72 = .ok (.iconst 0, 1) := by decide +kernel
theorem dX8_isTwice_73 : decode cX8_isTwice 73 = .ok (.istore 6, 2) := by decide +kernel
theorem dX8_isTwice_75 : decode cX8_isTwice 75 = .ok (.iload 6, 2) := by decide +kernel
theorem dX8_isTwice_77 : decode cX8_isTwice 77 = .ok (.ifCond .eq 46, 3) := by decide +kernel
theorem dX8_isTwice_80 : decode cX8_isTwice 80 = .ok (.iload 4, 2) := by decide +kernel
theorem dX8_isTwice_82 : decode cX8_isTwice 82 = .ok (.ifCond .eq 37, 3) := by decide +kernel
theorem dX8_isTwice_85 : decode cX8_isTwice 85 = .ok (.aload_n 0, 1) := by decide +kernel
theorem dX8_isTwice_86 : decode cX8_isTwice 86 = .ok (.getfield 46, 3) := by decide +kernel
theorem dX8_isTwice_89 : decode cX8_isTwice 89 = .ok (.aload_n 0, 1) := by decide +kernel
theorem dX8_isTwice_90 : decode cX8_isTwice 90 = .ok (.getfield 46, 3) := by decide +kernel
theorem dX8_isTwice_93 : decode cX8_isTwice 93 = .ok (.iload 5, 2) := by decide +kernel
theorem dX8_isTwice_95 : decode cX8_isTwice 95 = .ok (.invokevirtual 91, 3) := by decide +kernel
theorem dX8_isTwice_98 : decode cX8_isTwice 98 = .ok (.invokevirtual 142, 3) := by decide +kernel
theorem dX8_isTwice_101 : decode cX8_isTwice 101 = .ok (.aload_n 0, 1) := by decide +kernel
theorem dX8_isTwice_102 : decode cX8_isTwice 102 = .ok (.getfield 46, 3) := by decide +kernel
theorem dX8_isTwice_105 : decode cX8_isTwice 105 = .ok (.aload_n 0, 1) := by decide +kernel
theorem dX8_isTwice_106 : decode cX8_isTwice 106 = .ok (.getfield 46, 3) := by decide +kernel
theorem dX8_isTwice_109 : decode cX8_isTwice 109 = .ok (.iload_n 2, 1) := by decide +kernel
theorem dX8_isTwice_110 : decode cX8_isTwice 110 = .ok (.invokevirtual 91, 3) := by decide +kernel
theorem dX8_isTwice_113 : decode cX8_isTwice 113 = .ok (.invokevirtual 142, 3) := by decide +kernel
theorem dX8_isTwice_116 : decode cX8_isTwice 116 = .ok (.if_icmp .ne 7, 3) := by decide +kernel
theorem dX8_isTwice_119 : decode cX8_isTwice 119 = .ok (.iconst 1, 1) := by decide +kernel
theorem dX8_isTwice_120 : decode cX8_isTwice 120 = .ok (.goto 4, 3) := by decide +kernel
theorem dX8_isTwice_123 : decode cX8_isTwice 123 = .ok (.iconst 0, 1) := by decide +kernel
theorem dX8_isTwice_124 : decode cX8_isTwice 124 = .ok (.istore_n 3, 1) := by decide +kernel
theorem dX8_isTwice_125 : decode cX8_isTwice 125 = .ok (.aload_n 0, 1) := by decide +kernel
theorem dX8_isTwice_126 : decode cX8_isTwice 126 = .ok (.getfield 46, 3) := by decide +kernel
theorem dX8_isTwice_129 : decode cX8_isTwice 129 = .ok (.iload 5, 2) := by decide +kernel
theorem dX8_isTwice_131 : decode cX8_isTwice 131 = .ok (.invokevirtual 103, 3) := by decide +kernel
theorem dX8_isTwice_134 : decode cX8_isTwice 134 = .ok (.istore 5, 2) := by decide +kernel
theorem dX8_isTwice_136 : decode cX8_isTwice 136 = .ok (.goto (-111), 3) := by decide +kernel
theorem dX8_isTwice_139 : decode cX8_isTwice 139 = .ok (.iload_n 3, 1) := by decide +kernel
theorem dX8_isTwice_140 : decode cX8_isTwice 140 = .ok (.ireturn, 1) := by decide +kernel
theorem dX8_leaving_0 : decode cX8_leaving 0 = .ok (.aload_n 0, 1) := by decide +kernel
theorem dX8_leaving_1 : decode cX8_leaving 1 = .ok (.getfield 46, 3) := by decide +kernel
theorem dX8_leaving_4 : decode cX8_leaving 4 = .ok (.iload_n 1, 1) := by decide +kernel
theorem dX8_leaving_5 : decode cX8_leaving 5 = .ok (.invokevirtual 97, 3) := by decide +kernel
theorem dX8_leaving_8 : decode cX8_leaving 8 = .ok (.istore_n 2, 1) := by decide +kernel
theorem dX8_leaving_9 : decode cX8_leaving 9 = .ok (.iload_n 2, 1) := by decide +kernel
theorem dX8_leaving_10 : decode cX8_leaving 10 = .ok (.bipush 20, 2) := by decide +kernel
theorem dX8_leaving_12 : decode cX8_leaving 12 = .ok (.if_icmp .ne 10, 3) := by decide +kernel
theorem dX8_leaving_15 : decode cX8_leaving 15 = .ok (.aload_n 0, 1) := by decide +kernel
theorem dX8_leaving_16 : decode cX8_leaving 16 = .ok (.getfield 239, 3) := by decide +kernel
theorem dX8_leaving_19 : decode cX8_leaving 19 = .ok (.ifCond .eq 16, 3) := by decide +kernel
theorem dX8_leaving_22 : decode cX8_leaving 22 = .ok (.iload_n 2, 1) := by decide +kernel
theorem dX8_leaving_23 : decode cX8_leaving 23 = .ok (.bipush 21, 2) := by decide +kernel
theorem dX8_leaving_25 : decode cX8_leaving 25 = .ok (.if_icmp .ne 27, 3) := by decide +kernel
theorem dX8_leaving_28 : decode cX8_leaving 28 = .ok (.aload_n 0, 1) := by decide +kernel
theorem dX8_leaving_29 : decode cX8_leaving 29 = .ok (.getfield 236, 3) := by decide +kernel
theorem dX8_leaving_32 : decode cX8_leaving 32 = .ok (.ifCond .ne 20, 3) := by decide +kernel
theorem dX8_leaving_35 : decode cX8_leaving 35 = .ok (.aload_n 0, 1) := by decide +kernel
theorem dX8_leaving_36 : decode cX8_leaving 36 = .ok (.getfield 12, 3) := by decide +kernel
theorem dX8_leaving_39 : decode cX8_leaving 39 = .ok (.bipush 9, 2) := by decide +kernel
theorem dX8_leaving_41 : decode cX8_leaving 41 = .ok (.aload_n 0, 1) := by decide +kernel
theorem dX8_leaving_42 : decode cX8_leaving 42 = .ok (.getfield 46, 3) := by decide +kernel
theorem dX8_leaving_45 : decode cX8_leaving 45 = .ok (.iload_n 1, 1) := by decide +kernel
theorem dX8_leaving_46 : decode cX8_leaving 46 = .ok (.invokevirtual 149, 3) := by decide +kernel
theorem dX8_leaving_49 : decode cX8_leaving 49 = .ok (.invokevirtual 152, 3) := by decide +kernel
theorem dX8_leaving_52 : decode cX8_leaving 52 = .ok (.iload_n 2, 1) := by decide +kernel
theorem dX8_leaving_53 : decode cX8_leaving 53 = .ok (.bipush 22, 2) := by decide +kernel
theorem dX8_leaving_55 : decode cX8_leaving 55 = .ok (.if_icmp .ne 91, 3) := by decide +kernel
theorem dX8_leaving_58 : decode cX8_leaving 58 = .ok (.aload_n 0, 1) := by decide +kernel
theorem dX8_leaving_59 : decode cX8_leaving 59 = .ok (.getfield 46, 3) := by decide +kernel
theorem dX8_leaving_62 : decode cX8_leaving 62 = .ok (.aload_n 0, 1) := by decide +kernel
theorem dX8_leaving_63 : decode cX8_leaving 63 = .ok (.getfield 39, 3) := by decide +kernel
theorem dX8_leaving_66 : decode cX8_leaving 66 = .ok (.aload_n 0, 1) := by decide +kernel
theorem dX8_leaving_67 : decode cX8_leaving 67 = .ok (.getfield 203, 3) := by decide +kernel
theorem dX8_leaving_70 : decode cX8_leaving 70 = .ok (.iaload, 1) := by decide +kernel
theorem dX8_leaving_71 : decode cX8_leaving 71 = .ok (.invokevirtual 168, 3) := by decide +kernel
theorem dX8_leaving_74 : decode cX8_leaving 74 = .ok (.iconst 2, 1) := by decide +kernel
theorem dX8_leaving_75 : decode cX8_leaving 75 = .ok (.if_icmp .ne 7, 3) := by decide +kernel
theorem dX8_leaving_78 : decode cX8_leaving 78 = .ok (.iconst 1, 1) := by decide +kernel
theorem dX8_leaving_79 : decode cX8_leaving 79 = .ok (.goto 4, 3) := by decide +kernel
theorem dX8_leaving_82 : decode cX8_leaving 82 = .ok (.iconst 0, 1) := by decide +kernel
theorem dX8_leaving_83 : decode cX8_leaving 83 = .ok (.istore_n 3, 1) := by decide +kernel
theorem dX8_leaving_84 : decode cX8_leaving 84 = .ok (.iload_n 3, 1) := by decide +kernel
theorem dX8_leaving_85 : decode cX8_leaving 85 = .ok (.aload_n 0, 1) := by decide +kernel
theorem dX8_leaving_86 : decode cX8_leaving 86 = .ok (.getfield 46, 3) := by decide +kernel
theorem dX8_leaving_89 : decode cX8_leaving 89 = .ok (.iload_n 1, 1) := by decide +kernel
theorem dX8_leaving_90 : decode cX8_leaving 90 = .ok (.invokevirtual 91, 3) := by decide +kernel
theorem dX8_leaving_93 : decode cX8_leaving 93 = .ok (.iconst (-1), 1) := by decide +kernel
theorem dX8_leaving_94 : decode cX8_leaving 94 = .ok (.if_icmp .ne 7, 3) := by decide +kernel
theorem dX8_leaving_97 : decode cX8_leaving 97 = .ok (.iconst 1, 1) := by decide +kernel
theorem dX8_leaving_98 : decode cX8_leaving 98 = .ok (.goto 4, 3) := by decide +kernel
theorem dX8_leaving_101 : decode cX8_leaving 101 = .ok (.iconst 0, 1) := by decide +kernel
theorem dX8_leaving_102 : decode cX8_leaving 102 = .ok (.if_icmp .eq 20, 3) := by decide +kernel
theorem dX8_leaving_105 : decode cX8_leaving 105 = .ok (.aload_n 0, 1) := by decide +kernel
theorem dX8_leaving_106 : decode cX8_leaving 106 = .ok (.getfield 12, 3) := by decide +kernel
theorem dX8_leaving_109 : decode cX8_leaving 109 = .ok (.bipush 11, 2) := by decide +kernel
theorem dX8_leaving_111 : decode cX8_leaving 111 = .ok (.aload_n 0, 1) := by decide +kernel
theorem dX8_leaving_112 : decode cX8_leaving 112 = .ok (.getfield 46, 3) := by decide +kernel
theorem dX8_leaving_115 : decode cX8_leaving 115 = .ok (.iload_n 1, 1) := by decide +kernel
theorem dX8_leaving_116 : decode cX8_leaving 116 = .ok (.invokevirtual 149, 3) := by decide +kernel
theorem dX8_leaving_119 : decode cX8_leaving 119 = .ok (.invokevirtual 152, 3) := by decide +kernel
theorem dX8_leaving_122 : decode cX8_leaving 122 = .ok (.aload_n 0, 1) := by decide +kernel
theorem dX8_leaving_123 : decode cX8_leaving 123 = .ok (.getfield 46, 3) := by decide +kernel
theorem dX8_leaving_126 : decode cX8_leaving 126 = .ok (.iload_n 1, 1) := by decide +kernel
theorem dX8_leaving_127 : decode cX8_leaving 127 = .ok (.invokevirtual 91, 3) := by decide +kernel
theorem dX8_leaving_130 : decode cX8_leaving 130 = .ok (.iconst (-1), 1) := by decide +kernel
theorem dX8_leaving_131 : decode cX8_leaving 131 = .ok (.if_icmp .eq 15, 3) := by decide +kernel
theorem dX8_leaving_134 : decode cX8_leaving 134 = .ok (.aload_n 0, 1) := by decide +kernel
theorem dX8_leaving_135 : decode cX8_leaving 135 = .ok (.aload_n 0, 1) := by decide +kernel
theorem dX8_leaving_136 : decode cX8_leaving 136 = .ok (.getfield 46, 3) := by decide +kernel
theorem dX8_leaving_139 : decode cX8_leaving 139 = .ok (.iload_n 1, 1) := by decide +kernel
theorem dX8_leaving_140 : decode cX8_leaving 140 = .ok (.invokevirtual 91, 3) := by decide +kernel
theorem dX8_leaving_143 : decode cX8_leaving 143 = .ok (.invokevirtual 228, 3) := by decide +kernel
theorem dX8_leaving_146 : decode cX8_leaving 146 = .ok (.return_, 1) := by decide +kernel
theorem dX8_tallest_0 : decode cX8_tallest 0 = .ok (.aload_n 0, 1) := by decide +kernel
theorem dX8_tallest_1 : decode cX8_tallest 1 = .ok (.getfield 46, 3) := by decide +kernel
theorem dX8_tallest_4 : decode cX8_tallest 4 = .ok (.iload_n 1, 1) := by decide +kernel
theorem dX8_tallest_5 : decode cX8_tallest 5 = .ok (.invokevirtual 97, 3) := by decide +kernel
theorem dX8_tallest_8 : decode cX8_tallest 8 = .ok (.istore_n 2, 1) := by decide +kernel
theorem dX8_tallest_9 : decode cX8_tallest 9 = .ok (.iload_n 2, 1) := by decide +kernel
theorem dX8_tallest_10 : decode cX8_tallest 10 = .ok (.bipush 30, 2) := by decide +kernel
theorem dX8_tallest_12 : decode cX8_tallest 12 = .ok (.if_icmp .lt 9, 3) := by decide +kernel
theorem dX8_tallest_15 : decode cX8_tallest 15 = .ok (.aload_n 0, 1) := by decide +kernel
theorem dX8_tallest_16 : decode cX8_tallest 16 = .ok (.iload_n 1, 1) := by decide +kernel
theorem dX8_tallest_17 : decode cX8_tallest 17 = .ok (.invokevirtual 184, 3) := by decide +kernel
theorem dX8_tallest_20 : decode cX8_tallest 20 = .ok (.ireturn, 1) := by decide +kernel
theorem dX8_tallest_21 : decode cX8_tallest 21 = .ok (.iconst 0, 1) := by decide +kernel
theorem dX8_tallest_22 : decode cX8_tallest 22 = .ok (.istore_n 3, 1) := by decide +kernel
theorem dX8_tallest_23 : decode cX8_tallest 23 = .ok (.iload_n 2, 1) := by decide +kernel
theorem dX8_tallest_24 : decode cX8_tallest 24 = .ok (.bipush 23, 2) := by decide +kernel
theorem dX8_tallest_26 : decode cX8_tallest 26 = .ok (.if_icmp .ne 7, 3) := by decide +kernel
theorem dX8_tallest_29 : decode cX8_tallest 29 = .ok (.iconst (-1), 1) := by decide +kernel
theorem dX8_tallest_30 : decode cX8_tallest 30 = .ok (.goto 11, 3) := by decide +kernel
theorem dX8_tallest_33 : decode cX8_tallest 33 = .ok (.aload_n 0, 1) := by decide +kernel
theorem dX8_tallest_34 : decode cX8_tallest 34 = .ok (.getfield 46, 3) := by decide +kernel
theorem dX8_tallest_37 : decode cX8_tallest 37 = .ok (.iload_n 1, 1) := by decide +kernel
theorem dX8_tallest_38 : decode cX8_tallest 38 = .ok (.invokevirtual 91, 3) := by decide +kernel
theorem dX8_tallest_41 : decode cX8_tallest 41 = .ok (.istore 4, 2) := by decide +kernel
theorem dX8_tallest_43 : decode cX8_tallest 43 = .ok (.iload 4, 2) := by decide +kernel
theorem dX8_tallest_45 : decode cX8_tallest 45 = .ok (.iconst (-1), 1) := by decide +kernel
theorem dX8_tallest_46 : decode cX8_tallest 46 = .ok (.if_icmp .eq 28, 3) := by decide +kernel
theorem dX8_tallest_49 : decode cX8_tallest 49 = .ok (.iload_n 3, 1) := by decide +kernel
theorem dX8_tallest_50 : decode cX8_tallest 50 = .ok (.aload_n 0, 1) := by decide +kernel
theorem dX8_tallest_51 : decode cX8_tallest 51 = .ok (.iload 4, 2) := by decide +kernel
theorem dX8_tallest_53 : decode cX8_tallest 53 = .ok (.invokevirtual 193, 3) := by decide +kernel
theorem dX8_tallest_56 : decode cX8_tallest 56 = .ok (.invokestatic 187, 3) := by decide +kernel
theorem dX8_tallest_59 : decode cX8_tallest 59 = .ok (.istore_n 3, 1) := by decide +kernel
theorem dX8_tallest_60 : decode cX8_tallest 60 = .ok (.aload_n 0, 1) := by decide +kernel
theorem dX8_tallest_61 : decode cX8_tallest 61 = .ok (.getfield 46, 3) := by decide +kernel
theorem dX8_tallest_64 : decode cX8_tallest 64 = .ok (.iload 4, 2) := by decide +kernel
theorem dX8_tallest_66 : decode cX8_tallest 66 = .ok (.invokevirtual 103, 3) := by decide +kernel
theorem dX8_tallest_69 : decode cX8_tallest 69 = .ok (.istore 4, 2) := by decide +kernel
theorem dX8_tallest_71 : decode cX8_tallest 71 = .ok (.goto (-28), 3) := by decide +kernel
theorem dX8_tallest_74 : decode cX8_tallest 74 = .ok (.iload_n 3, 1) := by decide +kernel
theorem dX8_tallest_75 : decode cX8_tallest 75 = .ok (.ireturn, 1) := by decide +kernel
theorem dX8_height_0 : decode cX8_height 0 = .ok (.aload_n 0, 1) := by decide +kernel
theorem dX8_height_1 : decode cX8_height 1 = .ok (.getfield 46, 3) := by decide +kernel
theorem dX8_height_4 : decode cX8_height 4 = .ok (.iload_n 1, 1) := by decide +kernel
theorem dX8_height_5 : decode cX8_height 5 = .ok (.invokevirtual 91, 3) := by decide +kernel
theorem dX8_height_8 : decode cX8_height 8 = .ok (.istore_n 2, 1) := by decide +kernel
theorem dX8_height_9 : decode cX8_height 9 = .ok (.iconst 1, 1) := by decide +kernel
theorem dX8_height_10 : decode cX8_height 10 = .ok (.istore_n 3, 1) := by decide +kernel
theorem dX8_height_11 : decode cX8_height 11 = .ok (.aload_n 0, 1) := by decide +kernel
theorem dX8_height_12 : decode cX8_height 12 = .ok (.getfield 46, 3) := by decide +kernel
theorem dX8_height_15 : decode cX8_height 15 = .ok (.iload_n 1, 1) := by decide +kernel
theorem dX8_height_16 : decode cX8_height 16 = .ok (.invokevirtual 97, 3) := by decide +kernel
theorem dX8_height_19 : decode cX8_height 19 = .ok (.lookupswitch 250 #[(30, 201), (32, 143), (39, 33)], 33) := by decide +kernel
theorem dX8_height_52 : decode cX8_height 52 = .ok (.iconst 0, 1) := by decide +kernel
theorem dX8_height_53 : decode cX8_height 53 = .ok (.istore 4, 2) := by decide +kernel
theorem dX8_height_55 : decode cX8_height 55 = .ok (.iload_n 2, 1) := by decide +kernel
theorem dX8_height_56 : decode cX8_height 56 = .ok (.istore 5, 2) := by decide +kernel
theorem dX8_height_58 : decode cX8_height 58 = .ok (.iload 5, 2) := by decide +kernel
theorem dX8_height_60 : decode cX8_height 60 = .ok (.iconst (-1), 1) := by decide +kernel
theorem dX8_height_61 : decode cX8_height 61 = .ok (.if_icmp .eq 99, 3) := by decide +kernel
theorem dX8_height_64 : decode cX8_height 64 = .ok (.aload_n 0, 1) := by decide +kernel
theorem dX8_height_65 : decode cX8_height 65 = .ok (.iload 5, 2) := by decide +kernel
theorem dX8_height_67 : decode cX8_height 67 = .ok (.invokevirtual 178, 3) := by decide +kernel
theorem dX8_height_70 : decode cX8_height 70 = .ok (.istore 6, 2) := by decide +kernel
theorem dX8_height_72 : decode cX8_height 72 = .ok (.iload 5, 2) := by decide +kernel
theorem dX8_height_74 : decode cX8_height 74 = .ok (.iload_n 2, 1) := by decide +kernel
theorem dX8_height_75 : decode cX8_height 75 = .ok (.if_icmp .ne 21, 3) := by decide +kernel
theorem dX8_height_78 : decode cX8_height 78 = .ok (.aload_n 0, 1) := by decide +kernel
theorem dX8_height_79 : decode cX8_height 79 = .ok (.getfield 46, 3) := by decide +kernel
theorem dX8_height_82 : decode cX8_height 82 = .ok (.iload_n 1, 1) := by decide +kernel
theorem dX8_height_83 : decode cX8_height 83 = .ok (.invokevirtual 171, 3) := by decide +kernel
theorem dX8_height_86 : decode cX8_height 86 = .ok (.invokestatic 181, 3) := by decide +kernel
theorem dX8_height_89 : decode cX8_height 89 = .ok (.ifCond .eq 7, 3) := by decide +kernel
theorem dX8_height_92 : decode cX8_height 92 = .ok (.iconst 1, 1) := by decide +kernel
theorem dX8_height_93 : decode cX8_height 93 = .ok (.goto 4, 3) := by decide +kernel
theorem dX8_height_96 : decode cX8_height 96 = .ok (.iconst 0, 1) := by decide +kernel
theorem dX8_height_97 : decode cX8_height 97 = .ok (.istore 7, 2) := by decide +kernel
theorem dX8_height_99 : decode cX8_height 99 = .ok (.iload_n 3, 1) := by decide +kernel
theorem dX8_height_100 : decode cX8_height 100 = .ok (.iload 4, 2) := by decide +kernel
theorem dX8_height_102 : decode cX8_height 102 = .ok (.iload 6, 2) := by decide +kernel
theorem dX8_height_104 : decode cX8_height 104 = .ok (.ifCond .eq 7, 3) := by decide +kernel
theorem dX8_height_107 : decode cX8_height 107 = .ok (.iconst 2, 1) := by decide +kernel
theorem dX8_height_108 : decode cX8_height 108 = .ok (.goto 18, 3) := by decide +kernel
theorem dX8_height_111 : decode cX8_height 111 = .ok (.iload 7, 2) := by decide +kernel
theorem dX8_height_113 : decode cX8_height 113 = .ok (.ifCond .eq 7, 3) := by decide +kernel
theorem dX8_height_116 : decode cX8_height 116 = .ok (.iconst 1, 1) := by decide +kernel
theorem dX8_height_117 : decode cX8_height 117 = .ok (.goto 9, 3) := by decide +kernel
theorem dX8_height_120 : decode cX8_height 120 = .ok (.aload_n 0, 1) := by decide +kernel
theorem dX8_height_121 : decode cX8_height 121 = .ok (.iload 5, 2) := by decide +kernel
theorem dX8_height_123 : decode cX8_height 123 = .ok (.invokevirtual 184, 3) := by decide +kernel
theorem dX8_height_126 : decode cX8_height 126 = .ok (.iadd, 1) := by decide +kernel
theorem dX8_height_127 : decode cX8_height 127 = .ok (.invokestatic 187, 3) := by decide +kernel
theorem dX8_height_130 : decode cX8_height 130 = .ok (.istore_n 3, 1) := by decide +kernel
theorem dX8_height_131 : decode cX8_height 131 = .ok (.iload 4, 2) := by decide +kernel
theorem dX8_height_133 : decode cX8_height 133 = .ok (.iload 6, 2) := by decide +kernel
theorem dX8_height_135 : decode cX8_height 135 = .ok (.ifCond .eq 7, 3) := by decide +kernel
theorem dX8_height_138 : decode cX8_height 138 = .ok (.iconst 2, 1) := by decide +kernel
theorem dX8_height_139 : decode cX8_height 139 = .ok (.goto 4, 3) := by decide +kernel
theorem dX8_height_142 : decode cX8_height 142 = .ok (.iconst 1, 1) := by decide +kernel
theorem dX8_height_143 : decode cX8_height 143 = .ok (.iadd, 1) := by decide +kernel
theorem dX8_height_144 : decode cX8_height 144 = .ok (.istore 4, 2) := by decide +kernel
theorem dX8_height_146 : decode cX8_height 146 = .ok (.aload_n 0, 1) := by decide +kernel
theorem dX8_height_147 : decode cX8_height 147 = .ok (.getfield 46, 3) := by decide +kernel
theorem dX8_height_150 : decode cX8_height 150 = .ok (.iload 5, 2) := by decide +kernel
theorem dX8_height_152 : decode cX8_height 152 = .ok (.invokevirtual 103, 3) := by decide +kernel
theorem dX8_height_155 : decode cX8_height 155 = .ok (.istore 5, 2) := by decide +kernel
theorem dX8_height_157 : decode cX8_height 157 = .ok (.goto (-99), 3) := by decide +kernel
theorem dX8_height_160 : decode cX8_height 160 = .ok (.iload_n 3, 1) := by decide +kernel
theorem dX8_height_161 : decode cX8_height 161 = .ok (.ireturn, 1) := by decide +kernel
theorem dX8_height_162 : decode cX8_height 162 = .ok (.aload_n 0, 1) := by decide +kernel
theorem dX8_height_163 : decode cX8_height 163 = .ok (.iload_n 2, 1) := by decide +kernel
theorem dX8_height_164 : decode cX8_height 164 = .ok (.invokevirtual 184, 3) := by decide +kernel
theorem dX8_height_167 : decode cX8_height 167 = .ok (.istore_n 3, 1) := by decide +kernel
theorem dX8_height_168 : decode cX8_height 168 = .ok (.aload_n 0, 1) := by decide +kernel
theorem dX8_height_169 : decode cX8_height 169 = .ok (.getfield 46, 3) := by decide +kernel
theorem dX8_height_172 : decode cX8_height 172 = .ok (.iload_n 2, 1) := by decide +kernel
theorem dX8_height_173 : decode cX8_height 173 = .ok (.invokevirtual 103, 3) := by decide +kernel
theorem dX8_height_176 : decode cX8_height 176 = .ok (.istore 5, 2) := by decide +kernel
theorem dX8_height_178 : decode cX8_height 178 = .ok (.iload 5, 2) := by decide +kernel
theorem dX8_height_180 : decode cX8_height 180 = .ok (.iconst (-1), 1) := by decide +kernel
theorem dX8_height_181 : decode cX8_height 181 = .ok (.if_icmp .eq 37, 3) := by decide +kernel
theorem dX8_height_184 : decode cX8_height 184 = .ok (.iload_n 3, 1) := by decide +kernel
theorem dX8_height_185 : decode cX8_height 185 = .ok (.iconst 1, 1) := by decide +kernel
theorem dX8_height_186 : decode cX8_height 186 = .ok (.aload_n 0, 1) := by decide +kernel
theorem dX8_height_187 : decode cX8_height 187 = .ok (.aload_n 0, 1) := by decide +kernel
theorem dX8_height_188 : decode cX8_height 188 = .ok (.getfield 46, 3) := by decide +kernel
theorem dX8_height_191 : decode cX8_height 191 = .ok (.iload 5, 2) := by decide +kernel
theorem dX8_height_193 : decode cX8_height 193 = .ok (.invokevirtual 91, 3) := by decide +kernel
theorem dX8_height_196 : decode cX8_height 196 = .ok (.invokevirtual 184, 3) := by decide +kernel
theorem dX8_height_199 : decode cX8_height 199 = .ok (.iadd, 1) := by decide +kernel
theorem dX8_height_200 : decode cX8_height 200 = .ok (.invokestatic 187, 3) := by decide +kernel
theorem dX8_height_203 : decode cX8_height 203 = .ok (.istore_n 3, 1) := by decide +kernel
theorem dX8_height_204 : decode cX8_height 204 = .ok (.aload_n 0, 1) := by decide +kernel
theorem dX8_height_205 : decode cX8_height 205 = .ok (.getfield 46, 3) := by decide +kernel
theorem dX8_height_208 : decode cX8_height 208 = .ok (.iload 5, 2) := by decide +kernel
theorem dX8_height_210 : decode cX8_height 210 = .ok (.invokevirtual 103, 3) := by decide +kernel
theorem dX8_height_213 : decode cX8_height 213 = .ok (.istore 5, 2) := by decide +kernel
theorem dX8_height_215 : decode cX8_height 215 = .ok (.goto (-37), 3) := by decide +kernel
theorem dX8_height_218 : decode cX8_height 218 = .ok (.iload_n 3, 1) := by decide +kernel
theorem dX8_height_219 : decode cX8_height 219 = .ok (.ireturn, 1) := by decide +kernel
theorem dX8_height_220 : decode cX8_height 220 = .ok (.aload_n 0, 1) := by decide +kernel
theorem dX8_height_221 : decode cX8_height 221 = .ok (.aload_n 0, 1) := by decide +kernel
theorem dX8_height_222 : decode cX8_height 222 = .ok (.getfield 46, 3) := by decide +kernel
theorem dX8_height_225 : decode cX8_height 225 = .ok (.iload_n 2, 1) := by decide +kernel
theorem dX8_height_226 : decode cX8_height 226 = .ok (.invokevirtual 103, 3) := by decide +kernel
theorem dX8_height_229 : decode cX8_height 229 = .ok (.invokevirtual 184, 3) := by decide +kernel
theorem dX8_height_232 : decode cX8_height 232 = .ok (.istore_n 3, 1) := by decide +kernel
theorem dX8_height_233 : decode cX8_height 233 = .ok (.aload_n 0, 1) := by decide +kernel
theorem dX8_height_234 : decode cX8_height 234 = .ok (.getfield 46, 3) := by decide +kernel
theorem dX8_height_237 : decode cX8_height 237 = .ok (.iload_n 2, 1) := by decide +kernel
theorem dX8_height_238 : decode cX8_height 238 = .ok (.invokevirtual 97, 3) := by decide +kernel
theorem dX8_height_241 : decode cX8_height 241 = .ok (.bipush 40, 2) := by decide +kernel
theorem dX8_height_243 : decode cX8_height 243 = .ok (.if_icmp .ne 24, 3) := by decide +kernel
theorem dX8_height_246 : decode cX8_height 246 = .ok (.aload_n 0, 1) := by decide +kernel
theorem dX8_height_247 : decode cX8_height 247 = .ok (.aload_n 0, 1) := by decide +kernel
theorem dX8_height_248 : decode cX8_height 248 = .ok (.getfield 46, 3) := by decide +kernel
theorem dX8_height_251 : decode cX8_height 251 = .ok (.iload_n 2, 1) := by decide +kernel
theorem dX8_height_252 : decode cX8_height 252 = .ok (.invokevirtual 91, 3) := by decide +kernel
theorem dX8_height_255 : decode cX8_height 255 = .ok (.invokevirtual 184, 3) := by decide +kernel
theorem dX8_height_258 : decode cX8_height 258 = .ok (.iconst 1, 1) := by decide +kernel
theorem dX8_height_259 : decode cX8_height 259 = .ok (.iload_n 3, 1) := by decide +kernel
theorem dX8_height_260 : decode cX8_height 260 = .ok (.iadd, 1) := by decide +kernel
theorem dX8_height_261 : decode cX8_height 261 = .ok (.invokestatic 187, 3) := by decide +kernel
theorem dX8_height_264 : decode cX8_height 264 = .ok (.goto 4, 3) := by decide +kernel
theorem dX8_height_267 : decode cX8_height 267 = .ok (.iload_n 3, 1) := by decide +kernel
theorem dX8_height_268 : decode cX8_height 268 = .ok (.ireturn, 1) := by decide +kernel
theorem dX8_height_269 : decode cX8_height 269 = .ok (.iload_n 2, 1) := by decide +kernel
theorem dX8_height_270 : decode cX8_height 270 = .ok (.istore 5, 2) := by decide +kernel
theorem dX8_height_272 : decode cX8_height 272 = .ok (.iload 5, 2) := by decide +kernel
theorem dX8_height_274 : decode cX8_height 274 = .ok (.iconst (-1), 1) := by decide +kernel
theorem dX8_height_275 : decode cX8_height 275 = .ok (.if_icmp .eq 28, 3) := by decide +kernel
theorem dX8_height_278 : decode cX8_height 278 = .ok (.iload_n 3, 1) := by decide +kernel
theorem dX8_height_279 : decode cX8_height 279 = .ok (.aload_n 0, 1) := by decide +kernel
theorem dX8_height_280 : decode cX8_height 280 = .ok (.iload 5, 2) := by decide +kernel
theorem dX8_height_282 : decode cX8_height 282 = .ok (.invokevirtual 184, 3) := by decide +kernel
theorem dX8_height_285 : decode cX8_height 285 = .ok (.invokestatic 187, 3) := by decide +kernel
theorem dX8_height_288 : decode cX8_height 288 = .ok (.istore_n 3, 1) := by decide +kernel
theorem dX8_height_289 : decode cX8_height 289 = .ok (.aload_n 0, 1) := by decide +kernel
theorem dX8_height_290 : decode cX8_height 290 = .ok (.getfield 46, 3) := by decide +kernel
theorem dX8_height_293 : decode cX8_height 293 = .ok (.iload 5, 2) := by decide +kernel
theorem dX8_height_295 : decode cX8_height 295 = .ok (.invokevirtual 103, 3) := by decide +kernel
theorem dX8_height_298 : decode cX8_height 298 = .ok (.istore 5, 2) := by decide +kernel
theorem dX8_height_300 : decode cX8_height 300 = .ok (.goto (-28), 3) := by decide +kernel
theorem dX8_height_303 : decode cX8_height 303 = .ok (.iload_n 3, 1) := by decide +kernel
theorem dX8_height_304 : decode cX8_height 304 = .ok (.ireturn, 1) := by decide +kernel
theorem dX8_isArray_0 : decode cX8_isArray 0 = .ok (.aload_n 0, 1) := by decide +kernel
theorem dX8_isArray_1 : decode cX8_isArray 1 = .ok (.getfield 46, 3) := by decide +kernel
theorem dX8_isArray_4 : decode cX8_isArray 4 = .ok (.iload_n 1, 1) := by decide +kernel
theorem dX8_isArray_5 : decode cX8_isArray 5 = .ok (.invokevirtual 97, 3) := by decide +kernel
theorem dX8_isArray_8 : decode cX8_isArray 8 = .ok (.bipush 38, 2) := by decide +kernel
theorem dX8_isArray_10 : decode cX8_isArray 10 = .ok (.if_icmp .ne 36, 3) := by decide +kernel
theorem dX8_isArray_13 : decode cX8_isArray 13 = .ok (.aload_n 0, 1) := by decide +kernel
theorem dX8_isArray_14 : decode cX8_isArray 14 = .ok (.getfield 46, 3) := by decide +kernel
theorem dX8_isArray_17 : decode cX8_isArray 17 = .ok (.iload_n 1, 1) := by decide +kernel
theorem dX8_isArray_18 : decode cX8_isArray 18 = .ok (.invokevirtual 171, 3) := by decide +kernel
theorem dX8_isArray_21 : decode cX8_isArray 21 = .ok (.ifCond .lt 25, 3) := by decide +kernel
theorem dX8_isArray_24 : decode cX8_isArray 24 = .ok (.aload_n 0, 1) := by decide +kernel
theorem dX8_isArray_25 : decode cX8_isArray 25 = .ok (.getfield 28, 3) := by decide +kernel
theorem dX8_isArray_28 : decode cX8_isArray 28 = .ok (.aload_n 0, 1) := by decide +kernel
theorem dX8_isArray_29 : decode cX8_isArray 29 = .ok (.getfield 46, 3) := by decide +kernel
theorem dX8_isArray_32 : decode cX8_isArray 32 = .ok (.iload_n 1, 1) := by decide +kernel
theorem dX8_isArray_33 : decode cX8_isArray 33 = .ok (.invokevirtual 171, 3) := by decide +kernel
theorem dX8_isArray_36 : decode cX8_isArray 36 = .ok (.invokevirtual 176, 3) := by decide +kernel
theorem dX8_isArray_39 : decode cX8_isArray 39 = .ok (.ifCond .eq 7, 3) := by decide +kernel
theorem dX8_isArray_42 : decode cX8_isArray 42 = .ok (.iconst 1, 1) := by decide +kernel
theorem dX8_isArray_43 : decode cX8_isArray 43 = .ok (.goto 4, 3) := by decide +kernel
theorem dX8_isArray_46 : decode cX8_isArray 46 = .ok (.iconst 0, 1) := by decide +kernel
theorem dX8_isArray_47 : decode cX8_isArray 47 = .ok (.ireturn, 1) := by decide +kernel
theorem dX8_whole_0 : decode cX8_whole 0 = .ok (.iconst 0, 1) := by decide +kernel
theorem dX8_whole_1 : decode cX8_whole 1 = .ok (.istore_n 2, 1) := by decide +kernel
theorem dX8_whole_2 : decode cX8_whole 2 = .ok (.iconst 0, 1) := by decide +kernel
theorem dX8_whole_3 : decode cX8_whole 3 = .ok (.istore_n 3, 1) := by decide +kernel
theorem dX8_whole_4 : decode cX8_whole 4 = .ok (.iconst 0, 1) := by decide +kernel
theorem dX8_whole_5 : decode cX8_whole 5 = .ok (.istore 4, 2) := by decide +kernel
theorem dX8_whole_7 : decode cX8_whole 7 = .ok (.iload 4, 2) := by decide +kernel
theorem dX8_whole_9 : decode cX8_whole 9 = .ok (.aload_n 0, 1) := by decide +kernel
theorem dX8_whole_10 : decode cX8_whole 10 = .ok (.getfield 58, 3) := by decide +kernel
theorem dX8_whole_13 : decode cX8_whole 13 = .ok (.if_icmp .ge 43, 3) := by decide +kernel
theorem dX8_whole_16 : decode cX8_whole 16 = .ok (.iload_n 2, 1) := by decide +kernel
theorem dX8_whole_17 : decode cX8_whole 17 = .ok (.aload_n 0, 1) := by decide +kernel
theorem dX8_whole_18 : decode cX8_whole 18 = .ok (.aload_n 0, 1) := by decide +kernel
theorem dX8_whole_19 : decode cX8_whole 19 = .ok (.getfield 39, 3) := by decide +kernel
theorem dX8_whole_22 : decode cX8_whole 22 = .ok (.iload 4, 2) := by decide +kernel
theorem dX8_whole_24 : decode cX8_whole 24 = .ok (.iaload, 1) := by decide +kernel
theorem dX8_whole_25 : decode cX8_whole 25 = .ok (.invokevirtual 159, 3) := by decide +kernel
theorem dX8_whole_28 : decode cX8_whole 28 = .ok (.ior, 1) := by decide +kernel
theorem dX8_whole_29 : decode cX8_whole 29 = .ok (.istore_n 2, 1) := by decide +kernel
theorem dX8_whole_30 : decode cX8_whole 30 = .ok (.iload_n 3, 1) := by decide +kernel
theorem dX8_whole_31 : decode cX8_whole 31 = .ok (.aload_n 0, 1) := by decide +kernel
theorem dX8_whole_32 : decode cX8_whole 32 = .ok (.iload 4, 2) := by decide +kernel
theorem dX8_whole_34 : decode cX8_whole 34 = .ok (.invokevirtual 162, 3) := by decide +kernel
theorem dX8_whole_37 : decode cX8_whole 37 = .ok (.sipush 8192, 3) := by decide +kernel
theorem dX8_whole_40 : decode cX8_whole 40 = .ok (.if_icmp .le 7, 3) := by decide +kernel
theorem dX8_whole_43 : decode cX8_whole 43 = .ok (.iconst 1, 1) := by decide +kernel
theorem dX8_whole_44 : decode cX8_whole 44 = .ok (.goto 4, 3) := by decide +kernel
theorem dX8_whole_47 : decode cX8_whole 47 = .ok (.iconst 0, 1) := by decide +kernel
theorem dX8_whole_48 : decode cX8_whole 48 = .ok (.ior, 1) := by decide +kernel
theorem dX8_whole_49 : decode cX8_whole 49 = .ok (.istore_n 3, 1) := by decide +kernel
theorem dX8_whole_50 : decode cX8_whole 50 = .ok (.iinc 4 1, 3) := by decide +kernel
theorem dX8_whole_53 : decode cX8_whole 53 = .ok (.goto (-46), 3) := by decide +kernel
theorem dX8_whole_56 : decode cX8_whole 56 = .ok (.iload_n 2, 1) := by decide +kernel
theorem dX8_whole_57 : decode cX8_whole 57 = .ok (.ifCond .ne 13, 3) := by decide +kernel
theorem dX8_whole_60 : decode cX8_whole 60 = .ok (.aload_n 0, 1) := by decide +kernel
theorem dX8_whole_61 : decode cX8_whole 61 = .ok (.getfield 12, 3) := by decide +kernel
theorem dX8_whole_64 : decode cX8_whole 64 = .ok (.bipush 12, 2) := by decide +kernel
theorem dX8_whole_66 : decode cX8_whole 66 = .ok (.iload_n 1, 1) := by decide +kernel
theorem dX8_whole_67 : decode cX8_whole 67 = .ok (.invokevirtual 152, 3) := by decide +kernel
theorem dX8_whole_70 : decode cX8_whole 70 = .ok (.iload_n 3, 1) := by decide +kernel
theorem dX8_whole_71 : decode cX8_whole 71 = .ok (.ifCond .eq 13, 3) := by decide +kernel
theorem dX8_whole_74 : decode cX8_whole 74 = .ok (.aload_n 0, 1) := by decide +kernel
theorem dX8_whole_75 : decode cX8_whole 75 = .ok (.getfield 12, 3) := by decide +kernel
theorem dX8_whole_78 : decode cX8_whole 78 = .ok (.bipush 13, 2) := by decide +kernel
theorem dX8_whole_80 : decode cX8_whole 80 = .ok (.iload_n 1, 1) := by decide +kernel
theorem dX8_whole_81 : decode cX8_whole 81 = .ok (.invokevirtual 152, 3) := by decide +kernel
theorem dX8_whole_84 : decode cX8_whole 84 = .ok (.aload_n 0, 1) := by decide +kernel
theorem dX8_whole_85 : decode cX8_whole 85 = .ok (.getfield 58, 3) := by decide +kernel
theorem dX8_whole_88 : decode cX8_whole 88 = .ok (.sipush 200, 3) := by decide +kernel
theorem dX8_whole_91 : decode cX8_whole 91 = .ok (.if_icmp .gt 17, 3) := by decide +kernel
theorem dX8_whole_94 : decode cX8_whole 94 = .ok (.aload_n 0, 1) := by decide +kernel
theorem dX8_whole_95 : decode cX8_whole 95 = .ok (.getfield 28, 3) := by decide +kernel
theorem dX8_whole_98 : decode cX8_whole 98 = .ok (.iconst (-1), 1) := by decide +kernel
theorem dX8_whole_99 : decode cX8_whole 99 = .ok (.invokevirtual 165, 3) := by decide +kernel
theorem dX8_whole_102 : decode cX8_whole 102 = .ok (.sipush 8192, 3) := by decide +kernel
theorem dX8_whole_105 : decode cX8_whole 105 = .ok (.if_icmp .le 13, 3) := by decide +kernel
theorem dX8_whole_108 : decode cX8_whole 108 = .ok (.aload_n 0, 1) := by decide +kernel
theorem dX8_whole_109 : decode cX8_whole 109 = .ok (.getfield 12, 3) := by decide +kernel
theorem dX8_whole_112 : decode cX8_whole 112 = .ok (.bipush 14, 2) := by decide +kernel
theorem dX8_whole_114 : decode cX8_whole 114 = .ok (.iload_n 1, 1) := by decide +kernel
theorem dX8_whole_115 : decode cX8_whole 115 = .ok (.invokevirtual 152, 3) := by decide +kernel
theorem dX8_whole_118 : decode cX8_whole 118 = .ok (.return_, 1) := by decide +kernel
theorem dX8_isMain_0 : decode cX8_isMain 0 = .ok (.aload_n 0, 1) := by decide +kernel
theorem dX8_isMain_1 : decode cX8_isMain 1 = .ok (.getfield 46, 3) := by decide +kernel
theorem dX8_isMain_4 : decode cX8_isMain 4 = .ok (.iload_n 1, 1) := by decide +kernel
theorem dX8_isMain_5 : decode cX8_isMain 5 = .ok (.invokevirtual 91, 3) := by decide +kernel
theorem dX8_isMain_8 : decode cX8_isMain 8 = .ok (.istore_n 2, 1) := by decide +kernel
theorem dX8_isMain_9 : decode cX8_isMain 9 = .ok (.aload_n 0, 1) := by decide +kernel
theorem dX8_isMain_10 : decode cX8_isMain 10 = .ok (.getfield 46, 3) := by decide +kernel
theorem dX8_isMain_13 : decode cX8_isMain 13 = .ok (.iload_n 2, 1) := by decide +kernel
theorem dX8_isMain_14 : decode cX8_isMain 14 = .ok (.invokevirtual 97, 3) := by decide +kernel
theorem dX8_isMain_17 : decode cX8_isMain 17 = .ok (.iconst 5, 1) := by decide +kernel
theorem dX8_isMain_18 : decode cX8_isMain 18 = .ok (.if_icmp .ne 50, 3) := by decide +kernel
theorem dX8_isMain_21 : decode cX8_isMain 21 = .ok (.aload_n 0, 1) := by decide +kernel
theorem dX8_isMain_22 : decode cX8_isMain 22 = .ok (.getfield 46, 3) := by decide +kernel
theorem dX8_isMain_25 : decode cX8_isMain 25 = .ok (.iload_n 2, 1) := by decide +kernel
theorem dX8_isMain_26 : decode cX8_isMain 26 = .ok (.invokevirtual 168, 3) := by decide +kernel
theorem dX8_isMain_29 : decode cX8_isMain 29 = .ok (.ifCond .ne 39, 3) := by decide +kernel
theorem dX8_isMain_32 : decode cX8_isMain 32 = .ok (.aload_n 0, 1) := by decide +kernel
theorem dX8_isMain_33 : decode cX8_isMain 33 = .ok (.getfield 46, 3) := by decide +kernel
theorem dX8_isMain_36 : decode cX8_isMain 36 = .ok (.iload_n 2, 1) := by decide +kernel
theorem dX8_isMain_37 : decode cX8_isMain 37 = .ok (.invokevirtual 171, 3) := by decide +kernel
theorem dX8_isMain_40 : decode cX8_isMain 40 = .ok (.iconst (-1), 1) := by decide +kernel
theorem dX8_isMain_41 : decode cX8_isMain 41 = .ok (.if_icmp .ne 27, 3) := by decide +kernel
theorem dX8_isMain_44 : decode cX8_isMain 44 = .ok (.aload_n 0, 1) := by decide +kernel
theorem dX8_isMain_45 : decode cX8_isMain 45 = .ok (.getfield 46, 3) := by decide +kernel
theorem dX8_isMain_48 : decode cX8_isMain 48 = .ok (.aload_n 0, 1) := by decide +kernel
theorem dX8_isMain_49 : decode cX8_isMain 49 = .ok (.getfield 46, 3) := by decide +kernel
theorem dX8_isMain_52 : decode cX8_isMain 52 = .ok (.iload_n 2, 1) := by decide +kernel
theorem dX8_isMain_53 : decode cX8_isMain 53 = .ok (.invokevirtual 103, 3) := by decide +kernel
theorem dX8_isMain_56 : decode cX8_isMain 56 = .ok (.invokevirtual 97, 3) := by decide +kernel
theorem dX8_isMain_59 : decode cX8_isMain 59 = .ok (.bipush 10, 2) := by decide +kernel
theorem dX8_isMain_61 : decode cX8_isMain 61 = .ok (.if_icmp .ne 7, 3) := by decide +kernel
theorem dX8_isMain_64 : decode cX8_isMain 64 = .ok (.iconst 1, 1) := by decide +kernel
theorem dX8_isMain_65 : decode cX8_isMain 65 = .ok (.goto 4, 3) := by decide +kernel
theorem dX8_isMain_68 : decode cX8_isMain 68 = .ok (.iconst 0, 1) := by decide +kernel
theorem dX8_isMain_69 : decode cX8_isMain 69 = .ok (.istore_n 3, 1) := by decide +kernel
theorem dX8_isMain_70 : decode cX8_isMain 70 = .ok (.iload_n 3, 1) := by decide +kernel
theorem dX8_isMain_71 : decode cX8_isMain 71 = .ok (.ifCond .eq 35, 3) := by decide +kernel
theorem dX8_isMain_74 : decode cX8_isMain 74 = .ok (.aload_n 0, 1) := by decide +kernel
theorem dX8_isMain_75 : decode cX8_isMain 75 = .ok (.getfield 46, 3) := by decide +kernel
theorem dX8_isMain_78 : decode cX8_isMain 78 = .ok (.iload_n 1, 1) := by decide +kernel
theorem dX8_isMain_79 : decode cX8_isMain 79 = .ok (.invokevirtual 168, 3) := by decide +kernel
theorem dX8_isMain_82 : decode cX8_isMain 82 = .ok (.ifCond .ne 24, 3) := by decide +kernel
theorem dX8_isMain_85 : decode cX8_isMain 85 = .ok (.aload_n 0, 1) := by decide +kernel
theorem dX8_isMain_86 : decode cX8_isMain 86 = .ok (.ldc 174, 2) := by decide +kernel
theorem dX8_isMain_88 : decode cX8_isMain 88 = .ok (.invokevirtual 83, 3) := by decide +kernel
theorem dX8_isMain_91 : decode cX8_isMain 91 = .ok (.aload_n 0, 1) := by decide +kernel
theorem dX8_isMain_92 : decode cX8_isMain 92 = .ok (.getfield 46, 3) := by decide +kernel
theorem dX8_isMain_95 : decode cX8_isMain 95 = .ok (.iload_n 1, 1) := by decide +kernel
theorem dX8_isMain_96 : decode cX8_isMain 96 = .ok (.invokevirtual 142, 3) := by decide +kernel
theorem dX8_isMain_99 : decode cX8_isMain 99 = .ok (.if_icmp .ne 7, 3) := by decide +kernel
theorem dX8_isMain_102 : decode cX8_isMain 102 = .ok (.iconst 1, 1) := by decide +kernel
theorem dX8_isMain_103 : decode cX8_isMain 103 = .ok (.goto 4, 3) := by decide +kernel
theorem dX8_isMain_106 : decode cX8_isMain 106 = .ok (.iconst 0, 1) := by decide +kernel
theorem dX8_isMain_107 : decode cX8_isMain 107 = .ok (.ireturn, 1) := by decide +kernel
theorem dX8_frame_0 : decode cX8_frame 0 = .ok (.iconst 4, 1) := by decide +kernel
theorem dX8_frame_1 : decode cX8_frame 1 = .ok (.aload_n 0, 1) := by decide +kernel
theorem dX8_frame_2 : decode cX8_frame 2 = .ok (.getfield 28, 3) := by decide +kernel
theorem dX8_frame_5 : decode cX8_frame 5 = .ok (.iload_n 1, 1) := by decide +kernel
theorem dX8_frame_6 : decode cX8_frame 6 = .ok (.invokevirtual 165, 3) := by decide +kernel
theorem dX8_frame_9 : decode cX8_frame 9 = .ok (.iadd, 1) := by decide +kernel
theorem dX8_frame_10 : decode cX8_frame 10 = .ok (.aload_n 0, 1) := by decide +kernel
theorem dX8_frame_11 : decode cX8_frame 11 = .ok (.getfield 43, 3) := by decide +kernel
theorem dX8_frame_14 : decode cX8_frame 14 = .ok (.iload_n 1, 1) := by decide +kernel
theorem dX8_frame_15 : decode cX8_frame 15 = .ok (.iaload, 1) := by decide +kernel
theorem dX8_frame_16 : decode cX8_frame 16 = .ok (.iadd, 1) := by decide +kernel
theorem dX8_frame_17 : decode cX8_frame 17 = .ok (.ireturn, 1) := by decide +kernel
theorem dX8_wrong_0 : decode cX8_wrong 0 = .ok (.aload_n 0, 1) := by decide +kernel
theorem dX8_wrong_1 : decode cX8_wrong 1 = .ok (.getfield 12, 3) := by decide +kernel
theorem dX8_wrong_4 : decode cX8_wrong 4 = .ok (.areturn, 1) := by decide +kernel
theorem dX8_main_0 : decode cX8_main 0 = .ok (.iconst 0, 1) := by decide +kernel
theorem dX8_main_1 : decode cX8_main 1 = .ok (.istore_n 1, 1) := by decide +kernel
theorem dX8_main_2 : decode cX8_main 2 = .ok (.aload_n 0, 1) := by decide +kernel
theorem dX8_main_3 : decode cX8_main 3 = .ok (.aload_n 0, 1) := by decide +kernel
theorem dX8_main_4 : decode cX8_main 4 = .ok (.getfield 39, 3) := by decide +kernel
theorem dX8_main_7 : decode cX8_main 7 = .ok (.iload_n 1, 1) := by decide +kernel
theorem dX8_main_8 : decode cX8_main 8 = .ok (.iaload, 1) := by decide +kernel
theorem dX8_main_9 : decode cX8_main 9 = .ok (.invokevirtual 159, 3) := by decide +kernel
theorem dX8_main_12 : decode cX8_main 12 = .ok (.ifCond .ne 9, 3) := by decide +kernel
theorem dX8_main_15 : decode cX8_main 15 = .ok (.iinc 1 1, 3) := by decide +kernel
theorem dX8_main_18 : decode cX8_main 18 = .ok (.goto (-16), 3) := by decide +kernel
theorem dX8_main_21 : decode cX8_main 21 = .ok (.iload_n 1, 1) := by decide +kernel
theorem dX8_main_22 : decode cX8_main 22 = .ok (.ireturn, 1) := by decide +kernel
theorem dX8_count_0 : decode cX8_count 0 = .ok (.aload_n 0, 1) := by decide +kernel
theorem dX8_count_1 : decode cX8_count 1 = .ok (.getfield 58, 3) := by decide +kernel
theorem dX8_count_4 : decode cX8_count 4 = .ok (.ireturn, 1) := by decide +kernel
theorem dX8_node_0 : decode cX8_node 0 = .ok (.aload_n 0, 1) := by decide +kernel
theorem dX8_node_1 : decode cX8_node 1 = .ok (.getfield 39, 3) := by decide +kernel
theorem dX8_node_4 : decode cX8_node 4 = .ok (.iload_n 1, 1) := by decide +kernel
theorem dX8_node_5 : decode cX8_node 5 = .ok (.iaload, 1) := by decide +kernel
theorem dX8_node_6 : decode cX8_node 6 = .ok (.ireturn, 1) := by decide +kernel
theorem dX9_init_0 : decode cX9_init 0 = .ok (.aload_n 0, 1) := by decide +kernel
theorem dX9_init_1 : decode cX9_init 1 = .ok (.invokespecial 1, 3) := by decide +kernel
theorem dX9_init_4 : decode cX9_init 4 = .ok (.return_, 1) := by decide +kernel
theorem dX9_clear_0 : decode cX9_clear 0 = .ok (.aload_n 0, 1) := by decide +kernel
theorem dX9_clear_1 : decode cX9_clear 1 = .ok (.iconst 0, 1) := by decide +kernel
theorem dX9_clear_2 : decode cX9_clear 2 = .ok (.putfield 7, 3) := by decide +kernel
theorem dX9_clear_5 : decode cX9_clear 5 = .ok (.aload_n 0, 1) := by decide +kernel
theorem dX9_clear_6 : decode cX9_clear 6 = .ok (.iconst 0, 1) := by decide +kernel
theorem dX9_clear_7 : decode cX9_clear 7 = .ok (.putfield 13, 3) := by decide +kernel
theorem dX9_clear_10 : decode cX9_clear 10 = .ok (.return_, 1) := by decide +kernel
theorem dX9_say_0 : decode cX9_say 0 = .ok (.aload_n 0, 1) := by decide +kernel
theorem dX9_say_1 : decode cX9_say 1 = .ok (.getfield 7, 3) := by decide +kernel
theorem dX9_say_4 : decode cX9_say 4 = .ok (.ifCond .eq 27, 3) := by decide +kernel
theorem dX9_say_7 : decode cX9_say 7 = .ok (.iload_n 2, 1) := by decide +kernel
theorem dX9_say_8 : decode cX9_say 8 = .ok (.aload_n 0, 1) := by decide +kernel
theorem dX9_say_9 : decode cX9_say 9 = .ok (.getfield 13, 3) := by decide +kernel
theorem dX9_say_12 : decode cX9_say 12 = .ok (.if_icmp .lt 19, 3) := by decide +kernel
theorem dX9_say_15 : decode cX9_say 15 = .ok (.iload_n 2, 1) := by decide +kernel
theorem dX9_say_16 : decode cX9_say 16 = .ok (.aload_n 0, 1) := by decide +kernel
theorem dX9_say_17 : decode cX9_say 17 = .ok (.getfield 13, 3) := by decide +kernel
theorem dX9_say_20 : decode cX9_say 20 = .ok (.if_icmp .ne 15, 3) := by decide +kernel
theorem dX9_say_23 : decode cX9_say 23 = .ok (.iload_n 1, 1) := by decide +kernel
theorem dX9_say_24 : decode cX9_say 24 = .ok (.aload_n 0, 1) := by decide +kernel
theorem dX9_say_25 : decode cX9_say 25 = .ok (.getfield 7, 3) := by decide +kernel
theorem dX9_say_28 : decode cX9_say 28 = .ok (.if_icmp .ge 7, 3) := by decide +kernel
theorem dX9_say_31 : decode cX9_say 31 = .ok (.iconst 1, 1) := by decide +kernel
theorem dX9_say_32 : decode cX9_say 32 = .ok (.goto 4, 3) := by decide +kernel
theorem dX9_say_35 : decode cX9_say 35 = .ok (.iconst 0, 1) := by decide +kernel
theorem dX9_say_36 : decode cX9_say 36 = .ok (.istore_n 3, 1) := by decide +kernel
theorem dX9_say_37 : decode cX9_say 37 = .ok (.aload_n 0, 1) := by decide +kernel
theorem dX9_say_38 : decode cX9_say 38 = .ok (.iload_n 3, 1) := by decide +kernel
theorem dX9_say_39 : decode cX9_say 39 = .ok (.ifCond .eq 7, 3) := by decide +kernel
theorem dX9_say_42 : decode cX9_say 42 = .ok (.iload_n 1, 1) := by decide +kernel
theorem dX9_say_43 : decode cX9_say 43 = .ok (.goto 7, 3) := by decide +kernel
theorem dX9_say_46 : decode cX9_say 46 = .ok (.aload_n 0, 1) := by decide +kernel
theorem dX9_say_47 : decode cX9_say 47 = .ok (.getfield 7, 3) := by decide +kernel
theorem dX9_say_50 : decode cX9_say 50 = .ok (.putfield 7, 3) := by decide +kernel
theorem dX9_say_53 : decode cX9_say 53 = .ok (.aload_n 0, 1) := by decide +kernel
theorem dX9_say_54 : decode cX9_say 54 = .ok (.iload_n 3, 1) := by decide +kernel
theorem dX9_say_55 : decode cX9_say 55 = .ok (.ifCond .eq 7, 3) := by decide +kernel
theorem dX9_say_58 : decode cX9_say 58 = .ok (.iload_n 2, 1) := by decide +kernel
theorem dX9_say_59 : decode cX9_say 59 = .ok (.goto 7, 3) := by decide +kernel
theorem dX9_say_62 : decode cX9_say 62 = .ok (.aload_n 0, 1) := by decide +kernel
theorem dX9_say_63 : decode cX9_say 63 = .ok (.getfield 13, 3) := by decide +kernel
theorem dX9_say_66 : decode cX9_say 66 = .ok (.putfield 13, 3) := by decide +kernel
theorem dX9_say_69 : decode cX9_say 69 = .ok (.return_, 1) := by decide +kernel
theorem dX9_number_0 : decode cX9_number 0 = .ok (.aload_n 0, 1) := by decide +kernel
theorem dX9_number_1 : decode cX9_number 1 = .ok (.getfield 7, 3) := by decide +kernel
theorem dX9_number_4 : decode cX9_number 4 = .ok (.ireturn, 1) := by decide +kernel
theorem dX9_place_0 : decode cX9_place 0 = .ok (.aload_n 0, 1) := by decide +kernel
theorem dX9_place_1 : decode cX9_place 1 = .ok (.getfield 13, 3) := by decide +kernel
theorem dX9_place_4 : decode cX9_place 4 = .ok (.ireturn, 1) := by decide +kernel
