set_option maxRecDepth 100000
theorem dX21_doChain_103 : decode cX21_doChain 103 = .ok (.goto 81, 3) := by decide +kernel
theorem dX21_doChain_106 : decode cX21_doChain 106 = .ok (.iload_n 3, 1) := by decide +kernel
theorem dX21_doChain_107 : decode cX21_doChain 107 = .ok (.aload_n 0, 1) := by decide +kernel
theorem dX21_doChain_108 : decode cX21_doChain 108 = .ok (.getfield 217, 3) := by decide +kernel
theorem dX21_doChain_111 : decode cX21_doChain 111 = .ok (.iload_n 1, 1) := by decide +kernel
theorem dX21_doChain_112 : decode cX21_doChain 112 = .ok (.iaload, 1) := by decide +kernel
theorem dX21_doChain_113 : decode cX21_doChain 113 = .ok (.if_icmp .eq 71, 3) := by decide +kernel
theorem dX21_doChain_116 : decode cX21_doChain 116 = .ok (.aload_n 0, 1) := by decide +kernel
theorem dX21_doChain_117 : decode cX21_doChain 117 = .ok (.invokevirtual 793, 3) := by decide +kernel
theorem dX21_doChain_120 : decode cX21_doChain 120 = .ok (.istore 6, 2) := by decide +kernel
theorem dX21_doChain_122 : decode cX21_doChain 122 = .ok (.aload_n 0, 1) := by decide +kernel
theorem dX21_doChain_123 : decode cX21_doChain 123 = .ok (.invokevirtual 793, 3) := by decide +kernel
theorem dX21_doChain_126 : decode cX21_doChain 126 = .ok (.istore 7, 2) := by decide +kernel
theorem dX21_doChain_128 : decode cX21_doChain 128 = .ok (.aload_n 0, 1) := by decide +kernel
theorem dX21_doChain_129 : decode cX21_doChain 129 = .ok (.iconst 0, 1) := by decide +kernel
theorem dX21_doChain_130 : decode cX21_doChain 130 = .ok (.putfield 634, 3) := by decide +kernel
theorem dX21_doChain_133 : decode cX21_doChain 133 = .ok (.aload_n 0, 1) := by decide +kernel
theorem dX21_doChain_134 : decode cX21_doChain 134 = .ok (.aload_n 0, 1) := by decide +kernel
theorem dX21_doChain_135 : decode cX21_doChain 135 = .ok (.getfield 226, 3) := by decide +kernel
theorem dX21_doChain_138 : decode cX21_doChain 138 = .ok (.iload_n 3, 1) := by decide +kernel
theorem dX21_doChain_139 : decode cX21_doChain 139 = .ok (.iaload, 1) := by decide +kernel
theorem dX21_doChain_140 : decode cX21_doChain 140 = .ok (.iload 7, 2) := by decide +kernel
theorem dX21_doChain_142 : decode cX21_doChain 142 = .ok (.iload 6, 2) := by decide +kernel
theorem dX21_doChain_144 : decode cX21_doChain 144 = .ok (.invokevirtual 646, 3) := by decide +kernel
theorem dX21_doChain_147 : decode cX21_doChain 147 = .ok (.istore 8, 2) := by decide +kernel
theorem dX21_doChain_149 : decode cX21_doChain 149 = .ok (.aload_n 0, 1) := by decide +kernel
theorem dX21_doChain_150 : decode cX21_doChain 150 = .ok (.getfield 634, 3) := by decide +kernel
theorem dX21_doChain_153 : decode cX21_doChain 153 = .ok (.ifCond .eq 9, 3) := by decide +kernel
theorem dX21_doChain_156 : decode cX21_doChain 156 = .ok (.aload_n 0, 1) := by decide +kernel
theorem dX21_doChain_157 : decode cX21_doChain 157 = .ok (.iconst 3, 1) := by decide +kernel
theorem dX21_doChain_158 : decode cX21_doChain 158 = .ok (.invokevirtual 775, 3) := by decide +kernel
theorem dX21_doChain_161 : decode cX21_doChain 161 = .ok (.return_, 1) := by decide +kernel
theorem dX21_doChain_162 : decode cX21_doChain 162 = .ok (.aload_n 0, 1) := by decide +kernel
theorem dX21_doChain_163 : decode cX21_doChain 163 = .ok (.iload 8, 2) := by decide +kernel
theorem dX21_doChain_165 : decode cX21_doChain 165 = .ok (.invokevirtual 769, 3) := by decide +kernel
theorem dX21_doChain_168 : decode cX21_doChain 168 = .ok (.iload 4, 2) := by decide +kernel
theorem dX21_doChain_170 : decode cX21_doChain 170 = .ok (.ifCond .ge 14, 3) := by decide +kernel
theorem dX21_doChain_173 : decode cX21_doChain 173 = .ok (.aload_n 0, 1) := by decide +kernel
theorem dX21_doChain_174 : decode cX21_doChain 174 = .ok (.dup, 1) := by decide +kernel
theorem dX21_doChain_175 : decode cX21_doChain 175 = .ok (.getfield 763, 3) := by decide +kernel
theorem dX21_doChain_178 : decode cX21_doChain 178 = .ok (.iconst 1, 1) := by decide +kernel
theorem dX21_doChain_179 : decode cX21_doChain 179 = .ok (.isub, 1) := by decide +kernel
theorem dX21_doChain_180 : decode cX21_doChain 180 = .ok (.putfield 763, 3) := by decide +kernel
theorem dX21_doChain_183 : decode cX21_doChain 183 = .ok (.return_, 1) := by decide +kernel
theorem dX21_doChain_184 : decode cX21_doChain 184 = .ok (.aload_n 0, 1) := by decide +kernel
theorem dX21_doChain_185 : decode cX21_doChain 185 = .ok (.iload 4, 2) := by decide +kernel
theorem dX21_doChain_187 : decode cX21_doChain 187 = .ok (.iconst 1, 1) := by decide +kernel
theorem dX21_doChain_188 : decode cX21_doChain 188 = .ok (.iadd, 1) := by decide +kernel
theorem dX21_doChain_189 : decode cX21_doChain 189 = .ok (.invokevirtual 810, 3) := by decide +kernel
theorem dX21_doChain_192 : decode cX21_doChain 192 = .ok (.aload_n 0, 1) := by decide +kernel
theorem dX21_doChain_193 : decode cX21_doChain 193 = .ok (.iload 4, 2) := by decide +kernel
theorem dX21_doChain_195 : decode cX21_doChain 195 = .ok (.invokevirtual 813, 3) := by decide +kernel
theorem dX21_doChain_198 : decode cX21_doChain 198 = .ok (.return_, 1) := by decide +kernel
theorem dX21_doAssign_0 : decode cX21_doAssign 0 = .ok (.aload_n 0, 1) := by decide +kernel
theorem dX21_doAssign_1 : decode cX21_doAssign 1 = .ok (.getfield 217, 3) := by decide +kernel
theorem dX21_doAssign_4 : decode cX21_doAssign 4 = .ok (.iload_n 1, 1) := by decide +kernel
theorem dX21_doAssign_5 : decode cX21_doAssign 5 = .ok (.iaload, 1) := by decide +kernel
theorem dX21_doAssign_6 : decode cX21_doAssign 6 = .ok (.istore_n 3, 1) := by decide +kernel
theorem dX21_doAssign_7 : decode cX21_doAssign 7 = .ok (.iload_n 2, 1) := by decide +kernel
theorem dX21_doAssign_8 : decode cX21_doAssign 8 = .ok (.ifCond .ne 29, 3) := by decide +kernel
theorem dX21_doAssign_11 : decode cX21_doAssign 11 = .ok (.aload_n 0, 1) := by decide +kernel
theorem dX21_doAssign_12 : decode cX21_doAssign 12 = .ok (.getfield 208, 3) := by decide +kernel
theorem dX21_doAssign_15 : decode cX21_doAssign 15 = .ok (.iload_n 3, 1) := by decide +kernel
theorem dX21_doAssign_16 : decode cX21_doAssign 16 = .ok (.baload, 1) := by decide +kernel
theorem dX21_doAssign_17 : decode cX21_doAssign 17 = .ok (.iconst 4, 1) := by decide +kernel
theorem dX21_doAssign_18 : decode cX21_doAssign 18 = .ok (.if_icmp .ne 19, 3) := by decide +kernel
theorem dX21_doAssign_21 : decode cX21_doAssign 21 = .ok (.aload_n 0, 1) := by decide +kernel
theorem dX21_doAssign_22 : decode cX21_doAssign 22 = .ok (.iconst 1, 1) := by decide +kernel
theorem dX21_doAssign_23 : decode cX21_doAssign 23 = .ok (.invokevirtual 810, 3) := by decide +kernel
theorem dX21_doAssign_26 : decode cX21_doAssign 26 = .ok (.aload_n 0, 1) := by decide +kernel
theorem dX21_doAssign_27 : decode cX21_doAssign 27 = .ok (.aload_n 0, 1) := by decide +kernel
theorem dX21_doAssign_28 : decode cX21_doAssign 28 = .ok (.getfield 217, 3) := by decide +kernel
theorem dX21_doAssign_31 : decode cX21_doAssign 31 = .ok (.iload_n 3, 1) := by decide +kernel
theorem dX21_doAssign_32 : decode cX21_doAssign 32 = .ok (.iaload, 1) := by decide +kernel
theorem dX21_doAssign_33 : decode cX21_doAssign 33 = .ok (.invokevirtual 813, 3) := by decide +kernel
theorem dX21_doAssign_36 : decode cX21_doAssign 36 = .ok (.return_, 1) := by decide +kernel
theorem dX21_doAssign_37 : decode cX21_doAssign 37 = .ok (.iload_n 2, 1) := by decide +kernel
theorem dX21_doAssign_38 : decode cX21_doAssign 38 = .ok (.iconst 2, 1) := by decide +kernel
theorem dX21_doAssign_39 : decode cX21_doAssign 39 = .ok (.if_icmp .ge 19, 3) := by decide +kernel
theorem dX21_doAssign_42 : decode cX21_doAssign 42 = .ok (.aload_n 0, 1) := by decide +kernel
theorem dX21_doAssign_43 : decode cX21_doAssign 43 = .ok (.iconst 2, 1) := by decide +kernel
theorem dX21_doAssign_44 : decode cX21_doAssign 44 = .ok (.invokevirtual 810, 3) := by decide +kernel
theorem dX21_doAssign_47 : decode cX21_doAssign 47 = .ok (.aload_n 0, 1) := by decide +kernel
theorem dX21_doAssign_48 : decode cX21_doAssign 48 = .ok (.aload_n 0, 1) := by decide +kernel
theorem dX21_doAssign_49 : decode cX21_doAssign 49 = .ok (.getfield 220, 3) := by decide +kernel
theorem dX21_doAssign_52 : decode cX21_doAssign 52 = .ok (.iload_n 1, 1) := by decide +kernel
theorem dX21_doAssign_53 : decode cX21_doAssign 53 = .ok (.iaload, 1) := by decide +kernel
theorem dX21_doAssign_54 : decode cX21_doAssign 54 = .ok (.invokevirtual 813, 3) := by decide +kernel
theorem dX21_doAssign_57 : decode cX21_doAssign 57 = .ok (.return_, 1) := by decide +kernel
theorem dX21_doAssign_58 : decode cX21_doAssign 58 = .ok (.aload_n 0, 1) := by decide +kernel
theorem dX21_doAssign_59 : decode cX21_doAssign 59 = .ok (.invokevirtual 793, 3) := by decide +kernel
theorem dX21_doAssign_62 : decode cX21_doAssign 62 = .ok (.istore 4, 2) := by decide +kernel
theorem dX21_doAssign_64 : decode cX21_doAssign 64 = .ok (.aload_n 0, 1) := by decide +kernel
theorem dX21_doAssign_65 : decode cX21_doAssign 65 = .ok (.iload_n 3, 1) := by decide +kernel
theorem dX21_doAssign_66 : decode cX21_doAssign 66 = .ok (.invokevirtual 829, 3) := by decide +kernel
theorem dX21_doAssign_69 : decode cX21_doAssign 69 = .ok (.istore 5, 2) := by decide +kernel
theorem dX21_doAssign_71 : decode cX21_doAssign 71 = .ok (.iload 5, 2) := by decide +kernel
theorem dX21_doAssign_73 : decode cX21_doAssign 73 = .ok (.ifCond .ge 4, 3) := by decide +kernel
theorem dX21_doAssign_76 : decode cX21_doAssign 76 = .ok (.return_, 1) := by decide +kernel
theorem dX21_doAssign_77 : decode cX21_doAssign 77 = .ok (.aload_n 0, 1) := by decide +kernel
theorem dX21_doAssign_78 : decode cX21_doAssign 78 = .ok (.getfield 199, 3) := by decide +kernel
theorem dX21_doAssign_81 : decode cX21_doAssign 81 = .ok (.aload_n 0, 1) := by decide +kernel
theorem dX21_doAssign_82 : decode cX21_doAssign 82 = .ok (.getfield 211, 3) := by decide +kernel
theorem dX21_doAssign_85 : decode cX21_doAssign 85 = .ok (.iload_n 1, 1) := by decide +kernel
theorem dX21_doAssign_86 : decode cX21_doAssign 86 = .ok (.iaload, 1) := by decide +kernel
theorem dX21_doAssign_87 : decode cX21_doAssign 87 = .ok (.iaload, 1) := by decide +kernel
theorem dX21_doAssign_88 : decode cX21_doAssign 88 = .ok (.iconst 1, 1) := by decide +kernel
theorem dX21_doAssign_89 : decode cX21_doAssign 89 = .ok (.if_icmp .ne 8, 3) := by decide +kernel
theorem dX21_doAssign_92 : decode cX21_doAssign 92 = .ok (.iload 4, 2) := by decide +kernel
theorem dX21_doAssign_94 : decode cX21_doAssign 94 = .ok (.goto 22, 3) := by decide +kernel
theorem dX21_doAssign_97 : decode cX21_doAssign 97 = .ok (.aload_n 0, 1) := by decide +kernel
theorem dX21_doAssign_98 : decode cX21_doAssign 98 = .ok (.aload_n 0, 1) := by decide +kernel
theorem dX21_doAssign_99 : decode cX21_doAssign 99 = .ok (.getfield 211, 3) := by decide +kernel
theorem dX21_doAssign_102 : decode cX21_doAssign 102 = .ok (.iload_n 1, 1) := by decide +kernel
theorem dX21_doAssign_103 : decode cX21_doAssign 103 = .ok (.iaload, 1) := by decide +kernel
theorem dX21_doAssign_104 : decode cX21_doAssign 104 = .ok (.aload_n 0, 1) := by decide +kernel
theorem dX21_doAssign_105 : decode cX21_doAssign 105 = .ok (.getfield 282, 3) := by decide +kernel
theorem dX21_doAssign_108 : decode cX21_doAssign 108 = .ok (.iload 5, 2) := by decide +kernel
theorem dX21_doAssign_110 : decode cX21_doAssign 110 = .ok (.iaload, 1) := by decide +kernel
theorem dX21_doAssign_111 : decode cX21_doAssign 111 = .ok (.iload 4, 2) := by decide +kernel
theorem dX21_doAssign_113 : decode cX21_doAssign 113 = .ok (.invokevirtual 835, 3) := by decide +kernel
theorem dX21_doAssign_116 : decode cX21_doAssign 116 = .ok (.istore 6, 2) := by decide +kernel
theorem dX21_doAssign_118 : decode cX21_doAssign 118 = .ok (.aload_n 0, 1) := by decide +kernel
theorem dX21_doAssign_119 : decode cX21_doAssign 119 = .ok (.getfield 772, 3) := by decide +kernel
theorem dX21_doAssign_122 : decode cX21_doAssign 122 = .ok (.iconst (-1), 1) := by decide +kernel
theorem dX21_doAssign_123 : decode cX21_doAssign 123 = .ok (.if_icmp .ne 33, 3) := by decide +kernel
theorem dX21_doAssign_126 : decode cX21_doAssign 126 = .ok (.aload_n 0, 1) := by decide +kernel
theorem dX21_doAssign_127 : decode cX21_doAssign 127 = .ok (.getfield 282, 3) := by decide +kernel
theorem dX21_doAssign_130 : decode cX21_doAssign 130 = .ok (.iload 5, 2) := by decide +kernel
theorem dX21_doAssign_132 : decode cX21_doAssign 132 = .ok (.aload_n 0, 1) := by decide +kernel
theorem dX21_doAssign_133 : decode cX21_doAssign 133 = .ok (.aload_n 0, 1) := by decide +kernel
theorem dX21_doAssign_134 : decode cX21_doAssign 134 = .ok (.getfield 220, 3) := by decide +kernel
theorem dX21_doAssign_137 : decode cX21_doAssign 137 = .ok (.iload_n 3, 1) := by decide +kernel
theorem dX21_doAssign_138 : decode cX21_doAssign 138 = .ok (.iaload, 1) := by decide +kernel
theorem dX21_doAssign_139 : decode cX21_doAssign 139 = .ok (.iload 6, 2) := by decide +kernel
theorem dX21_doAssign_141 : decode cX21_doAssign 141 = .ok (.invokevirtual 832, 3) := by decide +kernel
theorem dX21_doAssign_144 : decode cX21_doAssign 144 = .ok (.iastore, 1) := by decide +kernel
theorem dX21_doAssign_145 : decode cX21_doAssign 145 = .ok (.aload_n 0, 1) := by decide +kernel
theorem dX21_doAssign_146 : decode cX21_doAssign 146 = .ok (.aload_n 0, 1) := by decide +kernel
theorem dX21_doAssign_147 : decode cX21_doAssign 147 = .ok (.getfield 282, 3) := by decide +kernel
theorem dX21_doAssign_150 : decode cX21_doAssign 150 = .ok (.iload 5, 2) := by decide +kernel
theorem dX21_doAssign_152 : decode cX21_doAssign 152 = .ok (.iaload, 1) := by decide +kernel
theorem dX21_doAssign_153 : decode cX21_doAssign 153 = .ok (.invokevirtual 804, 3) := by decide +kernel
theorem dX21_doAssign_156 : decode cX21_doAssign 156 = .ok (.return_, 1) := by decide +kernel
theorem dX21_combined_0 : decode cX21_combined 0 = .ok (.aload_n 0, 1) := by decide +kernel
theorem dX21_combined_1 : decode cX21_combined 1 = .ok (.getfield 131, 3) := by decide +kernel
theorem dX21_combined_4 : decode cX21_combined 4 = .ok (.aload_n 0, 1) := by decide +kernel
theorem dX21_combined_5 : decode cX21_combined 5 = .ok (.getfield 205, 3) := by decide +kernel
theorem dX21_combined_8 : decode cX21_combined 8 = .ok (.iload_n 1, 1) := by decide +kernel
theorem dX21_combined_9 : decode cX21_combined 9 = .ok (.iaload, 1) := by decide +kernel
theorem dX21_combined_10 : decode cX21_combined 10 = .ok (.aaload, 1) := by decide +kernel
theorem dX21_combined_11 : decode cX21_combined 11 = .ok (.astore 4, 2) := by decide +kernel
theorem dX21_combined_13 : decode cX21_combined 13 = .ok (.aload 4, 2) := by decide +kernel
theorem dX21_combined_15 : decode cX21_combined 15 = .ok (.iconst 0, 1) := by decide +kernel
theorem dX21_combined_16 : decode cX21_combined 16 = .ok (.invokevirtual 338, 3) := by decide +kernel
theorem dX21_combined_19 : decode cX21_combined 19 = .ok (.istore 5, 2) := by decide +kernel
theorem dX21_combined_21 : decode cX21_combined 21 = .ok (.aload 4, 2) := by decide +kernel
theorem dX21_combined_23 : decode cX21_combined 23 = .ok (.invokevirtual 335, 3) := by decide +kernel
theorem dX21_combined_26 : decode cX21_combined 26 = .ok (.iconst 3, 1) := by decide +kernel
theorem dX21_combined_27 : decode cX21_combined 27 = .ok (.if_icmp .ne 20, 3) := by decide +kernel
theorem dX21_combined_30 : decode cX21_combined 30 = .ok (.iload 5, 2) := by decide +kernel
theorem dX21_combined_32 : decode cX21_combined 32 = .ok (.bipush 60, 2) := by decide +kernel
theorem dX21_combined_34 : decode cX21_combined 34 = .ok (.if_icmp .ne 9, 3) := by decide +kernel
theorem dX21_combined_37 : decode cX21_combined 37 = .ok (.iload_n 2, 1) := by decide +kernel
theorem dX21_combined_38 : decode cX21_combined 38 = .ok (.iload_n 3, 1) := by decide +kernel
theorem dX21_combined_39 : decode cX21_combined 39 = .ok (.ishl, 1) := by decide +kernel
theorem dX21_combined_40 : decode cX21_combined 40 = .ok (.goto 6, 3) := by decide +kernel
theorem dX21_combined_43 : decode cX21_combined 43 = .ok (.iload_n 2, 1) := by decide +kernel
theorem dX21_combined_44 : decode cX21_combined 44 = .ok (.iload_n 3, 1) := by decide +kernel
theorem dX21_combined_45 : decode cX21_combined 45 = .ok (.ishr, 1) := by decide +kernel
theorem dX21_combined_46 : decode cX21_combined 46 = .ok (.ireturn, 1) := by decide +kernel
theorem dX21_combined_47 : decode cX21_combined 47 = .ok (.iload 5, 2) := by decide +kernel
theorem dX21_combined_49 : decode cX21_combined 49 = .ok (.bipush 47, 2) := by decide +kernel
theorem dX21_combined_51 : decode cX21_combined 51 = .ok (.if_icmp .eq 10, 3) := by decide +kernel
theorem dX21_combined_54 : decode cX21_combined 54 = .ok (.iload 5, 2) := by decide +kernel
theorem dX21_combined_56 : decode cX21_combined 56 = .ok (.bipush 37, 2) := by decide +kernel
theorem dX21_combined_58 : decode cX21_combined 58 = .ok (.if_icmp .ne 14, 3) := by decide +kernel
theorem dX21_combined_61 : decode cX21_combined 61 = .ok (.iload_n 3, 1) := by decide +kernel
theorem dX21_combined_62 : decode cX21_combined 62 = .ok (.ifCond .ne 10, 3) := by decide +kernel
theorem dX21_combined_65 : decode cX21_combined 65 = .ok (.aload_n 0, 1) := by decide +kernel
theorem dX21_combined_66 : decode cX21_combined 66 = .ok (.iconst 3, 1) := by decide +kernel
theorem dX21_combined_67 : decode cX21_combined 67 = .ok (.invokevirtual 775, 3) := by decide +kernel
theorem dX21_combined_70 : decode cX21_combined 70 = .ok (.iconst 0, 1) := by decide +kernel
theorem dX21_combined_71 : decode cX21_combined 71 = .ok (.ireturn, 1) := by decide +kernel
theorem dX21_combined_72 : decode cX21_combined 72 = .ok (.iload 5, 2) := by decide +kernel
theorem dX21_combined_74 : decode cX21_combined 74 = .ok (.bipush 43, 2) := by decide +kernel
theorem dX21_combined_76 : decode cX21_combined 76 = .ok (.if_icmp .ne 9, 3) := by decide +kernel
theorem dX21_combined_79 : decode cX21_combined 79 = .ok (.iload_n 2, 1) := by decide +kernel
theorem dX21_combined_80 : decode cX21_combined 80 = .ok (.iload_n 3, 1) := by decide +kernel
theorem dX21_combined_81 : decode cX21_combined 81 = .ok (.iadd, 1) := by decide +kernel
theorem dX21_combined_82 : decode cX21_combined 82 = .ok (.goto 84, 3) := by decide +kernel
theorem dX21_combined_85 : decode cX21_combined 85 = .ok (.iload 5, 2) := by decide +kernel
theorem dX21_combined_87 : decode cX21_combined 87 = .ok (.bipush 45, 2) := by decide +kernel
theorem dX21_combined_89 : decode cX21_combined 89 = .ok (.if_icmp .ne 9, 3) := by decide +kernel
theorem dX21_combined_92 : decode cX21_combined 92 = .ok (.iload_n 2, 1) := by decide +kernel
theorem dX21_combined_93 : decode cX21_combined 93 = .ok (.iload_n 3, 1) := by decide +kernel
theorem dX21_combined_94 : decode cX21_combined 94 = .ok (.isub, 1) := by decide +kernel
theorem dX21_combined_95 : decode cX21_combined 95 = .ok (.goto 71, 3) := by decide +kernel
theorem dX21_combined_98 : decode cX21_combined 98 = .ok (.iload 5, 2) := by decide +kernel
theorem dX21_combined_100 : decode cX21_combined 100 = .ok (.bipush 42, 2) := by decide +kernel
theorem dX21_combined_102 : decode cX21_combined 102 = .ok (.if_icmp .ne 9, 3) := by decide +kernel
theorem dX21_combined_105 : decode cX21_combined 105 = .ok (.iload_n 2, 1) := by decide +kernel
theorem dX21_combined_106 : decode cX21_combined 106 = .ok (.iload_n 3, 1) := by decide +kernel
theorem dX21_combined_107 : decode cX21_combined 107 = .ok (.imul, 1) := by decide +kernel
theorem dX21_combined_108 : decode cX21_combined 108 = .ok (.goto 58, 3) := by decide +kernel
theorem dX21_combined_111 : decode cX21_combined 111 = .ok (.iload 5, 2) := by decide +kernel
theorem dX21_combined_113 : decode cX21_combined 113 = .ok (.bipush 47, 2) := by decide +kernel
theorem dX21_combined_115 : decode cX21_combined 115 = .ok (.if_icmp .ne 9, 3) := by decide +kernel
theorem dX21_combined_118 : decode cX21_combined 118 = .ok (.iload_n 2, 1) := by decide +kernel
theorem dX21_combined_119 : decode cX21_combined 119 = .ok (.iload_n 3, 1) := by decide +kernel
theorem dX21_combined_120 : decode cX21_combined 120 = .ok (.idiv, 1) := by decide +kernel
theorem dX21_combined_121 : decode cX21_combined 121 = .ok (.goto 45, 3) := by decide +kernel
theorem dX21_combined_124 : decode cX21_combined 124 = .ok (.iload 5, 2) := by decide +kernel
theorem dX21_combined_126 : decode cX21_combined 126 = .ok (.bipush 37, 2) := by decide +kernel
theorem dX21_combined_128 : decode cX21_combined 128 = .ok (.if_icmp .ne 9, 3) := by decide +kernel
theorem dX21_combined_131 : decode cX21_combined 131 = .ok (.iload_n 2, 1) := by decide +kernel
theorem dX21_combined_132 : decode cX21_combined 132 = .ok (.iload_n 3, 1) := by decide +kernel
theorem dX21_combined_133 : decode cX21_combined 133 = .ok (.irem, 1) := by decide +kernel
theorem dX21_combined_134 : decode cX21_combined 134 = .ok (.goto 32, 3) := by decide +kernel
theorem dX21_combined_137 : decode cX21_combined 137 = .ok (.iload 5, 2) := by decide +kernel
theorem dX21_combined_139 : decode cX21_combined 139 = .ok (.bipush 38, 2) := by decide +kernel
theorem dX21_combined_141 : decode cX21_combined 141 = .ok (.if_icmp .ne 9, 3) := by decide +kernel
theorem dX21_combined_144 : decode cX21_combined 144 = .ok (.iload_n 2, 1) := by decide +kernel
theorem dX21_combined_145 : decode cX21_combined 145 = .ok (.iload_n 3, 1) := by decide +kernel
theorem dX21_combined_146 : decode cX21_combined 146 = .ok (.iand, 1) := by decide +kernel
theorem dX21_combined_147 : decode cX21_combined 147 = .ok (.goto 19, 3) := by decide +kernel
theorem dX21_combined_150 : decode cX21_combined 150 = .ok (.iload 5, 2) := by decide +kernel
theorem dX21_combined_152 : decode cX21_combined 152 = .ok (.bipush 124, 2) := by decide +kernel
theorem dX21_combined_154 : decode cX21_combined 154 = .ok (.if_icmp .ne 9, 3) := by decide +kernel
theorem dX21_combined_157 : decode cX21_combined 157 = .ok (.iload_n 2, 1) := by decide +kernel
theorem dX21_combined_158 : decode cX21_combined 158 = .ok (.iload_n 3, 1) := by decide +kernel
theorem dX21_combined_159 : decode cX21_combined 159 = .ok (.ior, 1) := by decide +kernel
theorem dX21_combined_160 : decode cX21_combined 160 = .ok (.goto 6, 3) := by decide +kernel
theorem dX21_combined_163 : decode cX21_combined 163 = .ok (.iload_n 2, 1) := by decide +kernel
theorem dX21_combined_164 : decode cX21_combined 164 = .ok (.iload_n 3, 1) := by decide +kernel
theorem dX21_combined_165 : decode cX21_combined 165 = .ok (.ixor, 1) := by decide +kernel
theorem dX21_combined_166 : decode cX21_combined 166 = .ok (.ireturn, 1) := by decide +kernel
theorem dX21_life_0 : decode cX21_life 0 = .ok (.aload_n 0, 1) := by decide +kernel
theorem dX21_life_1 : decode cX21_life 1 = .ok (.iconst 0, 1) := by decide +kernel
theorem dX21_life_2 : decode cX21_life 2 = .ok (.putfield 318, 3) := by decide +kernel
theorem dX21_life_5 : decode cX21_life 5 = .ok (.aload_n 0, 1) := by decide +kernel
theorem dX21_life_6 : decode cX21_life 6 = .ok (.getfield 311, 3) := by decide +kernel
theorem dX21_life_9 : decode cX21_life 9 = .ok (.ireturn, 1) := by decide +kernel
theorem dX21_input_0 : decode cX21_input 0 = .ok (.aload_n 0, 1) := by decide +kernel
theorem dX21_input_1 : decode cX21_input 1 = .ok (.aload_n 0, 1) := by decide +kernel
theorem dX21_input_2 : decode cX21_input 2 = .ok (.getfield 862, 3) := by decide +kernel
theorem dX21_input_5 : decode cX21_input 5 = .ok (.bipush 64, 2) := by decide +kernel
theorem dX21_input_7 : decode cX21_input 7 = .ok (.if_icmp .ne 7, 3) := by decide +kernel
theorem dX21_input_10 : decode cX21_input 10 = .ok (.iconst 1, 1) := by decide +kernel
theorem dX21_input_11 : decode cX21_input 11 = .ok (.goto 4, 3) := by decide +kernel
theorem dX21_input_14 : decode cX21_input 14 = .ok (.iconst 0, 1) := by decide +kernel
theorem dX21_input_15 : decode cX21_input 15 = .ok (.putfield 318, 3) := by decide +kernel
theorem dX21_input_18 : decode cX21_input 18 = .ok (.aload_n 0, 1) := by decide +kernel
theorem dX21_input_19 : decode cX21_input 19 = .ok (.getfield 318, 3) := by decide +kernel
theorem dX21_input_22 : decode cX21_input 22 = .ok (.ifCond .ne 23, 3) := by decide +kernel
theorem dX21_input_25 : decode cX21_input 25 = .ok (.aload_n 0, 1) := by decide +kernel
theorem dX21_input_26 : decode cX21_input 26 = .ok (.getfield 304, 3) := by decide +kernel
theorem dX21_input_29 : decode cX21_input 29 = .ok (.aload_n 0, 1) := by decide +kernel
theorem dX21_input_30 : decode cX21_input 30 = .ok (.getfield 862, 3) := by decide +kernel
theorem dX21_input_33 : decode cX21_input 33 = .ok (.iload_n 1, 1) := by decide +kernel
theorem dX21_input_34 : decode cX21_input 34 = .ok (.iastore, 1) := by decide +kernel
theorem dX21_input_35 : decode cX21_input 35 = .ok (.aload_n 0, 1) := by decide +kernel
theorem dX21_input_36 : decode cX21_input 36 = .ok (.dup, 1) := by decide +kernel
theorem dX21_input_37 : decode cX21_input 37 = .ok (.getfield 862, 3) := by decide +kernel
theorem dX21_input_40 : decode cX21_input 40 = .ok (.iconst 1, 1) := by decide +kernel
theorem dX21_input_41 : decode cX21_input 41 = .ok (.iadd, 1) := by decide +kernel
theorem dX21_input_42 : decode cX21_input 42 = .ok (.putfield 862, 3) := by decide +kernel
theorem dX21_input_45 : decode cX21_input 45 = .ok (.return_, 1) := by decide +kernel
theorem dX21_value_0 : decode cX21_value 0 = .ok (.aload_n 0, 1) := by decide +kernel
theorem dX21_value_1 : decode cX21_value 1 = .ok (.iconst 0, 1) := by decide +kernel
theorem dX21_value_2 : decode cX21_value 2 = .ok (.putfield 318, 3) := by decide +kernel
theorem dX21_value_5 : decode cX21_value 5 = .ok (.aload_n 0, 1) := by decide +kernel
theorem dX21_value_6 : decode cX21_value 6 = .ok (.getfield 748, 3) := by decide +kernel
theorem dX21_value_9 : decode cX21_value 9 = .ok (.ireturn, 1) := by decide +kernel
theorem dX21_left_0 : decode cX21_left 0 = .ok (.aload_n 0, 1) := by decide +kernel
theorem dX21_left_1 : decode cX21_left 1 = .ok (.iconst 0, 1) := by decide +kernel
theorem dX21_left_2 : decode cX21_left 2 = .ok (.putfield 318, 3) := by decide +kernel
theorem dX21_left_5 : decode cX21_left 5 = .ok (.aload_n 0, 1) := by decide +kernel
theorem dX21_left_6 : decode cX21_left 6 = .ok (.getfield 751, 3) := by decide +kernel
theorem dX21_left_9 : decode cX21_left 9 = .ok (.ireturn, 1) := by decide +kernel
theorem dX21_paper_0 : decode cX21_paper 0 = .ok (.aload_n 0, 1) := by decide +kernel
theorem dX21_paper_1 : decode cX21_paper 1 = .ok (.iconst 0, 1) := by decide +kernel
theorem dX21_paper_2 : decode cX21_paper 2 = .ok (.putfield 318, 3) := by decide +kernel
theorem dX21_paper_5 : decode cX21_paper 5 = .ok (.aload_n 0, 1) := by decide +kernel
theorem dX21_paper_6 : decode cX21_paper 6 = .ok (.getfield 745, 3) := by decide +kernel
theorem dX21_paper_9 : decode cX21_paper 9 = .ok (.ireturn, 1) := by decide +kernel
theorem dX21_paperAt_0 : decode cX21_paperAt 0 = .ok (.aload_n 0, 1) := by decide +kernel
theorem dX21_paperAt_1 : decode cX21_paperAt 1 = .ok (.iload_n 1, 1) := by decide +kernel
theorem dX21_paperAt_2 : decode cX21_paperAt 2 = .ok (.ifCond .lt 18, 3) := by decide +kernel
theorem dX21_paperAt_5 : decode cX21_paperAt 5 = .ok (.iload_n 1, 1) := by decide +kernel
theorem dX21_paperAt_6 : decode cX21_paperAt 6 = .ok (.aload_n 0, 1) := by decide +kernel
theorem dX21_paperAt_7 : decode cX21_paperAt 7 = .ok (.getfield 745, 3) := by decide +kernel
theorem dX21_paperAt_10 : decode cX21_paperAt 10 = .ok (.if_icmp .ge 10, 3) := by decide +kernel
theorem dX21_paperAt_13 : decode cX21_paperAt 13 = .ok (.iload_n 1, 1) := by decide +kernel
theorem dX21_paperAt_14 : decode cX21_paperAt 14 = .ok (.sipush 1023, 3) := by decide +kernel
theorem dX21_paperAt_17 : decode cX21_paperAt 17 = .ok (.if_icmp .le 7, 3) := by decide +kernel
theorem dX21_paperAt_20 : decode cX21_paperAt 20 = .ok (.iconst 1, 1) := by decide +kernel
theorem dX21_paperAt_21 : decode cX21_paperAt 21 = .ok (.goto 4, 3) := by decide +kernel
theorem dX21_paperAt_24 : decode cX21_paperAt 24 = .ok (.iconst 0, 1) := by decide +kernel
theorem dX21_paperAt_25 : decode cX21_paperAt 25 = .ok (.putfield 318, 3) := by decide +kernel
theorem dX21_paperAt_28 : decode cX21_paperAt 28 = .ok (.aload_n 0, 1) := by decide +kernel
theorem dX21_paperAt_29 : decode cX21_paperAt 29 = .ok (.getfield 318, 3) := by decide +kernel
theorem dX21_paperAt_32 : decode cX21_paperAt 32 = .ok (.ifCond .le 7, 3) := by decide +kernel
theorem dX21_paperAt_35 : decode cX21_paperAt 35 = .ok (.iconst 0, 1) := by decide +kernel
theorem dX21_paperAt_36 : decode cX21_paperAt 36 = .ok (.goto 9, 3) := by decide +kernel
theorem dX21_paperAt_39 : decode cX21_paperAt 39 = .ok (.aload_n 0, 1) := by decide +kernel
theorem dX21_paperAt_40 : decode cX21_paperAt 40 = .ok (.getfield 301, 3) := by decide +kernel
theorem dX21_paperAt_43 : decode cX21_paperAt 43 = .ok (.iload_n 1, 1) := by decide +kernel
theorem dX21_paperAt_44 : decode cX21_paperAt 44 = .ok (.iaload, 1) := by decide +kernel
theorem dX21_paperAt_45 : decode cX21_paperAt 45 = .ok (.ireturn, 1) := by decide +kernel
theorem dX21_inputs_0 : decode cX21_inputs 0 = .ok (.aload_n 0, 1) := by decide +kernel
theorem dX21_inputs_1 : decode cX21_inputs 1 = .ok (.iconst 0, 1) := by decide +kernel
theorem dX21_inputs_2 : decode cX21_inputs 2 = .ok (.putfield 318, 3) := by decide +kernel
theorem dX21_inputs_5 : decode cX21_inputs 5 = .ok (.aload_n 0, 1) := by decide +kernel
theorem dX21_inputs_6 : decode cX21_inputs 6 = .ok (.getfield 862, 3) := by decide +kernel
theorem dX21_inputs_9 : decode cX21_inputs 9 = .ok (.ireturn, 1) := by decide +kernel
theorem dX21_disk_0 : decode cX21_disk 0 = .ok (.aload_n 0, 1) := by decide +kernel
theorem dX21_disk_1 : decode cX21_disk 1 = .ok (.iload_n 1, 1) := by decide +kernel
theorem dX21_disk_2 : decode cX21_disk 2 = .ok (.ifCond .lt 9, 3) := by decide +kernel
theorem dX21_disk_5 : decode cX21_disk 5 = .ok (.iload_n 1, 1) := by decide +kernel
theorem dX21_disk_6 : decode cX21_disk 6 = .ok (.bipush 127, 2) := by decide +kernel
theorem dX21_disk_8 : decode cX21_disk 8 = .ok (.if_icmp .le 7, 3) := by decide +kernel
theorem dX21_disk_11 : decode cX21_disk 11 = .ok (.iconst 1, 1) := by decide +kernel
theorem dX21_disk_12 : decode cX21_disk 12 = .ok (.goto 4, 3) := by decide +kernel
theorem dX21_disk_15 : decode cX21_disk 15 = .ok (.iconst 0, 1) := by decide +kernel
theorem dX21_disk_16 : decode cX21_disk 16 = .ok (.putfield 318, 3) := by decide +kernel
theorem dX21_disk_19 : decode cX21_disk 19 = .ok (.aload_n 0, 1) := by decide +kernel
theorem dX21_disk_20 : decode cX21_disk 20 = .ok (.getfield 318, 3) := by decide +kernel
theorem dX21_disk_23 : decode cX21_disk 23 = .ok (.ifCond .le 7, 3) := by decide +kernel
theorem dX21_disk_26 : decode cX21_disk 26 = .ok (.iconst 0, 1) := by decide +kernel
theorem dX21_disk_27 : decode cX21_disk 27 = .ok (.goto 9, 3) := by decide +kernel
theorem dX21_disk_30 : decode cX21_disk 30 = .ok (.aload_n 0, 1) := by decide +kernel
theorem dX21_disk_31 : decode cX21_disk 31 = .ok (.getfield 307, 3) := by decide +kernel
theorem dX21_disk_34 : decode cX21_disk 34 = .ok (.iload_n 1, 1) := by decide +kernel
theorem dX21_disk_35 : decode cX21_disk 35 = .ok (.iaload, 1) := by decide +kernel
theorem dX21_disk_36 : decode cX21_disk 36 = .ok (.ireturn, 1) := by decide +kernel
theorem dX21_setDisk_0 : decode cX21_setDisk 0 = .ok (.aload_n 0, 1) := by decide +kernel
theorem dX21_setDisk_1 : decode cX21_setDisk 1 = .ok (.iload_n 1, 1) := by decide +kernel
theorem dX21_setDisk_2 : decode cX21_setDisk 2 = .ok (.ifCond .lt 9, 3) := by decide +kernel
theorem dX21_setDisk_5 : decode cX21_setDisk 5 = .ok (.iload_n 1, 1) := by decide +kernel
theorem dX21_setDisk_6 : decode cX21_setDisk 6 = .ok (.bipush 127, 2) := by decide +kernel
theorem dX21_setDisk_8 : decode cX21_setDisk 8 = .ok (.if_icmp .le 7, 3) := by decide +kernel
theorem dX21_setDisk_11 : decode cX21_setDisk 11 = .ok (.iconst 1, 1) := by decide +kernel
theorem dX21_setDisk_12 : decode cX21_setDisk 12 = .ok (.goto 4, 3) := by decide +kernel
theorem dX21_setDisk_15 : decode cX21_setDisk 15 = .ok (.iconst 0, 1) := by decide +kernel
theorem dX21_setDisk_16 : decode cX21_setDisk 16 = .ok (.putfield 318, 3) := by decide +kernel
theorem dX21_setDisk_19 : decode cX21_setDisk 19 = .ok (.aload_n 0, 1) := by decide +kernel
theorem dX21_setDisk_20 : decode cX21_setDisk 20 = .ok (.getfield 318, 3) := by decide +kernel
theorem dX21_setDisk_23 : decode cX21_setDisk 23 = .ok (.ifCond .ne 10, 3) := by decide +kernel
theorem dX21_setDisk_26 : decode cX21_setDisk 26 = .ok (.aload_n 0, 1) := by decide +kernel
theorem dX21_setDisk_27 : decode cX21_setDisk 27 = .ok (.getfield 307, 3) := by decide +kernel
theorem dX21_setDisk_30 : decode cX21_setDisk 30 = .ok (.iload_n 1, 1) := by decide +kernel
theorem dX21_setDisk_31 : decode cX21_setDisk 31 = .ok (.iload_n 2, 1) := by decide +kernel
theorem dX21_setDisk_32 : decode cX21_setDisk 32 = .ok (.iastore, 1) := by decide +kernel
theorem dX21_setDisk_33 : decode cX21_setDisk 33 = .ok (.return_, 1) := by decide +kernel
theorem dX21_variable_2_0 : decode cX21_variable_2 0 = .ok (.aload_n 0, 1) := by decide +kernel
theorem dX21_variable_2_1 : decode cX21_variable_2 1 = .ok (.iload_n 1, 1) := by decide +kernel
theorem dX21_variable_2_2 : decode cX21_variable_2 2 = .ok (.ifCond .lt 11, 3) := by decide +kernel
theorem dX21_variable_2_5 : decode cX21_variable_2 5 = .ok (.iload_n 1, 1) := by decide +kernel
theorem dX21_variable_2_6 : decode cX21_variable_2 6 = .ok (.aload_n 0, 1) := by decide +kernel
theorem dX21_variable_2_7 : decode cX21_variable_2 7 = .ok (.getfield 724, 3) := by decide +kernel
theorem dX21_variable_2_10 : decode cX21_variable_2 10 = .ok (.if_icmp .lt 7, 3) := by decide +kernel
theorem dX21_variable_2_13 : decode cX21_variable_2 13 = .ok (.iconst 1, 1) := by decide +kernel
theorem dX21_variable_2_14 : decode cX21_variable_2 14 = .ok (.goto 4, 3) := by decide +kernel
theorem dX21_variable_2_17 : decode cX21_variable_2 17 = .ok (.iconst 0, 1) := by decide +kernel
theorem dX21_variable_2_18 : decode cX21_variable_2 18 = .ok (.putfield 318, 3) := by decide +kernel
theorem dX21_variable_2_21 : decode cX21_variable_2 21 = .ok (.aload_n 0, 1) := by decide +kernel
theorem dX21_variable_2_22 : decode cX21_variable_2 22 = .ok (.getfield 318, 3) := by decide +kernel
theorem dX21_variable_2_25 : decode cX21_variable_2 25 = .ok (.ifCond .le 5, 3) := by decide +kernel
theorem dX21_variable_2_28 : decode cX21_variable_2 28 = .ok (.iconst 0, 1) := by decide +kernel
theorem dX21_variable_2_29 : decode cX21_variable_2 29 = .ok (.ireturn, 1) := by decide +kernel
theorem dX21_variable_2_30 : decode cX21_variable_2 30 = .ok (.iconst 0, 1) := by decide +kernel
theorem dX21_variable_2_31 : decode cX21_variable_2 31 = .ok (.istore_n 2, 1) := by decide +kernel
theorem dX21_variable_2_32 : decode cX21_variable_2 32 = .ok (.iconst 0, 1) := by decide +kernel
theorem dX21_variable_2_33 : decode cX21_variable_2 33 = .ok (.istore_n 3, 1) := by decide +kernel
theorem dX21_variable_2_34 : decode cX21_variable_2 34 = .ok (.iload_n 3, 1) := by decide +kernel
theorem dX21_variable_2_35 : decode cX21_variable_2 35 = .ok (.aload_n 0, 1) := by decide +kernel
theorem dX21_variable_2_36 : decode cX21_variable_2 36 = .ok (.getfield 579, 3) := by decide +kernel
theorem dX21_variable_2_39 : decode cX21_variable_2 39 = .ok (.if_icmp .ge 76, 3) := by decide +kernel
theorem dX21_variable_2_42 : decode cX21_variable_2 42 = .ok (.aload_n 0, 1) := by decide +kernel
theorem dX21_variable_2_43 : decode cX21_variable_2 43 = .ok (.getfield 265, 3) := by decide +kernel
theorem dX21_variable_2_46 : decode cX21_variable_2 46 = .ok (.iload_n 3, 1) := by decide +kernel
theorem dX21_variable_2_47 : decode cX21_variable_2 47 = .ok (.baload, 1) := by decide +kernel
theorem dX21_variable_2_48 : decode cX21_variable_2 48 = .ok (.ifCond .eq 61, 3) := by decide +kernel
theorem dX21_variable_2_51 : decode cX21_variable_2 51 = .ok (.aload_n 0, 1) := by decide +kernel
theorem dX21_variable_2_52 : decode cX21_variable_2 52 = .ok (.getfield 272, 3) := by decide +kernel
theorem dX21_variable_2_55 : decode cX21_variable_2 55 = .ok (.iload_n 3, 1) := by decide +kernel
theorem dX21_variable_2_56 : decode cX21_variable_2 56 = .ok (.iaload, 1) := by decide +kernel
theorem dX21_variable_2_57 : decode cX21_variable_2 57 = .ok (.istore 4, 2) := by decide +kernel
theorem dX21_variable_2_59 : decode cX21_variable_2 59 = .ok (.aload_n 0, 1) := by decide +kernel
theorem dX21_variable_2_60 : decode cX21_variable_2 60 = .ok (.getfield 262, 3) := by decide +kernel
theorem dX21_variable_2_63 : decode cX21_variable_2 63 = .ok (.iload_n 3, 1) := by decide +kernel
theorem dX21_variable_2_64 : decode cX21_variable_2 64 = .ok (.baload, 1) := by decide +kernel
theorem dX21_variable_2_65 : decode cX21_variable_2 65 = .ok (.iconst 3, 1) := by decide +kernel
theorem dX21_variable_2_66 : decode cX21_variable_2 66 = .ok (.if_icmp .ne 12, 3) := by decide +kernel
theorem dX21_variable_2_69 : decode cX21_variable_2 69 = .ok (.iload 4, 2) := by decide +kernel
theorem dX21_variable_2_71 : decode cX21_variable_2 71 = .ok (.iconst 3, 1) := by decide +kernel
theorem dX21_variable_2_72 : decode cX21_variable_2 72 = .ok (.iadd, 1) := by decide +kernel
theorem dX21_variable_2_73 : decode cX21_variable_2 73 = .ok (.iconst 4, 1) := by decide +kernel
theorem dX21_variable_2_74 : decode cX21_variable_2 74 = .ok (.idiv, 1) := by decide +kernel
theorem dX21_variable_2_75 : decode cX21_variable_2 75 = .ok (.goto 5, 3) := by decide +kernel
theorem dX21_variable_2_78 : decode cX21_variable_2 78 = .ok (.iload 4, 2) := by decide +kernel
theorem dX21_variable_2_80 : decode cX21_variable_2 80 = .ok (.istore 5, 2) := by decide +kernel
theorem dX21_variable_2_82 : decode cX21_variable_2 82 = .ok (.iload_n 1, 1) := by decide +kernel
theorem dX21_variable_2_83 : decode cX21_variable_2 83 = .ok (.iload_n 2, 1) := by decide +kernel
theorem dX21_variable_2_84 : decode cX21_variable_2 84 = .ok (.if_icmp .lt 20, 3) := by decide +kernel
theorem dX21_variable_2_87 : decode cX21_variable_2 87 = .ok (.iload_n 1, 1) := by decide +kernel
theorem dX21_variable_2_88 : decode cX21_variable_2 88 = .ok (.iload_n 2, 1) := by decide +kernel
theorem dX21_variable_2_89 : decode cX21_variable_2 89 = .ok (.iload 5, 2) := by decide +kernel
theorem dX21_variable_2_91 : decode cX21_variable_2 91 = .ok (.iadd, 1) := by decide +kernel
theorem dX21_variable_2_92 : decode cX21_variable_2 92 = .ok (.if_icmp .ge 12, 3) := by decide +kernel
theorem dX21_variable_2_95 : decode cX21_variable_2 95 = .ok (.aload_n 0, 1) := by decide +kernel
theorem dX21_variable_2_96 : decode cX21_variable_2 96 = .ok (.iload_n 3, 1) := by decide +kernel
theorem dX21_variable_2_97 : decode cX21_variable_2 97 = .ok (.iload_n 1, 1) := by decide +kernel
theorem dX21_variable_2_98 : decode cX21_variable_2 98 = .ok (.iload_n 2, 1) := by decide +kernel
theorem dX21_variable_2_99 : decode cX21_variable_2 99 = .ok (.isub, 1) := by decide +kernel
theorem dX21_variable_2_100 : decode cX21_variable_2 100 = .ok (.invokevirtual 911, 3) := by decide +kernel
theorem dX21_variable_2_103 : decode cX21_variable_2 103 = .ok (.ireturn, 1) := by decide +kernel
theorem dX21_variable_2_104 : decode cX21_variable_2 104 = .ok (.iload_n 2, 1) := by decide +kernel
theorem dX21_variable_2_105 : decode cX21_variable_2 105 = .ok (.iload 5, 2) := by decide +kernel
theorem dX21_variable_2_107 : decode cX21_variable_2 107 = .ok (.iadd, 1) := by decide +kernel
theorem dX21_variable_2_108 : decode cX21_variable_2 108 = .ok (.istore_n 2, 1) := by decide +kernel
theorem dX21_variable_2_109 : decode cX21_variable_2 109 = .ok (.iinc 3 1, 3) := by decide +kernel
theorem dX21_variable_2_112 : decode cX21_variable_2 112 = .ok (.goto (-78), 3) := by decide +kernel
theorem dX21_variable_2_115 : decode cX21_variable_2 115 = .ok (.iconst 0, 1) := by decide +kernel
theorem dX21_variable_2_116 : decode cX21_variable_2 116 = .ok (.ireturn, 1) := by decide +kernel
theorem dX21_wordOf_0 : decode cX21_wordOf 0 = .ok (.aload_n 0, 1) := by decide +kernel
theorem dX21_wordOf_1 : decode cX21_wordOf 1 = .ok (.getfield 262, 3) := by decide +kernel
theorem dX21_wordOf_4 : decode cX21_wordOf 4 = .ok (.iload_n 1, 1) := by decide +kernel
theorem dX21_wordOf_5 : decode cX21_wordOf 5 = .ok (.baload, 1) := by decide +kernel
theorem dX21_wordOf_6 : decode cX21_wordOf 6 = .ok (.iconst 3, 1) := by decide +kernel
theorem dX21_wordOf_7 : decode cX21_wordOf 7 = .ok (.if_icmp .eq 17, 3) := by decide +kernel
theorem dX21_wordOf_10 : decode cX21_wordOf 10 = .ok (.aload_n 0, 1) := by decide +kernel
theorem dX21_wordOf_11 : decode cX21_wordOf 11 = .ok (.getfield 282, 3) := by decide +kernel
theorem dX21_wordOf_14 : decode cX21_wordOf 14 = .ok (.aload_n 0, 1) := by decide +kernel
theorem dX21_wordOf_15 : decode cX21_wordOf 15 = .ok (.getfield 269, 3) := by decide +kernel
theorem dX21_wordOf_18 : decode cX21_wordOf 18 = .ok (.iload_n 1, 1) := by decide +kernel
theorem dX21_wordOf_19 : decode cX21_wordOf 19 = .ok (.iaload, 1) := by decide +kernel
theorem dX21_wordOf_20 : decode cX21_wordOf 20 = .ok (.iload_n 2, 1) := by decide +kernel
theorem dX21_wordOf_21 : decode cX21_wordOf 21 = .ok (.iadd, 1) := by decide +kernel
theorem dX21_wordOf_22 : decode cX21_wordOf 22 = .ok (.iaload, 1) := by decide +kernel
theorem dX21_wordOf_23 : decode cX21_wordOf 23 = .ok (.ireturn, 1) := by decide +kernel
theorem dX21_wordOf_24 : decode cX21_wordOf 24 = .ok (.iconst 0, 1) := by decide +kernel
theorem dX21_wordOf_25 : decode cX21_wordOf 25 = .ok (.istore_n 3, 1) := by decide +kernel
theorem dX21_wordOf_26 : decode cX21_wordOf 26 = .ok (.iconst 3, 1) := by decide +kernel
theorem dX21_wordOf_27 : decode cX21_wordOf 27 = .ok (.istore 4, 2) := by decide +kernel
theorem dX21_wordOf_29 : decode cX21_wordOf 29 = .ok (.iload 4, 2) := by decide +kernel
theorem dX21_wordOf_31 : decode cX21_wordOf 31 = .ok (.ifCond .lt 53, 3) := by decide +kernel
theorem dX21_wordOf_34 : decode cX21_wordOf 34 = .ok (.iconst 4, 1) := by decide +kernel
theorem dX21_wordOf_35 : decode cX21_wordOf 35 = .ok (.iload_n 2, 1) := by decide +kernel
theorem dX21_wordOf_36 : decode cX21_wordOf 36 = .ok (.imul, 1) := by decide +kernel
theorem dX21_wordOf_37 : decode cX21_wordOf 37 = .ok (.iload 4, 2) := by decide +kernel
theorem dX21_wordOf_39 : decode cX21_wordOf 39 = .ok (.iadd, 1) := by decide +kernel
theorem dX21_wordOf_40 : decode cX21_wordOf 40 = .ok (.istore 5, 2) := by decide +kernel
theorem dX21_wordOf_42 : decode cX21_wordOf 42 = .ok (.iload_n 3, 1) := by decide +kernel
theorem dX21_wordOf_43 : decode cX21_wordOf 43 = .ok (.sipush 256, 3) := by decide +kernel
theorem dX21_wordOf_46 : decode cX21_wordOf 46 = .ok (.imul, 1) := by decide +kernel
theorem dX21_wordOf_47 : decode cX21_wordOf 47 = .ok (.iload 5, 2) := by decide +kernel
theorem dX21_wordOf_49 : decode cX21_wordOf 49 = .ok (.aload_n 0, 1) := by decide +kernel
theorem dX21_wordOf_50 : decode cX21_wordOf 50 = .ok (.getfield 272, 3) := by decide +kernel
theorem dX21_wordOf_53 : decode cX21_wordOf 53 = .ok (.iload_n 1, 1) := by decide +kernel
theorem dX21_wordOf_54 : decode cX21_wordOf 54 = .ok (.iaload, 1) := by decide +kernel
theorem dX21_wordOf_55 : decode cX21_wordOf 55 = .ok (.if_icmp .ge 20, 3) := by decide +kernel
theorem dX21_wordOf_58 : decode cX21_wordOf 58 = .ok (.aload_n 0, 1) := by decide +kernel
theorem dX21_wordOf_59 : decode cX21_wordOf 59 = .ok (.getfield 282, 3) := by decide +kernel
theorem dX21_wordOf_62 : decode cX21_wordOf 62 = .ok (.aload_n 0, 1) := by decide +kernel
theorem dX21_wordOf_63 : decode cX21_wordOf 63 = .ok (.getfield 269, 3) := by decide +kernel
theorem dX21_wordOf_66 : decode cX21_wordOf 66 = .ok (.iload_n 1, 1) := by decide +kernel
theorem dX21_wordOf_67 : decode cX21_wordOf 67 = .ok (.iaload, 1) := by decide +kernel
theorem dX21_wordOf_68 : decode cX21_wordOf 68 = .ok (.iload 5, 2) := by decide +kernel
theorem dX21_wordOf_70 : decode cX21_wordOf 70 = .ok (.iadd, 1) := by decide +kernel
theorem dX21_wordOf_71 : decode cX21_wordOf 71 = .ok (.iaload, 1) := by decide +kernel
theorem dX21_wordOf_72 : decode cX21_wordOf 72 = .ok (.goto 4, 3) := by decide +kernel
theorem dX21_wordOf_75 : decode cX21_wordOf 75 = .ok (.iconst 0, 1) := by decide +kernel
theorem dX21_wordOf_76 : decode cX21_wordOf 76 = .ok (.iadd, 1) := by decide +kernel
theorem dX21_wordOf_77 : decode cX21_wordOf 77 = .ok (.istore_n 3, 1) := by decide +kernel
theorem dX21_wordOf_78 : decode cX21_wordOf 78 = .ok (.iinc 4 (-1), 3) := by decide +kernel
theorem dX21_wordOf_81 : decode cX21_wordOf 81 = .ok (.goto (-52), 3) := by decide +kernel
theorem dX21_wordOf_84 : decode cX21_wordOf 84 = .ok (.iload_n 3, 1) := by decide +kernel
theorem dX21_wordOf_85 : decode cX21_wordOf 85 = .ok (.ireturn, 1) := by decide +kernel
theorem dX22_operation_0 : decode cX22_operation 0 = .ok (.iload_n 0, 1) := by decide +kernel
theorem dX22_operation_1 : decode cX22_operation 1 = .ok (.bipush 12, 2) := by decide +kernel
theorem dX22_operation_3 : decode cX22_operation 3 = .ok (.ishr, 1) := by decide +kernel
theorem dX22_operation_4 : decode cX22_operation 4 = .ok (.bipush 7, 2) := by decide +kernel
theorem dX22_operation_6 : decode cX22_operation 6 = .ok (.iand, 1) := by decide +kernel
theorem dX22_operation_7 : decode cX22_operation 7 = .ok (.istore_n 1, 1) := by decide +kernel
theorem dX22_operation_8 : decode cX22_operation 8 = .ok (.iload_n 0, 1) := by decide +kernel
theorem dX22_operation_9 : decode cX22_operation 9 = .ok (.bipush 127, 2) := by decide +kernel
theorem dX22_operation_11 : decode cX22_operation 11 = .ok (.iand, 1) := by decide +kernel
theorem dX22_operation_12 : decode cX22_operation 12 = .ok (.lookupswitch 169 #[(3, 119), (15, 152), (23, 86), (35, 138), (55, 84), (99, 100), (103, 90), (111, 88), (115, 163)], 84) := by decide +kernel
theorem dX22_operation_96 : decode cX22_operation 96 = .ok (.iconst 2, 1) := by decide +kernel
theorem dX22_operation_97 : decode cX22_operation 97 = .ok (.ireturn, 1) := by decide +kernel
theorem dX22_operation_98 : decode cX22_operation 98 = .ok (.iconst 3, 1) := by decide +kernel
theorem dX22_operation_99 : decode cX22_operation 99 = .ok (.ireturn, 1) := by decide +kernel
theorem dX22_operation_100 : decode cX22_operation 100 = .ok (.iconst 4, 1) := by decide +kernel
theorem dX22_operation_101 : decode cX22_operation 101 = .ok (.ireturn, 1) := by decide +kernel
theorem dX22_operation_102 : decode cX22_operation 102 = .ok (.iload_n 1, 1) := by decide +kernel
theorem dX22_operation_103 : decode cX22_operation 103 = .ok (.ifCond .ne 7, 3) := by decide +kernel
theorem dX22_operation_106 : decode cX22_operation 106 = .ok (.iconst 5, 1) := by decide +kernel
theorem dX22_operation_107 : decode cX22_operation 107 = .ok (.goto 4, 3) := by decide +kernel
theorem dX22_operation_110 : decode cX22_operation 110 = .ok (.iconst 1, 1) := by decide +kernel
theorem dX22_operation_111 : decode cX22_operation 111 = .ok (.ireturn, 1) := by decide +kernel
theorem dX22_operation_112 : decode cX22_operation 112 = .ok (.iload_n 1, 1) := by decide +kernel
theorem dX22_operation_113 : decode cX22_operation 113 = .ok (.iconst 2, 1) := by decide +kernel
theorem dX22_operation_114 : decode cX22_operation 114 = .ok (.if_icmp .eq 8, 3) := by decide +kernel
theorem dX22_operation_117 : decode cX22_operation 117 = .ok (.iload_n 1, 1) := by decide +kernel
theorem dX22_operation_118 : decode cX22_operation 118 = .ok (.iconst 3, 1) := by decide +kernel
theorem dX22_operation_119 : decode cX22_operation 119 = .ok (.if_icmp .ne 7, 3) := by decide +kernel
theorem dX22_operation_122 : decode cX22_operation 122 = .ok (.iconst 1, 1) := by decide +kernel
theorem dX22_operation_123 : decode cX22_operation 123 = .ok (.goto 7, 3) := by decide +kernel
theorem dX22_operation_126 : decode cX22_operation 126 = .ok (.bipush 8, 2) := by decide +kernel
theorem dX22_operation_128 : decode cX22_operation 128 = .ok (.iload_n 1, 1) := by decide +kernel
theorem dX22_operation_129 : decode cX22_operation 129 = .ok (.iadd, 1) := by decide +kernel
theorem dX22_operation_130 : decode cX22_operation 130 = .ok (.ireturn, 1) := by decide +kernel
theorem dX22_operation_131 : decode cX22_operation 131 = .ok (.iload_n 1, 1) := by decide +kernel
theorem dX22_operation_132 : decode cX22_operation 132 = .ok (.iconst 3, 1) := by decide +kernel
theorem dX22_operation_133 : decode cX22_operation 133 = .ok (.if_icmp .eq 8, 3) := by decide +kernel
theorem dX22_operation_136 : decode cX22_operation 136 = .ok (.iload_n 1, 1) := by decide +kernel
theorem dX22_operation_137 : decode cX22_operation 137 = .ok (.iconst 5, 1) := by decide +kernel
theorem dX22_operation_138 : decode cX22_operation 138 = .ok (.if_icmp .le 7, 3) := by decide +kernel
theorem dX22_operation_141 : decode cX22_operation 141 = .ok (.iconst 1, 1) := by decide +kernel
theorem dX22_operation_142 : decode cX22_operation 142 = .ok (.goto 7, 3) := by decide +kernel
theorem dX22_operation_145 : decode cX22_operation 145 = .ok (.bipush 16, 2) := by decide +kernel
theorem dX22_operation_147 : decode cX22_operation 147 = .ok (.iload_n 1, 1) := by decide +kernel
theorem dX22_operation_148 : decode cX22_operation 148 = .ok (.iadd, 1) := by decide +kernel
theorem dX22_operation_149 : decode cX22_operation 149 = .ok (.ireturn, 1) := by decide +kernel
theorem dX22_operation_150 : decode cX22_operation 150 = .ok (.iload_n 1, 1) := by decide +kernel
theorem dX22_operation_151 : decode cX22_operation 151 = .ok (.iconst 2, 1) := by decide +kernel
theorem dX22_operation_152 : decode cX22_operation 152 = .ok (.if_icmp .le 7, 3) := by decide +kernel
theorem dX22_operation_155 : decode cX22_operation 155 = .ok (.iconst 1, 1) := by decide +kernel
theorem dX22_operation_156 : decode cX22_operation 156 = .ok (.goto 7, 3) := by decide +kernel
theorem dX22_operation_159 : decode cX22_operation 159 = .ok (.bipush 24, 2) := by decide +kernel
theorem dX22_operation_161 : decode cX22_operation 161 = .ok (.iload_n 1, 1) := by decide +kernel
theorem dX22_operation_162 : decode cX22_operation 162 = .ok (.iadd, 1) := by decide +kernel
theorem dX22_operation_163 : decode cX22_operation 163 = .ok (.ireturn, 1) := by decide +kernel
theorem dX22_operation_164 : decode cX22_operation 164 = .ok (.iload_n 1, 1) := by decide +kernel
theorem dX22_operation_165 : decode cX22_operation 165 = .ok (.ifCond .ne 8, 3) := by decide +kernel
theorem dX22_operation_168 : decode cX22_operation 168 = .ok (.bipush 72, 2) := by decide +kernel
theorem dX22_operation_170 : decode cX22_operation 170 = .ok (.goto 4, 3) := by decide +kernel
theorem dX22_operation_173 : decode cX22_operation 173 = .ok (.iconst 1, 1) := by decide +kernel
theorem dX22_operation_174 : decode cX22_operation 174 = .ok (.ireturn, 1) := by decide +kernel
theorem dX22_operation_175 : decode cX22_operation 175 = .ok (.iload_n 0, 1) := by decide +kernel
theorem dX22_operation_176 : decode cX22_operation 176 = .ok (.iload_n 1, 1) := by decide +kernel
theorem dX22_operation_177 : decode cX22_operation 177 = .ok (.invokestatic 9, 3) := by decide +kernel
theorem dX22_operation_180 : decode cX22_operation 180 = .ok (.ireturn, 1) := by decide +kernel
theorem dX22_operation_181 : decode cX22_operation 181 = .ok (.iload_n 0, 1) := by decide +kernel
theorem dX22_operation_182 : decode cX22_operation 182 = .ok (.iload_n 1, 1) := by decide +kernel
theorem dX22_operation_183 : decode cX22_operation 183 = .ok (.invokestatic 13, 3) := by decide +kernel
theorem dX22_operation_186 : decode cX22_operation 186 = .ok (.ireturn, 1) := by decide +kernel
theorem dX22_system_0 : decode cX22_system 0 = .ok (.iload_n 1, 1) := by decide +kernel
theorem dX22_system_1 : decode cX22_system 1 = .ok (.ifCond .eq 17, 3) := by decide +kernel
theorem dX22_system_4 : decode cX22_system 4 = .ok (.iload_n 1, 1) := by decide +kernel
theorem dX22_system_5 : decode cX22_system 5 = .ok (.iconst 4, 1) := by decide +kernel
theorem dX22_system_6 : decode cX22_system 6 = .ok (.if_icmp .ne 7, 3) := by decide +kernel
theorem dX22_system_9 : decode cX22_system 9 = .ok (.iconst 1, 1) := by decide +kernel
theorem dX22_system_10 : decode cX22_system 10 = .ok (.goto 7, 3) := by decide +kernel
theorem dX22_system_13 : decode cX22_system 13 = .ok (.bipush 80, 2) := by decide +kernel
theorem dX22_system_15 : decode cX22_system 15 = .ok (.iload_n 1, 1) := by decide +kernel
theorem dX22_system_16 : decode cX22_system 16 = .ok (.iadd, 1) := by decide +kernel
theorem dX22_system_17 : decode cX22_system 17 = .ok (.ireturn, 1) := by decide +kernel
theorem dX22_system_18 : decode cX22_system 18 = .ok (.iload_n 0, 1) := by decide +kernel
theorem dX22_system_19 : decode cX22_system 19 = .ok (.bipush 25, 2) := by decide +kernel
theorem dX22_system_21 : decode cX22_system 21 = .ok (.iushr, 1) := by decide +kernel
theorem dX22_system_22 : decode cX22_system 22 = .ok (.bipush 9, 2) := by decide +kernel
theorem dX22_system_24 : decode cX22_system 24 = .ok (.if_icmp .ne 17, 3) := by decide +kernel
theorem dX22_system_27 : decode cX22_system 27 = .ok (.iload_n 0, 1) := by decide +kernel
theorem dX22_system_28 : decode cX22_system 28 = .ok (.bipush 7, 2) := by decide +kernel
theorem dX22_system_30 : decode cX22_system 30 = .ok (.ishr, 1) := by decide +kernel
theorem dX22_system_31 : decode cX22_system 31 = .ok (.bipush 31, 2) := by decide +kernel
theorem dX22_system_33 : decode cX22_system 33 = .ok (.iand, 1) := by decide +kernel
theorem dX22_system_34 : decode cX22_system 34 = .ok (.ifCond .ne 7, 3) := by decide +kernel
theorem dX22_system_37 : decode cX22_system 37 = .ok (.iconst 1, 1) := by decide +kernel
theorem dX22_system_38 : decode cX22_system 38 = .ok (.goto 4, 3) := by decide +kernel
theorem dX22_system_41 : decode cX22_system 41 = .ok (.iconst 0, 1) := by decide +kernel
theorem dX22_system_42 : decode cX22_system 42 = .ok (.istore_n 2, 1) := by decide +kernel
theorem dX22_system_43 : decode cX22_system 43 = .ok (.iload_n 0, 1) := by decide +kernel
theorem dX22_system_44 : decode cX22_system 44 = .ok (.bipush 115, 2) := by decide +kernel
theorem dX22_system_46 : decode cX22_system 46 = .ok (.if_icmp .ne 8, 3) := by decide +kernel
theorem dX22_system_49 : decode cX22_system 49 = .ok (.bipush 73, 2) := by decide +kernel
theorem dX22_system_51 : decode cX22_system 51 = .ok (.goto 41, 3) := by decide +kernel
theorem dX22_system_54 : decode cX22_system 54 = .ok (.iload_n 0, 1) := by decide +kernel
theorem dX22_system_55 : decode cX22_system 55 = .ok (.ldc 16, 2) := by decide +kernel
theorem dX22_system_57 : decode cX22_system 57 = .ok (.if_icmp .ne 8, 3) := by decide +kernel
theorem dX22_system_60 : decode cX22_system 60 = .ok (.bipush 74, 2) := by decide +kernel
theorem dX22_system_62 : decode cX22_system 62 = .ok (.goto 30, 3) := by decide +kernel
theorem dX22_system_65 : decode cX22_system 65 = .ok (.iload_n 0, 1) := by decide +kernel
theorem dX22_system_66 : decode cX22_system 66 = .ok (.ldc 17, 2) := by decide +kernel
theorem dX22_system_68 : decode cX22_system 68 = .ok (.if_icmp .ne 8, 3) := by decide +kernel
theorem dX22_system_71 : decode cX22_system 71 = .ok (.bipush 75, 2) := by decide +kernel
theorem dX22_system_73 : decode cX22_system 73 = .ok (.goto 19, 3) := by decide +kernel
theorem dX22_system_76 : decode cX22_system 76 = .ok (.iload_n 0, 1) := by decide +kernel
theorem dX22_system_77 : decode cX22_system 77 = .ok (.ldc 18, 2) := by decide +kernel
theorem dX22_system_79 : decode cX22_system 79 = .ok (.if_icmp .eq 7, 3) := by decide +kernel
theorem dX22_system_82 : decode cX22_system 82 = .ok (.iload_n 2, 1) := by decide +kernel
theorem dX22_system_83 : decode cX22_system 83 = .ok (.ifCond .eq 8, 3) := by decide +kernel
theorem dX22_system_86 : decode cX22_system 86 = .ok (.bipush 76, 2) := by decide +kernel
theorem dX22_system_88 : decode cX22_system 88 = .ok (.goto 4, 3) := by decide +kernel
theorem dX22_system_91 : decode cX22_system 91 = .ok (.iconst 1, 1) := by decide +kernel
theorem dX22_system_92 : decode cX22_system 92 = .ok (.ireturn, 1) := by decide +kernel
theorem dX22_reckoning_0 : decode cX22_reckoning 0 = .ok (.iload_n 0, 1) := by decide +kernel
theorem dX22_reckoning_1 : decode cX22_reckoning 1 = .ok (.bipush 25, 2) := by decide +kernel
theorem dX22_reckoning_3 : decode cX22_reckoning 3 = .ok (.iushr, 1) := by decide +kernel
theorem dX22_reckoning_4 : decode cX22_reckoning 4 = .ok (.istore_n 2, 1) := by decide +kernel
theorem dX22_reckoning_5 : decode cX22_reckoning 5 = .ok (.iload_n 0, 1) := by decide +kernel
theorem dX22_reckoning_6 : decode cX22_reckoning 6 = .ok (.bipush 127, 2) := by decide +kernel
theorem dX22_reckoning_8 : decode cX22_reckoning 8 = .ok (.iand, 1) := by decide +kernel
theorem dX22_reckoning_9 : decode cX22_reckoning 9 = .ok (.bipush 19, 2) := by decide +kernel
theorem dX22_reckoning_11 : decode cX22_reckoning 11 = .ok (.if_icmp .ne 52, 3) := by decide +kernel
theorem dX22_reckoning_14 : decode cX22_reckoning 14 = .ok (.iload_n 1, 1) := by decide +kernel
theorem dX22_reckoning_15 : decode cX22_reckoning 15 = .ok (.iconst 1, 1) := by decide +kernel
theorem dX22_reckoning_16 : decode cX22_reckoning 16 = .ok (.if_icmp .eq 8, 3) := by decide +kernel
theorem dX22_reckoning_19 : decode cX22_reckoning 19 = .ok (.iload_n 1, 1) := by decide +kernel
theorem dX22_reckoning_20 : decode cX22_reckoning 20 = .ok (.iconst 5, 1) := by decide +kernel
theorem dX22_reckoning_21 : decode cX22_reckoning 21 = .ok (.if_icmp .ne 7, 3) := by decide +kernel
theorem dX22_reckoning_24 : decode cX22_reckoning 24 = .ok (.iconst 1, 1) := by decide +kernel
theorem dX22_reckoning_25 : decode cX22_reckoning 25 = .ok (.goto 4, 3) := by decide +kernel
theorem dX22_reckoning_28 : decode cX22_reckoning 28 = .ok (.iconst 0, 1) := by decide +kernel
theorem dX22_reckoning_29 : decode cX22_reckoning 29 = .ok (.istore_n 3, 1) := by decide +kernel
theorem dX22_reckoning_30 : decode cX22_reckoning 30 = .ok (.iload_n 3, 1) := by decide +kernel
theorem dX22_reckoning_31 : decode cX22_reckoning 31 = .ok (.ifCond .eq 7, 3) := by decide +kernel
theorem dX22_reckoning_34 : decode cX22_reckoning 34 = .ok (.iload_n 2, 1) := by decide +kernel
theorem dX22_reckoning_35 : decode cX22_reckoning 35 = .ok (.ifCond .ne 10, 3) := by decide +kernel
theorem dX22_reckoning_38 : decode cX22_reckoning 38 = .ok (.bipush 32, 2) := by decide +kernel
theorem dX22_reckoning_40 : decode cX22_reckoning 40 = .ok (.iload_n 1, 1) := by decide +kernel
theorem dX22_reckoning_41 : decode cX22_reckoning 41 = .ok (.iadd, 1) := by decide +kernel
theorem dX22_reckoning_42 : decode cX22_reckoning 42 = .ok (.goto 20, 3) := by decide +kernel
theorem dX22_reckoning_45 : decode cX22_reckoning 45 = .ok (.iload_n 1, 1) := by decide +kernel
theorem dX22_reckoning_46 : decode cX22_reckoning 46 = .ok (.iconst 5, 1) := by decide +kernel
theorem dX22_reckoning_47 : decode cX22_reckoning 47 = .ok (.if_icmp .ne 14, 3) := by decide +kernel
theorem dX22_reckoning_50 : decode cX22_reckoning 50 = .ok (.iload_n 2, 1) := by decide +kernel
theorem dX22_reckoning_51 : decode cX22_reckoning 51 = .ok (.bipush 32, 2) := by decide +kernel
theorem dX22_reckoning_53 : decode cX22_reckoning 53 = .ok (.if_icmp .ne 8, 3) := by decide +kernel
theorem dX22_reckoning_56 : decode cX22_reckoning 56 = .ok (.bipush 40, 2) := by decide +kernel
theorem dX22_reckoning_58 : decode cX22_reckoning 58 = .ok (.goto 4, 3) := by decide +kernel
theorem dX22_reckoning_61 : decode cX22_reckoning 61 = .ok (.iconst 1, 1) := by decide +kernel
theorem dX22_reckoning_62 : decode cX22_reckoning 62 = .ok (.ireturn, 1) := by decide +kernel
theorem dX22_reckoning_63 : decode cX22_reckoning 63 = .ok (.iload_n 0, 1) := by decide +kernel
theorem dX22_reckoning_64 : decode cX22_reckoning 64 = .ok (.bipush 127, 2) := by decide +kernel
theorem dX22_reckoning_66 : decode cX22_reckoning 66 = .ok (.iand, 1) := by decide +kernel
theorem dX22_reckoning_67 : decode cX22_reckoning 67 = .ok (.bipush 51, 2) := by decide +kernel
theorem dX22_reckoning_69 : decode cX22_reckoning 69 = .ok (.if_icmp .ne 57, 3) := by decide +kernel
theorem dX22_reckoning_72 : decode cX22_reckoning 72 = .ok (.iload_n 2, 1) := by decide +kernel
theorem dX22_reckoning_73 : decode cX22_reckoning 73 = .ok (.ifCond .ne 10, 3) := by decide +kernel
theorem dX22_reckoning_76 : decode cX22_reckoning 76 = .ok (.bipush 48, 2) := by decide +kernel
theorem dX22_reckoning_78 : decode cX22_reckoning 78 = .ok (.iload_n 1, 1) := by decide +kernel
theorem dX22_reckoning_79 : decode cX22_reckoning 79 = .ok (.iadd, 1) := by decide +kernel
theorem dX22_reckoning_80 : decode cX22_reckoning 80 = .ok (.goto 45, 3) := by decide +kernel
theorem dX22_reckoning_83 : decode cX22_reckoning 83 = .ok (.iload_n 2, 1) := by decide +kernel
theorem dX22_reckoning_84 : decode cX22_reckoning 84 = .ok (.iconst 1, 1) := by decide +kernel
theorem dX22_reckoning_85 : decode cX22_reckoning 85 = .ok (.if_icmp .ne 10, 3) := by decide +kernel
theorem dX22_reckoning_88 : decode cX22_reckoning 88 = .ok (.bipush 64, 2) := by decide +kernel
theorem dX22_reckoning_90 : decode cX22_reckoning 90 = .ok (.iload_n 1, 1) := by decide +kernel
theorem dX22_reckoning_91 : decode cX22_reckoning 91 = .ok (.iadd, 1) := by decide +kernel
theorem dX22_reckoning_92 : decode cX22_reckoning 92 = .ok (.goto 33, 3) := by decide +kernel
theorem dX22_reckoning_95 : decode cX22_reckoning 95 = .ok (.iload_n 2, 1) := by decide +kernel
theorem dX22_reckoning_96 : decode cX22_reckoning 96 = .ok (.bipush 32, 2) := by decide +kernel
theorem dX22_reckoning_98 : decode cX22_reckoning 98 = .ok (.if_icmp .eq 7, 3) := by decide +kernel
theorem dX22_reckoning_101 : decode cX22_reckoning 101 = .ok (.iconst 1, 1) := by decide +kernel
theorem dX22_reckoning_102 : decode cX22_reckoning 102 = .ok (.goto 23, 3) := by decide +kernel
theorem dX22_reckoning_105 : decode cX22_reckoning 105 = .ok (.iload_n 1, 1) := by decide +kernel
theorem dX22_reckoning_106 : decode cX22_reckoning 106 = .ok (.ifCond .ne 8, 3) := by decide +kernel
theorem dX22_reckoning_109 : decode cX22_reckoning 109 = .ok (.bipush 56, 2) := by decide +kernel
theorem dX22_reckoning_111 : decode cX22_reckoning 111 = .ok (.goto 14, 3) := by decide +kernel
theorem dX22_reckoning_114 : decode cX22_reckoning 114 = .ok (.iload_n 1, 1) := by decide +kernel
theorem dX22_reckoning_115 : decode cX22_reckoning 115 = .ok (.iconst 5, 1) := by decide +kernel
theorem dX22_reckoning_116 : decode cX22_reckoning 116 = .ok (.if_icmp .ne 8, 3) := by decide +kernel
theorem dX22_reckoning_119 : decode cX22_reckoning 119 = .ok (.bipush 57, 2) := by decide +kernel
theorem dX22_reckoning_121 : decode cX22_reckoning 121 = .ok (.goto 4, 3) := by decide +kernel
theorem dX22_reckoning_124 : decode cX22_reckoning 124 = .ok (.iconst 1, 1) := by decide +kernel
theorem dX22_reckoning_125 : decode cX22_reckoning 125 = .ok (.ireturn, 1) := by decide +kernel
theorem dX22_reckoning_126 : decode cX22_reckoning 126 = .ok (.iconst 1, 1) := by decide +kernel
theorem dX22_reckoning_127 : decode cX22_reckoning 127 = .ok (.ireturn, 1) := by decide +kernel
theorem dX22_offset_0 : decode cX22_offset 0 = .ok (.iload_n 0, 1) := by decide +kernel
theorem dX22_offset_1 : decode cX22_offset 1 = .ok (.bipush 31, 2) := by decide +kernel
theorem dX22_offset_3 : decode cX22_offset 3 = .ok (.ishr, 1) := by decide +kernel
theorem dX22_offset_4 : decode cX22_offset 4 = .ok (.bipush 12, 2) := by decide +kernel
theorem dX22_offset_6 : decode cX22_offset 6 = .ok (.ishl, 1) := by decide +kernel
theorem dX22_offset_7 : decode cX22_offset 7 = .ok (.iload_n 0, 1) := by decide +kernel
theorem dX22_offset_8 : decode cX22_offset 8 = .ok (.bipush 7, 2) := by decide +kernel
theorem dX22_offset_10 : decode cX22_offset 10 = .ok (.ishr, 1) := by decide +kernel
theorem dX22_offset_11 : decode cX22_offset 11 = .ok (.iconst 1, 1) := by decide +kernel
theorem dX22_offset_12 : decode cX22_offset 12 = .ok (.iand, 1) := by decide +kernel
theorem dX22_offset_13 : decode cX22_offset 13 = .ok (.bipush 11, 2) := by decide +kernel
theorem dX22_offset_15 : decode cX22_offset 15 = .ok (.ishl, 1) := by decide +kernel
theorem dX22_offset_16 : decode cX22_offset 16 = .ok (.ior, 1) := by decide +kernel
theorem dX22_offset_17 : decode cX22_offset 17 = .ok (.iload_n 0, 1) := by decide +kernel
theorem dX22_offset_18 : decode cX22_offset 18 = .ok (.bipush 25, 2) := by decide +kernel
theorem dX22_offset_20 : decode cX22_offset 20 = .ok (.ishr, 1) := by decide +kernel
theorem dX22_offset_21 : decode cX22_offset 21 = .ok (.bipush 63, 2) := by decide +kernel
theorem dX22_offset_23 : decode cX22_offset 23 = .ok (.iand, 1) := by decide +kernel
theorem dX22_offset_24 : decode cX22_offset 24 = .ok (.iconst 5, 1) := by decide +kernel
theorem dX22_offset_25 : decode cX22_offset 25 = .ok (.ishl, 1) := by decide +kernel
theorem dX22_offset_26 : decode cX22_offset 26 = .ok (.ior, 1) := by decide +kernel
theorem dX22_offset_27 : decode cX22_offset 27 = .ok (.iload_n 0, 1) := by decide +kernel
theorem dX22_offset_28 : decode cX22_offset 28 = .ok (.bipush 8, 2) := by decide +kernel
theorem dX22_offset_30 : decode cX22_offset 30 = .ok (.ishr, 1) := by decide +kernel
theorem dX22_offset_31 : decode cX22_offset 31 = .ok (.bipush 15, 2) := by decide +kernel
theorem dX22_offset_33 : decode cX22_offset 33 = .ok (.iand, 1) := by decide +kernel
theorem dX22_offset_34 : decode cX22_offset 34 = .ok (.iconst 1, 1) := by decide +kernel
theorem dX22_offset_35 : decode cX22_offset 35 = .ok (.ishl, 1) := by decide +kernel
theorem dX22_offset_36 : decode cX22_offset 36 = .ok (.ior, 1) := by decide +kernel
theorem dX22_offset_37 : decode cX22_offset 37 = .ok (.ireturn, 1) := by decide +kernel
theorem dX22_jump_0 : decode cX22_jump 0 = .ok (.iload_n 0, 1) := by decide +kernel
theorem dX22_jump_1 : decode cX22_jump 1 = .ok (.bipush 31, 2) := by decide +kernel
theorem dX22_jump_3 : decode cX22_jump 3 = .ok (.ishr, 1) := by decide +kernel
theorem dX22_jump_4 : decode cX22_jump 4 = .ok (.bipush 20, 2) := by decide +kernel
theorem dX22_jump_6 : decode cX22_jump 6 = .ok (.ishl, 1) := by decide +kernel
theorem dX22_jump_7 : decode cX22_jump 7 = .ok (.iload_n 0, 1) := by decide +kernel
theorem dX22_jump_8 : decode cX22_jump 8 = .ok (.bipush 12, 2) := by decide +kernel
theorem dX22_jump_10 : decode cX22_jump 10 = .ok (.ishr, 1) := by decide +kernel
theorem dX22_jump_11 : decode cX22_jump 11 = .ok (.sipush 255, 3) := by decide +kernel
theorem dX22_jump_14 : decode cX22_jump 14 = .ok (.iand, 1) := by decide +kernel
theorem dX22_jump_15 : decode cX22_jump 15 = .ok (.bipush 12, 2) := by decide +kernel
theorem dX22_jump_17 : decode cX22_jump 17 = .ok (.ishl, 1) := by decide +kernel
theorem dX22_jump_18 : decode cX22_jump 18 = .ok (.ior, 1) := by decide +kernel
theorem dX22_jump_19 : decode cX22_jump 19 = .ok (.iload_n 0, 1) := by decide +kernel
theorem dX22_jump_20 : decode cX22_jump 20 = .ok (.bipush 20, 2) := by decide +kernel
theorem dX22_jump_22 : decode cX22_jump 22 = .ok (.ishr, 1) := by decide +kernel
theorem dX22_jump_23 : decode cX22_jump 23 = .ok (.iconst 1, 1) := by decide +kernel
theorem dX22_jump_24 : decode cX22_jump 24 = .ok (.iand, 1) := by decide +kernel
theorem dX22_jump_25 : decode cX22_jump 25 = .ok (.bipush 11, 2) := by decide +kernel
theorem dX22_jump_27 : decode cX22_jump 27 = .ok (.ishl, 1) := by decide +kernel
theorem dX22_jump_28 : decode cX22_jump 28 = .ok (.ior, 1) := by decide +kernel
theorem dX22_jump_29 : decode cX22_jump 29 = .ok (.iload_n 0, 1) := by decide +kernel
theorem dX22_jump_30 : decode cX22_jump 30 = .ok (.bipush 21, 2) := by decide +kernel
theorem dX22_jump_32 : decode cX22_jump 32 = .ok (.ishr, 1) := by decide +kernel
theorem dX22_jump_33 : decode cX22_jump 33 = .ok (.sipush 1023, 3) := by decide +kernel
theorem dX22_jump_36 : decode cX22_jump 36 = .ok (.iand, 1) := by decide +kernel
theorem dX22_jump_37 : decode cX22_jump 37 = .ok (.iconst 1, 1) := by decide +kernel
theorem dX22_jump_38 : decode cX22_jump 38 = .ok (.ishl, 1) := by decide +kernel
theorem dX22_jump_39 : decode cX22_jump 39 = .ok (.ior, 1) := by decide +kernel
theorem dX22_jump_40 : decode cX22_jump 40 = .ok (.ireturn, 1) := by decide +kernel
theorem dX3_init_0 : decode cX3_init 0 = .ok (.aload_n 0, 1) := by decide +kernel
theorem dX3_init_1 : decode cX3_init 1 = .ok (.invokespecial 3, 3) := by decide +kernel
theorem dX3_init_4 : decode cX3_init 4 = .ok (.aload_n 0, 1) := by decide +kernel
theorem dX3_init_5 : decode cX3_init 5 = .ok (.new 9, 3) := by decide +kernel
theorem dX3_init_8 : decode cX3_init 8 = .ok (.dup, 1) := by decide +kernel
theorem dX3_init_9 : decode cX3_init 9 = .ok (.invokespecial 11, 3) := by decide +kernel
theorem dX3_init_12 : decode cX3_init 12 = .ok (.putfield 12, 3) := by decide +kernel
theorem dX3_init_15 : decode cX3_init 15 = .ok (.aload_n 0, 1) := by decide +kernel
theorem dX3_init_16 : decode cX3_init 16 = .ok (.bipush 64, 2) := by decide +kernel
theorem dX3_init_18 : decode cX3_init 18 = .ok (.newarray .int, 2) := by decide +kernel
theorem dX3_init_20 : decode cX3_init 20 = .ok (.putfield 18, 3) := by decide +kernel
theorem dX3_init_23 : decode cX3_init 23 = .ok (.aload_n 0, 1) := by decide +kernel
theorem dX3_init_24 : decode cX3_init 24 = .ok (.bipush 64, 2) := by decide +kernel
theorem dX3_init_26 : decode cX3_init 26 = .ok (.newarray .int, 2) := by decide +kernel
theorem dX3_init_28 : decode cX3_init 28 = .ok (.putfield 22, 3) := by decide +kernel
theorem dX3_init_31 : decode cX3_init 31 = .ok (.aload_n 0, 1) := by decide +kernel
theorem dX3_init_32 : decode cX3_init 32 = .ok (.bipush 64, 2) := by decide +kernel
theorem dX3_init_34 : decode cX3_init 34 = .ok (.newarray .int, 2) := by decide +kernel
theorem dX3_init_36 : decode cX3_init 36 = .ok (.putfield 25, 3) := by decide +kernel
theorem dX3_init_39 : decode cX3_init 39 = .ok (.aload_n 0, 1) := by decide +kernel
theorem dX3_init_40 : decode cX3_init 40 = .ok (.sipush 256, 3) := by decide +kernel
theorem dX3_init_43 : decode cX3_init 43 = .ok (.newarray .int, 2) := by decide +kernel
theorem dX3_init_45 : decode cX3_init 45 = .ok (.putfield 28, 3) := by decide +kernel
theorem dX3_init_48 : decode cX3_init 48 = .ok (.return_, 1) := by decide +kernel
theorem dX3_clear_0 : decode cX3_clear 0 = .ok (.aload_n 0, 1) := by decide +kernel
theorem dX3_clear_1 : decode cX3_clear 1 = .ok (.getfield 12, 3) := by decide +kernel
theorem dX3_clear_4 : decode cX3_clear 4 = .ok (.iconst 0, 1) := by decide +kernel
theorem dX3_clear_5 : decode cX3_clear 5 = .ok (.invokevirtual 31, 3) := by decide +kernel
theorem dX3_clear_8 : decode cX3_clear 8 = .ok (.aload_n 0, 1) := by decide +kernel
theorem dX3_clear_9 : decode cX3_clear 9 = .ok (.iconst 0, 1) := by decide +kernel
theorem dX3_clear_10 : decode cX3_clear 10 = .ok (.putfield 35, 3) := by decide +kernel
theorem dX3_clear_13 : decode cX3_clear 13 = .ok (.iconst 0, 1) := by decide +kernel
theorem dX3_clear_14 : decode cX3_clear 14 = .ok (.istore_n 1, 1) := by decide +kernel
theorem dX3_clear_15 : decode cX3_clear 15 = .ok (.iload_n 1, 1) := by decide +kernel
theorem dX3_clear_16 : decode cX3_clear 16 = .ok (.sipush 256, 3) := by decide +kernel
theorem dX3_clear_19 : decode cX3_clear 19 = .ok (.if_icmp .ge 16, 3) := by decide +kernel
theorem dX3_clear_22 : decode cX3_clear 22 = .ok (.aload_n 0, 1) := by decide +kernel
theorem dX3_clear_23 : decode cX3_clear 23 = .ok (.getfield 28, 3) := by decide +kernel
theorem dX3_clear_26 : decode cX3_clear 26 = .ok (.iload_n 1, 1) := by decide +kernel
theorem dX3_clear_27 : decode cX3_clear 27 = .ok (.iconst (-1), 1) := by decide +kernel
theorem dX3_clear_28 : decode cX3_clear 28 = .ok (.iastore, 1) := by decide +kernel
theorem dX3_clear_29 : decode cX3_clear 29 = .ok (.iinc 1 1, 3) := by decide +kernel
theorem dX3_clear_32 : decode cX3_clear 32 = .ok (.goto (-17), 3) := by decide +kernel
theorem dX3_clear_35 : decode cX3_clear 35 = .ok (.return_, 1) := by decide +kernel
theorem dX3_of_0 : decode cX3_of 0 = .ok (.iconst 0, 1) := by decide +kernel
theorem dX3_of_1 : decode cX3_of 1 = .ok (.istore 4, 2) := by decide +kernel
theorem dX3_of_3 : decode cX3_of 3 = .ok (.iconst 0, 1) := by decide +kernel
theorem dX3_of_4 : decode cX3_of 4 = .ok (.istore 5, 2) := by decide +kernel
theorem dX3_of_6 : decode cX3_of 6 = .ok (.iload 5, 2) := by decide +kernel
theorem dX3_of_8 : decode cX3_of 8 = .ok (.iload_n 3, 1) := by decide +kernel
theorem dX3_of_9 : decode cX3_of 9 = .ok (.if_icmp .ge 25, 3) := by decide +kernel
theorem dX3_of_12 : decode cX3_of 12 = .ok (.bipush 31, 2) := by decide +kernel
theorem dX3_of_14 : decode cX3_of 14 = .ok (.iload 4, 2) := by decide +kernel
theorem dX3_of_16 : decode cX3_of 16 = .ok (.imul, 1) := by decide +kernel
theorem dX3_of_17 : decode cX3_of 17 = .ok (.aload_n 1, 1) := by decide +kernel
theorem dX3_of_18 : decode cX3_of 18 = .ok (.iload_n 2, 1) := by decide +kernel
theorem dX3_of_19 : decode cX3_of 19 = .ok (.iload 5, 2) := by decide +kernel
theorem dX3_of_21 : decode cX3_of 21 = .ok (.iadd, 1) := by decide +kernel
theorem dX3_of_22 : decode cX3_of 22 = .ok (.invokevirtual 43, 3) := by decide +kernel
theorem dX3_of_25 : decode cX3_of 25 = .ok (.iadd, 1) := by decide +kernel
theorem dX3_of_26 : decode cX3_of 26 = .ok (.istore 4, 2) := by decide +kernel
theorem dX3_of_28 : decode cX3_of 28 = .ok (.iinc 5 1, 3) := by decide +kernel
theorem dX3_of_31 : decode cX3_of 31 = .ok (.goto (-25), 3) := by decide +kernel
theorem dX3_of_34 : decode cX3_of 34 = .ok (.iload 4, 2) := by decide +kernel
theorem dX3_of_36 : decode cX3_of 36 = .ok (.iload 4, 2) := by decide +kernel
theorem dX3_of_38 : decode cX3_of 38 = .ok (.bipush 8, 2) := by decide +kernel
theorem dX3_of_40 : decode cX3_of 40 = .ok (.iushr, 1) := by decide +kernel
theorem dX3_of_41 : decode cX3_of 41 = .ok (.ixor, 1) := by decide +kernel
theorem dX3_of_42 : decode cX3_of 42 = .ok (.sipush 255, 3) := by decide +kernel
theorem dX3_of_45 : decode cX3_of 45 = .ok (.iand, 1) := by decide +kernel
theorem dX3_of_46 : decode cX3_of 46 = .ok (.istore 5, 2) := by decide +kernel
theorem dX3_of_48 : decode cX3_of 48 = .ok (.aload_n 0, 1) := by decide +kernel
theorem dX3_of_49 : decode cX3_of 49 = .ok (.getfield 28, 3) := by decide +kernel
theorem dX3_of_52 : decode cX3_of 52 = .ok (.iload 5, 2) := by decide +kernel
theorem dX3_of_54 : decode cX3_of 54 = .ok (.iaload, 1) := by decide +kernel
theorem dX3_of_55 : decode cX3_of 55 = .ok (.istore 6, 2) := by decide +kernel
theorem dX3_of_57 : decode cX3_of 57 = .ok (.iload 6, 2) := by decide +kernel
theorem dX3_of_59 : decode cX3_of 59 = .ok (.iconst (-1), 1) := by decide +kernel
theorem dX3_of_60 : decode cX3_of 60 = .ok (.if_icmp .eq 42, 3) := by decide +kernel
theorem dX3_of_63 : decode cX3_of 63 = .ok (.aload_n 0, 1) := by decide +kernel
theorem dX3_of_64 : decode cX3_of 64 = .ok (.getfield 25, 3) := by decide +kernel
theorem dX3_of_67 : decode cX3_of 67 = .ok (.iload 6, 2) := by decide +kernel
theorem dX3_of_69 : decode cX3_of 69 = .ok (.iaload, 1) := by decide +kernel
theorem dX3_of_70 : decode cX3_of 70 = .ok (.iload 4, 2) := by decide +kernel
theorem dX3_of_72 : decode cX3_of 72 = .ok (.if_icmp .ne 18, 3) := by decide +kernel
theorem dX3_of_75 : decode cX3_of 75 = .ok (.aload_n 0, 1) := by decide +kernel
theorem dX3_of_76 : decode cX3_of 76 = .ok (.iload 6, 2) := by decide +kernel
theorem dX3_of_78 : decode cX3_of 78 = .ok (.aload_n 1, 1) := by decide +kernel
theorem dX3_of_79 : decode cX3_of 79 = .ok (.iload_n 2, 1) := by decide +kernel
theorem dX3_of_80 : decode cX3_of 80 = .ok (.iload_n 3, 1) := by decide +kernel
theorem dX3_of_81 : decode cX3_of 81 = .ok (.invokevirtual 60, 3) := by decide +kernel
theorem dX3_of_84 : decode cX3_of 84 = .ok (.ifCond .eq 6, 3) := by decide +kernel
theorem dX3_of_87 : decode cX3_of 87 = .ok (.iload 6, 2) := by decide +kernel
theorem dX3_of_89 : decode cX3_of 89 = .ok (.ireturn, 1) := by decide +kernel
theorem dX3_of_90 : decode cX3_of 90 = .ok (.aload_n 0, 1) := by decide +kernel
theorem dX3_of_91 : decode cX3_of 91 = .ok (.getfield 22, 3) := by decide +kernel
theorem dX3_of_94 : decode cX3_of 94 = .ok (.iload 6, 2) := by decide +kernel
theorem dX3_of_96 : decode cX3_of 96 = .ok (.iaload, 1) := by decide +kernel
theorem dX3_of_97 : decode cX3_of 97 = .ok (.istore 6, 2) := by decide +kernel
theorem dX3_of_99 : decode cX3_of 99 = .ok (.goto (-42), 3) := by decide +kernel
theorem dX3_of_102 : decode cX3_of 102 = .ok (.aload_n 0, 1) := by decide +kernel
theorem dX3_of_103 : decode cX3_of 103 = .ok (.getfield 35, 3) := by decide +kernel
theorem dX3_of_106 : decode cX3_of 106 = .ok (.aload_n 0, 1) := by decide +kernel
theorem dX3_of_107 : decode cX3_of 107 = .ok (.getfield 18, 3) := by decide +kernel
theorem dX3_of_110 : decode cX3_of 110 = .ok (.arraylength, 1) := by decide +kernel
theorem dX3_of_111 : decode cX3_of 111 = .ok (.if_icmp .ne 36, 3) := by decide +kernel
theorem dX3_of_114 : decode cX3_of 114 = .ok (.aload_n 0, 1) := by decide +kernel
theorem dX3_of_115 : decode cX3_of 115 = .ok (.aload_n 0, 1) := by decide +kernel
theorem dX3_of_116 : decode cX3_of 116 = .ok (.getfield 18, 3) := by decide +kernel
theorem dX3_of_119 : decode cX3_of 119 = .ok (.invokestatic 64, 3) := by decide +kernel
theorem dX3_of_122 : decode cX3_of 122 = .ok (.putfield 18, 3) := by decide +kernel
theorem dX3_of_125 : decode cX3_of 125 = .ok (.aload_n 0, 1) := by decide +kernel
theorem dX3_of_126 : decode cX3_of 126 = .ok (.aload_n 0, 1) := by decide +kernel
theorem dX3_of_127 : decode cX3_of 127 = .ok (.getfield 22, 3) := by decide +kernel
theorem dX3_of_130 : decode cX3_of 130 = .ok (.invokestatic 64, 3) := by decide +kernel
theorem dX3_of_133 : decode cX3_of 133 = .ok (.putfield 22, 3) := by decide +kernel
theorem dX3_of_136 : decode cX3_of 136 = .ok (.aload_n 0, 1) := by decide +kernel
theorem dX3_of_137 : decode cX3_of 137 = .ok (.aload_n 0, 1) := by decide +kernel
theorem dX3_of_138 : decode cX3_of 138 = .ok (.getfield 25, 3) := by decide +kernel
theorem dX3_of_141 : decode cX3_of 141 = .ok (.invokestatic 64, 3) := by decide +kernel
theorem dX3_of_144 : decode cX3_of 144 = .ok (.putfield 25, 3) := by decide +kernel
theorem dX3_of_147 : decode cX3_of 147 = .ok (.aload_n 0, 1) := by decide +kernel
theorem dX3_of_148 : decode cX3_of 148 = .ok (.getfield 18, 3) := by decide +kernel
theorem dX3_of_151 : decode cX3_of 151 = .ok (.aload_n 0, 1) := by decide +kernel
theorem dX3_of_152 : decode cX3_of 152 = .ok (.getfield 35, 3) := by decide +kernel
theorem dX3_of_155 : decode cX3_of 155 = .ok (.aload_n 0, 1) := by decide +kernel
theorem dX3_of_156 : decode cX3_of 156 = .ok (.getfield 12, 3) := by decide +kernel
theorem dX3_of_159 : decode cX3_of 159 = .ok (.invokevirtual 39, 3) := by decide +kernel
theorem dX3_of_162 : decode cX3_of 162 = .ok (.iastore, 1) := by decide +kernel
theorem dX3_of_163 : decode cX3_of 163 = .ok (.aload_n 0, 1) := by decide +kernel
theorem dX3_of_164 : decode cX3_of 164 = .ok (.getfield 25, 3) := by decide +kernel
theorem dX3_of_167 : decode cX3_of 167 = .ok (.aload_n 0, 1) := by decide +kernel
theorem dX3_of_168 : decode cX3_of 168 = .ok (.getfield 35, 3) := by decide +kernel
theorem dX3_of_171 : decode cX3_of 171 = .ok (.iload 4, 2) := by decide +kernel
theorem dX3_of_173 : decode cX3_of 173 = .ok (.iastore, 1) := by decide +kernel
theorem dX3_of_174 : decode cX3_of 174 = .ok (.aload_n 0, 1) := by decide +kernel
theorem dX3_of_175 : decode cX3_of 175 = .ok (.getfield 22, 3) := by decide +kernel
theorem dX3_of_178 : decode cX3_of 178 = .ok (.aload_n 0, 1) := by decide +kernel
theorem dX3_of_179 : decode cX3_of 179 = .ok (.getfield 35, 3) := by decide +kernel
theorem dX3_of_182 : decode cX3_of 182 = .ok (.aload_n 0, 1) := by decide +kernel
theorem dX3_of_183 : decode cX3_of 183 = .ok (.getfield 28, 3) := by decide +kernel
theorem dX3_of_186 : decode cX3_of 186 = .ok (.iload 5, 2) := by decide +kernel
theorem dX3_of_188 : decode cX3_of 188 = .ok (.iaload, 1) := by decide +kernel
theorem dX3_of_189 : decode cX3_of 189 = .ok (.iastore, 1) := by decide +kernel
theorem dX3_of_190 : decode cX3_of 190 = .ok (.aload_n 0, 1) := by decide +kernel
theorem dX3_of_191 : decode cX3_of 191 = .ok (.getfield 28, 3) := by decide +kernel
theorem dX3_of_194 : decode cX3_of 194 = .ok (.iload 5, 2) := by decide +kernel
theorem dX3_of_196 : decode cX3_of 196 = .ok (.aload_n 0, 1) := by decide +kernel
theorem dX3_of_197 : decode cX3_of 197 = .ok (.getfield 35, 3) := by decide +kernel
theorem dX3_of_200 : decode cX3_of 200 = .ok (.iastore, 1) := by decide +kernel
theorem dX3_of_201 : decode cX3_of 201 = .ok (.iconst 0, 1) := by decide +kernel
theorem dX3_of_202 : decode cX3_of 202 = .ok (.istore 6, 2) := by decide +kernel
theorem dX3_of_204 : decode cX3_of 204 = .ok (.iload 6, 2) := by decide +kernel
theorem dX3_of_206 : decode cX3_of 206 = .ok (.iload_n 3, 1) := by decide +kernel
theorem dX3_of_207 : decode cX3_of 207 = .ok (.if_icmp .ge 24, 3) := by decide +kernel
theorem dX3_of_210 : decode cX3_of 210 = .ok (.aload_n 0, 1) := by decide +kernel
theorem dX3_of_211 : decode cX3_of 211 = .ok (.getfield 12, 3) := by decide +kernel
theorem dX3_of_214 : decode cX3_of 214 = .ok (.aload_n 1, 1) := by decide +kernel
theorem dX3_of_215 : decode cX3_of 215 = .ok (.iload_n 2, 1) := by decide +kernel
theorem dX3_of_216 : decode cX3_of 216 = .ok (.iload 6, 2) := by decide +kernel
theorem dX3_of_218 : decode cX3_of 218 = .ok (.iadd, 1) := by decide +kernel
theorem dX3_of_219 : decode cX3_of 219 = .ok (.invokevirtual 43, 3) := by decide +kernel
theorem dX3_of_222 : decode cX3_of 222 = .ok (.invokevirtual 68, 3) := by decide +kernel
theorem dX3_of_225 : decode cX3_of 225 = .ok (.iinc 6 1, 3) := by decide +kernel
theorem dX3_of_228 : decode cX3_of 228 = .ok (.goto (-24), 3) := by decide +kernel
theorem dX3_of_231 : decode cX3_of 231 = .ok (.aload_n 0, 1) := by decide +kernel
theorem dX3_of_232 : decode cX3_of 232 = .ok (.dup, 1) := by decide +kernel
theorem dX3_of_233 : decode cX3_of 233 = .ok (.getfield 35, 3) := by decide +kernel
theorem dX3_of_236 : decode cX3_of 236 = .ok (.dup_x1, 1) := by decide +kernel
theorem dX3_of_237 : decode cX3_of 237 = .ok (.iconst 1, 1) := by decide +kernel
theorem dX3_of_238 : decode cX3_of 238 = .ok (.iadd, 1) := by decide +kernel
theorem dX3_of_239 : decode cX3_of 239 = .ok (.putfield 35, 3) := by decide +kernel
theorem dX3_of_242 : decode cX3_of 242 = .ok (.ireturn, 1) := by decide +kernel
theorem dX3_is_0 : decode cX3_is 0 = .ok (.aload_n 0, 1) := by decide +kernel
theorem dX3_is_1 : decode cX3_is 1 = .ok (.iload_n 1, 1) := by decide +kernel
theorem dX3_is_2 : decode cX3_is 2 = .ok (.invokevirtual 53, 3) := by decide +kernel
theorem dX3_is_5 : decode cX3_is 5 = .ok (.iload 4, 2) := by decide +kernel
theorem dX3_is_7 : decode cX3_is 7 = .ok (.if_icmp .ne 7, 3) := by decide +kernel
theorem dX3_is_10 : decode cX3_is 10 = .ok (.iconst 1, 1) := by decide +kernel
theorem dX3_is_11 : decode cX3_is 11 = .ok (.goto 4, 3) := by decide +kernel
theorem dX3_is_14 : decode cX3_is 14 = .ok (.iconst 0, 1) := by decide +kernel
theorem dX3_is_15 : decode cX3_is 15 = .ok (.istore 5, 2) := by decide +kernel
theorem dX3_is_17 : decode cX3_is 17 = .ok (.iconst 0, 1) := by decide +kernel
theorem dX3_is_18 : decode cX3_is 18 = .ok (.istore 6, 2) := by decide +kernel
theorem dX3_is_20 : decode cX3_is 20 = .ok (.iload 6, 2) := by decide +kernel
theorem dX3_is_22 : decode cX3_is 22 = .ok (.iload 4, 2) := by decide +kernel
theorem dX3_is_24 : decode cX3_is 24 = .ok (.if_icmp .ge 39, 3) := by decide +kernel
theorem dX3_is_27 : decode cX3_is 27 = .ok (.iload 5, 2) := by decide +kernel
theorem dX3_is_29 : decode cX3_is 29 = .ok (.ifCond .eq 34, 3) := by decide +kernel
theorem dX3_is_32 : decode cX3_is 32 = .ok (.aload_n 0, 1) := by decide +kernel
theorem dX3_is_33 : decode cX3_is 33 = .ok (.iload_n 1, 1) := by decide +kernel
theorem dX3_is_34 : decode cX3_is 34 = .ok (.iload 6, 2) := by decide +kernel
theorem dX3_is_36 : decode cX3_is 36 = .ok (.invokevirtual 56, 3) := by decide +kernel
theorem dX3_is_39 : decode cX3_is 39 = .ok (.aload_n 2, 1) := by decide +kernel
theorem dX3_is_40 : decode cX3_is 40 = .ok (.iload_n 3, 1) := by decide +kernel
theorem dX3_is_41 : decode cX3_is 41 = .ok (.iload 6, 2) := by decide +kernel
theorem dX3_is_43 : decode cX3_is 43 = .ok (.iadd, 1) := by decide +kernel
theorem dX3_is_44 : decode cX3_is 44 = .ok (.invokevirtual 43, 3) := by decide +kernel
theorem dX3_is_47 : decode cX3_is 47 = .ok (.if_icmp .ne 7, 3) := by decide +kernel
theorem dX3_is_50 : decode cX3_is 50 = .ok (.iconst 1, 1) := by decide +kernel
theorem dX3_is_51 : decode cX3_is 51 = .ok (.goto 4, 3) := by decide +kernel
theorem dX3_is_54 : decode cX3_is 54 = .ok (.iconst 0, 1) := by decide +kernel
theorem dX3_is_55 : decode cX3_is 55 = .ok (.istore 5, 2) := by decide +kernel
theorem dX3_is_57 : decode cX3_is 57 = .ok (.iinc 6 1, 3) := by decide +kernel
theorem dX3_is_60 : decode cX3_is 60 = .ok (.goto (-40), 3) := by decide +kernel
theorem dX3_is_63 : decode cX3_is 63 = .ok (.iload 5, 2) := by decide +kernel
theorem dX3_is_65 : decode cX3_is 65 = .ok (.ireturn, 1) := by decide +kernel
theorem dX3_length_0 : decode cX3_length 0 = .ok (.iload_n 1, 1) := by decide +kernel
theorem dX3_length_1 : decode cX3_length 1 = .ok (.iconst 1, 1) := by decide +kernel
theorem dX3_length_2 : decode cX3_length 2 = .ok (.iadd, 1) := by decide +kernel
theorem dX3_length_3 : decode cX3_length 3 = .ok (.aload_n 0, 1) := by decide +kernel
theorem dX3_length_4 : decode cX3_length 4 = .ok (.getfield 35, 3) := by decide +kernel
theorem dX3_length_7 : decode cX3_length 7 = .ok (.if_icmp .ge 14, 3) := by decide +kernel
theorem dX3_length_10 : decode cX3_length 10 = .ok (.aload_n 0, 1) := by decide +kernel
theorem dX3_length_11 : decode cX3_length 11 = .ok (.getfield 18, 3) := by decide +kernel
theorem dX3_length_14 : decode cX3_length 14 = .ok (.iload_n 1, 1) := by decide +kernel
theorem dX3_length_15 : decode cX3_length 15 = .ok (.iconst 1, 1) := by decide +kernel
theorem dX3_length_16 : decode cX3_length 16 = .ok (.iadd, 1) := by decide +kernel
theorem dX3_length_17 : decode cX3_length 17 = .ok (.iaload, 1) := by decide +kernel
theorem dX3_length_18 : decode cX3_length 18 = .ok (.goto 10, 3) := by decide +kernel
theorem dX3_length_21 : decode cX3_length 21 = .ok (.aload_n 0, 1) := by decide +kernel
theorem dX3_length_22 : decode cX3_length 22 = .ok (.getfield 12, 3) := by decide +kernel
theorem dX3_length_25 : decode cX3_length 25 = .ok (.invokevirtual 39, 3) := by decide +kernel
theorem dX3_length_28 : decode cX3_length 28 = .ok (.aload_n 0, 1) := by decide +kernel
theorem dX3_length_29 : decode cX3_length 29 = .ok (.getfield 18, 3) := by decide +kernel
theorem dX3_length_32 : decode cX3_length 32 = .ok (.iload_n 1, 1) := by decide +kernel
theorem dX3_length_33 : decode cX3_length 33 = .ok (.iaload, 1) := by decide +kernel
theorem dX3_length_34 : decode cX3_length 34 = .ok (.isub, 1) := by decide +kernel
theorem dX3_length_35 : decode cX3_length 35 = .ok (.ireturn, 1) := by decide +kernel
theorem dX3_letter_0 : decode cX3_letter 0 = .ok (.aload_n 0, 1) := by decide +kernel
theorem dX3_letter_1 : decode cX3_letter 1 = .ok (.getfield 12, 3) := by decide +kernel
theorem dX3_letter_4 : decode cX3_letter 4 = .ok (.aload_n 0, 1) := by decide +kernel
theorem dX3_letter_5 : decode cX3_letter 5 = .ok (.getfield 18, 3) := by decide +kernel
theorem dX3_letter_8 : decode cX3_letter 8 = .ok (.iload_n 1, 1) := by decide +kernel
theorem dX3_letter_9 : decode cX3_letter 9 = .ok (.iaload, 1) := by decide +kernel
theorem dX3_letter_10 : decode cX3_letter 10 = .ok (.iload_n 2, 1) := by decide +kernel
theorem dX3_letter_11 : decode cX3_letter 11 = .ok (.iadd, 1) := by decide +kernel
theorem dX3_letter_12 : decode cX3_letter 12 = .ok (.invokevirtual 43, 3) := by decide +kernel
theorem dX3_letter_15 : decode cX3_letter 15 = .ok (.ireturn, 1) := by decide +kernel
theorem dX3_longer_0 : decode cX3_longer 0 = .ok (.iconst 2, 1) := by decide +kernel
theorem dX3_longer_1 : decode cX3_longer 1 = .ok (.aload_n 0, 1) := by decide +kernel
theorem dX3_longer_2 : decode cX3_longer 2 = .ok (.arraylength, 1) := by decide +kernel
theorem dX3_longer_3 : decode cX3_longer 3 = .ok (.imul, 1) := by decide +kernel
theorem dX3_longer_4 : decode cX3_longer 4 = .ok (.newarray .int, 2) := by decide +kernel
theorem dX3_longer_6 : decode cX3_longer 6 = .ok (.astore_n 1, 1) := by decide +kernel
theorem dX3_longer_7 : decode cX3_longer 7 = .ok (.aload_n 0, 1) := by decide +kernel
theorem dX3_longer_8 : decode cX3_longer 8 = .ok (.iconst 0, 1) := by decide +kernel
theorem dX3_longer_9 : decode cX3_longer 9 = .ok (.aload_n 1, 1) := by decide +kernel
theorem dX3_longer_10 : decode cX3_longer 10 = .ok (.iconst 0, 1) := by decide +kernel
theorem dX3_longer_11 : decode cX3_longer 11 = .ok (.aload_n 0, 1) := by decide +kernel
theorem dX3_longer_12 : decode cX3_longer 12 = .ok (.arraylength, 1) := by decide +kernel
theorem dX3_longer_13 : decode cX3_longer 13 = .ok (.invokestatic 47, 3) := by decide +kernel
theorem dX3_longer_16 : decode cX3_longer 16 = .ok (.aload_n 1, 1) := by decide +kernel
theorem dX3_longer_17 : decode cX3_longer 17 = .ok (.areturn, 1) := by decide +kernel
theorem dX3_count_0 : decode cX3_count 0 = .ok (.aload_n 0, 1) := by decide +kernel
theorem dX3_count_1 : decode cX3_count 1 = .ok (.getfield 35, 3) := by decide +kernel
theorem dX3_count_4 : decode cX3_count 4 = .ok (.ireturn, 1) := by decide +kernel
theorem dX4_init_0 : decode cX4_init 0 = .ok (.aload_n 0, 1) := by decide +kernel
theorem dX4_init_1 : decode cX4_init 1 = .ok (.invokespecial 1, 3) := by decide +kernel
theorem dX4_init_4 : decode cX4_init 4 = .ok (.aload_n 0, 1) := by decide +kernel
theorem dX4_init_5 : decode cX4_init 5 = .ok (.sipush 256, 3) := by decide +kernel
theorem dX4_init_8 : decode cX4_init 8 = .ok (.newarray .byte, 2) := by decide +kernel
theorem dX4_init_10 : decode cX4_init 10 = .ok (.putfield 7, 3) := by decide +kernel
theorem dX4_init_13 : decode cX4_init 13 = .ok (.return_, 1) := by decide +kernel
theorem dX4_cut_0 : decode cX4_cut 0 = .ok (.aload_n 0, 1) := by decide +kernel
theorem dX4_cut_1 : decode cX4_cut 1 = .ok (.iload_n 1, 1) := by decide +kernel
theorem dX4_cut_2 : decode cX4_cut 2 = .ok (.putfield 13, 3) := by decide +kernel
theorem dX4_cut_5 : decode cX4_cut 5 = .ok (.return_, 1) := by decide +kernel
theorem dX4_size_0 : decode cX4_size 0 = .ok (.aload_n 0, 1) := by decide +kernel
theorem dX4_size_1 : decode cX4_size 1 = .ok (.getfield 13, 3) := by decide +kernel
theorem dX4_size_4 : decode cX4_size 4 = .ok (.ireturn, 1) := by decide +kernel
theorem dX4_at_0 : decode cX4_at 0 = .ok (.aload_n 0, 1) := by decide +kernel
theorem dX4_at_1 : decode cX4_at 1 = .ok (.getfield 7, 3) := by decide +kernel
theorem dX4_at_4 : decode cX4_at 4 = .ok (.iload_n 1, 1) := by decide +kernel
theorem dX4_at_5 : decode cX4_at 5 = .ok (.baload, 1) := by decide +kernel
theorem dX4_at_6 : decode cX4_at 6 = .ok (.sipush 255, 3) := by decide +kernel
theorem dX4_at_9 : decode cX4_at 9 = .ok (.iand, 1) := by decide +kernel
theorem dX4_at_10 : decode cX4_at 10 = .ok (.ireturn, 1) := by decide +kernel
theorem dX4_add_0 : decode cX4_add 0 = .ok (.aload_n 0, 1) := by decide +kernel
theorem dX4_add_1 : decode cX4_add 1 = .ok (.getfield 13, 3) := by decide +kernel
theorem dX4_add_4 : decode cX4_add 4 = .ok (.aload_n 0, 1) := by decide +kernel
theorem dX4_add_5 : decode cX4_add 5 = .ok (.getfield 7, 3) := by decide +kernel
theorem dX4_add_8 : decode cX4_add 8 = .ok (.arraylength, 1) := by decide +kernel
theorem dX4_add_9 : decode cX4_add 9 = .ok (.if_icmp .ne 31, 3) := by decide +kernel
theorem dX4_add_12 : decode cX4_add 12 = .ok (.iconst 2, 1) := by decide +kernel
theorem dX4_add_13 : decode cX4_add 13 = .ok (.aload_n 0, 1) := by decide +kernel
theorem dX4_add_14 : decode cX4_add 14 = .ok (.getfield 13, 3) := by decide +kernel
theorem dX4_add_17 : decode cX4_add 17 = .ok (.imul, 1) := by decide +kernel
theorem dX4_add_18 : decode cX4_add 18 = .ok (.newarray .byte, 2) := by decide +kernel
theorem dX4_add_20 : decode cX4_add 20 = .ok (.astore_n 2, 1) := by decide +kernel
theorem dX4_add_21 : decode cX4_add 21 = .ok (.aload_n 0, 1) := by decide +kernel
theorem dX4_add_22 : decode cX4_add 22 = .ok (.getfield 7, 3) := by decide +kernel
theorem dX4_add_25 : decode cX4_add 25 = .ok (.iconst 0, 1) := by decide +kernel
theorem dX4_add_26 : decode cX4_add 26 = .ok (.aload_n 2, 1) := by decide +kernel
theorem dX4_add_27 : decode cX4_add 27 = .ok (.iconst 0, 1) := by decide +kernel
theorem dX4_add_28 : decode cX4_add 28 = .ok (.aload_n 0, 1) := by decide +kernel
theorem dX4_add_29 : decode cX4_add 29 = .ok (.getfield 13, 3) := by decide +kernel
theorem dX4_add_32 : decode cX4_add 32 = .ok (.invokestatic 17, 3) := by decide +kernel
theorem dX4_add_35 : decode cX4_add 35 = .ok (.aload_n 0, 1) := by decide +kernel
theorem dX4_add_36 : decode cX4_add 36 = .ok (.aload_n 2, 1) := by decide +kernel
theorem dX4_add_37 : decode cX4_add 37 = .ok (.putfield 7, 3) := by decide +kernel
theorem dX4_add_40 : decode cX4_add 40 = .ok (.aload_n 0, 1) := by decide +kernel
theorem dX4_add_41 : decode cX4_add 41 = .ok (.getfield 7, 3) := by decide +kernel
theorem dX4_add_44 : decode cX4_add 44 = .ok (.aload_n 0, 1) := by decide +kernel
theorem dX4_add_45 : decode cX4_add 45 = .ok (.dup, 1) := by decide +kernel
theorem dX4_add_46 : decode cX4_add 46 = .ok (.getfield 13, 3) := by decide +kernel
theorem dX4_add_49 : decode cX4_add 49 = .ok (.dup_x1, 1) := by decide +kernel
theorem dX4_add_50 : decode cX4_add 50 = .ok (.iconst 1, 1) := by decide +kernel
theorem dX4_add_51 : decode cX4_add 51 = .ok (.iadd, 1) := by decide +kernel
theorem dX4_add_52 : decode cX4_add 52 = .ok (.putfield 13, 3) := by decide +kernel
theorem dX4_add_55 : decode cX4_add 55 = .ok (.iload_n 1, 1) := by decide +kernel
theorem dX4_add_56 : decode cX4_add 56 = .ok (.i2b, 1) := by decide +kernel
theorem dX4_add_57 : decode cX4_add 57 = .ok (.bastore, 1) := by decide +kernel
theorem dX4_add_58 : decode cX4_add 58 = .ok (.return_, 1) := by decide +kernel
theorem dX5_init_0 : decode cX5_init 0 = .ok (.aload_n 0, 1) := by decide +kernel
theorem dX5_init_1 : decode cX5_init 1 = .ok (.invokespecial 3, 3) := by decide +kernel
theorem dX5_init_4 : decode cX5_init 4 = .ok (.aload_n 0, 1) := by decide +kernel
theorem dX5_init_5 : decode cX5_init 5 = .ok (.bipush 20, 2) := by decide +kernel
theorem dX5_init_7 : decode cX5_init 7 = .ok (.anewarray 9, 3) := by decide +kernel
theorem dX5_init_10 : decode cX5_init 10 = .ok (.dup, 1) := by decide +kernel
theorem dX5_init_11 : decode cX5_init 11 = .ok (.iconst 0, 1) := by decide +kernel
theorem dX5_init_12 : decode cX5_init 12 = .ok (.ldc 11, 2) := by decide +kernel
theorem dX5_init_14 : decode cX5_init 14 = .ok (.aastore, 1) := by decide +kernel
theorem dX5_init_15 : decode cX5_init 15 = .ok (.dup, 1) := by decide +kernel
theorem dX5_init_16 : decode cX5_init 16 = .ok (.iconst 1, 1) := by decide +kernel
theorem dX5_init_17 : decode cX5_init 17 = .ok (.ldc 13, 2) := by decide +kernel
theorem dX5_init_19 : decode cX5_init 19 = .ok (.aastore, 1) := by decide +kernel
theorem dX5_init_20 : decode cX5_init 20 = .ok (.dup, 1) := by decide +kernel
theorem dX5_init_21 : decode cX5_init 21 = .ok (.iconst 2, 1) := by decide +kernel
theorem dX5_init_22 : decode cX5_init 22 = .ok (.ldc 15, 2) := by decide +kernel
theorem dX5_init_24 : decode cX5_init 24 = .ok (.aastore, 1) := by decide +kernel
theorem dX5_init_25 : decode cX5_init 25 = .ok (.dup, 1) := by decide +kernel
theorem dX5_init_26 : decode cX5_init 26 = .ok (.iconst 3, 1) := by decide +kernel
theorem dX5_init_27 : decode cX5_init 27 = .ok (.ldc 17, 2) := by decide +kernel
theorem dX5_init_29 : decode cX5_init 29 = .ok (.aastore, 1) := by decide +kernel
theorem dX5_init_30 : decode cX5_init 30 = .ok (.dup, 1) := by decide +kernel
theorem dX5_init_31 : decode cX5_init 31 = .ok (.iconst 4, 1) := by decide +kernel
theorem dX5_init_32 : decode cX5_init 32 = .ok (.ldc 19, 2) := by decide +kernel
theorem dX5_init_34 : decode cX5_init 34 = .ok (.aastore, 1) := by decide +kernel
theorem dX5_init_35 : decode cX5_init 35 = .ok (.dup, 1) := by decide +kernel
theorem dX5_init_36 : decode cX5_init 36 = .ok (.iconst 5, 1) := by decide +kernel
theorem dX5_init_37 : decode cX5_init 37 = .ok (.ldc 21, 2) := by decide +kernel
theorem dX5_init_39 : decode cX5_init 39 = .ok (.aastore, 1) := by decide +kernel
theorem dX5_init_40 : decode cX5_init 40 = .ok (.dup, 1) := by decide +kernel
theorem dX5_init_41 : decode cX5_init 41 = .ok (.bipush 6, 2) := by decide +kernel
theorem dX5_init_43 : decode cX5_init 43 = .ok (.ldc 23, 2) := by decide +kernel
theorem dX5_init_45 : decode cX5_init 45 = .ok (.aastore, 1) := by decide +kernel
theorem dX5_init_46 : decode cX5_init 46 = .ok (.dup, 1) := by decide +kernel
theorem dX5_init_47 : decode cX5_init 47 = .ok (.bipush 7, 2) := by decide +kernel
theorem dX5_init_49 : decode cX5_init 49 = .ok (.ldc 25, 2) := by decide +kernel
theorem dX5_init_51 : decode cX5_init 51 = .ok (.aastore, 1) := by decide +kernel
theorem dX5_init_52 : decode cX5_init 52 = .ok (.dup, 1) := by decide +kernel
theorem dX5_init_53 : decode cX5_init 53 = .ok (.bipush 8, 2) := by decide +kernel
theorem dX5_init_55 : decode cX5_init 55 = .ok (.ldc 27, 2) := by decide +kernel
theorem dX5_init_57 : decode cX5_init 57 = .ok (.aastore, 1) := by decide +kernel
theorem dX5_init_58 : decode cX5_init 58 = .ok (.dup, 1) := by decide +kernel
theorem dX5_init_59 : decode cX5_init 59 = .ok (.bipush 9, 2) := by decide +kernel
theorem dX5_init_61 : decode cX5_init 61 = .ok (.ldc 29, 2) := by decide +kernel
theorem dX5_init_63 : decode cX5_init 63 = .ok (.aastore, 1) := by decide +kernel
theorem dX5_init_64 : decode cX5_init 64 = .ok (.dup, 1) := by decide +kernel
theorem dX5_init_65 : decode cX5_init 65 = .ok (.bipush 10, 2) := by decide +kernel
theorem dX5_init_67 : decode cX5_init 67 = .ok (.ldc 31, 2) := by decide +kernel
theorem dX5_init_69 : decode cX5_init 69 = .ok (.aastore, 1) := by decide +kernel
theorem dX5_init_70 : decode cX5_init 70 = .ok (.dup, 1) := by decide +kernel
theorem dX5_init_71 : decode cX5_init 71 = .ok (.bipush 11, 2) := by decide +kernel
theorem dX5_init_73 : decode cX5_init 73 = .ok (.ldc 33, 2) := by decide +kernel
theorem dX5_init_75 : decode cX5_init 75 = .ok (.aastore, 1) := by decide +kernel
theorem dX5_init_76 : decode cX5_init 76 = .ok (.dup, 1) := by decide +kernel
theorem dX5_init_77 : decode cX5_init 77 = .ok (.bipush 12, 2) := by decide +kernel
theorem dX5_init_79 : decode cX5_init 79 = .ok (.ldc 35, 2) := by decide +kernel
theorem dX5_init_81 : decode cX5_init 81 = .ok (.aastore, 1) := by decide +kernel
theorem dX5_init_82 : decode cX5_init 82 = .ok (.dup, 1) := by decide +kernel
theorem dX5_init_83 : decode cX5_init 83 = .ok (.bipush 13, 2) := by decide +kernel
theorem dX5_init_85 : decode cX5_init 85 = .ok (.ldc 37, 2) := by decide +kernel
theorem dX5_init_87 : decode cX5_init 87 = .ok (.aastore, 1) := by decide +kernel
theorem dX5_init_88 : decode cX5_init 88 = .ok (.dup, 1) := by decide +kernel
theorem dX5_init_89 : decode cX5_init 89 = .ok (.bipush 14, 2) := by decide +kernel
theorem dX5_init_91 : decode cX5_init 91 = .ok (.ldc 39, 2) := by decide +kernel
theorem dX5_init_93 : decode cX5_init 93 = .ok (.aastore, 1) := by decide +kernel
theorem dX5_init_94 : decode cX5_init 94 = .ok (.dup, 1) := by decide +kernel
theorem dX5_init_95 : decode cX5_init 95 = .ok (.bipush 15, 2) := by decide +kernel
theorem dX5_init_97 : decode cX5_init 97 = .ok (.ldc 41, 2) := by decide +kernel
theorem dX5_init_99 : decode cX5_init 99 = .ok (.aastore, 1) := by decide +kernel
theorem dX5_init_100 : decode cX5_init 100 = .ok (.dup, 1) := by decide +kernel
theorem dX5_init_101 : decode cX5_init 101 = .ok (.bipush 16, 2) := by decide +kernel
theorem dX5_init_103 : decode cX5_init 103 = .ok (.ldc 43, 2) := by decide +kernel
theorem dX5_init_105 : decode cX5_init 105 = .ok (.aastore, 1) := by decide +kernel
theorem dX5_init_106 : decode cX5_init 106 = .ok (.dup, 1) := by decide +kernel
theorem dX5_init_107 : decode cX5_init 107 = .ok (.bipush 17, 2) := by decide +kernel
theorem dX5_init_109 : decode cX5_init 109 = .ok (.ldc 45, 2) := by decide +kernel
theorem dX5_init_111 : decode cX5_init 111 = .ok (.aastore, 1) := by decide +kernel
theorem dX5_init_112 : decode cX5_init 112 = .ok (.dup, 1) := by decide +kernel
theorem dX5_init_113 : decode cX5_init 113 = .ok (.bipush 18, 2) := by decide +kernel
theorem dX5_init_115 : decode cX5_init 115 = .ok (.ldc 47, 2) := by decide +kernel
theorem dX5_init_117 : decode cX5_init 117 = .ok (.aastore, 1) := by decide +kernel
theorem dX5_init_118 : decode cX5_init 118 = .ok (.dup, 1) := by decide +kernel
theorem dX5_init_119 : decode cX5_init 119 = .ok (.bipush 19, 2) := by decide +kernel
theorem dX5_init_121 : decode cX5_init 121 = .ok (.ldc 49, 2) := by decide +kernel
theorem dX5_init_123 : decode cX5_init 123 = .ok (.aastore, 1) := by decide +kernel
theorem dX5_init_124 : decode cX5_init 124 = .ok (.putfield 51, 3) := by decide +kernel
theorem dX5_init_127 : decode cX5_init 127 = .ok (.aload_n 0, 1) := by decide +kernel
theorem dX5_init_128 : decode cX5_init 128 = .ok (.aload_n 1, 1) := by decide +kernel
theorem dX5_init_129 : decode cX5_init 129 = .ok (.putfield 57, 3) := by decide +kernel
theorem dX5_init_132 : decode cX5_init 132 = .ok (.aload_n 0, 1) := by decide +kernel
theorem dX5_init_133 : decode cX5_init 133 = .ok (.aload_n 2, 1) := by decide +kernel
theorem dX5_init_134 : decode cX5_init 134 = .ok (.putfield 61, 3) := by decide +kernel
theorem dX5_init_137 : decode cX5_init 137 = .ok (.aload_n 0, 1) := by decide +kernel
theorem dX5_init_138 : decode cX5_init 138 = .ok (.aload_n 3, 1) := by decide +kernel
theorem dX5_init_139 : decode cX5_init 139 = .ok (.putfield 65, 3) := by decide +kernel
theorem dX5_init_142 : decode cX5_init 142 = .ok (.return_, 1) := by decide +kernel
theorem dX5_begin_0 : decode cX5_begin 0 = .ok (.aload_n 0, 1) := by decide +kernel
theorem dX5_begin_1 : decode cX5_begin 1 = .ok (.aload_n 1, 1) := by decide +kernel
theorem dX5_begin_2 : decode cX5_begin 2 = .ok (.putfield 69, 3) := by decide +kernel
theorem dX5_begin_5 : decode cX5_begin 5 = .ok (.aload_n 0, 1) := by decide +kernel
theorem dX5_begin_6 : decode cX5_begin 6 = .ok (.iconst 0, 1) := by decide +kernel
theorem dX5_begin_7 : decode cX5_begin 7 = .ok (.putfield 72, 3) := by decide +kernel
theorem dX5_begin_10 : decode cX5_begin 10 = .ok (.aload_n 0, 1) := by decide +kernel
theorem dX5_begin_11 : decode cX5_begin 11 = .ok (.invokevirtual 76, 3) := by decide +kernel
theorem dX5_begin_14 : decode cX5_begin 14 = .ok (.return_, 1) := by decide +kernel
theorem dX5_next_0 : decode cX5_next 0 = .ok (.aload_n 0, 1) := by decide +kernel
theorem dX5_next_1 : decode cX5_next 1 = .ok (.invokevirtual 110, 3) := by decide +kernel
theorem dX5_next_4 : decode cX5_next 4 = .ok (.istore_n 1, 1) := by decide +kernel
theorem dX5_next_5 : decode cX5_next 5 = .ok (.aload_n 0, 1) := by decide +kernel
theorem dX5_next_6 : decode cX5_next 6 = .ok (.iconst 0, 1) := by decide +kernel
theorem dX5_next_7 : decode cX5_next 7 = .ok (.invokevirtual 103, 3) := by decide +kernel
theorem dX5_next_10 : decode cX5_next 10 = .ok (.istore_n 2, 1) := by decide +kernel
theorem dX5_next_11 : decode cX5_next 11 = .ok (.iload_n 1, 1) := by decide +kernel
theorem dX5_next_12 : decode cX5_next 12 = .ok (.ifCond .eq 11, 3) := by decide +kernel
theorem dX5_next_15 : decode cX5_next 15 = .ok (.aload_n 0, 1) := by decide +kernel
theorem dX5_next_16 : decode cX5_next 16 = .ok (.iconst 4, 1) := by decide +kernel
theorem dX5_next_17 : decode cX5_next 17 = .ok (.putfield 79, 3) := by decide +kernel
theorem dX5_next_20 : decode cX5_next 20 = .ok (.goto 83, 3) := by decide +kernel
theorem dX5_next_23 : decode cX5_next 23 = .ok (.aload_n 0, 1) := by decide +kernel
theorem dX5_next_24 : decode cX5_next 24 = .ok (.getfield 72, 3) := by decide +kernel
theorem dX5_next_27 : decode cX5_next 27 = .ok (.aload_n 0, 1) := by decide +kernel
theorem dX5_next_28 : decode cX5_next 28 = .ok (.getfield 69, 3) := by decide +kernel
theorem dX5_next_31 : decode cX5_next 31 = .ok (.invokevirtual 94, 3) := by decide +kernel
theorem dX5_next_34 : decode cX5_next 34 = .ok (.if_icmp .ne 11, 3) := by decide +kernel
theorem dX5_next_37 : decode cX5_next 37 = .ok (.aload_n 0, 1) := by decide +kernel
theorem dX5_next_38 : decode cX5_next 38 = .ok (.iconst 0, 1) := by decide +kernel
theorem dX5_next_39 : decode cX5_next 39 = .ok (.putfield 79, 3) := by decide +kernel
theorem dX5_next_42 : decode cX5_next 42 = .ok (.goto 61, 3) := by decide +kernel
theorem dX5_next_45 : decode cX5_next 45 = .ok (.iload_n 2, 1) := by decide +kernel
theorem dX5_next_46 : decode cX5_next 46 = .ok (.invokestatic 113, 3) := by decide +kernel
theorem dX5_next_49 : decode cX5_next 49 = .ok (.ifCond .eq 10, 3) := by decide +kernel
theorem dX5_next_52 : decode cX5_next 52 = .ok (.aload_n 0, 1) := by decide +kernel
theorem dX5_next_53 : decode cX5_next 53 = .ok (.invokevirtual 117, 3) := by decide +kernel
theorem dX5_next_56 : decode cX5_next 56 = .ok (.goto 47, 3) := by decide +kernel
theorem dX5_next_59 : decode cX5_next 59 = .ok (.iload_n 2, 1) := by decide +kernel
theorem dX5_next_60 : decode cX5_next 60 = .ok (.invokestatic 120, 3) := by decide +kernel
theorem dX5_next_63 : decode cX5_next 63 = .ok (.ifCond .eq 10, 3) := by decide +kernel
theorem dX5_next_66 : decode cX5_next 66 = .ok (.aload_n 0, 1) := by decide +kernel
theorem dX5_next_67 : decode cX5_next 67 = .ok (.invokevirtual 123, 3) := by decide +kernel
theorem dX5_next_70 : decode cX5_next 70 = .ok (.goto 33, 3) := by decide +kernel
theorem dX5_next_73 : decode cX5_next 73 = .ok (.iload_n 2, 1) := by decide +kernel
theorem dX5_next_74 : decode cX5_next 74 = .ok (.bipush 39, 2) := by decide +kernel
theorem dX5_next_76 : decode cX5_next 76 = .ok (.if_icmp .ne 10, 3) := by decide +kernel
theorem dX5_next_79 : decode cX5_next 79 = .ok (.aload_n 0, 1) := by decide +kernel
theorem dX5_next_80 : decode cX5_next 80 = .ok (.invokevirtual 126, 3) := by decide +kernel
theorem dX5_next_83 : decode cX5_next 83 = .ok (.goto 20, 3) := by decide +kernel
theorem dX5_next_86 : decode cX5_next 86 = .ok (.iload_n 2, 1) := by decide +kernel
theorem dX5_next_87 : decode cX5_next 87 = .ok (.bipush 34, 2) := by decide +kernel
theorem dX5_next_89 : decode cX5_next 89 = .ok (.if_icmp .ne 10, 3) := by decide +kernel
theorem dX5_next_92 : decode cX5_next 92 = .ok (.aload_n 0, 1) := by decide +kernel
theorem dX5_next_93 : decode cX5_next 93 = .ok (.invokevirtual 129, 3) := by decide +kernel
theorem dX5_next_96 : decode cX5_next 96 = .ok (.goto 7, 3) := by decide +kernel
theorem dX5_next_99 : decode cX5_next 99 = .ok (.aload_n 0, 1) := by decide +kernel
theorem dX5_next_100 : decode cX5_next 100 = .ok (.invokevirtual 132, 3) := by decide +kernel
theorem dX5_next_103 : decode cX5_next 103 = .ok (.return_, 1) := by decide +kernel
theorem dX5_skip_0 : decode cX5_skip 0 = .ok (.iconst 1, 1) := by decide +kernel
theorem dX5_skip_1 : decode cX5_skip 1 = .ok (.istore_n 1, 1) := by decide +kernel
theorem dX5_skip_2 : decode cX5_skip 2 = .ok (.iconst 0, 1) := by decide +kernel
theorem dX5_skip_3 : decode cX5_skip 3 = .ok (.istore_n 2, 1) := by decide +kernel
theorem dX5_skip_4 : decode cX5_skip 4 = .ok (.iload_n 1, 1) := by decide +kernel
theorem dX5_skip_5 : decode cX5_skip 5 = .ok (.ifCond .eq 154, 3) := by decide +kernel
theorem dX5_skip_8 : decode cX5_skip 8 = .ok (.aload_n 0, 1) := by decide +kernel
theorem dX5_skip_9 : decode cX5_skip 9 = .ok (.iconst 0, 1) := by decide +kernel
theorem dX5_skip_10 : decode cX5_skip 10 = .ok (.invokevirtual 103, 3) := by decide +kernel
theorem dX5_skip_13 : decode cX5_skip 13 = .ok (.istore_n 3, 1) := by decide +kernel
theorem dX5_skip_14 : decode cX5_skip 14 = .ok (.aload_n 0, 1) := by decide +kernel
theorem dX5_skip_15 : decode cX5_skip 15 = .ok (.aload_n 0, 1) := by decide +kernel
theorem dX5_skip_16 : decode cX5_skip 16 = .ok (.getfield 72, 3) := by decide +kernel
theorem dX5_skip_19 : decode cX5_skip 19 = .ok (.putfield 82, 3) := by decide +kernel
theorem dX5_skip_22 : decode cX5_skip 22 = .ok (.iload_n 3, 1) := by decide +kernel
theorem dX5_skip_23 : decode cX5_skip 23 = .ok (.bipush 32, 2) := by decide +kernel
theorem dX5_skip_25 : decode cX5_skip 25 = .ok (.if_icmp .eq 21, 3) := by decide +kernel
theorem dX5_skip_28 : decode cX5_skip 28 = .ok (.iload_n 3, 1) := by decide +kernel
theorem dX5_skip_29 : decode cX5_skip 29 = .ok (.bipush 9, 2) := by decide +kernel
theorem dX5_skip_31 : decode cX5_skip 31 = .ok (.if_icmp .eq 15, 3) := by decide +kernel
theorem dX5_skip_34 : decode cX5_skip 34 = .ok (.iload_n 3, 1) := by decide +kernel
theorem dX5_skip_35 : decode cX5_skip 35 = .ok (.bipush 10, 2) := by decide +kernel
theorem dX5_skip_37 : decode cX5_skip 37 = .ok (.if_icmp .eq 9, 3) := by decide +kernel
theorem dX5_skip_40 : decode cX5_skip 40 = .ok (.iload_n 3, 1) := by decide +kernel
theorem dX5_skip_41 : decode cX5_skip 41 = .ok (.bipush 13, 2) := by decide +kernel
theorem dX5_skip_43 : decode cX5_skip 43 = .ok (.if_icmp .ne 16, 3) := by decide +kernel
theorem dX5_skip_46 : decode cX5_skip 46 = .ok (.aload_n 0, 1) := by decide +kernel
theorem dX5_skip_47 : decode cX5_skip 47 = .ok (.dup, 1) := by decide +kernel
theorem dX5_skip_48 : decode cX5_skip 48 = .ok (.getfield 72, 3) := by decide +kernel
theorem dX5_skip_51 : decode cX5_skip 51 = .ok (.iconst 1, 1) := by decide +kernel
theorem dX5_skip_52 : decode cX5_skip 52 = .ok (.iadd, 1) := by decide +kernel
theorem dX5_skip_53 : decode cX5_skip 53 = .ok (.putfield 72, 3) := by decide +kernel
theorem dX5_skip_56 : decode cX5_skip 56 = .ok (.goto 100, 3) := by decide +kernel
theorem dX5_skip_59 : decode cX5_skip 59 = .ok (.iload_n 3, 1) := by decide +kernel
theorem dX5_skip_60 : decode cX5_skip 60 = .ok (.bipush 47, 2) := by decide +kernel
theorem dX5_skip_62 : decode cX5_skip 62 = .ok (.if_icmp .ne 50, 3) := by decide +kernel
theorem dX5_skip_65 : decode cX5_skip 65 = .ok (.aload_n 0, 1) := by decide +kernel
theorem dX5_skip_66 : decode cX5_skip 66 = .ok (.iconst 1, 1) := by decide +kernel
theorem dX5_skip_67 : decode cX5_skip 67 = .ok (.invokevirtual 103, 3) := by decide +kernel
theorem dX5_skip_70 : decode cX5_skip 70 = .ok (.bipush 47, 2) := by decide +kernel
theorem dX5_skip_72 : decode cX5_skip 72 = .ok (.if_icmp .ne 40, 3) := by decide +kernel
theorem dX5_skip_75 : decode cX5_skip 75 = .ok (.aload_n 0, 1) := by decide +kernel
theorem dX5_skip_76 : decode cX5_skip 76 = .ok (.getfield 72, 3) := by decide +kernel
theorem dX5_skip_79 : decode cX5_skip 79 = .ok (.aload_n 0, 1) := by decide +kernel
theorem dX5_skip_80 : decode cX5_skip 80 = .ok (.getfield 69, 3) := by decide +kernel
theorem dX5_skip_83 : decode cX5_skip 83 = .ok (.invokevirtual 94, 3) := by decide +kernel
theorem dX5_skip_86 : decode cX5_skip 86 = .ok (.if_icmp .ge 70, 3) := by decide +kernel
theorem dX5_skip_89 : decode cX5_skip 89 = .ok (.aload_n 0, 1) := by decide +kernel
theorem dX5_skip_90 : decode cX5_skip 90 = .ok (.iconst 0, 1) := by decide +kernel
theorem dX5_skip_91 : decode cX5_skip 91 = .ok (.invokevirtual 103, 3) := by decide +kernel
theorem dX5_skip_94 : decode cX5_skip 94 = .ok (.bipush 10, 2) := by decide +kernel
theorem dX5_skip_96 : decode cX5_skip 96 = .ok (.if_icmp .eq 60, 3) := by decide +kernel
theorem dX5_skip_99 : decode cX5_skip 99 = .ok (.aload_n 0, 1) := by decide +kernel
theorem dX5_skip_100 : decode cX5_skip 100 = .ok (.dup, 1) := by decide +kernel
theorem dX5_skip_101 : decode cX5_skip 101 = .ok (.getfield 72, 3) := by decide +kernel
theorem dX5_skip_104 : decode cX5_skip 104 = .ok (.iconst 1, 1) := by decide +kernel
theorem dX5_skip_105 : decode cX5_skip 105 = .ok (.iadd, 1) := by decide +kernel
theorem dX5_skip_106 : decode cX5_skip 106 = .ok (.putfield 72, 3) := by decide +kernel
theorem dX5_skip_109 : decode cX5_skip 109 = .ok (.goto (-34), 3) := by decide +kernel
theorem dX5_skip_112 : decode cX5_skip 112 = .ok (.iload_n 3, 1) := by decide +kernel
theorem dX5_skip_113 : decode cX5_skip 113 = .ok (.bipush 47, 2) := by decide +kernel
theorem dX5_skip_115 : decode cX5_skip 115 = .ok (.if_icmp .ne 39, 3) := by decide +kernel
theorem dX5_skip_118 : decode cX5_skip 118 = .ok (.aload_n 0, 1) := by decide +kernel
theorem dX5_skip_119 : decode cX5_skip 119 = .ok (.iconst 1, 1) := by decide +kernel
theorem dX5_skip_120 : decode cX5_skip 120 = .ok (.invokevirtual 103, 3) := by decide +kernel
theorem dX5_skip_123 : decode cX5_skip 123 = .ok (.bipush 42, 2) := by decide +kernel
theorem dX5_skip_125 : decode cX5_skip 125 = .ok (.if_icmp .ne 29, 3) := by decide +kernel
theorem dX5_skip_128 : decode cX5_skip 128 = .ok (.aload_n 0, 1) := by decide +kernel
theorem dX5_skip_129 : decode cX5_skip 129 = .ok (.invokevirtual 106, 3) := by decide +kernel
theorem dX5_skip_132 : decode cX5_skip 132 = .ok (.ifCond .ne 7, 3) := by decide +kernel
theorem dX5_skip_135 : decode cX5_skip 135 = .ok (.iconst 1, 1) := by decide +kernel
theorem dX5_skip_136 : decode cX5_skip 136 = .ok (.goto 4, 3) := by decide +kernel
theorem dX5_skip_139 : decode cX5_skip 139 = .ok (.iconst 0, 1) := by decide +kernel
theorem dX5_skip_140 : decode cX5_skip 140 = .ok (.istore_n 2, 1) := by decide +kernel
theorem dX5_skip_141 : decode cX5_skip 141 = .ok (.iload_n 2, 1) := by decide +kernel
theorem dX5_skip_142 : decode cX5_skip 142 = .ok (.ifCond .ne 7, 3) := by decide +kernel
theorem dX5_skip_145 : decode cX5_skip 145 = .ok (.iconst 1, 1) := by decide +kernel
theorem dX5_skip_146 : decode cX5_skip 146 = .ok (.goto 4, 3) := by decide +kernel
theorem dX5_skip_149 : decode cX5_skip 149 = .ok (.iconst 0, 1) := by decide +kernel
theorem dX5_skip_150 : decode cX5_skip 150 = .ok (.istore_n 1, 1) := by decide +kernel
theorem dX5_skip_151 : decode cX5_skip 151 = .ok (.goto 5, 3) := by decide +kernel
theorem dX5_skip_154 : decode cX5_skip 154 = .ok (.iconst 0, 1) := by decide +kernel
theorem dX5_skip_155 : decode cX5_skip 155 = .ok (.istore_n 1, 1) := by decide +kernel
theorem dX5_skip_156 : decode cX5_skip 156 = .ok (.goto (-152), 3) := by decide +kernel
theorem dX5_skip_159 : decode cX5_skip 159 = .ok (.iload_n 2, 1) := by decide +kernel
theorem dX5_skip_160 : decode cX5_skip 160 = .ok (.ireturn, 1) := by decide +kernel
theorem dX5_look_0 : decode cX5_look 0 = .ok (.aload_n 0, 1) := by decide +kernel
theorem dX5_look_1 : decode cX5_look 1 = .ok (.getfield 72, 3) := by decide +kernel
theorem dX5_look_4 : decode cX5_look 4 = .ok (.iload_n 1, 1) := by decide +kernel
theorem dX5_look_5 : decode cX5_look 5 = .ok (.iadd, 1) := by decide +kernel
theorem dX5_look_6 : decode cX5_look 6 = .ok (.aload_n 0, 1) := by decide +kernel
theorem dX5_look_7 : decode cX5_look 7 = .ok (.getfield 69, 3) := by decide +kernel
theorem dX5_look_10 : decode cX5_look 10 = .ok (.invokevirtual 94, 3) := by decide +kernel
theorem dX5_look_13 : decode cX5_look 13 = .ok (.if_icmp .ge 19, 3) := by decide +kernel
theorem dX5_look_16 : decode cX5_look 16 = .ok (.aload_n 0, 1) := by decide +kernel
theorem dX5_look_17 : decode cX5_look 17 = .ok (.getfield 69, 3) := by decide +kernel
theorem dX5_look_20 : decode cX5_look 20 = .ok (.aload_n 0, 1) := by decide +kernel
theorem dX5_look_21 : decode cX5_look 21 = .ok (.getfield 72, 3) := by decide +kernel
theorem dX5_look_24 : decode cX5_look 24 = .ok (.iload_n 1, 1) := by decide +kernel
theorem dX5_look_25 : decode cX5_look 25 = .ok (.iadd, 1) := by decide +kernel
theorem dX5_look_26 : decode cX5_look 26 = .ok (.invokevirtual 100, 3) := by decide +kernel
theorem dX5_look_29 : decode cX5_look 29 = .ok (.goto 4, 3) := by decide +kernel
theorem dX5_look_32 : decode cX5_look 32 = .ok (.iconst 0, 1) := by decide +kernel
theorem dX5_look_33 : decode cX5_look 33 = .ok (.ireturn, 1) := by decide +kernel
theorem dX5_passComment_0 : decode cX5_passComment 0 = .ok (.iconst 2, 1) := by decide +kernel
theorem dX5_passComment_1 : decode cX5_passComment 1 = .ok (.istore_n 1, 1) := by decide +kernel
theorem dX5_passComment_2 : decode cX5_passComment 2 = .ok (.aload_n 0, 1) := by decide +kernel
theorem dX5_passComment_3 : decode cX5_passComment 3 = .ok (.getfield 72, 3) := by decide +kernel
theorem dX5_passComment_6 : decode cX5_passComment 6 = .ok (.iload_n 1, 1) := by decide +kernel
theorem dX5_passComment_7 : decode cX5_passComment 7 = .ok (.iadd, 1) := by decide +kernel
theorem dX5_passComment_8 : decode cX5_passComment 8 = .ok (.aload_n 0, 1) := by decide +kernel
theorem dX5_passComment_9 : decode cX5_passComment 9 = .ok (.getfield 69, 3) := by decide +kernel
theorem dX5_passComment_12 : decode cX5_passComment 12 = .ok (.invokevirtual 94, 3) := by decide +kernel
theorem dX5_passComment_15 : decode cX5_passComment 15 = .ok (.if_icmp .ge 31, 3) := by decide +kernel
theorem dX5_passComment_18 : decode cX5_passComment 18 = .ok (.aload_n 0, 1) := by decide +kernel
theorem dX5_passComment_19 : decode cX5_passComment 19 = .ok (.iload_n 1, 1) := by decide +kernel
theorem dX5_passComment_20 : decode cX5_passComment 20 = .ok (.invokevirtual 103, 3) := by decide +kernel
theorem dX5_passComment_23 : decode cX5_passComment 23 = .ok (.bipush 42, 2) := by decide +kernel
theorem dX5_passComment_25 : decode cX5_passComment 25 = .ok (.if_icmp .ne 15, 3) := by decide +kernel
theorem dX5_passComment_28 : decode cX5_passComment 28 = .ok (.aload_n 0, 1) := by decide +kernel
theorem dX5_passComment_29 : decode cX5_passComment 29 = .ok (.iload_n 1, 1) := by decide +kernel
theorem dX5_passComment_30 : decode cX5_passComment 30 = .ok (.iconst 1, 1) := by decide +kernel
theorem dX5_passComment_31 : decode cX5_passComment 31 = .ok (.iadd, 1) := by decide +kernel
theorem dX5_passComment_32 : decode cX5_passComment 32 = .ok (.invokevirtual 103, 3) := by decide +kernel
theorem dX5_passComment_35 : decode cX5_passComment 35 = .ok (.bipush 47, 2) := by decide +kernel
theorem dX5_passComment_37 : decode cX5_passComment 37 = .ok (.if_icmp .eq 9, 3) := by decide +kernel
theorem dX5_passComment_40 : decode cX5_passComment 40 = .ok (.iinc 1 1, 3) := by decide +kernel
theorem dX5_passComment_43 : decode cX5_passComment 43 = .ok (.goto (-41), 3) := by decide +kernel
theorem dX5_passComment_46 : decode cX5_passComment 46 = .ok (.aload_n 0, 1) := by decide +kernel
theorem dX5_passComment_47 : decode cX5_passComment 47 = .ok (.getfield 72, 3) := by decide +kernel
theorem dX5_passComment_50 : decode cX5_passComment 50 = .ok (.iload_n 1, 1) := by decide +kernel
theorem dX5_passComment_51 : decode cX5_passComment 51 = .ok (.iadd, 1) := by decide +kernel
theorem dX5_passComment_52 : decode cX5_passComment 52 = .ok (.aload_n 0, 1) := by decide +kernel
theorem dX5_passComment_53 : decode cX5_passComment 53 = .ok (.getfield 69, 3) := by decide +kernel
theorem dX5_passComment_56 : decode cX5_passComment 56 = .ok (.invokevirtual 94, 3) := by decide +kernel
theorem dX5_passComment_59 : decode cX5_passComment 59 = .ok (.if_icmp .ge 7, 3) := by decide +kernel
theorem dX5_passComment_62 : decode cX5_passComment 62 = .ok (.iconst 1, 1) := by decide +kernel
theorem dX5_passComment_63 : decode cX5_passComment 63 = .ok (.goto 4, 3) := by decide +kernel
theorem dX5_passComment_66 : decode cX5_passComment 66 = .ok (.iconst 0, 1) := by decide +kernel
theorem dX5_passComment_67 : decode cX5_passComment 67 = .ok (.istore_n 2, 1) := by decide +kernel
theorem dX5_passComment_68 : decode cX5_passComment 68 = .ok (.aload_n 0, 1) := by decide +kernel
theorem dX5_passComment_69 : decode cX5_passComment 69 = .ok (.dup, 1) := by decide +kernel
theorem dX5_passComment_70 : decode cX5_passComment 70 = .ok (.getfield 72, 3) := by decide +kernel
theorem dX5_passComment_73 : decode cX5_passComment 73 = .ok (.iload_n 2, 1) := by decide +kernel
theorem dX5_passComment_74 : decode cX5_passComment 74 = .ok (.ifCond .eq 9, 3) := by decide +kernel
theorem dX5_passComment_77 : decode cX5_passComment 77 = .ok (.iload_n 1, 1) := by decide +kernel
theorem dX5_passComment_78 : decode cX5_passComment 78 = .ok (.iconst 2, 1) := by decide +kernel
theorem dX5_passComment_79 : decode cX5_passComment 79 = .ok (.iadd, 1) := by decide +kernel
theorem dX5_passComment_80 : decode cX5_passComment 80 = .ok (.goto 4, 3) := by decide +kernel
theorem dX5_passComment_83 : decode cX5_passComment 83 = .ok (.iconst 0, 1) := by decide +kernel
theorem dX5_passComment_84 : decode cX5_passComment 84 = .ok (.iadd, 1) := by decide +kernel
theorem dX5_passComment_85 : decode cX5_passComment 85 = .ok (.putfield 72, 3) := by decide +kernel
theorem dX5_passComment_88 : decode cX5_passComment 88 = .ok (.iload_n 2, 1) := by decide +kernel
theorem dX5_passComment_89 : decode cX5_passComment 89 = .ok (.ireturn, 1) := by decide +kernel
theorem dX5_isLetter_0 : decode cX5_isLetter 0 = .ok (.iload_n 0, 1) := by decide +kernel
theorem dX5_isLetter_1 : decode cX5_isLetter 1 = .ok (.bipush 97, 2) := by decide +kernel
theorem dX5_isLetter_3 : decode cX5_isLetter 3 = .ok (.if_icmp .lt 9, 3) := by decide +kernel
theorem dX5_isLetter_6 : decode cX5_isLetter 6 = .ok (.iload_n 0, 1) := by decide +kernel
theorem dX5_isLetter_7 : decode cX5_isLetter 7 = .ok (.bipush 122, 2) := by decide +kernel
theorem dX5_isLetter_9 : decode cX5_isLetter 9 = .ok (.if_icmp .le 21, 3) := by decide +kernel
theorem dX5_isLetter_12 : decode cX5_isLetter 12 = .ok (.iload_n 0, 1) := by decide +kernel
theorem dX5_isLetter_13 : decode cX5_isLetter 13 = .ok (.bipush 65, 2) := by decide +kernel
theorem dX5_isLetter_15 : decode cX5_isLetter 15 = .ok (.if_icmp .lt 9, 3) := by decide +kernel
theorem dX5_isLetter_18 : decode cX5_isLetter 18 = .ok (.iload_n 0, 1) := by decide +kernel
theorem dX5_isLetter_19 : decode cX5_isLetter 19 = .ok (.bipush 90, 2) := by decide +kernel
theorem dX5_isLetter_21 : decode cX5_isLetter 21 = .ok (.if_icmp .le 9, 3) := by decide +kernel
theorem dX5_isLetter_24 : decode cX5_isLetter 24 = .ok (.iload_n 0, 1) := by decide +kernel
theorem dX5_isLetter_25 : decode cX5_isLetter 25 = .ok (.bipush 95, 2) := by decide +kernel
theorem dX5_isLetter_27 : decode cX5_isLetter 27 = .ok (.if_icmp .ne 7, 3) := by decide +kernel
theorem dX5_isLetter_30 : decode cX5_isLetter 30 = .ok (.iconst 1, 1) := by decide +kernel
theorem dX5_isLetter_31 : decode cX5_isLetter 31 = .ok (.goto 4, 3) := by decide +kernel
theorem dX5_isLetter_34 : decode cX5_isLetter 34 = .ok (.iconst 0, 1) := by decide +kernel
theorem dX5_isLetter_35 : decode cX5_isLetter 35 = .ok (.ireturn, 1) := by decide +kernel
theorem dX5_word_0 : decode cX5_word 0 = .ok (.aload_n 0, 1) := by decide +kernel
theorem dX5_word_1 : decode cX5_word 1 = .ok (.iconst 0, 1) := by decide +kernel
theorem dX5_word_2 : decode cX5_word 2 = .ok (.invokevirtual 103, 3) := by decide +kernel
theorem dX5_word_5 : decode cX5_word 5 = .ok (.invokestatic 113, 3) := by decide +kernel
theorem dX5_word_8 : decode cX5_word 8 = .ok (.ifCond .ne 14, 3) := by decide +kernel
theorem dX5_word_11 : decode cX5_word 11 = .ok (.aload_n 0, 1) := by decide +kernel
theorem dX5_word_12 : decode cX5_word 12 = .ok (.iconst 0, 1) := by decide +kernel
theorem dX5_word_13 : decode cX5_word 13 = .ok (.invokevirtual 103, 3) := by decide +kernel
theorem dX5_word_16 : decode cX5_word 16 = .ok (.invokestatic 120, 3) := by decide +kernel
theorem dX5_word_19 : decode cX5_word 19 = .ok (.ifCond .eq 16, 3) := by decide +kernel
theorem dX5_word_22 : decode cX5_word 22 = .ok (.aload_n 0, 1) := by decide +kernel
theorem dX5_word_23 : decode cX5_word 23 = .ok (.dup, 1) := by decide +kernel
theorem dX5_word_24 : decode cX5_word 24 = .ok (.getfield 72, 3) := by decide +kernel
theorem dX5_word_27 : decode cX5_word 27 = .ok (.iconst 1, 1) := by decide +kernel
theorem dX5_word_28 : decode cX5_word 28 = .ok (.iadd, 1) := by decide +kernel
theorem dX5_word_29 : decode cX5_word 29 = .ok (.putfield 72, 3) := by decide +kernel
theorem dX5_word_32 : decode cX5_word 32 = .ok (.goto (-32), 3) := by decide +kernel
theorem dX5_word_35 : decode cX5_word 35 = .ok (.aload_n 0, 1) := by decide +kernel
theorem dX5_word_36 : decode cX5_word 36 = .ok (.getfield 72, 3) := by decide +kernel
theorem dX5_word_39 : decode cX5_word 39 = .ok (.aload_n 0, 1) := by decide +kernel
theorem dX5_word_40 : decode cX5_word 40 = .ok (.getfield 82, 3) := by decide +kernel
theorem dX5_word_43 : decode cX5_word 43 = .ok (.isub, 1) := by decide +kernel
theorem dX5_word_44 : decode cX5_word 44 = .ok (.istore_n 1, 1) := by decide +kernel
theorem dX5_word_45 : decode cX5_word 45 = .ok (.aload_n 0, 1) := by decide +kernel
theorem dX5_word_46 : decode cX5_word 46 = .ok (.getfield 57, 3) := by decide +kernel
theorem dX5_word_49 : decode cX5_word 49 = .ok (.aload_n 0, 1) := by decide +kernel
theorem dX5_word_50 : decode cX5_word 50 = .ok (.getfield 69, 3) := by decide +kernel
theorem dX5_word_53 : decode cX5_word 53 = .ok (.aload_n 0, 1) := by decide +kernel
theorem dX5_word_54 : decode cX5_word 54 = .ok (.getfield 82, 3) := by decide +kernel
theorem dX5_word_57 : decode cX5_word 57 = .ok (.iload_n 1, 1) := by decide +kernel
theorem dX5_word_58 : decode cX5_word 58 = .ok (.invokevirtual 135, 3) := by decide +kernel
theorem dX5_word_61 : decode cX5_word 61 = .ok (.istore_n 2, 1) := by decide +kernel
theorem dX5_word_62 : decode cX5_word 62 = .ok (.aload_n 0, 1) := by decide +kernel
theorem dX5_word_63 : decode cX5_word 63 = .ok (.iload_n 2, 1) := by decide +kernel
theorem dX5_word_64 : decode cX5_word 64 = .ok (.iconst (-1), 1) := by decide +kernel
theorem dX5_word_65 : decode cX5_word 65 = .ok (.if_icmp .eq 11, 3) := by decide +kernel
theorem dX5_word_68 : decode cX5_word 68 = .ok (.sipush 200, 3) := by decide +kernel
theorem dX5_word_71 : decode cX5_word 71 = .ok (.iload_n 2, 1) := by decide +kernel
theorem dX5_word_72 : decode cX5_word 72 = .ok (.iadd, 1) := by decide +kernel
theorem dX5_word_73 : decode cX5_word 73 = .ok (.goto 14, 3) := by decide +kernel
theorem dX5_word_76 : decode cX5_word 76 = .ok (.iload_n 1, 1) := by decide +kernel
theorem dX5_word_77 : decode cX5_word 77 = .ok (.bipush 24, 2) := by decide +kernel
theorem dX5_word_79 : decode cX5_word 79 = .ok (.if_icmp .le 7, 3) := by decide +kernel
theorem dX5_word_82 : decode cX5_word 82 = .ok (.iconst 4, 1) := by decide +kernel
theorem dX5_word_83 : decode cX5_word 83 = .ok (.goto 4, 3) := by decide +kernel
theorem dX5_word_86 : decode cX5_word 86 = .ok (.iconst 1, 1) := by decide +kernel
theorem dX5_word_87 : decode cX5_word 87 = .ok (.putfield 79, 3) := by decide +kernel
theorem dX5_word_90 : decode cX5_word 90 = .ok (.aload_n 0, 1) := by decide +kernel
theorem dX5_word_91 : decode cX5_word 91 = .ok (.aload_n 0, 1) := by decide +kernel
theorem dX5_word_92 : decode cX5_word 92 = .ok (.getfield 79, 3) := by decide +kernel
theorem dX5_word_95 : decode cX5_word 95 = .ok (.iconst 1, 1) := by decide +kernel
theorem dX5_word_96 : decode cX5_word 96 = .ok (.if_icmp .ne 22, 3) := by decide +kernel
theorem dX5_word_99 : decode cX5_word 99 = .ok (.aload_n 0, 1) := by decide +kernel
theorem dX5_word_100 : decode cX5_word 100 = .ok (.getfield 61, 3) := by decide +kernel
theorem dX5_word_103 : decode cX5_word 103 = .ok (.aload_n 0, 1) := by decide +kernel
theorem dX5_word_104 : decode cX5_word 104 = .ok (.getfield 69, 3) := by decide +kernel
theorem dX5_word_107 : decode cX5_word 107 = .ok (.aload_n 0, 1) := by decide +kernel
theorem dX5_word_108 : decode cX5_word 108 = .ok (.getfield 82, 3) := by decide +kernel
theorem dX5_word_111 : decode cX5_word 111 = .ok (.iload_n 1, 1) := by decide +kernel
theorem dX5_word_112 : decode cX5_word 112 = .ok (.invokevirtual 141, 3) := by decide +kernel
theorem dX5_word_115 : decode cX5_word 115 = .ok (.goto 4, 3) := by decide +kernel
theorem dX5_word_118 : decode cX5_word 118 = .ok (.iconst (-1), 1) := by decide +kernel
theorem dX5_word_119 : decode cX5_word 119 = .ok (.putfield 88, 3) := by decide +kernel
theorem dX5_word_122 : decode cX5_word 122 = .ok (.return_, 1) := by decide +kernel
theorem dX5_isDigit_0 : decode cX5_isDigit 0 = .ok (.iload_n 0, 1) := by decide +kernel
theorem dX5_isDigit_1 : decode cX5_isDigit 1 = .ok (.bipush 48, 2) := by decide +kernel
theorem dX5_isDigit_3 : decode cX5_isDigit 3 = .ok (.if_icmp .lt 13, 3) := by decide +kernel
theorem dX5_isDigit_6 : decode cX5_isDigit 6 = .ok (.iload_n 0, 1) := by decide +kernel
theorem dX5_isDigit_7 : decode cX5_isDigit 7 = .ok (.bipush 57, 2) := by decide +kernel
theorem dX5_isDigit_9 : decode cX5_isDigit 9 = .ok (.if_icmp .gt 7, 3) := by decide +kernel
theorem dX5_isDigit_12 : decode cX5_isDigit 12 = .ok (.iconst 1, 1) := by decide +kernel
theorem dX5_isDigit_13 : decode cX5_isDigit 13 = .ok (.goto 4, 3) := by decide +kernel
theorem dX5_isDigit_16 : decode cX5_isDigit 16 = .ok (.iconst 0, 1) := by decide +kernel
theorem dX5_isDigit_17 : decode cX5_isDigit 17 = .ok (.ireturn, 1) := by decide +kernel
theorem dX5_digits_0 : decode cX5_digits 0 = .ok (.lconst 0, 1) := by decide +kernel
theorem dX5_digits_1 : decode cX5_digits 1 = .ok (.lstore_n 1, 1) := by decide +kernel
theorem dX5_digits_2 : decode cX5_digits 2 = .ok (.iconst 0, 1) := by decide +kernel
theorem dX5_digits_3 : decode cX5_digits 3 = .ok (.istore_n 3, 1) := by decide +kernel
theorem dX5_digits_4 : decode cX5_digits 4 = .ok (.aload_n 0, 1) := by decide +kernel
theorem dX5_digits_5 : decode cX5_digits 5 = .ok (.iconst 0, 1) := by decide +kernel
theorem dX5_digits_6 : decode cX5_digits 6 = .ok (.invokevirtual 103, 3) := by decide +kernel
theorem dX5_digits_9 : decode cX5_digits 9 = .ok (.bipush 48, 2) := by decide +kernel
theorem dX5_digits_11 : decode cX5_digits 11 = .ok (.if_icmp .ne 18, 3) := by decide +kernel
theorem dX5_digits_14 : decode cX5_digits 14 = .ok (.aload_n 0, 1) := by decide +kernel
theorem dX5_digits_15 : decode cX5_digits 15 = .ok (.iconst 1, 1) := by decide +kernel
theorem dX5_digits_16 : decode cX5_digits 16 = .ok (.invokevirtual 103, 3) := by decide +kernel
theorem dX5_digits_19 : decode cX5_digits 19 = .ok (.bipush 120, 2) := by decide +kernel
theorem dX5_digits_21 : decode cX5_digits 21 = .ok (.if_icmp .ne 8, 3) := by decide +kernel
theorem dX5_digits_24 : decode cX5_digits 24 = .ok (.bipush 16, 2) := by decide +kernel
theorem dX5_digits_26 : decode cX5_digits 26 = .ok (.goto 5, 3) := by decide +kernel
theorem dX5_digits_29 : decode cX5_digits 29 = .ok (.bipush 10, 2) := by decide +kernel
theorem dX5_digits_31 : decode cX5_digits 31 = .ok (.istore 4, 2) := by decide +kernel
theorem dX5_digits_33 : decode cX5_digits 33 = .ok (.aload_n 0, 1) := by decide +kernel
theorem dX5_digits_34 : decode cX5_digits 34 = .ok (.dup, 1) := by decide +kernel
theorem dX5_digits_35 : decode cX5_digits 35 = .ok (.getfield 72, 3) := by decide +kernel
theorem dX5_digits_38 : decode cX5_digits 38 = .ok (.iload 4, 2) := by decide +kernel
theorem dX5_digits_40 : decode cX5_digits 40 = .ok (.bipush 16, 2) := by decide +kernel
theorem dX5_digits_42 : decode cX5_digits 42 = .ok (.if_icmp .ne 7, 3) := by decide +kernel
theorem dX5_digits_45 : decode cX5_digits 45 = .ok (.iconst 2, 1) := by decide +kernel
theorem dX5_digits_46 : decode cX5_digits 46 = .ok (.goto 4, 3) := by decide +kernel
theorem dX5_digits_49 : decode cX5_digits 49 = .ok (.iconst 0, 1) := by decide +kernel
theorem dX5_digits_50 : decode cX5_digits 50 = .ok (.iadd, 1) := by decide +kernel
theorem dX5_digits_51 : decode cX5_digits 51 = .ok (.putfield 72, 3) := by decide +kernel
theorem dX5_digits_54 : decode cX5_digits 54 = .ok (.aload_n 0, 1) := by decide +kernel
theorem dX5_digits_55 : decode cX5_digits 55 = .ok (.iconst 0, 1) := by decide +kernel
theorem dX5_digits_56 : decode cX5_digits 56 = .ok (.invokevirtual 103, 3) := by decide +kernel
theorem dX5_digits_59 : decode cX5_digits 59 = .ok (.invokestatic 146, 3) := by decide +kernel
theorem dX5_digits_62 : decode cX5_digits 62 = .ok (.istore 5, 2) := by decide +kernel
theorem dX5_digits_64 : decode cX5_digits 64 = .ok (.iload 5, 2) := by decide +kernel
theorem dX5_digits_66 : decode cX5_digits 66 = .ok (.ifCond .lt 56, 3) := by decide +kernel
theorem dX5_digits_69 : decode cX5_digits 69 = .ok (.iload 5, 2) := by decide +kernel
theorem dX5_digits_71 : decode cX5_digits 71 = .ok (.iload 4, 2) := by decide +kernel
theorem dX5_digits_73 : decode cX5_digits 73 = .ok (.if_icmp .ge 49, 3) := by decide +kernel
theorem dX5_digits_76 : decode cX5_digits 76 = .ok (.iload_n 3, 1) := by decide +kernel
theorem dX5_digits_77 : decode cX5_digits 77 = .ok (.bipush 10, 2) := by decide +kernel
theorem dX5_digits_79 : decode cX5_digits 79 = .ok (.if_icmp .ge 15, 3) := by decide +kernel
theorem dX5_digits_82 : decode cX5_digits 82 = .ok (.lload_n 1, 1) := by decide +kernel
theorem dX5_digits_83 : decode cX5_digits 83 = .ok (.iload 4, 2) := by decide +kernel
theorem dX5_digits_85 : decode cX5_digits 85 = .ok (.i2l, 1) := by decide +kernel
theorem dX5_digits_86 : decode cX5_digits 86 = .ok (.lmul, 1) := by decide +kernel
theorem dX5_digits_87 : decode cX5_digits 87 = .ok (.iload 5, 2) := by decide +kernel
theorem dX5_digits_89 : decode cX5_digits 89 = .ok (.i2l, 1) := by decide +kernel
theorem dX5_digits_90 : decode cX5_digits 90 = .ok (.ladd, 1) := by decide +kernel
theorem dX5_digits_91 : decode cX5_digits 91 = .ok (.goto 4, 3) := by decide +kernel
theorem dX5_digits_94 : decode cX5_digits 94 = .ok (.lload_n 1, 1) := by decide +kernel
theorem dX5_digits_95 : decode cX5_digits 95 = .ok (.lstore_n 1, 1) := by decide +kernel
theorem dX5_digits_96 : decode cX5_digits 96 = .ok (.iinc 3 1, 3) := by decide +kernel
theorem dX5_digits_99 : decode cX5_digits 99 = .ok (.aload_n 0, 1) := by decide +kernel
theorem dX5_digits_100 : decode cX5_digits 100 = .ok (.dup, 1) := by decide +kernel
theorem dX5_digits_101 : decode cX5_digits 101 = .ok (.getfield 72, 3) := by decide +kernel
theorem dX5_digits_104 : decode cX5_digits 104 = .ok (.iconst 1, 1) := by decide +kernel
theorem dX5_digits_105 : decode cX5_digits 105 = .ok (.iadd, 1) := by decide +kernel
theorem dX5_digits_106 : decode cX5_digits 106 = .ok (.putfield 72, 3) := by decide +kernel
theorem dX5_digits_109 : decode cX5_digits 109 = .ok (.aload_n 0, 1) := by decide +kernel
theorem dX5_digits_110 : decode cX5_digits 110 = .ok (.iconst 0, 1) := by decide +kernel
theorem dX5_digits_111 : decode cX5_digits 111 = .ok (.invokevirtual 103, 3) := by decide +kernel
theorem dX5_digits_114 : decode cX5_digits 114 = .ok (.invokestatic 146, 3) := by decide +kernel
theorem dX5_digits_117 : decode cX5_digits 117 = .ok (.istore 5, 2) := by decide +kernel
theorem dX5_digits_119 : decode cX5_digits 119 = .ok (.goto (-55), 3) := by decide +kernel
theorem dX5_digits_122 : decode cX5_digits 122 = .ok (.iload 4, 2) := by decide +kernel
theorem dX5_digits_124 : decode cX5_digits 124 = .ok (.bipush 16, 2) := by decide +kernel
theorem dX5_digits_126 : decode cX5_digits 126 = .ok (.if_icmp .ne 21, 3) := by decide +kernel
theorem dX5_digits_129 : decode cX5_digits 129 = .ok (.iload_n 3, 1) := by decide +kernel
theorem dX5_digits_130 : decode cX5_digits 130 = .ok (.ifCond .le 13, 3) := by decide +kernel
theorem dX5_digits_133 : decode cX5_digits 133 = .ok (.iload_n 3, 1) := by decide +kernel
theorem dX5_digits_134 : decode cX5_digits 134 = .ok (.bipush 8, 2) := by decide +kernel
theorem dX5_digits_136 : decode cX5_digits 136 = .ok (.if_icmp .gt 7, 3) := by decide +kernel
theorem dX5_digits_139 : decode cX5_digits 139 = .ok (.iconst 1, 1) := by decide +kernel
theorem dX5_digits_140 : decode cX5_digits 140 = .ok (.goto 27, 3) := by decide +kernel
theorem dX5_digits_143 : decode cX5_digits 143 = .ok (.iconst 0, 1) := by decide +kernel
theorem dX5_digits_144 : decode cX5_digits 144 = .ok (.goto 23, 3) := by decide +kernel
theorem dX5_digits_147 : decode cX5_digits 147 = .ok (.iload_n 3, 1) := by decide +kernel
theorem dX5_digits_148 : decode cX5_digits 148 = .ok (.bipush 10, 2) := by decide +kernel
theorem dX5_digits_150 : decode cX5_digits 150 = .ok (.if_icmp .gt 16, 3) := by decide +kernel
theorem dX5_digits_153 : decode cX5_digits 153 = .ok (.lload_n 1, 1) := by decide +kernel
theorem dX5_digits_154 : decode cX5_digits 154 = .ok (.bipush 32, 2) := by decide +kernel
theorem dX5_digits_156 : decode cX5_digits 156 = .ok (.lushr, 1) := by decide +kernel
theorem dX5_digits_157 : decode cX5_digits 157 = .ok (.lconst 0, 1) := by decide +kernel
theorem dX5_digits_158 : decode cX5_digits 158 = .ok (.lcmp, 1) := by decide +kernel
theorem dX5_digits_159 : decode cX5_digits 159 = .ok (.ifCond .ne 7, 3) := by decide +kernel
theorem dX5_digits_162 : decode cX5_digits 162 = .ok (.iconst 1, 1) := by decide +kernel
theorem dX5_digits_163 : decode cX5_digits 163 = .ok (.goto 4, 3) := by decide +kernel
theorem dX5_digits_166 : decode cX5_digits 166 = .ok (.iconst 0, 1) := by decide +kernel
theorem dX5_digits_167 : decode cX5_digits 167 = .ok (.istore 6, 2) := by decide +kernel
theorem dX5_digits_169 : decode cX5_digits 169 = .ok (.aload_n 0, 1) := by decide +kernel
theorem dX5_digits_170 : decode cX5_digits 170 = .ok (.iload 6, 2) := by decide +kernel
theorem dX5_digits_172 : decode cX5_digits 172 = .ok (.ifCond .eq 7, 3) := by decide +kernel
theorem dX5_digits_175 : decode cX5_digits 175 = .ok (.iconst 2, 1) := by decide +kernel
theorem dX5_digits_176 : decode cX5_digits 176 = .ok (.goto 4, 3) := by decide +kernel
theorem dX5_digits_179 : decode cX5_digits 179 = .ok (.iconst 4, 1) := by decide +kernel
theorem dX5_digits_180 : decode cX5_digits 180 = .ok (.putfield 79, 3) := by decide +kernel
theorem dX5_digits_183 : decode cX5_digits 183 = .ok (.aload_n 0, 1) := by decide +kernel
theorem dX5_digits_184 : decode cX5_digits 184 = .ok (.lload_n 1, 1) := by decide +kernel
theorem dX5_digits_185 : decode cX5_digits 185 = .ok (.l2i, 1) := by decide +kernel
theorem dX5_digits_186 : decode cX5_digits 186 = .ok (.putfield 85, 3) := by decide +kernel
theorem dX5_digits_189 : decode cX5_digits 189 = .ok (.return_, 1) := by decide +kernel
theorem dX5_figure_0 : decode cX5_figure 0 = .ok (.iload_n 0, 1) := by decide +kernel
theorem dX5_figure_1 : decode cX5_figure 1 = .ok (.invokestatic 120, 3) := by decide +kernel
theorem dX5_figure_4 : decode cX5_figure 4 = .ok (.ifCond .eq 10, 3) := by decide +kernel
theorem dX5_figure_7 : decode cX5_figure 7 = .ok (.iload_n 0, 1) := by decide +kernel
theorem dX5_figure_8 : decode cX5_figure 8 = .ok (.bipush 48, 2) := by decide +kernel
theorem dX5_figure_10 : decode cX5_figure 10 = .ok (.isub, 1) := by decide +kernel
theorem dX5_figure_11 : decode cX5_figure 11 = .ok (.goto 48, 3) := by decide +kernel
theorem dX5_figure_14 : decode cX5_figure 14 = .ok (.iload_n 0, 1) := by decide +kernel
theorem dX5_figure_15 : decode cX5_figure 15 = .ok (.bipush 97, 2) := by decide +kernel
theorem dX5_figure_17 : decode cX5_figure 17 = .ok (.if_icmp .lt 19, 3) := by decide +kernel
theorem dX5_figure_20 : decode cX5_figure 20 = .ok (.iload_n 0, 1) := by decide +kernel
theorem dX5_figure_21 : decode cX5_figure 21 = .ok (.bipush 102, 2) := by decide +kernel
theorem dX5_figure_23 : decode cX5_figure 23 = .ok (.if_icmp .gt 13, 3) := by decide +kernel
theorem dX5_figure_26 : decode cX5_figure 26 = .ok (.iload_n 0, 1) := by decide +kernel
theorem dX5_figure_27 : decode cX5_figure 27 = .ok (.bipush 97, 2) := by decide +kernel
theorem dX5_figure_29 : decode cX5_figure 29 = .ok (.isub, 1) := by decide +kernel
theorem dX5_figure_30 : decode cX5_figure 30 = .ok (.bipush 10, 2) := by decide +kernel
theorem dX5_figure_32 : decode cX5_figure 32 = .ok (.iadd, 1) := by decide +kernel
theorem dX5_figure_33 : decode cX5_figure 33 = .ok (.goto 26, 3) := by decide +kernel
theorem dX5_figure_36 : decode cX5_figure 36 = .ok (.iload_n 0, 1) := by decide +kernel
theorem dX5_figure_37 : decode cX5_figure 37 = .ok (.bipush 65, 2) := by decide +kernel
theorem dX5_figure_39 : decode cX5_figure 39 = .ok (.if_icmp .lt 19, 3) := by decide +kernel
theorem dX5_figure_42 : decode cX5_figure 42 = .ok (.iload_n 0, 1) := by decide +kernel
theorem dX5_figure_43 : decode cX5_figure 43 = .ok (.bipush 70, 2) := by decide +kernel
theorem dX5_figure_45 : decode cX5_figure 45 = .ok (.if_icmp .gt 13, 3) := by decide +kernel
theorem dX5_figure_48 : decode cX5_figure 48 = .ok (.iload_n 0, 1) := by decide +kernel
theorem dX5_figure_49 : decode cX5_figure 49 = .ok (.bipush 65, 2) := by decide +kernel
theorem dX5_figure_51 : decode cX5_figure 51 = .ok (.isub, 1) := by decide +kernel
theorem dX5_figure_52 : decode cX5_figure 52 = .ok (.bipush 10, 2) := by decide +kernel
theorem dX5_figure_54 : decode cX5_figure 54 = .ok (.iadd, 1) := by decide +kernel
theorem dX5_figure_55 : decode cX5_figure 55 = .ok (.goto 4, 3) := by decide +kernel
theorem dX5_figure_58 : decode cX5_figure 58 = .ok (.iconst (-1), 1) := by decide +kernel
theorem dX5_figure_59 : decode cX5_figure 59 = .ok (.ireturn, 1) := by decide +kernel
theorem dX5_character_0 : decode cX5_character 0 = .ok (.aload_n 0, 1) := by decide +kernel
theorem dX5_character_1 : decode cX5_character 1 = .ok (.iconst 1, 1) := by decide +kernel
theorem dX5_character_2 : decode cX5_character 2 = .ok (.invokevirtual 103, 3) := by decide +kernel
theorem dX5_character_5 : decode cX5_character 5 = .ok (.istore_n 1, 1) := by decide +kernel
theorem dX5_character_6 : decode cX5_character 6 = .ok (.aload_n 0, 1) := by decide +kernel
theorem dX5_character_7 : decode cX5_character 7 = .ok (.iconst 2, 1) := by decide +kernel
theorem dX5_character_8 : decode cX5_character 8 = .ok (.invokevirtual 103, 3) := by decide +kernel
theorem dX5_character_11 : decode cX5_character 11 = .ok (.istore_n 2, 1) := by decide +kernel
theorem dX5_character_12 : decode cX5_character 12 = .ok (.iload_n 1, 1) := by decide +kernel
theorem dX5_character_13 : decode cX5_character 13 = .ok (.bipush 92, 2) := by decide +kernel
theorem dX5_character_15 : decode cX5_character 15 = .ok (.if_icmp .ne 7, 3) := by decide +kernel
theorem dX5_character_18 : decode cX5_character 18 = .ok (.iconst 1, 1) := by decide +kernel
theorem dX5_character_19 : decode cX5_character 19 = .ok (.goto 4, 3) := by decide +kernel
theorem dX5_character_22 : decode cX5_character 22 = .ok (.iconst 0, 1) := by decide +kernel
theorem dX5_character_23 : decode cX5_character 23 = .ok (.istore_n 3, 1) := by decide +kernel
theorem dX5_character_24 : decode cX5_character 24 = .ok (.iload_n 3, 1) := by decide +kernel
theorem dX5_character_25 : decode cX5_character 25 = .ok (.ifCond .ne 7, 3) := by decide +kernel
theorem dX5_character_28 : decode cX5_character 28 = .ok (.iload_n 1, 1) := by decide +kernel
theorem dX5_character_29 : decode cX5_character 29 = .ok (.goto 41, 3) := by decide +kernel
theorem dX5_character_32 : decode cX5_character 32 = .ok (.iload_n 2, 1) := by decide +kernel
theorem dX5_character_33 : decode cX5_character 33 = .ok (.bipush 110, 2) := by decide +kernel
theorem dX5_character_35 : decode cX5_character 35 = .ok (.if_icmp .ne 8, 3) := by decide +kernel
theorem dX5_character_38 : decode cX5_character 38 = .ok (.bipush 10, 2) := by decide +kernel
theorem dX5_character_40 : decode cX5_character 40 = .ok (.goto 30, 3) := by decide +kernel
theorem dX5_character_43 : decode cX5_character 43 = .ok (.iload_n 2, 1) := by decide +kernel
theorem dX5_character_44 : decode cX5_character 44 = .ok (.bipush 48, 2) := by decide +kernel
theorem dX5_character_46 : decode cX5_character 46 = .ok (.if_icmp .ne 7, 3) := by decide +kernel
theorem dX5_character_49 : decode cX5_character 49 = .ok (.iconst 0, 1) := by decide +kernel
theorem dX5_character_50 : decode cX5_character 50 = .ok (.goto 20, 3) := by decide +kernel
theorem dX5_character_53 : decode cX5_character 53 = .ok (.iload_n 2, 1) := by decide +kernel
theorem dX5_character_54 : decode cX5_character 54 = .ok (.bipush 39, 2) := by decide +kernel
theorem dX5_character_56 : decode cX5_character 56 = .ok (.if_icmp .eq 9, 3) := by decide +kernel
theorem dX5_character_59 : decode cX5_character 59 = .ok (.iload_n 2, 1) := by decide +kernel
theorem dX5_character_60 : decode cX5_character 60 = .ok (.bipush 92, 2) := by decide +kernel
theorem dX5_character_62 : decode cX5_character 62 = .ok (.if_icmp .ne 7, 3) := by decide +kernel
theorem dX5_character_65 : decode cX5_character 65 = .ok (.iload_n 2, 1) := by decide +kernel
theorem dX5_character_66 : decode cX5_character 66 = .ok (.goto 4, 3) := by decide +kernel
theorem dX5_character_69 : decode cX5_character 69 = .ok (.iconst (-1), 1) := by decide +kernel
theorem dX5_character_70 : decode cX5_character 70 = .ok (.istore 4, 2) := by decide +kernel
theorem dX5_character_72 : decode cX5_character 72 = .ok (.iload_n 3, 1) := by decide +kernel
theorem dX5_character_73 : decode cX5_character 73 = .ok (.ifCond .eq 16, 3) := by decide +kernel
theorem dX5_character_76 : decode cX5_character 76 = .ok (.iload 4, 2) := by decide +kernel
theorem dX5_character_78 : decode cX5_character 78 = .ok (.ifCond .lt 7, 3) := by decide +kernel
theorem dX5_character_81 : decode cX5_character 81 = .ok (.iconst 1, 1) := by decide +kernel
theorem dX5_character_82 : decode cX5_character 82 = .ok (.goto 30, 3) := by decide +kernel
theorem dX5_character_85 : decode cX5_character 85 = .ok (.iconst 0, 1) := by decide +kernel
theorem dX5_character_86 : decode cX5_character 86 = .ok (.goto 26, 3) := by decide +kernel
theorem dX5_character_89 : decode cX5_character 89 = .ok (.iload_n 1, 1) := by decide +kernel
theorem dX5_character_90 : decode cX5_character 90 = .ok (.bipush 32, 2) := by decide +kernel
theorem dX5_character_92 : decode cX5_character 92 = .ok (.if_icmp .lt 19, 3) := by decide +kernel
theorem dX5_character_95 : decode cX5_character 95 = .ok (.iload_n 1, 1) := by decide +kernel
theorem dX5_character_96 : decode cX5_character 96 = .ok (.bipush 126, 2) := by decide +kernel
theorem dX5_character_98 : decode cX5_character 98 = .ok (.if_icmp .gt 13, 3) := by decide +kernel
theorem dX5_character_101 : decode cX5_character 101 = .ok (.iload_n 1, 1) := by decide +kernel
theorem dX5_character_102 : decode cX5_character 102 = .ok (.bipush 39, 2) := by decide +kernel
theorem dX5_character_104 : decode cX5_character 104 = .ok (.if_icmp .eq 7, 3) := by decide +kernel
theorem dX5_character_107 : decode cX5_character 107 = .ok (.iconst 1, 1) := by decide +kernel
theorem dX5_character_108 : decode cX5_character 108 = .ok (.goto 4, 3) := by decide +kernel
theorem dX5_character_111 : decode cX5_character 111 = .ok (.iconst 0, 1) := by decide +kernel
theorem dX5_character_112 : decode cX5_character 112 = .ok (.istore 5, 2) := by decide +kernel
theorem dX5_character_114 : decode cX5_character 114 = .ok (.iload_n 3, 1) := by decide +kernel
theorem dX5_character_115 : decode cX5_character 115 = .ok (.ifCond .eq 7, 3) := by decide +kernel
theorem dX5_character_118 : decode cX5_character 118 = .ok (.iconst 3, 1) := by decide +kernel
theorem dX5_character_119 : decode cX5_character 119 = .ok (.goto 4, 3) := by decide +kernel
theorem dX5_character_122 : decode cX5_character 122 = .ok (.iconst 2, 1) := by decide +kernel
theorem dX5_character_123 : decode cX5_character 123 = .ok (.istore 6, 2) := by decide +kernel
theorem dX5_character_125 : decode cX5_character 125 = .ok (.aload_n 0, 1) := by decide +kernel
theorem dX5_character_126 : decode cX5_character 126 = .ok (.iload 5, 2) := by decide +kernel
theorem dX5_character_128 : decode cX5_character 128 = .ok (.ifCond .eq 18, 3) := by decide +kernel
theorem dX5_character_131 : decode cX5_character 131 = .ok (.aload_n 0, 1) := by decide +kernel
theorem dX5_character_132 : decode cX5_character 132 = .ok (.iload 6, 2) := by decide +kernel
theorem dX5_character_134 : decode cX5_character 134 = .ok (.invokevirtual 103, 3) := by decide +kernel
theorem dX5_character_137 : decode cX5_character 137 = .ok (.bipush 39, 2) := by decide +kernel
theorem dX5_character_139 : decode cX5_character 139 = .ok (.if_icmp .ne 7, 3) := by decide +kernel
theorem dX5_character_142 : decode cX5_character 142 = .ok (.iconst 2, 1) := by decide +kernel
theorem dX5_character_143 : decode cX5_character 143 = .ok (.goto 4, 3) := by decide +kernel
theorem dX5_character_146 : decode cX5_character 146 = .ok (.iconst 4, 1) := by decide +kernel
theorem dX5_character_147 : decode cX5_character 147 = .ok (.putfield 79, 3) := by decide +kernel
theorem dX5_character_150 : decode cX5_character 150 = .ok (.aload_n 0, 1) := by decide +kernel
theorem dX5_character_151 : decode cX5_character 151 = .ok (.iload 4, 2) := by decide +kernel
theorem dX5_character_153 : decode cX5_character 153 = .ok (.putfield 85, 3) := by decide +kernel
theorem dX5_character_156 : decode cX5_character 156 = .ok (.aload_n 0, 1) := by decide +kernel
theorem dX5_character_157 : decode cX5_character 157 = .ok (.dup, 1) := by decide +kernel
theorem dX5_character_158 : decode cX5_character 158 = .ok (.getfield 72, 3) := by decide +kernel
theorem dX5_character_161 : decode cX5_character 161 = .ok (.iload 6, 2) := by decide +kernel
theorem dX5_character_163 : decode cX5_character 163 = .ok (.iconst 1, 1) := by decide +kernel
theorem dX5_character_164 : decode cX5_character 164 = .ok (.iadd, 1) := by decide +kernel
theorem dX5_character_165 : decode cX5_character 165 = .ok (.iadd, 1) := by decide +kernel
theorem dX5_character_166 : decode cX5_character 166 = .ok (.putfield 72, 3) := by decide +kernel
theorem dX5_character_169 : decode cX5_character 169 = .ok (.return_, 1) := by decide +kernel
theorem dX5_quoted_0 : decode cX5_quoted 0 = .ok (.aload_n 0, 1) := by decide +kernel
theorem dX5_quoted_1 : decode cX5_quoted 1 = .ok (.aload_n 0, 1) := by decide +kernel
theorem dX5_quoted_2 : decode cX5_quoted 2 = .ok (.getfield 65, 3) := by decide +kernel
theorem dX5_quoted_5 : decode cX5_quoted 5 = .ok (.invokevirtual 94, 3) := by decide +kernel
theorem dX5_quoted_8 : decode cX5_quoted 8 = .ok (.putfield 91, 3) := by decide +kernel
theorem dX5_quoted_11 : decode cX5_quoted 11 = .ok (.aload_n 0, 1) := by decide +kernel
theorem dX5_quoted_12 : decode cX5_quoted 12 = .ok (.dup, 1) := by decide +kernel
theorem dX5_quoted_13 : decode cX5_quoted 13 = .ok (.getfield 72, 3) := by decide +kernel
theorem dX5_quoted_16 : decode cX5_quoted 16 = .ok (.iconst 1, 1) := by decide +kernel
theorem dX5_quoted_17 : decode cX5_quoted 17 = .ok (.iadd, 1) := by decide +kernel
theorem dX5_quoted_18 : decode cX5_quoted 18 = .ok (.putfield 72, 3) := by decide +kernel
theorem dX5_quoted_21 : decode cX5_quoted 21 = .ok (.iconst 1, 1) := by decide +kernel
theorem dX5_quoted_22 : decode cX5_quoted 22 = .ok (.istore_n 1, 1) := by decide +kernel
theorem dX5_quoted_23 : decode cX5_quoted 23 = .ok (.iconst 0, 1) := by decide +kernel
theorem dX5_quoted_24 : decode cX5_quoted 24 = .ok (.istore_n 2, 1) := by decide +kernel
theorem dX5_quoted_25 : decode cX5_quoted 25 = .ok (.iload_n 1, 1) := by decide +kernel
theorem dX5_quoted_26 : decode cX5_quoted 26 = .ok (.ifCond .eq 169, 3) := by decide +kernel
theorem dX5_quoted_29 : decode cX5_quoted 29 = .ok (.aload_n 0, 1) := by decide +kernel
theorem dX5_quoted_30 : decode cX5_quoted 30 = .ok (.iconst 0, 1) := by decide +kernel
theorem dX5_quoted_31 : decode cX5_quoted 31 = .ok (.invokevirtual 103, 3) := by decide +kernel
theorem dX5_quoted_34 : decode cX5_quoted 34 = .ok (.istore_n 3, 1) := by decide +kernel
theorem dX5_quoted_35 : decode cX5_quoted 35 = .ok (.aload_n 0, 1) := by decide +kernel
theorem dX5_quoted_36 : decode cX5_quoted 36 = .ok (.iconst 1, 1) := by decide +kernel
theorem dX5_quoted_37 : decode cX5_quoted 37 = .ok (.invokevirtual 103, 3) := by decide +kernel
theorem dX5_quoted_40 : decode cX5_quoted 40 = .ok (.istore 4, 2) := by decide +kernel
theorem dX5_quoted_42 : decode cX5_quoted 42 = .ok (.iload_n 3, 1) := by decide +kernel
theorem dX5_quoted_43 : decode cX5_quoted 43 = .ok (.bipush 92, 2) := by decide +kernel
theorem dX5_quoted_45 : decode cX5_quoted 45 = .ok (.if_icmp .eq 7, 3) := by decide +kernel
theorem dX5_quoted_48 : decode cX5_quoted 48 = .ok (.iload_n 3, 1) := by decide +kernel
theorem dX5_quoted_49 : decode cX5_quoted 49 = .ok (.goto 46, 3) := by decide +kernel
theorem dX5_quoted_52 : decode cX5_quoted 52 = .ok (.iload 4, 2) := by decide +kernel
theorem dX5_quoted_54 : decode cX5_quoted 54 = .ok (.bipush 110, 2) := by decide +kernel
theorem dX5_quoted_56 : decode cX5_quoted 56 = .ok (.if_icmp .ne 8, 3) := by decide +kernel
theorem dX5_quoted_59 : decode cX5_quoted 59 = .ok (.bipush 10, 2) := by decide +kernel
theorem dX5_quoted_61 : decode cX5_quoted 61 = .ok (.goto 34, 3) := by decide +kernel
theorem dX5_quoted_64 : decode cX5_quoted 64 = .ok (.iload 4, 2) := by decide +kernel
theorem dX5_quoted_66 : decode cX5_quoted 66 = .ok (.bipush 48, 2) := by decide +kernel
theorem dX5_quoted_68 : decode cX5_quoted 68 = .ok (.if_icmp .ne 7, 3) := by decide +kernel
theorem dX5_quoted_71 : decode cX5_quoted 71 = .ok (.iconst 0, 1) := by decide +kernel
theorem dX5_quoted_72 : decode cX5_quoted 72 = .ok (.goto 23, 3) := by decide +kernel
theorem dX5_quoted_75 : decode cX5_quoted 75 = .ok (.iload 4, 2) := by decide +kernel
theorem dX5_quoted_77 : decode cX5_quoted 77 = .ok (.bipush 34, 2) := by decide +kernel
theorem dX5_quoted_79 : decode cX5_quoted 79 = .ok (.if_icmp .eq 10, 3) := by decide +kernel
theorem dX5_quoted_82 : decode cX5_quoted 82 = .ok (.iload 4, 2) := by decide +kernel
theorem dX5_quoted_84 : decode cX5_quoted 84 = .ok (.bipush 92, 2) := by decide +kernel
theorem dX5_quoted_86 : decode cX5_quoted 86 = .ok (.if_icmp .ne 8, 3) := by decide +kernel
theorem dX5_quoted_89 : decode cX5_quoted 89 = .ok (.iload 4, 2) := by decide +kernel
theorem dX5_quoted_91 : decode cX5_quoted 91 = .ok (.goto 4, 3) := by decide +kernel
theorem dX5_quoted_94 : decode cX5_quoted 94 = .ok (.iconst (-1), 1) := by decide +kernel
theorem dX5_quoted_95 : decode cX5_quoted 95 = .ok (.istore 5, 2) := by decide +kernel
theorem dX5_quoted_97 : decode cX5_quoted 97 = .ok (.iload_n 3, 1) := by decide +kernel
theorem dX5_quoted_98 : decode cX5_quoted 98 = .ok (.bipush 34, 2) := by decide +kernel
theorem dX5_quoted_100 : decode cX5_quoted 100 = .ok (.if_icmp .ne 7, 3) := by decide +kernel
theorem dX5_quoted_103 : decode cX5_quoted 103 = .ok (.iconst 1, 1) := by decide +kernel
theorem dX5_quoted_104 : decode cX5_quoted 104 = .ok (.goto 4, 3) := by decide +kernel
theorem dX5_quoted_107 : decode cX5_quoted 107 = .ok (.iconst 0, 1) := by decide +kernel
theorem dX5_quoted_108 : decode cX5_quoted 108 = .ok (.istore_n 2, 1) := by decide +kernel
theorem dX5_quoted_109 : decode cX5_quoted 109 = .ok (.iload_n 2, 1) := by decide +kernel
theorem dX5_quoted_110 : decode cX5_quoted 110 = .ok (.ifCond .ne 47, 3) := by decide +kernel
theorem dX5_quoted_113 : decode cX5_quoted 113 = .ok (.aload_n 0, 1) := by decide +kernel
theorem dX5_quoted_114 : decode cX5_quoted 114 = .ok (.getfield 72, 3) := by decide +kernel
theorem dX5_quoted_117 : decode cX5_quoted 117 = .ok (.aload_n 0, 1) := by decide +kernel
theorem dX5_quoted_118 : decode cX5_quoted 118 = .ok (.getfield 69, 3) := by decide +kernel
theorem dX5_quoted_121 : decode cX5_quoted 121 = .ok (.invokevirtual 94, 3) := by decide +kernel
theorem dX5_quoted_124 : decode cX5_quoted 124 = .ok (.if_icmp .ge 33, 3) := by decide +kernel
theorem dX5_quoted_127 : decode cX5_quoted 127 = .ok (.iload_n 3, 1) := by decide +kernel
theorem dX5_quoted_128 : decode cX5_quoted 128 = .ok (.bipush 92, 2) := by decide +kernel
theorem dX5_quoted_130 : decode cX5_quoted 130 = .ok (.if_icmp .ne 11, 3) := by decide +kernel
theorem dX5_quoted_133 : decode cX5_quoted 133 = .ok (.iload 5, 2) := by decide +kernel
theorem dX5_quoted_135 : decode cX5_quoted 135 = .ok (.ifCond .lt 22, 3) := by decide +kernel
theorem dX5_quoted_138 : decode cX5_quoted 138 = .ok (.goto 15, 3) := by decide +kernel
theorem dX5_quoted_141 : decode cX5_quoted 141 = .ok (.iload_n 3, 1) := by decide +kernel
theorem dX5_quoted_142 : decode cX5_quoted 142 = .ok (.bipush 32, 2) := by decide +kernel
theorem dX5_quoted_144 : decode cX5_quoted 144 = .ok (.if_icmp .lt 13, 3) := by decide +kernel
theorem dX5_quoted_147 : decode cX5_quoted 147 = .ok (.iload_n 3, 1) := by decide +kernel
theorem dX5_quoted_148 : decode cX5_quoted 148 = .ok (.bipush 126, 2) := by decide +kernel
theorem dX5_quoted_150 : decode cX5_quoted 150 = .ok (.if_icmp .gt 7, 3) := by decide +kernel
theorem dX5_quoted_153 : decode cX5_quoted 153 = .ok (.iconst 1, 1) := by decide +kernel
theorem dX5_quoted_154 : decode cX5_quoted 154 = .ok (.goto 4, 3) := by decide +kernel
theorem dX5_quoted_157 : decode cX5_quoted 157 = .ok (.iconst 0, 1) := by decide +kernel
theorem dX5_quoted_158 : decode cX5_quoted 158 = .ok (.istore_n 1, 1) := by decide +kernel
theorem dX5_quoted_159 : decode cX5_quoted 159 = .ok (.iload_n 1, 1) := by decide +kernel
theorem dX5_quoted_160 : decode cX5_quoted 160 = .ok (.ifCond .eq 32, 3) := by decide +kernel
theorem dX5_quoted_163 : decode cX5_quoted 163 = .ok (.aload_n 0, 1) := by decide +kernel
theorem dX5_quoted_164 : decode cX5_quoted 164 = .ok (.getfield 65, 3) := by decide +kernel
theorem dX5_quoted_167 : decode cX5_quoted 167 = .ok (.iload 5, 2) := by decide +kernel
theorem dX5_quoted_169 : decode cX5_quoted 169 = .ok (.invokevirtual 149, 3) := by decide +kernel
theorem dX5_quoted_172 : decode cX5_quoted 172 = .ok (.aload_n 0, 1) := by decide +kernel
theorem dX5_quoted_173 : decode cX5_quoted 173 = .ok (.dup, 1) := by decide +kernel
theorem dX5_quoted_174 : decode cX5_quoted 174 = .ok (.getfield 72, 3) := by decide +kernel
theorem dX5_quoted_177 : decode cX5_quoted 177 = .ok (.iload_n 3, 1) := by decide +kernel
theorem dX5_quoted_178 : decode cX5_quoted 178 = .ok (.bipush 92, 2) := by decide +kernel
theorem dX5_quoted_180 : decode cX5_quoted 180 = .ok (.if_icmp .ne 7, 3) := by decide +kernel
theorem dX5_quoted_183 : decode cX5_quoted 183 = .ok (.iconst 2, 1) := by decide +kernel
theorem dX5_quoted_184 : decode cX5_quoted 184 = .ok (.goto 4, 3) := by decide +kernel
theorem dX5_quoted_187 : decode cX5_quoted 187 = .ok (.iconst 1, 1) := by decide +kernel
theorem dX5_quoted_188 : decode cX5_quoted 188 = .ok (.iadd, 1) := by decide +kernel
theorem dX5_quoted_189 : decode cX5_quoted 189 = .ok (.putfield 72, 3) := by decide +kernel
theorem dX5_quoted_192 : decode cX5_quoted 192 = .ok (.goto (-167), 3) := by decide +kernel
theorem dX5_quoted_195 : decode cX5_quoted 195 = .ok (.aload_n 0, 1) := by decide +kernel
theorem dX5_quoted_196 : decode cX5_quoted 196 = .ok (.dup, 1) := by decide +kernel
theorem dX5_quoted_197 : decode cX5_quoted 197 = .ok (.getfield 72, 3) := by decide +kernel
theorem dX5_quoted_200 : decode cX5_quoted 200 = .ok (.iconst 1, 1) := by decide +kernel
theorem dX5_quoted_201 : decode cX5_quoted 201 = .ok (.iadd, 1) := by decide +kernel
theorem dX5_quoted_202 : decode cX5_quoted 202 = .ok (.putfield 72, 3) := by decide +kernel
theorem dX5_quoted_205 : decode cX5_quoted 205 = .ok (.aload_n 0, 1) := by decide +kernel
theorem dX5_quoted_206 : decode cX5_quoted 206 = .ok (.iload_n 2, 1) := by decide +kernel
theorem dX5_quoted_207 : decode cX5_quoted 207 = .ok (.ifCond .eq 17, 3) := by decide +kernel
theorem dX5_quoted_210 : decode cX5_quoted 210 = .ok (.aload_n 0, 1) := by decide +kernel
theorem dX5_quoted_211 : decode cX5_quoted 211 = .ok (.invokevirtual 153, 3) := by decide +kernel
theorem dX5_quoted_214 : decode cX5_quoted 214 = .ok (.sipush 200, 3) := by decide +kernel
theorem dX5_quoted_217 : decode cX5_quoted 217 = .ok (.if_icmp .gt 7, 3) := by decide +kernel
theorem dX5_quoted_220 : decode cX5_quoted 220 = .ok (.iconst 3, 1) := by decide +kernel
theorem dX5_quoted_221 : decode cX5_quoted 221 = .ok (.goto 4, 3) := by decide +kernel
theorem dX5_quoted_224 : decode cX5_quoted 224 = .ok (.iconst 4, 1) := by decide +kernel
theorem dX5_quoted_225 : decode cX5_quoted 225 = .ok (.putfield 79, 3) := by decide +kernel
theorem dX5_quoted_228 : decode cX5_quoted 228 = .ok (.return_, 1) := by decide +kernel
theorem dX5_stringLength_0 : decode cX5_stringLength 0 = .ok (.aload_n 0, 1) := by decide +kernel
theorem dX5_stringLength_1 : decode cX5_stringLength 1 = .ok (.getfield 65, 3) := by decide +kernel
theorem dX5_stringLength_4 : decode cX5_stringLength 4 = .ok (.invokevirtual 94, 3) := by decide +kernel
theorem dX5_stringLength_7 : decode cX5_stringLength 7 = .ok (.aload_n 0, 1) := by decide +kernel
theorem dX5_stringLength_8 : decode cX5_stringLength 8 = .ok (.getfield 91, 3) := by decide +kernel
theorem dX5_stringLength_11 : decode cX5_stringLength 11 = .ok (.isub, 1) := by decide +kernel
theorem dX5_stringLength_12 : decode cX5_stringLength 12 = .ok (.ireturn, 1) := by decide +kernel
theorem dX5_mark_0 : decode cX5_mark 0 = .ok (.iconst (-1), 1) := by decide +kernel
theorem dX5_mark_1 : decode cX5_mark 1 = .ok (.istore_n 1, 1) := by decide +kernel
theorem dX5_mark_2 : decode cX5_mark 2 = .ok (.iconst 0, 1) := by decide +kernel
theorem dX5_mark_3 : decode cX5_mark 3 = .ok (.istore_n 2, 1) := by decide +kernel
theorem dX5_mark_4 : decode cX5_mark 4 = .ok (.iload_n 2, 1) := by decide +kernel
theorem dX5_mark_5 : decode cX5_mark 5 = .ok (.aload_n 0, 1) := by decide +kernel
theorem dX5_mark_6 : decode cX5_mark 6 = .ok (.getfield 51, 3) := by decide +kernel
theorem dX5_mark_9 : decode cX5_mark 9 = .ok (.arraylength, 1) := by decide +kernel
theorem dX5_mark_10 : decode cX5_mark 10 = .ok (.if_icmp .ge 64, 3) := by decide +kernel
theorem dX5_mark_13 : decode cX5_mark 13 = .ok (.iload_n 1, 1) := by decide +kernel
theorem dX5_mark_14 : decode cX5_mark 14 = .ok (.iconst (-1), 1) := by decide +kernel
theorem dX5_mark_15 : decode cX5_mark 15 = .ok (.if_icmp .eq 24, 3) := by decide +kernel
theorem dX5_mark_18 : decode cX5_mark 18 = .ok (.aload_n 0, 1) := by decide +kernel
theorem dX5_mark_19 : decode cX5_mark 19 = .ok (.getfield 51, 3) := by decide +kernel
theorem dX5_mark_22 : decode cX5_mark 22 = .ok (.iload_n 2, 1) := by decide +kernel
theorem dX5_mark_23 : decode cX5_mark 23 = .ok (.aaload, 1) := by decide +kernel
theorem dX5_mark_24 : decode cX5_mark 24 = .ok (.invokevirtual 156, 3) := by decide +kernel
theorem dX5_mark_27 : decode cX5_mark 27 = .ok (.aload_n 0, 1) := by decide +kernel
theorem dX5_mark_28 : decode cX5_mark 28 = .ok (.getfield 51, 3) := by decide +kernel
theorem dX5_mark_31 : decode cX5_mark 31 = .ok (.iload_n 1, 1) := by decide +kernel
theorem dX5_mark_32 : decode cX5_mark 32 = .ok (.aaload, 1) := by decide +kernel
theorem dX5_mark_33 : decode cX5_mark 33 = .ok (.invokevirtual 156, 3) := by decide +kernel
theorem dX5_mark_36 : decode cX5_mark 36 = .ok (.if_icmp .le 7, 3) := by decide +kernel
theorem dX5_mark_39 : decode cX5_mark 39 = .ok (.iconst 1, 1) := by decide +kernel
theorem dX5_mark_40 : decode cX5_mark 40 = .ok (.goto 4, 3) := by decide +kernel
theorem dX5_mark_43 : decode cX5_mark 43 = .ok (.iconst 0, 1) := by decide +kernel
theorem dX5_mark_44 : decode cX5_mark 44 = .ok (.istore_n 3, 1) := by decide +kernel
theorem dX5_mark_45 : decode cX5_mark 45 = .ok (.iload_n 3, 1) := by decide +kernel
theorem dX5_mark_46 : decode cX5_mark 46 = .ok (.ifCond .eq 20, 3) := by decide +kernel
theorem dX5_mark_49 : decode cX5_mark 49 = .ok (.aload_n 0, 1) := by decide +kernel
theorem dX5_mark_50 : decode cX5_mark 50 = .ok (.aload_n 0, 1) := by decide +kernel
theorem dX5_mark_51 : decode cX5_mark 51 = .ok (.getfield 51, 3) := by decide +kernel
theorem dX5_mark_54 : decode cX5_mark 54 = .ok (.iload_n 2, 1) := by decide +kernel
theorem dX5_mark_55 : decode cX5_mark 55 = .ok (.aaload, 1) := by decide +kernel
theorem dX5_mark_56 : decode cX5_mark 56 = .ok (.invokevirtual 163, 3) := by decide +kernel
theorem dX5_mark_59 : decode cX5_mark 59 = .ok (.ifCond .eq 7, 3) := by decide +kernel
theorem dX5_mark_62 : decode cX5_mark 62 = .ok (.iload_n 2, 1) := by decide +kernel
theorem dX5_mark_63 : decode cX5_mark 63 = .ok (.goto 4, 3) := by decide +kernel
theorem dX5_mark_66 : decode cX5_mark 66 = .ok (.iload_n 1, 1) := by decide +kernel
theorem dX5_mark_67 : decode cX5_mark 67 = .ok (.istore_n 1, 1) := by decide +kernel
theorem dX5_mark_68 : decode cX5_mark 68 = .ok (.iinc 2 1, 3) := by decide +kernel
theorem dX5_mark_71 : decode cX5_mark 71 = .ok (.goto (-67), 3) := by decide +kernel
theorem dX5_mark_74 : decode cX5_mark 74 = .ok (.iload_n 1, 1) := by decide +kernel
theorem dX5_mark_75 : decode cX5_mark 75 = .ok (.iconst (-1), 1) := by decide +kernel
theorem dX5_mark_76 : decode cX5_mark 76 = .ok (.if_icmp .eq 31, 3) := by decide +kernel
theorem dX5_mark_79 : decode cX5_mark 79 = .ok (.aload_n 0, 1) := by decide +kernel
theorem dX5_mark_80 : decode cX5_mark 80 = .ok (.sipush 128, 3) := by decide +kernel
theorem dX5_mark_83 : decode cX5_mark 83 = .ok (.iload_n 1, 1) := by decide +kernel
theorem dX5_mark_84 : decode cX5_mark 84 = .ok (.iadd, 1) := by decide +kernel
theorem dX5_mark_85 : decode cX5_mark 85 = .ok (.putfield 79, 3) := by decide +kernel
theorem dX5_mark_88 : decode cX5_mark 88 = .ok (.aload_n 0, 1) := by decide +kernel
theorem dX5_mark_89 : decode cX5_mark 89 = .ok (.dup, 1) := by decide +kernel
theorem dX5_mark_90 : decode cX5_mark 90 = .ok (.getfield 72, 3) := by decide +kernel
theorem dX5_mark_93 : decode cX5_mark 93 = .ok (.aload_n 0, 1) := by decide +kernel
theorem dX5_mark_94 : decode cX5_mark 94 = .ok (.getfield 51, 3) := by decide +kernel
theorem dX5_mark_97 : decode cX5_mark 97 = .ok (.iload_n 1, 1) := by decide +kernel
theorem dX5_mark_98 : decode cX5_mark 98 = .ok (.aaload, 1) := by decide +kernel
theorem dX5_mark_99 : decode cX5_mark 99 = .ok (.invokevirtual 156, 3) := by decide +kernel
theorem dX5_mark_102 : decode cX5_mark 102 = .ok (.iadd, 1) := by decide +kernel
theorem dX5_mark_103 : decode cX5_mark 103 = .ok (.putfield 72, 3) := by decide +kernel
theorem dX5_mark_106 : decode cX5_mark 106 = .ok (.return_, 1) := by decide +kernel
theorem dX5_mark_107 : decode cX5_mark 107 = .ok (.aload_n 0, 1) := by decide +kernel
theorem dX5_mark_108 : decode cX5_mark 108 = .ok (.iconst 0, 1) := by decide +kernel
theorem dX5_mark_109 : decode cX5_mark 109 = .ok (.invokevirtual 103, 3) := by decide +kernel
theorem dX5_mark_112 : decode cX5_mark 112 = .ok (.istore_n 2, 1) := by decide +kernel
theorem dX5_mark_113 : decode cX5_mark 113 = .ok (.iload_n 2, 1) := by decide +kernel
theorem dX5_mark_114 : decode cX5_mark 114 = .ok (.bipush 40, 2) := by decide +kernel
theorem dX5_mark_116 : decode cX5_mark 116 = .ok (.if_icmp .eq 57, 3) := by decide +kernel
theorem dX5_mark_119 : decode cX5_mark 119 = .ok (.iload_n 2, 1) := by decide +kernel
theorem dX5_mark_120 : decode cX5_mark 120 = .ok (.bipush 41, 2) := by decide +kernel
theorem dX5_mark_122 : decode cX5_mark 122 = .ok (.if_icmp .eq 51, 3) := by decide +kernel
theorem dX5_mark_125 : decode cX5_mark 125 = .ok (.iload_n 2, 1) := by decide +kernel
theorem dX5_mark_126 : decode cX5_mark 126 = .ok (.bipush 123, 2) := by decide +kernel
theorem dX5_mark_128 : decode cX5_mark 128 = .ok (.if_icmp .eq 45, 3) := by decide +kernel
theorem dX5_mark_131 : decode cX5_mark 131 = .ok (.iload_n 2, 1) := by decide +kernel
theorem dX5_mark_132 : decode cX5_mark 132 = .ok (.bipush 125, 2) := by decide +kernel
theorem dX5_mark_134 : decode cX5_mark 134 = .ok (.if_icmp .eq 39, 3) := by decide +kernel
theorem dX5_mark_137 : decode cX5_mark 137 = .ok (.iload_n 2, 1) := by decide +kernel
theorem dX5_mark_138 : decode cX5_mark 138 = .ok (.bipush 91, 2) := by decide +kernel
theorem dX5_mark_140 : decode cX5_mark 140 = .ok (.if_icmp .eq 33, 3) := by decide +kernel
theorem dX5_mark_143 : decode cX5_mark 143 = .ok (.iload_n 2, 1) := by decide +kernel
theorem dX5_mark_144 : decode cX5_mark 144 = .ok (.bipush 93, 2) := by decide +kernel
theorem dX5_mark_146 : decode cX5_mark 146 = .ok (.if_icmp .eq 27, 3) := by decide +kernel
theorem dX5_mark_149 : decode cX5_mark 149 = .ok (.iload_n 2, 1) := by decide +kernel
theorem dX5_mark_150 : decode cX5_mark 150 = .ok (.bipush 44, 2) := by decide +kernel
theorem dX5_mark_152 : decode cX5_mark 152 = .ok (.if_icmp .eq 21, 3) := by decide +kernel
theorem dX5_mark_155 : decode cX5_mark 155 = .ok (.iload_n 2, 1) := by decide +kernel
theorem dX5_mark_156 : decode cX5_mark 156 = .ok (.bipush 59, 2) := by decide +kernel
theorem dX5_mark_158 : decode cX5_mark 158 = .ok (.if_icmp .eq 15, 3) := by decide +kernel
theorem dX5_mark_161 : decode cX5_mark 161 = .ok (.iload_n 2, 1) := by decide +kernel
theorem dX5_mark_162 : decode cX5_mark 162 = .ok (.bipush 58, 2) := by decide +kernel
theorem dX5_mark_164 : decode cX5_mark 164 = .ok (.if_icmp .eq 9, 3) := by decide +kernel
theorem dX5_mark_167 : decode cX5_mark 167 = .ok (.iload_n 2, 1) := by decide +kernel
theorem dX5_mark_168 : decode cX5_mark 168 = .ok (.bipush 63, 2) := by decide +kernel
theorem dX5_mark_170 : decode cX5_mark 170 = .ok (.if_icmp .ne 7, 3) := by decide +kernel
theorem dX5_mark_173 : decode cX5_mark 173 = .ok (.iconst 1, 1) := by decide +kernel
theorem dX5_mark_174 : decode cX5_mark 174 = .ok (.goto 4, 3) := by decide +kernel
theorem dX5_mark_177 : decode cX5_mark 177 = .ok (.iconst 0, 1) := by decide +kernel
theorem dX5_mark_178 : decode cX5_mark 178 = .ok (.istore_n 3, 1) := by decide +kernel
theorem dX5_mark_179 : decode cX5_mark 179 = .ok (.iload_n 2, 1) := by decide +kernel
theorem dX5_mark_180 : decode cX5_mark 180 = .ok (.bipush 61, 2) := by decide +kernel
theorem dX5_mark_182 : decode cX5_mark 182 = .ok (.if_icmp .eq 75, 3) := by decide +kernel
theorem dX5_mark_185 : decode cX5_mark 185 = .ok (.iload_n 2, 1) := by decide +kernel
theorem dX5_mark_186 : decode cX5_mark 186 = .ok (.bipush 124, 2) := by decide +kernel
theorem dX5_mark_188 : decode cX5_mark 188 = .ok (.if_icmp .eq 69, 3) := by decide +kernel
theorem dX5_mark_191 : decode cX5_mark 191 = .ok (.iload_n 2, 1) := by decide +kernel
theorem dX5_mark_192 : decode cX5_mark 192 = .ok (.bipush 94, 2) := by decide +kernel
theorem dX5_mark_194 : decode cX5_mark 194 = .ok (.if_icmp .eq 63, 3) := by decide +kernel
theorem dX5_mark_197 : decode cX5_mark 197 = .ok (.iload_n 2, 1) := by decide +kernel
theorem dX5_mark_198 : decode cX5_mark 198 = .ok (.bipush 38, 2) := by decide +kernel
theorem dX5_mark_200 : decode cX5_mark 200 = .ok (.if_icmp .eq 57, 3) := by decide +kernel
theorem dX5_mark_203 : decode cX5_mark 203 = .ok (.iload_n 2, 1) := by decide +kernel
theorem dX5_mark_204 : decode cX5_mark 204 = .ok (.bipush 60, 2) := by decide +kernel
theorem dX5_mark_206 : decode cX5_mark 206 = .ok (.if_icmp .eq 51, 3) := by decide +kernel
theorem dX5_mark_209 : decode cX5_mark 209 = .ok (.iload_n 2, 1) := by decide +kernel
theorem dX5_mark_210 : decode cX5_mark 210 = .ok (.bipush 62, 2) := by decide +kernel
theorem dX5_mark_212 : decode cX5_mark 212 = .ok (.if_icmp .eq 45, 3) := by decide +kernel
theorem dX5_mark_215 : decode cX5_mark 215 = .ok (.iload_n 2, 1) := by decide +kernel
theorem dX5_mark_216 : decode cX5_mark 216 = .ok (.bipush 43, 2) := by decide +kernel
theorem dX5_mark_218 : decode cX5_mark 218 = .ok (.if_icmp .eq 39, 3) := by decide +kernel
theorem dX5_mark_221 : decode cX5_mark 221 = .ok (.iload_n 2, 1) := by decide +kernel
theorem dX5_mark_222 : decode cX5_mark 222 = .ok (.bipush 45, 2) := by decide +kernel
theorem dX5_mark_224 : decode cX5_mark 224 = .ok (.if_icmp .eq 33, 3) := by decide +kernel
theorem dX5_mark_227 : decode cX5_mark 227 = .ok (.iload_n 2, 1) := by decide +kernel
theorem dX5_mark_228 : decode cX5_mark 228 = .ok (.bipush 42, 2) := by decide +kernel
theorem dX5_mark_230 : decode cX5_mark 230 = .ok (.if_icmp .eq 27, 3) := by decide +kernel
theorem dX5_mark_233 : decode cX5_mark 233 = .ok (.iload_n 2, 1) := by decide +kernel
theorem dX5_mark_234 : decode cX5_mark 234 = .ok (.bipush 47, 2) := by decide +kernel
theorem dX5_mark_236 : decode cX5_mark 236 = .ok (.if_icmp .eq 21, 3) := by decide +kernel
theorem dX5_mark_239 : decode cX5_mark 239 = .ok (.iload_n 2, 1) := by decide +kernel
theorem dX5_mark_240 : decode cX5_mark 240 = .ok (.bipush 37, 2) := by decide +kernel
theorem dX5_mark_242 : decode cX5_mark 242 = .ok (.if_icmp .eq 15, 3) := by decide +kernel
theorem dX5_mark_245 : decode cX5_mark 245 = .ok (.iload_n 2, 1) := by decide +kernel
theorem dX5_mark_246 : decode cX5_mark 246 = .ok (.bipush 33, 2) := by decide +kernel
theorem dX5_mark_248 : decode cX5_mark 248 = .ok (.if_icmp .eq 9, 3) := by decide +kernel
theorem dX5_mark_251 : decode cX5_mark 251 = .ok (.iload_n 2, 1) := by decide +kernel
theorem dX5_mark_252 : decode cX5_mark 252 = .ok (.bipush 126, 2) := by decide +kernel
theorem dX5_mark_254 : decode cX5_mark 254 = .ok (.if_icmp .ne 7, 3) := by decide +kernel
theorem dX5_mark_257 : decode cX5_mark 257 = .ok (.iconst 1, 1) := by decide +kernel
theorem dX5_mark_258 : decode cX5_mark 258 = .ok (.goto 4, 3) := by decide +kernel
theorem dX5_mark_261 : decode cX5_mark 261 = .ok (.iconst 0, 1) := by decide +kernel
theorem dX5_mark_262 : decode cX5_mark 262 = .ok (.istore 4, 2) := by decide +kernel
theorem dX5_mark_264 : decode cX5_mark 264 = .ok (.aload_n 0, 1) := by decide +kernel
theorem dX5_mark_265 : decode cX5_mark 265 = .ok (.iload_n 3, 1) := by decide +kernel
theorem dX5_mark_266 : decode cX5_mark 266 = .ok (.ifCond .ne 8, 3) := by decide +kernel
theorem dX5_mark_269 : decode cX5_mark 269 = .ok (.iload 4, 2) := by decide +kernel
theorem dX5_mark_271 : decode cX5_mark 271 = .ok (.ifCond .eq 7, 3) := by decide +kernel
theorem dX5_mark_274 : decode cX5_mark 274 = .ok (.iload_n 2, 1) := by decide +kernel
theorem dX5_mark_275 : decode cX5_mark 275 = .ok (.goto 4, 3) := by decide +kernel
theorem dX5_mark_278 : decode cX5_mark 278 = .ok (.iconst 4, 1) := by decide +kernel
theorem dX5_mark_279 : decode cX5_mark 279 = .ok (.putfield 79, 3) := by decide +kernel
theorem dX5_mark_282 : decode cX5_mark 282 = .ok (.aload_n 0, 1) := by decide +kernel
theorem dX5_mark_283 : decode cX5_mark 283 = .ok (.dup, 1) := by decide +kernel
theorem dX5_mark_284 : decode cX5_mark 284 = .ok (.getfield 72, 3) := by decide +kernel
theorem dX5_mark_287 : decode cX5_mark 287 = .ok (.iconst 1, 1) := by decide +kernel
theorem dX5_mark_288 : decode cX5_mark 288 = .ok (.iadd, 1) := by decide +kernel
theorem dX5_mark_289 : decode cX5_mark 289 = .ok (.putfield 72, 3) := by decide +kernel
theorem dX5_mark_292 : decode cX5_mark 292 = .ok (.return_, 1) := by decide +kernel
theorem dX5_isHere_0 : decode cX5_isHere 0 = .ok (.iconst 1, 1) := by decide +kernel
theorem dX5_isHere_1 : decode cX5_isHere 1 = .ok (.istore_n 2, 1) := by decide +kernel
theorem dX5_isHere_2 : decode cX5_isHere 2 = .ok (.iconst 0, 1) := by decide +kernel
theorem dX5_isHere_3 : decode cX5_isHere 3 = .ok (.istore_n 3, 1) := by decide +kernel
theorem dX5_isHere_4 : decode cX5_isHere 4 = .ok (.iload_n 3, 1) := by decide +kernel
theorem dX5_isHere_5 : decode cX5_isHere 5 = .ok (.aload_n 1, 1) := by decide +kernel
theorem dX5_isHere_6 : decode cX5_isHere 6 = .ok (.invokevirtual 156, 3) := by decide +kernel
theorem dX5_isHere_9 : decode cX5_isHere 9 = .ok (.if_icmp .ge 32, 3) := by decide +kernel
theorem dX5_isHere_12 : decode cX5_isHere 12 = .ok (.iload_n 2, 1) := by decide +kernel
theorem dX5_isHere_13 : decode cX5_isHere 13 = .ok (.ifCond .eq 28, 3) := by decide +kernel
theorem dX5_isHere_16 : decode cX5_isHere 16 = .ok (.aload_n 0, 1) := by decide +kernel
theorem dX5_isHere_17 : decode cX5_isHere 17 = .ok (.iload_n 3, 1) := by decide +kernel
theorem dX5_isHere_18 : decode cX5_isHere 18 = .ok (.invokevirtual 103, 3) := by decide +kernel
theorem dX5_isHere_21 : decode cX5_isHere 21 = .ok (.aload_n 1, 1) := by decide +kernel
theorem dX5_isHere_22 : decode cX5_isHere 22 = .ok (.iload_n 3, 1) := by decide +kernel
theorem dX5_isHere_23 : decode cX5_isHere 23 = .ok (.invokevirtual 159, 3) := by decide +kernel
theorem dX5_isHere_26 : decode cX5_isHere 26 = .ok (.if_icmp .ne 7, 3) := by decide +kernel
theorem dX5_isHere_29 : decode cX5_isHere 29 = .ok (.iconst 1, 1) := by decide +kernel
theorem dX5_isHere_30 : decode cX5_isHere 30 = .ok (.goto 4, 3) := by decide +kernel
theorem dX5_isHere_33 : decode cX5_isHere 33 = .ok (.iconst 0, 1) := by decide +kernel
theorem dX5_isHere_34 : decode cX5_isHere 34 = .ok (.istore_n 2, 1) := by decide +kernel
theorem dX5_isHere_35 : decode cX5_isHere 35 = .ok (.iinc 3 1, 3) := by decide +kernel
theorem dX5_isHere_38 : decode cX5_isHere 38 = .ok (.goto (-34), 3) := by decide +kernel
theorem dX5_isHere_41 : decode cX5_isHere 41 = .ok (.iload_n 2, 1) := by decide +kernel
theorem dX5_isHere_42 : decode cX5_isHere 42 = .ok (.ireturn, 1) := by decide +kernel
theorem dX5_token_0 : decode cX5_token 0 = .ok (.aload_n 0, 1) := by decide +kernel
theorem dX5_token_1 : decode cX5_token 1 = .ok (.getfield 79, 3) := by decide +kernel
theorem dX5_token_4 : decode cX5_token 4 = .ok (.ireturn, 1) := by decide +kernel
theorem dX5_start_0 : decode cX5_start 0 = .ok (.aload_n 0, 1) := by decide +kernel
theorem dX5_start_1 : decode cX5_start 1 = .ok (.getfield 82, 3) := by decide +kernel
theorem dX5_start_4 : decode cX5_start 4 = .ok (.ireturn, 1) := by decide +kernel
theorem dX5_name_0 : decode cX5_name 0 = .ok (.aload_n 0, 1) := by decide +kernel
theorem dX5_name_1 : decode cX5_name 1 = .ok (.getfield 88, 3) := by decide +kernel
theorem dX5_name_4 : decode cX5_name 4 = .ok (.ireturn, 1) := by decide +kernel
theorem dX5_number_0 : decode cX5_number 0 = .ok (.aload_n 0, 1) := by decide +kernel
theorem dX5_number_1 : decode cX5_number 1 = .ok (.getfield 85, 3) := by decide +kernel
theorem dX5_number_4 : decode cX5_number 4 = .ok (.ireturn, 1) := by decide +kernel
theorem dX5_string_0 : decode cX5_string 0 = .ok (.aload_n 0, 1) := by decide +kernel
theorem dX5_string_1 : decode cX5_string 1 = .ok (.getfield 91, 3) := by decide +kernel
theorem dX5_string_4 : decode cX5_string 4 = .ok (.ireturn, 1) := by decide +kernel
theorem dX6_init_0 : decode cX6_init 0 = .ok (.aload_n 0, 1) := by decide +kernel
theorem dX6_init_1 : decode cX6_init 1 = .ok (.invokespecial 3, 3) := by decide +kernel
theorem dX6_init_4 : decode cX6_init 4 = .ok (.aload_n 0, 1) := by decide +kernel
theorem dX6_init_5 : decode cX6_init 5 = .ok (.sipush 256, 3) := by decide +kernel
theorem dX6_init_8 : decode cX6_init 8 = .ok (.newarray .int, 2) := by decide +kernel
theorem dX6_init_10 : decode cX6_init 10 = .ok (.putfield 9, 3) := by decide +kernel
theorem dX6_init_13 : decode cX6_init 13 = .ok (.aload_n 0, 1) := by decide +kernel
theorem dX6_init_14 : decode cX6_init 14 = .ok (.sipush 256, 3) := by decide +kernel
theorem dX6_init_17 : decode cX6_init 17 = .ok (.newarray .int, 2) := by decide +kernel
theorem dX6_init_19 : decode cX6_init 19 = .ok (.putfield 15, 3) := by decide +kernel
theorem dX6_init_22 : decode cX6_init 22 = .ok (.aload_n 0, 1) := by decide +kernel
theorem dX6_init_23 : decode cX6_init 23 = .ok (.sipush 256, 3) := by decide +kernel
theorem dX6_init_26 : decode cX6_init 26 = .ok (.newarray .int, 2) := by decide +kernel
theorem dX6_init_28 : decode cX6_init 28 = .ok (.putfield 18, 3) := by decide +kernel
theorem dX6_init_31 : decode cX6_init 31 = .ok (.aload_n 0, 1) := by decide +kernel
theorem dX6_init_32 : decode cX6_init 32 = .ok (.sipush 256, 3) := by decide +kernel
theorem dX6_init_35 : decode cX6_init 35 = .ok (.newarray .int, 2) := by decide +kernel
theorem dX6_init_37 : decode cX6_init 37 = .ok (.putfield 21, 3) := by decide +kernel
theorem dX6_init_40 : decode cX6_init 40 = .ok (.aload_n 0, 1) := by decide +kernel
theorem dX6_init_41 : decode cX6_init 41 = .ok (.sipush 256, 3) := by decide +kernel
theorem dX6_init_44 : decode cX6_init 44 = .ok (.newarray .int, 2) := by decide +kernel
theorem dX6_init_46 : decode cX6_init 46 = .ok (.putfield 24, 3) := by decide +kernel
theorem dX6_init_49 : decode cX6_init 49 = .ok (.aload_n 0, 1) := by decide +kernel
theorem dX6_init_50 : decode cX6_init 50 = .ok (.sipush 256, 3) := by decide +kernel
theorem dX6_init_53 : decode cX6_init 53 = .ok (.newarray .int, 2) := by decide +kernel
theorem dX6_init_55 : decode cX6_init 55 = .ok (.putfield 27, 3) := by decide +kernel
theorem dX6_init_58 : decode cX6_init 58 = .ok (.aload_n 0, 1) := by decide +kernel
theorem dX6_init_59 : decode cX6_init 59 = .ok (.sipush 256, 3) := by decide +kernel
theorem dX6_init_62 : decode cX6_init 62 = .ok (.newarray .int, 2) := by decide +kernel
theorem dX6_init_64 : decode cX6_init 64 = .ok (.putfield 30, 3) := by decide +kernel
theorem dX6_init_67 : decode cX6_init 67 = .ok (.aload_n 0, 1) := by decide +kernel
theorem dX6_init_68 : decode cX6_init 68 = .ok (.sipush 256, 3) := by decide +kernel
theorem dX6_init_71 : decode cX6_init 71 = .ok (.newarray .int, 2) := by decide +kernel
theorem dX6_init_73 : decode cX6_init 73 = .ok (.putfield 33, 3) := by decide +kernel
theorem dX6_init_76 : decode cX6_init 76 = .ok (.aload_n 0, 1) := by decide +kernel
theorem dX6_init_77 : decode cX6_init 77 = .ok (.sipush 256, 3) := by decide +kernel
theorem dX6_init_80 : decode cX6_init 80 = .ok (.newarray .int, 2) := by decide +kernel
theorem dX6_init_82 : decode cX6_init 82 = .ok (.putfield 36, 3) := by decide +kernel
theorem dX6_init_85 : decode cX6_init 85 = .ok (.aload_n 0, 1) := by decide +kernel
theorem dX6_init_86 : decode cX6_init 86 = .ok (.sipush 256, 3) := by decide +kernel
theorem dX6_init_89 : decode cX6_init 89 = .ok (.newarray .int, 2) := by decide +kernel
theorem dX6_init_91 : decode cX6_init 91 = .ok (.putfield 39, 3) := by decide +kernel
theorem dX6_init_94 : decode cX6_init 94 = .ok (.return_, 1) := by decide +kernel
theorem dX6_clear_0 : decode cX6_clear 0 = .ok (.aload_n 0, 1) := by decide +kernel
theorem dX6_clear_1 : decode cX6_clear 1 = .ok (.iconst 0, 1) := by decide +kernel
theorem dX6_clear_2 : decode cX6_clear 2 = .ok (.putfield 42, 3) := by decide +kernel
theorem dX6_clear_5 : decode cX6_clear 5 = .ok (.return_, 1) := by decide +kernel
theorem dX6_make_0 : decode cX6_make 0 = .ok (.aload_n 0, 1) := by decide +kernel
theorem dX6_make_1 : decode cX6_make 1 = .ok (.getfield 42, 3) := by decide +kernel
theorem dX6_make_4 : decode cX6_make 4 = .ok (.aload_n 0, 1) := by decide +kernel
theorem dX6_make_5 : decode cX6_make 5 = .ok (.getfield 9, 3) := by decide +kernel
theorem dX6_make_8 : decode cX6_make 8 = .ok (.arraylength, 1) := by decide +kernel
theorem dX6_make_9 : decode cX6_make 9 = .ok (.if_icmp .ne 7, 3) := by decide +kernel
theorem dX6_make_12 : decode cX6_make 12 = .ok (.aload_n 0, 1) := by decide +kernel
theorem dX6_make_13 : decode cX6_make 13 = .ok (.invokevirtual 56, 3) := by decide +kernel
theorem dX6_make_16 : decode cX6_make 16 = .ok (.aload_n 0, 1) := by decide +kernel
theorem dX6_make_17 : decode cX6_make 17 = .ok (.getfield 9, 3) := by decide +kernel
theorem dX6_make_20 : decode cX6_make 20 = .ok (.aload_n 0, 1) := by decide +kernel
theorem dX6_make_21 : decode cX6_make 21 = .ok (.getfield 42, 3) := by decide +kernel
theorem dX6_make_24 : decode cX6_make 24 = .ok (.iload_n 1, 1) := by decide +kernel
theorem dX6_make_25 : decode cX6_make 25 = .ok (.iastore, 1) := by decide +kernel
theorem dX6_make_26 : decode cX6_make 26 = .ok (.aload_n 0, 1) := by decide +kernel
theorem dX6_make_27 : decode cX6_make 27 = .ok (.getfield 15, 3) := by decide +kernel
theorem dX6_make_30 : decode cX6_make 30 = .ok (.aload_n 0, 1) := by decide +kernel
theorem dX6_make_31 : decode cX6_make 31 = .ok (.getfield 42, 3) := by decide +kernel
theorem dX6_make_34 : decode cX6_make 34 = .ok (.iload_n 2, 1) := by decide +kernel
theorem dX6_make_35 : decode cX6_make 35 = .ok (.iastore, 1) := by decide +kernel
theorem dX6_make_36 : decode cX6_make 36 = .ok (.aload_n 0, 1) := by decide +kernel
theorem dX6_make_37 : decode cX6_make 37 = .ok (.getfield 18, 3) := by decide +kernel
theorem dX6_make_40 : decode cX6_make 40 = .ok (.aload_n 0, 1) := by decide +kernel
theorem dX6_make_41 : decode cX6_make 41 = .ok (.getfield 42, 3) := by decide +kernel
theorem dX6_make_44 : decode cX6_make 44 = .ok (.iload_n 3, 1) := by decide +kernel
theorem dX6_make_45 : decode cX6_make 45 = .ok (.iastore, 1) := by decide +kernel
theorem dX6_make_46 : decode cX6_make 46 = .ok (.aload_n 0, 1) := by decide +kernel
theorem dX6_make_47 : decode cX6_make 47 = .ok (.getfield 21, 3) := by decide +kernel
theorem dX6_make_50 : decode cX6_make 50 = .ok (.aload_n 0, 1) := by decide +kernel
theorem dX6_make_51 : decode cX6_make 51 = .ok (.getfield 42, 3) := by decide +kernel
theorem dX6_make_54 : decode cX6_make 54 = .ok (.iconst (-1), 1) := by decide +kernel
theorem dX6_make_55 : decode cX6_make 55 = .ok (.iastore, 1) := by decide +kernel
theorem dX6_make_56 : decode cX6_make 56 = .ok (.aload_n 0, 1) := by decide +kernel
theorem dX6_make_57 : decode cX6_make 57 = .ok (.getfield 24, 3) := by decide +kernel
theorem dX6_make_60 : decode cX6_make 60 = .ok (.aload_n 0, 1) := by decide +kernel
theorem dX6_make_61 : decode cX6_make 61 = .ok (.getfield 42, 3) := by decide +kernel
theorem dX6_make_64 : decode cX6_make 64 = .ok (.iload 4, 2) := by decide +kernel
theorem dX6_make_66 : decode cX6_make 66 = .ok (.iastore, 1) := by decide +kernel
theorem dX6_make_67 : decode cX6_make 67 = .ok (.aload_n 0, 1) := by decide +kernel
theorem dX6_make_68 : decode cX6_make 68 = .ok (.getfield 27, 3) := by decide +kernel
theorem dX6_make_71 : decode cX6_make 71 = .ok (.aload_n 0, 1) := by decide +kernel
theorem dX6_make_72 : decode cX6_make 72 = .ok (.getfield 42, 3) := by decide +kernel
theorem dX6_make_75 : decode cX6_make 75 = .ok (.iconst 0, 1) := by decide +kernel
theorem dX6_make_76 : decode cX6_make 76 = .ok (.iastore, 1) := by decide +kernel
theorem dX6_make_77 : decode cX6_make 77 = .ok (.aload_n 0, 1) := by decide +kernel
theorem dX6_make_78 : decode cX6_make 78 = .ok (.getfield 30, 3) := by decide +kernel
theorem dX6_make_81 : decode cX6_make 81 = .ok (.aload_n 0, 1) := by decide +kernel
theorem dX6_make_82 : decode cX6_make 82 = .ok (.getfield 42, 3) := by decide +kernel
theorem dX6_make_85 : decode cX6_make 85 = .ok (.iconst 1, 1) := by decide +kernel
theorem dX6_make_86 : decode cX6_make 86 = .ok (.iastore, 1) := by decide +kernel
theorem dX6_make_87 : decode cX6_make 87 = .ok (.aload_n 0, 1) := by decide +kernel
theorem dX6_make_88 : decode cX6_make 88 = .ok (.getfield 33, 3) := by decide +kernel
theorem dX6_make_91 : decode cX6_make 91 = .ok (.aload_n 0, 1) := by decide +kernel
theorem dX6_make_92 : decode cX6_make 92 = .ok (.getfield 42, 3) := by decide +kernel
theorem dX6_make_95 : decode cX6_make 95 = .ok (.iconst (-1), 1) := by decide +kernel
theorem dX6_make_96 : decode cX6_make 96 = .ok (.iastore, 1) := by decide +kernel
theorem dX6_make_97 : decode cX6_make 97 = .ok (.aload_n 0, 1) := by decide +kernel
theorem dX6_make_98 : decode cX6_make 98 = .ok (.getfield 36, 3) := by decide +kernel
theorem dX6_make_101 : decode cX6_make 101 = .ok (.aload_n 0, 1) := by decide +kernel
theorem dX6_make_102 : decode cX6_make 102 = .ok (.getfield 42, 3) := by decide +kernel
theorem dX6_make_105 : decode cX6_make 105 = .ok (.iconst (-1), 1) := by decide +kernel
theorem dX6_make_106 : decode cX6_make 106 = .ok (.iastore, 1) := by decide +kernel
theorem dX6_make_107 : decode cX6_make 107 = .ok (.aload_n 0, 1) := by decide +kernel
theorem dX6_make_108 : decode cX6_make 108 = .ok (.getfield 39, 3) := by decide +kernel
theorem dX6_make_111 : decode cX6_make 111 = .ok (.aload_n 0, 1) := by decide +kernel
theorem dX6_make_112 : decode cX6_make 112 = .ok (.getfield 42, 3) := by decide +kernel
theorem dX6_make_115 : decode cX6_make 115 = .ok (.iconst (-1), 1) := by decide +kernel
theorem dX6_make_116 : decode cX6_make 116 = .ok (.iastore, 1) := by decide +kernel
theorem dX6_make_117 : decode cX6_make 117 = .ok (.aload_n 0, 1) := by decide +kernel
theorem dX6_make_118 : decode cX6_make 118 = .ok (.dup, 1) := by decide +kernel
theorem dX6_make_119 : decode cX6_make 119 = .ok (.getfield 42, 3) := by decide +kernel
theorem dX6_make_122 : decode cX6_make 122 = .ok (.dup_x1, 1) := by decide +kernel
theorem dX6_make_123 : decode cX6_make 123 = .ok (.iconst 1, 1) := by decide +kernel
theorem dX6_make_124 : decode cX6_make 124 = .ok (.iadd, 1) := by decide +kernel
theorem dX6_make_125 : decode cX6_make 125 = .ok (.putfield 42, 3) := by decide +kernel
theorem dX6_make_128 : decode cX6_make 128 = .ok (.ireturn, 1) := by decide +kernel
theorem dX6_grow_0 : decode cX6_grow 0 = .ok (.aload_n 0, 1) := by decide +kernel
theorem dX6_grow_1 : decode cX6_grow 1 = .ok (.aload_n 0, 1) := by decide +kernel
theorem dX6_grow_2 : decode cX6_grow 2 = .ok (.getfield 9, 3) := by decide +kernel
theorem dX6_grow_5 : decode cX6_grow 5 = .ok (.invokestatic 52, 3) := by decide +kernel
theorem dX6_grow_8 : decode cX6_grow 8 = .ok (.putfield 9, 3) := by decide +kernel
theorem dX6_grow_11 : decode cX6_grow 11 = .ok (.aload_n 0, 1) := by decide +kernel
theorem dX6_grow_12 : decode cX6_grow 12 = .ok (.aload_n 0, 1) := by decide +kernel
theorem dX6_grow_13 : decode cX6_grow 13 = .ok (.getfield 15, 3) := by decide +kernel
theorem dX6_grow_16 : decode cX6_grow 16 = .ok (.invokestatic 52, 3) := by decide +kernel
theorem dX6_grow_19 : decode cX6_grow 19 = .ok (.putfield 15, 3) := by decide +kernel
theorem dX6_grow_22 : decode cX6_grow 22 = .ok (.aload_n 0, 1) := by decide +kernel
theorem dX6_grow_23 : decode cX6_grow 23 = .ok (.aload_n 0, 1) := by decide +kernel
theorem dX6_grow_24 : decode cX6_grow 24 = .ok (.getfield 18, 3) := by decide +kernel
theorem dX6_grow_27 : decode cX6_grow 27 = .ok (.invokestatic 52, 3) := by decide +kernel
theorem dX6_grow_30 : decode cX6_grow 30 = .ok (.putfield 18, 3) := by decide +kernel
theorem dX6_grow_33 : decode cX6_grow 33 = .ok (.aload_n 0, 1) := by decide +kernel
theorem dX6_grow_34 : decode cX6_grow 34 = .ok (.aload_n 0, 1) := by decide +kernel
theorem dX6_grow_35 : decode cX6_grow 35 = .ok (.getfield 21, 3) := by decide +kernel
theorem dX6_grow_38 : decode cX6_grow 38 = .ok (.invokestatic 52, 3) := by decide +kernel
theorem dX6_grow_41 : decode cX6_grow 41 = .ok (.putfield 21, 3) := by decide +kernel
theorem dX6_grow_44 : decode cX6_grow 44 = .ok (.aload_n 0, 1) := by decide +kernel
theorem dX6_grow_45 : decode cX6_grow 45 = .ok (.aload_n 0, 1) := by decide +kernel
theorem dX6_grow_46 : decode cX6_grow 46 = .ok (.getfield 24, 3) := by decide +kernel
theorem dX6_grow_49 : decode cX6_grow 49 = .ok (.invokestatic 52, 3) := by decide +kernel
theorem dX6_grow_52 : decode cX6_grow 52 = .ok (.putfield 24, 3) := by decide +kernel
theorem dX6_grow_55 : decode cX6_grow 55 = .ok (.aload_n 0, 1) := by decide +kernel
theorem dX6_grow_56 : decode cX6_grow 56 = .ok (.aload_n 0, 1) := by decide +kernel
theorem dX6_grow_57 : decode cX6_grow 57 = .ok (.getfield 27, 3) := by decide +kernel
theorem dX6_grow_60 : decode cX6_grow 60 = .ok (.invokestatic 52, 3) := by decide +kernel
theorem dX6_grow_63 : decode cX6_grow 63 = .ok (.putfield 27, 3) := by decide +kernel
theorem dX6_grow_66 : decode cX6_grow 66 = .ok (.aload_n 0, 1) := by decide +kernel
theorem dX6_grow_67 : decode cX6_grow 67 = .ok (.aload_n 0, 1) := by decide +kernel
theorem dX6_grow_68 : decode cX6_grow 68 = .ok (.getfield 30, 3) := by decide +kernel
theorem dX6_grow_71 : decode cX6_grow 71 = .ok (.invokestatic 52, 3) := by decide +kernel
theorem dX6_grow_74 : decode cX6_grow 74 = .ok (.putfield 30, 3) := by decide +kernel
theorem dX6_grow_77 : decode cX6_grow 77 = .ok (.aload_n 0, 1) := by decide +kernel
theorem dX6_grow_78 : decode cX6_grow 78 = .ok (.aload_n 0, 1) := by decide +kernel
theorem dX6_grow_79 : decode cX6_grow 79 = .ok (.getfield 33, 3) := by decide +kernel
theorem dX6_grow_82 : decode cX6_grow 82 = .ok (.invokestatic 52, 3) := by decide +kernel
theorem dX6_grow_85 : decode cX6_grow 85 = .ok (.putfield 33, 3) := by decide +kernel
theorem dX6_grow_88 : decode cX6_grow 88 = .ok (.aload_n 0, 1) := by decide +kernel
theorem dX6_grow_89 : decode cX6_grow 89 = .ok (.aload_n 0, 1) := by decide +kernel
theorem dX6_grow_90 : decode cX6_grow 90 = .ok (.getfield 36, 3) := by decide +kernel
theorem dX6_grow_93 : decode cX6_grow 93 = .ok (.invokestatic 52, 3) := by decide +kernel
theorem dX6_grow_96 : decode cX6_grow 96 = .ok (.putfield 36, 3) := by decide +kernel
theorem dX6_grow_99 : decode cX6_grow 99 = .ok (.aload_n 0, 1) := by decide +kernel
theorem dX6_grow_100 : decode cX6_grow 100 = .ok (.aload_n 0, 1) := by decide +kernel
theorem dX6_grow_101 : decode cX6_grow 101 = .ok (.getfield 39, 3) := by decide +kernel
theorem dX6_grow_104 : decode cX6_grow 104 = .ok (.invokestatic 52, 3) := by decide +kernel
theorem dX6_grow_107 : decode cX6_grow 107 = .ok (.putfield 39, 3) := by decide +kernel
theorem dX6_grow_110 : decode cX6_grow 110 = .ok (.return_, 1) := by decide +kernel
theorem dX6_longer_0 : decode cX6_longer 0 = .ok (.iconst 2, 1) := by decide +kernel
theorem dX6_longer_1 : decode cX6_longer 1 = .ok (.aload_n 0, 1) := by decide +kernel
theorem dX6_longer_2 : decode cX6_longer 2 = .ok (.arraylength, 1) := by decide +kernel
theorem dX6_longer_3 : decode cX6_longer 3 = .ok (.imul, 1) := by decide +kernel
theorem dX6_longer_4 : decode cX6_longer 4 = .ok (.newarray .int, 2) := by decide +kernel
theorem dX6_longer_6 : decode cX6_longer 6 = .ok (.astore_n 1, 1) := by decide +kernel
theorem dX6_longer_7 : decode cX6_longer 7 = .ok (.aload_n 0, 1) := by decide +kernel
theorem dX6_longer_8 : decode cX6_longer 8 = .ok (.iconst 0, 1) := by decide +kernel
theorem dX6_longer_9 : decode cX6_longer 9 = .ok (.aload_n 1, 1) := by decide +kernel
theorem dX6_longer_10 : decode cX6_longer 10 = .ok (.iconst 0, 1) := by decide +kernel
theorem dX6_longer_11 : decode cX6_longer 11 = .ok (.aload_n 0, 1) := by decide +kernel
theorem dX6_longer_12 : decode cX6_longer 12 = .ok (.arraylength, 1) := by decide +kernel
theorem dX6_longer_13 : decode cX6_longer 13 = .ok (.invokestatic 46, 3) := by decide +kernel
theorem dX6_longer_16 : decode cX6_longer 16 = .ok (.aload_n 1, 1) := by decide +kernel
theorem dX6_longer_17 : decode cX6_longer 17 = .ok (.areturn, 1) := by decide +kernel
theorem dX6_kind_0 : decode cX6_kind 0 = .ok (.aload_n 0, 1) := by decide +kernel
theorem dX6_kind_1 : decode cX6_kind 1 = .ok (.getfield 9, 3) := by decide +kernel
theorem dX6_kind_4 : decode cX6_kind 4 = .ok (.iload_n 1, 1) := by decide +kernel
theorem dX6_kind_5 : decode cX6_kind 5 = .ok (.iaload, 1) := by decide +kernel
theorem dX6_kind_6 : decode cX6_kind 6 = .ok (.ireturn, 1) := by decide +kernel
theorem dX6_over_0 : decode cX6_over 0 = .ok (.aload_n 0, 1) := by decide +kernel
theorem dX6_over_1 : decode cX6_over 1 = .ok (.iload_n 1, 1) := by decide +kernel
theorem dX6_over_2 : decode cX6_over 2 = .ok (.iload_n 2, 1) := by decide +kernel
theorem dX6_over_3 : decode cX6_over 3 = .ok (.iconst 0, 1) := by decide +kernel
theorem dX6_over_4 : decode cX6_over 4 = .ok (.aload_n 0, 1) := by decide +kernel
theorem dX6_over_5 : decode cX6_over 5 = .ok (.getfield 24, 3) := by decide +kernel
theorem dX6_over_8 : decode cX6_over 8 = .ok (.iload_n 3, 1) := by decide +kernel
theorem dX6_over_9 : decode cX6_over 9 = .ok (.iaload, 1) := by decide +kernel
theorem dX6_over_10 : decode cX6_over 10 = .ok (.invokevirtual 59, 3) := by decide +kernel
theorem dX6_over_13 : decode cX6_over 13 = .ok (.istore 4, 2) := by decide +kernel
theorem dX6_over_15 : decode cX6_over 15 = .ok (.aload_n 0, 1) := by decide +kernel
theorem dX6_over_16 : decode cX6_over 16 = .ok (.iload 4, 2) := by decide +kernel
theorem dX6_over_18 : decode cX6_over 18 = .ok (.iload_n 3, 1) := by decide +kernel
theorem dX6_over_19 : decode cX6_over 19 = .ok (.invokevirtual 63, 3) := by decide +kernel
theorem dX6_over_22 : decode cX6_over 22 = .ok (.iload 4, 2) := by decide +kernel
theorem dX6_over_24 : decode cX6_over 24 = .ok (.ireturn, 1) := by decide +kernel
theorem dX6_hang_0 : decode cX6_hang 0 = .ok (.aload_n 0, 1) := by decide +kernel
theorem dX6_hang_1 : decode cX6_hang 1 = .ok (.getfield 33, 3) := by decide +kernel
theorem dX6_hang_4 : decode cX6_hang 4 = .ok (.iload_n 1, 1) := by decide +kernel
theorem dX6_hang_5 : decode cX6_hang 5 = .ok (.iaload, 1) := by decide +kernel
theorem dX6_hang_6 : decode cX6_hang 6 = .ok (.iconst (-1), 1) := by decide +kernel
theorem dX6_hang_7 : decode cX6_hang 7 = .ok (.if_icmp .ne 13, 3) := by decide +kernel
theorem dX6_hang_10 : decode cX6_hang 10 = .ok (.aload_n 0, 1) := by decide +kernel
theorem dX6_hang_11 : decode cX6_hang 11 = .ok (.getfield 33, 3) := by decide +kernel
theorem dX6_hang_14 : decode cX6_hang 14 = .ok (.iload_n 1, 1) := by decide +kernel
theorem dX6_hang_15 : decode cX6_hang 15 = .ok (.iload_n 2, 1) := by decide +kernel
theorem dX6_hang_16 : decode cX6_hang 16 = .ok (.iastore, 1) := by decide +kernel
theorem dX6_hang_17 : decode cX6_hang 17 = .ok (.goto 15, 3) := by decide +kernel
theorem dX6_hang_20 : decode cX6_hang 20 = .ok (.aload_n 0, 1) := by decide +kernel
theorem dX6_hang_21 : decode cX6_hang 21 = .ok (.getfield 39, 3) := by decide +kernel
theorem dX6_hang_24 : decode cX6_hang 24 = .ok (.aload_n 0, 1) := by decide +kernel
theorem dX6_hang_25 : decode cX6_hang 25 = .ok (.getfield 36, 3) := by decide +kernel
theorem dX6_hang_28 : decode cX6_hang 28 = .ok (.iload_n 1, 1) := by decide +kernel
theorem dX6_hang_29 : decode cX6_hang 29 = .ok (.iaload, 1) := by decide +kernel
theorem dX6_hang_30 : decode cX6_hang 30 = .ok (.iload_n 2, 1) := by decide +kernel
theorem dX6_hang_31 : decode cX6_hang 31 = .ok (.iastore, 1) := by decide +kernel
theorem dX6_hang_32 : decode cX6_hang 32 = .ok (.aload_n 0, 1) := by decide +kernel
theorem dX6_hang_33 : decode cX6_hang 33 = .ok (.getfield 36, 3) := by decide +kernel
theorem dX6_hang_36 : decode cX6_hang 36 = .ok (.iload_n 1, 1) := by decide +kernel
theorem dX6_hang_37 : decode cX6_hang 37 = .ok (.iload_n 2, 1) := by decide +kernel
theorem dX6_hang_38 : decode cX6_hang 38 = .ok (.iastore, 1) := by decide +kernel
theorem dX6_hang_39 : decode cX6_hang 39 = .ok (.aload_n 0, 1) := by decide +kernel
theorem dX6_hang_40 : decode cX6_hang 40 = .ok (.getfield 9, 3) := by decide +kernel
theorem dX6_hang_43 : decode cX6_hang 43 = .ok (.iload_n 1, 1) := by decide +kernel
theorem dX6_hang_44 : decode cX6_hang 44 = .ok (.iaload, 1) := by decide +kernel
theorem dX6_hang_45 : decode cX6_hang 45 = .ok (.bipush 33, 2) := by decide +kernel
theorem dX6_hang_47 : decode cX6_hang 47 = .ok (.if_icmp .eq 25, 3) := by decide +kernel
theorem dX6_hang_50 : decode cX6_hang 50 = .ok (.aload_n 0, 1) := by decide +kernel
theorem dX6_hang_51 : decode cX6_hang 51 = .ok (.getfield 9, 3) := by decide +kernel
theorem dX6_hang_54 : decode cX6_hang 54 = .ok (.iload_n 1, 1) := by decide +kernel
theorem dX6_hang_55 : decode cX6_hang 55 = .ok (.iaload, 1) := by decide +kernel
theorem dX6_hang_56 : decode cX6_hang 56 = .ok (.bipush 34, 2) := by decide +kernel
theorem dX6_hang_58 : decode cX6_hang 58 = .ok (.if_icmp .ne 18, 3) := by decide +kernel
theorem dX6_hang_61 : decode cX6_hang 61 = .ok (.aload_n 0, 1) := by decide +kernel
theorem dX6_hang_62 : decode cX6_hang 62 = .ok (.getfield 15, 3) := by decide +kernel
theorem dX6_hang_65 : decode cX6_hang 65 = .ok (.iload_n 1, 1) := by decide +kernel
theorem dX6_hang_66 : decode cX6_hang 66 = .ok (.iaload, 1) := by decide +kernel
theorem dX6_hang_67 : decode cX6_hang 67 = .ok (.bipush 43, 2) := by decide +kernel
theorem dX6_hang_69 : decode cX6_hang 69 = .ok (.if_icmp .ne 7, 3) := by decide +kernel
theorem dX6_hang_72 : decode cX6_hang 72 = .ok (.iconst 1, 1) := by decide +kernel
theorem dX6_hang_73 : decode cX6_hang 73 = .ok (.goto 4, 3) := by decide +kernel
theorem dX6_hang_76 : decode cX6_hang 76 = .ok (.iconst 0, 1) := by decide +kernel
theorem dX6_hang_77 : decode cX6_hang 77 = .ok (.istore_n 3, 1) := by decide +kernel
theorem dX6_hang_78 : decode cX6_hang 78 = .ok (.aload_n 0, 1) := by decide +kernel
theorem dX6_hang_79 : decode cX6_hang 79 = .ok (.getfield 30, 3) := by decide +kernel
theorem dX6_hang_82 : decode cX6_hang 82 = .ok (.iload_n 1, 1) := by decide +kernel
theorem dX6_hang_83 : decode cX6_hang 83 = .ok (.aload_n 0, 1) := by decide +kernel
theorem dX6_hang_84 : decode cX6_hang 84 = .ok (.getfield 30, 3) := by decide +kernel
theorem dX6_hang_87 : decode cX6_hang 87 = .ok (.iload_n 1, 1) := by decide +kernel
theorem dX6_hang_88 : decode cX6_hang 88 = .ok (.iaload, 1) := by decide +kernel
theorem dX6_hang_89 : decode cX6_hang 89 = .ok (.aload_n 0, 1) := by decide +kernel
theorem dX6_hang_90 : decode cX6_hang 90 = .ok (.getfield 30, 3) := by decide +kernel
theorem dX6_hang_93 : decode cX6_hang 93 = .ok (.iload_n 2, 1) := by decide +kernel
theorem dX6_hang_94 : decode cX6_hang 94 = .ok (.iaload, 1) := by decide +kernel
theorem dX6_hang_95 : decode cX6_hang 95 = .ok (.iload_n 3, 1) := by decide +kernel
theorem dX6_hang_96 : decode cX6_hang 96 = .ok (.ifCond .eq 7, 3) := by decide +kernel
theorem dX6_hang_99 : decode cX6_hang 99 = .ok (.iconst 0, 1) := by decide +kernel
theorem dX6_hang_100 : decode cX6_hang 100 = .ok (.goto 4, 3) := by decide +kernel
theorem dX6_hang_103 : decode cX6_hang 103 = .ok (.iconst 1, 1) := by decide +kernel
theorem dX6_hang_104 : decode cX6_hang 104 = .ok (.iadd, 1) := by decide +kernel
theorem dX6_hang_105 : decode cX6_hang 105 = .ok (.invokestatic 67, 3) := by decide +kernel
theorem dX6_hang_108 : decode cX6_hang 108 = .ok (.iastore, 1) := by decide +kernel
theorem dX6_hang_109 : decode cX6_hang 109 = .ok (.return_, 1) := by decide +kernel
theorem dX6_setPlace_0 : decode cX6_setPlace 0 = .ok (.aload_n 0, 1) := by decide +kernel
theorem dX6_setPlace_1 : decode cX6_setPlace 1 = .ok (.getfield 24, 3) := by decide +kernel
theorem dX6_setPlace_4 : decode cX6_setPlace 4 = .ok (.iload_n 1, 1) := by decide +kernel
theorem dX6_setPlace_5 : decode cX6_setPlace 5 = .ok (.iload_n 2, 1) := by decide +kernel
theorem dX6_setPlace_6 : decode cX6_setPlace 6 = .ok (.iastore, 1) := by decide +kernel
theorem dX6_setPlace_7 : decode cX6_setPlace 7 = .ok (.return_, 1) := by decide +kernel
theorem dX6_depth_0 : decode cX6_depth 0 = .ok (.aload_n 0, 1) := by decide +kernel
theorem dX6_depth_1 : decode cX6_depth 1 = .ok (.getfield 30, 3) := by decide +kernel
theorem dX6_depth_4 : decode cX6_depth 4 = .ok (.iload_n 1, 1) := by decide +kernel
theorem dX6_depth_5 : decode cX6_depth 5 = .ok (.iaload, 1) := by decide +kernel
theorem dX6_depth_6 : decode cX6_depth 6 = .ok (.ireturn, 1) := by decide +kernel
theorem dX6_chain_0 : decode cX6_chain 0 = .ok (.aload_n 0, 1) := by decide +kernel
theorem dX6_chain_1 : decode cX6_chain 1 = .ok (.getfield 9, 3) := by decide +kernel
theorem dX6_chain_4 : decode cX6_chain 4 = .ok (.iload_n 2, 1) := by decide +kernel
theorem dX6_chain_5 : decode cX6_chain 5 = .ok (.iaload, 1) := by decide +kernel
theorem dX6_chain_6 : decode cX6_chain 6 = .ok (.bipush 32, 2) := by decide +kernel
theorem dX6_chain_8 : decode cX6_chain 8 = .ok (.if_icmp .ne 17, 3) := by decide +kernel
theorem dX6_chain_11 : decode cX6_chain 11 = .ok (.aload_n 0, 1) := by decide +kernel
theorem dX6_chain_12 : decode cX6_chain 12 = .ok (.getfield 18, 3) := by decide +kernel
theorem dX6_chain_15 : decode cX6_chain 15 = .ok (.iload_n 2, 1) := by decide +kernel
theorem dX6_chain_16 : decode cX6_chain 16 = .ok (.iaload, 1) := by decide +kernel
theorem dX6_chain_17 : decode cX6_chain 17 = .ok (.iload_n 1, 1) := by decide +kernel
theorem dX6_chain_18 : decode cX6_chain 18 = .ok (.if_icmp .ne 7, 3) := by decide +kernel
theorem dX6_chain_21 : decode cX6_chain 21 = .ok (.iconst 1, 1) := by decide +kernel
theorem dX6_chain_22 : decode cX6_chain 22 = .ok (.goto 4, 3) := by decide +kernel
theorem dX6_chain_25 : decode cX6_chain 25 = .ok (.iconst 0, 1) := by decide +kernel
theorem dX6_chain_26 : decode cX6_chain 26 = .ok (.istore 5, 2) := by decide +kernel
theorem dX6_chain_28 : decode cX6_chain 28 = .ok (.iload_n 2, 1) := by decide +kernel
theorem dX6_chain_29 : decode cX6_chain 29 = .ok (.istore 6, 2) := by decide +kernel
theorem dX6_chain_31 : decode cX6_chain 31 = .ok (.iload 5, 2) := by decide +kernel
theorem dX6_chain_33 : decode cX6_chain 33 = .ok (.ifCond .ne 21, 3) := by decide +kernel
theorem dX6_chain_36 : decode cX6_chain 36 = .ok (.aload_n 0, 1) := by decide +kernel
theorem dX6_chain_37 : decode cX6_chain 37 = .ok (.bipush 32, 2) := by decide +kernel
theorem dX6_chain_39 : decode cX6_chain 39 = .ok (.iconst 0, 1) := by decide +kernel
theorem dX6_chain_40 : decode cX6_chain 40 = .ok (.iload_n 2, 1) := by decide +kernel
theorem dX6_chain_41 : decode cX6_chain 41 = .ok (.invokevirtual 73, 3) := by decide +kernel
theorem dX6_chain_44 : decode cX6_chain 44 = .ok (.istore 6, 2) := by decide +kernel
theorem dX6_chain_46 : decode cX6_chain 46 = .ok (.aload_n 0, 1) := by decide +kernel
theorem dX6_chain_47 : decode cX6_chain 47 = .ok (.getfield 18, 3) := by decide +kernel
theorem dX6_chain_50 : decode cX6_chain 50 = .ok (.iload 6, 2) := by decide +kernel
theorem dX6_chain_52 : decode cX6_chain 52 = .ok (.iload_n 1, 1) := by decide +kernel
theorem dX6_chain_53 : decode cX6_chain 53 = .ok (.iastore, 1) := by decide +kernel
theorem dX6_chain_54 : decode cX6_chain 54 = .ok (.aload_n 0, 1) := by decide +kernel
theorem dX6_chain_55 : decode cX6_chain 55 = .ok (.bipush 33, 2) := by decide +kernel
theorem dX6_chain_57 : decode cX6_chain 57 = .ok (.iload_n 3, 1) := by decide +kernel
theorem dX6_chain_58 : decode cX6_chain 58 = .ok (.iload 4, 2) := by decide +kernel
theorem dX6_chain_60 : decode cX6_chain 60 = .ok (.invokevirtual 73, 3) := by decide +kernel
theorem dX6_chain_63 : decode cX6_chain 63 = .ok (.istore 7, 2) := by decide +kernel
theorem dX6_chain_65 : decode cX6_chain 65 = .ok (.aload_n 0, 1) := by decide +kernel
theorem dX6_chain_66 : decode cX6_chain 66 = .ok (.iload 6, 2) := by decide +kernel
theorem dX6_chain_68 : decode cX6_chain 68 = .ok (.iload 7, 2) := by decide +kernel
theorem dX6_chain_70 : decode cX6_chain 70 = .ok (.invokevirtual 63, 3) := by decide +kernel
theorem dX6_chain_73 : decode cX6_chain 73 = .ok (.iload 6, 2) := by decide +kernel
theorem dX6_chain_75 : decode cX6_chain 75 = .ok (.ireturn, 1) := by decide +kernel
theorem dX6_setExtra_0 : decode cX6_setExtra 0 = .ok (.aload_n 0, 1) := by decide +kernel
theorem dX6_setExtra_1 : decode cX6_setExtra 1 = .ok (.getfield 21, 3) := by decide +kernel
theorem dX6_setExtra_4 : decode cX6_setExtra 4 = .ok (.iload_n 1, 1) := by decide +kernel
theorem dX6_setExtra_5 : decode cX6_setExtra 5 = .ok (.iload_n 2, 1) := by decide +kernel
theorem dX6_setExtra_6 : decode cX6_setExtra 6 = .ok (.iastore, 1) := by decide +kernel
theorem dX6_setExtra_7 : decode cX6_setExtra 7 = .ok (.return_, 1) := by decide +kernel
theorem dX6_setOp_0 : decode cX6_setOp 0 = .ok (.aload_n 0, 1) := by decide +kernel
theorem dX6_setOp_1 : decode cX6_setOp 1 = .ok (.getfield 15, 3) := by decide +kernel
theorem dX6_setOp_4 : decode cX6_setOp 4 = .ok (.iload_n 1, 1) := by decide +kernel
theorem dX6_setOp_5 : decode cX6_setOp 5 = .ok (.iload_n 2, 1) := by decide +kernel
theorem dX6_setOp_6 : decode cX6_setOp 6 = .ok (.iastore, 1) := by decide +kernel
theorem dX6_setOp_7 : decode cX6_setOp 7 = .ok (.return_, 1) := by decide +kernel
theorem dX6_first_0 : decode cX6_first 0 = .ok (.aload_n 0, 1) := by decide +kernel
theorem dX6_first_1 : decode cX6_first 1 = .ok (.getfield 33, 3) := by decide +kernel
theorem dX6_first_4 : decode cX6_first 4 = .ok (.iload_n 1, 1) := by decide +kernel
theorem dX6_first_5 : decode cX6_first 5 = .ok (.iaload, 1) := by decide +kernel
theorem dX6_first_6 : decode cX6_first 6 = .ok (.ireturn, 1) := by decide +kernel
theorem dX6_value_0 : decode cX6_value 0 = .ok (.aload_n 0, 1) := by decide +kernel
theorem dX6_value_1 : decode cX6_value 1 = .ok (.getfield 18, 3) := by decide +kernel
theorem dX6_value_4 : decode cX6_value 4 = .ok (.iload_n 1, 1) := by decide +kernel
theorem dX6_value_5 : decode cX6_value 5 = .ok (.iaload, 1) := by decide +kernel
theorem dX6_value_6 : decode cX6_value 6 = .ok (.ireturn, 1) := by decide +kernel
theorem dX6_place_0 : decode cX6_place 0 = .ok (.aload_n 0, 1) := by decide +kernel
theorem dX6_place_1 : decode cX6_place 1 = .ok (.getfield 24, 3) := by decide +kernel
theorem dX6_place_4 : decode cX6_place 4 = .ok (.iload_n 1, 1) := by decide +kernel
theorem dX6_place_5 : decode cX6_place 5 = .ok (.iaload, 1) := by decide +kernel
theorem dX6_place_6 : decode cX6_place 6 = .ok (.ireturn, 1) := by decide +kernel
theorem dX6_next_0 : decode cX6_next 0 = .ok (.aload_n 0, 1) := by decide +kernel
theorem dX6_next_1 : decode cX6_next 1 = .ok (.getfield 39, 3) := by decide +kernel
theorem dX6_next_4 : decode cX6_next 4 = .ok (.iload_n 1, 1) := by decide +kernel
theorem dX6_next_5 : decode cX6_next 5 = .ok (.iaload, 1) := by decide +kernel
theorem dX6_next_6 : decode cX6_next 6 = .ok (.ireturn, 1) := by decide +kernel
theorem dX6_op_0 : decode cX6_op 0 = .ok (.aload_n 0, 1) := by decide +kernel
theorem dX6_op_1 : decode cX6_op 1 = .ok (.getfield 15, 3) := by decide +kernel
theorem dX6_op_4 : decode cX6_op 4 = .ok (.iload_n 1, 1) := by decide +kernel
theorem dX6_op_5 : decode cX6_op 5 = .ok (.iaload, 1) := by decide +kernel
theorem dX6_op_6 : decode cX6_op 6 = .ok (.ireturn, 1) := by decide +kernel
theorem dX6_setNumber_0 : decode cX6_setNumber 0 = .ok (.aload_n 0, 1) := by decide +kernel
theorem dX6_setNumber_1 : decode cX6_setNumber 1 = .ok (.getfield 27, 3) := by decide +kernel
theorem dX6_setNumber_4 : decode cX6_setNumber 4 = .ok (.iload_n 1, 1) := by decide +kernel
theorem dX6_setNumber_5 : decode cX6_setNumber 5 = .ok (.iload_n 2, 1) := by decide +kernel
theorem dX6_setNumber_6 : decode cX6_setNumber 6 = .ok (.iastore, 1) := by decide +kernel
theorem dX6_setNumber_7 : decode cX6_setNumber 7 = .ok (.return_, 1) := by decide +kernel
theorem dX6_children_0 : decode cX6_children 0 = .ok (.iconst 0, 1) := by decide +kernel
theorem dX6_children_1 : decode cX6_children 1 = .ok (.istore_n 2, 1) := by decide +kernel
theorem dX6_children_2 : decode cX6_children 2 = .ok (.aload_n 0, 1) := by decide +kernel
theorem dX6_children_3 : decode cX6_children 3 = .ok (.getfield 33, 3) := by decide +kernel
theorem dX6_children_6 : decode cX6_children 6 = .ok (.iload_n 1, 1) := by decide +kernel
theorem dX6_children_7 : decode cX6_children 7 = .ok (.iaload, 1) := by decide +kernel
theorem dX6_children_8 : decode cX6_children 8 = .ok (.istore_n 3, 1) := by decide +kernel
theorem dX6_children_9 : decode cX6_children 9 = .ok (.iload_n 3, 1) := by decide +kernel
theorem dX6_children_10 : decode cX6_children 10 = .ok (.iconst (-1), 1) := by decide +kernel
theorem dX6_children_11 : decode cX6_children 11 = .ok (.if_icmp .eq 16, 3) := by decide +kernel
theorem dX6_children_14 : decode cX6_children 14 = .ok (.iinc 2 1, 3) := by decide +kernel
theorem dX6_children_17 : decode cX6_children 17 = .ok (.aload_n 0, 1) := by decide +kernel
theorem dX6_children_18 : decode cX6_children 18 = .ok (.getfield 39, 3) := by decide +kernel
theorem dX6_children_21 : decode cX6_children 21 = .ok (.iload_n 3, 1) := by decide +kernel
theorem dX6_children_22 : decode cX6_children 22 = .ok (.iaload, 1) := by decide +kernel
theorem dX6_children_23 : decode cX6_children 23 = .ok (.istore_n 3, 1) := by decide +kernel
theorem dX6_children_24 : decode cX6_children 24 = .ok (.goto (-15), 3) := by decide +kernel
theorem dX6_children_27 : decode cX6_children 27 = .ok (.iload_n 2, 1) := by decide +kernel
theorem dX6_children_28 : decode cX6_children 28 = .ok (.ireturn, 1) := by decide +kernel
theorem dX6_extra_0 : decode cX6_extra 0 = .ok (.aload_n 0, 1) := by decide +kernel
theorem dX6_extra_1 : decode cX6_extra 1 = .ok (.getfield 21, 3) := by decide +kernel
theorem dX6_extra_4 : decode cX6_extra 4 = .ok (.iload_n 1, 1) := by decide +kernel
theorem dX6_extra_5 : decode cX6_extra 5 = .ok (.iaload, 1) := by decide +kernel
theorem dX6_extra_6 : decode cX6_extra 6 = .ok (.ireturn, 1) := by decide +kernel
theorem dX6_setValue_0 : decode cX6_setValue 0 = .ok (.aload_n 0, 1) := by decide +kernel
theorem dX6_setValue_1 : decode cX6_setValue 1 = .ok (.getfield 18, 3) := by decide +kernel
theorem dX6_setValue_4 : decode cX6_setValue 4 = .ok (.iload_n 1, 1) := by decide +kernel
theorem dX6_setValue_5 : decode cX6_setValue 5 = .ok (.iload_n 2, 1) := by decide +kernel
theorem dX6_setValue_6 : decode cX6_setValue 6 = .ok (.iastore, 1) := by decide +kernel
theorem dX6_setValue_7 : decode cX6_setValue 7 = .ok (.return_, 1) := by decide +kernel
theorem dX6_number_0 : decode cX6_number 0 = .ok (.aload_n 0, 1) := by decide +kernel
theorem dX6_number_1 : decode cX6_number 1 = .ok (.getfield 27, 3) := by decide +kernel
theorem dX6_number_4 : decode cX6_number 4 = .ok (.iload_n 1, 1) := by decide +kernel
theorem dX6_number_5 : decode cX6_number 5 = .ok (.iaload, 1) := by decide +kernel
theorem dX6_number_6 : decode cX6_number 6 = .ok (.ireturn, 1) := by decide +kernel
theorem dX7_init_0 : decode cX7_init 0 = .ok (.aload_n 0, 1) := by decide +kernel
theorem dX7_init_1 : decode cX7_init 1 = .ok (.invokespecial 1, 3) := by decide +kernel
theorem dX7_init_4 : decode cX7_init 4 = .ok (.aload_n 0, 1) := by decide +kernel
theorem dX7_init_5 : decode cX7_init 5 = .ok (.sipush 1024, 3) := by decide +kernel
theorem dX7_init_8 : decode cX7_init 8 = .ok (.newarray .int, 2) := by decide +kernel
theorem dX7_init_10 : decode cX7_init 10 = .ok (.putfield 9, 3) := by decide +kernel
theorem dX7_init_13 : decode cX7_init 13 = .ok (.aload_n 0, 1) := by decide +kernel
theorem dX7_init_14 : decode cX7_init 14 = .ok (.sipush 1024, 3) := by decide +kernel
theorem dX7_init_17 : decode cX7_init 17 = .ok (.newarray .int, 2) := by decide +kernel
theorem dX7_init_19 : decode cX7_init 19 = .ok (.putfield 13, 3) := by decide +kernel
theorem dX7_init_22 : decode cX7_init 22 = .ok (.aload_n 0, 1) := by decide +kernel
theorem dX7_init_23 : decode cX7_init 23 = .ok (.aload_n 1, 1) := by decide +kernel
theorem dX7_init_24 : decode cX7_init 24 = .ok (.putfield 16, 3) := by decide +kernel
theorem dX7_init_27 : decode cX7_init 27 = .ok (.aload_n 0, 1) := by decide +kernel
theorem dX7_init_28 : decode cX7_init 28 = .ok (.aload_n 2, 1) := by decide +kernel
theorem dX7_init_29 : decode cX7_init 29 = .ok (.putfield 20, 3) := by decide +kernel
theorem dX7_init_32 : decode cX7_init 32 = .ok (.return_, 1) := by decide +kernel
theorem dX7_read_0 : decode cX7_read 0 = .ok (.aload_n 0, 1) := by decide +kernel
theorem dX7_read_1 : decode cX7_read 1 = .ok (.iconst 0, 1) := by decide +kernel
theorem dX7_read_2 : decode cX7_read 2 = .ok (.putfield 47, 3) := by decide +kernel
theorem dX7_read_5 : decode cX7_read 5 = .ok (.aload_n 0, 1) := by decide +kernel
theorem dX7_read_6 : decode cX7_read 6 = .ok (.iconst 0, 1) := by decide +kernel
theorem dX7_read_7 : decode cX7_read 7 = .ok (.putfield 67, 3) := by decide +kernel
theorem dX7_read_10 : decode cX7_read 10 = .ok (.aload_n 0, 1) := by decide +kernel
theorem dX7_read_11 : decode cX7_read 11 = .ok (.getfield 20, 3) := by decide +kernel
theorem dX7_read_14 : decode cX7_read 14 = .ok (.iconst 1, 1) := by decide +kernel
theorem dX7_read_15 : decode cX7_read 15 = .ok (.iconst 0, 1) := by decide +kernel
theorem dX7_read_16 : decode cX7_read 16 = .ok (.iconst 0, 1) := by decide +kernel
theorem dX7_read_17 : decode cX7_read 17 = .ok (.iconst 0, 1) := by decide +kernel
theorem dX7_read_18 : decode cX7_read 18 = .ok (.invokevirtual 70, 3) := by decide +kernel
theorem dX7_read_21 : decode cX7_read 21 = .ok (.istore_n 1, 1) := by decide +kernel
theorem dX7_read_22 : decode cX7_read 22 = .ok (.aload_n 0, 1) := by decide +kernel
theorem dX7_read_23 : decode cX7_read 23 = .ok (.iconst 0, 1) := by decide +kernel
theorem dX7_read_24 : decode cX7_read 24 = .ok (.invokevirtual 33, 3) := by decide +kernel
theorem dX7_read_27 : decode cX7_read 27 = .ok (.ifCond .ne 33, 3) := by decide +kernel
theorem dX7_read_30 : decode cX7_read 30 = .ok (.aload_n 0, 1) := by decide +kernel
theorem dX7_read_31 : decode cX7_read 31 = .ok (.getfield 20, 3) := by decide +kernel
theorem dX7_read_34 : decode cX7_read 34 = .ok (.iload_n 1, 1) := by decide +kernel
theorem dX7_read_35 : decode cX7_read 35 = .ok (.aload_n 0, 1) := by decide +kernel
theorem dX7_read_36 : decode cX7_read 36 = .ok (.iconst 3, 1) := by decide +kernel
theorem dX7_read_37 : decode cX7_read 37 = .ok (.invokevirtual 76, 3) := by decide +kernel
theorem dX7_read_40 : decode cX7_read 40 = .ok (.ifCond .eq 10, 3) := by decide +kernel
theorem dX7_read_43 : decode cX7_read 43 = .ok (.aload_n 0, 1) := by decide +kernel
theorem dX7_read_44 : decode cX7_read 44 = .ok (.invokevirtual 79, 3) := by decide +kernel
theorem dX7_read_47 : decode cX7_read 47 = .ok (.goto 7, 3) := by decide +kernel
theorem dX7_read_50 : decode cX7_read 50 = .ok (.aload_n 0, 1) := by decide +kernel
theorem dX7_read_51 : decode cX7_read 51 = .ok (.invokevirtual 82, 3) := by decide +kernel
theorem dX7_read_54 : decode cX7_read 54 = .ok (.invokevirtual 85, 3) := by decide +kernel
theorem dX7_read_57 : decode cX7_read 57 = .ok (.goto (-35), 3) := by decide +kernel
theorem dX7_read_60 : decode cX7_read 60 = .ok (.iload_n 1, 1) := by decide +kernel
theorem dX7_read_61 : decode cX7_read 61 = .ok (.ireturn, 1) := by decide +kernel
theorem dX7_is_0 : decode cX7_is 0 = .ok (.aload_n 0, 1) := by decide +kernel
theorem dX7_is_1 : decode cX7_is 1 = .ok (.getfield 16, 3) := by decide +kernel
theorem dX7_is_4 : decode cX7_is 4 = .ok (.invokevirtual 27, 3) := by decide +kernel
theorem dX7_is_7 : decode cX7_is 7 = .ok (.iload_n 1, 1) := by decide +kernel
theorem dX7_is_8 : decode cX7_is 8 = .ok (.if_icmp .ne 7, 3) := by decide +kernel
theorem dX7_is_11 : decode cX7_is 11 = .ok (.iconst 1, 1) := by decide +kernel
theorem dX7_is_12 : decode cX7_is 12 = .ok (.goto 4, 3) := by decide +kernel
theorem dX7_is_15 : decode cX7_is 15 = .ok (.iconst 0, 1) := by decide +kernel
theorem dX7_is_16 : decode cX7_is 16 = .ok (.ireturn, 1) := by decide +kernel
theorem dX7_isWord_0 : decode cX7_isWord 0 = .ok (.aload_n 0, 1) := by decide +kernel
theorem dX7_isWord_1 : decode cX7_isWord 1 = .ok (.sipush 200, 3) := by decide +kernel
theorem dX7_isWord_4 : decode cX7_isWord 4 = .ok (.iload_n 1, 1) := by decide +kernel
theorem dX7_isWord_5 : decode cX7_isWord 5 = .ok (.iadd, 1) := by decide +kernel
theorem dX7_isWord_6 : decode cX7_isWord 6 = .ok (.invokevirtual 33, 3) := by decide +kernel
theorem dX7_isWord_9 : decode cX7_isWord 9 = .ok (.ireturn, 1) := by decide +kernel
theorem dX7_enumeration_0 : decode cX7_enumeration 0 = .ok (.aload_n 0, 1) := by decide +kernel
theorem dX7_enumeration_1 : decode cX7_enumeration 1 = .ok (.getfield 20, 3) := by decide +kernel
theorem dX7_enumeration_4 : decode cX7_enumeration 4 = .ok (.iconst 2, 1) := by decide +kernel
theorem dX7_enumeration_5 : decode cX7_enumeration 5 = .ok (.iconst 0, 1) := by decide +kernel
theorem dX7_enumeration_6 : decode cX7_enumeration 6 = .ok (.iconst 0, 1) := by decide +kernel
theorem dX7_enumeration_7 : decode cX7_enumeration 7 = .ok (.aload_n 0, 1) := by decide +kernel
theorem dX7_enumeration_8 : decode cX7_enumeration 8 = .ok (.getfield 16, 3) := by decide +kernel
theorem dX7_enumeration_11 : decode cX7_enumeration 11 = .ok (.invokevirtual 89, 3) := by decide +kernel
theorem dX7_enumeration_14 : decode cX7_enumeration 14 = .ok (.invokevirtual 70, 3) := by decide +kernel
theorem dX7_enumeration_17 : decode cX7_enumeration 17 = .ok (.istore_n 1, 1) := by decide +kernel
theorem dX7_enumeration_18 : decode cX7_enumeration 18 = .ok (.aload_n 0, 1) := by decide +kernel
theorem dX7_enumeration_19 : decode cX7_enumeration 19 = .ok (.getfield 16, 3) := by decide +kernel
theorem dX7_enumeration_22 : decode cX7_enumeration 22 = .ok (.invokevirtual 37, 3) := by decide +kernel
theorem dX7_enumeration_25 : decode cX7_enumeration 25 = .ok (.aload_n 0, 1) := by decide +kernel
theorem dX7_enumeration_26 : decode cX7_enumeration 26 = .ok (.bipush 123, 2) := by decide +kernel
theorem dX7_enumeration_28 : decode cX7_enumeration 28 = .ok (.invokevirtual 102, 3) := by decide +kernel
theorem dX7_enumeration_31 : decode cX7_enumeration 31 = .ok (.iconst 1, 1) := by decide +kernel
theorem dX7_enumeration_32 : decode cX7_enumeration 32 = .ok (.istore_n 2, 1) := by decide +kernel
theorem dX7_enumeration_33 : decode cX7_enumeration 33 = .ok (.iload_n 2, 1) := by decide +kernel
theorem dX7_enumeration_34 : decode cX7_enumeration 34 = .ok (.ifCond .eq 69, 3) := by decide +kernel
theorem dX7_enumeration_37 : decode cX7_enumeration 37 = .ok (.aload_n 0, 1) := by decide +kernel
theorem dX7_enumeration_38 : decode cX7_enumeration 38 = .ok (.getfield 16, 3) := by decide +kernel
theorem dX7_enumeration_41 : decode cX7_enumeration 41 = .ok (.invokevirtual 89, 3) := by decide +kernel
theorem dX7_enumeration_44 : decode cX7_enumeration 44 = .ok (.istore_n 3, 1) := by decide +kernel
theorem dX7_enumeration_45 : decode cX7_enumeration 45 = .ok (.aload_n 0, 1) := by decide +kernel
theorem dX7_enumeration_46 : decode cX7_enumeration 46 = .ok (.getfield 20, 3) := by decide +kernel
theorem dX7_enumeration_49 : decode cX7_enumeration 49 = .ok (.iconst 3, 1) := by decide +kernel
theorem dX7_enumeration_50 : decode cX7_enumeration 50 = .ok (.iconst 0, 1) := by decide +kernel
theorem dX7_enumeration_51 : decode cX7_enumeration 51 = .ok (.aload_n 0, 1) := by decide +kernel
theorem dX7_enumeration_52 : decode cX7_enumeration 52 = .ok (.invokevirtual 105, 3) := by decide +kernel
theorem dX7_enumeration_55 : decode cX7_enumeration 55 = .ok (.iload_n 3, 1) := by decide +kernel
theorem dX7_enumeration_56 : decode cX7_enumeration 56 = .ok (.invokevirtual 70, 3) := by decide +kernel
theorem dX7_enumeration_59 : decode cX7_enumeration 59 = .ok (.istore 4, 2) := by decide +kernel
theorem dX7_enumeration_61 : decode cX7_enumeration 61 = .ok (.aload_n 0, 1) := by decide +kernel
theorem dX7_enumeration_62 : decode cX7_enumeration 62 = .ok (.bipush 61, 2) := by decide +kernel
theorem dX7_enumeration_64 : decode cX7_enumeration 64 = .ok (.invokevirtual 40, 3) := by decide +kernel
theorem dX7_enumeration_67 : decode cX7_enumeration 67 = .ok (.ifCond .eq 16, 3) := by decide +kernel
theorem dX7_enumeration_70 : decode cX7_enumeration 70 = .ok (.aload_n 0, 1) := by decide +kernel
theorem dX7_enumeration_71 : decode cX7_enumeration 71 = .ok (.getfield 20, 3) := by decide +kernel
theorem dX7_enumeration_74 : decode cX7_enumeration 74 = .ok (.iload 4, 2) := by decide +kernel
theorem dX7_enumeration_76 : decode cX7_enumeration 76 = .ok (.aload_n 0, 1) := by decide +kernel
theorem dX7_enumeration_77 : decode cX7_enumeration 77 = .ok (.invokevirtual 106, 3) := by decide +kernel
theorem dX7_enumeration_80 : decode cX7_enumeration 80 = .ok (.invokevirtual 85, 3) := by decide +kernel
theorem dX7_enumeration_83 : decode cX7_enumeration 83 = .ok (.aload_n 0, 1) := by decide +kernel
theorem dX7_enumeration_84 : decode cX7_enumeration 84 = .ok (.getfield 20, 3) := by decide +kernel
theorem dX7_enumeration_87 : decode cX7_enumeration 87 = .ok (.iload_n 1, 1) := by decide +kernel
theorem dX7_enumeration_88 : decode cX7_enumeration 88 = .ok (.iload 4, 2) := by decide +kernel
theorem dX7_enumeration_90 : decode cX7_enumeration 90 = .ok (.invokevirtual 85, 3) := by decide +kernel
theorem dX7_enumeration_93 : decode cX7_enumeration 93 = .ok (.aload_n 0, 1) := by decide +kernel
theorem dX7_enumeration_94 : decode cX7_enumeration 94 = .ok (.bipush 44, 2) := by decide +kernel
theorem dX7_enumeration_96 : decode cX7_enumeration 96 = .ok (.invokevirtual 40, 3) := by decide +kernel
theorem dX7_enumeration_99 : decode cX7_enumeration 99 = .ok (.istore_n 2, 1) := by decide +kernel
theorem dX7_enumeration_100 : decode cX7_enumeration 100 = .ok (.goto (-67), 3) := by decide +kernel
theorem dX7_enumeration_103 : decode cX7_enumeration 103 = .ok (.aload_n 0, 1) := by decide +kernel
theorem dX7_enumeration_104 : decode cX7_enumeration 104 = .ok (.bipush 125, 2) := by decide +kernel
theorem dX7_enumeration_106 : decode cX7_enumeration 106 = .ok (.invokevirtual 109, 3) := by decide +kernel
theorem dX7_enumeration_109 : decode cX7_enumeration 109 = .ok (.aload_n 0, 1) := by decide +kernel
theorem dX7_enumeration_110 : decode cX7_enumeration 110 = .ok (.bipush 59, 2) := by decide +kernel
theorem dX7_enumeration_112 : decode cX7_enumeration 112 = .ok (.invokevirtual 60, 3) := by decide +kernel
theorem dX7_enumeration_115 : decode cX7_enumeration 115 = .ok (.iload_n 1, 1) := by decide +kernel
theorem dX7_enumeration_116 : decode cX7_enumeration 116 = .ok (.ireturn, 1) := by decide +kernel
theorem dX7_bracket_0 : decode cX7_bracket 0 = .ok (.aload_n 0, 1) := by decide +kernel
theorem dX7_bracket_1 : decode cX7_bracket 1 = .ok (.iload_n 1, 1) := by decide +kernel
theorem dX7_bracket_2 : decode cX7_bracket 2 = .ok (.invokevirtual 33, 3) := by decide +kernel
theorem dX7_bracket_5 : decode cX7_bracket 5 = .ok (.invokestatic 43, 3) := by decide +kernel
theorem dX7_bracket_8 : decode cX7_bracket 8 = .ok (.aload_n 0, 1) := by decide +kernel
theorem dX7_bracket_9 : decode cX7_bracket 9 = .ok (.invokevirtual 57, 3) := by decide +kernel
theorem dX7_bracket_12 : decode cX7_bracket 12 = .ok (.return_, 1) := by decide +kernel
theorem dX7_need_0 : decode cX7_need 0 = .ok (.iload_n 0, 1) := by decide +kernel
theorem dX7_need_1 : decode cX7_need 1 = .ok (.ifCond .ne 11, 3) := by decide +kernel
theorem dX7_need_4 : decode cX7_need 4 = .ok (.new 24, 3) := by decide +kernel
theorem dX7_need_7 : decode cX7_need 7 = .ok (.dup, 1) := by decide +kernel
theorem dX7_need_8 : decode cX7_need 8 = .ok (.invokespecial 26, 3) := by decide +kernel
theorem dX7_need_11 : decode cX7_need 11 = .ok (.athrow, 1) := by decide +kernel
theorem dX7_need_12 : decode cX7_need 12 = .ok (.return_, 1) := by decide +kernel
theorem dX7_opens_0 : decode cX7_opens 0 = .ok (.aload_n 0, 1) := by decide +kernel
theorem dX7_opens_1 : decode cX7_opens 1 = .ok (.getfield 47, 3) := by decide +kernel
theorem dX7_opens_4 : decode cX7_opens 4 = .ok (.bipush 60, 2) := by decide +kernel
theorem dX7_opens_6 : decode cX7_opens 6 = .ok (.if_icmp .ge 7, 3) := by decide +kernel
theorem dX7_opens_9 : decode cX7_opens 9 = .ok (.iconst 1, 1) := by decide +kernel
theorem dX7_opens_10 : decode cX7_opens 10 = .ok (.goto 4, 3) := by decide +kernel
theorem dX7_opens_13 : decode cX7_opens 13 = .ok (.iconst 0, 1) := by decide +kernel
theorem dX7_opens_14 : decode cX7_opens 14 = .ok (.invokestatic 43, 3) := by decide +kernel
theorem dX7_opens_17 : decode cX7_opens 17 = .ok (.aload_n 0, 1) := by decide +kernel
theorem dX7_opens_18 : decode cX7_opens 18 = .ok (.dup, 1) := by decide +kernel
theorem dX7_opens_19 : decode cX7_opens 19 = .ok (.getfield 47, 3) := by decide +kernel
theorem dX7_opens_22 : decode cX7_opens 22 = .ok (.iconst 1, 1) := by decide +kernel
theorem dX7_opens_23 : decode cX7_opens 23 = .ok (.iadd, 1) := by decide +kernel
theorem dX7_opens_24 : decode cX7_opens 24 = .ok (.putfield 47, 3) := by decide +kernel
theorem dX7_opens_27 : decode cX7_opens 27 = .ok (.aload_n 0, 1) := by decide +kernel
theorem dX7_opens_28 : decode cX7_opens 28 = .ok (.getfield 16, 3) := by decide +kernel
theorem dX7_opens_31 : decode cX7_opens 31 = .ok (.invokevirtual 37, 3) := by decide +kernel
theorem dX7_opens_34 : decode cX7_opens 34 = .ok (.return_, 1) := by decide +kernel
theorem dX7_name_0 : decode cX7_name 0 = .ok (.aload_n 0, 1) := by decide +kernel
theorem dX7_name_1 : decode cX7_name 1 = .ok (.iconst 1, 1) := by decide +kernel
theorem dX7_name_2 : decode cX7_name 2 = .ok (.invokevirtual 33, 3) := by decide +kernel
theorem dX7_name_5 : decode cX7_name 5 = .ok (.invokestatic 43, 3) := by decide +kernel
theorem dX7_name_8 : decode cX7_name 8 = .ok (.aload_n 0, 1) := by decide +kernel
theorem dX7_name_9 : decode cX7_name 9 = .ok (.getfield 16, 3) := by decide +kernel
theorem dX7_name_12 : decode cX7_name 12 = .ok (.invokevirtual 64, 3) := by decide +kernel
theorem dX7_name_15 : decode cX7_name 15 = .ok (.istore_n 1, 1) := by decide +kernel
theorem dX7_name_16 : decode cX7_name 16 = .ok (.aload_n 0, 1) := by decide +kernel
theorem dX7_name_17 : decode cX7_name 17 = .ok (.getfield 16, 3) := by decide +kernel
theorem dX7_name_20 : decode cX7_name 20 = .ok (.invokevirtual 37, 3) := by decide +kernel
theorem dX7_name_23 : decode cX7_name 23 = .ok (.iload_n 1, 1) := by decide +kernel
theorem dX7_name_24 : decode cX7_name 24 = .ok (.ireturn, 1) := by decide +kernel
theorem dX7_takes_0 : decode cX7_takes 0 = .ok (.aload_n 0, 1) := by decide +kernel
theorem dX7_takes_1 : decode cX7_takes 1 = .ok (.iload_n 1, 1) := by decide +kernel
theorem dX7_takes_2 : decode cX7_takes 2 = .ok (.invokevirtual 33, 3) := by decide +kernel
theorem dX7_takes_5 : decode cX7_takes 5 = .ok (.istore_n 2, 1) := by decide +kernel
theorem dX7_takes_6 : decode cX7_takes 6 = .ok (.iload_n 2, 1) := by decide +kernel
theorem dX7_takes_7 : decode cX7_takes 7 = .ok (.ifCond .eq 10, 3) := by decide +kernel
theorem dX7_takes_10 : decode cX7_takes 10 = .ok (.aload_n 0, 1) := by decide +kernel
theorem dX7_takes_11 : decode cX7_takes 11 = .ok (.getfield 16, 3) := by decide +kernel
theorem dX7_takes_14 : decode cX7_takes 14 = .ok (.invokevirtual 37, 3) := by decide +kernel
theorem dX7_takes_17 : decode cX7_takes 17 = .ok (.iload_n 2, 1) := by decide +kernel
theorem dX7_takes_18 : decode cX7_takes 18 = .ok (.ireturn, 1) := by decide +kernel
theorem dX7_constant_0 : decode cX7_constant 0 = .ok (.aload_n 0, 1) := by decide +kernel
theorem dX7_constant_1 : decode cX7_constant 1 = .ok (.getfield 16, 3) := by decide +kernel
theorem dX7_constant_4 : decode cX7_constant 4 = .ok (.invokevirtual 89, 3) := by decide +kernel
theorem dX7_constant_7 : decode cX7_constant 7 = .ok (.istore_n 1, 1) := by decide +kernel
theorem dX7_constant_8 : decode cX7_constant 8 = .ok (.aload_n 0, 1) := by decide +kernel
theorem dX7_constant_9 : decode cX7_constant 9 = .ok (.getfield 20, 3) := by decide +kernel
theorem dX7_constant_12 : decode cX7_constant 12 = .ok (.bipush 23, 2) := by decide +kernel
theorem dX7_constant_14 : decode cX7_constant 14 = .ok (.iconst 0, 1) := by decide +kernel
theorem dX7_constant_15 : decode cX7_constant 15 = .ok (.aload_n 0, 1) := by decide +kernel
theorem dX7_constant_16 : decode cX7_constant 16 = .ok (.invokevirtual 92, 3) := by decide +kernel
theorem dX7_constant_19 : decode cX7_constant 19 = .ok (.invokevirtual 95, 3) := by decide +kernel
theorem dX7_constant_22 : decode cX7_constant 22 = .ok (.istore_n 2, 1) := by decide +kernel
theorem dX7_constant_23 : decode cX7_constant 23 = .ok (.aload_n 0, 1) := by decide +kernel
theorem dX7_constant_24 : decode cX7_constant 24 = .ok (.getfield 20, 3) := by decide +kernel
theorem dX7_constant_27 : decode cX7_constant 27 = .ok (.iload_n 2, 1) := by decide +kernel
theorem dX7_constant_28 : decode cX7_constant 28 = .ok (.iload_n 1, 1) := by decide +kernel
theorem dX7_constant_29 : decode cX7_constant 29 = .ok (.invokevirtual 99, 3) := by decide +kernel
theorem dX7_constant_32 : decode cX7_constant 32 = .ok (.iload_n 2, 1) := by decide +kernel
theorem dX7_constant_33 : decode cX7_constant 33 = .ok (.ireturn, 1) := by decide +kernel
theorem dX7_choice_0 : decode cX7_choice 0 = .ok (.aload_n 0, 1) := by decide +kernel
theorem dX7_choice_1 : decode cX7_choice 1 = .ok (.getfield 16, 3) := by decide +kernel
theorem dX7_choice_4 : decode cX7_choice 4 = .ok (.invokevirtual 89, 3) := by decide +kernel
theorem dX7_choice_7 : decode cX7_choice 7 = .ok (.istore_n 1, 1) := by decide +kernel
theorem dX7_choice_8 : decode cX7_choice 8 = .ok (.aload_n 0, 1) := by decide +kernel
theorem dX7_choice_9 : decode cX7_choice 9 = .ok (.getfield 67, 3) := by decide +kernel
theorem dX7_choice_12 : decode cX7_choice 12 = .ok (.istore_n 2, 1) := by decide +kernel
theorem dX7_choice_13 : decode cX7_choice 13 = .ok (.aload_n 0, 1) := by decide +kernel
theorem dX7_choice_14 : decode cX7_choice 14 = .ok (.aload_n 0, 1) := by decide +kernel
theorem dX7_choice_15 : decode cX7_choice 15 = .ok (.invokevirtual 184, 3) := by decide +kernel
theorem dX7_choice_18 : decode cX7_choice 18 = .ok (.iload_n 2, 1) := by decide +kernel
theorem dX7_choice_19 : decode cX7_choice 19 = .ok (.iload_n 1, 1) := by decide +kernel
theorem dX7_choice_20 : decode cX7_choice 20 = .ok (.invokevirtual 193, 3) := by decide +kernel
theorem dX7_choice_23 : decode cX7_choice 23 = .ok (.ireturn, 1) := by decide +kernel
theorem dX7_operand_0 : decode cX7_operand 0 = .ok (.aload_n 0, 1) := by decide +kernel
theorem dX7_operand_1 : decode cX7_operand 1 = .ok (.invokevirtual 208, 3) := by decide +kernel
theorem dX7_operand_4 : decode cX7_operand 4 = .ok (.ifCond .eq 148, 3) := by decide +kernel
theorem dX7_operand_7 : decode cX7_operand 7 = .ok (.aload_n 0, 1) := by decide +kernel
theorem dX7_operand_8 : decode cX7_operand 8 = .ok (.getfield 16, 3) := by decide +kernel
theorem dX7_operand_11 : decode cX7_operand 11 = .ok (.invokevirtual 27, 3) := by decide +kernel
theorem dX7_operand_14 : decode cX7_operand 14 = .ok (.istore_n 1, 1) := by decide +kernel
theorem dX7_operand_15 : decode cX7_operand 15 = .ok (.aload_n 0, 1) := by decide +kernel
theorem dX7_operand_16 : decode cX7_operand 16 = .ok (.getfield 16, 3) := by decide +kernel
theorem dX7_operand_19 : decode cX7_operand 19 = .ok (.invokevirtual 89, 3) := by decide +kernel
theorem dX7_operand_22 : decode cX7_operand 22 = .ok (.istore_n 2, 1) := by decide +kernel
theorem dX7_operand_23 : decode cX7_operand 23 = .ok (.aload_n 0, 1) := by decide +kernel
theorem dX7_operand_24 : decode cX7_operand 24 = .ok (.invokevirtual 57, 3) := by decide +kernel
theorem dX7_operand_27 : decode cX7_operand 27 = .ok (.aload_n 0, 1) := by decide +kernel
theorem dX7_operand_28 : decode cX7_operand 28 = .ok (.invokevirtual 184, 3) := by decide +kernel
theorem dX7_operand_31 : decode cX7_operand 31 = .ok (.istore_n 3, 1) := by decide +kernel
theorem dX7_operand_32 : decode cX7_operand 32 = .ok (.aload_n 0, 1) := by decide +kernel
theorem dX7_operand_33 : decode cX7_operand 33 = .ok (.dup, 1) := by decide +kernel
theorem dX7_operand_34 : decode cX7_operand 34 = .ok (.getfield 47, 3) := by decide +kernel
theorem dX7_operand_37 : decode cX7_operand 37 = .ok (.iconst 1, 1) := by decide +kernel
theorem dX7_operand_38 : decode cX7_operand 38 = .ok (.isub, 1) := by decide +kernel
theorem dX7_operand_39 : decode cX7_operand 39 = .ok (.putfield 47, 3) := by decide +kernel
theorem dX7_operand_42 : decode cX7_operand 42 = .ok (.iload_n 1, 1) := by decide +kernel
theorem dX7_operand_43 : decode cX7_operand 43 = .ok (.sipush 136, 3) := by decide +kernel
theorem dX7_operand_46 : decode cX7_operand 46 = .ok (.if_icmp .eq 10, 3) := by decide +kernel
theorem dX7_operand_49 : decode cX7_operand 49 = .ok (.iload_n 1, 1) := by decide +kernel
theorem dX7_operand_50 : decode cX7_operand 50 = .ok (.sipush 137, 3) := by decide +kernel
theorem dX7_operand_53 : decode cX7_operand 53 = .ok (.if_icmp .ne 7, 3) := by decide +kernel
theorem dX7_operand_56 : decode cX7_operand 56 = .ok (.iconst 1, 1) := by decide +kernel
theorem dX7_operand_57 : decode cX7_operand 57 = .ok (.goto 4, 3) := by decide +kernel
theorem dX7_operand_60 : decode cX7_operand 60 = .ok (.iconst 0, 1) := by decide +kernel
theorem dX7_operand_61 : decode cX7_operand 61 = .ok (.istore 4, 2) := by decide +kernel
theorem dX7_operand_63 : decode cX7_operand 63 = .ok (.aload_n 0, 1) := by decide +kernel
theorem dX7_operand_64 : decode cX7_operand 64 = .ok (.getfield 20, 3) := by decide +kernel
theorem dX7_operand_67 : decode cX7_operand 67 = .ok (.iload_n 3, 1) := by decide +kernel
theorem dX7_operand_68 : decode cX7_operand 68 = .ok (.invokevirtual 211, 3) := by decide +kernel
theorem dX7_operand_71 : decode cX7_operand 71 = .ok (.istore 5, 2) := by decide +kernel
theorem dX7_operand_73 : decode cX7_operand 73 = .ok (.iload_n 1, 1) := by decide +kernel
theorem dX7_operand_74 : decode cX7_operand 74 = .ok (.bipush 43, 2) := by decide +kernel
theorem dX7_operand_76 : decode cX7_operand 76 = .ok (.if_icmp .ne 28, 3) := by decide +kernel
theorem dX7_operand_79 : decode cX7_operand 79 = .ok (.iload 5, 2) := by decide +kernel
theorem dX7_operand_81 : decode cX7_operand 81 = .ok (.bipush 38, 2) := by decide +kernel
theorem dX7_operand_83 : decode cX7_operand 83 = .ok (.if_icmp .eq 21, 3) := by decide +kernel
theorem dX7_operand_86 : decode cX7_operand 86 = .ok (.iload 5, 2) := by decide +kernel
theorem dX7_operand_88 : decode cX7_operand 88 = .ok (.bipush 40, 2) := by decide +kernel
theorem dX7_operand_90 : decode cX7_operand 90 = .ok (.if_icmp .eq 14, 3) := by decide +kernel
theorem dX7_operand_93 : decode cX7_operand 93 = .ok (.iload 5, 2) := by decide +kernel
theorem dX7_operand_95 : decode cX7_operand 95 = .ok (.bipush 39, 2) := by decide +kernel
theorem dX7_operand_97 : decode cX7_operand 97 = .ok (.if_icmp .eq 7, 3) := by decide +kernel
theorem dX7_operand_100 : decode cX7_operand 100 = .ok (.iconst 1, 1) := by decide +kernel
theorem dX7_operand_101 : decode cX7_operand 101 = .ok (.goto 4, 3) := by decide +kernel
theorem dX7_operand_104 : decode cX7_operand 104 = .ok (.iconst 0, 1) := by decide +kernel
theorem dX7_operand_105 : decode cX7_operand 105 = .ok (.istore 6, 2) := by decide +kernel
theorem dX7_operand_107 : decode cX7_operand 107 = .ok (.iload 6, 2) := by decide +kernel
theorem dX7_operand_109 : decode cX7_operand 109 = .ok (.ifCond .eq 7, 3) := by decide +kernel
theorem dX7_operand_112 : decode cX7_operand 112 = .ok (.iload_n 3, 1) := by decide +kernel
theorem dX7_operand_113 : decode cX7_operand 113 = .ok (.goto 24, 3) := by decide +kernel
theorem dX7_operand_116 : decode cX7_operand 116 = .ok (.aload_n 0, 1) := by decide +kernel
theorem dX7_operand_117 : decode cX7_operand 117 = .ok (.getfield 20, 3) := by decide +kernel
theorem dX7_operand_120 : decode cX7_operand 120 = .ok (.iload 4, 2) := by decide +kernel
theorem dX7_operand_122 : decode cX7_operand 122 = .ok (.ifCond .eq 8, 3) := by decide +kernel
theorem dX7_operand_125 : decode cX7_operand 125 = .ok (.bipush 35, 2) := by decide +kernel
theorem dX7_operand_127 : decode cX7_operand 127 = .ok (.goto 5, 3) := by decide +kernel
theorem dX7_operand_130 : decode cX7_operand 130 = .ok (.bipush 34, 2) := by decide +kernel
theorem dX7_operand_132 : decode cX7_operand 132 = .ok (.iload_n 1, 1) := by decide +kernel
theorem dX7_operand_133 : decode cX7_operand 133 = .ok (.iload_n 3, 1) := by decide +kernel
theorem dX7_operand_134 : decode cX7_operand 134 = .ok (.invokevirtual 95, 3) := by decide +kernel
theorem dX7_operand_137 : decode cX7_operand 137 = .ok (.istore 7, 2) := by decide +kernel
theorem dX7_operand_139 : decode cX7_operand 139 = .ok (.aload_n 0, 1) := by decide +kernel
theorem dX7_operand_140 : decode cX7_operand 140 = .ok (.getfield 20, 3) := by decide +kernel
theorem dX7_operand_143 : decode cX7_operand 143 = .ok (.iload 7, 2) := by decide +kernel
theorem dX7_operand_145 : decode cX7_operand 145 = .ok (.iload_n 2, 1) := by decide +kernel
theorem dX7_operand_146 : decode cX7_operand 146 = .ok (.invokevirtual 99, 3) := by decide +kernel
theorem dX7_operand_149 : decode cX7_operand 149 = .ok (.iload 7, 2) := by decide +kernel
theorem dX7_operand_151 : decode cX7_operand 151 = .ok (.ireturn, 1) := by decide +kernel
theorem dX7_operand_152 : decode cX7_operand 152 = .ok (.aload_n 0, 1) := by decide +kernel
theorem dX7_operand_153 : decode cX7_operand 153 = .ok (.invokevirtual 214, 3) := by decide +kernel
theorem dX7_operand_156 : decode cX7_operand 156 = .ok (.istore_n 1, 1) := by decide +kernel
theorem dX7_operand_157 : decode cX7_operand 157 = .ok (.aload_n 0, 1) := by decide +kernel
theorem dX7_operand_158 : decode cX7_operand 158 = .ok (.sipush 136, 3) := by decide +kernel
theorem dX7_operand_161 : decode cX7_operand 161 = .ok (.invokevirtual 33, 3) := by decide +kernel
theorem dX7_operand_164 : decode cX7_operand 164 = .ok (.ifCond .ne 13, 3) := by decide +kernel
theorem dX7_operand_167 : decode cX7_operand 167 = .ok (.aload_n 0, 1) := by decide +kernel
theorem dX7_operand_168 : decode cX7_operand 168 = .ok (.sipush 137, 3) := by decide +kernel
theorem dX7_operand_171 : decode cX7_operand 171 = .ok (.invokevirtual 33, 3) := by decide +kernel
theorem dX7_operand_174 : decode cX7_operand 174 = .ok (.ifCond .eq 33, 3) := by decide +kernel
theorem dX7_operand_177 : decode cX7_operand 177 = .ok (.aload_n 0, 1) := by decide +kernel
theorem dX7_operand_178 : decode cX7_operand 178 = .ok (.iload_n 1, 1) := by decide +kernel
theorem dX7_operand_179 : decode cX7_operand 179 = .ok (.invokevirtual 190, 3) := by decide +kernel
theorem dX7_operand_182 : decode cX7_operand 182 = .ok (.aload_n 0, 1) := by decide +kernel
theorem dX7_operand_183 : decode cX7_operand 183 = .ok (.getfield 20, 3) := by decide +kernel
theorem dX7_operand_186 : decode cX7_operand 186 = .ok (.bipush 36, 2) := by decide +kernel
theorem dX7_operand_188 : decode cX7_operand 188 = .ok (.aload_n 0, 1) := by decide +kernel
theorem dX7_operand_189 : decode cX7_operand 189 = .ok (.getfield 16, 3) := by decide +kernel
theorem dX7_operand_192 : decode cX7_operand 192 = .ok (.invokevirtual 27, 3) := by decide +kernel
theorem dX7_operand_195 : decode cX7_operand 195 = .ok (.iload_n 1, 1) := by decide +kernel
theorem dX7_operand_196 : decode cX7_operand 196 = .ok (.invokevirtual 95, 3) := by decide +kernel
theorem dX7_operand_199 : decode cX7_operand 199 = .ok (.istore_n 1, 1) := by decide +kernel
theorem dX7_operand_200 : decode cX7_operand 200 = .ok (.aload_n 0, 1) := by decide +kernel
theorem dX7_operand_201 : decode cX7_operand 201 = .ok (.getfield 16, 3) := by decide +kernel
theorem dX7_operand_204 : decode cX7_operand 204 = .ok (.invokevirtual 37, 3) := by decide +kernel
theorem dX7_operand_207 : decode cX7_operand 207 = .ok (.iload_n 1, 1) := by decide +kernel
theorem dX7_operand_208 : decode cX7_operand 208 = .ok (.ireturn, 1) := by decide +kernel
theorem dX7_isUnary_0 : decode cX7_isUnary 0 = .ok (.aload_n 0, 1) := by decide +kernel
theorem dX7_isUnary_1 : decode cX7_isUnary 1 = .ok (.bipush 45, 2) := by decide +kernel
theorem dX7_isUnary_3 : decode cX7_isUnary 3 = .ok (.invokevirtual 33, 3) := by decide +kernel
theorem dX7_isUnary_6 : decode cX7_isUnary 6 = .ok (.ifCond .ne 50, 3) := by decide +kernel
theorem dX7_isUnary_9 : decode cX7_isUnary 9 = .ok (.aload_n 0, 1) := by decide +kernel
theorem dX7_isUnary_10 : decode cX7_isUnary 10 = .ok (.bipush 43, 2) := by decide +kernel
theorem dX7_isUnary_12 : decode cX7_isUnary 12 = .ok (.invokevirtual 33, 3) := by decide +kernel
theorem dX7_isUnary_15 : decode cX7_isUnary 15 = .ok (.ifCond .ne 41, 3) := by decide +kernel
theorem dX7_isUnary_18 : decode cX7_isUnary 18 = .ok (.aload_n 0, 1) := by decide +kernel
theorem dX7_isUnary_19 : decode cX7_isUnary 19 = .ok (.bipush 33, 2) := by decide +kernel
theorem dX7_isUnary_21 : decode cX7_isUnary 21 = .ok (.invokevirtual 33, 3) := by decide +kernel
theorem dX7_isUnary_24 : decode cX7_isUnary 24 = .ok (.ifCond .ne 32, 3) := by decide +kernel
theorem dX7_isUnary_27 : decode cX7_isUnary 27 = .ok (.aload_n 0, 1) := by decide +kernel
theorem dX7_isUnary_28 : decode cX7_isUnary 28 = .ok (.bipush 126, 2) := by decide +kernel
theorem dX7_isUnary_30 : decode cX7_isUnary 30 = .ok (.invokevirtual 33, 3) := by decide +kernel
theorem dX7_isUnary_33 : decode cX7_isUnary 33 = .ok (.ifCond .ne 23, 3) := by decide +kernel
theorem dX7_isUnary_36 : decode cX7_isUnary 36 = .ok (.aload_n 0, 1) := by decide +kernel
theorem dX7_isUnary_37 : decode cX7_isUnary 37 = .ok (.sipush 136, 3) := by decide +kernel
theorem dX7_isUnary_40 : decode cX7_isUnary 40 = .ok (.invokevirtual 33, 3) := by decide +kernel
theorem dX7_isUnary_43 : decode cX7_isUnary 43 = .ok (.ifCond .ne 13, 3) := by decide +kernel
theorem dX7_isUnary_46 : decode cX7_isUnary 46 = .ok (.aload_n 0, 1) := by decide +kernel
theorem dX7_isUnary_47 : decode cX7_isUnary 47 = .ok (.sipush 137, 3) := by decide +kernel
theorem dX7_isUnary_50 : decode cX7_isUnary 50 = .ok (.invokevirtual 33, 3) := by decide +kernel
theorem dX7_isUnary_53 : decode cX7_isUnary 53 = .ok (.ifCond .eq 7, 3) := by decide +kernel
theorem dX7_isUnary_56 : decode cX7_isUnary 56 = .ok (.iconst 1, 1) := by decide +kernel
theorem dX7_isUnary_57 : decode cX7_isUnary 57 = .ok (.goto 4, 3) := by decide +kernel
theorem dX7_isUnary_60 : decode cX7_isUnary 60 = .ok (.iconst 0, 1) := by decide +kernel
theorem dX7_isUnary_61 : decode cX7_isUnary 61 = .ok (.ireturn, 1) := by decide +kernel
theorem dX7_primary_0 : decode cX7_primary 0 = .ok (.aload_n 0, 1) := by decide +kernel
theorem dX7_primary_1 : decode cX7_primary 1 = .ok (.getfield 16, 3) := by decide +kernel
theorem dX7_primary_4 : decode cX7_primary 4 = .ok (.invokevirtual 89, 3) := by decide +kernel
theorem dX7_primary_7 : decode cX7_primary 7 = .ok (.istore_n 1, 1) := by decide +kernel
theorem dX7_primary_8 : decode cX7_primary 8 = .ok (.aload_n 0, 1) := by decide +kernel
theorem dX7_primary_9 : decode cX7_primary 9 = .ok (.iconst 2, 1) := by decide +kernel
theorem dX7_primary_10 : decode cX7_primary 10 = .ok (.invokevirtual 33, 3) := by decide +kernel
theorem dX7_primary_13 : decode cX7_primary 13 = .ok (.ifCond .eq 31, 3) := by decide +kernel
theorem dX7_primary_16 : decode cX7_primary 16 = .ok (.aload_n 0, 1) := by decide +kernel
theorem dX7_primary_17 : decode cX7_primary 17 = .ok (.getfield 20, 3) := by decide +kernel
theorem dX7_primary_20 : decode cX7_primary 20 = .ok (.bipush 37, 2) := by decide +kernel
theorem dX7_primary_22 : decode cX7_primary 22 = .ok (.iconst 0, 1) := by decide +kernel
theorem dX7_primary_23 : decode cX7_primary 23 = .ok (.aload_n 0, 1) := by decide +kernel
theorem dX7_primary_24 : decode cX7_primary 24 = .ok (.getfield 16, 3) := by decide +kernel
theorem dX7_primary_27 : decode cX7_primary 27 = .ok (.invokevirtual 217, 3) := by decide +kernel
theorem dX7_primary_30 : decode cX7_primary 30 = .ok (.iload_n 1, 1) := by decide +kernel
theorem dX7_primary_31 : decode cX7_primary 31 = .ok (.invokevirtual 70, 3) := by decide +kernel
theorem dX7_primary_34 : decode cX7_primary 34 = .ok (.istore_n 2, 1) := by decide +kernel
theorem dX7_primary_35 : decode cX7_primary 35 = .ok (.aload_n 0, 1) := by decide +kernel
theorem dX7_primary_36 : decode cX7_primary 36 = .ok (.getfield 16, 3) := by decide +kernel
theorem dX7_primary_39 : decode cX7_primary 39 = .ok (.invokevirtual 37, 3) := by decide +kernel
theorem dX7_primary_42 : decode cX7_primary 42 = .ok (.iload_n 2, 1) := by decide +kernel
theorem dX7_primary_43 : decode cX7_primary 43 = .ok (.ireturn, 1) := by decide +kernel
theorem dX7_primary_44 : decode cX7_primary 44 = .ok (.aload_n 0, 1) := by decide +kernel
theorem dX7_primary_45 : decode cX7_primary 45 = .ok (.bipush 40, 2) := by decide +kernel
theorem dX7_primary_47 : decode cX7_primary 47 = .ok (.invokevirtual 33, 3) := by decide +kernel
theorem dX7_primary_50 : decode cX7_primary 50 = .ok (.ifCond .eq 29, 3) := by decide +kernel
theorem dX7_primary_53 : decode cX7_primary 53 = .ok (.aload_n 0, 1) := by decide +kernel
theorem dX7_primary_54 : decode cX7_primary 54 = .ok (.invokevirtual 57, 3) := by decide +kernel
theorem dX7_primary_57 : decode cX7_primary 57 = .ok (.aload_n 0, 1) := by decide +kernel
theorem dX7_primary_58 : decode cX7_primary 58 = .ok (.invokevirtual 140, 3) := by decide +kernel
theorem dX7_primary_61 : decode cX7_primary 61 = .ok (.istore_n 2, 1) := by decide +kernel
theorem dX7_primary_62 : decode cX7_primary 62 = .ok (.aload_n 0, 1) := by decide +kernel
theorem dX7_primary_63 : decode cX7_primary 63 = .ok (.bipush 41, 2) := by decide +kernel
theorem dX7_primary_65 : decode cX7_primary 65 = .ok (.invokevirtual 109, 3) := by decide +kernel
theorem dX7_primary_68 : decode cX7_primary 68 = .ok (.aload_n 0, 1) := by decide +kernel
theorem dX7_primary_69 : decode cX7_primary 69 = .ok (.getfield 20, 3) := by decide +kernel
theorem dX7_primary_72 : decode cX7_primary 72 = .ok (.iload_n 2, 1) := by decide +kernel
theorem dX7_primary_73 : decode cX7_primary 73 = .ok (.iload_n 1, 1) := by decide +kernel
theorem dX7_primary_74 : decode cX7_primary 74 = .ok (.invokevirtual 99, 3) := by decide +kernel
theorem dX7_primary_77 : decode cX7_primary 77 = .ok (.iload_n 2, 1) := by decide +kernel
theorem dX7_primary_78 : decode cX7_primary 78 = .ok (.ireturn, 1) := by decide +kernel
theorem dX7_primary_79 : decode cX7_primary 79 = .ok (.aload_n 0, 1) := by decide +kernel
theorem dX7_primary_80 : decode cX7_primary 80 = .ok (.invokevirtual 105, 3) := by decide +kernel
theorem dX7_primary_83 : decode cX7_primary 83 = .ok (.istore_n 2, 1) := by decide +kernel
theorem dX7_primary_84 : decode cX7_primary 84 = .ok (.aload_n 0, 1) := by decide +kernel
theorem dX7_primary_85 : decode cX7_primary 85 = .ok (.bipush 40, 2) := by decide +kernel
theorem dX7_primary_87 : decode cX7_primary 87 = .ok (.invokevirtual 33, 3) := by decide +kernel
theorem dX7_primary_90 : decode cX7_primary 90 = .ok (.ifCond .eq 10, 3) := by decide +kernel
theorem dX7_primary_93 : decode cX7_primary 93 = .ok (.aload_n 0, 1) := by decide +kernel
theorem dX7_primary_94 : decode cX7_primary 94 = .ok (.iload_n 2, 1) := by decide +kernel
theorem dX7_primary_95 : decode cX7_primary 95 = .ok (.iload_n 1, 1) := by decide +kernel
theorem dX7_primary_96 : decode cX7_primary 96 = .ok (.invokevirtual 220, 3) := by decide +kernel
theorem dX7_primary_99 : decode cX7_primary 99 = .ok (.ireturn, 1) := by decide +kernel
theorem dX7_primary_100 : decode cX7_primary 100 = .ok (.aload_n 0, 1) := by decide +kernel
theorem dX7_primary_101 : decode cX7_primary 101 = .ok (.bipush 91, 2) := by decide +kernel
theorem dX7_primary_103 : decode cX7_primary 103 = .ok (.invokevirtual 33, 3) := by decide +kernel
theorem dX7_primary_106 : decode cX7_primary 106 = .ok (.ifCond .eq 40, 3) := by decide +kernel
theorem dX7_primary_109 : decode cX7_primary 109 = .ok (.aload_n 0, 1) := by decide +kernel
theorem dX7_primary_110 : decode cX7_primary 110 = .ok (.getfield 20, 3) := by decide +kernel
theorem dX7_primary_113 : decode cX7_primary 113 = .ok (.bipush 40, 2) := by decide +kernel
theorem dX7_primary_115 : decode cX7_primary 115 = .ok (.iload_n 1, 1) := by decide +kernel
theorem dX7_primary_116 : decode cX7_primary 116 = .ok (.iload_n 2, 1) := by decide +kernel
theorem dX7_primary_117 : decode cX7_primary 117 = .ok (.iload_n 1, 1) := by decide +kernel
theorem dX7_primary_118 : decode cX7_primary 118 = .ok (.invokevirtual 70, 3) := by decide +kernel
theorem dX7_primary_121 : decode cX7_primary 121 = .ok (.istore_n 3, 1) := by decide +kernel
theorem dX7_primary_122 : decode cX7_primary 122 = .ok (.aload_n 0, 1) := by decide +kernel
theorem dX7_primary_123 : decode cX7_primary 123 = .ok (.invokevirtual 57, 3) := by decide +kernel
theorem dX7_primary_126 : decode cX7_primary 126 = .ok (.aload_n 0, 1) := by decide +kernel
theorem dX7_primary_127 : decode cX7_primary 127 = .ok (.getfield 20, 3) := by decide +kernel
theorem dX7_primary_130 : decode cX7_primary 130 = .ok (.iload_n 3, 1) := by decide +kernel
theorem dX7_primary_131 : decode cX7_primary 131 = .ok (.aload_n 0, 1) := by decide +kernel
theorem dX7_primary_132 : decode cX7_primary 132 = .ok (.invokevirtual 140, 3) := by decide +kernel
theorem dX7_primary_135 : decode cX7_primary 135 = .ok (.invokevirtual 85, 3) := by decide +kernel
theorem dX7_primary_138 : decode cX7_primary 138 = .ok (.aload_n 0, 1) := by decide +kernel
theorem dX7_primary_139 : decode cX7_primary 139 = .ok (.bipush 93, 2) := by decide +kernel
theorem dX7_primary_141 : decode cX7_primary 141 = .ok (.invokevirtual 109, 3) := by decide +kernel
theorem dX7_primary_144 : decode cX7_primary 144 = .ok (.iload_n 3, 1) := by decide +kernel
theorem dX7_primary_145 : decode cX7_primary 145 = .ok (.ireturn, 1) := by decide +kernel
theorem dX7_primary_146 : decode cX7_primary 146 = .ok (.aload_n 0, 1) := by decide +kernel
theorem dX7_primary_147 : decode cX7_primary 147 = .ok (.getfield 20, 3) := by decide +kernel
theorem dX7_primary_150 : decode cX7_primary 150 = .ok (.bipush 38, 2) := by decide +kernel
theorem dX7_primary_152 : decode cX7_primary 152 = .ok (.iload_n 1, 1) := by decide +kernel
theorem dX7_primary_153 : decode cX7_primary 153 = .ok (.iload_n 2, 1) := by decide +kernel
theorem dX7_primary_154 : decode cX7_primary 154 = .ok (.iload_n 1, 1) := by decide +kernel
theorem dX7_primary_155 : decode cX7_primary 155 = .ok (.invokevirtual 70, 3) := by decide +kernel
theorem dX7_primary_158 : decode cX7_primary 158 = .ok (.ireturn, 1) := by decide +kernel
theorem dX7_expression_0 : decode cX7_expression 0 = .ok (.aload_n 0, 1) := by decide +kernel
theorem dX7_expression_1 : decode cX7_expression 1 = .ok (.getfield 16, 3) := by decide +kernel
theorem dX7_expression_4 : decode cX7_expression 4 = .ok (.invokevirtual 89, 3) := by decide +kernel
theorem dX7_expression_7 : decode cX7_expression 7 = .ok (.istore_n 1, 1) := by decide +kernel
theorem dX7_expression_8 : decode cX7_expression 8 = .ok (.aload_n 0, 1) := by decide +kernel
theorem dX7_expression_9 : decode cX7_expression 9 = .ok (.getfield 67, 3) := by decide +kernel
theorem dX7_expression_12 : decode cX7_expression 12 = .ok (.istore_n 2, 1) := by decide +kernel
theorem dX7_expression_13 : decode cX7_expression 13 = .ok (.aload_n 0, 1) := by decide +kernel
theorem dX7_expression_14 : decode cX7_expression 14 = .ok (.invokevirtual 184, 3) := by decide +kernel
theorem dX7_expression_17 : decode cX7_expression 17 = .ok (.istore_n 3, 1) := by decide +kernel
theorem dX7_expression_18 : decode cX7_expression 18 = .ok (.aload_n 0, 1) := by decide +kernel
theorem dX7_expression_19 : decode cX7_expression 19 = .ok (.invokevirtual 187, 3) := by decide +kernel
theorem dX7_expression_22 : decode cX7_expression 22 = .ok (.ifCond .eq 67, 3) := by decide +kernel
theorem dX7_expression_25 : decode cX7_expression 25 = .ok (.aload_n 0, 1) := by decide +kernel
theorem dX7_expression_26 : decode cX7_expression 26 = .ok (.iload_n 3, 1) := by decide +kernel
theorem dX7_expression_27 : decode cX7_expression 27 = .ok (.invokevirtual 190, 3) := by decide +kernel
theorem dX7_expression_30 : decode cX7_expression 30 = .ok (.aload_n 0, 1) := by decide +kernel
theorem dX7_expression_31 : decode cX7_expression 31 = .ok (.getfield 20, 3) := by decide +kernel
theorem dX7_expression_34 : decode cX7_expression 34 = .ok (.bipush 30, 2) := by decide +kernel
theorem dX7_expression_36 : decode cX7_expression 36 = .ok (.aload_n 0, 1) := by decide +kernel
theorem dX7_expression_37 : decode cX7_expression 37 = .ok (.getfield 16, 3) := by decide +kernel
theorem dX7_expression_40 : decode cX7_expression 40 = .ok (.invokevirtual 27, 3) := by decide +kernel
theorem dX7_expression_43 : decode cX7_expression 43 = .ok (.iload_n 3, 1) := by decide +kernel
theorem dX7_expression_44 : decode cX7_expression 44 = .ok (.invokevirtual 95, 3) := by decide +kernel
theorem dX7_expression_47 : decode cX7_expression 47 = .ok (.istore 4, 2) := by decide +kernel
theorem dX7_expression_49 : decode cX7_expression 49 = .ok (.aload_n 0, 1) := by decide +kernel
theorem dX7_expression_50 : decode cX7_expression 50 = .ok (.getfield 20, 3) := by decide +kernel
theorem dX7_expression_53 : decode cX7_expression 53 = .ok (.iload 4, 2) := by decide +kernel
theorem dX7_expression_55 : decode cX7_expression 55 = .ok (.iload_n 1, 1) := by decide +kernel
theorem dX7_expression_56 : decode cX7_expression 56 = .ok (.invokevirtual 99, 3) := by decide +kernel
theorem dX7_expression_59 : decode cX7_expression 59 = .ok (.aload_n 0, 1) := by decide +kernel
theorem dX7_expression_60 : decode cX7_expression 60 = .ok (.invokevirtual 57, 3) := by decide +kernel
theorem dX7_expression_63 : decode cX7_expression 63 = .ok (.aload_n 0, 1) := by decide +kernel
theorem dX7_expression_64 : decode cX7_expression 64 = .ok (.getfield 20, 3) := by decide +kernel
theorem dX7_expression_67 : decode cX7_expression 67 = .ok (.iload 4, 2) := by decide +kernel
theorem dX7_expression_69 : decode cX7_expression 69 = .ok (.aload_n 0, 1) := by decide +kernel
theorem dX7_expression_70 : decode cX7_expression 70 = .ok (.invokevirtual 140, 3) := by decide +kernel
theorem dX7_expression_73 : decode cX7_expression 73 = .ok (.invokevirtual 85, 3) := by decide +kernel
theorem dX7_expression_76 : decode cX7_expression 76 = .ok (.aload_n 0, 1) := by decide +kernel
theorem dX7_expression_77 : decode cX7_expression 77 = .ok (.dup, 1) := by decide +kernel
theorem dX7_expression_78 : decode cX7_expression 78 = .ok (.getfield 47, 3) := by decide +kernel
theorem dX7_expression_81 : decode cX7_expression 81 = .ok (.iconst 1, 1) := by decide +kernel
theorem dX7_expression_82 : decode cX7_expression 82 = .ok (.isub, 1) := by decide +kernel
theorem dX7_expression_83 : decode cX7_expression 83 = .ok (.putfield 47, 3) := by decide +kernel
theorem dX7_expression_86 : decode cX7_expression 86 = .ok (.iload 4, 2) := by decide +kernel
theorem dX7_expression_88 : decode cX7_expression 88 = .ok (.ireturn, 1) := by decide +kernel
theorem dX7_expression_89 : decode cX7_expression 89 = .ok (.aload_n 0, 1) := by decide +kernel
theorem dX7_expression_90 : decode cX7_expression 90 = .ok (.iload_n 3, 1) := by decide +kernel
theorem dX7_expression_91 : decode cX7_expression 91 = .ok (.iload_n 2, 1) := by decide +kernel
theorem dX7_expression_92 : decode cX7_expression 92 = .ok (.iload_n 1, 1) := by decide +kernel
theorem dX7_expression_93 : decode cX7_expression 93 = .ok (.invokevirtual 193, 3) := by decide +kernel
theorem dX7_expression_96 : decode cX7_expression 96 = .ok (.ireturn, 1) := by decide +kernel
theorem dX7_isSet_0 : decode cX7_isSet 0 = .ok (.aload_n 0, 1) := by decide +kernel
theorem dX7_isSet_1 : decode cX7_isSet 1 = .ok (.bipush 61, 2) := by decide +kernel
theorem dX7_isSet_3 : decode cX7_isSet 3 = .ok (.invokevirtual 33, 3) := by decide +kernel
theorem dX7_isSet_6 : decode cX7_isSet 6 = .ok (.ifCond .ne 29, 3) := by decide +kernel
theorem dX7_isSet_9 : decode cX7_isSet 9 = .ok (.aload_n 0, 1) := by decide +kernel
theorem dX7_isSet_10 : decode cX7_isSet 10 = .ok (.getfield 16, 3) := by decide +kernel
theorem dX7_isSet_13 : decode cX7_isSet 13 = .ok (.invokevirtual 27, 3) := by decide +kernel
theorem dX7_isSet_16 : decode cX7_isSet 16 = .ok (.sipush 138, 3) := by decide +kernel
theorem dX7_isSet_19 : decode cX7_isSet 19 = .ok (.if_icmp .lt 20, 3) := by decide +kernel
theorem dX7_isSet_22 : decode cX7_isSet 22 = .ok (.aload_n 0, 1) := by decide +kernel
theorem dX7_isSet_23 : decode cX7_isSet 23 = .ok (.getfield 16, 3) := by decide +kernel
theorem dX7_isSet_26 : decode cX7_isSet 26 = .ok (.invokevirtual 27, 3) := by decide +kernel
theorem dX7_isSet_29 : decode cX7_isSet 29 = .ok (.sipush 147, 3) := by decide +kernel
theorem dX7_isSet_32 : decode cX7_isSet 32 = .ok (.if_icmp .gt 7, 3) := by decide +kernel
theorem dX7_isSet_35 : decode cX7_isSet 35 = .ok (.iconst 1, 1) := by decide +kernel
theorem dX7_isSet_36 : decode cX7_isSet 36 = .ok (.goto 4, 3) := by decide +kernel
theorem dX7_isSet_39 : decode cX7_isSet 39 = .ok (.iconst 0, 1) := by decide +kernel
theorem dX7_isSet_40 : decode cX7_isSet 40 = .ok (.ireturn, 1) := by decide +kernel
theorem dX7_shallow_0 : decode cX7_shallow 0 = .ok (.aload_n 0, 1) := by decide +kernel
theorem dX7_shallow_1 : decode cX7_shallow 1 = .ok (.getfield 47, 3) := by decide +kernel
theorem dX7_shallow_4 : decode cX7_shallow 4 = .ok (.aload_n 0, 1) := by decide +kernel
theorem dX7_shallow_5 : decode cX7_shallow 5 = .ok (.getfield 20, 3) := by decide +kernel
theorem dX7_shallow_8 : decode cX7_shallow 8 = .ok (.iload_n 1, 1) := by decide +kernel
theorem dX7_shallow_9 : decode cX7_shallow 9 = .ok (.invokevirtual 51, 3) := by decide +kernel
theorem dX7_shallow_12 : decode cX7_shallow 12 = .ok (.iadd, 1) := by decide +kernel
theorem dX7_shallow_13 : decode cX7_shallow 13 = .ok (.bipush 60, 2) := by decide +kernel
theorem dX7_shallow_15 : decode cX7_shallow 15 = .ok (.if_icmp .ge 7, 3) := by decide +kernel
theorem dX7_shallow_18 : decode cX7_shallow 18 = .ok (.iconst 1, 1) := by decide +kernel
theorem dX7_shallow_19 : decode cX7_shallow 19 = .ok (.goto 4, 3) := by decide +kernel
theorem dX7_shallow_22 : decode cX7_shallow 22 = .ok (.iconst 0, 1) := by decide +kernel
theorem dX7_shallow_23 : decode cX7_shallow 23 = .ok (.invokestatic 43, 3) := by decide +kernel
theorem dX7_shallow_26 : decode cX7_shallow 26 = .ok (.return_, 1) := by decide +kernel
theorem dX7_choiceBehind_0 : decode cX7_choiceBehind 0 = .ok (.aload_n 0, 1) := by decide +kernel
theorem dX7_choiceBehind_1 : decode cX7_choiceBehind 1 = .ok (.iload_n 1, 1) := by decide +kernel
theorem dX7_choiceBehind_2 : decode cX7_choiceBehind 2 = .ok (.iload_n 2, 1) := by decide +kernel
theorem dX7_choiceBehind_3 : decode cX7_choiceBehind 3 = .ok (.invokevirtual 196, 3) := by decide +kernel
theorem dX7_choiceBehind_6 : decode cX7_choiceBehind 6 = .ok (.istore 4, 2) := by decide +kernel
theorem dX7_choiceBehind_8 : decode cX7_choiceBehind 8 = .ok (.aload_n 0, 1) := by decide +kernel
theorem dX7_choiceBehind_9 : decode cX7_choiceBehind 9 = .ok (.bipush 63, 2) := by decide +kernel
theorem dX7_choiceBehind_11 : decode cX7_choiceBehind 11 = .ok (.invokevirtual 33, 3) := by decide +kernel
theorem dX7_choiceBehind_14 : decode cX7_choiceBehind 14 = .ok (.ifCond .ne 6, 3) := by decide +kernel
theorem dX7_choiceBehind_17 : decode cX7_choiceBehind 17 = .ok (.iload 4, 2) := by decide +kernel
theorem dX7_choiceBehind_19 : decode cX7_choiceBehind 19 = .ok (.ireturn, 1) := by decide +kernel
theorem dX7_choiceBehind_20 : decode cX7_choiceBehind 20 = .ok (.aload_n 0, 1) := by decide +kernel
theorem dX7_choiceBehind_21 : decode cX7_choiceBehind 21 = .ok (.iload 4, 2) := by decide +kernel
theorem dX7_choiceBehind_23 : decode cX7_choiceBehind 23 = .ok (.invokevirtual 190, 3) := by decide +kernel
theorem dX7_choiceBehind_26 : decode cX7_choiceBehind 26 = .ok (.aload_n 0, 1) := by decide +kernel
theorem dX7_choiceBehind_27 : decode cX7_choiceBehind 27 = .ok (.getfield 20, 3) := by decide +kernel
theorem dX7_choiceBehind_30 : decode cX7_choiceBehind 30 = .ok (.bipush 31, 2) := by decide +kernel
theorem dX7_choiceBehind_32 : decode cX7_choiceBehind 32 = .ok (.iconst 0, 1) := by decide +kernel
theorem dX7_choiceBehind_33 : decode cX7_choiceBehind 33 = .ok (.iload 4, 2) := by decide +kernel
theorem dX7_choiceBehind_35 : decode cX7_choiceBehind 35 = .ok (.invokevirtual 95, 3) := by decide +kernel
theorem dX7_choiceBehind_38 : decode cX7_choiceBehind 38 = .ok (.istore 5, 2) := by decide +kernel
theorem dX7_choiceBehind_40 : decode cX7_choiceBehind 40 = .ok (.aload_n 0, 1) := by decide +kernel
theorem dX7_choiceBehind_41 : decode cX7_choiceBehind 41 = .ok (.getfield 20, 3) := by decide +kernel
theorem dX7_choiceBehind_44 : decode cX7_choiceBehind 44 = .ok (.iload 5, 2) := by decide +kernel
theorem dX7_choiceBehind_46 : decode cX7_choiceBehind 46 = .ok (.iload_n 3, 1) := by decide +kernel
theorem dX7_choiceBehind_47 : decode cX7_choiceBehind 47 = .ok (.invokevirtual 99, 3) := by decide +kernel
theorem dX7_choiceBehind_50 : decode cX7_choiceBehind 50 = .ok (.aload_n 0, 1) := by decide +kernel
theorem dX7_choiceBehind_51 : decode cX7_choiceBehind 51 = .ok (.invokevirtual 57, 3) := by decide +kernel
theorem dX7_choiceBehind_54 : decode cX7_choiceBehind 54 = .ok (.aload_n 0, 1) := by decide +kernel
theorem dX7_choiceBehind_55 : decode cX7_choiceBehind 55 = .ok (.getfield 20, 3) := by decide +kernel
theorem dX7_choiceBehind_58 : decode cX7_choiceBehind 58 = .ok (.iload 5, 2) := by decide +kernel
theorem dX7_choiceBehind_60 : decode cX7_choiceBehind 60 = .ok (.aload_n 0, 1) := by decide +kernel
theorem dX7_choiceBehind_61 : decode cX7_choiceBehind 61 = .ok (.invokevirtual 140, 3) := by decide +kernel
theorem dX7_choiceBehind_64 : decode cX7_choiceBehind 64 = .ok (.invokevirtual 85, 3) := by decide +kernel
theorem dX7_choiceBehind_67 : decode cX7_choiceBehind 67 = .ok (.aload_n 0, 1) := by decide +kernel
theorem dX7_choiceBehind_68 : decode cX7_choiceBehind 68 = .ok (.bipush 58, 2) := by decide +kernel
theorem dX7_choiceBehind_70 : decode cX7_choiceBehind 70 = .ok (.invokevirtual 60, 3) := by decide +kernel
theorem dX7_choiceBehind_73 : decode cX7_choiceBehind 73 = .ok (.aload_n 0, 1) := by decide +kernel
theorem dX7_choiceBehind_74 : decode cX7_choiceBehind 74 = .ok (.getfield 20, 3) := by decide +kernel
theorem dX7_choiceBehind_77 : decode cX7_choiceBehind 77 = .ok (.iload 5, 2) := by decide +kernel
theorem dX7_choiceBehind_79 : decode cX7_choiceBehind 79 = .ok (.aload_n 0, 1) := by decide +kernel
theorem dX7_choiceBehind_80 : decode cX7_choiceBehind 80 = .ok (.invokevirtual 92, 3) := by decide +kernel
theorem dX7_choiceBehind_83 : decode cX7_choiceBehind 83 = .ok (.invokevirtual 85, 3) := by decide +kernel
theorem dX7_choiceBehind_86 : decode cX7_choiceBehind 86 = .ok (.aload_n 0, 1) := by decide +kernel
theorem dX7_choiceBehind_87 : decode cX7_choiceBehind 87 = .ok (.dup, 1) := by decide +kernel
theorem dX7_choiceBehind_88 : decode cX7_choiceBehind 88 = .ok (.getfield 47, 3) := by decide +kernel
theorem dX7_choiceBehind_91 : decode cX7_choiceBehind 91 = .ok (.iconst 1, 1) := by decide +kernel
theorem dX7_choiceBehind_92 : decode cX7_choiceBehind 92 = .ok (.isub, 1) := by decide +kernel
theorem dX7_choiceBehind_93 : decode cX7_choiceBehind 93 = .ok (.putfield 47, 3) := by decide +kernel
theorem dX7_choiceBehind_96 : decode cX7_choiceBehind 96 = .ok (.iload 5, 2) := by decide +kernel
theorem dX7_choiceBehind_98 : decode cX7_choiceBehind 98 = .ok (.ireturn, 1) := by decide +kernel
theorem dX7_operation_0 : decode cX7_operation 0 = .ok (.aload_n 0, 1) := by decide +kernel
theorem dX7_operation_1 : decode cX7_operation 1 = .ok (.getfield 9, 3) := by decide +kernel
theorem dX7_operation_4 : decode cX7_operation 4 = .ok (.aload_n 0, 1) := by decide +kernel
theorem dX7_operation_5 : decode cX7_operation 5 = .ok (.getfield 67, 3) := by decide +kernel
theorem dX7_operation_8 : decode cX7_operation 8 = .ok (.iload_n 1, 1) := by decide +kernel
theorem dX7_operation_9 : decode cX7_operation 9 = .ok (.iastore, 1) := by decide +kernel
theorem dX7_operation_10 : decode cX7_operation 10 = .ok (.aload_n 0, 1) := by decide +kernel
theorem dX7_operation_11 : decode cX7_operation 11 = .ok (.aload_n 0, 1) := by decide +kernel
theorem dX7_operation_12 : decode cX7_operation 12 = .ok (.getfield 16, 3) := by decide +kernel
theorem dX7_operation_15 : decode cX7_operation 15 = .ok (.invokevirtual 27, 3) := by decide +kernel
theorem dX7_operation_18 : decode cX7_operation 18 = .ok (.invokevirtual 199, 3) := by decide +kernel
theorem dX7_operation_21 : decode cX7_operation 21 = .ok (.istore_n 3, 1) := by decide +kernel
theorem dX7_operation_22 : decode cX7_operation 22 = .ok (.iload_n 3, 1) := by decide +kernel
theorem dX7_operation_23 : decode cX7_operation 23 = .ok (.ifCond .le 81, 3) := by decide +kernel
theorem dX7_operation_26 : decode cX7_operation 26 = .ok (.aload_n 0, 1) := by decide +kernel
theorem dX7_operation_27 : decode cX7_operation 27 = .ok (.iload_n 2, 1) := by decide +kernel
theorem dX7_operation_28 : decode cX7_operation 28 = .ok (.iload_n 3, 1) := by decide +kernel
theorem dX7_operation_29 : decode cX7_operation 29 = .ok (.invokevirtual 202, 3) := by decide +kernel
theorem dX7_operation_32 : decode cX7_operation 32 = .ok (.aload_n 0, 1) := by decide +kernel
theorem dX7_operation_33 : decode cX7_operation 33 = .ok (.aload_n 0, 1) := by decide +kernel
theorem dX7_operation_34 : decode cX7_operation 34 = .ok (.getfield 9, 3) := by decide +kernel
theorem dX7_operation_37 : decode cX7_operation 37 = .ok (.aload_n 0, 1) := by decide +kernel
theorem dX7_operation_38 : decode cX7_operation 38 = .ok (.getfield 67, 3) := by decide +kernel
theorem dX7_operation_41 : decode cX7_operation 41 = .ok (.iaload, 1) := by decide +kernel
theorem dX7_operation_42 : decode cX7_operation 42 = .ok (.invokevirtual 190, 3) := by decide +kernel
theorem dX7_operation_45 : decode cX7_operation 45 = .ok (.aload_n 0, 1) := by decide +kernel
theorem dX7_operation_46 : decode cX7_operation 46 = .ok (.getfield 16, 3) := by decide +kernel
theorem dX7_operation_49 : decode cX7_operation 49 = .ok (.invokevirtual 27, 3) := by decide +kernel
theorem dX7_operation_52 : decode cX7_operation 52 = .ok (.istore 4, 2) := by decide +kernel
theorem dX7_operation_54 : decode cX7_operation 54 = .ok (.aload_n 0, 1) := by decide +kernel
theorem dX7_operation_55 : decode cX7_operation 55 = .ok (.invokevirtual 57, 3) := by decide +kernel
theorem dX7_operation_58 : decode cX7_operation 58 = .ok (.aload_n 0, 1) := by decide +kernel
theorem dX7_operation_59 : decode cX7_operation 59 = .ok (.getfield 13, 3) := by decide +kernel
theorem dX7_operation_62 : decode cX7_operation 62 = .ok (.aload_n 0, 1) := by decide +kernel
theorem dX7_operation_63 : decode cX7_operation 63 = .ok (.dup, 1) := by decide +kernel
theorem dX7_operation_64 : decode cX7_operation 64 = .ok (.getfield 67, 3) := by decide +kernel
theorem dX7_operation_67 : decode cX7_operation 67 = .ok (.dup_x1, 1) := by decide +kernel
theorem dX7_operation_68 : decode cX7_operation 68 = .ok (.iconst 1, 1) := by decide +kernel
theorem dX7_operation_69 : decode cX7_operation 69 = .ok (.iadd, 1) := by decide +kernel
theorem dX7_operation_70 : decode cX7_operation 70 = .ok (.putfield 67, 3) := by decide +kernel
theorem dX7_operation_73 : decode cX7_operation 73 = .ok (.iload 4, 2) := by decide +kernel
theorem dX7_operation_75 : decode cX7_operation 75 = .ok (.iastore, 1) := by decide +kernel
theorem dX7_operation_76 : decode cX7_operation 76 = .ok (.aload_n 0, 1) := by decide +kernel
theorem dX7_operation_77 : decode cX7_operation 77 = .ok (.getfield 9, 3) := by decide +kernel
theorem dX7_operation_80 : decode cX7_operation 80 = .ok (.aload_n 0, 1) := by decide +kernel
theorem dX7_operation_81 : decode cX7_operation 81 = .ok (.getfield 67, 3) := by decide +kernel
theorem dX7_operation_84 : decode cX7_operation 84 = .ok (.aload_n 0, 1) := by decide +kernel
theorem dX7_operation_85 : decode cX7_operation 85 = .ok (.invokevirtual 184, 3) := by decide +kernel
theorem dX7_operation_88 : decode cX7_operation 88 = .ok (.iastore, 1) := by decide +kernel
theorem dX7_operation_89 : decode cX7_operation 89 = .ok (.aload_n 0, 1) := by decide +kernel
theorem dX7_operation_90 : decode cX7_operation 90 = .ok (.aload_n 0, 1) := by decide +kernel
theorem dX7_operation_91 : decode cX7_operation 91 = .ok (.getfield 16, 3) := by decide +kernel
theorem dX7_operation_94 : decode cX7_operation 94 = .ok (.invokevirtual 27, 3) := by decide +kernel
theorem dX7_operation_97 : decode cX7_operation 97 = .ok (.invokevirtual 199, 3) := by decide +kernel
theorem dX7_operation_100 : decode cX7_operation 100 = .ok (.istore_n 3, 1) := by decide +kernel
theorem dX7_operation_101 : decode cX7_operation 101 = .ok (.goto (-79), 3) := by decide +kernel
theorem dX7_operation_104 : decode cX7_operation 104 = .ok (.aload_n 0, 1) := by decide +kernel
theorem dX7_operation_105 : decode cX7_operation 105 = .ok (.iload_n 2, 1) := by decide +kernel
theorem dX7_operation_106 : decode cX7_operation 106 = .ok (.iconst 0, 1) := by decide +kernel
theorem dX7_operation_107 : decode cX7_operation 107 = .ok (.invokevirtual 202, 3) := by decide +kernel
theorem dX7_operation_110 : decode cX7_operation 110 = .ok (.aload_n 0, 1) := by decide +kernel
theorem dX7_operation_111 : decode cX7_operation 111 = .ok (.getfield 9, 3) := by decide +kernel
theorem dX7_operation_114 : decode cX7_operation 114 = .ok (.iload_n 2, 1) := by decide +kernel
theorem dX7_operation_115 : decode cX7_operation 115 = .ok (.iaload, 1) := by decide +kernel
theorem dX7_operation_116 : decode cX7_operation 116 = .ok (.ireturn, 1) := by decide +kernel
theorem dX7_rank_0 : decode cX7_rank 0 = .ok (.iload_n 1, 1) := by decide +kernel
theorem dX7_rank_1 : decode cX7_rank 1 = .ok (.lookupswitch 180 #[(37, 177), (38, 163), (42, 177), (43, 174), (45, 174), (47, 177), (60, 168), (62, 168), (94, 161), (124, 159), (128, 155), (129, 157), (130, 165), (131, 165), (132, 168), (133, 168), (134, 171), (135, 171)], 155) := by decide +kernel
theorem dX7_rank_156 : decode cX7_rank 156 = .ok (.iconst 1, 1) := by decide +kernel
theorem dX7_rank_157 : decode cX7_rank 157 = .ok (.ireturn, 1) := by decide +kernel
theorem dX7_rank_158 : decode cX7_rank 158 = .ok (.iconst 2, 1) := by decide +kernel
theorem dX7_rank_159 : decode cX7_rank 159 = .ok (.ireturn, 1) := by decide +kernel
theorem dX7_rank_160 : decode cX7_rank 160 = .ok (.iconst 3, 1) := by decide +kernel
theorem dX7_rank_161 : decode cX7_rank 161 = .ok (.ireturn, 1) := by decide +kernel
theorem dX7_rank_162 : decode cX7_rank 162 = .ok (.iconst 4, 1) := by decide +kernel
theorem dX7_rank_163 : decode cX7_rank 163 = .ok (.ireturn, 1) := by decide +kernel
theorem dX7_rank_164 : decode cX7_rank 164 = .ok (.iconst 5, 1) := by decide +kernel
theorem dX7_rank_165 : decode cX7_rank 165 = .ok (.ireturn, 1) := by decide +kernel
theorem dX7_rank_166 : decode cX7_rank 166 = .ok (.bipush 6, 2) := by decide +kernel
theorem dX7_rank_168 : decode cX7_rank 168 = .ok (.ireturn, 1) := by decide +kernel
theorem dX7_rank_169 : decode cX7_rank 169 = .ok (.bipush 7, 2) := by decide +kernel
theorem dX7_rank_171 : decode cX7_rank 171 = .ok (.ireturn, 1) := by decide +kernel
theorem dX7_rank_172 : decode cX7_rank 172 = .ok (.bipush 8, 2) := by decide +kernel
theorem dX7_rank_174 : decode cX7_rank 174 = .ok (.ireturn, 1) := by decide +kernel
theorem dX7_rank_175 : decode cX7_rank 175 = .ok (.bipush 9, 2) := by decide +kernel
theorem dX7_rank_177 : decode cX7_rank 177 = .ok (.ireturn, 1) := by decide +kernel
theorem dX7_rank_178 : decode cX7_rank 178 = .ok (.bipush 10, 2) := by decide +kernel
theorem dX7_rank_180 : decode cX7_rank 180 = .ok (.ireturn, 1) := by decide +kernel
theorem dX7_rank_181 : decode cX7_rank 181 = .ok (.iconst 0, 1) := by decide +kernel
theorem dX7_rank_182 : decode cX7_rank 182 = .ok (.ireturn, 1) := by decide +kernel
theorem dX7_settle_0 : decode cX7_settle 0 = .ok (.aload_n 0, 1) := by decide +kernel
theorem dX7_settle_1 : decode cX7_settle 1 = .ok (.getfield 67, 3) := by decide +kernel
theorem dX7_settle_4 : decode cX7_settle 4 = .ok (.iload_n 1, 1) := by decide +kernel
theorem dX7_settle_5 : decode cX7_settle 5 = .ok (.if_icmp .le 97, 3) := by decide +kernel
theorem dX7_settle_8 : decode cX7_settle 8 = .ok (.aload_n 0, 1) := by decide +kernel
theorem dX7_settle_9 : decode cX7_settle 9 = .ok (.aload_n 0, 1) := by decide +kernel
theorem dX7_settle_10 : decode cX7_settle 10 = .ok (.getfield 13, 3) := by decide +kernel
theorem dX7_settle_13 : decode cX7_settle 13 = .ok (.aload_n 0, 1) := by decide +kernel
theorem dX7_settle_14 : decode cX7_settle 14 = .ok (.getfield 67, 3) := by decide +kernel
theorem dX7_settle_17 : decode cX7_settle 17 = .ok (.iconst 1, 1) := by decide +kernel
theorem dX7_settle_18 : decode cX7_settle 18 = .ok (.isub, 1) := by decide +kernel
theorem dX7_settle_19 : decode cX7_settle 19 = .ok (.iaload, 1) := by decide +kernel
theorem dX7_settle_20 : decode cX7_settle 20 = .ok (.invokevirtual 199, 3) := by decide +kernel
theorem dX7_settle_23 : decode cX7_settle 23 = .ok (.iload_n 2, 1) := by decide +kernel
theorem dX7_settle_24 : decode cX7_settle 24 = .ok (.if_icmp .lt 78, 3) := by decide +kernel
theorem dX7_settle_27 : decode cX7_settle 27 = .ok (.aload_n 0, 1) := by decide +kernel
theorem dX7_settle_28 : decode cX7_settle 28 = .ok (.dup, 1) := by decide +kernel
theorem dX7_settle_29 : decode cX7_settle 29 = .ok (.getfield 67, 3) := by decide +kernel
theorem dX7_settle_32 : decode cX7_settle 32 = .ok (.iconst 1, 1) := by decide +kernel
theorem dX7_settle_33 : decode cX7_settle 33 = .ok (.isub, 1) := by decide +kernel
theorem dX7_settle_34 : decode cX7_settle 34 = .ok (.putfield 67, 3) := by decide +kernel
theorem dX7_settle_37 : decode cX7_settle 37 = .ok (.aload_n 0, 1) := by decide +kernel
theorem dX7_settle_38 : decode cX7_settle 38 = .ok (.dup, 1) := by decide +kernel
theorem dX7_settle_39 : decode cX7_settle 39 = .ok (.getfield 47, 3) := by decide +kernel
theorem dX7_settle_42 : decode cX7_settle 42 = .ok (.iconst 1, 1) := by decide +kernel
theorem dX7_settle_43 : decode cX7_settle 43 = .ok (.isub, 1) := by decide +kernel
theorem dX7_settle_44 : decode cX7_settle 44 = .ok (.putfield 47, 3) := by decide +kernel
theorem dX7_settle_47 : decode cX7_settle 47 = .ok (.aload_n 0, 1) := by decide +kernel
theorem dX7_settle_48 : decode cX7_settle 48 = .ok (.getfield 13, 3) := by decide +kernel
theorem dX7_settle_51 : decode cX7_settle 51 = .ok (.aload_n 0, 1) := by decide +kernel
theorem dX7_settle_52 : decode cX7_settle 52 = .ok (.getfield 67, 3) := by decide +kernel
theorem dX7_settle_55 : decode cX7_settle 55 = .ok (.iaload, 1) := by decide +kernel
theorem dX7_settle_56 : decode cX7_settle 56 = .ok (.istore_n 3, 1) := by decide +kernel
theorem dX7_settle_57 : decode cX7_settle 57 = .ok (.aload_n 0, 1) := by decide +kernel
theorem dX7_settle_58 : decode cX7_settle 58 = .ok (.getfield 9, 3) := by decide +kernel
theorem dX7_settle_61 : decode cX7_settle 61 = .ok (.aload_n 0, 1) := by decide +kernel
theorem dX7_settle_62 : decode cX7_settle 62 = .ok (.getfield 67, 3) := by decide +kernel
theorem dX7_settle_65 : decode cX7_settle 65 = .ok (.aload_n 0, 1) := by decide +kernel
theorem dX7_settle_66 : decode cX7_settle 66 = .ok (.getfield 20, 3) := by decide +kernel
theorem dX7_settle_69 : decode cX7_settle 69 = .ok (.aload_n 0, 1) := by decide +kernel
theorem dX7_settle_70 : decode cX7_settle 70 = .ok (.iload_n 3, 1) := by decide +kernel
theorem dX7_settle_71 : decode cX7_settle 71 = .ok (.invokevirtual 199, 3) := by decide +kernel
theorem dX7_settle_74 : decode cX7_settle 74 = .ok (.aload_n 0, 1) := by decide +kernel
theorem dX7_settle_75 : decode cX7_settle 75 = .ok (.getfield 9, 3) := by decide +kernel
theorem dX7_settle_78 : decode cX7_settle 78 = .ok (.aload_n 0, 1) := by decide +kernel
theorem dX7_settle_79 : decode cX7_settle 79 = .ok (.getfield 67, 3) := by decide +kernel
theorem dX7_settle_82 : decode cX7_settle 82 = .ok (.iaload, 1) := by decide +kernel
theorem dX7_settle_83 : decode cX7_settle 83 = .ok (.iload_n 3, 1) := by decide +kernel
theorem dX7_settle_84 : decode cX7_settle 84 = .ok (.aload_n 0, 1) := by decide +kernel
theorem dX7_settle_85 : decode cX7_settle 85 = .ok (.getfield 9, 3) := by decide +kernel
theorem dX7_settle_88 : decode cX7_settle 88 = .ok (.aload_n 0, 1) := by decide +kernel
theorem dX7_settle_89 : decode cX7_settle 89 = .ok (.getfield 67, 3) := by decide +kernel
theorem dX7_settle_92 : decode cX7_settle 92 = .ok (.iconst 1, 1) := by decide +kernel
theorem dX7_settle_93 : decode cX7_settle 93 = .ok (.iadd, 1) := by decide +kernel
theorem dX7_settle_94 : decode cX7_settle 94 = .ok (.iaload, 1) := by decide +kernel
theorem dX7_settle_95 : decode cX7_settle 95 = .ok (.invokevirtual 205, 3) := by decide +kernel
theorem dX7_settle_98 : decode cX7_settle 98 = .ok (.iastore, 1) := by decide +kernel
theorem dX7_settle_99 : decode cX7_settle 99 = .ok (.goto (-99), 3) := by decide +kernel
theorem dX7_settle_102 : decode cX7_settle 102 = .ok (.return_, 1) := by decide +kernel
theorem dX7_take_0 : decode cX7_take 0 = .ok (.aload_n 0, 1) := by decide +kernel
theorem dX7_take_1 : decode cX7_take 1 = .ok (.iload_n 1, 1) := by decide +kernel
theorem dX7_take_2 : decode cX7_take 2 = .ok (.invokevirtual 40, 3) := by decide +kernel
theorem dX7_take_5 : decode cX7_take 5 = .ok (.invokestatic 43, 3) := by decide +kernel
theorem dX7_take_8 : decode cX7_take 8 = .ok (.return_, 1) := by decide +kernel
theorem dX7_closes_0 : decode cX7_closes 0 = .ok (.aload_n 0, 1) := by decide +kernel
theorem dX7_closes_1 : decode cX7_closes 1 = .ok (.iload_n 1, 1) := by decide +kernel
theorem dX7_closes_2 : decode cX7_closes 2 = .ok (.invokevirtual 60, 3) := by decide +kernel
theorem dX7_closes_5 : decode cX7_closes 5 = .ok (.aload_n 0, 1) := by decide +kernel
theorem dX7_closes_6 : decode cX7_closes 6 = .ok (.dup, 1) := by decide +kernel
theorem dX7_closes_7 : decode cX7_closes 7 = .ok (.getfield 47, 3) := by decide +kernel
theorem dX7_closes_10 : decode cX7_closes 10 = .ok (.iconst 1, 1) := by decide +kernel
theorem dX7_closes_11 : decode cX7_closes 11 = .ok (.isub, 1) := by decide +kernel
theorem dX7_closes_12 : decode cX7_closes 12 = .ok (.putfield 47, 3) := by decide +kernel
theorem dX7_closes_15 : decode cX7_closes 15 = .ok (.return_, 1) := by decide +kernel
theorem dX7_call_0 : decode cX7_call 0 = .ok (.aload_n 0, 1) := by decide +kernel
theorem dX7_call_1 : decode cX7_call 1 = .ok (.getfield 20, 3) := by decide +kernel
theorem dX7_call_4 : decode cX7_call 4 = .ok (.bipush 39, 2) := by decide +kernel
theorem dX7_call_6 : decode cX7_call 6 = .ok (.iload_n 2, 1) := by decide +kernel
theorem dX7_call_7 : decode cX7_call 7 = .ok (.iload_n 1, 1) := by decide +kernel
theorem dX7_call_8 : decode cX7_call 8 = .ok (.iload_n 2, 1) := by decide +kernel
theorem dX7_call_9 : decode cX7_call 9 = .ok (.invokevirtual 70, 3) := by decide +kernel
theorem dX7_call_12 : decode cX7_call 12 = .ok (.istore_n 3, 1) := by decide +kernel
theorem dX7_call_13 : decode cX7_call 13 = .ok (.aload_n 0, 1) := by decide +kernel
theorem dX7_call_14 : decode cX7_call 14 = .ok (.invokevirtual 57, 3) := by decide +kernel
theorem dX7_call_17 : decode cX7_call 17 = .ok (.aload_n 0, 1) := by decide +kernel
theorem dX7_call_18 : decode cX7_call 18 = .ok (.bipush 41, 2) := by decide +kernel
theorem dX7_call_20 : decode cX7_call 20 = .ok (.invokevirtual 33, 3) := by decide +kernel
theorem dX7_call_23 : decode cX7_call 23 = .ok (.ifCond .ne 39, 3) := by decide +kernel
theorem dX7_call_26 : decode cX7_call 26 = .ok (.aload_n 0, 1) := by decide +kernel
theorem dX7_call_27 : decode cX7_call 27 = .ok (.getfield 20, 3) := by decide +kernel
theorem dX7_call_30 : decode cX7_call 30 = .ok (.iload_n 3, 1) := by decide +kernel
theorem dX7_call_31 : decode cX7_call 31 = .ok (.aload_n 0, 1) := by decide +kernel
theorem dX7_call_32 : decode cX7_call 32 = .ok (.invokevirtual 140, 3) := by decide +kernel
theorem dX7_call_35 : decode cX7_call 35 = .ok (.invokevirtual 85, 3) := by decide +kernel
theorem dX7_call_38 : decode cX7_call 38 = .ok (.aload_n 0, 1) := by decide +kernel
theorem dX7_call_39 : decode cX7_call 39 = .ok (.bipush 44, 2) := by decide +kernel
theorem dX7_call_41 : decode cX7_call 41 = .ok (.invokevirtual 40, 3) := by decide +kernel
theorem dX7_call_44 : decode cX7_call 44 = .ok (.ifCond .eq 18, 3) := by decide +kernel
theorem dX7_call_47 : decode cX7_call 47 = .ok (.aload_n 0, 1) := by decide +kernel
theorem dX7_call_48 : decode cX7_call 48 = .ok (.getfield 20, 3) := by decide +kernel
theorem dX7_call_51 : decode cX7_call 51 = .ok (.iload_n 3, 1) := by decide +kernel
theorem dX7_call_52 : decode cX7_call 52 = .ok (.aload_n 0, 1) := by decide +kernel
theorem dX7_call_53 : decode cX7_call 53 = .ok (.invokevirtual 140, 3) := by decide +kernel
theorem dX7_call_56 : decode cX7_call 56 = .ok (.invokevirtual 85, 3) := by decide +kernel
theorem dX7_call_59 : decode cX7_call 59 = .ok (.goto (-21), 3) := by decide +kernel
theorem dX7_call_62 : decode cX7_call 62 = .ok (.aload_n 0, 1) := by decide +kernel
theorem dX7_call_63 : decode cX7_call 63 = .ok (.bipush 41, 2) := by decide +kernel
theorem dX7_call_65 : decode cX7_call 65 = .ok (.invokevirtual 109, 3) := by decide +kernel
theorem dX7_call_68 : decode cX7_call 68 = .ok (.iload_n 3, 1) := by decide +kernel
theorem dX7_call_69 : decode cX7_call 69 = .ok (.ireturn, 1) := by decide +kernel
theorem dX7_declaration_0 : decode cX7_declaration 0 = .ok (.aload_n 0, 1) := by decide +kernel
theorem dX7_declaration_1 : decode cX7_declaration 1 = .ok (.getfield 16, 3) := by decide +kernel
theorem dX7_declaration_4 : decode cX7_declaration 4 = .ok (.invokevirtual 27, 3) := by decide +kernel
theorem dX7_declaration_7 : decode cX7_declaration 7 = .ok (.sipush 200, 3) := by decide +kernel
theorem dX7_declaration_10 : decode cX7_declaration 10 = .ok (.isub, 1) := by decide +kernel
theorem dX7_declaration_11 : decode cX7_declaration 11 = .ok (.istore_n 1, 1) := by decide +kernel
theorem dX7_declaration_12 : decode cX7_declaration 12 = .ok (.iload_n 1, 1) := by decide +kernel
theorem dX7_declaration_13 : decode cX7_declaration 13 = .ok (.ifCond .lt 12, 3) := by decide +kernel
theorem dX7_declaration_16 : decode cX7_declaration 16 = .ok (.iload_n 1, 1) := by decide +kernel
theorem dX7_declaration_17 : decode cX7_declaration 17 = .ok (.iconst 2, 1) := by decide +kernel
theorem dX7_declaration_18 : decode cX7_declaration 18 = .ok (.if_icmp .gt 7, 3) := by decide +kernel
theorem dX7_declaration_21 : decode cX7_declaration 21 = .ok (.iconst 1, 1) := by decide +kernel
theorem dX7_declaration_22 : decode cX7_declaration 22 = .ok (.goto 4, 3) := by decide +kernel
theorem dX7_declaration_25 : decode cX7_declaration 25 = .ok (.iconst 0, 1) := by decide +kernel
theorem dX7_declaration_26 : decode cX7_declaration 26 = .ok (.invokestatic 43, 3) := by decide +kernel
theorem dX7_declaration_29 : decode cX7_declaration 29 = .ok (.aload_n 0, 1) := by decide +kernel
theorem dX7_declaration_30 : decode cX7_declaration 30 = .ok (.getfield 16, 3) := by decide +kernel
theorem dX7_declaration_33 : decode cX7_declaration 33 = .ok (.invokevirtual 37, 3) := by decide +kernel
theorem dX7_declaration_36 : decode cX7_declaration 36 = .ok (.aload_n 0, 1) := by decide +kernel
theorem dX7_declaration_37 : decode cX7_declaration 37 = .ok (.getfield 16, 3) := by decide +kernel
theorem dX7_declaration_40 : decode cX7_declaration 40 = .ok (.invokevirtual 89, 3) := by decide +kernel
theorem dX7_declaration_43 : decode cX7_declaration 43 = .ok (.istore_n 2, 1) := by decide +kernel
theorem dX7_declaration_44 : decode cX7_declaration 44 = .ok (.aload_n 0, 1) := by decide +kernel
theorem dX7_declaration_45 : decode cX7_declaration 45 = .ok (.invokevirtual 105, 3) := by decide +kernel
theorem dX7_declaration_48 : decode cX7_declaration 48 = .ok (.istore_n 3, 1) := by decide +kernel
theorem dX7_declaration_49 : decode cX7_declaration 49 = .ok (.iload_n 1, 1) := by decide +kernel
theorem dX7_declaration_50 : decode cX7_declaration 50 = .ok (.iconst 2, 1) := by decide +kernel
theorem dX7_declaration_51 : decode cX7_declaration 51 = .ok (.if_icmp .eq 12, 3) := by decide +kernel
theorem dX7_declaration_54 : decode cX7_declaration 54 = .ok (.aload_n 0, 1) := by decide +kernel
theorem dX7_declaration_55 : decode cX7_declaration 55 = .ok (.bipush 40, 2) := by decide +kernel
theorem dX7_declaration_57 : decode cX7_declaration 57 = .ok (.invokevirtual 33, 3) := by decide +kernel
theorem dX7_declaration_60 : decode cX7_declaration 60 = .ok (.ifCond .eq 11, 3) := by decide +kernel
theorem dX7_declaration_63 : decode cX7_declaration 63 = .ok (.aload_n 0, 1) := by decide +kernel
theorem dX7_declaration_64 : decode cX7_declaration 64 = .ok (.iload_n 1, 1) := by decide +kernel
theorem dX7_declaration_65 : decode cX7_declaration 65 = .ok (.iload_n 3, 1) := by decide +kernel
theorem dX7_declaration_66 : decode cX7_declaration 66 = .ok (.iload_n 2, 1) := by decide +kernel
theorem dX7_declaration_67 : decode cX7_declaration 67 = .ok (.invokevirtual 112, 3) := by decide +kernel
theorem dX7_declaration_70 : decode cX7_declaration 70 = .ok (.ireturn, 1) := by decide +kernel
theorem dX7_declaration_71 : decode cX7_declaration 71 = .ok (.aload_n 0, 1) := by decide +kernel
theorem dX7_declaration_72 : decode cX7_declaration 72 = .ok (.getfield 20, 3) := by decide +kernel
theorem dX7_declaration_75 : decode cX7_declaration 75 = .ok (.bipush 6, 2) := by decide +kernel
theorem dX7_declaration_77 : decode cX7_declaration 77 = .ok (.iload_n 1, 1) := by decide +kernel
theorem dX7_declaration_78 : decode cX7_declaration 78 = .ok (.iconst 0, 1) := by decide +kernel
theorem dX7_declaration_79 : decode cX7_declaration 79 = .ok (.iload_n 2, 1) := by decide +kernel
theorem dX7_declaration_80 : decode cX7_declaration 80 = .ok (.invokevirtual 70, 3) := by decide +kernel
theorem dX7_declaration_83 : decode cX7_declaration 83 = .ok (.istore 4, 2) := by decide +kernel
theorem dX7_declaration_85 : decode cX7_declaration 85 = .ok (.aload_n 0, 1) := by decide +kernel
theorem dX7_declaration_86 : decode cX7_declaration 86 = .ok (.getfield 20, 3) := by decide +kernel
theorem dX7_declaration_89 : decode cX7_declaration 89 = .ok (.iload 4, 2) := by decide +kernel
theorem dX7_declaration_91 : decode cX7_declaration 91 = .ok (.aload_n 0, 1) := by decide +kernel
theorem dX7_declaration_92 : decode cX7_declaration 92 = .ok (.iload_n 3, 1) := by decide +kernel
theorem dX7_declaration_93 : decode cX7_declaration 93 = .ok (.iload_n 2, 1) := by decide +kernel
theorem dX7_declaration_94 : decode cX7_declaration 94 = .ok (.invokevirtual 115, 3) := by decide +kernel
theorem dX7_declaration_97 : decode cX7_declaration 97 = .ok (.invokevirtual 85, 3) := by decide +kernel
theorem dX7_declaration_100 : decode cX7_declaration 100 = .ok (.aload_n 0, 1) := by decide +kernel
theorem dX7_declaration_101 : decode cX7_declaration 101 = .ok (.bipush 44, 2) := by decide +kernel
theorem dX7_declaration_103 : decode cX7_declaration 103 = .ok (.invokevirtual 40, 3) := by decide +kernel
theorem dX7_declaration_106 : decode cX7_declaration 106 = .ok (.ifCond .eq 38, 3) := by decide +kernel
theorem dX7_declaration_109 : decode cX7_declaration 109 = .ok (.aload_n 0, 1) := by decide +kernel
theorem dX7_declaration_110 : decode cX7_declaration 110 = .ok (.getfield 16, 3) := by decide +kernel
theorem dX7_declaration_113 : decode cX7_declaration 113 = .ok (.invokevirtual 89, 3) := by decide +kernel
theorem dX7_declaration_116 : decode cX7_declaration 116 = .ok (.istore 5, 2) := by decide +kernel
theorem dX7_declaration_118 : decode cX7_declaration 118 = .ok (.aload_n 0, 1) := by decide +kernel
theorem dX7_declaration_119 : decode cX7_declaration 119 = .ok (.invokevirtual 105, 3) := by decide +kernel
theorem dX7_declaration_122 : decode cX7_declaration 122 = .ok (.istore 6, 2) := by decide +kernel
theorem dX7_declaration_124 : decode cX7_declaration 124 = .ok (.aload_n 0, 1) := by decide +kernel
theorem dX7_declaration_125 : decode cX7_declaration 125 = .ok (.getfield 20, 3) := by decide +kernel
theorem dX7_declaration_128 : decode cX7_declaration 128 = .ok (.iload 4, 2) := by decide +kernel
theorem dX7_declaration_130 : decode cX7_declaration 130 = .ok (.aload_n 0, 1) := by decide +kernel
theorem dX7_declaration_131 : decode cX7_declaration 131 = .ok (.iload 6, 2) := by decide +kernel
theorem dX7_declaration_133 : decode cX7_declaration 133 = .ok (.iload 5, 2) := by decide +kernel
theorem dX7_declaration_135 : decode cX7_declaration 135 = .ok (.invokevirtual 115, 3) := by decide +kernel
theorem dX7_declaration_138 : decode cX7_declaration 138 = .ok (.invokevirtual 85, 3) := by decide +kernel
theorem dX7_declaration_141 : decode cX7_declaration 141 = .ok (.goto (-41), 3) := by decide +kernel
theorem dX7_declaration_144 : decode cX7_declaration 144 = .ok (.aload_n 0, 1) := by decide +kernel
theorem dX7_declaration_145 : decode cX7_declaration 145 = .ok (.bipush 59, 2) := by decide +kernel
theorem dX7_declaration_147 : decode cX7_declaration 147 = .ok (.invokevirtual 60, 3) := by decide +kernel
theorem dX7_declaration_150 : decode cX7_declaration 150 = .ok (.iload 4, 2) := by decide +kernel
theorem dX7_declaration_152 : decode cX7_declaration 152 = .ok (.ireturn, 1) := by decide +kernel
theorem dX7_function_0 : decode cX7_function 0 = .ok (.aload_n 0, 1) := by decide +kernel
theorem dX7_function_1 : decode cX7_function 1 = .ok (.getfield 20, 3) := by decide +kernel
theorem dX7_function_4 : decode cX7_function 4 = .ok (.iconst 4, 1) := by decide +kernel
theorem dX7_function_5 : decode cX7_function 5 = .ok (.iload_n 1, 1) := by decide +kernel
theorem dX7_function_6 : decode cX7_function 6 = .ok (.iload_n 2, 1) := by decide +kernel
theorem dX7_function_7 : decode cX7_function 7 = .ok (.iload_n 3, 1) := by decide +kernel
theorem dX7_function_8 : decode cX7_function 8 = .ok (.invokevirtual 70, 3) := by decide +kernel
theorem dX7_function_11 : decode cX7_function 11 = .ok (.istore 4, 2) := by decide +kernel
theorem dX7_function_13 : decode cX7_function 13 = .ok (.aload_n 0, 1) := by decide +kernel
theorem dX7_function_14 : decode cX7_function 14 = .ok (.bipush 40, 2) := by decide +kernel
theorem dX7_function_16 : decode cX7_function 16 = .ok (.invokevirtual 102, 3) := by decide +kernel
theorem dX7_function_19 : decode cX7_function 19 = .ok (.aload_n 0, 1) := by decide +kernel
theorem dX7_function_20 : decode cX7_function 20 = .ok (.iconst 2, 1) := by decide +kernel
theorem dX7_function_21 : decode cX7_function 21 = .ok (.invokevirtual 119, 3) := by decide +kernel
theorem dX7_function_24 : decode cX7_function 24 = .ok (.ifCond .ne 50, 3) := by decide +kernel
theorem dX7_function_27 : decode cX7_function 27 = .ok (.aload_n 0, 1) := by decide +kernel
theorem dX7_function_28 : decode cX7_function 28 = .ok (.bipush 41, 2) := by decide +kernel
theorem dX7_function_30 : decode cX7_function 30 = .ok (.invokevirtual 33, 3) := by decide +kernel
theorem dX7_function_33 : decode cX7_function 33 = .ok (.ifCond .ne 41, 3) := by decide +kernel
theorem dX7_function_36 : decode cX7_function 36 = .ok (.aload_n 0, 1) := by decide +kernel
theorem dX7_function_37 : decode cX7_function 37 = .ok (.getfield 20, 3) := by decide +kernel
theorem dX7_function_40 : decode cX7_function 40 = .ok (.iload 4, 2) := by decide +kernel
theorem dX7_function_42 : decode cX7_function 42 = .ok (.aload_n 0, 1) := by decide +kernel
theorem dX7_function_43 : decode cX7_function 43 = .ok (.invokevirtual 122, 3) := by decide +kernel
theorem dX7_function_46 : decode cX7_function 46 = .ok (.invokevirtual 85, 3) := by decide +kernel
theorem dX7_function_49 : decode cX7_function 49 = .ok (.aload_n 0, 1) := by decide +kernel
theorem dX7_function_50 : decode cX7_function 50 = .ok (.bipush 44, 2) := by decide +kernel
theorem dX7_function_52 : decode cX7_function 52 = .ok (.invokevirtual 40, 3) := by decide +kernel
theorem dX7_function_55 : decode cX7_function 55 = .ok (.ifCond .eq 19, 3) := by decide +kernel
theorem dX7_function_58 : decode cX7_function 58 = .ok (.aload_n 0, 1) := by decide +kernel
theorem dX7_function_59 : decode cX7_function 59 = .ok (.getfield 20, 3) := by decide +kernel
theorem dX7_function_62 : decode cX7_function 62 = .ok (.iload 4, 2) := by decide +kernel
theorem dX7_function_64 : decode cX7_function 64 = .ok (.aload_n 0, 1) := by decide +kernel
theorem dX7_function_65 : decode cX7_function 65 = .ok (.invokevirtual 122, 3) := by decide +kernel
theorem dX7_function_68 : decode cX7_function 68 = .ok (.invokevirtual 85, 3) := by decide +kernel
theorem dX7_function_71 : decode cX7_function 71 = .ok (.goto (-22), 3) := by decide +kernel
theorem dX7_function_74 : decode cX7_function 74 = .ok (.aload_n 0, 1) := by decide +kernel
theorem dX7_function_75 : decode cX7_function 75 = .ok (.bipush 41, 2) := by decide +kernel
theorem dX7_function_77 : decode cX7_function 77 = .ok (.invokevirtual 109, 3) := by decide +kernel
theorem dX7_function_80 : decode cX7_function 80 = .ok (.aload_n 0, 1) := by decide +kernel
theorem dX7_function_81 : decode cX7_function 81 = .ok (.getfield 20, 3) := by decide +kernel
theorem dX7_function_84 : decode cX7_function 84 = .ok (.iload 4, 2) := by decide +kernel
theorem dX7_function_86 : decode cX7_function 86 = .ok (.aload_n 0, 1) := by decide +kernel
theorem dX7_function_87 : decode cX7_function 87 = .ok (.invokevirtual 125, 3) := by decide +kernel
theorem dX7_function_90 : decode cX7_function 90 = .ok (.invokevirtual 85, 3) := by decide +kernel
theorem dX7_function_93 : decode cX7_function 93 = .ok (.iload 4, 2) := by decide +kernel
theorem dX7_function_95 : decode cX7_function 95 = .ok (.ireturn, 1) := by decide +kernel
theorem dX7_takesWord_0 : decode cX7_takesWord 0 = .ok (.aload_n 0, 1) := by decide +kernel
theorem dX7_takesWord_1 : decode cX7_takesWord 1 = .ok (.sipush 200, 3) := by decide +kernel
theorem dX7_takesWord_4 : decode cX7_takesWord 4 = .ok (.iload_n 1, 1) := by decide +kernel
theorem dX7_takesWord_5 : decode cX7_takesWord 5 = .ok (.iadd, 1) := by decide +kernel
theorem dX7_takesWord_6 : decode cX7_takesWord 6 = .ok (.invokevirtual 40, 3) := by decide +kernel
theorem dX7_takesWord_9 : decode cX7_takesWord 9 = .ok (.ireturn, 1) := by decide +kernel
theorem dX7_parameter_0 : decode cX7_parameter 0 = .ok (.aload_n 0, 1) := by decide +kernel
theorem dX7_parameter_1 : decode cX7_parameter 1 = .ok (.getfield 16, 3) := by decide +kernel
theorem dX7_parameter_4 : decode cX7_parameter 4 = .ok (.invokevirtual 27, 3) := by decide +kernel
theorem dX7_parameter_7 : decode cX7_parameter 7 = .ok (.sipush 200, 3) := by decide +kernel
theorem dX7_parameter_10 : decode cX7_parameter 10 = .ok (.isub, 1) := by decide +kernel
theorem dX7_parameter_11 : decode cX7_parameter 11 = .ok (.istore_n 1, 1) := by decide +kernel
theorem dX7_parameter_12 : decode cX7_parameter 12 = .ok (.iload_n 1, 1) := by decide +kernel
theorem dX7_parameter_13 : decode cX7_parameter 13 = .ok (.ifCond .eq 8, 3) := by decide +kernel
theorem dX7_parameter_16 : decode cX7_parameter 16 = .ok (.iload_n 1, 1) := by decide +kernel
theorem dX7_parameter_17 : decode cX7_parameter 17 = .ok (.iconst 1, 1) := by decide +kernel
theorem dX7_parameter_18 : decode cX7_parameter 18 = .ok (.if_icmp .ne 7, 3) := by decide +kernel
theorem dX7_parameter_21 : decode cX7_parameter 21 = .ok (.iconst 1, 1) := by decide +kernel
theorem dX7_parameter_22 : decode cX7_parameter 22 = .ok (.goto 4, 3) := by decide +kernel
theorem dX7_parameter_25 : decode cX7_parameter 25 = .ok (.iconst 0, 1) := by decide +kernel
theorem dX7_parameter_26 : decode cX7_parameter 26 = .ok (.invokestatic 43, 3) := by decide +kernel
theorem dX7_parameter_29 : decode cX7_parameter 29 = .ok (.aload_n 0, 1) := by decide +kernel
theorem dX7_parameter_30 : decode cX7_parameter 30 = .ok (.getfield 16, 3) := by decide +kernel
theorem dX7_parameter_33 : decode cX7_parameter 33 = .ok (.invokevirtual 37, 3) := by decide +kernel
theorem dX7_parameter_36 : decode cX7_parameter 36 = .ok (.aload_n 0, 1) := by decide +kernel
theorem dX7_parameter_37 : decode cX7_parameter 37 = .ok (.getfield 16, 3) := by decide +kernel
theorem dX7_parameter_40 : decode cX7_parameter 40 = .ok (.invokevirtual 89, 3) := by decide +kernel
theorem dX7_parameter_43 : decode cX7_parameter 43 = .ok (.istore_n 2, 1) := by decide +kernel
theorem dX7_parameter_44 : decode cX7_parameter 44 = .ok (.aload_n 0, 1) := by decide +kernel
theorem dX7_parameter_45 : decode cX7_parameter 45 = .ok (.getfield 20, 3) := by decide +kernel
theorem dX7_parameter_48 : decode cX7_parameter 48 = .ok (.iconst 5, 1) := by decide +kernel
theorem dX7_parameter_49 : decode cX7_parameter 49 = .ok (.iload_n 1, 1) := by decide +kernel
theorem dX7_parameter_50 : decode cX7_parameter 50 = .ok (.aload_n 0, 1) := by decide +kernel
theorem dX7_parameter_51 : decode cX7_parameter 51 = .ok (.invokevirtual 105, 3) := by decide +kernel
theorem dX7_parameter_54 : decode cX7_parameter 54 = .ok (.iload_n 2, 1) := by decide +kernel
theorem dX7_parameter_55 : decode cX7_parameter 55 = .ok (.invokevirtual 70, 3) := by decide +kernel
theorem dX7_parameter_58 : decode cX7_parameter 58 = .ok (.istore_n 3, 1) := by decide +kernel
theorem dX7_parameter_59 : decode cX7_parameter 59 = .ok (.aload_n 0, 1) := by decide +kernel
theorem dX7_parameter_60 : decode cX7_parameter 60 = .ok (.bipush 91, 2) := by decide +kernel
theorem dX7_parameter_62 : decode cX7_parameter 62 = .ok (.invokevirtual 33, 3) := by decide +kernel
theorem dX7_parameter_65 : decode cX7_parameter 65 = .ok (.ifCond .eq 24, 3) := by decide +kernel
theorem dX7_parameter_68 : decode cX7_parameter 68 = .ok (.aload_n 0, 1) := by decide +kernel
theorem dX7_parameter_69 : decode cX7_parameter 69 = .ok (.bipush 91, 2) := by decide +kernel
theorem dX7_parameter_71 : decode cX7_parameter 71 = .ok (.invokevirtual 102, 3) := by decide +kernel
theorem dX7_parameter_74 : decode cX7_parameter 74 = .ok (.aload_n 0, 1) := by decide +kernel
theorem dX7_parameter_75 : decode cX7_parameter 75 = .ok (.bipush 93, 2) := by decide +kernel
theorem dX7_parameter_77 : decode cX7_parameter 77 = .ok (.invokevirtual 109, 3) := by decide +kernel
theorem dX7_parameter_80 : decode cX7_parameter 80 = .ok (.aload_n 0, 1) := by decide +kernel
theorem dX7_parameter_81 : decode cX7_parameter 81 = .ok (.getfield 20, 3) := by decide +kernel
theorem dX7_parameter_84 : decode cX7_parameter 84 = .ok (.iload_n 3, 1) := by decide +kernel
theorem dX7_parameter_85 : decode cX7_parameter 85 = .ok (.iconst 1, 1) := by decide +kernel
theorem dX7_parameter_86 : decode cX7_parameter 86 = .ok (.invokevirtual 128, 3) := by decide +kernel
theorem dX7_parameter_89 : decode cX7_parameter 89 = .ok (.iload_n 3, 1) := by decide +kernel
theorem dX7_parameter_90 : decode cX7_parameter 90 = .ok (.ireturn, 1) := by decide +kernel
theorem dX7_block_0 : decode cX7_block 0 = .ok (.aload_n 0, 1) := by decide +kernel
theorem dX7_block_1 : decode cX7_block 1 = .ok (.getfield 20, 3) := by decide +kernel
theorem dX7_block_4 : decode cX7_block 4 = .ok (.bipush 10, 2) := by decide +kernel
theorem dX7_block_6 : decode cX7_block 6 = .ok (.iconst 0, 1) := by decide +kernel
theorem dX7_block_7 : decode cX7_block 7 = .ok (.iconst 0, 1) := by decide +kernel
theorem dX7_block_8 : decode cX7_block 8 = .ok (.aload_n 0, 1) := by decide +kernel
theorem dX7_block_9 : decode cX7_block 9 = .ok (.getfield 16, 3) := by decide +kernel
theorem dX7_block_12 : decode cX7_block 12 = .ok (.invokevirtual 89, 3) := by decide +kernel
theorem dX7_block_15 : decode cX7_block 15 = .ok (.invokevirtual 70, 3) := by decide +kernel
theorem dX7_block_18 : decode cX7_block 18 = .ok (.istore_n 1, 1) := by decide +kernel
theorem dX7_block_19 : decode cX7_block 19 = .ok (.aload_n 0, 1) := by decide +kernel
theorem dX7_block_20 : decode cX7_block 20 = .ok (.bipush 123, 2) := by decide +kernel
theorem dX7_block_22 : decode cX7_block 22 = .ok (.invokevirtual 102, 3) := by decide +kernel
theorem dX7_block_25 : decode cX7_block 25 = .ok (.aload_n 0, 1) := by decide +kernel
theorem dX7_block_26 : decode cX7_block 26 = .ok (.bipush 125, 2) := by decide +kernel
theorem dX7_block_28 : decode cX7_block 28 = .ok (.invokevirtual 33, 3) := by decide +kernel
theorem dX7_block_31 : decode cX7_block 31 = .ok (.ifCond .ne 18, 3) := by decide +kernel
theorem dX7_block_34 : decode cX7_block 34 = .ok (.aload_n 0, 1) := by decide +kernel
theorem dX7_block_35 : decode cX7_block 35 = .ok (.getfield 20, 3) := by decide +kernel
theorem dX7_block_38 : decode cX7_block 38 = .ok (.iload_n 1, 1) := by decide +kernel
theorem dX7_block_39 : decode cX7_block 39 = .ok (.aload_n 0, 1) := by decide +kernel
theorem dX7_block_40 : decode cX7_block 40 = .ok (.invokevirtual 147, 3) := by decide +kernel
theorem dX7_block_43 : decode cX7_block 43 = .ok (.invokevirtual 85, 3) := by decide +kernel
theorem dX7_block_46 : decode cX7_block 46 = .ok (.goto (-21), 3) := by decide +kernel
theorem dX7_block_49 : decode cX7_block 49 = .ok (.aload_n 0, 1) := by decide +kernel
theorem dX7_block_50 : decode cX7_block 50 = .ok (.bipush 125, 2) := by decide +kernel
theorem dX7_block_52 : decode cX7_block 52 = .ok (.invokevirtual 109, 3) := by decide +kernel
theorem dX7_block_55 : decode cX7_block 55 = .ok (.iload_n 1, 1) := by decide +kernel
theorem dX7_block_56 : decode cX7_block 56 = .ok (.ireturn, 1) := by decide +kernel
theorem dX7_statement_0 : decode cX7_statement 0 = .ok (.aload_n 0, 1) := by decide +kernel
theorem dX7_statement_1 : decode cX7_statement 1 = .ok (.getfield 16, 3) := by decide +kernel
theorem dX7_statement_4 : decode cX7_statement 4 = .ok (.invokevirtual 89, 3) := by decide +kernel
theorem dX7_statement_7 : decode cX7_statement 7 = .ok (.istore_n 1, 1) := by decide +kernel
theorem dX7_statement_8 : decode cX7_statement 8 = .ok (.aload_n 0, 1) := by decide +kernel
theorem dX7_statement_9 : decode cX7_statement 9 = .ok (.bipush 123, 2) := by decide +kernel
theorem dX7_statement_11 : decode cX7_statement 11 = .ok (.invokevirtual 33, 3) := by decide +kernel
theorem dX7_statement_14 : decode cX7_statement 14 = .ok (.ifCond .eq 8, 3) := by decide +kernel
theorem dX7_statement_17 : decode cX7_statement 17 = .ok (.aload_n 0, 1) := by decide +kernel
theorem dX7_statement_18 : decode cX7_statement 18 = .ok (.invokevirtual 125, 3) := by decide +kernel
theorem dX7_statement_21 : decode cX7_statement 21 = .ok (.ireturn, 1) := by decide +kernel
theorem dX7_statement_22 : decode cX7_statement 22 = .ok (.aload_n 0, 1) := by decide +kernel
theorem dX7_statement_23 : decode cX7_statement 23 = .ok (.invokevirtual 150, 3) := by decide +kernel
theorem dX7_statement_26 : decode cX7_statement 26 = .ok (.ifCond .eq 8, 3) := by decide +kernel
theorem dX7_statement_29 : decode cX7_statement 29 = .ok (.aload_n 0, 1) := by decide +kernel
theorem dX7_statement_30 : decode cX7_statement 30 = .ok (.invokevirtual 154, 3) := by decide +kernel
theorem dX7_statement_33 : decode cX7_statement 33 = .ok (.ireturn, 1) := by decide +kernel
theorem dX7_statement_34 : decode cX7_statement 34 = .ok (.aload_n 0, 1) := by decide +kernel
theorem dX7_statement_35 : decode cX7_statement 35 = .ok (.bipush 59, 2) := by decide +kernel
theorem dX7_statement_37 : decode cX7_statement 37 = .ok (.invokevirtual 40, 3) := by decide +kernel
theorem dX7_statement_40 : decode cX7_statement 40 = .ok (.ifCond .eq 16, 3) := by decide +kernel
theorem dX7_statement_43 : decode cX7_statement 43 = .ok (.aload_n 0, 1) := by decide +kernel
theorem dX7_statement_44 : decode cX7_statement 44 = .ok (.getfield 20, 3) := by decide +kernel
theorem dX7_statement_47 : decode cX7_statement 47 = .ok (.bipush 11, 2) := by decide +kernel
theorem dX7_statement_49 : decode cX7_statement 49 = .ok (.iconst 0, 1) := by decide +kernel
theorem dX7_statement_50 : decode cX7_statement 50 = .ok (.iconst 0, 1) := by decide +kernel
theorem dX7_statement_51 : decode cX7_statement 51 = .ok (.iload_n 1, 1) := by decide +kernel
theorem dX7_statement_52 : decode cX7_statement 52 = .ok (.invokevirtual 70, 3) := by decide +kernel
theorem dX7_statement_55 : decode cX7_statement 55 = .ok (.ireturn, 1) := by decide +kernel
theorem dX7_statement_56 : decode cX7_statement 56 = .ok (.aload_n 0, 1) := by decide +kernel
theorem dX7_statement_57 : decode cX7_statement 57 = .ok (.getfield 16, 3) := by decide +kernel
theorem dX7_statement_60 : decode cX7_statement 60 = .ok (.invokevirtual 27, 3) := by decide +kernel
theorem dX7_statement_63 : decode cX7_statement 63 = .ok (.sipush 200, 3) := by decide +kernel
theorem dX7_statement_66 : decode cX7_statement 66 = .ok (.isub, 1) := by decide +kernel
theorem dX7_statement_67 : decode cX7_statement 67 = .ok (.tableswitch 135 4 14 #[57, 135, 63, 69, 75, 81, 135, 135, 87, 87, 129], 57) := by decide +kernel
theorem dX7_statement_124 : decode cX7_statement 124 = .ok (.aload_n 0, 1) := by decide +kernel
theorem dX7_statement_125 : decode cX7_statement 125 = .ok (.iload_n 1, 1) := by decide +kernel
theorem dX7_statement_126 : decode cX7_statement 126 = .ok (.invokevirtual 157, 3) := by decide +kernel
theorem dX7_statement_129 : decode cX7_statement 129 = .ok (.ireturn, 1) := by decide +kernel
theorem dX7_statement_130 : decode cX7_statement 130 = .ok (.aload_n 0, 1) := by decide +kernel
theorem dX7_statement_131 : decode cX7_statement 131 = .ok (.iload_n 1, 1) := by decide +kernel
theorem dX7_statement_132 : decode cX7_statement 132 = .ok (.invokevirtual 160, 3) := by decide +kernel
theorem dX7_statement_135 : decode cX7_statement 135 = .ok (.ireturn, 1) := by decide +kernel
theorem dX7_statement_136 : decode cX7_statement 136 = .ok (.aload_n 0, 1) := by decide +kernel
theorem dX7_statement_137 : decode cX7_statement 137 = .ok (.iload_n 1, 1) := by decide +kernel
theorem dX7_statement_138 : decode cX7_statement 138 = .ok (.invokevirtual 163, 3) := by decide +kernel
theorem dX7_statement_141 : decode cX7_statement 141 = .ok (.ireturn, 1) := by decide +kernel
theorem dX7_statement_142 : decode cX7_statement 142 = .ok (.aload_n 0, 1) := by decide +kernel
theorem dX7_statement_143 : decode cX7_statement 143 = .ok (.iload_n 1, 1) := by decide +kernel
theorem dX7_statement_144 : decode cX7_statement 144 = .ok (.invokevirtual 166, 3) := by decide +kernel
theorem dX7_statement_147 : decode cX7_statement 147 = .ok (.ireturn, 1) := by decide +kernel
theorem dX7_statement_148 : decode cX7_statement 148 = .ok (.aload_n 0, 1) := by decide +kernel
theorem dX7_statement_149 : decode cX7_statement 149 = .ok (.iload_n 1, 1) := by decide +kernel
theorem dX7_statement_150 : decode cX7_statement 150 = .ok (.invokevirtual 169, 3) := by decide +kernel
theorem dX7_statement_153 : decode cX7_statement 153 = .ok (.ireturn, 1) := by decide +kernel
theorem dX7_statement_154 : decode cX7_statement 154 = .ok (.aload_n 0, 1) := by decide +kernel
theorem dX7_statement_155 : decode cX7_statement 155 = .ok (.getfield 20, 3) := by decide +kernel
theorem dX7_statement_158 : decode cX7_statement 158 = .ok (.aload_n 0, 1) := by decide +kernel
theorem dX7_statement_159 : decode cX7_statement 159 = .ok (.bipush 12, 2) := by decide +kernel
theorem dX7_statement_161 : decode cX7_statement 161 = .ok (.invokevirtual 76, 3) := by decide +kernel
theorem dX7_statement_164 : decode cX7_statement 164 = .ok (.ifCond .eq 8, 3) := by decide +kernel
theorem dX7_statement_167 : decode cX7_statement 167 = .ok (.bipush 20, 2) := by decide +kernel
theorem dX7_statement_169 : decode cX7_statement 169 = .ok (.goto 5, 3) := by decide +kernel
theorem dX7_statement_172 : decode cX7_statement 172 = .ok (.bipush 21, 2) := by decide +kernel
theorem dX7_statement_174 : decode cX7_statement 174 = .ok (.iconst 0, 1) := by decide +kernel
theorem dX7_statement_175 : decode cX7_statement 175 = .ok (.iconst 0, 1) := by decide +kernel
theorem dX7_statement_176 : decode cX7_statement 176 = .ok (.iload_n 1, 1) := by decide +kernel
theorem dX7_statement_177 : decode cX7_statement 177 = .ok (.invokevirtual 70, 3) := by decide +kernel
theorem dX7_statement_180 : decode cX7_statement 180 = .ok (.istore_n 2, 1) := by decide +kernel
theorem dX7_statement_181 : decode cX7_statement 181 = .ok (.aload_n 0, 1) := by decide +kernel
theorem dX7_statement_182 : decode cX7_statement 182 = .ok (.getfield 16, 3) := by decide +kernel
theorem dX7_statement_185 : decode cX7_statement 185 = .ok (.invokevirtual 37, 3) := by decide +kernel
theorem dX7_statement_188 : decode cX7_statement 188 = .ok (.aload_n 0, 1) := by decide +kernel
theorem dX7_statement_189 : decode cX7_statement 189 = .ok (.bipush 59, 2) := by decide +kernel
theorem dX7_statement_191 : decode cX7_statement 191 = .ok (.invokevirtual 60, 3) := by decide +kernel
theorem dX7_statement_194 : decode cX7_statement 194 = .ok (.iload_n 2, 1) := by decide +kernel
theorem dX7_statement_195 : decode cX7_statement 195 = .ok (.ireturn, 1) := by decide +kernel
theorem dX7_statement_196 : decode cX7_statement 196 = .ok (.aload_n 0, 1) := by decide +kernel
theorem dX7_statement_197 : decode cX7_statement 197 = .ok (.iload_n 1, 1) := by decide +kernel
theorem dX7_statement_198 : decode cX7_statement 198 = .ok (.invokevirtual 172, 3) := by decide +kernel
theorem dX7_statement_201 : decode cX7_statement 201 = .ok (.ireturn, 1) := by decide +kernel
theorem dX7_statement_202 : decode cX7_statement 202 = .ok (.aload_n 0, 1) := by decide +kernel
theorem dX7_statement_203 : decode cX7_statement 203 = .ok (.getfield 20, 3) := by decide +kernel
theorem dX7_statement_206 : decode cX7_statement 206 = .ok (.bipush 12, 2) := by decide +kernel
theorem dX7_statement_208 : decode cX7_statement 208 = .ok (.iconst 0, 1) := by decide +kernel
theorem dX7_statement_209 : decode cX7_statement 209 = .ok (.aload_n 0, 1) := by decide +kernel
theorem dX7_statement_210 : decode cX7_statement 210 = .ok (.invokevirtual 140, 3) := by decide +kernel
theorem dX7_statement_213 : decode cX7_statement 213 = .ok (.invokevirtual 95, 3) := by decide +kernel
theorem dX7_statement_216 : decode cX7_statement 216 = .ok (.istore_n 3, 1) := by decide +kernel
theorem dX7_statement_217 : decode cX7_statement 217 = .ok (.aload_n 0, 1) := by decide +kernel
theorem dX7_statement_218 : decode cX7_statement 218 = .ok (.getfield 20, 3) := by decide +kernel
theorem dX7_statement_221 : decode cX7_statement 221 = .ok (.iload_n 3, 1) := by decide +kernel
theorem dX7_statement_222 : decode cX7_statement 222 = .ok (.iload_n 1, 1) := by decide +kernel
theorem dX7_statement_223 : decode cX7_statement 223 = .ok (.invokevirtual 99, 3) := by decide +kernel
theorem dX7_statement_226 : decode cX7_statement 226 = .ok (.aload_n 0, 1) := by decide +kernel
theorem dX7_statement_227 : decode cX7_statement 227 = .ok (.bipush 59, 2) := by decide +kernel
theorem dX7_statement_229 : decode cX7_statement 229 = .ok (.invokevirtual 60, 3) := by decide +kernel
theorem dX7_statement_232 : decode cX7_statement 232 = .ok (.iload_n 3, 1) := by decide +kernel
theorem dX7_statement_233 : decode cX7_statement 233 = .ok (.ireturn, 1) := by decide +kernel
theorem dX7_isDeclaration_0 : decode cX7_isDeclaration 0 = .ok (.aload_n 0, 1) := by decide +kernel
theorem dX7_isDeclaration_1 : decode cX7_isDeclaration 1 = .ok (.iconst 0, 1) := by decide +kernel
theorem dX7_isDeclaration_2 : decode cX7_isDeclaration 2 = .ok (.invokevirtual 76, 3) := by decide +kernel
theorem dX7_isDeclaration_5 : decode cX7_isDeclaration 5 = .ok (.ifCond .ne 11, 3) := by decide +kernel
theorem dX7_isDeclaration_8 : decode cX7_isDeclaration 8 = .ok (.aload_n 0, 1) := by decide +kernel
theorem dX7_isDeclaration_9 : decode cX7_isDeclaration 9 = .ok (.iconst 1, 1) := by decide +kernel
theorem dX7_isDeclaration_10 : decode cX7_isDeclaration 10 = .ok (.invokevirtual 76, 3) := by decide +kernel
theorem dX7_isDeclaration_13 : decode cX7_isDeclaration 13 = .ok (.ifCond .eq 7, 3) := by decide +kernel
theorem dX7_isDeclaration_16 : decode cX7_isDeclaration 16 = .ok (.iconst 1, 1) := by decide +kernel
theorem dX7_isDeclaration_17 : decode cX7_isDeclaration 17 = .ok (.goto 4, 3) := by decide +kernel
theorem dX7_isDeclaration_20 : decode cX7_isDeclaration 20 = .ok (.iconst 0, 1) := by decide +kernel
theorem dX7_isDeclaration_21 : decode cX7_isDeclaration 21 = .ok (.ireturn, 1) := by decide +kernel
theorem dX7_variables_0 : decode cX7_variables 0 = .ok (.aload_n 0, 1) := by decide +kernel
theorem dX7_variables_1 : decode cX7_variables 1 = .ok (.getfield 20, 3) := by decide +kernel
theorem dX7_variables_4 : decode cX7_variables 4 = .ok (.bipush 6, 2) := by decide +kernel
theorem dX7_variables_6 : decode cX7_variables 6 = .ok (.aload_n 0, 1) := by decide +kernel
theorem dX7_variables_7 : decode cX7_variables 7 = .ok (.getfield 16, 3) := by decide +kernel
theorem dX7_variables_10 : decode cX7_variables 10 = .ok (.invokevirtual 27, 3) := by decide +kernel
theorem dX7_variables_13 : decode cX7_variables 13 = .ok (.sipush 200, 3) := by decide +kernel
theorem dX7_variables_16 : decode cX7_variables 16 = .ok (.isub, 1) := by decide +kernel
