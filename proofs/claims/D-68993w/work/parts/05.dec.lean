set_option maxRecDepth 100000
theorem dX16_run_36 : decode cX16_run 36 = .ok (.iinc 5 1, 3) := by decide +kernel
theorem dX16_run_39 : decode cX16_run 39 = .ok (.goto (-21), 3) := by decide +kernel
theorem dX16_run_42 : decode cX16_run 42 = .ok (.aload_n 0, 1) := by decide +kernel
theorem dX16_run_43 : decode cX16_run 43 = .ok (.getfield 32, 3) := by decide +kernel
theorem dX16_run_46 : decode cX16_run 46 = .ok (.getfield 54, 3) := by decide +kernel
theorem dX16_run_49 : decode cX16_run 49 = .ok (.iconst 2, 1) := by decide +kernel
theorem dX16_run_50 : decode cX16_run 50 = .ok (.ldc 59, 2) := by decide +kernel
theorem dX16_run_52 : decode cX16_run 52 = .ok (.iastore, 1) := by decide +kernel
theorem dX16_run_53 : decode cX16_run 53 = .ok (.aload_n 0, 1) := by decide +kernel
theorem dX16_run_54 : decode cX16_run 54 = .ok (.getfield 32, 3) := by decide +kernel
theorem dX16_run_57 : decode cX16_run 57 = .ok (.getfield 54, 3) := by decide +kernel
theorem dX16_run_60 : decode cX16_run 60 = .ok (.bipush 10, 2) := by decide +kernel
theorem dX16_run_62 : decode cX16_run 62 = .ok (.iload_n 2, 1) := by decide +kernel
theorem dX16_run_63 : decode cX16_run 63 = .ok (.iastore, 1) := by decide +kernel
theorem dX16_run_64 : decode cX16_run 64 = .ok (.aload_n 0, 1) := by decide +kernel
theorem dX16_run_65 : decode cX16_run 65 = .ok (.getfield 32, 3) := by decide +kernel
theorem dX16_run_68 : decode cX16_run 68 = .ok (.getfield 54, 3) := by decide +kernel
theorem dX16_run_71 : decode cX16_run 71 = .ok (.bipush 27, 2) := by decide +kernel
theorem dX16_run_73 : decode cX16_run 73 = .ok (.iload_n 3, 1) := by decide +kernel
theorem dX16_run_74 : decode cX16_run 74 = .ok (.iastore, 1) := by decide +kernel
theorem dX16_run_75 : decode cX16_run 75 = .ok (.aload_n 0, 1) := by decide +kernel
theorem dX16_run_76 : decode cX16_run 76 = .ok (.getfield 32, 3) := by decide +kernel
theorem dX16_run_79 : decode cX16_run 79 = .ok (.getfield 54, 3) := by decide +kernel
theorem dX16_run_82 : decode cX16_run 82 = .ok (.iconst 4, 1) := by decide +kernel
theorem dX16_run_83 : decode cX16_run 83 = .ok (.iload 4, 2) := by decide +kernel
theorem dX16_run_85 : decode cX16_run 85 = .ok (.iastore, 1) := by decide +kernel
theorem dX16_run_86 : decode cX16_run 86 = .ok (.aload_n 0, 1) := by decide +kernel
theorem dX16_run_87 : decode cX16_run 87 = .ok (.getfield 32, 3) := by decide +kernel
theorem dX16_run_90 : decode cX16_run 90 = .ok (.iload_n 1, 1) := by decide +kernel
theorem dX16_run_91 : decode cX16_run 91 = .ok (.putfield 60, 3) := by decide +kernel
theorem dX16_run_94 : decode cX16_run 94 = .ok (.aload_n 0, 1) := by decide +kernel
theorem dX16_run_95 : decode cX16_run 95 = .ok (.getfield 32, 3) := by decide +kernel
theorem dX16_run_98 : decode cX16_run 98 = .ok (.iconst 0, 1) := by decide +kernel
theorem dX16_run_99 : decode cX16_run 99 = .ok (.putfield 63, 3) := by decide +kernel
theorem dX16_run_102 : decode cX16_run 102 = .ok (.iconst (-1), 1) := by decide +kernel
theorem dX16_run_103 : decode cX16_run 103 = .ok (.istore 5, 2) := by decide +kernel
theorem dX16_run_105 : decode cX16_run 105 = .ok (.iload 5, 2) := by decide +kernel
theorem dX16_run_107 : decode cX16_run 107 = .ok (.iconst (-1), 1) := by decide +kernel
theorem dX16_run_108 : decode cX16_run 108 = .ok (.if_icmp .ne 68, 3) := by decide +kernel
theorem dX16_run_111 : decode cX16_run 111 = .ok (.aload_n 0, 1) := by decide +kernel
theorem dX16_run_112 : decode cX16_run 112 = .ok (.getfield 32, 3) := by decide +kernel
theorem dX16_run_115 : decode cX16_run 115 = .ok (.invokevirtual 66, 3) := by decide +kernel
theorem dX16_run_118 : decode cX16_run 118 = .ok (.iconst 2, 1) := by decide +kernel
theorem dX16_run_119 : decode cX16_run 119 = .ok (.if_icmp .ne (-14), 3) := by decide +kernel
theorem dX16_run_122 : decode cX16_run 122 = .ok (.aload_n 0, 1) := by decide +kernel
theorem dX16_run_123 : decode cX16_run 123 = .ok (.aload_n 0, 1) := by decide +kernel
theorem dX16_run_124 : decode cX16_run 124 = .ok (.getfield 32, 3) := by decide +kernel
theorem dX16_run_127 : decode cX16_run 127 = .ok (.getfield 54, 3) := by decide +kernel
theorem dX16_run_130 : decode cX16_run 130 = .ok (.bipush 17, 2) := by decide +kernel
theorem dX16_run_132 : decode cX16_run 132 = .ok (.iaload, 1) := by decide +kernel
theorem dX16_run_133 : decode cX16_run 133 = .ok (.aload_n 0, 1) := by decide +kernel
theorem dX16_run_134 : decode cX16_run 134 = .ok (.getfield 32, 3) := by decide +kernel
theorem dX16_run_137 : decode cX16_run 137 = .ok (.getfield 54, 3) := by decide +kernel
theorem dX16_run_140 : decode cX16_run 140 = .ok (.bipush 10, 2) := by decide +kernel
theorem dX16_run_142 : decode cX16_run 142 = .ok (.iaload, 1) := by decide +kernel
theorem dX16_run_143 : decode cX16_run 143 = .ok (.invokevirtual 70, 3) := by decide +kernel
theorem dX16_run_146 : decode cX16_run 146 = .ok (.istore 5, 2) := by decide +kernel
theorem dX16_run_148 : decode cX16_run 148 = .ok (.aload_n 0, 1) := by decide +kernel
theorem dX16_run_149 : decode cX16_run 149 = .ok (.getfield 32, 3) := by decide +kernel
theorem dX16_run_152 : decode cX16_run 152 = .ok (.aload_n 0, 1) := by decide +kernel
theorem dX16_run_153 : decode cX16_run 153 = .ok (.getfield 23, 3) := by decide +kernel
theorem dX16_run_156 : decode cX16_run 156 = .ok (.iconst 3, 1) := by decide +kernel
theorem dX16_run_157 : decode cX16_run 157 = .ok (.invokevirtual 74, 3) := by decide +kernel
theorem dX16_run_160 : decode cX16_run 160 = .ok (.iconst 4, 1) := by decide +kernel
theorem dX16_run_161 : decode cX16_run 161 = .ok (.iadd, 1) := by decide +kernel
theorem dX16_run_162 : decode cX16_run 162 = .ok (.putfield 60, 3) := by decide +kernel
theorem dX16_run_165 : decode cX16_run 165 = .ok (.aload_n 0, 1) := by decide +kernel
theorem dX16_run_166 : decode cX16_run 166 = .ok (.getfield 32, 3) := by decide +kernel
theorem dX16_run_169 : decode cX16_run 169 = .ok (.iconst 0, 1) := by decide +kernel
theorem dX16_run_170 : decode cX16_run 170 = .ok (.putfield 63, 3) := by decide +kernel
theorem dX16_run_173 : decode cX16_run 173 = .ok (.goto (-68), 3) := by decide +kernel
theorem dX16_run_176 : decode cX16_run 176 = .ok (.iload 5, 2) := by decide +kernel
theorem dX16_run_178 : decode cX16_run 178 = .ok (.ireturn, 1) := by decide +kernel
theorem dX16_serve_0 : decode cX16_serve 0 = .ok (.iload_n 1, 1) := by decide +kernel
theorem dX16_serve_1 : decode cX16_serve 1 = .ok (.tableswitch 181 0 9 #[55, 62, 69, 90, 95, 112, 112, 118, 118, 174], 55) := by decide +kernel
theorem dX16_serve_56 : decode cX16_serve 56 = .ok (.aload_n 0, 1) := by decide +kernel
theorem dX16_serve_57 : decode cX16_serve 57 = .ok (.iload_n 2, 1) := by decide +kernel
theorem dX16_serve_58 : decode cX16_serve 58 = .ok (.putfield 78, 3) := by decide +kernel
theorem dX16_serve_61 : decode cX16_serve 61 = .ok (.iconst 0, 1) := by decide +kernel
theorem dX16_serve_62 : decode cX16_serve 62 = .ok (.ireturn, 1) := by decide +kernel
theorem dX16_serve_63 : decode cX16_serve 63 = .ok (.aload_n 0, 1) := by decide +kernel
theorem dX16_serve_64 : decode cX16_serve 64 = .ok (.iload_n 2, 1) := by decide +kernel
theorem dX16_serve_65 : decode cX16_serve 65 = .ok (.invokevirtual 81, 3) := by decide +kernel
theorem dX16_serve_68 : decode cX16_serve 68 = .ok (.iconst (-1), 1) := by decide +kernel
theorem dX16_serve_69 : decode cX16_serve 69 = .ok (.ireturn, 1) := by decide +kernel
theorem dX16_serve_70 : decode cX16_serve 70 = .ok (.aload_n 0, 1) := by decide +kernel
theorem dX16_serve_71 : decode cX16_serve 71 = .ok (.iload_n 2, 1) := by decide +kernel
theorem dX16_serve_72 : decode cX16_serve 72 = .ok (.invokevirtual 81, 3) := by decide +kernel
theorem dX16_serve_75 : decode cX16_serve 75 = .ok (.aload_n 0, 1) := by decide +kernel
theorem dX16_serve_76 : decode cX16_serve 76 = .ok (.aload_n 0, 1) := by decide +kernel
theorem dX16_serve_77 : decode cX16_serve 77 = .ok (.getfield 32, 3) := by decide +kernel
theorem dX16_serve_80 : decode cX16_serve 80 = .ok (.getfield 54, 3) := by decide +kernel
theorem dX16_serve_83 : decode cX16_serve 83 = .ok (.bipush 11, 2) := by decide +kernel
theorem dX16_serve_85 : decode cX16_serve 85 = .ok (.iaload, 1) := by decide +kernel
theorem dX16_serve_86 : decode cX16_serve 86 = .ok (.invokevirtual 81, 3) := by decide +kernel
theorem dX16_serve_89 : decode cX16_serve 89 = .ok (.iconst (-1), 1) := by decide +kernel
theorem dX16_serve_90 : decode cX16_serve 90 = .ok (.ireturn, 1) := by decide +kernel
theorem dX16_serve_91 : decode cX16_serve 91 = .ok (.aload_n 0, 1) := by decide +kernel
theorem dX16_serve_92 : decode cX16_serve 92 = .ok (.invokevirtual 83, 3) := by decide +kernel
theorem dX16_serve_95 : decode cX16_serve 95 = .ok (.ireturn, 1) := by decide +kernel
theorem dX16_serve_96 : decode cX16_serve 96 = .ok (.aload_n 0, 1) := by decide +kernel
theorem dX16_serve_97 : decode cX16_serve 97 = .ok (.aload_n 0, 1) := by decide +kernel
theorem dX16_serve_98 : decode cX16_serve 98 = .ok (.getfield 86, 3) := by decide +kernel
theorem dX16_serve_101 : decode cX16_serve 101 = .ok (.ifCond .le 7, 3) := by decide +kernel
theorem dX16_serve_104 : decode cX16_serve 104 = .ok (.iconst 1, 1) := by decide +kernel
theorem dX16_serve_105 : decode cX16_serve 105 = .ok (.goto 4, 3) := by decide +kernel
theorem dX16_serve_108 : decode cX16_serve 108 = .ok (.iconst 0, 1) := by decide +kernel
theorem dX16_serve_109 : decode cX16_serve 109 = .ok (.invokevirtual 89, 3) := by decide +kernel
theorem dX16_serve_112 : decode cX16_serve 112 = .ok (.ireturn, 1) := by decide +kernel
theorem dX16_serve_113 : decode cX16_serve 113 = .ok (.aload_n 0, 1) := by decide +kernel
theorem dX16_serve_114 : decode cX16_serve 114 = .ok (.iconst (-1), 1) := by decide +kernel
theorem dX16_serve_115 : decode cX16_serve 115 = .ok (.invokevirtual 89, 3) := by decide +kernel
theorem dX16_serve_118 : decode cX16_serve 118 = .ok (.ireturn, 1) := by decide +kernel
theorem dX16_serve_119 : decode cX16_serve 119 = .ok (.iload_n 2, 1) := by decide +kernel
theorem dX16_serve_120 : decode cX16_serve 120 = .ok (.ifCond .lt 9, 3) := by decide +kernel
theorem dX16_serve_123 : decode cX16_serve 123 = .ok (.iload_n 2, 1) := by decide +kernel
theorem dX16_serve_124 : decode cX16_serve 124 = .ok (.bipush 8, 2) := by decide +kernel
theorem dX16_serve_126 : decode cX16_serve 126 = .ok (.if_icmp .lt 7, 3) := by decide +kernel
theorem dX16_serve_129 : decode cX16_serve 129 = .ok (.iconst 2, 1) := by decide +kernel
theorem dX16_serve_130 : decode cX16_serve 130 = .ok (.goto 44, 3) := by decide +kernel
theorem dX16_serve_133 : decode cX16_serve 133 = .ok (.aload_n 0, 1) := by decide +kernel
theorem dX16_serve_134 : decode cX16_serve 134 = .ok (.iload_n 2, 1) := by decide +kernel
theorem dX16_serve_135 : decode cX16_serve 135 = .ok (.aload_n 0, 1) := by decide +kernel
theorem dX16_serve_136 : decode cX16_serve 136 = .ok (.getfield 32, 3) := by decide +kernel
theorem dX16_serve_139 : decode cX16_serve 139 = .ok (.getfield 54, 3) := by decide +kernel
theorem dX16_serve_142 : decode cX16_serve 142 = .ok (.bipush 11, 2) := by decide +kernel
theorem dX16_serve_144 : decode cX16_serve 144 = .ok (.iaload, 1) := by decide +kernel
theorem dX16_serve_145 : decode cX16_serve 145 = .ok (.bipush 16, 2) := by decide +kernel
theorem dX16_serve_147 : decode cX16_serve 147 = .ok (.aload_n 0, 1) := by decide +kernel
theorem dX16_serve_148 : decode cX16_serve 148 = .ok (.getfield 32, 3) := by decide +kernel
theorem dX16_serve_151 : decode cX16_serve 151 = .ok (.getfield 54, 3) := by decide +kernel
theorem dX16_serve_154 : decode cX16_serve 154 = .ok (.bipush 12, 2) := by decide +kernel
theorem dX16_serve_156 : decode cX16_serve 156 = .ok (.iaload, 1) := by decide +kernel
theorem dX16_serve_157 : decode cX16_serve 157 = .ok (.invokestatic 92, 3) := by decide +kernel
theorem dX16_serve_160 : decode cX16_serve 160 = .ok (.iload_n 1, 1) := by decide +kernel
theorem dX16_serve_161 : decode cX16_serve 161 = .ok (.bipush 7, 2) := by decide +kernel
theorem dX16_serve_163 : decode cX16_serve 163 = .ok (.if_icmp .ne 7, 3) := by decide +kernel
theorem dX16_serve_166 : decode cX16_serve 166 = .ok (.iconst 1, 1) := by decide +kernel
theorem dX16_serve_167 : decode cX16_serve 167 = .ok (.goto 4, 3) := by decide +kernel
theorem dX16_serve_170 : decode cX16_serve 170 = .ok (.iconst 0, 1) := by decide +kernel
theorem dX16_serve_171 : decode cX16_serve 171 = .ok (.invokevirtual 97, 3) := by decide +kernel
theorem dX16_serve_174 : decode cX16_serve 174 = .ok (.ireturn, 1) := by decide +kernel
theorem dX16_serve_175 : decode cX16_serve 175 = .ok (.aload_n 0, 1) := by decide +kernel
theorem dX16_serve_176 : decode cX16_serve 176 = .ok (.iload_n 2, 1) := by decide +kernel
theorem dX16_serve_177 : decode cX16_serve 177 = .ok (.putfield 78, 3) := by decide +kernel
theorem dX16_serve_180 : decode cX16_serve 180 = .ok (.iconst 1, 1) := by decide +kernel
theorem dX16_serve_181 : decode cX16_serve 181 = .ok (.ireturn, 1) := by decide +kernel
theorem dX16_serve_182 : decode cX16_serve 182 = .ok (.iconst 2, 1) := by decide +kernel
theorem dX16_serve_183 : decode cX16_serve 183 = .ok (.iload_n 1, 1) := by decide +kernel
theorem dX16_serve_184 : decode cX16_serve 184 = .ok (.iadd, 1) := by decide +kernel
theorem dX16_serve_185 : decode cX16_serve 185 = .ok (.bipush 16, 2) := by decide +kernel
theorem dX16_serve_187 : decode cX16_serve 187 = .ok (.isub, 1) := by decide +kernel
theorem dX16_serve_188 : decode cX16_serve 188 = .ok (.ireturn, 1) := by decide +kernel
theorem dX16_write_0 : decode cX16_write 0 = .ok (.aload_n 0, 1) := by decide +kernel
theorem dX16_write_1 : decode cX16_write 1 = .ok (.getfield 50, 3) := by decide +kernel
theorem dX16_write_4 : decode cX16_write 4 = .ok (.sipush 1024, 3) := by decide +kernel
theorem dX16_write_7 : decode cX16_write 7 = .ok (.if_icmp .ge 13, 3) := by decide +kernel
theorem dX16_write_10 : decode cX16_write 10 = .ok (.aload_n 0, 1) := by decide +kernel
theorem dX16_write_11 : decode cX16_write 11 = .ok (.getfield 36, 3) := by decide +kernel
theorem dX16_write_14 : decode cX16_write 14 = .ok (.aload_n 0, 1) := by decide +kernel
theorem dX16_write_15 : decode cX16_write 15 = .ok (.getfield 50, 3) := by decide +kernel
theorem dX16_write_18 : decode cX16_write 18 = .ok (.iload_n 1, 1) := by decide +kernel
theorem dX16_write_19 : decode cX16_write 19 = .ok (.iastore, 1) := by decide +kernel
theorem dX16_write_20 : decode cX16_write 20 = .ok (.aload_n 0, 1) := by decide +kernel
theorem dX16_write_21 : decode cX16_write 21 = .ok (.dup, 1) := by decide +kernel
theorem dX16_write_22 : decode cX16_write 22 = .ok (.getfield 50, 3) := by decide +kernel
theorem dX16_write_25 : decode cX16_write 25 = .ok (.iconst 1, 1) := by decide +kernel
theorem dX16_write_26 : decode cX16_write 26 = .ok (.iadd, 1) := by decide +kernel
theorem dX16_write_27 : decode cX16_write 27 = .ok (.putfield 50, 3) := by decide +kernel
theorem dX16_write_30 : decode cX16_write 30 = .ok (.return_, 1) := by decide +kernel
theorem dX16_takes_0 : decode cX16_takes 0 = .ok (.aload_n 0, 1) := by decide +kernel
theorem dX16_takes_1 : decode cX16_takes 1 = .ok (.getfield 86, 3) := by decide +kernel
theorem dX16_takes_4 : decode cX16_takes 4 = .ok (.ifCond .ne 6, 3) := by decide +kernel
theorem dX16_takes_7 : decode cX16_takes 7 = .ok (.bipush 6, 2) := by decide +kernel
theorem dX16_takes_9 : decode cX16_takes 9 = .ok (.ireturn, 1) := by decide +kernel
theorem dX16_takes_10 : decode cX16_takes 10 = .ok (.aload_n 0, 1) := by decide +kernel
theorem dX16_takes_11 : decode cX16_takes 11 = .ok (.getfield 40, 3) := by decide +kernel
theorem dX16_takes_14 : decode cX16_takes 14 = .ok (.iconst 0, 1) := by decide +kernel
theorem dX16_takes_15 : decode cX16_takes 15 = .ok (.iaload, 1) := by decide +kernel
theorem dX16_takes_16 : decode cX16_takes 16 = .ok (.istore_n 1, 1) := by decide +kernel
theorem dX16_takes_17 : decode cX16_takes 17 = .ok (.aload_n 0, 1) := by decide +kernel
theorem dX16_takes_18 : decode cX16_takes 18 = .ok (.dup, 1) := by decide +kernel
theorem dX16_takes_19 : decode cX16_takes 19 = .ok (.getfield 86, 3) := by decide +kernel
theorem dX16_takes_22 : decode cX16_takes 22 = .ok (.iconst 1, 1) := by decide +kernel
theorem dX16_takes_23 : decode cX16_takes 23 = .ok (.isub, 1) := by decide +kernel
theorem dX16_takes_24 : decode cX16_takes 24 = .ok (.putfield 86, 3) := by decide +kernel
theorem dX16_takes_27 : decode cX16_takes 27 = .ok (.iconst 0, 1) := by decide +kernel
theorem dX16_takes_28 : decode cX16_takes 28 = .ok (.istore_n 2, 1) := by decide +kernel
theorem dX16_takes_29 : decode cX16_takes 29 = .ok (.iload_n 2, 1) := by decide +kernel
theorem dX16_takes_30 : decode cX16_takes 30 = .ok (.aload_n 0, 1) := by decide +kernel
theorem dX16_takes_31 : decode cX16_takes 31 = .ok (.getfield 86, 3) := by decide +kernel
theorem dX16_takes_34 : decode cX16_takes 34 = .ok (.if_icmp .ge 23, 3) := by decide +kernel
theorem dX16_takes_37 : decode cX16_takes 37 = .ok (.aload_n 0, 1) := by decide +kernel
theorem dX16_takes_38 : decode cX16_takes 38 = .ok (.getfield 40, 3) := by decide +kernel
theorem dX16_takes_41 : decode cX16_takes 41 = .ok (.iload_n 2, 1) := by decide +kernel
theorem dX16_takes_42 : decode cX16_takes 42 = .ok (.aload_n 0, 1) := by decide +kernel
theorem dX16_takes_43 : decode cX16_takes 43 = .ok (.getfield 40, 3) := by decide +kernel
theorem dX16_takes_46 : decode cX16_takes 46 = .ok (.iload_n 2, 1) := by decide +kernel
theorem dX16_takes_47 : decode cX16_takes 47 = .ok (.iconst 1, 1) := by decide +kernel
theorem dX16_takes_48 : decode cX16_takes 48 = .ok (.iadd, 1) := by decide +kernel
theorem dX16_takes_49 : decode cX16_takes 49 = .ok (.iaload, 1) := by decide +kernel
theorem dX16_takes_50 : decode cX16_takes 50 = .ok (.iastore, 1) := by decide +kernel
theorem dX16_takes_51 : decode cX16_takes 51 = .ok (.iinc 2 1, 3) := by decide +kernel
theorem dX16_takes_54 : decode cX16_takes 54 = .ok (.goto (-25), 3) := by decide +kernel
theorem dX16_takes_57 : decode cX16_takes 57 = .ok (.aload_n 0, 1) := by decide +kernel
theorem dX16_takes_58 : decode cX16_takes 58 = .ok (.iload_n 1, 1) := by decide +kernel
theorem dX16_takes_59 : decode cX16_takes 59 = .ok (.invokevirtual 89, 3) := by decide +kernel
theorem dX16_takes_62 : decode cX16_takes 62 = .ok (.ireturn, 1) := by decide +kernel
theorem dX16_answers_0 : decode cX16_answers 0 = .ok (.aload_n 0, 1) := by decide +kernel
theorem dX16_answers_1 : decode cX16_answers 1 = .ok (.getfield 32, 3) := by decide +kernel
theorem dX16_answers_4 : decode cX16_answers 4 = .ok (.getfield 54, 3) := by decide +kernel
theorem dX16_answers_7 : decode cX16_answers 7 = .ok (.bipush 10, 2) := by decide +kernel
theorem dX16_answers_9 : decode cX16_answers 9 = .ok (.iload_n 1, 1) := by decide +kernel
theorem dX16_answers_10 : decode cX16_answers 10 = .ok (.iastore, 1) := by decide +kernel
theorem dX16_answers_11 : decode cX16_answers 11 = .ok (.iconst (-1), 1) := by decide +kernel
theorem dX16_answers_12 : decode cX16_answers 12 = .ok (.ireturn, 1) := by decide +kernel
theorem dX16_moves_0 : decode cX16_moves 0 = .ok (.iconst 0, 1) := by decide +kernel
theorem dX16_moves_1 : decode cX16_moves 1 = .ok (.istore 5, 2) := by decide +kernel
theorem dX16_moves_3 : decode cX16_moves 3 = .ok (.iload 5, 2) := by decide +kernel
theorem dX16_moves_5 : decode cX16_moves 5 = .ok (.iload_n 3, 1) := by decide +kernel
theorem dX16_moves_6 : decode cX16_moves 6 = .ok (.if_icmp .ge 67, 3) := by decide +kernel
theorem dX16_moves_9 : decode cX16_moves 9 = .ok (.iload 4, 2) := by decide +kernel
theorem dX16_moves_11 : decode cX16_moves 11 = .ok (.ifCond .eq 31, 3) := by decide +kernel
theorem dX16_moves_14 : decode cX16_moves 14 = .ok (.aload_n 0, 1) := by decide +kernel
theorem dX16_moves_15 : decode cX16_moves 15 = .ok (.getfield 16, 3) := by decide +kernel
theorem dX16_moves_18 : decode cX16_moves 18 = .ok (.iload_n 2, 1) := by decide +kernel
theorem dX16_moves_19 : decode cX16_moves 19 = .ok (.iconst 4, 1) := by decide +kernel
theorem dX16_moves_20 : decode cX16_moves 20 = .ok (.iload 5, 2) := by decide +kernel
theorem dX16_moves_22 : decode cX16_moves 22 = .ok (.imul, 1) := by decide +kernel
theorem dX16_moves_23 : decode cX16_moves 23 = .ok (.iadd, 1) := by decide +kernel
theorem dX16_moves_24 : decode cX16_moves 24 = .ok (.aload_n 0, 1) := by decide +kernel
theorem dX16_moves_25 : decode cX16_moves 25 = .ok (.getfield 43, 3) := by decide +kernel
theorem dX16_moves_28 : decode cX16_moves 28 = .ok (.bipush 16, 2) := by decide +kernel
theorem dX16_moves_30 : decode cX16_moves 30 = .ok (.iload_n 1, 1) := by decide +kernel
theorem dX16_moves_31 : decode cX16_moves 31 = .ok (.imul, 1) := by decide +kernel
theorem dX16_moves_32 : decode cX16_moves 32 = .ok (.iload 5, 2) := by decide +kernel
theorem dX16_moves_34 : decode cX16_moves 34 = .ok (.iadd, 1) := by decide +kernel
theorem dX16_moves_35 : decode cX16_moves 35 = .ok (.iaload, 1) := by decide +kernel
theorem dX16_moves_36 : decode cX16_moves 36 = .ok (.invokevirtual 46, 3) := by decide +kernel
theorem dX16_moves_39 : decode cX16_moves 39 = .ok (.goto 28, 3) := by decide +kernel
theorem dX16_moves_42 : decode cX16_moves 42 = .ok (.aload_n 0, 1) := by decide +kernel
theorem dX16_moves_43 : decode cX16_moves 43 = .ok (.getfield 43, 3) := by decide +kernel
theorem dX16_moves_46 : decode cX16_moves 46 = .ok (.bipush 16, 2) := by decide +kernel
theorem dX16_moves_48 : decode cX16_moves 48 = .ok (.iload_n 1, 1) := by decide +kernel
theorem dX16_moves_49 : decode cX16_moves 49 = .ok (.imul, 1) := by decide +kernel
theorem dX16_moves_50 : decode cX16_moves 50 = .ok (.iload 5, 2) := by decide +kernel
theorem dX16_moves_52 : decode cX16_moves 52 = .ok (.iadd, 1) := by decide +kernel
theorem dX16_moves_53 : decode cX16_moves 53 = .ok (.aload_n 0, 1) := by decide +kernel
theorem dX16_moves_54 : decode cX16_moves 54 = .ok (.getfield 16, 3) := by decide +kernel
theorem dX16_moves_57 : decode cX16_moves 57 = .ok (.iload_n 2, 1) := by decide +kernel
theorem dX16_moves_58 : decode cX16_moves 58 = .ok (.iconst 4, 1) := by decide +kernel
theorem dX16_moves_59 : decode cX16_moves 59 = .ok (.iload 5, 2) := by decide +kernel
theorem dX16_moves_61 : decode cX16_moves 61 = .ok (.imul, 1) := by decide +kernel
theorem dX16_moves_62 : decode cX16_moves 62 = .ok (.iadd, 1) := by decide +kernel
theorem dX16_moves_63 : decode cX16_moves 63 = .ok (.invokevirtual 103, 3) := by decide +kernel
theorem dX16_moves_66 : decode cX16_moves 66 = .ok (.iastore, 1) := by decide +kernel
theorem dX16_moves_67 : decode cX16_moves 67 = .ok (.iinc 5 1, 3) := by decide +kernel
theorem dX16_moves_70 : decode cX16_moves 70 = .ok (.goto (-67), 3) := by decide +kernel
theorem dX16_moves_73 : decode cX16_moves 73 = .ok (.iconst (-1), 1) := by decide +kernel
theorem dX16_moves_74 : decode cX16_moves 74 = .ok (.ireturn, 1) := by decide +kernel
theorem dX17_init_0 : decode cX17_init 0 = .ok (.aload_n 0, 1) := by decide +kernel
theorem dX17_init_1 : decode cX17_init 1 = .ok (.invokespecial 1, 3) := by decide +kernel
theorem dX17_init_4 : decode cX17_init 4 = .ok (.aload_n 0, 1) := by decide +kernel
theorem dX17_init_5 : decode cX17_init 5 = .ok (.iload_n 1, 1) := by decide +kernel
theorem dX17_init_6 : decode cX17_init 6 = .ok (.putfield 7, 3) := by decide +kernel
theorem dX17_init_9 : decode cX17_init 9 = .ok (.aload_n 0, 1) := by decide +kernel
theorem dX17_init_10 : decode cX17_init 10 = .ok (.iconst 1, 1) := by decide +kernel
theorem dX17_init_11 : decode cX17_init 11 = .ok (.iload_n 1, 1) := by decide +kernel
theorem dX17_init_12 : decode cX17_init 12 = .ok (.iconst 2, 1) := by decide +kernel
theorem dX17_init_13 : decode cX17_init 13 = .ok (.isub, 1) := by decide +kernel
theorem dX17_init_14 : decode cX17_init 14 = .ok (.ishl, 1) := by decide +kernel
theorem dX17_init_15 : decode cX17_init 15 = .ok (.newarray .int, 2) := by decide +kernel
theorem dX17_init_17 : decode cX17_init 17 = .ok (.putfield 13, 3) := by decide +kernel
theorem dX17_init_20 : decode cX17_init 20 = .ok (.aload_n 0, 1) := by decide +kernel
theorem dX17_init_21 : decode cX17_init 21 = .ok (.iconst 1, 1) := by decide +kernel
theorem dX17_init_22 : decode cX17_init 22 = .ok (.iload_n 1, 1) := by decide +kernel
theorem dX17_init_23 : decode cX17_init 23 = .ok (.iconst 2, 1) := by decide +kernel
theorem dX17_init_24 : decode cX17_init 24 = .ok (.isub, 1) := by decide +kernel
theorem dX17_init_25 : decode cX17_init 25 = .ok (.ishl, 1) := by decide +kernel
theorem dX17_init_26 : decode cX17_init 26 = .ok (.newarray .byte, 2) := by decide +kernel
theorem dX17_init_28 : decode cX17_init 28 = .ok (.putfield 17, 3) := by decide +kernel
theorem dX17_init_31 : decode cX17_init 31 = .ok (.aload_n 0, 1) := by decide +kernel
theorem dX17_init_32 : decode cX17_init 32 = .ok (.iconst 1, 1) := by decide +kernel
theorem dX17_init_33 : decode cX17_init 33 = .ok (.iload_n 1, 1) := by decide +kernel
theorem dX17_init_34 : decode cX17_init 34 = .ok (.bipush 12, 2) := by decide +kernel
theorem dX17_init_36 : decode cX17_init 36 = .ok (.isub, 1) := by decide +kernel
theorem dX17_init_37 : decode cX17_init 37 = .ok (.ishl, 1) := by decide +kernel
theorem dX17_init_38 : decode cX17_init 38 = .ok (.newarray .boolean, 2) := by decide +kernel
theorem dX17_init_40 : decode cX17_init 40 = .ok (.putfield 21, 3) := by decide +kernel
theorem dX17_init_43 : decode cX17_init 43 = .ok (.return_, 1) := by decide +kernel
theorem dX17_write_0 : decode cX17_write 0 = .ok (.aload_n 0, 1) := by decide +kernel
theorem dX17_write_1 : decode cX17_write 1 = .ok (.getfield 13, 3) := by decide +kernel
theorem dX17_write_4 : decode cX17_write 4 = .ok (.iload_n 1, 1) := by decide +kernel
theorem dX17_write_5 : decode cX17_write 5 = .ok (.iconst 2, 1) := by decide +kernel
theorem dX17_write_6 : decode cX17_write 6 = .ok (.ishr, 1) := by decide +kernel
theorem dX17_write_7 : decode cX17_write 7 = .ok (.iload_n 2, 1) := by decide +kernel
theorem dX17_write_8 : decode cX17_write 8 = .ok (.iastore, 1) := by decide +kernel
theorem dX17_write_9 : decode cX17_write 9 = .ok (.aload_n 0, 1) := by decide +kernel
theorem dX17_write_10 : decode cX17_write 10 = .ok (.getfield 17, 3) := by decide +kernel
theorem dX17_write_13 : decode cX17_write 13 = .ok (.iload_n 1, 1) := by decide +kernel
theorem dX17_write_14 : decode cX17_write 14 = .ok (.iconst 2, 1) := by decide +kernel
theorem dX17_write_15 : decode cX17_write 15 = .ok (.ishr, 1) := by decide +kernel
theorem dX17_write_16 : decode cX17_write 16 = .ok (.iconst 0, 1) := by decide +kernel
theorem dX17_write_17 : decode cX17_write 17 = .ok (.bastore, 1) := by decide +kernel
theorem dX17_write_18 : decode cX17_write 18 = .ok (.aload_n 0, 1) := by decide +kernel
theorem dX17_write_19 : decode cX17_write 19 = .ok (.getfield 21, 3) := by decide +kernel
theorem dX17_write_22 : decode cX17_write 22 = .ok (.iload_n 1, 1) := by decide +kernel
theorem dX17_write_23 : decode cX17_write 23 = .ok (.bipush 12, 2) := by decide +kernel
theorem dX17_write_25 : decode cX17_write 25 = .ok (.ishr, 1) := by decide +kernel
theorem dX17_write_26 : decode cX17_write 26 = .ok (.baload, 1) := by decide +kernel
theorem dX17_write_27 : decode cX17_write 27 = .ok (.ifCond .eq 13, 3) := by decide +kernel
theorem dX17_write_30 : decode cX17_write 30 = .ok (.aload_n 0, 1) := by decide +kernel
theorem dX17_write_31 : decode cX17_write 31 = .ok (.dup, 1) := by decide +kernel
theorem dX17_write_32 : decode cX17_write 32 = .ok (.getfield 25, 3) := by decide +kernel
theorem dX17_write_35 : decode cX17_write 35 = .ok (.iconst 1, 1) := by decide +kernel
theorem dX17_write_36 : decode cX17_write 36 = .ok (.iadd, 1) := by decide +kernel
theorem dX17_write_37 : decode cX17_write 37 = .ok (.putfield 25, 3) := by decide +kernel
theorem dX17_write_40 : decode cX17_write 40 = .ok (.return_, 1) := by decide +kernel
theorem dX17_has_0 : decode cX17_has 0 = .ok (.iload_n 1, 1) := by decide +kernel
theorem dX17_has_1 : decode cX17_has 1 = .ok (.aload_n 0, 1) := by decide +kernel
theorem dX17_has_2 : decode cX17_has 2 = .ok (.getfield 7, 3) := by decide +kernel
theorem dX17_has_5 : decode cX17_has 5 = .ok (.iushr, 1) := by decide +kernel
theorem dX17_has_6 : decode cX17_has 6 = .ok (.ifCond .ne 7, 3) := by decide +kernel
theorem dX17_has_9 : decode cX17_has 9 = .ok (.iconst 1, 1) := by decide +kernel
theorem dX17_has_10 : decode cX17_has 10 = .ok (.goto 4, 3) := by decide +kernel
theorem dX17_has_13 : decode cX17_has 13 = .ok (.iconst 0, 1) := by decide +kernel
theorem dX17_has_14 : decode cX17_has 14 = .ok (.ireturn, 1) := by decide +kernel
theorem dX17_changes_0 : decode cX17_changes 0 = .ok (.aload_n 0, 1) := by decide +kernel
theorem dX17_changes_1 : decode cX17_changes 1 = .ok (.getfield 25, 3) := by decide +kernel
theorem dX17_changes_4 : decode cX17_changes 4 = .ok (.ireturn, 1) := by decide +kernel
theorem dX17_forget_0 : decode cX17_forget 0 = .ok (.iconst 0, 1) := by decide +kernel
theorem dX17_forget_1 : decode cX17_forget 1 = .ok (.istore_n 1, 1) := by decide +kernel
theorem dX17_forget_2 : decode cX17_forget 2 = .ok (.iload_n 1, 1) := by decide +kernel
theorem dX17_forget_3 : decode cX17_forget 3 = .ok (.aload_n 0, 1) := by decide +kernel
theorem dX17_forget_4 : decode cX17_forget 4 = .ok (.getfield 21, 3) := by decide +kernel
theorem dX17_forget_7 : decode cX17_forget 7 = .ok (.arraylength, 1) := by decide +kernel
theorem dX17_forget_8 : decode cX17_forget 8 = .ok (.if_icmp .ge 16, 3) := by decide +kernel
theorem dX17_forget_11 : decode cX17_forget 11 = .ok (.aload_n 0, 1) := by decide +kernel
theorem dX17_forget_12 : decode cX17_forget 12 = .ok (.getfield 21, 3) := by decide +kernel
theorem dX17_forget_15 : decode cX17_forget 15 = .ok (.iload_n 1, 1) := by decide +kernel
theorem dX17_forget_16 : decode cX17_forget 16 = .ok (.iconst 0, 1) := by decide +kernel
theorem dX17_forget_17 : decode cX17_forget 17 = .ok (.bastore, 1) := by decide +kernel
theorem dX17_forget_18 : decode cX17_forget 18 = .ok (.iinc 1 1, 3) := by decide +kernel
theorem dX17_forget_21 : decode cX17_forget 21 = .ok (.goto (-19), 3) := by decide +kernel
theorem dX17_forget_24 : decode cX17_forget 24 = .ok (.return_, 1) := by decide +kernel
theorem dX17_watch_0 : decode cX17_watch 0 = .ok (.aload_n 0, 1) := by decide +kernel
theorem dX17_watch_1 : decode cX17_watch 1 = .ok (.getfield 21, 3) := by decide +kernel
theorem dX17_watch_4 : decode cX17_watch 4 = .ok (.iload_n 1, 1) := by decide +kernel
theorem dX17_watch_5 : decode cX17_watch 5 = .ok (.bipush 12, 2) := by decide +kernel
theorem dX17_watch_7 : decode cX17_watch 7 = .ok (.ishr, 1) := by decide +kernel
theorem dX17_watch_8 : decode cX17_watch 8 = .ok (.iconst 1, 1) := by decide +kernel
theorem dX17_watch_9 : decode cX17_watch 9 = .ok (.bastore, 1) := by decide +kernel
theorem dX17_watch_10 : decode cX17_watch 10 = .ok (.return_, 1) := by decide +kernel
theorem dX17_word_0 : decode cX17_word 0 = .ok (.aload_n 0, 1) := by decide +kernel
theorem dX17_word_1 : decode cX17_word 1 = .ok (.getfield 13, 3) := by decide +kernel
theorem dX17_word_4 : decode cX17_word 4 = .ok (.iload_n 1, 1) := by decide +kernel
theorem dX17_word_5 : decode cX17_word 5 = .ok (.iconst 2, 1) := by decide +kernel
theorem dX17_word_6 : decode cX17_word 6 = .ok (.ishr, 1) := by decide +kernel
theorem dX17_word_7 : decode cX17_word 7 = .ok (.iaload, 1) := by decide +kernel
theorem dX17_word_8 : decode cX17_word 8 = .ok (.ireturn, 1) := by decide +kernel
theorem dX17_operation_0 : decode cX17_operation 0 = .ok (.iload_n 1, 1) := by decide +kernel
theorem dX17_operation_1 : decode cX17_operation 1 = .ok (.iconst 2, 1) := by decide +kernel
theorem dX17_operation_2 : decode cX17_operation 2 = .ok (.ishr, 1) := by decide +kernel
theorem dX17_operation_3 : decode cX17_operation 3 = .ok (.istore_n 2, 1) := by decide +kernel
theorem dX17_operation_4 : decode cX17_operation 4 = .ok (.aload_n 0, 1) := by decide +kernel
theorem dX17_operation_5 : decode cX17_operation 5 = .ok (.getfield 17, 3) := by decide +kernel
theorem dX17_operation_8 : decode cX17_operation 8 = .ok (.iload_n 2, 1) := by decide +kernel
theorem dX17_operation_9 : decode cX17_operation 9 = .ok (.baload, 1) := by decide +kernel
theorem dX17_operation_10 : decode cX17_operation 10 = .ok (.ifCond .ne 19, 3) := by decide +kernel
theorem dX17_operation_13 : decode cX17_operation 13 = .ok (.aload_n 0, 1) := by decide +kernel
theorem dX17_operation_14 : decode cX17_operation 14 = .ok (.getfield 17, 3) := by decide +kernel
theorem dX17_operation_17 : decode cX17_operation 17 = .ok (.iload_n 2, 1) := by decide +kernel
theorem dX17_operation_18 : decode cX17_operation 18 = .ok (.aload_n 0, 1) := by decide +kernel
theorem dX17_operation_19 : decode cX17_operation 19 = .ok (.getfield 13, 3) := by decide +kernel
theorem dX17_operation_22 : decode cX17_operation 22 = .ok (.iload_n 2, 1) := by decide +kernel
theorem dX17_operation_23 : decode cX17_operation 23 = .ok (.iaload, 1) := by decide +kernel
theorem dX17_operation_24 : decode cX17_operation 24 = .ok (.invokestatic 32, 3) := by decide +kernel
theorem dX17_operation_27 : decode cX17_operation 27 = .ok (.i2b, 1) := by decide +kernel
theorem dX17_operation_28 : decode cX17_operation 28 = .ok (.bastore, 1) := by decide +kernel
theorem dX17_operation_29 : decode cX17_operation 29 = .ok (.aload_n 0, 1) := by decide +kernel
theorem dX17_operation_30 : decode cX17_operation 30 = .ok (.getfield 17, 3) := by decide +kernel
theorem dX17_operation_33 : decode cX17_operation 33 = .ok (.iload_n 2, 1) := by decide +kernel
theorem dX17_operation_34 : decode cX17_operation 34 = .ok (.baload, 1) := by decide +kernel
theorem dX17_operation_35 : decode cX17_operation 35 = .ok (.ireturn, 1) := by decide +kernel
theorem dX17_writePart_0 : decode cX17_writePart 0 = .ok (.bipush 8, 2) := by decide +kernel
theorem dX17_writePart_2 : decode cX17_writePart 2 = .ok (.iload_n 1, 1) := by decide +kernel
theorem dX17_writePart_3 : decode cX17_writePart 3 = .ok (.iconst 3, 1) := by decide +kernel
theorem dX17_writePart_4 : decode cX17_writePart 4 = .ok (.iand, 1) := by decide +kernel
theorem dX17_writePart_5 : decode cX17_writePart 5 = .ok (.imul, 1) := by decide +kernel
theorem dX17_writePart_6 : decode cX17_writePart 6 = .ok (.istore 4, 2) := by decide +kernel
theorem dX17_writePart_8 : decode cX17_writePart 8 = .ok (.iload_n 3, 1) := by decide +kernel
theorem dX17_writePart_9 : decode cX17_writePart 9 = .ok (.bipush 32, 2) := by decide +kernel
theorem dX17_writePart_11 : decode cX17_writePart 11 = .ok (.if_icmp .ne 7, 3) := by decide +kernel
theorem dX17_writePart_14 : decode cX17_writePart 14 = .ok (.iconst (-1), 1) := by decide +kernel
theorem dX17_writePart_15 : decode cX17_writePart 15 = .ok (.goto 11, 3) := by decide +kernel
theorem dX17_writePart_18 : decode cX17_writePart 18 = .ok (.iconst 1, 1) := by decide +kernel
theorem dX17_writePart_19 : decode cX17_writePart 19 = .ok (.iload_n 3, 1) := by decide +kernel
theorem dX17_writePart_20 : decode cX17_writePart 20 = .ok (.ishl, 1) := by decide +kernel
theorem dX17_writePart_21 : decode cX17_writePart 21 = .ok (.iconst 1, 1) := by decide +kernel
theorem dX17_writePart_22 : decode cX17_writePart 22 = .ok (.isub, 1) := by decide +kernel
theorem dX17_writePart_23 : decode cX17_writePart 23 = .ok (.iload 4, 2) := by decide +kernel
theorem dX17_writePart_25 : decode cX17_writePart 25 = .ok (.ishl, 1) := by decide +kernel
theorem dX17_writePart_26 : decode cX17_writePart 26 = .ok (.istore 5, 2) := by decide +kernel
theorem dX17_writePart_28 : decode cX17_writePart 28 = .ok (.aload_n 0, 1) := by decide +kernel
theorem dX17_writePart_29 : decode cX17_writePart 29 = .ok (.iload_n 1, 1) := by decide +kernel
theorem dX17_writePart_30 : decode cX17_writePart 30 = .ok (.aload_n 0, 1) := by decide +kernel
theorem dX17_writePart_31 : decode cX17_writePart 31 = .ok (.getfield 13, 3) := by decide +kernel
theorem dX17_writePart_34 : decode cX17_writePart 34 = .ok (.iload_n 1, 1) := by decide +kernel
theorem dX17_writePart_35 : decode cX17_writePart 35 = .ok (.iconst 2, 1) := by decide +kernel
theorem dX17_writePart_36 : decode cX17_writePart 36 = .ok (.ishr, 1) := by decide +kernel
theorem dX17_writePart_37 : decode cX17_writePart 37 = .ok (.iaload, 1) := by decide +kernel
theorem dX17_writePart_38 : decode cX17_writePart 38 = .ok (.iload 5, 2) := by decide +kernel
theorem dX17_writePart_40 : decode cX17_writePart 40 = .ok (.iconst (-1), 1) := by decide +kernel
theorem dX17_writePart_41 : decode cX17_writePart 41 = .ok (.ixor, 1) := by decide +kernel
theorem dX17_writePart_42 : decode cX17_writePart 42 = .ok (.iand, 1) := by decide +kernel
theorem dX17_writePart_43 : decode cX17_writePart 43 = .ok (.iload_n 2, 1) := by decide +kernel
theorem dX17_writePart_44 : decode cX17_writePart 44 = .ok (.iload 4, 2) := by decide +kernel
theorem dX17_writePart_46 : decode cX17_writePart 46 = .ok (.ishl, 1) := by decide +kernel
theorem dX17_writePart_47 : decode cX17_writePart 47 = .ok (.iload 5, 2) := by decide +kernel
theorem dX17_writePart_49 : decode cX17_writePart 49 = .ok (.iand, 1) := by decide +kernel
theorem dX17_writePart_50 : decode cX17_writePart 50 = .ok (.ior, 1) := by decide +kernel
theorem dX17_writePart_51 : decode cX17_writePart 51 = .ok (.invokevirtual 28, 3) := by decide +kernel
theorem dX17_writePart_54 : decode cX17_writePart 54 = .ok (.return_, 1) := by decide +kernel
theorem dX18_init_0 : decode cX18_init 0 = .ok (.aload_n 0, 1) := by decide +kernel
theorem dX18_init_1 : decode cX18_init 1 = .ok (.invokespecial 3, 3) := by decide +kernel
theorem dX18_init_4 : decode cX18_init 4 = .ok (.aload_n 0, 1) := by decide +kernel
theorem dX18_init_5 : decode cX18_init 5 = .ok (.bipush 9, 2) := by decide +kernel
theorem dX18_init_7 : decode cX18_init 7 = .ok (.newarray .int, 2) := by decide +kernel
theorem dX18_init_9 : decode cX18_init 9 = .ok (.putfield 9, 3) := by decide +kernel
theorem dX18_init_12 : decode cX18_init 12 = .ok (.aload_n 0, 1) := by decide +kernel
theorem dX18_init_13 : decode cX18_init 13 = .ok (.getfield 9, 3) := by decide +kernel
theorem dX18_init_16 : decode cX18_init 16 = .ok (.bipush 7, 2) := by decide +kernel
theorem dX18_init_18 : decode cX18_init 18 = .ok (.iconst (-1), 1) := by decide +kernel
theorem dX18_init_19 : decode cX18_init 19 = .ok (.iastore, 1) := by decide +kernel
theorem dX18_init_20 : decode cX18_init 20 = .ok (.aload_n 0, 1) := by decide +kernel
theorem dX18_init_21 : decode cX18_init 21 = .ok (.getfield 9, 3) := by decide +kernel
theorem dX18_init_24 : decode cX18_init 24 = .ok (.bipush 8, 2) := by decide +kernel
theorem dX18_init_26 : decode cX18_init 26 = .ok (.iconst (-1), 1) := by decide +kernel
theorem dX18_init_27 : decode cX18_init 27 = .ok (.iastore, 1) := by decide +kernel
theorem dX18_init_28 : decode cX18_init 28 = .ok (.return_, 1) := by decide +kernel
theorem dX18_due_0 : decode cX18_due 0 = .ok (.aload_n 0, 1) := by decide +kernel
theorem dX18_due_1 : decode cX18_due 1 = .ok (.getfield 9, 3) := by decide +kernel
theorem dX18_due_4 : decode cX18_due 4 = .ok (.bipush 8, 2) := by decide +kernel
theorem dX18_due_6 : decode cX18_due 6 = .ok (.iaload, 1) := by decide +kernel
theorem dX18_due_7 : decode cX18_due 7 = .ok (.ifCond .ne 7, 3) := by decide +kernel
theorem dX18_due_10 : decode cX18_due 10 = .ok (.iconst 1, 1) := by decide +kernel
theorem dX18_due_11 : decode cX18_due 11 = .ok (.goto 18, 3) := by decide +kernel
theorem dX18_due_14 : decode cX18_due 14 = .ok (.aload_n 0, 1) := by decide +kernel
theorem dX18_due_15 : decode cX18_due 15 = .ok (.getfield 9, 3) := by decide +kernel
theorem dX18_due_18 : decode cX18_due 18 = .ok (.bipush 7, 2) := by decide +kernel
theorem dX18_due_20 : decode cX18_due 20 = .ok (.iaload, 1) := by decide +kernel
theorem dX18_due_21 : decode cX18_due 21 = .ok (.ifCond .ne 7, 3) := by decide +kernel
theorem dX18_due_24 : decode cX18_due 24 = .ok (.iconst 2, 1) := by decide +kernel
theorem dX18_due_25 : decode cX18_due 25 = .ok (.goto 4, 3) := by decide +kernel
theorem dX18_due_28 : decode cX18_due 28 = .ok (.iconst 0, 1) := by decide +kernel
theorem dX18_due_29 : decode cX18_due 29 = .ok (.ireturn, 1) := by decide +kernel
theorem dX18_trap_0 : decode cX18_trap 0 = .ok (.aload_n 0, 1) := by decide +kernel
theorem dX18_trap_1 : decode cX18_trap 1 = .ok (.iconst 3, 1) := by decide +kernel
theorem dX18_trap_2 : decode cX18_trap 2 = .ok (.iload_n 1, 1) := by decide +kernel
theorem dX18_trap_3 : decode cX18_trap 3 = .ok (.invokevirtual 17, 3) := by decide +kernel
theorem dX18_trap_6 : decode cX18_trap 6 = .ok (.aload_n 0, 1) := by decide +kernel
theorem dX18_trap_7 : decode cX18_trap 7 = .ok (.getfield 9, 3) := by decide +kernel
theorem dX18_trap_10 : decode cX18_trap 10 = .ok (.iconst 4, 1) := by decide +kernel
theorem dX18_trap_11 : decode cX18_trap 11 = .ok (.iload_n 2, 1) := by decide +kernel
theorem dX18_trap_12 : decode cX18_trap 12 = .ok (.iastore, 1) := by decide +kernel
theorem dX18_trap_13 : decode cX18_trap 13 = .ok (.aload_n 0, 1) := by decide +kernel
theorem dX18_trap_14 : decode cX18_trap 14 = .ok (.getfield 9, 3) := by decide +kernel
theorem dX18_trap_17 : decode cX18_trap 17 = .ok (.iconst 5, 1) := by decide +kernel
theorem dX18_trap_18 : decode cX18_trap 18 = .ok (.iload_n 3, 1) := by decide +kernel
theorem dX18_trap_19 : decode cX18_trap 19 = .ok (.iastore, 1) := by decide +kernel
theorem dX18_trap_20 : decode cX18_trap 20 = .ok (.aload_n 0, 1) := by decide +kernel
theorem dX18_trap_21 : decode cX18_trap 21 = .ok (.getfield 9, 3) := by decide +kernel
theorem dX18_trap_24 : decode cX18_trap 24 = .ok (.iconst 0, 1) := by decide +kernel
theorem dX18_trap_25 : decode cX18_trap 25 = .ok (.aload_n 0, 1) := by decide +kernel
theorem dX18_trap_26 : decode cX18_trap 26 = .ok (.getfield 9, 3) := by decide +kernel
theorem dX18_trap_29 : decode cX18_trap 29 = .ok (.iconst 0, 1) := by decide +kernel
theorem dX18_trap_30 : decode cX18_trap 30 = .ok (.iaload, 1) := by decide +kernel
theorem dX18_trap_31 : decode cX18_trap 31 = .ok (.ldc 16, 2) := by decide +kernel
theorem dX18_trap_33 : decode cX18_trap 33 = .ok (.iand, 1) := by decide +kernel
theorem dX18_trap_34 : decode cX18_trap 34 = .ok (.iload 4, 2) := by decide +kernel
theorem dX18_trap_36 : decode cX18_trap 36 = .ok (.ifCond .ne 7, 3) := by decide +kernel
theorem dX18_trap_39 : decode cX18_trap 39 = .ok (.iconst 0, 1) := by decide +kernel
theorem dX18_trap_40 : decode cX18_trap 40 = .ok (.goto 6, 3) := by decide +kernel
theorem dX18_trap_43 : decode cX18_trap 43 = .ok (.sipush 256, 3) := by decide +kernel
theorem dX18_trap_46 : decode cX18_trap 46 = .ok (.ior, 1) := by decide +kernel
theorem dX18_trap_47 : decode cX18_trap 47 = .ok (.iastore, 1) := by decide +kernel
theorem dX18_trap_48 : decode cX18_trap 48 = .ok (.aload_n 0, 1) := by decide +kernel
theorem dX18_trap_49 : decode cX18_trap 49 = .ok (.getfield 9, 3) := by decide +kernel
theorem dX18_trap_52 : decode cX18_trap 52 = .ok (.iconst 1, 1) := by decide +kernel
theorem dX18_trap_53 : decode cX18_trap 53 = .ok (.iaload, 1) := by decide +kernel
theorem dX18_trap_54 : decode cX18_trap 54 = .ok (.ireturn, 1) := by decide +kernel
theorem dX18_set_0 : decode cX18_set 0 = .ok (.aload_n 0, 1) := by decide +kernel
theorem dX18_set_1 : decode cX18_set 1 = .ok (.getfield 9, 3) := by decide +kernel
theorem dX18_set_4 : decode cX18_set 4 = .ok (.iload_n 1, 1) := by decide +kernel
theorem dX18_set_5 : decode cX18_set 5 = .ok (.iload_n 1, 1) := by decide +kernel
theorem dX18_set_6 : decode cX18_set 6 = .ok (.ifCond .ne 10, 3) := by decide +kernel
theorem dX18_set_9 : decode cX18_set 9 = .ok (.iload_n 2, 1) := by decide +kernel
theorem dX18_set_10 : decode cX18_set 10 = .ok (.ldc 15, 2) := by decide +kernel
theorem dX18_set_12 : decode cX18_set 12 = .ok (.iand, 1) := by decide +kernel
theorem dX18_set_13 : decode cX18_set 13 = .ok (.goto 21, 3) := by decide +kernel
theorem dX18_set_16 : decode cX18_set 16 = .ok (.iload_n 1, 1) := by decide +kernel
theorem dX18_set_17 : decode cX18_set 17 = .ok (.iconst 1, 1) := by decide +kernel
theorem dX18_set_18 : decode cX18_set 18 = .ok (.if_icmp .eq 8, 3) := by decide +kernel
theorem dX18_set_21 : decode cX18_set 21 = .ok (.iload_n 1, 1) := by decide +kernel
theorem dX18_set_22 : decode cX18_set 22 = .ok (.iconst 3, 1) := by decide +kernel
theorem dX18_set_23 : decode cX18_set 23 = .ok (.if_icmp .ne 10, 3) := by decide +kernel
theorem dX18_set_26 : decode cX18_set 26 = .ok (.iload_n 2, 1) := by decide +kernel
theorem dX18_set_27 : decode cX18_set 27 = .ok (.bipush (-4), 2) := by decide +kernel
theorem dX18_set_29 : decode cX18_set 29 = .ok (.iand, 1) := by decide +kernel
theorem dX18_set_30 : decode cX18_set 30 = .ok (.goto 4, 3) := by decide +kernel
theorem dX18_set_33 : decode cX18_set 33 = .ok (.iload_n 2, 1) := by decide +kernel
theorem dX18_set_34 : decode cX18_set 34 = .ok (.iastore, 1) := by decide +kernel
theorem dX18_set_35 : decode cX18_set 35 = .ok (.return_, 1) := by decide +kernel
theorem dX18_tables_0 : decode cX18_tables 0 = .ok (.aload_n 0, 1) := by decide +kernel
theorem dX18_tables_1 : decode cX18_tables 1 = .ok (.getfield 9, 3) := by decide +kernel
theorem dX18_tables_4 : decode cX18_tables 4 = .ok (.bipush 6, 2) := by decide +kernel
theorem dX18_tables_6 : decode cX18_tables 6 = .ok (.iaload, 1) := by decide +kernel
theorem dX18_tables_7 : decode cX18_tables 7 = .ok (.ireturn, 1) := by decide +kernel
theorem dX18_sum_0 : decode cX18_sum 0 = .ok (.aload_n 0, 1) := by decide +kernel
theorem dX18_sum_1 : decode cX18_sum 1 = .ok (.getfield 9, 3) := by decide +kernel
theorem dX18_sum_4 : decode cX18_sum 4 = .ok (.iconst 0, 1) := by decide +kernel
theorem dX18_sum_5 : decode cX18_sum 5 = .ok (.iaload, 1) := by decide +kernel
theorem dX18_sum_6 : decode cX18_sum 6 = .ok (.ldc 16, 2) := by decide +kernel
theorem dX18_sum_8 : decode cX18_sum 8 = .ok (.iand, 1) := by decide +kernel
theorem dX18_sum_9 : decode cX18_sum 9 = .ok (.ifCond .eq 7, 3) := by decide +kernel
theorem dX18_sum_12 : decode cX18_sum 12 = .ok (.iconst 1, 1) := by decide +kernel
theorem dX18_sum_13 : decode cX18_sum 13 = .ok (.goto 4, 3) := by decide +kernel
theorem dX18_sum_16 : decode cX18_sum 16 = .ok (.iconst 0, 1) := by decide +kernel
theorem dX18_sum_17 : decode cX18_sum 17 = .ok (.ireturn, 1) := by decide +kernel
theorem dX18_back_0 : decode cX18_back 0 = .ok (.aload_n 0, 1) := by decide +kernel
theorem dX18_back_1 : decode cX18_back 1 = .ok (.getfield 9, 3) := by decide +kernel
theorem dX18_back_4 : decode cX18_back 4 = .ok (.iconst 0, 1) := by decide +kernel
theorem dX18_back_5 : decode cX18_back 5 = .ok (.iaload, 1) := by decide +kernel
theorem dX18_back_6 : decode cX18_back 6 = .ok (.sipush 256, 3) := by decide +kernel
theorem dX18_back_9 : decode cX18_back 9 = .ok (.iand, 1) := by decide +kernel
theorem dX18_back_10 : decode cX18_back 10 = .ok (.ifCond .ne 7, 3) := by decide +kernel
theorem dX18_back_13 : decode cX18_back 13 = .ok (.iconst 0, 1) := by decide +kernel
theorem dX18_back_14 : decode cX18_back 14 = .ok (.goto 4, 3) := by decide +kernel
theorem dX18_back_17 : decode cX18_back 17 = .ok (.iconst 1, 1) := by decide +kernel
theorem dX18_back_18 : decode cX18_back 18 = .ok (.istore_n 1, 1) := by decide +kernel
theorem dX18_back_19 : decode cX18_back 19 = .ok (.aload_n 0, 1) := by decide +kernel
theorem dX18_back_20 : decode cX18_back 20 = .ok (.getfield 9, 3) := by decide +kernel
theorem dX18_back_23 : decode cX18_back 23 = .ok (.iconst 0, 1) := by decide +kernel
theorem dX18_back_24 : decode cX18_back 24 = .ok (.dup2, 1) := by decide +kernel
theorem dX18_back_25 : decode cX18_back 25 = .ok (.iaload, 1) := by decide +kernel
theorem dX18_back_26 : decode cX18_back 26 = .ok (.ldc 16, 2) := by decide +kernel
theorem dX18_back_28 : decode cX18_back 28 = .ok (.iand, 1) := by decide +kernel
theorem dX18_back_29 : decode cX18_back 29 = .ok (.iastore, 1) := by decide +kernel
theorem dX18_back_30 : decode cX18_back 30 = .ok (.iload_n 1, 1) := by decide +kernel
theorem dX18_back_31 : decode cX18_back 31 = .ok (.ireturn, 1) := by decide +kernel
theorem dX18_returns_0 : decode cX18_returns 0 = .ok (.aload_n 0, 1) := by decide +kernel
theorem dX18_returns_1 : decode cX18_returns 1 = .ok (.getfield 9, 3) := by decide +kernel
theorem dX18_returns_4 : decode cX18_returns 4 = .ok (.iconst 3, 1) := by decide +kernel
theorem dX18_returns_5 : decode cX18_returns 5 = .ok (.iaload, 1) := by decide +kernel
theorem dX18_returns_6 : decode cX18_returns 6 = .ok (.ireturn, 1) := by decide +kernel
theorem dX18_place_0 : decode cX18_place 0 = .ok (.iload_n 0, 1) := by decide +kernel
theorem dX18_place_1 : decode cX18_place 1 = .ok (.lookupswitch 106 #[(256, 83), (261, 85), (320, 87), (321, 89), (322, 89), (323, 89), (384, 97), (1472, 100), (1473, 103)], 83) := by decide +kernel
theorem dX18_place_84 : decode cX18_place 84 = .ok (.iconst 0, 1) := by decide +kernel
theorem dX18_place_85 : decode cX18_place 85 = .ok (.ireturn, 1) := by decide +kernel
theorem dX18_place_86 : decode cX18_place 86 = .ok (.iconst 1, 1) := by decide +kernel
theorem dX18_place_87 : decode cX18_place 87 = .ok (.ireturn, 1) := by decide +kernel
theorem dX18_place_88 : decode cX18_place 88 = .ok (.iconst 2, 1) := by decide +kernel
theorem dX18_place_89 : decode cX18_place 89 = .ok (.ireturn, 1) := by decide +kernel
theorem dX18_place_90 : decode cX18_place 90 = .ok (.iconst 3, 1) := by decide +kernel
theorem dX18_place_91 : decode cX18_place 91 = .ok (.iload_n 0, 1) := by decide +kernel
theorem dX18_place_92 : decode cX18_place 92 = .ok (.iadd, 1) := by decide +kernel
theorem dX18_place_93 : decode cX18_place 93 = .ok (.sipush 321, 3) := by decide +kernel
theorem dX18_place_96 : decode cX18_place 96 = .ok (.isub, 1) := by decide +kernel
theorem dX18_place_97 : decode cX18_place 97 = .ok (.ireturn, 1) := by decide +kernel
theorem dX18_place_98 : decode cX18_place 98 = .ok (.bipush 6, 2) := by decide +kernel
theorem dX18_place_100 : decode cX18_place 100 = .ok (.ireturn, 1) := by decide +kernel
theorem dX18_place_101 : decode cX18_place 101 = .ok (.bipush 7, 2) := by decide +kernel
theorem dX18_place_103 : decode cX18_place 103 = .ok (.ireturn, 1) := by decide +kernel
theorem dX18_place_104 : decode cX18_place 104 = .ok (.bipush 8, 2) := by decide +kernel
theorem dX18_place_106 : decode cX18_place 106 = .ok (.ireturn, 1) := by decide +kernel
theorem dX18_place_107 : decode cX18_place 107 = .ok (.iconst (-1), 1) := by decide +kernel
theorem dX18_place_108 : decode cX18_place 108 = .ok (.ireturn, 1) := by decide +kernel
theorem dX18_get_0 : decode cX18_get 0 = .ok (.aload_n 0, 1) := by decide +kernel
theorem dX18_get_1 : decode cX18_get 1 = .ok (.getfield 9, 3) := by decide +kernel
theorem dX18_get_4 : decode cX18_get 4 = .ok (.iload_n 1, 1) := by decide +kernel
theorem dX18_get_5 : decode cX18_get 5 = .ok (.iaload, 1) := by decide +kernel
theorem dX18_get_6 : decode cX18_get 6 = .ok (.ireturn, 1) := by decide +kernel
theorem dX18_count_0 : decode cX18_count 0 = .ok (.aload_n 0, 1) := by decide +kernel
theorem dX18_count_1 : decode cX18_count 1 = .ok (.getfield 9, 3) := by decide +kernel
theorem dX18_count_4 : decode cX18_count 4 = .ok (.bipush 8, 2) := by decide +kernel
theorem dX18_count_6 : decode cX18_count 6 = .ok (.dup2, 1) := by decide +kernel
theorem dX18_count_7 : decode cX18_count 7 = .ok (.iaload, 1) := by decide +kernel
theorem dX18_count_8 : decode cX18_count 8 = .ok (.aload_n 0, 1) := by decide +kernel
theorem dX18_count_9 : decode cX18_count 9 = .ok (.getfield 9, 3) := by decide +kernel
theorem dX18_count_12 : decode cX18_count 12 = .ok (.bipush 8, 2) := by decide +kernel
theorem dX18_count_14 : decode cX18_count 14 = .ok (.iaload, 1) := by decide +kernel
theorem dX18_count_15 : decode cX18_count 15 = .ok (.iconst (-1), 1) := by decide +kernel
theorem dX18_count_16 : decode cX18_count 16 = .ok (.if_icmp .ne 7, 3) := by decide +kernel
theorem dX18_count_19 : decode cX18_count 19 = .ok (.iconst 0, 1) := by decide +kernel
theorem dX18_count_20 : decode cX18_count 20 = .ok (.goto 4, 3) := by decide +kernel
theorem dX18_count_23 : decode cX18_count 23 = .ok (.iconst 1, 1) := by decide +kernel
theorem dX18_count_24 : decode cX18_count 24 = .ok (.isub, 1) := by decide +kernel
theorem dX18_count_25 : decode cX18_count 25 = .ok (.iastore, 1) := by decide +kernel
theorem dX18_count_26 : decode cX18_count 26 = .ok (.aload_n 0, 1) := by decide +kernel
theorem dX18_count_27 : decode cX18_count 27 = .ok (.getfield 9, 3) := by decide +kernel
theorem dX18_count_30 : decode cX18_count 30 = .ok (.bipush 7, 2) := by decide +kernel
theorem dX18_count_32 : decode cX18_count 32 = .ok (.dup2, 1) := by decide +kernel
theorem dX18_count_33 : decode cX18_count 33 = .ok (.iaload, 1) := by decide +kernel
theorem dX18_count_34 : decode cX18_count 34 = .ok (.aload_n 0, 1) := by decide +kernel
theorem dX18_count_35 : decode cX18_count 35 = .ok (.getfield 9, 3) := by decide +kernel
theorem dX18_count_38 : decode cX18_count 38 = .ok (.bipush 7, 2) := by decide +kernel
theorem dX18_count_40 : decode cX18_count 40 = .ok (.iaload, 1) := by decide +kernel
theorem dX18_count_41 : decode cX18_count 41 = .ok (.iconst (-1), 1) := by decide +kernel
theorem dX18_count_42 : decode cX18_count 42 = .ok (.if_icmp .ne 7, 3) := by decide +kernel
theorem dX18_count_45 : decode cX18_count 45 = .ok (.iconst 0, 1) := by decide +kernel
theorem dX18_count_46 : decode cX18_count 46 = .ok (.goto 4, 3) := by decide +kernel
theorem dX18_count_49 : decode cX18_count 49 = .ok (.iconst 1, 1) := by decide +kernel
theorem dX18_count_50 : decode cX18_count 50 = .ok (.isub, 1) := by decide +kernel
theorem dX18_count_51 : decode cX18_count 51 = .ok (.iastore, 1) := by decide +kernel
theorem dX18_count_52 : decode cX18_count 52 = .ok (.return_, 1) := by decide +kernel
theorem dX19_init_0 : decode cX19_init 0 = .ok (.aload_n 0, 1) := by decide +kernel
theorem dX19_init_1 : decode cX19_init 1 = .ok (.invokespecial 3, 3) := by decide +kernel
theorem dX19_init_4 : decode cX19_init 4 = .ok (.aload_n 0, 1) := by decide +kernel
theorem dX19_init_5 : decode cX19_init 5 = .ok (.bipush 32, 2) := by decide +kernel
theorem dX19_init_7 : decode cX19_init 7 = .ok (.newarray .int, 2) := by decide +kernel
theorem dX19_init_9 : decode cX19_init 9 = .ok (.putfield 9, 3) := by decide +kernel
theorem dX19_init_12 : decode cX19_init 12 = .ok (.aload_n 0, 1) := by decide +kernel
theorem dX19_init_13 : decode cX19_init 13 = .ok (.iconst 1, 1) := by decide +kernel
theorem dX19_init_14 : decode cX19_init 14 = .ok (.putfield 15, 3) := by decide +kernel
theorem dX19_init_17 : decode cX19_init 17 = .ok (.aload_n 0, 1) := by decide +kernel
theorem dX19_init_18 : decode cX19_init 18 = .ok (.aload_n 1, 1) := by decide +kernel
theorem dX19_init_19 : decode cX19_init 19 = .ok (.putfield 19, 3) := by decide +kernel
theorem dX19_init_22 : decode cX19_init 22 = .ok (.aload_n 0, 1) := by decide +kernel
theorem dX19_init_23 : decode cX19_init 23 = .ok (.aload_n 2, 1) := by decide +kernel
theorem dX19_init_24 : decode cX19_init 24 = .ok (.putfield 23, 3) := by decide +kernel
theorem dX19_init_27 : decode cX19_init 27 = .ok (.aload_n 0, 1) := by decide +kernel
theorem dX19_init_28 : decode cX19_init 28 = .ok (.new 27, 3) := by decide +kernel
theorem dX19_init_31 : decode cX19_init 31 = .ok (.dup, 1) := by decide +kernel
theorem dX19_init_32 : decode cX19_init 32 = .ok (.aload_n 1, 1) := by decide +kernel
theorem dX19_init_33 : decode cX19_init 33 = .ok (.invokespecial 29, 3) := by decide +kernel
theorem dX19_init_36 : decode cX19_init 36 = .ok (.putfield 32, 3) := by decide +kernel
theorem dX19_init_39 : decode cX19_init 39 = .ok (.return_, 1) := by decide +kernel
theorem dX19_step_0 : decode cX19_step 0 = .ok (.aload_n 0, 1) := by decide +kernel
theorem dX19_step_1 : decode cX19_step 1 = .ok (.getfield 15, 3) := by decide +kernel
theorem dX19_step_4 : decode cX19_step 4 = .ok (.istore_n 1, 1) := by decide +kernel
theorem dX19_step_5 : decode cX19_step 5 = .ok (.iload_n 1, 1) := by decide +kernel
theorem dX19_step_6 : decode cX19_step 6 = .ok (.ifCond .ne 13, 3) := by decide +kernel
theorem dX19_step_9 : decode cX19_step 9 = .ok (.aload_n 0, 1) := by decide +kernel
theorem dX19_step_10 : decode cX19_step 10 = .ok (.getfield 23, 3) := by decide +kernel
theorem dX19_step_13 : decode cX19_step 13 = .ok (.invokevirtual 60, 3) := by decide +kernel
theorem dX19_step_16 : decode cX19_step 16 = .ok (.goto 4, 3) := by decide +kernel
theorem dX19_step_19 : decode cX19_step 19 = .ok (.iconst 0, 1) := by decide +kernel
theorem dX19_step_20 : decode cX19_step 20 = .ok (.istore_n 2, 1) := by decide +kernel
theorem dX19_step_21 : decode cX19_step 21 = .ok (.iload_n 2, 1) := by decide +kernel
theorem dX19_step_22 : decode cX19_step 22 = .ok (.iconst 1, 1) := by decide +kernel
theorem dX19_step_23 : decode cX19_step 23 = .ok (.if_icmp .ne 13, 3) := by decide +kernel
theorem dX19_step_26 : decode cX19_step 26 = .ok (.aload_n 0, 1) := by decide +kernel
theorem dX19_step_27 : decode cX19_step 27 = .ok (.bipush 24, 2) := by decide +kernel
theorem dX19_step_29 : decode cX19_step 29 = .ok (.iconst 0, 1) := by decide +kernel
theorem dX19_step_30 : decode cX19_step 30 = .ok (.invokevirtual 63, 3) := by decide +kernel
theorem dX19_step_33 : decode cX19_step 33 = .ok (.goto 22, 3) := by decide +kernel
theorem dX19_step_36 : decode cX19_step 36 = .ok (.iload_n 2, 1) := by decide +kernel
theorem dX19_step_37 : decode cX19_step 37 = .ok (.iconst 2, 1) := by decide +kernel
theorem dX19_step_38 : decode cX19_step 38 = .ok (.if_icmp .ne 13, 3) := by decide +kernel
theorem dX19_step_41 : decode cX19_step 41 = .ok (.aload_n 0, 1) := by decide +kernel
theorem dX19_step_42 : decode cX19_step 42 = .ok (.ldc 66, 2) := by decide +kernel
theorem dX19_step_44 : decode cX19_step 44 = .ok (.iconst 0, 1) := by decide +kernel
theorem dX19_step_45 : decode cX19_step 45 = .ok (.invokevirtual 63, 3) := by decide +kernel
theorem dX19_step_48 : decode cX19_step 48 = .ok (.goto 7, 3) := by decide +kernel
theorem dX19_step_51 : decode cX19_step 51 = .ok (.aload_n 0, 1) := by decide +kernel
theorem dX19_step_52 : decode cX19_step 52 = .ok (.invokevirtual 67, 3) := by decide +kernel
theorem dX19_step_55 : decode cX19_step 55 = .ok (.istore_n 3, 1) := by decide +kernel
theorem dX19_step_56 : decode cX19_step 56 = .ok (.iload_n 3, 1) := by decide +kernel
theorem dX19_step_57 : decode cX19_step 57 = .ok (.iconst 1, 1) := by decide +kernel
theorem dX19_step_58 : decode cX19_step 58 = .ok (.if_icmp .eq 14, 3) := by decide +kernel
theorem dX19_step_61 : decode cX19_step 61 = .ok (.iload_n 1, 1) := by decide +kernel
theorem dX19_step_62 : decode cX19_step 62 = .ok (.ifCond .ne 10, 3) := by decide +kernel
theorem dX19_step_65 : decode cX19_step 65 = .ok (.aload_n 0, 1) := by decide +kernel
theorem dX19_step_66 : decode cX19_step 66 = .ok (.getfield 23, 3) := by decide +kernel
theorem dX19_step_69 : decode cX19_step 69 = .ok (.invokevirtual 70, 3) := by decide +kernel
theorem dX19_step_72 : decode cX19_step 72 = .ok (.aload_n 0, 1) := by decide +kernel
theorem dX19_step_73 : decode cX19_step 73 = .ok (.aload_n 0, 1) := by decide +kernel
theorem dX19_step_74 : decode cX19_step 74 = .ok (.getfield 57, 3) := by decide +kernel
theorem dX19_step_77 : decode cX19_step 77 = .ok (.putfield 50, 3) := by decide +kernel
theorem dX19_step_80 : decode cX19_step 80 = .ok (.iload_n 3, 1) := by decide +kernel
theorem dX19_step_81 : decode cX19_step 81 = .ok (.ireturn, 1) := by decide +kernel
theorem dX19_trap_0 : decode cX19_trap 0 = .ok (.aload_n 0, 1) := by decide +kernel
theorem dX19_trap_1 : decode cX19_trap 1 = .ok (.aload_n 0, 1) := by decide +kernel
theorem dX19_trap_2 : decode cX19_trap 2 = .ok (.getfield 23, 3) := by decide +kernel
theorem dX19_trap_5 : decode cX19_trap 5 = .ok (.aload_n 0, 1) := by decide +kernel
theorem dX19_trap_6 : decode cX19_trap 6 = .ok (.getfield 50, 3) := by decide +kernel
theorem dX19_trap_9 : decode cX19_trap 9 = .ok (.iload_n 1, 1) := by decide +kernel
theorem dX19_trap_10 : decode cX19_trap 10 = .ok (.iload_n 2, 1) := by decide +kernel
theorem dX19_trap_11 : decode cX19_trap 11 = .ok (.aload_n 0, 1) := by decide +kernel
theorem dX19_trap_12 : decode cX19_trap 12 = .ok (.getfield 15, 3) := by decide +kernel
theorem dX19_trap_15 : decode cX19_trap 15 = .ok (.invokevirtual 53, 3) := by decide +kernel
theorem dX19_trap_18 : decode cX19_trap 18 = .ok (.putfield 57, 3) := by decide +kernel
theorem dX19_trap_21 : decode cX19_trap 21 = .ok (.aload_n 0, 1) := by decide +kernel
theorem dX19_trap_22 : decode cX19_trap 22 = .ok (.iconst 1, 1) := by decide +kernel
theorem dX19_trap_23 : decode cX19_trap 23 = .ok (.putfield 15, 3) := by decide +kernel
theorem dX19_trap_26 : decode cX19_trap 26 = .ok (.iconst 1, 1) := by decide +kernel
theorem dX19_trap_27 : decode cX19_trap 27 = .ok (.ireturn, 1) := by decide +kernel
theorem dX19_fetch_0 : decode cX19_fetch 0 = .ok (.aload_n 0, 1) := by decide +kernel
theorem dX19_fetch_1 : decode cX19_fetch 1 = .ok (.getfield 50, 3) := by decide +kernel
theorem dX19_fetch_4 : decode cX19_fetch 4 = .ok (.iconst 3, 1) := by decide +kernel
theorem dX19_fetch_5 : decode cX19_fetch 5 = .ok (.iand, 1) := by decide +kernel
theorem dX19_fetch_6 : decode cX19_fetch 6 = .ok (.ifCond .eq 13, 3) := by decide +kernel
theorem dX19_fetch_9 : decode cX19_fetch 9 = .ok (.aload_n 0, 1) := by decide +kernel
theorem dX19_fetch_10 : decode cX19_fetch 10 = .ok (.iconst 0, 1) := by decide +kernel
theorem dX19_fetch_11 : decode cX19_fetch 11 = .ok (.aload_n 0, 1) := by decide +kernel
theorem dX19_fetch_12 : decode cX19_fetch 12 = .ok (.getfield 50, 3) := by decide +kernel
theorem dX19_fetch_15 : decode cX19_fetch 15 = .ok (.invokevirtual 63, 3) := by decide +kernel
theorem dX19_fetch_18 : decode cX19_fetch 18 = .ok (.ireturn, 1) := by decide +kernel
theorem dX19_fetch_19 : decode cX19_fetch 19 = .ok (.aload_n 0, 1) := by decide +kernel
theorem dX19_fetch_20 : decode cX19_fetch 20 = .ok (.aload_n 0, 1) := by decide +kernel
theorem dX19_fetch_21 : decode cX19_fetch 21 = .ok (.getfield 50, 3) := by decide +kernel
theorem dX19_fetch_24 : decode cX19_fetch 24 = .ok (.iconst 0, 1) := by decide +kernel
theorem dX19_fetch_25 : decode cX19_fetch 25 = .ok (.invokevirtual 73, 3) := by decide +kernel
theorem dX19_fetch_28 : decode cX19_fetch 28 = .ok (.istore_n 1, 1) := by decide +kernel
theorem dX19_fetch_29 : decode cX19_fetch 29 = .ok (.iload_n 1, 1) := by decide +kernel
theorem dX19_fetch_30 : decode cX19_fetch 30 = .ok (.ifCond .ge 15, 3) := by decide +kernel
theorem dX19_fetch_33 : decode cX19_fetch 33 = .ok (.aload_n 0, 1) := by decide +kernel
theorem dX19_fetch_34 : decode cX19_fetch 34 = .ok (.iconst (-1), 1) := by decide +kernel
theorem dX19_fetch_35 : decode cX19_fetch 35 = .ok (.iload_n 1, 1) := by decide +kernel
theorem dX19_fetch_36 : decode cX19_fetch 36 = .ok (.isub, 1) := by decide +kernel
theorem dX19_fetch_37 : decode cX19_fetch 37 = .ok (.aload_n 0, 1) := by decide +kernel
theorem dX19_fetch_38 : decode cX19_fetch 38 = .ok (.getfield 50, 3) := by decide +kernel
theorem dX19_fetch_41 : decode cX19_fetch 41 = .ok (.invokevirtual 63, 3) := by decide +kernel
theorem dX19_fetch_44 : decode cX19_fetch 44 = .ok (.ireturn, 1) := by decide +kernel
theorem dX19_fetch_45 : decode cX19_fetch 45 = .ok (.aload_n 0, 1) := by decide +kernel
theorem dX19_fetch_46 : decode cX19_fetch 46 = .ok (.aload_n 0, 1) := by decide +kernel
theorem dX19_fetch_47 : decode cX19_fetch 47 = .ok (.getfield 50, 3) := by decide +kernel
theorem dX19_fetch_50 : decode cX19_fetch 50 = .ok (.iconst 4, 1) := by decide +kernel
theorem dX19_fetch_51 : decode cX19_fetch 51 = .ok (.iadd, 1) := by decide +kernel
theorem dX19_fetch_52 : decode cX19_fetch 52 = .ok (.putfield 57, 3) := by decide +kernel
theorem dX19_fetch_55 : decode cX19_fetch 55 = .ok (.aload_n 0, 1) := by decide +kernel
theorem dX19_fetch_56 : decode cX19_fetch 56 = .ok (.aload_n 0, 1) := by decide +kernel
theorem dX19_fetch_57 : decode cX19_fetch 57 = .ok (.getfield 19, 3) := by decide +kernel
theorem dX19_fetch_60 : decode cX19_fetch 60 = .ok (.iload_n 1, 1) := by decide +kernel
theorem dX19_fetch_61 : decode cX19_fetch 61 = .ok (.invokevirtual 75, 3) := by decide +kernel
theorem dX19_fetch_64 : decode cX19_fetch 64 = .ok (.aload_n 0, 1) := by decide +kernel
theorem dX19_fetch_65 : decode cX19_fetch 65 = .ok (.getfield 19, 3) := by decide +kernel
theorem dX19_fetch_68 : decode cX19_fetch 68 = .ok (.iload_n 1, 1) := by decide +kernel
theorem dX19_fetch_69 : decode cX19_fetch 69 = .ok (.invokevirtual 81, 3) := by decide +kernel
theorem dX19_fetch_72 : decode cX19_fetch 72 = .ok (.invokevirtual 84, 3) := by decide +kernel
theorem dX19_fetch_75 : decode cX19_fetch 75 = .ok (.ireturn, 1) := by decide +kernel
theorem dX19_find_0 : decode cX19_find 0 = .ok (.aload_n 0, 1) := by decide +kernel
theorem dX19_find_1 : decode cX19_find 1 = .ok (.getfield 32, 3) := by decide +kernel
theorem dX19_find_4 : decode cX19_find 4 = .ok (.iload_n 1, 1) := by decide +kernel
theorem dX19_find_5 : decode cX19_find 5 = .ok (.iload_n 2, 1) := by decide +kernel
theorem dX19_find_6 : decode cX19_find 6 = .ok (.aload_n 0, 1) := by decide +kernel
theorem dX19_find_7 : decode cX19_find 7 = .ok (.getfield 23, 3) := by decide +kernel
theorem dX19_find_10 : decode cX19_find 10 = .ok (.invokevirtual 36, 3) := by decide +kernel
theorem dX19_find_13 : decode cX19_find 13 = .ok (.aload_n 0, 1) := by decide +kernel
theorem dX19_find_14 : decode cX19_find 14 = .ok (.getfield 15, 3) := by decide +kernel
theorem dX19_find_17 : decode cX19_find 17 = .ok (.aload_n 0, 1) := by decide +kernel
theorem dX19_find_18 : decode cX19_find 18 = .ok (.getfield 23, 3) := by decide +kernel
theorem dX19_find_21 : decode cX19_find 21 = .ok (.invokevirtual 42, 3) := by decide +kernel
theorem dX19_find_24 : decode cX19_find 24 = .ok (.invokevirtual 46, 3) := by decide +kernel
theorem dX19_find_27 : decode cX19_find 27 = .ok (.ireturn, 1) := by decide +kernel
theorem dX19_perform_0 : decode cX19_perform 0 = .ok (.iload_n 2, 1) := by decide +kernel
theorem dX19_perform_1 : decode cX19_perform 1 = .ok (.bipush 7, 2) := by decide +kernel
theorem dX19_perform_3 : decode cX19_perform 3 = .ok (.ishr, 1) := by decide +kernel
theorem dX19_perform_4 : decode cX19_perform 4 = .ok (.bipush 31, 2) := by decide +kernel
theorem dX19_perform_6 : decode cX19_perform 6 = .ok (.iand, 1) := by decide +kernel
theorem dX19_perform_7 : decode cX19_perform 7 = .ok (.istore_n 3, 1) := by decide +kernel
theorem dX19_perform_8 : decode cX19_perform 8 = .ok (.aload_n 0, 1) := by decide +kernel
theorem dX19_perform_9 : decode cX19_perform 9 = .ok (.getfield 9, 3) := by decide +kernel
theorem dX19_perform_12 : decode cX19_perform 12 = .ok (.iload_n 2, 1) := by decide +kernel
theorem dX19_perform_13 : decode cX19_perform 13 = .ok (.bipush 15, 2) := by decide +kernel
theorem dX19_perform_15 : decode cX19_perform 15 = .ok (.ishr, 1) := by decide +kernel
theorem dX19_perform_16 : decode cX19_perform 16 = .ok (.bipush 31, 2) := by decide +kernel
theorem dX19_perform_18 : decode cX19_perform 18 = .ok (.iand, 1) := by decide +kernel
theorem dX19_perform_19 : decode cX19_perform 19 = .ok (.iaload, 1) := by decide +kernel
theorem dX19_perform_20 : decode cX19_perform 20 = .ok (.istore 4, 2) := by decide +kernel
theorem dX19_perform_22 : decode cX19_perform 22 = .ok (.aload_n 0, 1) := by decide +kernel
theorem dX19_perform_23 : decode cX19_perform 23 = .ok (.getfield 9, 3) := by decide +kernel
theorem dX19_perform_26 : decode cX19_perform 26 = .ok (.iload_n 2, 1) := by decide +kernel
theorem dX19_perform_27 : decode cX19_perform 27 = .ok (.bipush 20, 2) := by decide +kernel
theorem dX19_perform_29 : decode cX19_perform 29 = .ok (.ishr, 1) := by decide +kernel
theorem dX19_perform_30 : decode cX19_perform 30 = .ok (.bipush 31, 2) := by decide +kernel
theorem dX19_perform_32 : decode cX19_perform 32 = .ok (.iand, 1) := by decide +kernel
theorem dX19_perform_33 : decode cX19_perform 33 = .ok (.iaload, 1) := by decide +kernel
theorem dX19_perform_34 : decode cX19_perform 34 = .ok (.istore 5, 2) := by decide +kernel
theorem dX19_perform_36 : decode cX19_perform 36 = .ok (.iload_n 1, 1) := by decide +kernel
theorem dX19_perform_37 : decode cX19_perform 37 = .ok (.bipush 72, 2) := by decide +kernel
theorem dX19_perform_39 : decode cX19_perform 39 = .ok (.if_icmp .ge 8, 3) := by decide +kernel
theorem dX19_perform_42 : decode cX19_perform 42 = .ok (.iload_n 1, 1) := by decide +kernel
theorem dX19_perform_43 : decode cX19_perform 43 = .ok (.iconst 1, 1) := by decide +kernel
theorem dX19_perform_44 : decode cX19_perform 44 = .ok (.if_icmp .ne 13, 3) := by decide +kernel
theorem dX19_perform_47 : decode cX19_perform 47 = .ok (.aload_n 0, 1) := by decide +kernel
theorem dX19_perform_48 : decode cX19_perform 48 = .ok (.iload_n 1, 1) := by decide +kernel
theorem dX19_perform_49 : decode cX19_perform 49 = .ok (.iload_n 2, 1) := by decide +kernel
theorem dX19_perform_50 : decode cX19_perform 50 = .ok (.iload_n 3, 1) := by decide +kernel
theorem dX19_perform_51 : decode cX19_perform 51 = .ok (.iload 4, 2) := by decide +kernel
theorem dX19_perform_53 : decode cX19_perform 53 = .ok (.invokevirtual 89, 3) := by decide +kernel
theorem dX19_perform_56 : decode cX19_perform 56 = .ok (.ireturn, 1) := by decide +kernel
theorem dX19_perform_57 : decode cX19_perform 57 = .ok (.iload_n 1, 1) := by decide +kernel
theorem dX19_perform_58 : decode cX19_perform 58 = .ok (.bipush 64, 2) := by decide +kernel
theorem dX19_perform_60 : decode cX19_perform 60 = .ok (.if_icmp .lt 21, 3) := by decide +kernel
theorem dX19_perform_63 : decode cX19_perform 63 = .ok (.aload_n 0, 1) := by decide +kernel
theorem dX19_perform_64 : decode cX19_perform 64 = .ok (.iload_n 3, 1) := by decide +kernel
theorem dX19_perform_65 : decode cX19_perform 65 = .ok (.iload_n 1, 1) := by decide +kernel
theorem dX19_perform_66 : decode cX19_perform 66 = .ok (.bipush 64, 2) := by decide +kernel
theorem dX19_perform_68 : decode cX19_perform 68 = .ok (.isub, 1) := by decide +kernel
theorem dX19_perform_69 : decode cX19_perform 69 = .ok (.iload 4, 2) := by decide +kernel
theorem dX19_perform_71 : decode cX19_perform 71 = .ok (.iload 5, 2) := by decide +kernel
theorem dX19_perform_73 : decode cX19_perform 73 = .ok (.invokestatic 92, 3) := by decide +kernel
theorem dX19_perform_76 : decode cX19_perform 76 = .ok (.invokevirtual 96, 3) := by decide +kernel
theorem dX19_perform_79 : decode cX19_perform 79 = .ok (.iconst 0, 1) := by decide +kernel
theorem dX19_perform_80 : decode cX19_perform 80 = .ok (.ireturn, 1) := by decide +kernel
theorem dX19_perform_81 : decode cX19_perform 81 = .ok (.iload_n 1, 1) := by decide +kernel
theorem dX19_perform_82 : decode cX19_perform 82 = .ok (.bipush 32, 2) := by decide +kernel
theorem dX19_perform_84 : decode cX19_perform 84 = .ok (.if_icmp .lt 31, 3) := by decide +kernel
theorem dX19_perform_87 : decode cX19_perform 87 = .ok (.aload_n 0, 1) := by decide +kernel
theorem dX19_perform_88 : decode cX19_perform 88 = .ok (.iload_n 3, 1) := by decide +kernel
theorem dX19_perform_89 : decode cX19_perform 89 = .ok (.iload_n 1, 1) := by decide +kernel
theorem dX19_perform_90 : decode cX19_perform 90 = .ok (.iload 4, 2) := by decide +kernel
theorem dX19_perform_92 : decode cX19_perform 92 = .ok (.iload_n 1, 1) := by decide +kernel
theorem dX19_perform_93 : decode cX19_perform 93 = .ok (.bipush 48, 2) := by decide +kernel
theorem dX19_perform_95 : decode cX19_perform 95 = .ok (.if_icmp .lt 8, 3) := by decide +kernel
theorem dX19_perform_98 : decode cX19_perform 98 = .ok (.iload 5, 2) := by decide +kernel
theorem dX19_perform_100 : decode cX19_perform 100 = .ok (.goto 7, 3) := by decide +kernel
theorem dX19_perform_103 : decode cX19_perform 103 = .ok (.iload_n 2, 1) := by decide +kernel
theorem dX19_perform_104 : decode cX19_perform 104 = .ok (.bipush 20, 2) := by decide +kernel
theorem dX19_perform_106 : decode cX19_perform 106 = .ok (.ishr, 1) := by decide +kernel
theorem dX19_perform_107 : decode cX19_perform 107 = .ok (.invokestatic 100, 3) := by decide +kernel
theorem dX19_perform_110 : decode cX19_perform 110 = .ok (.invokevirtual 96, 3) := by decide +kernel
theorem dX19_perform_113 : decode cX19_perform 113 = .ok (.iconst 0, 1) := by decide +kernel
theorem dX19_perform_114 : decode cX19_perform 114 = .ok (.ireturn, 1) := by decide +kernel
theorem dX19_perform_115 : decode cX19_perform 115 = .ok (.iload_n 1, 1) := by decide +kernel
theorem dX19_perform_116 : decode cX19_perform 116 = .ok (.bipush 24, 2) := by decide +kernel
theorem dX19_perform_118 : decode cX19_perform 118 = .ok (.if_icmp .lt 25, 3) := by decide +kernel
theorem dX19_perform_121 : decode cX19_perform 121 = .ok (.aload_n 0, 1) := by decide +kernel
theorem dX19_perform_122 : decode cX19_perform 122 = .ok (.iload_n 1, 1) := by decide +kernel
theorem dX19_perform_123 : decode cX19_perform 123 = .ok (.bipush 24, 2) := by decide +kernel
theorem dX19_perform_125 : decode cX19_perform 125 = .ok (.isub, 1) := by decide +kernel
theorem dX19_perform_126 : decode cX19_perform 126 = .ok (.iload 4, 2) := by decide +kernel
theorem dX19_perform_128 : decode cX19_perform 128 = .ok (.iload_n 2, 1) := by decide +kernel
theorem dX19_perform_129 : decode cX19_perform 129 = .ok (.bipush 25, 2) := by decide +kernel
theorem dX19_perform_131 : decode cX19_perform 131 = .ok (.ishr, 1) := by decide +kernel
theorem dX19_perform_132 : decode cX19_perform 132 = .ok (.iconst 5, 1) := by decide +kernel
theorem dX19_perform_133 : decode cX19_perform 133 = .ok (.ishl, 1) := by decide +kernel
theorem dX19_perform_134 : decode cX19_perform 134 = .ok (.iload_n 3, 1) := by decide +kernel
theorem dX19_perform_135 : decode cX19_perform 135 = .ok (.ior, 1) := by decide +kernel
theorem dX19_perform_136 : decode cX19_perform 136 = .ok (.iadd, 1) := by decide +kernel
theorem dX19_perform_137 : decode cX19_perform 137 = .ok (.iload 5, 2) := by decide +kernel
theorem dX19_perform_139 : decode cX19_perform 139 = .ok (.invokevirtual 103, 3) := by decide +kernel
theorem dX19_perform_142 : decode cX19_perform 142 = .ok (.ireturn, 1) := by decide +kernel
theorem dX19_perform_143 : decode cX19_perform 143 = .ok (.iload_n 1, 1) := by decide +kernel
theorem dX19_perform_144 : decode cX19_perform 144 = .ok (.bipush 16, 2) := by decide +kernel
theorem dX19_perform_146 : decode cX19_perform 146 = .ok (.if_icmp .lt 20, 3) := by decide +kernel
theorem dX19_perform_149 : decode cX19_perform 149 = .ok (.aload_n 0, 1) := by decide +kernel
theorem dX19_perform_150 : decode cX19_perform 150 = .ok (.iload_n 1, 1) := by decide +kernel
theorem dX19_perform_151 : decode cX19_perform 151 = .ok (.bipush 16, 2) := by decide +kernel
theorem dX19_perform_153 : decode cX19_perform 153 = .ok (.isub, 1) := by decide +kernel
theorem dX19_perform_154 : decode cX19_perform 154 = .ok (.iload 4, 2) := by decide +kernel
theorem dX19_perform_156 : decode cX19_perform 156 = .ok (.iload_n 2, 1) := by decide +kernel
theorem dX19_perform_157 : decode cX19_perform 157 = .ok (.bipush 20, 2) := by decide +kernel
theorem dX19_perform_159 : decode cX19_perform 159 = .ok (.ishr, 1) := by decide +kernel
theorem dX19_perform_160 : decode cX19_perform 160 = .ok (.iadd, 1) := by decide +kernel
theorem dX19_perform_161 : decode cX19_perform 161 = .ok (.iload_n 3, 1) := by decide +kernel
theorem dX19_perform_162 : decode cX19_perform 162 = .ok (.invokevirtual 106, 3) := by decide +kernel
theorem dX19_perform_165 : decode cX19_perform 165 = .ok (.ireturn, 1) := by decide +kernel
theorem dX19_perform_166 : decode cX19_perform 166 = .ok (.iload_n 1, 1) := by decide +kernel
theorem dX19_perform_167 : decode cX19_perform 167 = .ok (.bipush 8, 2) := by decide +kernel
theorem dX19_perform_169 : decode cX19_perform 169 = .ok (.if_icmp .lt 36, 3) := by decide +kernel
theorem dX19_perform_172 : decode cX19_perform 172 = .ok (.iload_n 1, 1) := by decide +kernel
theorem dX19_perform_173 : decode cX19_perform 173 = .ok (.bipush 8, 2) := by decide +kernel
theorem dX19_perform_175 : decode cX19_perform 175 = .ok (.isub, 1) := by decide +kernel
theorem dX19_perform_176 : decode cX19_perform 176 = .ok (.iload 4, 2) := by decide +kernel
theorem dX19_perform_178 : decode cX19_perform 178 = .ok (.iload 5, 2) := by decide +kernel
theorem dX19_perform_180 : decode cX19_perform 180 = .ok (.invokestatic 109, 3) := by decide +kernel
theorem dX19_perform_183 : decode cX19_perform 183 = .ok (.ifCond .eq 20, 3) := by decide +kernel
theorem dX19_perform_186 : decode cX19_perform 186 = .ok (.aload_n 0, 1) := by decide +kernel
theorem dX19_perform_187 : decode cX19_perform 187 = .ok (.aload_n 0, 1) := by decide +kernel
theorem dX19_perform_188 : decode cX19_perform 188 = .ok (.getfield 50, 3) := by decide +kernel
theorem dX19_perform_191 : decode cX19_perform 191 = .ok (.iload_n 2, 1) := by decide +kernel
theorem dX19_perform_192 : decode cX19_perform 192 = .ok (.invokestatic 113, 3) := by decide +kernel
theorem dX19_perform_195 : decode cX19_perform 195 = .ok (.iadd, 1) := by decide +kernel
theorem dX19_perform_196 : decode cX19_perform 196 = .ok (.iconst 0, 1) := by decide +kernel
theorem dX19_perform_197 : decode cX19_perform 197 = .ok (.invokevirtual 116, 3) := by decide +kernel
theorem dX19_perform_200 : decode cX19_perform 200 = .ok (.goto 4, 3) := by decide +kernel
theorem dX19_perform_203 : decode cX19_perform 203 = .ok (.iconst 0, 1) := by decide +kernel
theorem dX19_perform_204 : decode cX19_perform 204 = .ok (.ireturn, 1) := by decide +kernel
theorem dX19_perform_205 : decode cX19_perform 205 = .ok (.iload_n 1, 1) := by decide +kernel
theorem dX19_perform_206 : decode cX19_perform 206 = .ok (.tableswitch 70 2 4 #[26, 38, 55], 26) := by decide +kernel
theorem dX19_perform_232 : decode cX19_perform 232 = .ok (.aload_n 0, 1) := by decide +kernel
theorem dX19_perform_233 : decode cX19_perform 233 = .ok (.iload_n 3, 1) := by decide +kernel
theorem dX19_perform_234 : decode cX19_perform 234 = .ok (.iload_n 2, 1) := by decide +kernel
theorem dX19_perform_235 : decode cX19_perform 235 = .ok (.sipush (-4096), 3) := by decide +kernel
theorem dX19_perform_238 : decode cX19_perform 238 = .ok (.iand, 1) := by decide +kernel
theorem dX19_perform_239 : decode cX19_perform 239 = .ok (.invokevirtual 96, 3) := by decide +kernel
theorem dX19_perform_242 : decode cX19_perform 242 = .ok (.iconst 0, 1) := by decide +kernel
theorem dX19_perform_243 : decode cX19_perform 243 = .ok (.ireturn, 1) := by decide +kernel
theorem dX19_perform_244 : decode cX19_perform 244 = .ok (.aload_n 0, 1) := by decide +kernel
theorem dX19_perform_245 : decode cX19_perform 245 = .ok (.iload_n 3, 1) := by decide +kernel
theorem dX19_perform_246 : decode cX19_perform 246 = .ok (.aload_n 0, 1) := by decide +kernel
theorem dX19_perform_247 : decode cX19_perform 247 = .ok (.getfield 50, 3) := by decide +kernel
theorem dX19_perform_250 : decode cX19_perform 250 = .ok (.iload_n 2, 1) := by decide +kernel
theorem dX19_perform_251 : decode cX19_perform 251 = .ok (.sipush (-4096), 3) := by decide +kernel
theorem dX19_perform_254 : decode cX19_perform 254 = .ok (.iand, 1) := by decide +kernel
theorem dX19_perform_255 : decode cX19_perform 255 = .ok (.iadd, 1) := by decide +kernel
theorem dX19_perform_256 : decode cX19_perform 256 = .ok (.invokevirtual 96, 3) := by decide +kernel
theorem dX19_perform_259 : decode cX19_perform 259 = .ok (.iconst 0, 1) := by decide +kernel
theorem dX19_perform_260 : decode cX19_perform 260 = .ok (.ireturn, 1) := by decide +kernel
theorem dX19_perform_261 : decode cX19_perform 261 = .ok (.aload_n 0, 1) := by decide +kernel
theorem dX19_perform_262 : decode cX19_perform 262 = .ok (.aload_n 0, 1) := by decide +kernel
theorem dX19_perform_263 : decode cX19_perform 263 = .ok (.getfield 50, 3) := by decide +kernel
theorem dX19_perform_266 : decode cX19_perform 266 = .ok (.iload_n 2, 1) := by decide +kernel
theorem dX19_perform_267 : decode cX19_perform 267 = .ok (.invokestatic 119, 3) := by decide +kernel
theorem dX19_perform_270 : decode cX19_perform 270 = .ok (.iadd, 1) := by decide +kernel
theorem dX19_perform_271 : decode cX19_perform 271 = .ok (.iload_n 3, 1) := by decide +kernel
theorem dX19_perform_272 : decode cX19_perform 272 = .ok (.invokevirtual 116, 3) := by decide +kernel
theorem dX19_perform_275 : decode cX19_perform 275 = .ok (.ireturn, 1) := by decide +kernel
theorem dX19_perform_276 : decode cX19_perform 276 = .ok (.aload_n 0, 1) := by decide +kernel
theorem dX19_perform_277 : decode cX19_perform 277 = .ok (.iload 4, 2) := by decide +kernel
theorem dX19_perform_279 : decode cX19_perform 279 = .ok (.iload_n 2, 1) := by decide +kernel
theorem dX19_perform_280 : decode cX19_perform 280 = .ok (.bipush 20, 2) := by decide +kernel
theorem dX19_perform_282 : decode cX19_perform 282 = .ok (.ishr, 1) := by decide +kernel
theorem dX19_perform_283 : decode cX19_perform 283 = .ok (.iadd, 1) := by decide +kernel
theorem dX19_perform_284 : decode cX19_perform 284 = .ok (.bipush (-2), 2) := by decide +kernel
theorem dX19_perform_286 : decode cX19_perform 286 = .ok (.iand, 1) := by decide +kernel
theorem dX19_perform_287 : decode cX19_perform 287 = .ok (.iload_n 3, 1) := by decide +kernel
theorem dX19_perform_288 : decode cX19_perform 288 = .ok (.invokevirtual 116, 3) := by decide +kernel
theorem dX19_perform_291 : decode cX19_perform 291 = .ok (.ireturn, 1) := by decide +kernel
theorem dX19_special_0 : decode cX19_special 0 = .ok (.iload_n 1, 1) := by decide +kernel
theorem dX19_special_1 : decode cX19_special 1 = .ok (.bipush 72, 2) := by decide +kernel
theorem dX19_special_3 : decode cX19_special 3 = .ok (.if_icmp .ne 5, 3) := by decide +kernel
theorem dX19_special_6 : decode cX19_special 6 = .ok (.iconst 0, 1) := by decide +kernel
theorem dX19_special_7 : decode cX19_special 7 = .ok (.ireturn, 1) := by decide +kernel
theorem dX19_special_8 : decode cX19_special 8 = .ok (.iload_n 1, 1) := by decide +kernel
theorem dX19_special_9 : decode cX19_special 9 = .ok (.bipush 73, 2) := by decide +kernel
theorem dX19_special_11 : decode cX19_special 11 = .ok (.if_icmp .ne 22, 3) := by decide +kernel
theorem dX19_special_14 : decode cX19_special 14 = .ok (.aload_n 0, 1) := by decide +kernel
theorem dX19_special_15 : decode cX19_special 15 = .ok (.getfield 15, 3) := by decide +kernel
theorem dX19_special_18 : decode cX19_special 18 = .ok (.ifCond .ne 13, 3) := by decide +kernel
theorem dX19_special_21 : decode cX19_special 21 = .ok (.aload_n 0, 1) := by decide +kernel
theorem dX19_special_22 : decode cX19_special 22 = .ok (.bipush 8, 2) := by decide +kernel
theorem dX19_special_24 : decode cX19_special 24 = .ok (.iconst 0, 1) := by decide +kernel
theorem dX19_special_25 : decode cX19_special 25 = .ok (.invokevirtual 63, 3) := by decide +kernel
theorem dX19_special_28 : decode cX19_special 28 = .ok (.goto 4, 3) := by decide +kernel
theorem dX19_special_31 : decode cX19_special 31 = .ok (.iconst 2, 1) := by decide +kernel
theorem dX19_special_32 : decode cX19_special 32 = .ok (.ireturn, 1) := by decide +kernel
theorem dX19_special_33 : decode cX19_special 33 = .ok (.iload_n 1, 1) := by decide +kernel
theorem dX19_special_34 : decode cX19_special 34 = .ok (.bipush 74, 2) := by decide +kernel
theorem dX19_special_36 : decode cX19_special 36 = .ok (.if_icmp .ne 13, 3) := by decide +kernel
theorem dX19_special_39 : decode cX19_special 39 = .ok (.aload_n 0, 1) := by decide +kernel
theorem dX19_special_40 : decode cX19_special 40 = .ok (.iconst 3, 1) := by decide +kernel
theorem dX19_special_41 : decode cX19_special 41 = .ok (.aload_n 0, 1) := by decide +kernel
theorem dX19_special_42 : decode cX19_special 42 = .ok (.getfield 50, 3) := by decide +kernel
theorem dX19_special_45 : decode cX19_special 45 = .ok (.invokevirtual 63, 3) := by decide +kernel
theorem dX19_special_48 : decode cX19_special 48 = .ok (.ireturn, 1) := by decide +kernel
theorem dX19_special_49 : decode cX19_special 49 = .ok (.iload_n 1, 1) := by decide +kernel
theorem dX19_special_50 : decode cX19_special 50 = .ok (.iconst 1, 1) := by decide +kernel
theorem dX19_special_51 : decode cX19_special 51 = .ok (.if_icmp .eq 10, 3) := by decide +kernel
theorem dX19_special_54 : decode cX19_special 54 = .ok (.aload_n 0, 1) := by decide +kernel
theorem dX19_special_55 : decode cX19_special 55 = .ok (.getfield 15, 3) := by decide +kernel
theorem dX19_special_58 : decode cX19_special 58 = .ok (.ifCond .ne 10, 3) := by decide +kernel
theorem dX19_special_61 : decode cX19_special 61 = .ok (.aload_n 0, 1) := by decide +kernel
theorem dX19_special_62 : decode cX19_special 62 = .ok (.iconst 2, 1) := by decide +kernel
theorem dX19_special_63 : decode cX19_special 63 = .ok (.iload_n 2, 1) := by decide +kernel
theorem dX19_special_64 : decode cX19_special 64 = .ok (.invokevirtual 63, 3) := by decide +kernel
theorem dX19_special_67 : decode cX19_special 67 = .ok (.ireturn, 1) := by decide +kernel
theorem dX19_special_68 : decode cX19_special 68 = .ok (.iload_n 1, 1) := by decide +kernel
theorem dX19_special_69 : decode cX19_special 69 = .ok (.bipush 75, 2) := by decide +kernel
theorem dX19_special_71 : decode cX19_special 71 = .ok (.if_icmp .ne 27, 3) := by decide +kernel
theorem dX19_special_74 : decode cX19_special 74 = .ok (.aload_n 0, 1) := by decide +kernel
theorem dX19_special_75 : decode cX19_special 75 = .ok (.aload_n 0, 1) := by decide +kernel
theorem dX19_special_76 : decode cX19_special 76 = .ok (.getfield 23, 3) := by decide +kernel
theorem dX19_special_79 : decode cX19_special 79 = .ok (.invokevirtual 135, 3) := by decide +kernel
theorem dX19_special_82 : decode cX19_special 82 = .ok (.putfield 15, 3) := by decide +kernel
theorem dX19_special_85 : decode cX19_special 85 = .ok (.aload_n 0, 1) := by decide +kernel
theorem dX19_special_86 : decode cX19_special 86 = .ok (.aload_n 0, 1) := by decide +kernel
theorem dX19_special_87 : decode cX19_special 87 = .ok (.getfield 23, 3) := by decide +kernel
theorem dX19_special_90 : decode cX19_special 90 = .ok (.invokevirtual 138, 3) := by decide +kernel
theorem dX19_special_93 : decode cX19_special 93 = .ok (.putfield 57, 3) := by decide +kernel
theorem dX19_special_96 : decode cX19_special 96 = .ok (.iconst 0, 1) := by decide +kernel
theorem dX19_special_97 : decode cX19_special 97 = .ok (.ireturn, 1) := by decide +kernel
theorem dX19_special_98 : decode cX19_special 98 = .ok (.iload_n 1, 1) := by decide +kernel
theorem dX19_special_99 : decode cX19_special 99 = .ok (.bipush 76, 2) := by decide +kernel
theorem dX19_special_101 : decode cX19_special 101 = .ok (.if_icmp .ne 7, 3) := by decide +kernel
theorem dX19_special_104 : decode cX19_special 104 = .ok (.iconst 0, 1) := by decide +kernel
theorem dX19_special_105 : decode cX19_special 105 = .ok (.goto 15, 3) := by decide +kernel
theorem dX19_special_108 : decode cX19_special 108 = .ok (.aload_n 0, 1) := by decide +kernel
theorem dX19_special_109 : decode cX19_special 109 = .ok (.iload_n 1, 1) := by decide +kernel
theorem dX19_special_110 : decode cX19_special 110 = .ok (.bipush 80, 2) := by decide +kernel
theorem dX19_special_112 : decode cX19_special 112 = .ok (.isub, 1) := by decide +kernel
theorem dX19_special_113 : decode cX19_special 113 = .ok (.iload_n 2, 1) := by decide +kernel
theorem dX19_special_114 : decode cX19_special 114 = .ok (.iload_n 3, 1) := by decide +kernel
theorem dX19_special_115 : decode cX19_special 115 = .ok (.iload 4, 2) := by decide +kernel
theorem dX19_special_117 : decode cX19_special 117 = .ok (.invokevirtual 141, 3) := by decide +kernel
theorem dX19_special_120 : decode cX19_special 120 = .ok (.ireturn, 1) := by decide +kernel
theorem dX19_control_0 : decode cX19_control 0 = .ok (.iload_n 2, 1) := by decide +kernel
theorem dX19_control_1 : decode cX19_control 1 = .ok (.bipush 20, 2) := by decide +kernel
theorem dX19_control_3 : decode cX19_control 3 = .ok (.iushr, 1) := by decide +kernel
theorem dX19_control_4 : decode cX19_control 4 = .ok (.invokestatic 144, 3) := by decide +kernel
theorem dX19_control_7 : decode cX19_control 7 = .ok (.istore 5, 2) := by decide +kernel
theorem dX19_control_9 : decode cX19_control 9 = .ok (.iload 5, 2) := by decide +kernel
theorem dX19_control_11 : decode cX19_control 11 = .ok (.ifCond .ge 10, 3) := by decide +kernel
theorem dX19_control_14 : decode cX19_control 14 = .ok (.aload_n 0, 1) := by decide +kernel
theorem dX19_control_15 : decode cX19_control 15 = .ok (.iconst 2, 1) := by decide +kernel
theorem dX19_control_16 : decode cX19_control 16 = .ok (.iload_n 2, 1) := by decide +kernel
theorem dX19_control_17 : decode cX19_control 17 = .ok (.invokevirtual 63, 3) := by decide +kernel
theorem dX19_control_20 : decode cX19_control 20 = .ok (.ireturn, 1) := by decide +kernel
theorem dX19_control_21 : decode cX19_control 21 = .ok (.iload_n 2, 1) := by decide +kernel
theorem dX19_control_22 : decode cX19_control 22 = .ok (.bipush 15, 2) := by decide +kernel
theorem dX19_control_24 : decode cX19_control 24 = .ok (.ishr, 1) := by decide +kernel
theorem dX19_control_25 : decode cX19_control 25 = .ok (.bipush 31, 2) := by decide +kernel
theorem dX19_control_27 : decode cX19_control 27 = .ok (.iand, 1) := by decide +kernel
theorem dX19_control_28 : decode cX19_control 28 = .ok (.istore 6, 2) := by decide +kernel
theorem dX19_control_30 : decode cX19_control 30 = .ok (.iload_n 1, 1) := by decide +kernel
theorem dX19_control_31 : decode cX19_control 31 = .ok (.iconst 4, 1) := by decide +kernel
theorem dX19_control_32 : decode cX19_control 32 = .ok (.if_icmp .le 8, 3) := by decide +kernel
theorem dX19_control_35 : decode cX19_control 35 = .ok (.iload 6, 2) := by decide +kernel
theorem dX19_control_37 : decode cX19_control 37 = .ok (.goto 5, 3) := by decide +kernel
theorem dX19_control_40 : decode cX19_control 40 = .ok (.iload 4, 2) := by decide +kernel
theorem dX19_control_42 : decode cX19_control 42 = .ok (.istore 7, 2) := by decide +kernel
theorem dX19_control_44 : decode cX19_control 44 = .ok (.aload_n 0, 1) := by decide +kernel
theorem dX19_control_45 : decode cX19_control 45 = .ok (.getfield 23, 3) := by decide +kernel
theorem dX19_control_48 : decode cX19_control 48 = .ok (.iload 5, 2) := by decide +kernel
theorem dX19_control_50 : decode cX19_control 50 = .ok (.invokevirtual 147, 3) := by decide +kernel
theorem dX19_control_53 : decode cX19_control 53 = .ok (.istore 8, 2) := by decide +kernel
theorem dX19_control_55 : decode cX19_control 55 = .ok (.iload_n 1, 1) := by decide +kernel
theorem dX19_control_56 : decode cX19_control 56 = .ok (.iconst 3, 1) := by decide +kernel
theorem dX19_control_57 : decode cX19_control 57 = .ok (.iand, 1) := by decide +kernel
theorem dX19_control_58 : decode cX19_control 58 = .ok (.iconst 1, 1) := by decide +kernel
theorem dX19_control_59 : decode cX19_control 59 = .ok (.if_icmp .ne 17, 3) := by decide +kernel
theorem dX19_control_62 : decode cX19_control 62 = .ok (.aload_n 0, 1) := by decide +kernel
theorem dX19_control_63 : decode cX19_control 63 = .ok (.getfield 23, 3) := by decide +kernel
theorem dX19_control_66 : decode cX19_control 66 = .ok (.iload 5, 2) := by decide +kernel
theorem dX19_control_68 : decode cX19_control 68 = .ok (.iload 7, 2) := by decide +kernel
theorem dX19_control_70 : decode cX19_control 70 = .ok (.invokevirtual 150, 3) := by decide +kernel
theorem dX19_control_73 : decode cX19_control 73 = .ok (.goto 39, 3) := by decide +kernel
theorem dX19_control_76 : decode cX19_control 76 = .ok (.iload 6, 2) := by decide +kernel
theorem dX19_control_78 : decode cX19_control 78 = .ok (.ifCond .eq 34, 3) := by decide +kernel
theorem dX19_control_81 : decode cX19_control 81 = .ok (.aload_n 0, 1) := by decide +kernel
theorem dX19_control_82 : decode cX19_control 82 = .ok (.getfield 23, 3) := by decide +kernel
theorem dX19_control_85 : decode cX19_control 85 = .ok (.iload 5, 2) := by decide +kernel
theorem dX19_control_87 : decode cX19_control 87 = .ok (.iload_n 1, 1) := by decide +kernel
theorem dX19_control_88 : decode cX19_control 88 = .ok (.iconst 3, 1) := by decide +kernel
theorem dX19_control_89 : decode cX19_control 89 = .ok (.iand, 1) := by decide +kernel
theorem dX19_control_90 : decode cX19_control 90 = .ok (.iconst 2, 1) := by decide +kernel
theorem dX19_control_91 : decode cX19_control 91 = .ok (.if_icmp .ne 11, 3) := by decide +kernel
theorem dX19_control_94 : decode cX19_control 94 = .ok (.iload 8, 2) := by decide +kernel
theorem dX19_control_96 : decode cX19_control 96 = .ok (.iload 7, 2) := by decide +kernel
theorem dX19_control_98 : decode cX19_control 98 = .ok (.ior, 1) := by decide +kernel
theorem dX19_control_99 : decode cX19_control 99 = .ok (.goto 10, 3) := by decide +kernel
theorem dX19_control_102 : decode cX19_control 102 = .ok (.iload 8, 2) := by decide +kernel
theorem dX19_control_104 : decode cX19_control 104 = .ok (.iload 7, 2) := by decide +kernel
theorem dX19_control_106 : decode cX19_control 106 = .ok (.iconst (-1), 1) := by decide +kernel
theorem dX19_control_107 : decode cX19_control 107 = .ok (.ixor, 1) := by decide +kernel
theorem dX19_control_108 : decode cX19_control 108 = .ok (.iand, 1) := by decide +kernel
theorem dX19_control_109 : decode cX19_control 109 = .ok (.invokevirtual 150, 3) := by decide +kernel
theorem dX19_control_112 : decode cX19_control 112 = .ok (.aload_n 0, 1) := by decide +kernel
theorem dX19_control_113 : decode cX19_control 113 = .ok (.iload_n 3, 1) := by decide +kernel
theorem dX19_control_114 : decode cX19_control 114 = .ok (.iload 8, 2) := by decide +kernel
theorem dX19_control_116 : decode cX19_control 116 = .ok (.invokevirtual 96, 3) := by decide +kernel
theorem dX19_control_119 : decode cX19_control 119 = .ok (.iconst 0, 1) := by decide +kernel
theorem dX19_control_120 : decode cX19_control 120 = .ok (.ireturn, 1) := by decide +kernel
theorem dX19_set_0 : decode cX19_set 0 = .ok (.aload_n 0, 1) := by decide +kernel
theorem dX19_set_1 : decode cX19_set 1 = .ok (.getfield 9, 3) := by decide +kernel
theorem dX19_set_4 : decode cX19_set 4 = .ok (.iload_n 1, 1) := by decide +kernel
theorem dX19_set_5 : decode cX19_set 5 = .ok (.iload_n 1, 1) := by decide +kernel
theorem dX19_set_6 : decode cX19_set 6 = .ok (.ifCond .ne 7, 3) := by decide +kernel
theorem dX19_set_9 : decode cX19_set 9 = .ok (.iconst 0, 1) := by decide +kernel
theorem dX19_set_10 : decode cX19_set 10 = .ok (.goto 4, 3) := by decide +kernel
theorem dX19_set_13 : decode cX19_set 13 = .ok (.iload_n 2, 1) := by decide +kernel
theorem dX19_set_14 : decode cX19_set 14 = .ok (.iastore, 1) := by decide +kernel
theorem dX19_set_15 : decode cX19_set 15 = .ok (.return_, 1) := by decide +kernel
theorem dX19_multiplied_0 : decode cX19_multiplied 0 = .ok (.iload_n 1, 1) := by decide +kernel
theorem dX19_multiplied_1 : decode cX19_multiplied 1 = .ok (.i2l, 1) := by decide +kernel
theorem dX19_multiplied_2 : decode cX19_multiplied 2 = .ok (.ldc2_w 128, 3) := by decide +kernel
theorem dX19_multiplied_5 : decode cX19_multiplied 5 = .ok (.land, 1) := by decide +kernel
theorem dX19_multiplied_6 : decode cX19_multiplied 6 = .ok (.lstore_n 3, 1) := by decide +kernel
theorem dX19_multiplied_7 : decode cX19_multiplied 7 = .ok (.iload_n 2, 1) := by decide +kernel
theorem dX19_multiplied_8 : decode cX19_multiplied 8 = .ok (.i2l, 1) := by decide +kernel
theorem dX19_multiplied_9 : decode cX19_multiplied 9 = .ok (.ldc2_w 128, 3) := by decide +kernel
theorem dX19_multiplied_12 : decode cX19_multiplied 12 = .ok (.land, 1) := by decide +kernel
theorem dX19_multiplied_13 : decode cX19_multiplied 13 = .ok (.lstore 5, 2) := by decide +kernel
theorem dX19_multiplied_15 : decode cX19_multiplied 15 = .ok (.iload_n 0, 1) := by decide +kernel
theorem dX19_multiplied_16 : decode cX19_multiplied 16 = .ok (.tableswitch 115 0 6 #[44, 48, 58, 68, 77, 89, 103], 44) := by decide +kernel
theorem dX19_multiplied_60 : decode cX19_multiplied 60 = .ok (.iload_n 1, 1) := by decide +kernel
theorem dX19_multiplied_61 : decode cX19_multiplied 61 = .ok (.iload_n 2, 1) := by decide +kernel
theorem dX19_multiplied_62 : decode cX19_multiplied 62 = .ok (.imul, 1) := by decide +kernel
theorem dX19_multiplied_63 : decode cX19_multiplied 63 = .ok (.ireturn, 1) := by decide +kernel
theorem dX19_multiplied_64 : decode cX19_multiplied 64 = .ok (.iload_n 1, 1) := by decide +kernel
theorem dX19_multiplied_65 : decode cX19_multiplied 65 = .ok (.i2l, 1) := by decide +kernel
theorem dX19_multiplied_66 : decode cX19_multiplied 66 = .ok (.iload_n 2, 1) := by decide +kernel
theorem dX19_multiplied_67 : decode cX19_multiplied 67 = .ok (.i2l, 1) := by decide +kernel
theorem dX19_multiplied_68 : decode cX19_multiplied 68 = .ok (.lmul, 1) := by decide +kernel
theorem dX19_multiplied_69 : decode cX19_multiplied 69 = .ok (.bipush 32, 2) := by decide +kernel
theorem dX19_multiplied_71 : decode cX19_multiplied 71 = .ok (.lshr, 1) := by decide +kernel
theorem dX19_multiplied_72 : decode cX19_multiplied 72 = .ok (.l2i, 1) := by decide +kernel
theorem dX19_multiplied_73 : decode cX19_multiplied 73 = .ok (.ireturn, 1) := by decide +kernel
theorem dX19_multiplied_74 : decode cX19_multiplied 74 = .ok (.iload_n 1, 1) := by decide +kernel
theorem dX19_multiplied_75 : decode cX19_multiplied 75 = .ok (.i2l, 1) := by decide +kernel
theorem dX19_multiplied_76 : decode cX19_multiplied 76 = .ok (.lload 5, 2) := by decide +kernel
theorem dX19_multiplied_78 : decode cX19_multiplied 78 = .ok (.lmul, 1) := by decide +kernel
theorem dX19_multiplied_79 : decode cX19_multiplied 79 = .ok (.bipush 32, 2) := by decide +kernel
theorem dX19_multiplied_81 : decode cX19_multiplied 81 = .ok (.lshr, 1) := by decide +kernel
theorem dX19_multiplied_82 : decode cX19_multiplied 82 = .ok (.l2i, 1) := by decide +kernel
theorem dX19_multiplied_83 : decode cX19_multiplied 83 = .ok (.ireturn, 1) := by decide +kernel
theorem dX19_multiplied_84 : decode cX19_multiplied 84 = .ok (.lload_n 3, 1) := by decide +kernel
theorem dX19_multiplied_85 : decode cX19_multiplied 85 = .ok (.lload 5, 2) := by decide +kernel
theorem dX19_multiplied_87 : decode cX19_multiplied 87 = .ok (.lmul, 1) := by decide +kernel
theorem dX19_multiplied_88 : decode cX19_multiplied 88 = .ok (.bipush 32, 2) := by decide +kernel
theorem dX19_multiplied_90 : decode cX19_multiplied 90 = .ok (.lushr, 1) := by decide +kernel
theorem dX19_multiplied_91 : decode cX19_multiplied 91 = .ok (.l2i, 1) := by decide +kernel
theorem dX19_multiplied_92 : decode cX19_multiplied 92 = .ok (.ireturn, 1) := by decide +kernel
theorem dX19_multiplied_93 : decode cX19_multiplied 93 = .ok (.iload_n 2, 1) := by decide +kernel
theorem dX19_multiplied_94 : decode cX19_multiplied 94 = .ok (.ifCond .ne 7, 3) := by decide +kernel
theorem dX19_multiplied_97 : decode cX19_multiplied 97 = .ok (.iconst (-1), 1) := by decide +kernel
theorem dX19_multiplied_98 : decode cX19_multiplied 98 = .ok (.goto 6, 3) := by decide +kernel
theorem dX19_multiplied_101 : decode cX19_multiplied 101 = .ok (.iload_n 1, 1) := by decide +kernel
theorem dX19_multiplied_102 : decode cX19_multiplied 102 = .ok (.iload_n 2, 1) := by decide +kernel
theorem dX19_multiplied_103 : decode cX19_multiplied 103 = .ok (.idiv, 1) := by decide +kernel
theorem dX19_multiplied_104 : decode cX19_multiplied 104 = .ok (.ireturn, 1) := by decide +kernel
theorem dX19_multiplied_105 : decode cX19_multiplied 105 = .ok (.iload_n 2, 1) := by decide +kernel
theorem dX19_multiplied_106 : decode cX19_multiplied 106 = .ok (.ifCond .ne 7, 3) := by decide +kernel
theorem dX19_multiplied_109 : decode cX19_multiplied 109 = .ok (.iconst (-1), 1) := by decide +kernel
theorem dX19_multiplied_110 : decode cX19_multiplied 110 = .ok (.goto 8, 3) := by decide +kernel
theorem dX19_multiplied_113 : decode cX19_multiplied 113 = .ok (.lload_n 3, 1) := by decide +kernel
theorem dX19_multiplied_114 : decode cX19_multiplied 114 = .ok (.lload 5, 2) := by decide +kernel
theorem dX19_multiplied_116 : decode cX19_multiplied 116 = .ok (.ldiv, 1) := by decide +kernel
theorem dX19_multiplied_117 : decode cX19_multiplied 117 = .ok (.l2i, 1) := by decide +kernel
theorem dX19_multiplied_118 : decode cX19_multiplied 118 = .ok (.ireturn, 1) := by decide +kernel
theorem dX19_multiplied_119 : decode cX19_multiplied 119 = .ok (.iload_n 2, 1) := by decide +kernel
theorem dX19_multiplied_120 : decode cX19_multiplied 120 = .ok (.ifCond .ne 7, 3) := by decide +kernel
theorem dX19_multiplied_123 : decode cX19_multiplied 123 = .ok (.iload_n 1, 1) := by decide +kernel
theorem dX19_multiplied_124 : decode cX19_multiplied 124 = .ok (.goto 6, 3) := by decide +kernel
theorem dX19_multiplied_127 : decode cX19_multiplied 127 = .ok (.iload_n 1, 1) := by decide +kernel
theorem dX19_multiplied_128 : decode cX19_multiplied 128 = .ok (.iload_n 2, 1) := by decide +kernel
theorem dX19_multiplied_129 : decode cX19_multiplied 129 = .ok (.irem, 1) := by decide +kernel
theorem dX19_multiplied_130 : decode cX19_multiplied 130 = .ok (.ireturn, 1) := by decide +kernel
theorem dX19_multiplied_131 : decode cX19_multiplied 131 = .ok (.iload_n 2, 1) := by decide +kernel
theorem dX19_multiplied_132 : decode cX19_multiplied 132 = .ok (.ifCond .ne 7, 3) := by decide +kernel
theorem dX19_multiplied_135 : decode cX19_multiplied 135 = .ok (.iload_n 1, 1) := by decide +kernel
theorem dX19_multiplied_136 : decode cX19_multiplied 136 = .ok (.goto 8, 3) := by decide +kernel
theorem dX19_multiplied_139 : decode cX19_multiplied 139 = .ok (.lload_n 3, 1) := by decide +kernel
theorem dX19_multiplied_140 : decode cX19_multiplied 140 = .ok (.lload 5, 2) := by decide +kernel
theorem dX19_multiplied_142 : decode cX19_multiplied 142 = .ok (.lrem, 1) := by decide +kernel
theorem dX19_multiplied_143 : decode cX19_multiplied 143 = .ok (.l2i, 1) := by decide +kernel
theorem dX19_multiplied_144 : decode cX19_multiplied 144 = .ok (.ireturn, 1) := by decide +kernel
theorem dX19_reckoned_0 : decode cX19_reckoned 0 = .ok (.iload_n 0, 1) := by decide +kernel
theorem dX19_reckoned_1 : decode cX19_reckoned 1 = .ok (.lookupswitch 43 #[(40, 39), (56, 35), (57, 39)], 35) := by decide +kernel
theorem dX19_reckoned_36 : decode cX19_reckoned 36 = .ok (.iload_n 1, 1) := by decide +kernel
theorem dX19_reckoned_37 : decode cX19_reckoned 37 = .ok (.iload_n 2, 1) := by decide +kernel
theorem dX19_reckoned_38 : decode cX19_reckoned 38 = .ok (.isub, 1) := by decide +kernel
theorem dX19_reckoned_39 : decode cX19_reckoned 39 = .ok (.ireturn, 1) := by decide +kernel
theorem dX19_reckoned_40 : decode cX19_reckoned 40 = .ok (.iload_n 1, 1) := by decide +kernel
theorem dX19_reckoned_41 : decode cX19_reckoned 41 = .ok (.iload_n 2, 1) := by decide +kernel
theorem dX19_reckoned_42 : decode cX19_reckoned 42 = .ok (.ishr, 1) := by decide +kernel
theorem dX19_reckoned_43 : decode cX19_reckoned 43 = .ok (.ireturn, 1) := by decide +kernel
theorem dX19_reckoned_44 : decode cX19_reckoned 44 = .ok (.iload_n 0, 1) := by decide +kernel
theorem dX19_reckoned_45 : decode cX19_reckoned 45 = .ok (.bipush 7, 2) := by decide +kernel
theorem dX19_reckoned_47 : decode cX19_reckoned 47 = .ok (.iand, 1) := by decide +kernel
theorem dX19_reckoned_48 : decode cX19_reckoned 48 = .ok (.iload_n 1, 1) := by decide +kernel
theorem dX19_reckoned_49 : decode cX19_reckoned 49 = .ok (.iload_n 2, 1) := by decide +kernel
theorem dX19_reckoned_50 : decode cX19_reckoned 50 = .ok (.invokestatic 125, 3) := by decide +kernel
theorem dX19_reckoned_53 : decode cX19_reckoned 53 = .ok (.ireturn, 1) := by decide +kernel
theorem dX19_byF_0 : decode cX19_byF 0 = .ok (.iload_n 0, 1) := by decide +kernel
theorem dX19_byF_1 : decode cX19_byF 1 = .ok (.tableswitch 91 0 6 #[43, 47, 51, 62, 79, 83, 87], 43) := by decide +kernel
theorem dX19_byF_44 : decode cX19_byF 44 = .ok (.iload_n 1, 1) := by decide +kernel
theorem dX19_byF_45 : decode cX19_byF 45 = .ok (.iload_n 2, 1) := by decide +kernel
theorem dX19_byF_46 : decode cX19_byF 46 = .ok (.iadd, 1) := by decide +kernel
theorem dX19_byF_47 : decode cX19_byF 47 = .ok (.ireturn, 1) := by decide +kernel
theorem dX19_byF_48 : decode cX19_byF 48 = .ok (.iload_n 1, 1) := by decide +kernel
theorem dX19_byF_49 : decode cX19_byF 49 = .ok (.iload_n 2, 1) := by decide +kernel
theorem dX19_byF_50 : decode cX19_byF 50 = .ok (.ishl, 1) := by decide +kernel
theorem dX19_byF_51 : decode cX19_byF 51 = .ok (.ireturn, 1) := by decide +kernel
theorem dX19_byF_52 : decode cX19_byF 52 = .ok (.iload_n 1, 1) := by decide +kernel
theorem dX19_byF_53 : decode cX19_byF 53 = .ok (.iload_n 2, 1) := by decide +kernel
theorem dX19_byF_54 : decode cX19_byF 54 = .ok (.if_icmp .ge 7, 3) := by decide +kernel
theorem dX19_byF_57 : decode cX19_byF 57 = .ok (.iconst 1, 1) := by decide +kernel
theorem dX19_byF_58 : decode cX19_byF 58 = .ok (.goto 4, 3) := by decide +kernel
theorem dX19_byF_61 : decode cX19_byF 61 = .ok (.iconst 0, 1) := by decide +kernel
theorem dX19_byF_62 : decode cX19_byF 62 = .ok (.ireturn, 1) := by decide +kernel
theorem dX19_byF_63 : decode cX19_byF 63 = .ok (.iload_n 1, 1) := by decide +kernel
theorem dX19_byF_64 : decode cX19_byF 64 = .ok (.ldc 124, 2) := by decide +kernel
theorem dX19_byF_66 : decode cX19_byF 66 = .ok (.iadd, 1) := by decide +kernel
theorem dX19_byF_67 : decode cX19_byF 67 = .ok (.iload_n 2, 1) := by decide +kernel
theorem dX19_byF_68 : decode cX19_byF 68 = .ok (.ldc 124, 2) := by decide +kernel
theorem dX19_byF_70 : decode cX19_byF 70 = .ok (.iadd, 1) := by decide +kernel
theorem dX19_byF_71 : decode cX19_byF 71 = .ok (.if_icmp .ge 7, 3) := by decide +kernel
theorem dX19_byF_74 : decode cX19_byF 74 = .ok (.iconst 1, 1) := by decide +kernel
theorem dX19_byF_75 : decode cX19_byF 75 = .ok (.goto 4, 3) := by decide +kernel
theorem dX19_byF_78 : decode cX19_byF 78 = .ok (.iconst 0, 1) := by decide +kernel
theorem dX19_byF_79 : decode cX19_byF 79 = .ok (.ireturn, 1) := by decide +kernel
theorem dX19_byF_80 : decode cX19_byF 80 = .ok (.iload_n 1, 1) := by decide +kernel
theorem dX19_byF_81 : decode cX19_byF 81 = .ok (.iload_n 2, 1) := by decide +kernel
theorem dX19_byF_82 : decode cX19_byF 82 = .ok (.ixor, 1) := by decide +kernel
theorem dX19_byF_83 : decode cX19_byF 83 = .ok (.ireturn, 1) := by decide +kernel
theorem dX19_byF_84 : decode cX19_byF 84 = .ok (.iload_n 1, 1) := by decide +kernel
theorem dX19_byF_85 : decode cX19_byF 85 = .ok (.iload_n 2, 1) := by decide +kernel
theorem dX19_byF_86 : decode cX19_byF 86 = .ok (.iushr, 1) := by decide +kernel
theorem dX19_byF_87 : decode cX19_byF 87 = .ok (.ireturn, 1) := by decide +kernel
theorem dX19_byF_88 : decode cX19_byF 88 = .ok (.iload_n 1, 1) := by decide +kernel
theorem dX19_byF_89 : decode cX19_byF 89 = .ok (.iload_n 2, 1) := by decide +kernel
theorem dX19_byF_90 : decode cX19_byF 90 = .ok (.ior, 1) := by decide +kernel
theorem dX19_byF_91 : decode cX19_byF 91 = .ok (.ireturn, 1) := by decide +kernel
theorem dX19_byF_92 : decode cX19_byF 92 = .ok (.iload_n 1, 1) := by decide +kernel
theorem dX19_byF_93 : decode cX19_byF 93 = .ok (.iload_n 2, 1) := by decide +kernel
theorem dX19_byF_94 : decode cX19_byF 94 = .ok (.iand, 1) := by decide +kernel
theorem dX19_byF_95 : decode cX19_byF 95 = .ok (.ireturn, 1) := by decide +kernel
theorem dX19_store_0 : decode cX19_store 0 = .ok (.iconst 1, 1) := by decide +kernel
theorem dX19_store_1 : decode cX19_store 1 = .ok (.iload_n 1, 1) := by decide +kernel
theorem dX19_store_2 : decode cX19_store 2 = .ok (.ishl, 1) := by decide +kernel
theorem dX19_store_3 : decode cX19_store 3 = .ok (.istore 4, 2) := by decide +kernel
theorem dX19_store_5 : decode cX19_store 5 = .ok (.iload_n 2, 1) := by decide +kernel
theorem dX19_store_6 : decode cX19_store 6 = .ok (.iload 4, 2) := by decide +kernel
theorem dX19_store_8 : decode cX19_store 8 = .ok (.iconst 1, 1) := by decide +kernel
theorem dX19_store_9 : decode cX19_store 9 = .ok (.isub, 1) := by decide +kernel
theorem dX19_store_10 : decode cX19_store 10 = .ok (.iand, 1) := by decide +kernel
theorem dX19_store_11 : decode cX19_store 11 = .ok (.ifCond .eq 11, 3) := by decide +kernel
theorem dX19_store_14 : decode cX19_store 14 = .ok (.aload_n 0, 1) := by decide +kernel
theorem dX19_store_15 : decode cX19_store 15 = .ok (.bipush 6, 2) := by decide +kernel
theorem dX19_store_17 : decode cX19_store 17 = .ok (.iload_n 2, 1) := by decide +kernel
theorem dX19_store_18 : decode cX19_store 18 = .ok (.invokevirtual 63, 3) := by decide +kernel
theorem dX19_store_21 : decode cX19_store 21 = .ok (.ireturn, 1) := by decide +kernel
theorem dX19_store_22 : decode cX19_store 22 = .ok (.aload_n 0, 1) := by decide +kernel
theorem dX19_store_23 : decode cX19_store 23 = .ok (.iload_n 2, 1) := by decide +kernel
theorem dX19_store_24 : decode cX19_store 24 = .ok (.iconst 2, 1) := by decide +kernel
theorem dX19_store_25 : decode cX19_store 25 = .ok (.invokevirtual 73, 3) := by decide +kernel
theorem dX19_store_28 : decode cX19_store 28 = .ok (.istore 5, 2) := by decide +kernel
theorem dX19_store_30 : decode cX19_store 30 = .ok (.iload 5, 2) := by decide +kernel
theorem dX19_store_32 : decode cX19_store 32 = .ok (.ifCond .ge 13, 3) := by decide +kernel
theorem dX19_store_35 : decode cX19_store 35 = .ok (.aload_n 0, 1) := by decide +kernel
theorem dX19_store_36 : decode cX19_store 36 = .ok (.iconst (-1), 1) := by decide +kernel
theorem dX19_store_37 : decode cX19_store 37 = .ok (.iload 5, 2) := by decide +kernel
theorem dX19_store_39 : decode cX19_store 39 = .ok (.isub, 1) := by decide +kernel
theorem dX19_store_40 : decode cX19_store 40 = .ok (.iload_n 2, 1) := by decide +kernel
theorem dX19_store_41 : decode cX19_store 41 = .ok (.invokevirtual 63, 3) := by decide +kernel
theorem dX19_store_44 : decode cX19_store 44 = .ok (.ireturn, 1) := by decide +kernel
theorem dX19_store_45 : decode cX19_store 45 = .ok (.aload_n 0, 1) := by decide +kernel
theorem dX19_store_46 : decode cX19_store 46 = .ok (.getfield 19, 3) := by decide +kernel
theorem dX19_store_49 : decode cX19_store 49 = .ok (.iload 5, 2) := by decide +kernel
theorem dX19_store_51 : decode cX19_store 51 = .ok (.iload_n 3, 1) := by decide +kernel
theorem dX19_store_52 : decode cX19_store 52 = .ok (.bipush 8, 2) := by decide +kernel
theorem dX19_store_54 : decode cX19_store 54 = .ok (.iload 4, 2) := by decide +kernel
theorem dX19_store_56 : decode cX19_store 56 = .ok (.imul, 1) := by decide +kernel
theorem dX19_store_57 : decode cX19_store 57 = .ok (.invokevirtual 131, 3) := by decide +kernel
theorem dX19_store_60 : decode cX19_store 60 = .ok (.iconst 0, 1) := by decide +kernel
theorem dX19_store_61 : decode cX19_store 61 = .ok (.ireturn, 1) := by decide +kernel
theorem dX19_load_0 : decode cX19_load 0 = .ok (.iconst 1, 1) := by decide +kernel
theorem dX19_load_1 : decode cX19_load 1 = .ok (.iload_n 1, 1) := by decide +kernel
theorem dX19_load_2 : decode cX19_load 2 = .ok (.iconst 3, 1) := by decide +kernel
theorem dX19_load_3 : decode cX19_load 3 = .ok (.iand, 1) := by decide +kernel
theorem dX19_load_4 : decode cX19_load 4 = .ok (.ishl, 1) := by decide +kernel
theorem dX19_load_5 : decode cX19_load 5 = .ok (.istore 4, 2) := by decide +kernel
theorem dX19_load_7 : decode cX19_load 7 = .ok (.iload_n 2, 1) := by decide +kernel
theorem dX19_load_8 : decode cX19_load 8 = .ok (.iload 4, 2) := by decide +kernel
theorem dX19_load_10 : decode cX19_load 10 = .ok (.iconst 1, 1) := by decide +kernel
theorem dX19_load_11 : decode cX19_load 11 = .ok (.isub, 1) := by decide +kernel
theorem dX19_load_12 : decode cX19_load 12 = .ok (.iand, 1) := by decide +kernel
theorem dX19_load_13 : decode cX19_load 13 = .ok (.ifCond .eq 10, 3) := by decide +kernel
theorem dX19_load_16 : decode cX19_load 16 = .ok (.aload_n 0, 1) := by decide +kernel
theorem dX19_load_17 : decode cX19_load 17 = .ok (.iconst 4, 1) := by decide +kernel
theorem dX19_load_18 : decode cX19_load 18 = .ok (.iload_n 2, 1) := by decide +kernel
theorem dX19_load_19 : decode cX19_load 19 = .ok (.invokevirtual 63, 3) := by decide +kernel
theorem dX19_load_22 : decode cX19_load 22 = .ok (.ireturn, 1) := by decide +kernel
theorem dX19_load_23 : decode cX19_load 23 = .ok (.aload_n 0, 1) := by decide +kernel
theorem dX19_load_24 : decode cX19_load 24 = .ok (.iload_n 2, 1) := by decide +kernel
theorem dX19_load_25 : decode cX19_load 25 = .ok (.iconst 1, 1) := by decide +kernel
theorem dX19_load_26 : decode cX19_load 26 = .ok (.invokevirtual 73, 3) := by decide +kernel
theorem dX19_load_29 : decode cX19_load 29 = .ok (.istore 5, 2) := by decide +kernel
theorem dX19_load_31 : decode cX19_load 31 = .ok (.iload 5, 2) := by decide +kernel
theorem dX19_load_33 : decode cX19_load 33 = .ok (.ifCond .ge 13, 3) := by decide +kernel
theorem dX19_load_36 : decode cX19_load 36 = .ok (.aload_n 0, 1) := by decide +kernel
theorem dX19_load_37 : decode cX19_load 37 = .ok (.iconst (-1), 1) := by decide +kernel
theorem dX19_load_38 : decode cX19_load 38 = .ok (.iload 5, 2) := by decide +kernel
theorem dX19_load_40 : decode cX19_load 40 = .ok (.isub, 1) := by decide +kernel
theorem dX19_load_41 : decode cX19_load 41 = .ok (.iload_n 2, 1) := by decide +kernel
theorem dX19_load_42 : decode cX19_load 42 = .ok (.invokevirtual 63, 3) := by decide +kernel
theorem dX19_load_45 : decode cX19_load 45 = .ok (.ireturn, 1) := by decide +kernel
theorem dX19_load_46 : decode cX19_load 46 = .ok (.aload_n 0, 1) := by decide +kernel
theorem dX19_load_47 : decode cX19_load 47 = .ok (.getfield 19, 3) := by decide +kernel
theorem dX19_load_50 : decode cX19_load 50 = .ok (.iload 5, 2) := by decide +kernel
theorem dX19_load_52 : decode cX19_load 52 = .ok (.invokevirtual 81, 3) := by decide +kernel
theorem dX19_load_55 : decode cX19_load 55 = .ok (.bipush 8, 2) := by decide +kernel
theorem dX19_load_57 : decode cX19_load 57 = .ok (.iload 5, 2) := by decide +kernel
theorem dX19_load_59 : decode cX19_load 59 = .ok (.iconst 3, 1) := by decide +kernel
theorem dX19_load_60 : decode cX19_load 60 = .ok (.iand, 1) := by decide +kernel
theorem dX19_load_61 : decode cX19_load 61 = .ok (.imul, 1) := by decide +kernel
theorem dX19_load_62 : decode cX19_load 62 = .ok (.iushr, 1) := by decide +kernel
theorem dX19_load_63 : decode cX19_load 63 = .ok (.istore 6, 2) := by decide +kernel
theorem dX19_load_65 : decode cX19_load 65 = .ok (.aload_n 0, 1) := by decide +kernel
theorem dX19_load_66 : decode cX19_load 66 = .ok (.iload_n 3, 1) := by decide +kernel
theorem dX19_load_67 : decode cX19_load 67 = .ok (.iload_n 1, 1) := by decide +kernel
theorem dX19_load_68 : decode cX19_load 68 = .ok (.ifCond .ne 9, 3) := by decide +kernel
theorem dX19_load_71 : decode cX19_load 71 = .ok (.iload 6, 2) := by decide +kernel
theorem dX19_load_73 : decode cX19_load 73 = .ok (.i2b, 1) := by decide +kernel
theorem dX19_load_74 : decode cX19_load 74 = .ok (.goto 43, 3) := by decide +kernel
theorem dX19_load_77 : decode cX19_load 77 = .ok (.iload_n 1, 1) := by decide +kernel
theorem dX19_load_78 : decode cX19_load 78 = .ok (.iconst 1, 1) := by decide +kernel
theorem dX19_load_79 : decode cX19_load 79 = .ok (.if_icmp .ne 9, 3) := by decide +kernel
theorem dX19_load_82 : decode cX19_load 82 = .ok (.iload 6, 2) := by decide +kernel
theorem dX19_load_84 : decode cX19_load 84 = .ok (.i2s, 1) := by decide +kernel
theorem dX19_load_85 : decode cX19_load 85 = .ok (.goto 32, 3) := by decide +kernel
theorem dX19_load_88 : decode cX19_load 88 = .ok (.iload_n 1, 1) := by decide +kernel
theorem dX19_load_89 : decode cX19_load 89 = .ok (.iconst 4, 1) := by decide +kernel
theorem dX19_load_90 : decode cX19_load 90 = .ok (.if_icmp .ne 12, 3) := by decide +kernel
theorem dX19_load_93 : decode cX19_load 93 = .ok (.iload 6, 2) := by decide +kernel
theorem dX19_load_95 : decode cX19_load 95 = .ok (.sipush 255, 3) := by decide +kernel
theorem dX19_load_98 : decode cX19_load 98 = .ok (.iand, 1) := by decide +kernel
theorem dX19_load_99 : decode cX19_load 99 = .ok (.goto 18, 3) := by decide +kernel
theorem dX19_load_102 : decode cX19_load 102 = .ok (.iload_n 1, 1) := by decide +kernel
theorem dX19_load_103 : decode cX19_load 103 = .ok (.iconst 5, 1) := by decide +kernel
theorem dX19_load_104 : decode cX19_load 104 = .ok (.if_icmp .ne 11, 3) := by decide +kernel
theorem dX19_load_107 : decode cX19_load 107 = .ok (.iload 6, 2) := by decide +kernel
theorem dX19_load_109 : decode cX19_load 109 = .ok (.ldc 130, 2) := by decide +kernel
theorem dX19_load_111 : decode cX19_load 111 = .ok (.iand, 1) := by decide +kernel
theorem dX19_load_112 : decode cX19_load 112 = .ok (.goto 5, 3) := by decide +kernel
theorem dX19_load_115 : decode cX19_load 115 = .ok (.iload 6, 2) := by decide +kernel
theorem dX19_load_117 : decode cX19_load 117 = .ok (.invokevirtual 96, 3) := by decide +kernel
theorem dX19_load_120 : decode cX19_load 120 = .ok (.iconst 0, 1) := by decide +kernel
theorem dX19_load_121 : decode cX19_load 121 = .ok (.ireturn, 1) := by decide +kernel
theorem dX19_isTaken_0 : decode cX19_isTaken 0 = .ok (.iload_n 0, 1) := by decide +kernel
theorem dX19_isTaken_1 : decode cX19_isTaken 1 = .ok (.iconst 2, 1) := by decide +kernel
theorem dX19_isTaken_2 : decode cX19_isTaken 2 = .ok (.if_icmp .ge 16, 3) := by decide +kernel
theorem dX19_isTaken_5 : decode cX19_isTaken 5 = .ok (.iload_n 1, 1) := by decide +kernel
theorem dX19_isTaken_6 : decode cX19_isTaken 6 = .ok (.iload_n 2, 1) := by decide +kernel
theorem dX19_isTaken_7 : decode cX19_isTaken 7 = .ok (.if_icmp .ne 7, 3) := by decide +kernel
theorem dX19_isTaken_10 : decode cX19_isTaken 10 = .ok (.iconst 1, 1) := by decide +kernel
theorem dX19_isTaken_11 : decode cX19_isTaken 11 = .ok (.goto 42, 3) := by decide +kernel
theorem dX19_isTaken_14 : decode cX19_isTaken 14 = .ok (.iconst 0, 1) := by decide +kernel
theorem dX19_isTaken_15 : decode cX19_isTaken 15 = .ok (.goto 38, 3) := by decide +kernel
theorem dX19_isTaken_18 : decode cX19_isTaken 18 = .ok (.iload_n 0, 1) := by decide +kernel
theorem dX19_isTaken_19 : decode cX19_isTaken 19 = .ok (.bipush 6, 2) := by decide +kernel
theorem dX19_isTaken_21 : decode cX19_isTaken 21 = .ok (.if_icmp .ge 16, 3) := by decide +kernel
theorem dX19_isTaken_24 : decode cX19_isTaken 24 = .ok (.iload_n 1, 1) := by decide +kernel
theorem dX19_isTaken_25 : decode cX19_isTaken 25 = .ok (.iload_n 2, 1) := by decide +kernel
theorem dX19_isTaken_26 : decode cX19_isTaken 26 = .ok (.if_icmp .ge 7, 3) := by decide +kernel
theorem dX19_isTaken_29 : decode cX19_isTaken 29 = .ok (.iconst 1, 1) := by decide +kernel
theorem dX19_isTaken_30 : decode cX19_isTaken 30 = .ok (.goto 23, 3) := by decide +kernel
theorem dX19_isTaken_33 : decode cX19_isTaken 33 = .ok (.iconst 0, 1) := by decide +kernel
theorem dX19_isTaken_34 : decode cX19_isTaken 34 = .ok (.goto 19, 3) := by decide +kernel
theorem dX19_isTaken_37 : decode cX19_isTaken 37 = .ok (.iload_n 1, 1) := by decide +kernel
theorem dX19_isTaken_38 : decode cX19_isTaken 38 = .ok (.ldc 124, 2) := by decide +kernel
theorem dX19_isTaken_40 : decode cX19_isTaken 40 = .ok (.iadd, 1) := by decide +kernel
theorem dX19_isTaken_41 : decode cX19_isTaken 41 = .ok (.iload_n 2, 1) := by decide +kernel
theorem dX19_isTaken_42 : decode cX19_isTaken 42 = .ok (.ldc 124, 2) := by decide +kernel
theorem dX19_isTaken_44 : decode cX19_isTaken 44 = .ok (.iadd, 1) := by decide +kernel
theorem dX19_isTaken_45 : decode cX19_isTaken 45 = .ok (.if_icmp .ge 7, 3) := by decide +kernel
theorem dX19_isTaken_48 : decode cX19_isTaken 48 = .ok (.iconst 1, 1) := by decide +kernel
theorem dX19_isTaken_49 : decode cX19_isTaken 49 = .ok (.goto 4, 3) := by decide +kernel
theorem dX19_isTaken_52 : decode cX19_isTaken 52 = .ok (.iconst 0, 1) := by decide +kernel
theorem dX19_isTaken_53 : decode cX19_isTaken 53 = .ok (.istore_n 3, 1) := by decide +kernel
theorem dX19_isTaken_54 : decode cX19_isTaken 54 = .ok (.iload_n 3, 1) := by decide +kernel
theorem dX19_isTaken_55 : decode cX19_isTaken 55 = .ok (.iload_n 0, 1) := by decide +kernel
theorem dX19_isTaken_56 : decode cX19_isTaken 56 = .ok (.iconst 1, 1) := by decide +kernel
theorem dX19_isTaken_57 : decode cX19_isTaken 57 = .ok (.iand, 1) := by decide +kernel
theorem dX19_isTaken_58 : decode cX19_isTaken 58 = .ok (.ifCond .ne 7, 3) := by decide +kernel
theorem dX19_isTaken_61 : decode cX19_isTaken 61 = .ok (.iconst 1, 1) := by decide +kernel
theorem dX19_isTaken_62 : decode cX19_isTaken 62 = .ok (.goto 4, 3) := by decide +kernel
theorem dX19_isTaken_65 : decode cX19_isTaken 65 = .ok (.iconst 0, 1) := by decide +kernel
theorem dX19_isTaken_66 : decode cX19_isTaken 66 = .ok (.if_icmp .ne 7, 3) := by decide +kernel
theorem dX19_isTaken_69 : decode cX19_isTaken 69 = .ok (.iconst 1, 1) := by decide +kernel
theorem dX19_isTaken_70 : decode cX19_isTaken 70 = .ok (.goto 4, 3) := by decide +kernel
theorem dX19_isTaken_73 : decode cX19_isTaken 73 = .ok (.iconst 0, 1) := by decide +kernel
theorem dX19_isTaken_74 : decode cX19_isTaken 74 = .ok (.ireturn, 1) := by decide +kernel
theorem dX19_go_0 : decode cX19_go 0 = .ok (.iload_n 1, 1) := by decide +kernel
theorem dX19_go_1 : decode cX19_go 1 = .ok (.iconst 3, 1) := by decide +kernel
theorem dX19_go_2 : decode cX19_go 2 = .ok (.iand, 1) := by decide +kernel
theorem dX19_go_3 : decode cX19_go 3 = .ok (.ifCond .eq 10, 3) := by decide +kernel
theorem dX19_go_6 : decode cX19_go 6 = .ok (.aload_n 0, 1) := by decide +kernel
theorem dX19_go_7 : decode cX19_go 7 = .ok (.iconst 0, 1) := by decide +kernel
theorem dX19_go_8 : decode cX19_go 8 = .ok (.iload_n 1, 1) := by decide +kernel
theorem dX19_go_9 : decode cX19_go 9 = .ok (.invokevirtual 63, 3) := by decide +kernel
theorem dX19_go_12 : decode cX19_go 12 = .ok (.ireturn, 1) := by decide +kernel
theorem dX19_go_13 : decode cX19_go 13 = .ok (.aload_n 0, 1) := by decide +kernel
theorem dX19_go_14 : decode cX19_go 14 = .ok (.iload_n 2, 1) := by decide +kernel
theorem dX19_go_15 : decode cX19_go 15 = .ok (.aload_n 0, 1) := by decide +kernel
theorem dX19_go_16 : decode cX19_go 16 = .ok (.getfield 50, 3) := by decide +kernel
theorem dX19_go_19 : decode cX19_go 19 = .ok (.iconst 4, 1) := by decide +kernel
theorem dX19_go_20 : decode cX19_go 20 = .ok (.iadd, 1) := by decide +kernel
theorem dX19_go_21 : decode cX19_go 21 = .ok (.invokevirtual 96, 3) := by decide +kernel
theorem dX19_go_24 : decode cX19_go 24 = .ok (.aload_n 0, 1) := by decide +kernel
theorem dX19_go_25 : decode cX19_go 25 = .ok (.iload_n 1, 1) := by decide +kernel
theorem dX19_go_26 : decode cX19_go 26 = .ok (.putfield 57, 3) := by decide +kernel
theorem dX19_go_29 : decode cX19_go 29 = .ok (.iconst 0, 1) := by decide +kernel
theorem dX19_go_30 : decode cX19_go 30 = .ok (.ireturn, 1) := by decide +kernel
theorem dX2_init_0 : decode cX2_init 0 = .ok (.aload_n 0, 1) := by decide +kernel
theorem dX2_init_1 : decode cX2_init 1 = .ok (.invokespecial 3, 3) := by decide +kernel
theorem dX2_init_4 : decode cX2_init 4 = .ok (.aload_n 0, 1) := by decide +kernel
theorem dX2_init_5 : decode cX2_init 5 = .ok (.bipush 15, 2) := by decide +kernel
theorem dX2_init_7 : decode cX2_init 7 = .ok (.anewarray 9, 3) := by decide +kernel
theorem dX2_init_10 : decode cX2_init 10 = .ok (.dup, 1) := by decide +kernel
theorem dX2_init_11 : decode cX2_init 11 = .ok (.iconst 0, 1) := by decide +kernel
theorem dX2_init_12 : decode cX2_init 12 = .ok (.ldc 11, 2) := by decide +kernel
theorem dX2_init_14 : decode cX2_init 14 = .ok (.aastore, 1) := by decide +kernel
theorem dX2_init_15 : decode cX2_init 15 = .ok (.dup, 1) := by decide +kernel
theorem dX2_init_16 : decode cX2_init 16 = .ok (.iconst 1, 1) := by decide +kernel
theorem dX2_init_17 : decode cX2_init 17 = .ok (.ldc 13, 2) := by decide +kernel
theorem dX2_init_19 : decode cX2_init 19 = .ok (.aastore, 1) := by decide +kernel
theorem dX2_init_20 : decode cX2_init 20 = .ok (.dup, 1) := by decide +kernel
theorem dX2_init_21 : decode cX2_init 21 = .ok (.iconst 2, 1) := by decide +kernel
theorem dX2_init_22 : decode cX2_init 22 = .ok (.ldc 15, 2) := by decide +kernel
theorem dX2_init_24 : decode cX2_init 24 = .ok (.aastore, 1) := by decide +kernel
theorem dX2_init_25 : decode cX2_init 25 = .ok (.dup, 1) := by decide +kernel
theorem dX2_init_26 : decode cX2_init 26 = .ok (.iconst 3, 1) := by decide +kernel
theorem dX2_init_27 : decode cX2_init 27 = .ok (.ldc 17, 2) := by decide +kernel
theorem dX2_init_29 : decode cX2_init 29 = .ok (.aastore, 1) := by decide +kernel
theorem dX2_init_30 : decode cX2_init 30 = .ok (.dup, 1) := by decide +kernel
theorem dX2_init_31 : decode cX2_init 31 = .ok (.iconst 4, 1) := by decide +kernel
theorem dX2_init_32 : decode cX2_init 32 = .ok (.ldc 19, 2) := by decide +kernel
theorem dX2_init_34 : decode cX2_init 34 = .ok (.aastore, 1) := by decide +kernel
theorem dX2_init_35 : decode cX2_init 35 = .ok (.dup, 1) := by decide +kernel
theorem dX2_init_36 : decode cX2_init 36 = .ok (.iconst 5, 1) := by decide +kernel
theorem dX2_init_37 : decode cX2_init 37 = .ok (.ldc 21, 2) := by decide +kernel
theorem dX2_init_39 : decode cX2_init 39 = .ok (.aastore, 1) := by decide +kernel
theorem dX2_init_40 : decode cX2_init 40 = .ok (.dup, 1) := by decide +kernel
theorem dX2_init_41 : decode cX2_init 41 = .ok (.bipush 6, 2) := by decide +kernel
theorem dX2_init_43 : decode cX2_init 43 = .ok (.ldc 23, 2) := by decide +kernel
theorem dX2_init_45 : decode cX2_init 45 = .ok (.aastore, 1) := by decide +kernel
theorem dX2_init_46 : decode cX2_init 46 = .ok (.dup, 1) := by decide +kernel
theorem dX2_init_47 : decode cX2_init 47 = .ok (.bipush 7, 2) := by decide +kernel
theorem dX2_init_49 : decode cX2_init 49 = .ok (.ldc 25, 2) := by decide +kernel
theorem dX2_init_51 : decode cX2_init 51 = .ok (.aastore, 1) := by decide +kernel
theorem dX2_init_52 : decode cX2_init 52 = .ok (.dup, 1) := by decide +kernel
theorem dX2_init_53 : decode cX2_init 53 = .ok (.bipush 8, 2) := by decide +kernel
theorem dX2_init_55 : decode cX2_init 55 = .ok (.ldc 27, 2) := by decide +kernel
theorem dX2_init_57 : decode cX2_init 57 = .ok (.aastore, 1) := by decide +kernel
theorem dX2_init_58 : decode cX2_init 58 = .ok (.dup, 1) := by decide +kernel
theorem dX2_init_59 : decode cX2_init 59 = .ok (.bipush 9, 2) := by decide +kernel
theorem dX2_init_61 : decode cX2_init 61 = .ok (.ldc 29, 2) := by decide +kernel
theorem dX2_init_63 : decode cX2_init 63 = .ok (.aastore, 1) := by decide +kernel
theorem dX2_init_64 : decode cX2_init 64 = .ok (.dup, 1) := by decide +kernel
theorem dX2_init_65 : decode cX2_init 65 = .ok (.bipush 10, 2) := by decide +kernel
theorem dX2_init_67 : decode cX2_init 67 = .ok (.ldc 31, 2) := by decide +kernel
theorem dX2_init_69 : decode cX2_init 69 = .ok (.aastore, 1) := by decide +kernel
theorem dX2_init_70 : decode cX2_init 70 = .ok (.dup, 1) := by decide +kernel
theorem dX2_init_71 : decode cX2_init 71 = .ok (.bipush 11, 2) := by decide +kernel
theorem dX2_init_73 : decode cX2_init 73 = .ok (.ldc 33, 2) := by decide +kernel
theorem dX2_init_75 : decode cX2_init 75 = .ok (.aastore, 1) := by decide +kernel
theorem dX2_init_76 : decode cX2_init 76 = .ok (.dup, 1) := by decide +kernel
theorem dX2_init_77 : decode cX2_init 77 = .ok (.bipush 12, 2) := by decide +kernel
theorem dX2_init_79 : decode cX2_init 79 = .ok (.ldc 35, 2) := by decide +kernel
theorem dX2_init_81 : decode cX2_init 81 = .ok (.aastore, 1) := by decide +kernel
theorem dX2_init_82 : decode cX2_init 82 = .ok (.dup, 1) := by decide +kernel
theorem dX2_init_83 : decode cX2_init 83 = .ok (.bipush 13, 2) := by decide +kernel
theorem dX2_init_85 : decode cX2_init 85 = .ok (.ldc 37, 2) := by decide +kernel
theorem dX2_init_87 : decode cX2_init 87 = .ok (.aastore, 1) := by decide +kernel
theorem dX2_init_88 : decode cX2_init 88 = .ok (.dup, 1) := by decide +kernel
theorem dX2_init_89 : decode cX2_init 89 = .ok (.bipush 14, 2) := by decide +kernel
theorem dX2_init_91 : decode cX2_init 91 = .ok (.ldc 39, 2) := by decide +kernel
theorem dX2_init_93 : decode cX2_init 93 = .ok (.aastore, 1) := by decide +kernel
theorem dX2_init_94 : decode cX2_init 94 = .ok (.putfield 41, 3) := by decide +kernel
theorem dX2_init_97 : decode cX2_init 97 = .ok (.aload_n 0, 1) := by decide +kernel
theorem dX2_init_98 : decode cX2_init 98 = .ok (.bipush 15, 2) := by decide +kernel
theorem dX2_init_100 : decode cX2_init 100 = .ok (.anewarray 9, 3) := by decide +kernel
theorem dX2_init_103 : decode cX2_init 103 = .ok (.dup, 1) := by decide +kernel
theorem dX2_init_104 : decode cX2_init 104 = .ok (.iconst 0, 1) := by decide +kernel
theorem dX2_init_105 : decode cX2_init 105 = .ok (.ldc 47, 2) := by decide +kernel
theorem dX2_init_107 : decode cX2_init 107 = .ok (.aastore, 1) := by decide +kernel
theorem dX2_init_108 : decode cX2_init 108 = .ok (.dup, 1) := by decide +kernel
theorem dX2_init_109 : decode cX2_init 109 = .ok (.iconst 1, 1) := by decide +kernel
theorem dX2_init_110 : decode cX2_init 110 = .ok (.ldc 49, 2) := by decide +kernel
theorem dX2_init_112 : decode cX2_init 112 = .ok (.aastore, 1) := by decide +kernel
theorem dX2_init_113 : decode cX2_init 113 = .ok (.dup, 1) := by decide +kernel
theorem dX2_init_114 : decode cX2_init 114 = .ok (.iconst 2, 1) := by decide +kernel
theorem dX2_init_115 : decode cX2_init 115 = .ok (.ldc 51, 2) := by decide +kernel
theorem dX2_init_117 : decode cX2_init 117 = .ok (.aastore, 1) := by decide +kernel
theorem dX2_init_118 : decode cX2_init 118 = .ok (.dup, 1) := by decide +kernel
theorem dX2_init_119 : decode cX2_init 119 = .ok (.iconst 3, 1) := by decide +kernel
theorem dX2_init_120 : decode cX2_init 120 = .ok (.ldc 53, 2) := by decide +kernel
theorem dX2_init_122 : decode cX2_init 122 = .ok (.aastore, 1) := by decide +kernel
theorem dX2_init_123 : decode cX2_init 123 = .ok (.dup, 1) := by decide +kernel
theorem dX2_init_124 : decode cX2_init 124 = .ok (.iconst 4, 1) := by decide +kernel
theorem dX2_init_125 : decode cX2_init 125 = .ok (.ldc 55, 2) := by decide +kernel
theorem dX2_init_127 : decode cX2_init 127 = .ok (.aastore, 1) := by decide +kernel
theorem dX2_init_128 : decode cX2_init 128 = .ok (.dup, 1) := by decide +kernel
theorem dX2_init_129 : decode cX2_init 129 = .ok (.iconst 5, 1) := by decide +kernel
theorem dX2_init_130 : decode cX2_init 130 = .ok (.ldc 57, 2) := by decide +kernel
theorem dX2_init_132 : decode cX2_init 132 = .ok (.aastore, 1) := by decide +kernel
theorem dX2_init_133 : decode cX2_init 133 = .ok (.dup, 1) := by decide +kernel
theorem dX2_init_134 : decode cX2_init 134 = .ok (.bipush 6, 2) := by decide +kernel
theorem dX2_init_136 : decode cX2_init 136 = .ok (.ldc 59, 2) := by decide +kernel
theorem dX2_init_138 : decode cX2_init 138 = .ok (.aastore, 1) := by decide +kernel
theorem dX2_init_139 : decode cX2_init 139 = .ok (.dup, 1) := by decide +kernel
theorem dX2_init_140 : decode cX2_init 140 = .ok (.bipush 7, 2) := by decide +kernel
theorem dX2_init_142 : decode cX2_init 142 = .ok (.ldc 61, 2) := by decide +kernel
theorem dX2_init_144 : decode cX2_init 144 = .ok (.aastore, 1) := by decide +kernel
theorem dX2_init_145 : decode cX2_init 145 = .ok (.dup, 1) := by decide +kernel
theorem dX2_init_146 : decode cX2_init 146 = .ok (.bipush 8, 2) := by decide +kernel
theorem dX2_init_148 : decode cX2_init 148 = .ok (.ldc 63, 2) := by decide +kernel
theorem dX2_init_150 : decode cX2_init 150 = .ok (.aastore, 1) := by decide +kernel
theorem dX2_init_151 : decode cX2_init 151 = .ok (.dup, 1) := by decide +kernel
theorem dX2_init_152 : decode cX2_init 152 = .ok (.bipush 9, 2) := by decide +kernel
theorem dX2_init_154 : decode cX2_init 154 = .ok (.ldc 65, 2) := by decide +kernel
theorem dX2_init_156 : decode cX2_init 156 = .ok (.aastore, 1) := by decide +kernel
theorem dX2_init_157 : decode cX2_init 157 = .ok (.dup, 1) := by decide +kernel
theorem dX2_init_158 : decode cX2_init 158 = .ok (.bipush 10, 2) := by decide +kernel
theorem dX2_init_160 : decode cX2_init 160 = .ok (.ldc 67, 2) := by decide +kernel
theorem dX2_init_162 : decode cX2_init 162 = .ok (.aastore, 1) := by decide +kernel
theorem dX2_init_163 : decode cX2_init 163 = .ok (.dup, 1) := by decide +kernel
theorem dX2_init_164 : decode cX2_init 164 = .ok (.bipush 11, 2) := by decide +kernel
theorem dX2_init_166 : decode cX2_init 166 = .ok (.ldc 69, 2) := by decide +kernel
theorem dX2_init_168 : decode cX2_init 168 = .ok (.aastore, 1) := by decide +kernel
theorem dX2_init_169 : decode cX2_init 169 = .ok (.dup, 1) := by decide +kernel
theorem dX2_init_170 : decode cX2_init 170 = .ok (.bipush 12, 2) := by decide +kernel
theorem dX2_init_172 : decode cX2_init 172 = .ok (.ldc 71, 2) := by decide +kernel
theorem dX2_init_174 : decode cX2_init 174 = .ok (.aastore, 1) := by decide +kernel
theorem dX2_init_175 : decode cX2_init 175 = .ok (.dup, 1) := by decide +kernel
theorem dX2_init_176 : decode cX2_init 176 = .ok (.bipush 13, 2) := by decide +kernel
theorem dX2_init_178 : decode cX2_init 178 = .ok (.ldc 73, 2) := by decide +kernel
theorem dX2_init_180 : decode cX2_init 180 = .ok (.aastore, 1) := by decide +kernel
theorem dX2_init_181 : decode cX2_init 181 = .ok (.dup, 1) := by decide +kernel
theorem dX2_init_182 : decode cX2_init 182 = .ok (.bipush 14, 2) := by decide +kernel
theorem dX2_init_184 : decode cX2_init 184 = .ok (.ldc 75, 2) := by decide +kernel
theorem dX2_init_186 : decode cX2_init 186 = .ok (.aastore, 1) := by decide +kernel
theorem dX2_init_187 : decode cX2_init 187 = .ok (.putfield 77, 3) := by decide +kernel
theorem dX2_init_190 : decode cX2_init 190 = .ok (.aload_n 0, 1) := by decide +kernel
theorem dX2_init_191 : decode cX2_init 191 = .ok (.bipush 15, 2) := by decide +kernel
theorem dX2_init_193 : decode cX2_init 193 = .ok (.anewarray 9, 3) := by decide +kernel
theorem dX2_init_196 : decode cX2_init 196 = .ok (.dup, 1) := by decide +kernel
theorem dX2_init_197 : decode cX2_init 197 = .ok (.iconst 0, 1) := by decide +kernel
theorem dX2_init_198 : decode cX2_init 198 = .ok (.ldc 80, 2) := by decide +kernel
theorem dX2_init_200 : decode cX2_init 200 = .ok (.aastore, 1) := by decide +kernel
theorem dX2_init_201 : decode cX2_init 201 = .ok (.dup, 1) := by decide +kernel
theorem dX2_init_202 : decode cX2_init 202 = .ok (.iconst 1, 1) := by decide +kernel
theorem dX2_init_203 : decode cX2_init 203 = .ok (.ldc 82, 2) := by decide +kernel
theorem dX2_init_205 : decode cX2_init 205 = .ok (.aastore, 1) := by decide +kernel
theorem dX2_init_206 : decode cX2_init 206 = .ok (.dup, 1) := by decide +kernel
theorem dX2_init_207 : decode cX2_init 207 = .ok (.iconst 2, 1) := by decide +kernel
theorem dX2_init_208 : decode cX2_init 208 = .ok (.ldc 84, 2) := by decide +kernel
theorem dX2_init_210 : decode cX2_init 210 = .ok (.aastore, 1) := by decide +kernel
theorem dX2_init_211 : decode cX2_init 211 = .ok (.dup, 1) := by decide +kernel
theorem dX2_init_212 : decode cX2_init 212 = .ok (.iconst 3, 1) := by decide +kernel
theorem dX2_init_213 : decode cX2_init 213 = .ok (.ldc 86, 2) := by decide +kernel
theorem dX2_init_215 : decode cX2_init 215 = .ok (.aastore, 1) := by decide +kernel
theorem dX2_init_216 : decode cX2_init 216 = .ok (.dup, 1) := by decide +kernel
theorem dX2_init_217 : decode cX2_init 217 = .ok (.iconst 4, 1) := by decide +kernel
theorem dX2_init_218 : decode cX2_init 218 = .ok (.ldc 86, 2) := by decide +kernel
theorem dX2_init_220 : decode cX2_init 220 = .ok (.aastore, 1) := by decide +kernel
theorem dX2_init_221 : decode cX2_init 221 = .ok (.dup, 1) := by decide +kernel
theorem dX2_init_222 : decode cX2_init 222 = .ok (.iconst 5, 1) := by decide +kernel
theorem dX2_init_223 : decode cX2_init 223 = .ok (.ldc 88, 2) := by decide +kernel
theorem dX2_init_225 : decode cX2_init 225 = .ok (.aastore, 1) := by decide +kernel
theorem dX2_init_226 : decode cX2_init 226 = .ok (.dup, 1) := by decide +kernel
theorem dX2_init_227 : decode cX2_init 227 = .ok (.bipush 6, 2) := by decide +kernel
theorem dX2_init_229 : decode cX2_init 229 = .ok (.ldc 86, 2) := by decide +kernel
theorem dX2_init_231 : decode cX2_init 231 = .ok (.aastore, 1) := by decide +kernel
theorem dX2_init_232 : decode cX2_init 232 = .ok (.dup, 1) := by decide +kernel
theorem dX2_init_233 : decode cX2_init 233 = .ok (.bipush 7, 2) := by decide +kernel
theorem dX2_init_235 : decode cX2_init 235 = .ok (.ldc 90, 2) := by decide +kernel
theorem dX2_init_237 : decode cX2_init 237 = .ok (.aastore, 1) := by decide +kernel
theorem dX2_init_238 : decode cX2_init 238 = .ok (.dup, 1) := by decide +kernel
theorem dX2_init_239 : decode cX2_init 239 = .ok (.bipush 8, 2) := by decide +kernel
theorem dX2_init_241 : decode cX2_init 241 = .ok (.ldc 90, 2) := by decide +kernel
theorem dX2_init_243 : decode cX2_init 243 = .ok (.aastore, 1) := by decide +kernel
theorem dX2_init_244 : decode cX2_init 244 = .ok (.dup, 1) := by decide +kernel
theorem dX2_init_245 : decode cX2_init 245 = .ok (.bipush 9, 2) := by decide +kernel
theorem dX2_init_247 : decode cX2_init 247 = .ok (.ldc 82, 2) := by decide +kernel
theorem dX2_init_249 : decode cX2_init 249 = .ok (.aastore, 1) := by decide +kernel
theorem dX2_init_250 : decode cX2_init 250 = .ok (.dup, 1) := by decide +kernel
theorem dX2_init_251 : decode cX2_init 251 = .ok (.bipush 10, 2) := by decide +kernel
theorem dX2_init_253 : decode cX2_init 253 = .ok (.ldc 86, 2) := by decide +kernel
theorem dX2_init_255 : decode cX2_init 255 = .ok (.aastore, 1) := by decide +kernel
theorem dX2_init_256 : decode cX2_init 256 = .ok (.dup, 1) := by decide +kernel
theorem dX2_init_257 : decode cX2_init 257 = .ok (.bipush 11, 2) := by decide +kernel
theorem dX2_init_259 : decode cX2_init 259 = .ok (.ldc 84, 2) := by decide +kernel
theorem dX2_init_261 : decode cX2_init 261 = .ok (.aastore, 1) := by decide +kernel
theorem dX2_init_262 : decode cX2_init 262 = .ok (.dup, 1) := by decide +kernel
theorem dX2_init_263 : decode cX2_init 263 = .ok (.bipush 12, 2) := by decide +kernel
theorem dX2_init_265 : decode cX2_init 265 = .ok (.ldc 92, 2) := by decide +kernel
theorem dX2_init_267 : decode cX2_init 267 = .ok (.aastore, 1) := by decide +kernel
theorem dX2_init_268 : decode cX2_init 268 = .ok (.dup, 1) := by decide +kernel
theorem dX2_init_269 : decode cX2_init 269 = .ok (.bipush 13, 2) := by decide +kernel
theorem dX2_init_271 : decode cX2_init 271 = .ok (.ldc 94, 2) := by decide +kernel
theorem dX2_init_273 : decode cX2_init 273 = .ok (.aastore, 1) := by decide +kernel
theorem dX2_init_274 : decode cX2_init 274 = .ok (.dup, 1) := by decide +kernel
theorem dX2_init_275 : decode cX2_init 275 = .ok (.bipush 14, 2) := by decide +kernel
theorem dX2_init_277 : decode cX2_init 277 = .ok (.ldc 96, 2) := by decide +kernel
theorem dX2_init_279 : decode cX2_init 279 = .ok (.aastore, 1) := by decide +kernel
theorem dX2_init_280 : decode cX2_init 280 = .ok (.putfield 98, 3) := by decide +kernel
theorem dX2_init_283 : decode cX2_init 283 = .ok (.return_, 1) := by decide +kernel
theorem dX2_find_0 : decode cX2_find 0 = .ok (.iconst (-1), 1) := by decide +kernel
theorem dX2_find_1 : decode cX2_find 1 = .ok (.istore 4, 2) := by decide +kernel
theorem dX2_find_3 : decode cX2_find 3 = .ok (.iconst 0, 1) := by decide +kernel
theorem dX2_find_4 : decode cX2_find 4 = .ok (.istore 5, 2) := by decide +kernel
theorem dX2_find_6 : decode cX2_find 6 = .ok (.iload 5, 2) := by decide +kernel
theorem dX2_find_8 : decode cX2_find 8 = .ok (.aload_n 0, 1) := by decide +kernel
theorem dX2_find_9 : decode cX2_find 9 = .ok (.getfield 41, 3) := by decide +kernel
theorem dX2_find_12 : decode cX2_find 12 = .ok (.arraylength, 1) := by decide +kernel
theorem dX2_find_13 : decode cX2_find 13 = .ok (.if_icmp .ge 34, 3) := by decide +kernel
theorem dX2_find_16 : decode cX2_find 16 = .ok (.aload_n 1, 1) := by decide +kernel
theorem dX2_find_17 : decode cX2_find 17 = .ok (.iload_n 2, 1) := by decide +kernel
theorem dX2_find_18 : decode cX2_find 18 = .ok (.iload_n 3, 1) := by decide +kernel
theorem dX2_find_19 : decode cX2_find 19 = .ok (.aload_n 0, 1) := by decide +kernel
theorem dX2_find_20 : decode cX2_find 20 = .ok (.getfield 41, 3) := by decide +kernel
theorem dX2_find_23 : decode cX2_find 23 = .ok (.iload 5, 2) := by decide +kernel
theorem dX2_find_25 : decode cX2_find 25 = .ok (.aaload, 1) := by decide +kernel
theorem dX2_find_26 : decode cX2_find 26 = .ok (.invokestatic 115, 3) := by decide +kernel
theorem dX2_find_29 : decode cX2_find 29 = .ok (.ifCond .eq 8, 3) := by decide +kernel
theorem dX2_find_32 : decode cX2_find 32 = .ok (.iload 5, 2) := by decide +kernel
theorem dX2_find_34 : decode cX2_find 34 = .ok (.goto 5, 3) := by decide +kernel
theorem dX2_find_37 : decode cX2_find 37 = .ok (.iload 4, 2) := by decide +kernel
theorem dX2_find_39 : decode cX2_find 39 = .ok (.istore 4, 2) := by decide +kernel
theorem dX2_find_41 : decode cX2_find 41 = .ok (.iinc 5 1, 3) := by decide +kernel
theorem dX2_find_44 : decode cX2_find 44 = .ok (.goto (-38), 3) := by decide +kernel
theorem dX2_find_47 : decode cX2_find 47 = .ok (.iload 4, 2) := by decide +kernel
theorem dX2_find_49 : decode cX2_find 49 = .ok (.ireturn, 1) := by decide +kernel
theorem dX2_is_0 : decode cX2_is 0 = .ok (.iload_n 2, 1) := by decide +kernel
theorem dX2_is_1 : decode cX2_is 1 = .ok (.aload_n 3, 1) := by decide +kernel
theorem dX2_is_2 : decode cX2_is 2 = .ok (.invokevirtual 101, 3) := by decide +kernel
theorem dX2_is_5 : decode cX2_is 5 = .ok (.if_icmp .ne 7, 3) := by decide +kernel
theorem dX2_is_8 : decode cX2_is 8 = .ok (.iconst 1, 1) := by decide +kernel
theorem dX2_is_9 : decode cX2_is 9 = .ok (.goto 4, 3) := by decide +kernel
theorem dX2_is_12 : decode cX2_is 12 = .ok (.iconst 0, 1) := by decide +kernel
theorem dX2_is_13 : decode cX2_is 13 = .ok (.istore 4, 2) := by decide +kernel
theorem dX2_is_15 : decode cX2_is 15 = .ok (.iconst 0, 1) := by decide +kernel
theorem dX2_is_16 : decode cX2_is 16 = .ok (.istore 5, 2) := by decide +kernel
theorem dX2_is_18 : decode cX2_is 18 = .ok (.iload 5, 2) := by decide +kernel
theorem dX2_is_20 : decode cX2_is 20 = .ok (.iload_n 2, 1) := by decide +kernel
theorem dX2_is_21 : decode cX2_is 21 = .ok (.if_icmp .ge 38, 3) := by decide +kernel
theorem dX2_is_24 : decode cX2_is 24 = .ok (.iload 4, 2) := by decide +kernel
theorem dX2_is_26 : decode cX2_is 26 = .ok (.ifCond .eq 33, 3) := by decide +kernel
theorem dX2_is_29 : decode cX2_is 29 = .ok (.aload_n 0, 1) := by decide +kernel
theorem dX2_is_30 : decode cX2_is 30 = .ok (.iload_n 1, 1) := by decide +kernel
theorem dX2_is_31 : decode cX2_is 31 = .ok (.iload 5, 2) := by decide +kernel
theorem dX2_is_33 : decode cX2_is 33 = .ok (.iadd, 1) := by decide +kernel
theorem dX2_is_34 : decode cX2_is 34 = .ok (.invokevirtual 105, 3) := by decide +kernel
theorem dX2_is_37 : decode cX2_is 37 = .ok (.aload_n 3, 1) := by decide +kernel
theorem dX2_is_38 : decode cX2_is 38 = .ok (.iload 5, 2) := by decide +kernel
theorem dX2_is_40 : decode cX2_is 40 = .ok (.invokevirtual 111, 3) := by decide +kernel
theorem dX2_is_43 : decode cX2_is 43 = .ok (.if_icmp .ne 7, 3) := by decide +kernel
theorem dX2_is_46 : decode cX2_is 46 = .ok (.iconst 1, 1) := by decide +kernel
theorem dX2_is_47 : decode cX2_is 47 = .ok (.goto 4, 3) := by decide +kernel
theorem dX2_is_50 : decode cX2_is 50 = .ok (.iconst 0, 1) := by decide +kernel
theorem dX2_is_51 : decode cX2_is 51 = .ok (.istore 4, 2) := by decide +kernel
theorem dX2_is_53 : decode cX2_is 53 = .ok (.iinc 5 1, 3) := by decide +kernel
theorem dX2_is_56 : decode cX2_is 56 = .ok (.goto (-38), 3) := by decide +kernel
theorem dX2_is_59 : decode cX2_is 59 = .ok (.iload 4, 2) := by decide +kernel
theorem dX2_is_61 : decode cX2_is 61 = .ok (.ireturn, 1) := by decide +kernel
theorem dX2_given_0 : decode cX2_given 0 = .ok (.aload_n 0, 1) := by decide +kernel
theorem dX2_given_1 : decode cX2_given 1 = .ok (.getfield 77, 3) := by decide +kernel
theorem dX2_given_4 : decode cX2_given 4 = .ok (.iload_n 1, 1) := by decide +kernel
theorem dX2_given_5 : decode cX2_given 5 = .ok (.aaload, 1) := by decide +kernel
theorem dX2_given_6 : decode cX2_given 6 = .ok (.areturn, 1) := by decide +kernel
theorem dX2_takes_0 : decode cX2_takes 0 = .ok (.aload_n 0, 1) := by decide +kernel
theorem dX2_takes_1 : decode cX2_takes 1 = .ok (.getfield 98, 3) := by decide +kernel
theorem dX2_takes_4 : decode cX2_takes 4 = .ok (.iload_n 1, 1) := by decide +kernel
theorem dX2_takes_5 : decode cX2_takes 5 = .ok (.aaload, 1) := by decide +kernel
theorem dX2_takes_6 : decode cX2_takes 6 = .ok (.areturn, 1) := by decide +kernel
theorem dX2_isTold_0 : decode cX2_isTold 0 = .ok (.iload_n 0, 1) := by decide +kernel
theorem dX2_isTold_1 : decode cX2_isTold 1 = .ok (.bipush 12, 2) := by decide +kernel
theorem dX2_isTold_3 : decode cX2_isTold 3 = .ok (.if_icmp .eq 9, 3) := by decide +kernel
theorem dX2_isTold_6 : decode cX2_isTold 6 = .ok (.iload_n 0, 1) := by decide +kernel
theorem dX2_isTold_7 : decode cX2_isTold 7 = .ok (.bipush 13, 2) := by decide +kernel
theorem dX2_isTold_9 : decode cX2_isTold 9 = .ok (.if_icmp .ne 7, 3) := by decide +kernel
theorem dX2_isTold_12 : decode cX2_isTold 12 = .ok (.iconst 1, 1) := by decide +kernel
theorem dX2_isTold_13 : decode cX2_isTold 13 = .ok (.goto 4, 3) := by decide +kernel
theorem dX2_isTold_16 : decode cX2_isTold 16 = .ok (.iconst 0, 1) := by decide +kernel
theorem dX2_isTold_17 : decode cX2_isTold 17 = .ok (.ireturn, 1) := by decide +kernel
theorem dX20_init_0 : decode cX20_init 0 = .ok (.aload_n 0, 1) := by decide +kernel
theorem dX20_init_1 : decode cX20_init 1 = .ok (.invokespecial 1, 3) := by decide +kernel
theorem dX20_init_4 : decode cX20_init 4 = .ok (.aload_n 0, 1) := by decide +kernel
theorem dX20_init_5 : decode cX20_init 5 = .ok (.sipush 192, 3) := by decide +kernel
theorem dX20_init_8 : decode cX20_init 8 = .ok (.newarray .int, 2) := by decide +kernel
theorem dX20_init_10 : decode cX20_init 10 = .ok (.putfield 7, 3) := by decide +kernel
theorem dX20_init_13 : decode cX20_init 13 = .ok (.aload_n 0, 1) := by decide +kernel
theorem dX20_init_14 : decode cX20_init 14 = .ok (.sipush 192, 3) := by decide +kernel
theorem dX20_init_17 : decode cX20_init 17 = .ok (.newarray .int, 2) := by decide +kernel
theorem dX20_init_19 : decode cX20_init 19 = .ok (.putfield 13, 3) := by decide +kernel
theorem dX20_init_22 : decode cX20_init 22 = .ok (.aload_n 0, 1) := by decide +kernel
theorem dX20_init_23 : decode cX20_init 23 = .ok (.aload_n 1, 1) := by decide +kernel
theorem dX20_init_24 : decode cX20_init 24 = .ok (.putfield 16, 3) := by decide +kernel
theorem dX20_init_27 : decode cX20_init 27 = .ok (.return_, 1) := by decide +kernel
theorem dX20_find_0 : decode cX20_find 0 = .ok (.iload_n 3, 1) := by decide +kernel
theorem dX20_find_1 : decode cX20_find 1 = .ok (.ifCond .lt 23, 3) := by decide +kernel
theorem dX20_find_4 : decode cX20_find 4 = .ok (.aload_n 0, 1) := by decide +kernel
theorem dX20_find_5 : decode cX20_find 5 = .ok (.getfield 16, 3) := by decide +kernel
theorem dX20_find_8 : decode cX20_find 8 = .ok (.iload_n 1, 1) := by decide +kernel
theorem dX20_find_9 : decode cX20_find 9 = .ok (.invokevirtual 25, 3) := by decide +kernel
theorem dX20_find_12 : decode cX20_find 12 = .ok (.ifCond .eq 7, 3) := by decide +kernel
theorem dX20_find_15 : decode cX20_find 15 = .ok (.iload_n 1, 1) := by decide +kernel
theorem dX20_find_16 : decode cX20_find 16 = .ok (.goto 7, 3) := by decide +kernel
theorem dX20_find_19 : decode cX20_find 19 = .ok (.iload_n 2, 1) := by decide +kernel
theorem dX20_find_20 : decode cX20_find 20 = .ok (.invokestatic 29, 3) := by decide +kernel
theorem dX20_find_23 : decode cX20_find 23 = .ok (.ireturn, 1) := by decide +kernel
theorem dX20_find_24 : decode cX20_find 24 = .ok (.iload_n 3, 1) := by decide +kernel
theorem dX20_find_25 : decode cX20_find 25 = .ok (.aload_n 0, 1) := by decide +kernel
theorem dX20_find_26 : decode cX20_find 26 = .ok (.getfield 33, 3) := by decide +kernel
theorem dX20_find_29 : decode cX20_find 29 = .ok (.if_icmp .ne 17, 3) := by decide +kernel
theorem dX20_find_32 : decode cX20_find 32 = .ok (.aload_n 0, 1) := by decide +kernel
theorem dX20_find_33 : decode cX20_find 33 = .ok (.getfield 37, 3) := by decide +kernel
theorem dX20_find_36 : decode cX20_find 36 = .ok (.aload_n 0, 1) := by decide +kernel
theorem dX20_find_37 : decode cX20_find 37 = .ok (.getfield 16, 3) := by decide +kernel
theorem dX20_find_40 : decode cX20_find 40 = .ok (.invokevirtual 40, 3) := by decide +kernel
theorem dX20_find_43 : decode cX20_find 43 = .ok (.if_icmp .eq 23, 3) := by decide +kernel
theorem dX20_find_46 : decode cX20_find 46 = .ok (.aload_n 0, 1) := by decide +kernel
theorem dX20_find_47 : decode cX20_find 47 = .ok (.invokevirtual 43, 3) := by decide +kernel
theorem dX20_find_50 : decode cX20_find 50 = .ok (.aload_n 0, 1) := by decide +kernel
theorem dX20_find_51 : decode cX20_find 51 = .ok (.iload_n 3, 1) := by decide +kernel
theorem dX20_find_52 : decode cX20_find 52 = .ok (.putfield 33, 3) := by decide +kernel
theorem dX20_find_55 : decode cX20_find 55 = .ok (.aload_n 0, 1) := by decide +kernel
theorem dX20_find_56 : decode cX20_find 56 = .ok (.aload_n 0, 1) := by decide +kernel
theorem dX20_find_57 : decode cX20_find 57 = .ok (.getfield 16, 3) := by decide +kernel
theorem dX20_find_60 : decode cX20_find 60 = .ok (.invokevirtual 40, 3) := by decide +kernel
theorem dX20_find_63 : decode cX20_find 63 = .ok (.putfield 37, 3) := by decide +kernel
theorem dX20_find_66 : decode cX20_find 66 = .ok (.iload_n 1, 1) := by decide +kernel
theorem dX20_find_67 : decode cX20_find 67 = .ok (.bipush 12, 2) := by decide +kernel
theorem dX20_find_69 : decode cX20_find 69 = .ok (.iushr, 1) := by decide +kernel
theorem dX20_find_70 : decode cX20_find 70 = .ok (.istore 6, 2) := by decide +kernel
theorem dX20_find_72 : decode cX20_find 72 = .ok (.bipush 64, 2) := by decide +kernel
theorem dX20_find_74 : decode cX20_find 74 = .ok (.iload_n 2, 1) := by decide +kernel
theorem dX20_find_75 : decode cX20_find 75 = .ok (.imul, 1) := by decide +kernel
theorem dX20_find_76 : decode cX20_find 76 = .ok (.iload 6, 2) := by decide +kernel
theorem dX20_find_78 : decode cX20_find 78 = .ok (.bipush 63, 2) := by decide +kernel
theorem dX20_find_80 : decode cX20_find 80 = .ok (.iand, 1) := by decide +kernel
theorem dX20_find_81 : decode cX20_find 81 = .ok (.iadd, 1) := by decide +kernel
theorem dX20_find_82 : decode cX20_find 82 = .ok (.istore 7, 2) := by decide +kernel
theorem dX20_find_84 : decode cX20_find 84 = .ok (.iload 6, 2) := by decide +kernel
theorem dX20_find_86 : decode cX20_find 86 = .ok (.iconst 2, 1) := by decide +kernel
theorem dX20_find_87 : decode cX20_find 87 = .ok (.ishl, 1) := by decide +kernel
theorem dX20_find_88 : decode cX20_find 88 = .ok (.iload 4, 2) := by decide +kernel
theorem dX20_find_90 : decode cX20_find 90 = .ok (.iconst 1, 1) := by decide +kernel
theorem dX20_find_91 : decode cX20_find 91 = .ok (.ishl, 1) := by decide +kernel
theorem dX20_find_92 : decode cX20_find 92 = .ok (.ior, 1) := by decide +kernel
theorem dX20_find_93 : decode cX20_find 93 = .ok (.iload 5, 2) := by decide +kernel
theorem dX20_find_95 : decode cX20_find 95 = .ok (.ifCond .eq 7, 3) := by decide +kernel
theorem dX20_find_98 : decode cX20_find 98 = .ok (.iconst 1, 1) := by decide +kernel
theorem dX20_find_99 : decode cX20_find 99 = .ok (.goto 4, 3) := by decide +kernel
theorem dX20_find_102 : decode cX20_find 102 = .ok (.iconst 0, 1) := by decide +kernel
theorem dX20_find_103 : decode cX20_find 103 = .ok (.ior, 1) := by decide +kernel
theorem dX20_find_104 : decode cX20_find 104 = .ok (.ldc 44, 2) := by decide +kernel
theorem dX20_find_106 : decode cX20_find 106 = .ok (.ior, 1) := by decide +kernel
theorem dX20_find_107 : decode cX20_find 107 = .ok (.istore 8, 2) := by decide +kernel
theorem dX20_find_109 : decode cX20_find 109 = .ok (.aload_n 0, 1) := by decide +kernel
theorem dX20_find_110 : decode cX20_find 110 = .ok (.getfield 7, 3) := by decide +kernel
theorem dX20_find_113 : decode cX20_find 113 = .ok (.iload 7, 2) := by decide +kernel
theorem dX20_find_115 : decode cX20_find 115 = .ok (.iaload, 1) := by decide +kernel
theorem dX20_find_116 : decode cX20_find 116 = .ok (.iload 8, 2) := by decide +kernel
theorem dX20_find_118 : decode cX20_find 118 = .ok (.if_icmp .ne 17, 3) := by decide +kernel
theorem dX20_find_121 : decode cX20_find 121 = .ok (.aload_n 0, 1) := by decide +kernel
theorem dX20_find_122 : decode cX20_find 122 = .ok (.getfield 13, 3) := by decide +kernel
theorem dX20_find_125 : decode cX20_find 125 = .ok (.iload 7, 2) := by decide +kernel
theorem dX20_find_127 : decode cX20_find 127 = .ok (.iaload, 1) := by decide +kernel
theorem dX20_find_128 : decode cX20_find 128 = .ok (.iload_n 1, 1) := by decide +kernel
theorem dX20_find_129 : decode cX20_find 129 = .ok (.sipush 4095, 3) := by decide +kernel
theorem dX20_find_132 : decode cX20_find 132 = .ok (.iand, 1) := by decide +kernel
theorem dX20_find_133 : decode cX20_find 133 = .ok (.ior, 1) := by decide +kernel
theorem dX20_find_134 : decode cX20_find 134 = .ok (.ireturn, 1) := by decide +kernel
theorem dX20_find_135 : decode cX20_find 135 = .ok (.aload_n 0, 1) := by decide +kernel
theorem dX20_find_136 : decode cX20_find 136 = .ok (.iload_n 1, 1) := by decide +kernel
theorem dX20_find_137 : decode cX20_find 137 = .ok (.iload_n 2, 1) := by decide +kernel
theorem dX20_find_138 : decode cX20_find 138 = .ok (.iload 4, 2) := by decide +kernel
theorem dX20_find_140 : decode cX20_find 140 = .ok (.iload 5, 2) := by decide +kernel
theorem dX20_find_142 : decode cX20_find 142 = .ok (.invokevirtual 45, 3) := by decide +kernel
theorem dX20_find_145 : decode cX20_find 145 = .ok (.istore 9, 2) := by decide +kernel
theorem dX20_find_147 : decode cX20_find 147 = .ok (.iload 9, 2) := by decide +kernel
theorem dX20_find_149 : decode cX20_find 149 = .ok (.ifCond .lt 30, 3) := by decide +kernel
theorem dX20_find_152 : decode cX20_find 152 = .ok (.aload_n 0, 1) := by decide +kernel
theorem dX20_find_153 : decode cX20_find 153 = .ok (.getfield 7, 3) := by decide +kernel
theorem dX20_find_156 : decode cX20_find 156 = .ok (.iload 7, 2) := by decide +kernel
theorem dX20_find_158 : decode cX20_find 158 = .ok (.iload 8, 2) := by decide +kernel
theorem dX20_find_160 : decode cX20_find 160 = .ok (.iastore, 1) := by decide +kernel
theorem dX20_find_161 : decode cX20_find 161 = .ok (.aload_n 0, 1) := by decide +kernel
theorem dX20_find_162 : decode cX20_find 162 = .ok (.getfield 13, 3) := by decide +kernel
theorem dX20_find_165 : decode cX20_find 165 = .ok (.iload 7, 2) := by decide +kernel
theorem dX20_find_167 : decode cX20_find 167 = .ok (.iload 9, 2) := by decide +kernel
theorem dX20_find_169 : decode cX20_find 169 = .ok (.iastore, 1) := by decide +kernel
theorem dX20_find_170 : decode cX20_find 170 = .ok (.iload 9, 2) := by decide +kernel
theorem dX20_find_172 : decode cX20_find 172 = .ok (.iload_n 1, 1) := by decide +kernel
theorem dX20_find_173 : decode cX20_find 173 = .ok (.sipush 4095, 3) := by decide +kernel
theorem dX20_find_176 : decode cX20_find 176 = .ok (.iand, 1) := by decide +kernel
theorem dX20_find_177 : decode cX20_find 177 = .ok (.ior, 1) := by decide +kernel
theorem dX20_find_178 : decode cX20_find 178 = .ok (.ireturn, 1) := by decide +kernel
theorem dX20_find_179 : decode cX20_find 179 = .ok (.iload 9, 2) := by decide +kernel
theorem dX20_find_181 : decode cX20_find 181 = .ok (.ireturn, 1) := by decide +kernel
theorem dX20_access_0 : decode cX20_access 0 = .ok (.iload_n 0, 1) := by decide +kernel
theorem dX20_access_1 : decode cX20_access 1 = .ok (.ifCond .ne 8, 3) := by decide +kernel
theorem dX20_access_4 : decode cX20_access 4 = .ok (.bipush (-2), 2) := by decide +kernel
theorem dX20_access_6 : decode cX20_access 6 = .ok (.goto 15, 3) := by decide +kernel
theorem dX20_access_9 : decode cX20_access 9 = .ok (.iload_n 0, 1) := by decide +kernel
theorem dX20_access_10 : decode cX20_access 10 = .ok (.iconst 1, 1) := by decide +kernel
theorem dX20_access_11 : decode cX20_access 11 = .ok (.if_icmp .ne 8, 3) := by decide +kernel
theorem dX20_access_14 : decode cX20_access 14 = .ok (.bipush (-6), 2) := by decide +kernel
theorem dX20_access_16 : decode cX20_access 16 = .ok (.goto 5, 3) := by decide +kernel
theorem dX20_access_19 : decode cX20_access 19 = .ok (.bipush (-8), 2) := by decide +kernel
theorem dX20_access_21 : decode cX20_access 21 = .ok (.ireturn, 1) := by decide +kernel
theorem dX20_forget_0 : decode cX20_forget 0 = .ok (.iconst 0, 1) := by decide +kernel
theorem dX20_forget_1 : decode cX20_forget 1 = .ok (.istore_n 1, 1) := by decide +kernel
theorem dX20_forget_2 : decode cX20_forget 2 = .ok (.iload_n 1, 1) := by decide +kernel
theorem dX20_forget_3 : decode cX20_forget 3 = .ok (.sipush 192, 3) := by decide +kernel
theorem dX20_forget_6 : decode cX20_forget 6 = .ok (.if_icmp .ge 16, 3) := by decide +kernel
theorem dX20_forget_9 : decode cX20_forget 9 = .ok (.aload_n 0, 1) := by decide +kernel
theorem dX20_forget_10 : decode cX20_forget 10 = .ok (.getfield 7, 3) := by decide +kernel
theorem dX20_forget_13 : decode cX20_forget 13 = .ok (.iload_n 1, 1) := by decide +kernel
theorem dX20_forget_14 : decode cX20_forget 14 = .ok (.iconst 0, 1) := by decide +kernel
theorem dX20_forget_15 : decode cX20_forget 15 = .ok (.iastore, 1) := by decide +kernel
theorem dX20_forget_16 : decode cX20_forget 16 = .ok (.iinc 1 1, 3) := by decide +kernel
theorem dX20_forget_19 : decode cX20_forget 19 = .ok (.goto (-17), 3) := by decide +kernel
theorem dX20_forget_22 : decode cX20_forget 22 = .ok (.aload_n 0, 1) := by decide +kernel
theorem dX20_forget_23 : decode cX20_forget 23 = .ok (.getfield 16, 3) := by decide +kernel
theorem dX20_forget_26 : decode cX20_forget 26 = .ok (.invokevirtual 20, 3) := by decide +kernel
theorem dX20_forget_29 : decode cX20_forget 29 = .ok (.return_, 1) := by decide +kernel
theorem dX20_walk_0 : decode cX20_walk 0 = .ok (.aload_n 0, 1) := by decide +kernel
theorem dX20_walk_1 : decode cX20_walk 1 = .ok (.getfield 33, 3) := by decide +kernel
theorem dX20_walk_4 : decode cX20_walk 4 = .ok (.bipush 12, 2) := by decide +kernel
theorem dX20_walk_6 : decode cX20_walk 6 = .ok (.ishl, 1) := by decide +kernel
theorem dX20_walk_7 : decode cX20_walk 7 = .ok (.iload_n 1, 1) := by decide +kernel
theorem dX20_walk_8 : decode cX20_walk 8 = .ok (.bipush 22, 2) := by decide +kernel
theorem dX20_walk_10 : decode cX20_walk 10 = .ok (.iushr, 1) := by decide +kernel
theorem dX20_walk_11 : decode cX20_walk 11 = .ok (.iconst 2, 1) := by decide +kernel
theorem dX20_walk_12 : decode cX20_walk 12 = .ok (.ishl, 1) := by decide +kernel
theorem dX20_walk_13 : decode cX20_walk 13 = .ok (.iadd, 1) := by decide +kernel
theorem dX20_walk_14 : decode cX20_walk 14 = .ok (.istore 5, 2) := by decide +kernel
theorem dX20_walk_16 : decode cX20_walk 16 = .ok (.aload_n 0, 1) := by decide +kernel
theorem dX20_walk_17 : decode cX20_walk 17 = .ok (.getfield 16, 3) := by decide +kernel
theorem dX20_walk_20 : decode cX20_walk 20 = .ok (.iload 5, 2) := by decide +kernel
theorem dX20_walk_22 : decode cX20_walk 22 = .ok (.invokevirtual 25, 3) := by decide +kernel
theorem dX20_walk_25 : decode cX20_walk 25 = .ok (.ifCond .ne 8, 3) := by decide +kernel
theorem dX20_walk_28 : decode cX20_walk 28 = .ok (.iload_n 2, 1) := by decide +kernel
theorem dX20_walk_29 : decode cX20_walk 29 = .ok (.invokestatic 29, 3) := by decide +kernel
theorem dX20_walk_32 : decode cX20_walk 32 = .ok (.ireturn, 1) := by decide +kernel
theorem dX20_walk_33 : decode cX20_walk 33 = .ok (.aload_n 0, 1) := by decide +kernel
theorem dX20_walk_34 : decode cX20_walk 34 = .ok (.getfield 16, 3) := by decide +kernel
theorem dX20_walk_37 : decode cX20_walk 37 = .ok (.iload 5, 2) := by decide +kernel
theorem dX20_walk_39 : decode cX20_walk 39 = .ok (.invokevirtual 49, 3) := by decide +kernel
theorem dX20_walk_42 : decode cX20_walk 42 = .ok (.aload_n 0, 1) := by decide +kernel
theorem dX20_walk_43 : decode cX20_walk 43 = .ok (.getfield 16, 3) := by decide +kernel
theorem dX20_walk_46 : decode cX20_walk 46 = .ok (.iload 5, 2) := by decide +kernel
theorem dX20_walk_48 : decode cX20_walk 48 = .ok (.invokevirtual 53, 3) := by decide +kernel
theorem dX20_walk_51 : decode cX20_walk 51 = .ok (.istore 6, 2) := by decide +kernel
theorem dX20_walk_53 : decode cX20_walk 53 = .ok (.iload 6, 2) := by decide +kernel
theorem dX20_walk_55 : decode cX20_walk 55 = .ok (.bipush 14, 2) := by decide +kernel
theorem dX20_walk_57 : decode cX20_walk 57 = .ok (.iand, 1) := by decide +kernel
theorem dX20_walk_58 : decode cX20_walk 58 = .ok (.ifCond .eq 7, 3) := by decide +kernel
theorem dX20_walk_61 : decode cX20_walk 61 = .ok (.iconst 1, 1) := by decide +kernel
theorem dX20_walk_62 : decode cX20_walk 62 = .ok (.goto 4, 3) := by decide +kernel
theorem dX20_walk_65 : decode cX20_walk 65 = .ok (.iconst 0, 1) := by decide +kernel
theorem dX20_walk_66 : decode cX20_walk 66 = .ok (.istore 7, 2) := by decide +kernel
theorem dX20_walk_68 : decode cX20_walk 68 = .ok (.iload 6, 2) := by decide +kernel
theorem dX20_walk_70 : decode cX20_walk 70 = .ok (.bipush 15, 2) := by decide +kernel
theorem dX20_walk_72 : decode cX20_walk 72 = .ok (.iand, 1) := by decide +kernel
theorem dX20_walk_73 : decode cX20_walk 73 = .ok (.iconst 1, 1) := by decide +kernel
theorem dX20_walk_74 : decode cX20_walk 74 = .ok (.if_icmp .ne 61, 3) := by decide +kernel
theorem dX20_walk_77 : decode cX20_walk 77 = .ok (.iload 6, 2) := by decide +kernel
theorem dX20_walk_79 : decode cX20_walk 79 = .ok (.bipush 10, 2) := by decide +kernel
theorem dX20_walk_81 : decode cX20_walk 81 = .ok (.iushr, 1) := by decide +kernel
theorem dX20_walk_82 : decode cX20_walk 82 = .ok (.bipush 12, 2) := by decide +kernel
theorem dX20_walk_84 : decode cX20_walk 84 = .ok (.ishl, 1) := by decide +kernel
theorem dX20_walk_85 : decode cX20_walk 85 = .ok (.iload_n 1, 1) := by decide +kernel
theorem dX20_walk_86 : decode cX20_walk 86 = .ok (.bipush 12, 2) := by decide +kernel
theorem dX20_walk_88 : decode cX20_walk 88 = .ok (.ishr, 1) := by decide +kernel
theorem dX20_walk_89 : decode cX20_walk 89 = .ok (.sipush 1023, 3) := by decide +kernel
theorem dX20_walk_92 : decode cX20_walk 92 = .ok (.iand, 1) := by decide +kernel
theorem dX20_walk_93 : decode cX20_walk 93 = .ok (.iconst 4, 1) := by decide +kernel
theorem dX20_walk_94 : decode cX20_walk 94 = .ok (.imul, 1) := by decide +kernel
theorem dX20_walk_95 : decode cX20_walk 95 = .ok (.iadd, 1) := by decide +kernel
theorem dX20_walk_96 : decode cX20_walk 96 = .ok (.istore 5, 2) := by decide +kernel
theorem dX20_walk_98 : decode cX20_walk 98 = .ok (.aload_n 0, 1) := by decide +kernel
theorem dX20_walk_99 : decode cX20_walk 99 = .ok (.getfield 16, 3) := by decide +kernel
theorem dX20_walk_102 : decode cX20_walk 102 = .ok (.iload 5, 2) := by decide +kernel
theorem dX20_walk_104 : decode cX20_walk 104 = .ok (.invokevirtual 25, 3) := by decide +kernel
theorem dX20_walk_107 : decode cX20_walk 107 = .ok (.ifCond .ne 8, 3) := by decide +kernel
theorem dX20_walk_110 : decode cX20_walk 110 = .ok (.iload_n 2, 1) := by decide +kernel
theorem dX20_walk_111 : decode cX20_walk 111 = .ok (.invokestatic 29, 3) := by decide +kernel
theorem dX20_walk_114 : decode cX20_walk 114 = .ok (.ireturn, 1) := by decide +kernel
theorem dX20_walk_115 : decode cX20_walk 115 = .ok (.aload_n 0, 1) := by decide +kernel
theorem dX20_walk_116 : decode cX20_walk 116 = .ok (.getfield 16, 3) := by decide +kernel
theorem dX20_walk_119 : decode cX20_walk 119 = .ok (.iload 5, 2) := by decide +kernel
theorem dX20_walk_121 : decode cX20_walk 121 = .ok (.invokevirtual 49, 3) := by decide +kernel
theorem dX20_walk_124 : decode cX20_walk 124 = .ok (.aload_n 0, 1) := by decide +kernel
theorem dX20_walk_125 : decode cX20_walk 125 = .ok (.getfield 16, 3) := by decide +kernel
theorem dX20_walk_128 : decode cX20_walk 128 = .ok (.iload 5, 2) := by decide +kernel
theorem dX20_walk_130 : decode cX20_walk 130 = .ok (.invokevirtual 53, 3) := by decide +kernel
theorem dX20_walk_133 : decode cX20_walk 133 = .ok (.istore 6, 2) := by decide +kernel
theorem dX20_walk_135 : decode cX20_walk 135 = .ok (.iload 6, 2) := by decide +kernel
theorem dX20_walk_137 : decode cX20_walk 137 = .ok (.iload_n 2, 1) := by decide +kernel
theorem dX20_walk_138 : decode cX20_walk 138 = .ok (.iload_n 3, 1) := by decide +kernel
theorem dX20_walk_139 : decode cX20_walk 139 = .ok (.iload 4, 2) := by decide +kernel
theorem dX20_walk_141 : decode cX20_walk 141 = .ok (.invokestatic 56, 3) := by decide +kernel
theorem dX20_walk_144 : decode cX20_walk 144 = .ok (.ifCond .eq 20, 3) := by decide +kernel
theorem dX20_walk_147 : decode cX20_walk 147 = .ok (.iload 7, 2) := by decide +kernel
theorem dX20_walk_149 : decode cX20_walk 149 = .ok (.ifCond .eq 20, 3) := by decide +kernel
theorem dX20_walk_152 : decode cX20_walk 152 = .ok (.iload 6, 2) := by decide +kernel
theorem dX20_walk_154 : decode cX20_walk 154 = .ok (.bipush 10, 2) := by decide +kernel
theorem dX20_walk_156 : decode cX20_walk 156 = .ok (.ishr, 1) := by decide +kernel
theorem dX20_walk_157 : decode cX20_walk 157 = .ok (.sipush 1023, 3) := by decide +kernel
theorem dX20_walk_160 : decode cX20_walk 160 = .ok (.iand, 1) := by decide +kernel
theorem dX20_walk_161 : decode cX20_walk 161 = .ok (.ifCond .eq 8, 3) := by decide +kernel
theorem dX20_walk_164 : decode cX20_walk 164 = .ok (.iload_n 2, 1) := by decide +kernel
theorem dX20_walk_165 : decode cX20_walk 165 = .ok (.invokestatic 60, 3) := by decide +kernel
theorem dX20_walk_168 : decode cX20_walk 168 = .ok (.ireturn, 1) := by decide +kernel
theorem dX20_walk_169 : decode cX20_walk 169 = .ok (.iload 6, 2) := by decide +kernel
theorem dX20_walk_171 : decode cX20_walk 171 = .ok (.bipush 10, 2) := by decide +kernel
theorem dX20_walk_173 : decode cX20_walk 173 = .ok (.iushr, 1) := by decide +kernel
theorem dX20_walk_174 : decode cX20_walk 174 = .ok (.bipush 12, 2) := by decide +kernel
theorem dX20_walk_176 : decode cX20_walk 176 = .ok (.ishl, 1) := by decide +kernel
theorem dX20_walk_177 : decode cX20_walk 177 = .ok (.iload 7, 2) := by decide +kernel
theorem dX20_walk_179 : decode cX20_walk 179 = .ok (.ifCond .eq 10, 3) := by decide +kernel
theorem dX20_walk_182 : decode cX20_walk 182 = .ok (.iload_n 1, 1) := by decide +kernel
theorem dX20_walk_183 : decode cX20_walk 183 = .ok (.ldc 63, 2) := by decide +kernel
theorem dX20_walk_185 : decode cX20_walk 185 = .ok (.iand, 1) := by decide +kernel
theorem dX20_walk_186 : decode cX20_walk 186 = .ok (.goto 4, 3) := by decide +kernel
theorem dX20_walk_189 : decode cX20_walk 189 = .ok (.iconst 0, 1) := by decide +kernel
theorem dX20_walk_190 : decode cX20_walk 190 = .ok (.ior, 1) := by decide +kernel
theorem dX20_walk_191 : decode cX20_walk 191 = .ok (.istore 8, 2) := by decide +kernel
theorem dX20_walk_193 : decode cX20_walk 193 = .ok (.aload_n 0, 1) := by decide +kernel
theorem dX20_walk_194 : decode cX20_walk 194 = .ok (.getfield 16, 3) := by decide +kernel
theorem dX20_walk_197 : decode cX20_walk 197 = .ok (.iload 8, 2) := by decide +kernel
theorem dX20_walk_199 : decode cX20_walk 199 = .ok (.invokevirtual 25, 3) := by decide +kernel
theorem dX20_walk_202 : decode cX20_walk 202 = .ok (.ifCond .eq 8, 3) := by decide +kernel
theorem dX20_walk_205 : decode cX20_walk 205 = .ok (.iload 8, 2) := by decide +kernel
theorem dX20_walk_207 : decode cX20_walk 207 = .ok (.goto 7, 3) := by decide +kernel
theorem dX20_walk_210 : decode cX20_walk 210 = .ok (.iload_n 2, 1) := by decide +kernel
theorem dX20_walk_211 : decode cX20_walk 211 = .ok (.invokestatic 29, 3) := by decide +kernel
theorem dX20_walk_214 : decode cX20_walk 214 = .ok (.ireturn, 1) := by decide +kernel
theorem dX20_isGood_0 : decode cX20_isGood 0 = .ok (.iload_n 0, 1) := by decide +kernel
theorem dX20_isGood_1 : decode cX20_isGood 1 = .ok (.iconst 1, 1) := by decide +kernel
theorem dX20_isGood_2 : decode cX20_isGood 2 = .ok (.iand, 1) := by decide +kernel
theorem dX20_isGood_3 : decode cX20_isGood 3 = .ok (.ifCond .eq 29, 3) := by decide +kernel
theorem dX20_isGood_6 : decode cX20_isGood 6 = .ok (.iload_n 0, 1) := by decide +kernel
theorem dX20_isGood_7 : decode cX20_isGood 7 = .ok (.bipush 6, 2) := by decide +kernel
theorem dX20_isGood_9 : decode cX20_isGood 9 = .ok (.iand, 1) := by decide +kernel
theorem dX20_isGood_10 : decode cX20_isGood 10 = .ok (.iconst 4, 1) := by decide +kernel
theorem dX20_isGood_11 : decode cX20_isGood 11 = .ok (.if_icmp .eq 21, 3) := by decide +kernel
theorem dX20_isGood_14 : decode cX20_isGood 14 = .ok (.iload_n 0, 1) := by decide +kernel
theorem dX20_isGood_15 : decode cX20_isGood 15 = .ok (.bipush 10, 2) := by decide +kernel
theorem dX20_isGood_17 : decode cX20_isGood 17 = .ok (.iand, 1) := by decide +kernel
theorem dX20_isGood_18 : decode cX20_isGood 18 = .ok (.ifCond .eq 14, 3) := by decide +kernel
theorem dX20_isGood_21 : decode cX20_isGood 21 = .ok (.iload_n 0, 1) := by decide +kernel
theorem dX20_isGood_22 : decode cX20_isGood 22 = .ok (.bipush 64, 2) := by decide +kernel
theorem dX20_isGood_24 : decode cX20_isGood 24 = .ok (.iand, 1) := by decide +kernel
theorem dX20_isGood_25 : decode cX20_isGood 25 = .ok (.ifCond .eq 7, 3) := by decide +kernel
theorem dX20_isGood_28 : decode cX20_isGood 28 = .ok (.iconst 1, 1) := by decide +kernel
theorem dX20_isGood_29 : decode cX20_isGood 29 = .ok (.goto 4, 3) := by decide +kernel
theorem dX20_isGood_32 : decode cX20_isGood 32 = .ok (.iconst 0, 1) := by decide +kernel
theorem dX20_isGood_33 : decode cX20_isGood 33 = .ok (.istore 4, 2) := by decide +kernel
theorem dX20_isGood_35 : decode cX20_isGood 35 = .ok (.iload_n 1, 1) := by decide +kernel
theorem dX20_isGood_36 : decode cX20_isGood 36 = .ok (.ifCond .ne 8, 3) := by decide +kernel
theorem dX20_isGood_39 : decode cX20_isGood 39 = .ok (.bipush 8, 2) := by decide +kernel
theorem dX20_isGood_41 : decode cX20_isGood 41 = .ok (.goto 15, 3) := by decide +kernel
theorem dX20_isGood_44 : decode cX20_isGood 44 = .ok (.iload_n 1, 1) := by decide +kernel
theorem dX20_isGood_45 : decode cX20_isGood 45 = .ok (.iconst 1, 1) := by decide +kernel
theorem dX20_isGood_46 : decode cX20_isGood 46 = .ok (.if_icmp .ne 7, 3) := by decide +kernel
theorem dX20_isGood_49 : decode cX20_isGood 49 = .ok (.iconst 2, 1) := by decide +kernel
theorem dX20_isGood_50 : decode cX20_isGood 50 = .ok (.goto 6, 3) := by decide +kernel
theorem dX20_isGood_53 : decode cX20_isGood 53 = .ok (.sipush 132, 3) := by decide +kernel
theorem dX20_isGood_56 : decode cX20_isGood 56 = .ok (.istore 5, 2) := by decide +kernel
theorem dX20_isGood_58 : decode cX20_isGood 58 = .ok (.iload_n 0, 1) := by decide +kernel
theorem dX20_isGood_59 : decode cX20_isGood 59 = .ok (.bipush 16, 2) := by decide +kernel
theorem dX20_isGood_61 : decode cX20_isGood 61 = .ok (.iand, 1) := by decide +kernel
theorem dX20_isGood_62 : decode cX20_isGood 62 = .ok (.ifCond .eq 7, 3) := by decide +kernel
theorem dX20_isGood_65 : decode cX20_isGood 65 = .ok (.iconst 1, 1) := by decide +kernel
theorem dX20_isGood_66 : decode cX20_isGood 66 = .ok (.goto 4, 3) := by decide +kernel
theorem dX20_isGood_69 : decode cX20_isGood 69 = .ok (.iconst 0, 1) := by decide +kernel
theorem dX20_isGood_70 : decode cX20_isGood 70 = .ok (.istore 6, 2) := by decide +kernel
theorem dX20_isGood_72 : decode cX20_isGood 72 = .ok (.iload_n 2, 1) := by decide +kernel
theorem dX20_isGood_73 : decode cX20_isGood 73 = .ok (.ifCond .ne 8, 3) := by decide +kernel
theorem dX20_isGood_76 : decode cX20_isGood 76 = .ok (.iload 6, 2) := by decide +kernel
theorem dX20_isGood_78 : decode cX20_isGood 78 = .ok (.goto 21, 3) := by decide +kernel
theorem dX20_isGood_81 : decode cX20_isGood 81 = .ok (.iload 6, 2) := by decide +kernel
theorem dX20_isGood_83 : decode cX20_isGood 83 = .ok (.ifCond .eq 11, 3) := by decide +kernel
theorem dX20_isGood_86 : decode cX20_isGood 86 = .ok (.iload_n 1, 1) := by decide +kernel
theorem dX20_isGood_87 : decode cX20_isGood 87 = .ok (.ifCond .eq 11, 3) := by decide +kernel
theorem dX20_isGood_90 : decode cX20_isGood 90 = .ok (.iload_n 3, 1) := by decide +kernel
theorem dX20_isGood_91 : decode cX20_isGood 91 = .ok (.ifCond .eq 7, 3) := by decide +kernel
theorem dX20_isGood_94 : decode cX20_isGood 94 = .ok (.iconst 1, 1) := by decide +kernel
theorem dX20_isGood_95 : decode cX20_isGood 95 = .ok (.goto 4, 3) := by decide +kernel
theorem dX20_isGood_98 : decode cX20_isGood 98 = .ok (.iconst 0, 1) := by decide +kernel
theorem dX20_isGood_99 : decode cX20_isGood 99 = .ok (.istore 7, 2) := by decide +kernel
theorem dX20_isGood_101 : decode cX20_isGood 101 = .ok (.iload 4, 2) := by decide +kernel
theorem dX20_isGood_103 : decode cX20_isGood 103 = .ok (.ifCond .eq 21, 3) := by decide +kernel
theorem dX20_isGood_106 : decode cX20_isGood 106 = .ok (.iload 7, 2) := by decide +kernel
theorem dX20_isGood_108 : decode cX20_isGood 108 = .ok (.ifCond .eq 16, 3) := by decide +kernel
theorem dX20_isGood_111 : decode cX20_isGood 111 = .ok (.iload_n 0, 1) := by decide +kernel
theorem dX20_isGood_112 : decode cX20_isGood 112 = .ok (.iload 5, 2) := by decide +kernel
theorem dX20_isGood_114 : decode cX20_isGood 114 = .ok (.iand, 1) := by decide +kernel
theorem dX20_isGood_115 : decode cX20_isGood 115 = .ok (.iload 5, 2) := by decide +kernel
theorem dX20_isGood_117 : decode cX20_isGood 117 = .ok (.if_icmp .ne 7, 3) := by decide +kernel
theorem dX20_isGood_120 : decode cX20_isGood 120 = .ok (.iconst 1, 1) := by decide +kernel
theorem dX20_isGood_121 : decode cX20_isGood 121 = .ok (.goto 4, 3) := by decide +kernel
theorem dX20_isGood_124 : decode cX20_isGood 124 = .ok (.iconst 0, 1) := by decide +kernel
theorem dX20_isGood_125 : decode cX20_isGood 125 = .ok (.ireturn, 1) := by decide +kernel
theorem dX20_page_0 : decode cX20_page 0 = .ok (.iload_n 0, 1) := by decide +kernel
theorem dX20_page_1 : decode cX20_page 1 = .ok (.ifCond .ne 8, 3) := by decide +kernel
theorem dX20_page_4 : decode cX20_page 4 = .ok (.bipush (-13), 2) := by decide +kernel
theorem dX20_page_6 : decode cX20_page 6 = .ok (.goto 15, 3) := by decide +kernel
theorem dX20_page_9 : decode cX20_page 9 = .ok (.iload_n 0, 1) := by decide +kernel
theorem dX20_page_10 : decode cX20_page 10 = .ok (.iconst 1, 1) := by decide +kernel
theorem dX20_page_11 : decode cX20_page 11 = .ok (.if_icmp .ne 8, 3) := by decide +kernel
theorem dX20_page_14 : decode cX20_page 14 = .ok (.bipush (-14), 2) := by decide +kernel
theorem dX20_page_16 : decode cX20_page 16 = .ok (.goto 5, 3) := by decide +kernel
theorem dX20_page_19 : decode cX20_page 19 = .ok (.bipush (-16), 2) := by decide +kernel
theorem dX20_page_21 : decode cX20_page 21 = .ok (.ireturn, 1) := by decide +kernel
theorem dX21_init_0 : decode cX21_init 0 = .ok (.aload_n 0, 1) := by decide +kernel
theorem dX21_init_1 : decode cX21_init 1 = .ok (.invokespecial 1, 3) := by decide +kernel
theorem dX21_init_4 : decode cX21_init 4 = .ok (.aload_n 0, 1) := by decide +kernel
theorem dX21_init_5 : decode cX21_init 5 = .ok (.bipush 15, 2) := by decide +kernel
theorem dX21_init_7 : decode cX21_init 7 = .ok (.anewarray 7, 3) := by decide +kernel
theorem dX21_init_10 : decode cX21_init 10 = .ok (.dup, 1) := by decide +kernel
theorem dX21_init_11 : decode cX21_init 11 = .ok (.iconst 0, 1) := by decide +kernel
theorem dX21_init_12 : decode cX21_init 12 = .ok (.ldc 9, 2) := by decide +kernel
theorem dX21_init_14 : decode cX21_init 14 = .ok (.aastore, 1) := by decide +kernel
theorem dX21_init_15 : decode cX21_init 15 = .ok (.dup, 1) := by decide +kernel
theorem dX21_init_16 : decode cX21_init 16 = .ok (.iconst 1, 1) := by decide +kernel
theorem dX21_init_17 : decode cX21_init 17 = .ok (.ldc 11, 2) := by decide +kernel
theorem dX21_init_19 : decode cX21_init 19 = .ok (.aastore, 1) := by decide +kernel
theorem dX21_init_20 : decode cX21_init 20 = .ok (.dup, 1) := by decide +kernel
theorem dX21_init_21 : decode cX21_init 21 = .ok (.iconst 2, 1) := by decide +kernel
theorem dX21_init_22 : decode cX21_init 22 = .ok (.ldc 13, 2) := by decide +kernel
theorem dX21_init_24 : decode cX21_init 24 = .ok (.aastore, 1) := by decide +kernel
theorem dX21_init_25 : decode cX21_init 25 = .ok (.dup, 1) := by decide +kernel
theorem dX21_init_26 : decode cX21_init 26 = .ok (.iconst 3, 1) := by decide +kernel
theorem dX21_init_27 : decode cX21_init 27 = .ok (.ldc 15, 2) := by decide +kernel
theorem dX21_init_29 : decode cX21_init 29 = .ok (.aastore, 1) := by decide +kernel
theorem dX21_init_30 : decode cX21_init 30 = .ok (.dup, 1) := by decide +kernel
theorem dX21_init_31 : decode cX21_init 31 = .ok (.iconst 4, 1) := by decide +kernel
theorem dX21_init_32 : decode cX21_init 32 = .ok (.ldc 17, 2) := by decide +kernel
theorem dX21_init_34 : decode cX21_init 34 = .ok (.aastore, 1) := by decide +kernel
theorem dX21_init_35 : decode cX21_init 35 = .ok (.dup, 1) := by decide +kernel
theorem dX21_init_36 : decode cX21_init 36 = .ok (.iconst 5, 1) := by decide +kernel
theorem dX21_init_37 : decode cX21_init 37 = .ok (.ldc 19, 2) := by decide +kernel
theorem dX21_init_39 : decode cX21_init 39 = .ok (.aastore, 1) := by decide +kernel
theorem dX21_init_40 : decode cX21_init 40 = .ok (.dup, 1) := by decide +kernel
theorem dX21_init_41 : decode cX21_init 41 = .ok (.bipush 6, 2) := by decide +kernel
theorem dX21_init_43 : decode cX21_init 43 = .ok (.ldc 21, 2) := by decide +kernel
theorem dX21_init_45 : decode cX21_init 45 = .ok (.aastore, 1) := by decide +kernel
theorem dX21_init_46 : decode cX21_init 46 = .ok (.dup, 1) := by decide +kernel
theorem dX21_init_47 : decode cX21_init 47 = .ok (.bipush 7, 2) := by decide +kernel
theorem dX21_init_49 : decode cX21_init 49 = .ok (.ldc 23, 2) := by decide +kernel
theorem dX21_init_51 : decode cX21_init 51 = .ok (.aastore, 1) := by decide +kernel
theorem dX21_init_52 : decode cX21_init 52 = .ok (.dup, 1) := by decide +kernel
theorem dX21_init_53 : decode cX21_init 53 = .ok (.bipush 8, 2) := by decide +kernel
theorem dX21_init_55 : decode cX21_init 55 = .ok (.ldc 25, 2) := by decide +kernel
theorem dX21_init_57 : decode cX21_init 57 = .ok (.aastore, 1) := by decide +kernel
theorem dX21_init_58 : decode cX21_init 58 = .ok (.dup, 1) := by decide +kernel
theorem dX21_init_59 : decode cX21_init 59 = .ok (.bipush 9, 2) := by decide +kernel
theorem dX21_init_61 : decode cX21_init 61 = .ok (.ldc 27, 2) := by decide +kernel
theorem dX21_init_63 : decode cX21_init 63 = .ok (.aastore, 1) := by decide +kernel
theorem dX21_init_64 : decode cX21_init 64 = .ok (.dup, 1) := by decide +kernel
theorem dX21_init_65 : decode cX21_init 65 = .ok (.bipush 10, 2) := by decide +kernel
theorem dX21_init_67 : decode cX21_init 67 = .ok (.ldc 29, 2) := by decide +kernel
theorem dX21_init_69 : decode cX21_init 69 = .ok (.aastore, 1) := by decide +kernel
theorem dX21_init_70 : decode cX21_init 70 = .ok (.dup, 1) := by decide +kernel
theorem dX21_init_71 : decode cX21_init 71 = .ok (.bipush 11, 2) := by decide +kernel
theorem dX21_init_73 : decode cX21_init 73 = .ok (.ldc 31, 2) := by decide +kernel
theorem dX21_init_75 : decode cX21_init 75 = .ok (.aastore, 1) := by decide +kernel
theorem dX21_init_76 : decode cX21_init 76 = .ok (.dup, 1) := by decide +kernel
theorem dX21_init_77 : decode cX21_init 77 = .ok (.bipush 12, 2) := by decide +kernel
theorem dX21_init_79 : decode cX21_init 79 = .ok (.ldc 33, 2) := by decide +kernel
theorem dX21_init_81 : decode cX21_init 81 = .ok (.aastore, 1) := by decide +kernel
theorem dX21_init_82 : decode cX21_init 82 = .ok (.dup, 1) := by decide +kernel
theorem dX21_init_83 : decode cX21_init 83 = .ok (.bipush 13, 2) := by decide +kernel
theorem dX21_init_85 : decode cX21_init 85 = .ok (.ldc 35, 2) := by decide +kernel
theorem dX21_init_87 : decode cX21_init 87 = .ok (.aastore, 1) := by decide +kernel
theorem dX21_init_88 : decode cX21_init 88 = .ok (.dup, 1) := by decide +kernel
theorem dX21_init_89 : decode cX21_init 89 = .ok (.bipush 14, 2) := by decide +kernel
theorem dX21_init_91 : decode cX21_init 91 = .ok (.ldc 37, 2) := by decide +kernel
theorem dX21_init_93 : decode cX21_init 93 = .ok (.aastore, 1) := by decide +kernel
theorem dX21_init_94 : decode cX21_init 94 = .ok (.putfield 39, 3) := by decide +kernel
theorem dX21_init_97 : decode cX21_init 97 = .ok (.aload_n 0, 1) := by decide +kernel
theorem dX21_init_98 : decode cX21_init 98 = .ok (.bipush 43, 2) := by decide +kernel
theorem dX21_init_100 : decode cX21_init 100 = .ok (.anewarray 7, 3) := by decide +kernel
theorem dX21_init_103 : decode cX21_init 103 = .ok (.dup, 1) := by decide +kernel
theorem dX21_init_104 : decode cX21_init 104 = .ok (.iconst 0, 1) := by decide +kernel
theorem dX21_init_105 : decode cX21_init 105 = .ok (.ldc 45, 2) := by decide +kernel
theorem dX21_init_107 : decode cX21_init 107 = .ok (.aastore, 1) := by decide +kernel
theorem dX21_init_108 : decode cX21_init 108 = .ok (.dup, 1) := by decide +kernel
theorem dX21_init_109 : decode cX21_init 109 = .ok (.iconst 1, 1) := by decide +kernel
theorem dX21_init_110 : decode cX21_init 110 = .ok (.ldc 47, 2) := by decide +kernel
theorem dX21_init_112 : decode cX21_init 112 = .ok (.aastore, 1) := by decide +kernel
theorem dX21_init_113 : decode cX21_init 113 = .ok (.dup, 1) := by decide +kernel
theorem dX21_init_114 : decode cX21_init 114 = .ok (.iconst 2, 1) := by decide +kernel
theorem dX21_init_115 : decode cX21_init 115 = .ok (.ldc 49, 2) := by decide +kernel
theorem dX21_init_117 : decode cX21_init 117 = .ok (.aastore, 1) := by decide +kernel
theorem dX21_init_118 : decode cX21_init 118 = .ok (.dup, 1) := by decide +kernel
theorem dX21_init_119 : decode cX21_init 119 = .ok (.iconst 3, 1) := by decide +kernel
theorem dX21_init_120 : decode cX21_init 120 = .ok (.ldc 51, 2) := by decide +kernel
theorem dX21_init_122 : decode cX21_init 122 = .ok (.aastore, 1) := by decide +kernel
theorem dX21_init_123 : decode cX21_init 123 = .ok (.dup, 1) := by decide +kernel
theorem dX21_init_124 : decode cX21_init 124 = .ok (.iconst 4, 1) := by decide +kernel
theorem dX21_init_125 : decode cX21_init 125 = .ok (.ldc 53, 2) := by decide +kernel
theorem dX21_init_127 : decode cX21_init 127 = .ok (.aastore, 1) := by decide +kernel
theorem dX21_init_128 : decode cX21_init 128 = .ok (.dup, 1) := by decide +kernel
theorem dX21_init_129 : decode cX21_init 129 = .ok (.iconst 5, 1) := by decide +kernel
theorem dX21_init_130 : decode cX21_init 130 = .ok (.ldc 55, 2) := by decide +kernel
theorem dX21_init_132 : decode cX21_init 132 = .ok (.aastore, 1) := by decide +kernel
theorem dX21_init_133 : decode cX21_init 133 = .ok (.dup, 1) := by decide +kernel
theorem dX21_init_134 : decode cX21_init 134 = .ok (.bipush 6, 2) := by decide +kernel
theorem dX21_init_136 : decode cX21_init 136 = .ok (.ldc 57, 2) := by decide +kernel
theorem dX21_init_138 : decode cX21_init 138 = .ok (.aastore, 1) := by decide +kernel
theorem dX21_init_139 : decode cX21_init 139 = .ok (.dup, 1) := by decide +kernel
theorem dX21_init_140 : decode cX21_init 140 = .ok (.bipush 7, 2) := by decide +kernel
theorem dX21_init_142 : decode cX21_init 142 = .ok (.ldc 59, 2) := by decide +kernel
theorem dX21_init_144 : decode cX21_init 144 = .ok (.aastore, 1) := by decide +kernel
theorem dX21_init_145 : decode cX21_init 145 = .ok (.dup, 1) := by decide +kernel
theorem dX21_init_146 : decode cX21_init 146 = .ok (.bipush 8, 2) := by decide +kernel
theorem dX21_init_148 : decode cX21_init 148 = .ok (.ldc 61, 2) := by decide +kernel
theorem dX21_init_150 : decode cX21_init 150 = .ok (.aastore, 1) := by decide +kernel
theorem dX21_init_151 : decode cX21_init 151 = .ok (.dup, 1) := by decide +kernel
theorem dX21_init_152 : decode cX21_init 152 = .ok (.bipush 9, 2) := by decide +kernel
theorem dX21_init_154 : decode cX21_init 154 = .ok (.ldc 63, 2) := by decide +kernel
theorem dX21_init_156 : decode cX21_init 156 = .ok (.aastore, 1) := by decide +kernel
theorem dX21_init_157 : decode cX21_init 157 = .ok (.dup, 1) := by decide +kernel
theorem dX21_init_158 : decode cX21_init 158 = .ok (.bipush 10, 2) := by decide +kernel
theorem dX21_init_160 : decode cX21_init 160 = .ok (.ldc 65, 2) := by decide +kernel
theorem dX21_init_162 : decode cX21_init 162 = .ok (.aastore, 1) := by decide +kernel
theorem dX21_init_163 : decode cX21_init 163 = .ok (.dup, 1) := by decide +kernel
theorem dX21_init_164 : decode cX21_init 164 = .ok (.bipush 11, 2) := by decide +kernel
theorem dX21_init_166 : decode cX21_init 166 = .ok (.ldc 67, 2) := by decide +kernel
theorem dX21_init_168 : decode cX21_init 168 = .ok (.aastore, 1) := by decide +kernel
theorem dX21_init_169 : decode cX21_init 169 = .ok (.dup, 1) := by decide +kernel
theorem dX21_init_170 : decode cX21_init 170 = .ok (.bipush 12, 2) := by decide +kernel
theorem dX21_init_172 : decode cX21_init 172 = .ok (.ldc 69, 2) := by decide +kernel
theorem dX21_init_174 : decode cX21_init 174 = .ok (.aastore, 1) := by decide +kernel
theorem dX21_init_175 : decode cX21_init 175 = .ok (.dup, 1) := by decide +kernel
theorem dX21_init_176 : decode cX21_init 176 = .ok (.bipush 13, 2) := by decide +kernel
theorem dX21_init_178 : decode cX21_init 178 = .ok (.ldc 71, 2) := by decide +kernel
theorem dX21_init_180 : decode cX21_init 180 = .ok (.aastore, 1) := by decide +kernel
theorem dX21_init_181 : decode cX21_init 181 = .ok (.dup, 1) := by decide +kernel
theorem dX21_init_182 : decode cX21_init 182 = .ok (.bipush 14, 2) := by decide +kernel
theorem dX21_init_184 : decode cX21_init 184 = .ok (.ldc 73, 2) := by decide +kernel
theorem dX21_init_186 : decode cX21_init 186 = .ok (.aastore, 1) := by decide +kernel
theorem dX21_init_187 : decode cX21_init 187 = .ok (.dup, 1) := by decide +kernel
theorem dX21_init_188 : decode cX21_init 188 = .ok (.bipush 15, 2) := by decide +kernel
theorem dX21_init_190 : decode cX21_init 190 = .ok (.ldc 75, 2) := by decide +kernel
theorem dX21_init_192 : decode cX21_init 192 = .ok (.aastore, 1) := by decide +kernel
theorem dX21_init_193 : decode cX21_init 193 = .ok (.dup, 1) := by decide +kernel
theorem dX21_init_194 : decode cX21_init 194 = .ok (.bipush 16, 2) := by decide +kernel
theorem dX21_init_196 : decode cX21_init 196 = .ok (.ldc 77, 2) := by decide +kernel
theorem dX21_init_198 : decode cX21_init 198 = .ok (.aastore, 1) := by decide +kernel
theorem dX21_init_199 : decode cX21_init 199 = .ok (.dup, 1) := by decide +kernel
theorem dX21_init_200 : decode cX21_init 200 = .ok (.bipush 17, 2) := by decide +kernel
theorem dX21_init_202 : decode cX21_init 202 = .ok (.ldc 79, 2) := by decide +kernel
theorem dX21_init_204 : decode cX21_init 204 = .ok (.aastore, 1) := by decide +kernel
theorem dX21_init_205 : decode cX21_init 205 = .ok (.dup, 1) := by decide +kernel
theorem dX21_init_206 : decode cX21_init 206 = .ok (.bipush 18, 2) := by decide +kernel
theorem dX21_init_208 : decode cX21_init 208 = .ok (.ldc 81, 2) := by decide +kernel
theorem dX21_init_210 : decode cX21_init 210 = .ok (.aastore, 1) := by decide +kernel
theorem dX21_init_211 : decode cX21_init 211 = .ok (.dup, 1) := by decide +kernel
theorem dX21_init_212 : decode cX21_init 212 = .ok (.bipush 19, 2) := by decide +kernel
theorem dX21_init_214 : decode cX21_init 214 = .ok (.ldc 83, 2) := by decide +kernel
theorem dX21_init_216 : decode cX21_init 216 = .ok (.aastore, 1) := by decide +kernel
theorem dX21_init_217 : decode cX21_init 217 = .ok (.dup, 1) := by decide +kernel
theorem dX21_init_218 : decode cX21_init 218 = .ok (.bipush 20, 2) := by decide +kernel
theorem dX21_init_220 : decode cX21_init 220 = .ok (.ldc 85, 2) := by decide +kernel
theorem dX21_init_222 : decode cX21_init 222 = .ok (.aastore, 1) := by decide +kernel
theorem dX21_init_223 : decode cX21_init 223 = .ok (.dup, 1) := by decide +kernel
theorem dX21_init_224 : decode cX21_init 224 = .ok (.bipush 21, 2) := by decide +kernel
theorem dX21_init_226 : decode cX21_init 226 = .ok (.ldc 87, 2) := by decide +kernel
theorem dX21_init_228 : decode cX21_init 228 = .ok (.aastore, 1) := by decide +kernel
theorem dX21_init_229 : decode cX21_init 229 = .ok (.dup, 1) := by decide +kernel
theorem dX21_init_230 : decode cX21_init 230 = .ok (.bipush 22, 2) := by decide +kernel
theorem dX21_init_232 : decode cX21_init 232 = .ok (.ldc 89, 2) := by decide +kernel
theorem dX21_init_234 : decode cX21_init 234 = .ok (.aastore, 1) := by decide +kernel
theorem dX21_init_235 : decode cX21_init 235 = .ok (.dup, 1) := by decide +kernel
theorem dX21_init_236 : decode cX21_init 236 = .ok (.bipush 23, 2) := by decide +kernel
theorem dX21_init_238 : decode cX21_init 238 = .ok (.ldc 91, 2) := by decide +kernel
theorem dX21_init_240 : decode cX21_init 240 = .ok (.aastore, 1) := by decide +kernel
theorem dX21_init_241 : decode cX21_init 241 = .ok (.dup, 1) := by decide +kernel
theorem dX21_init_242 : decode cX21_init 242 = .ok (.bipush 24, 2) := by decide +kernel
theorem dX21_init_244 : decode cX21_init 244 = .ok (.ldc 93, 2) := by decide +kernel
theorem dX21_init_246 : decode cX21_init 246 = .ok (.aastore, 1) := by decide +kernel
theorem dX21_init_247 : decode cX21_init 247 = .ok (.dup, 1) := by decide +kernel
theorem dX21_init_248 : decode cX21_init 248 = .ok (.bipush 25, 2) := by decide +kernel
theorem dX21_init_250 : decode cX21_init 250 = .ok (.ldc 95, 2) := by decide +kernel
theorem dX21_init_252 : decode cX21_init 252 = .ok (.aastore, 1) := by decide +kernel
theorem dX21_init_253 : decode cX21_init 253 = .ok (.dup, 1) := by decide +kernel
theorem dX21_init_254 : decode cX21_init 254 = .ok (.bipush 26, 2) := by decide +kernel
theorem dX21_init_256 : decode cX21_init 256 = .ok (.ldc 97, 2) := by decide +kernel
theorem dX21_init_258 : decode cX21_init 258 = .ok (.aastore, 1) := by decide +kernel
theorem dX21_init_259 : decode cX21_init 259 = .ok (.dup, 1) := by decide +kernel
theorem dX21_init_260 : decode cX21_init 260 = .ok (.bipush 27, 2) := by decide +kernel
theorem dX21_init_262 : decode cX21_init 262 = .ok (.ldc 99, 2) := by decide +kernel
theorem dX21_init_264 : decode cX21_init 264 = .ok (.aastore, 1) := by decide +kernel
theorem dX21_init_265 : decode cX21_init 265 = .ok (.dup, 1) := by decide +kernel
theorem dX21_init_266 : decode cX21_init 266 = .ok (.bipush 28, 2) := by decide +kernel
theorem dX21_init_268 : decode cX21_init 268 = .ok (.ldc 101, 2) := by decide +kernel
theorem dX21_init_270 : decode cX21_init 270 = .ok (.aastore, 1) := by decide +kernel
theorem dX21_init_271 : decode cX21_init 271 = .ok (.dup, 1) := by decide +kernel
theorem dX21_init_272 : decode cX21_init 272 = .ok (.bipush 29, 2) := by decide +kernel
theorem dX21_init_274 : decode cX21_init 274 = .ok (.ldc 103, 2) := by decide +kernel
theorem dX21_init_276 : decode cX21_init 276 = .ok (.aastore, 1) := by decide +kernel
theorem dX21_init_277 : decode cX21_init 277 = .ok (.dup, 1) := by decide +kernel
theorem dX21_init_278 : decode cX21_init 278 = .ok (.bipush 30, 2) := by decide +kernel
theorem dX21_init_280 : decode cX21_init 280 = .ok (.ldc 105, 2) := by decide +kernel
theorem dX21_init_282 : decode cX21_init 282 = .ok (.aastore, 1) := by decide +kernel
theorem dX21_init_283 : decode cX21_init 283 = .ok (.dup, 1) := by decide +kernel
theorem dX21_init_284 : decode cX21_init 284 = .ok (.bipush 31, 2) := by decide +kernel
theorem dX21_init_286 : decode cX21_init 286 = .ok (.ldc 107, 2) := by decide +kernel
theorem dX21_init_288 : decode cX21_init 288 = .ok (.aastore, 1) := by decide +kernel
theorem dX21_init_289 : decode cX21_init 289 = .ok (.dup, 1) := by decide +kernel
theorem dX21_init_290 : decode cX21_init 290 = .ok (.bipush 32, 2) := by decide +kernel
theorem dX21_init_292 : decode cX21_init 292 = .ok (.ldc 109, 2) := by decide +kernel
theorem dX21_init_294 : decode cX21_init 294 = .ok (.aastore, 1) := by decide +kernel
theorem dX21_init_295 : decode cX21_init 295 = .ok (.dup, 1) := by decide +kernel
theorem dX21_init_296 : decode cX21_init 296 = .ok (.bipush 33, 2) := by decide +kernel
theorem dX21_init_298 : decode cX21_init 298 = .ok (.ldc 111, 2) := by decide +kernel
theorem dX21_init_300 : decode cX21_init 300 = .ok (.aastore, 1) := by decide +kernel
theorem dX21_init_301 : decode cX21_init 301 = .ok (.dup, 1) := by decide +kernel
theorem dX21_init_302 : decode cX21_init 302 = .ok (.bipush 34, 2) := by decide +kernel
theorem dX21_init_304 : decode cX21_init 304 = .ok (.ldc 113, 2) := by decide +kernel
theorem dX21_init_306 : decode cX21_init 306 = .ok (.aastore, 1) := by decide +kernel
theorem dX21_init_307 : decode cX21_init 307 = .ok (.dup, 1) := by decide +kernel
theorem dX21_init_308 : decode cX21_init 308 = .ok (.bipush 35, 2) := by decide +kernel
theorem dX21_init_310 : decode cX21_init 310 = .ok (.ldc 115, 2) := by decide +kernel
theorem dX21_init_312 : decode cX21_init 312 = .ok (.aastore, 1) := by decide +kernel
theorem dX21_init_313 : decode cX21_init 313 = .ok (.dup, 1) := by decide +kernel
theorem dX21_init_314 : decode cX21_init 314 = .ok (.bipush 36, 2) := by decide +kernel
theorem dX21_init_316 : decode cX21_init 316 = .ok (.ldc 117, 2) := by decide +kernel
theorem dX21_init_318 : decode cX21_init 318 = .ok (.aastore, 1) := by decide +kernel
theorem dX21_init_319 : decode cX21_init 319 = .ok (.dup, 1) := by decide +kernel
theorem dX21_init_320 : decode cX21_init 320 = .ok (.bipush 37, 2) := by decide +kernel
theorem dX21_init_322 : decode cX21_init 322 = .ok (.ldc 119, 2) := by decide +kernel
theorem dX21_init_324 : decode cX21_init 324 = .ok (.aastore, 1) := by decide +kernel
theorem dX21_init_325 : decode cX21_init 325 = .ok (.dup, 1) := by decide +kernel
theorem dX21_init_326 : decode cX21_init 326 = .ok (.bipush 38, 2) := by decide +kernel
theorem dX21_init_328 : decode cX21_init 328 = .ok (.ldc 121, 2) := by decide +kernel
theorem dX21_init_330 : decode cX21_init 330 = .ok (.aastore, 1) := by decide +kernel
theorem dX21_init_331 : decode cX21_init 331 = .ok (.dup, 1) := by decide +kernel
theorem dX21_init_332 : decode cX21_init 332 = .ok (.bipush 39, 2) := by decide +kernel
theorem dX21_init_334 : decode cX21_init 334 = .ok (.ldc 123, 2) := by decide +kernel
theorem dX21_init_336 : decode cX21_init 336 = .ok (.aastore, 1) := by decide +kernel
theorem dX21_init_337 : decode cX21_init 337 = .ok (.dup, 1) := by decide +kernel
theorem dX21_init_338 : decode cX21_init 338 = .ok (.bipush 40, 2) := by decide +kernel
theorem dX21_init_340 : decode cX21_init 340 = .ok (.ldc 125, 2) := by decide +kernel
theorem dX21_init_342 : decode cX21_init 342 = .ok (.aastore, 1) := by decide +kernel
theorem dX21_init_343 : decode cX21_init 343 = .ok (.dup, 1) := by decide +kernel
theorem dX21_init_344 : decode cX21_init 344 = .ok (.bipush 41, 2) := by decide +kernel
theorem dX21_init_346 : decode cX21_init 346 = .ok (.ldc 127, 2) := by decide +kernel
theorem dX21_init_348 : decode cX21_init 348 = .ok (.aastore, 1) := by decide +kernel
theorem dX21_init_349 : decode cX21_init 349 = .ok (.dup, 1) := by decide +kernel
theorem dX21_init_350 : decode cX21_init 350 = .ok (.bipush 42, 2) := by decide +kernel
theorem dX21_init_352 : decode cX21_init 352 = .ok (.ldc 129, 2) := by decide +kernel
theorem dX21_init_354 : decode cX21_init 354 = .ok (.aastore, 1) := by decide +kernel
theorem dX21_init_355 : decode cX21_init 355 = .ok (.putfield 131, 3) := by decide +kernel
theorem dX21_init_358 : decode cX21_init 358 = .ok (.aload_n 0, 1) := by decide +kernel
theorem dX21_init_359 : decode cX21_init 359 = .ok (.bipush 15, 2) := by decide +kernel
theorem dX21_init_361 : decode cX21_init 361 = .ok (.anewarray 7, 3) := by decide +kernel
theorem dX21_init_364 : decode cX21_init 364 = .ok (.dup, 1) := by decide +kernel
theorem dX21_init_365 : decode cX21_init 365 = .ok (.iconst 0, 1) := by decide +kernel
theorem dX21_init_366 : decode cX21_init 366 = .ok (.ldc 134, 2) := by decide +kernel
theorem dX21_init_368 : decode cX21_init 368 = .ok (.aastore, 1) := by decide +kernel
theorem dX21_init_369 : decode cX21_init 369 = .ok (.dup, 1) := by decide +kernel
theorem dX21_init_370 : decode cX21_init 370 = .ok (.iconst 1, 1) := by decide +kernel
theorem dX21_init_371 : decode cX21_init 371 = .ok (.ldc 136, 2) := by decide +kernel
theorem dX21_init_373 : decode cX21_init 373 = .ok (.aastore, 1) := by decide +kernel
theorem dX21_init_374 : decode cX21_init 374 = .ok (.dup, 1) := by decide +kernel
theorem dX21_init_375 : decode cX21_init 375 = .ok (.iconst 2, 1) := by decide +kernel
theorem dX21_init_376 : decode cX21_init 376 = .ok (.ldc 138, 2) := by decide +kernel
theorem dX21_init_378 : decode cX21_init 378 = .ok (.aastore, 1) := by decide +kernel
theorem dX21_init_379 : decode cX21_init 379 = .ok (.dup, 1) := by decide +kernel
theorem dX21_init_380 : decode cX21_init 380 = .ok (.iconst 3, 1) := by decide +kernel
theorem dX21_init_381 : decode cX21_init 381 = .ok (.ldc 140, 2) := by decide +kernel
theorem dX21_init_383 : decode cX21_init 383 = .ok (.aastore, 1) := by decide +kernel
theorem dX21_init_384 : decode cX21_init 384 = .ok (.dup, 1) := by decide +kernel
theorem dX21_init_385 : decode cX21_init 385 = .ok (.iconst 4, 1) := by decide +kernel
theorem dX21_init_386 : decode cX21_init 386 = .ok (.ldc 142, 2) := by decide +kernel
theorem dX21_init_388 : decode cX21_init 388 = .ok (.aastore, 1) := by decide +kernel
theorem dX21_init_389 : decode cX21_init 389 = .ok (.dup, 1) := by decide +kernel
theorem dX21_init_390 : decode cX21_init 390 = .ok (.iconst 5, 1) := by decide +kernel
theorem dX21_init_391 : decode cX21_init 391 = .ok (.ldc 144, 2) := by decide +kernel
theorem dX21_init_393 : decode cX21_init 393 = .ok (.aastore, 1) := by decide +kernel
theorem dX21_init_394 : decode cX21_init 394 = .ok (.dup, 1) := by decide +kernel
theorem dX21_init_395 : decode cX21_init 395 = .ok (.bipush 6, 2) := by decide +kernel
theorem dX21_init_397 : decode cX21_init 397 = .ok (.ldc 146, 2) := by decide +kernel
theorem dX21_init_399 : decode cX21_init 399 = .ok (.aastore, 1) := by decide +kernel
theorem dX21_init_400 : decode cX21_init 400 = .ok (.dup, 1) := by decide +kernel
theorem dX21_init_401 : decode cX21_init 401 = .ok (.bipush 7, 2) := by decide +kernel
theorem dX21_init_403 : decode cX21_init 403 = .ok (.ldc 148, 2) := by decide +kernel
theorem dX21_init_405 : decode cX21_init 405 = .ok (.aastore, 1) := by decide +kernel
theorem dX21_init_406 : decode cX21_init 406 = .ok (.dup, 1) := by decide +kernel
theorem dX21_init_407 : decode cX21_init 407 = .ok (.bipush 8, 2) := by decide +kernel
theorem dX21_init_409 : decode cX21_init 409 = .ok (.ldc 150, 2) := by decide +kernel
theorem dX21_init_411 : decode cX21_init 411 = .ok (.aastore, 1) := by decide +kernel
theorem dX21_init_412 : decode cX21_init 412 = .ok (.dup, 1) := by decide +kernel
theorem dX21_init_413 : decode cX21_init 413 = .ok (.bipush 9, 2) := by decide +kernel
theorem dX21_init_415 : decode cX21_init 415 = .ok (.ldc 152, 2) := by decide +kernel
theorem dX21_init_417 : decode cX21_init 417 = .ok (.aastore, 1) := by decide +kernel
theorem dX21_init_418 : decode cX21_init 418 = .ok (.dup, 1) := by decide +kernel
theorem dX21_init_419 : decode cX21_init 419 = .ok (.bipush 10, 2) := by decide +kernel
theorem dX21_init_421 : decode cX21_init 421 = .ok (.ldc 154, 2) := by decide +kernel
theorem dX21_init_423 : decode cX21_init 423 = .ok (.aastore, 1) := by decide +kernel
theorem dX21_init_424 : decode cX21_init 424 = .ok (.dup, 1) := by decide +kernel
theorem dX21_init_425 : decode cX21_init 425 = .ok (.bipush 11, 2) := by decide +kernel
theorem dX21_init_427 : decode cX21_init 427 = .ok (.ldc 156, 2) := by decide +kernel
theorem dX21_init_429 : decode cX21_init 429 = .ok (.aastore, 1) := by decide +kernel
theorem dX21_init_430 : decode cX21_init 430 = .ok (.dup, 1) := by decide +kernel
theorem dX21_init_431 : decode cX21_init 431 = .ok (.bipush 12, 2) := by decide +kernel
theorem dX21_init_433 : decode cX21_init 433 = .ok (.ldc 158, 2) := by decide +kernel
theorem dX21_init_435 : decode cX21_init 435 = .ok (.aastore, 1) := by decide +kernel
theorem dX21_init_436 : decode cX21_init 436 = .ok (.dup, 1) := by decide +kernel
theorem dX21_init_437 : decode cX21_init 437 = .ok (.bipush 13, 2) := by decide +kernel
theorem dX21_init_439 : decode cX21_init 439 = .ok (.ldc 160, 2) := by decide +kernel
theorem dX21_init_441 : decode cX21_init 441 = .ok (.aastore, 1) := by decide +kernel
theorem dX21_init_442 : decode cX21_init 442 = .ok (.dup, 1) := by decide +kernel
theorem dX21_init_443 : decode cX21_init 443 = .ok (.bipush 14, 2) := by decide +kernel
theorem dX21_init_445 : decode cX21_init 445 = .ok (.ldc 162, 2) := by decide +kernel
theorem dX21_init_447 : decode cX21_init 447 = .ok (.aastore, 1) := by decide +kernel
theorem dX21_init_448 : decode cX21_init 448 = .ok (.putfield 164, 3) := by decide +kernel
theorem dX21_init_451 : decode cX21_init 451 = .ok (.aload_n 0, 1) := by decide +kernel
theorem dX21_init_452 : decode cX21_init 452 = .ok (.bipush 15, 2) := by decide +kernel
theorem dX21_init_454 : decode cX21_init 454 = .ok (.anewarray 7, 3) := by decide +kernel
theorem dX21_init_457 : decode cX21_init 457 = .ok (.dup, 1) := by decide +kernel
theorem dX21_init_458 : decode cX21_init 458 = .ok (.iconst 0, 1) := by decide +kernel
theorem dX21_init_459 : decode cX21_init 459 = .ok (.ldc 167, 2) := by decide +kernel
theorem dX21_init_461 : decode cX21_init 461 = .ok (.aastore, 1) := by decide +kernel
theorem dX21_init_462 : decode cX21_init 462 = .ok (.dup, 1) := by decide +kernel
theorem dX21_init_463 : decode cX21_init 463 = .ok (.iconst 1, 1) := by decide +kernel
theorem dX21_init_464 : decode cX21_init 464 = .ok (.ldc 169, 2) := by decide +kernel
theorem dX21_init_466 : decode cX21_init 466 = .ok (.aastore, 1) := by decide +kernel
theorem dX21_init_467 : decode cX21_init 467 = .ok (.dup, 1) := by decide +kernel
theorem dX21_init_468 : decode cX21_init 468 = .ok (.iconst 2, 1) := by decide +kernel
theorem dX21_init_469 : decode cX21_init 469 = .ok (.ldc 171, 2) := by decide +kernel
theorem dX21_init_471 : decode cX21_init 471 = .ok (.aastore, 1) := by decide +kernel
theorem dX21_init_472 : decode cX21_init 472 = .ok (.dup, 1) := by decide +kernel
theorem dX21_init_473 : decode cX21_init 473 = .ok (.iconst 3, 1) := by decide +kernel
theorem dX21_init_474 : decode cX21_init 474 = .ok (.ldc 173, 2) := by decide +kernel
theorem dX21_init_476 : decode cX21_init 476 = .ok (.aastore, 1) := by decide +kernel
theorem dX21_init_477 : decode cX21_init 477 = .ok (.dup, 1) := by decide +kernel
theorem dX21_init_478 : decode cX21_init 478 = .ok (.iconst 4, 1) := by decide +kernel
theorem dX21_init_479 : decode cX21_init 479 = .ok (.ldc 173, 2) := by decide +kernel
theorem dX21_init_481 : decode cX21_init 481 = .ok (.aastore, 1) := by decide +kernel
theorem dX21_init_482 : decode cX21_init 482 = .ok (.dup, 1) := by decide +kernel
theorem dX21_init_483 : decode cX21_init 483 = .ok (.iconst 5, 1) := by decide +kernel
theorem dX21_init_484 : decode cX21_init 484 = .ok (.ldc 175, 2) := by decide +kernel
theorem dX21_init_486 : decode cX21_init 486 = .ok (.aastore, 1) := by decide +kernel
theorem dX21_init_487 : decode cX21_init 487 = .ok (.dup, 1) := by decide +kernel
theorem dX21_init_488 : decode cX21_init 488 = .ok (.bipush 6, 2) := by decide +kernel
theorem dX21_init_490 : decode cX21_init 490 = .ok (.ldc 173, 2) := by decide +kernel
theorem dX21_init_492 : decode cX21_init 492 = .ok (.aastore, 1) := by decide +kernel
theorem dX21_init_493 : decode cX21_init 493 = .ok (.dup, 1) := by decide +kernel
theorem dX21_init_494 : decode cX21_init 494 = .ok (.bipush 7, 2) := by decide +kernel
theorem dX21_init_496 : decode cX21_init 496 = .ok (.ldc 177, 2) := by decide +kernel
theorem dX21_init_498 : decode cX21_init 498 = .ok (.aastore, 1) := by decide +kernel
theorem dX21_init_499 : decode cX21_init 499 = .ok (.dup, 1) := by decide +kernel
theorem dX21_init_500 : decode cX21_init 500 = .ok (.bipush 8, 2) := by decide +kernel
theorem dX21_init_502 : decode cX21_init 502 = .ok (.ldc 177, 2) := by decide +kernel
theorem dX21_init_504 : decode cX21_init 504 = .ok (.aastore, 1) := by decide +kernel
theorem dX21_init_505 : decode cX21_init 505 = .ok (.dup, 1) := by decide +kernel
theorem dX21_init_506 : decode cX21_init 506 = .ok (.bipush 9, 2) := by decide +kernel
theorem dX21_init_508 : decode cX21_init 508 = .ok (.ldc 169, 2) := by decide +kernel
theorem dX21_init_510 : decode cX21_init 510 = .ok (.aastore, 1) := by decide +kernel
theorem dX21_init_511 : decode cX21_init 511 = .ok (.dup, 1) := by decide +kernel
theorem dX21_init_512 : decode cX21_init 512 = .ok (.bipush 10, 2) := by decide +kernel
theorem dX21_init_514 : decode cX21_init 514 = .ok (.ldc 173, 2) := by decide +kernel
theorem dX21_init_516 : decode cX21_init 516 = .ok (.aastore, 1) := by decide +kernel
theorem dX21_init_517 : decode cX21_init 517 = .ok (.dup, 1) := by decide +kernel
theorem dX21_init_518 : decode cX21_init 518 = .ok (.bipush 11, 2) := by decide +kernel
theorem dX21_init_520 : decode cX21_init 520 = .ok (.ldc 171, 2) := by decide +kernel
theorem dX21_init_522 : decode cX21_init 522 = .ok (.aastore, 1) := by decide +kernel
theorem dX21_init_523 : decode cX21_init 523 = .ok (.dup, 1) := by decide +kernel
theorem dX21_init_524 : decode cX21_init 524 = .ok (.bipush 12, 2) := by decide +kernel
theorem dX21_init_526 : decode cX21_init 526 = .ok (.ldc 179, 2) := by decide +kernel
theorem dX21_init_528 : decode cX21_init 528 = .ok (.aastore, 1) := by decide +kernel
theorem dX21_init_529 : decode cX21_init 529 = .ok (.dup, 1) := by decide +kernel
theorem dX21_init_530 : decode cX21_init 530 = .ok (.bipush 13, 2) := by decide +kernel
theorem dX21_init_532 : decode cX21_init 532 = .ok (.ldc 181, 2) := by decide +kernel
theorem dX21_init_534 : decode cX21_init 534 = .ok (.aastore, 1) := by decide +kernel
theorem dX21_init_535 : decode cX21_init 535 = .ok (.dup, 1) := by decide +kernel
theorem dX21_init_536 : decode cX21_init 536 = .ok (.bipush 14, 2) := by decide +kernel
theorem dX21_init_538 : decode cX21_init 538 = .ok (.ldc 183, 2) := by decide +kernel
theorem dX21_init_540 : decode cX21_init 540 = .ok (.aastore, 1) := by decide +kernel
theorem dX21_init_541 : decode cX21_init 541 = .ok (.putfield 185, 3) := by decide +kernel
theorem dX21_init_544 : decode cX21_init 544 = .ok (.aload_n 0, 1) := by decide +kernel
theorem dX21_init_545 : decode cX21_init 545 = .ok (.sipush 4096, 3) := by decide +kernel
theorem dX21_init_548 : decode cX21_init 548 = .ok (.newarray .byte, 2) := by decide +kernel
theorem dX21_init_550 : decode cX21_init 550 = .ok (.putfield 188, 3) := by decide +kernel
theorem dX21_init_553 : decode cX21_init 553 = .ok (.aload_n 0, 1) := by decide +kernel
theorem dX21_init_554 : decode cX21_init 554 = .ok (.sipush 4096, 3) := by decide +kernel
theorem dX21_init_557 : decode cX21_init 557 = .ok (.newarray .byte, 2) := by decide +kernel
theorem dX21_init_559 : decode cX21_init 559 = .ok (.putfield 192, 3) := by decide +kernel
theorem dX21_init_562 : decode cX21_init 562 = .ok (.aload_n 0, 1) := by decide +kernel
theorem dX21_init_563 : decode cX21_init 563 = .ok (.sipush 4100, 3) := by decide +kernel
theorem dX21_init_566 : decode cX21_init 566 = .ok (.newarray .int, 2) := by decide +kernel
theorem dX21_init_568 : decode cX21_init 568 = .ok (.putfield 195, 3) := by decide +kernel
theorem dX21_init_571 : decode cX21_init 571 = .ok (.aload_n 0, 1) := by decide +kernel
theorem dX21_init_572 : decode cX21_init 572 = .ok (.sipush 4100, 3) := by decide +kernel
theorem dX21_init_575 : decode cX21_init 575 = .ok (.newarray .int, 2) := by decide +kernel
theorem dX21_init_577 : decode cX21_init 577 = .ok (.putfield 199, 3) := by decide +kernel
theorem dX21_init_580 : decode cX21_init 580 = .ok (.aload_n 0, 1) := by decide +kernel
theorem dX21_init_581 : decode cX21_init 581 = .ok (.sipush 4100, 3) := by decide +kernel
theorem dX21_init_584 : decode cX21_init 584 = .ok (.newarray .byte, 2) := by decide +kernel
theorem dX21_init_586 : decode cX21_init 586 = .ok (.putfield 202, 3) := by decide +kernel
theorem dX21_init_589 : decode cX21_init 589 = .ok (.aload_n 0, 1) := by decide +kernel
theorem dX21_init_590 : decode cX21_init 590 = .ok (.sipush 4100, 3) := by decide +kernel
theorem dX21_init_593 : decode cX21_init 593 = .ok (.newarray .int, 2) := by decide +kernel
theorem dX21_init_595 : decode cX21_init 595 = .ok (.putfield 205, 3) := by decide +kernel
theorem dX21_init_598 : decode cX21_init 598 = .ok (.aload_n 0, 1) := by decide +kernel
theorem dX21_init_599 : decode cX21_init 599 = .ok (.sipush 4200, 3) := by decide +kernel
theorem dX21_init_602 : decode cX21_init 602 = .ok (.newarray .byte, 2) := by decide +kernel
theorem dX21_init_604 : decode cX21_init 604 = .ok (.putfield 208, 3) := by decide +kernel
theorem dX21_init_607 : decode cX21_init 607 = .ok (.aload_n 0, 1) := by decide +kernel
theorem dX21_init_608 : decode cX21_init 608 = .ok (.sipush 4200, 3) := by decide +kernel
theorem dX21_init_611 : decode cX21_init 611 = .ok (.newarray .int, 2) := by decide +kernel
theorem dX21_init_613 : decode cX21_init 613 = .ok (.putfield 211, 3) := by decide +kernel
theorem dX21_init_616 : decode cX21_init 616 = .ok (.aload_n 0, 1) := by decide +kernel
theorem dX21_init_617 : decode cX21_init 617 = .ok (.sipush 4200, 3) := by decide +kernel
theorem dX21_init_620 : decode cX21_init 620 = .ok (.newarray .int, 2) := by decide +kernel
theorem dX21_init_622 : decode cX21_init 622 = .ok (.putfield 214, 3) := by decide +kernel
theorem dX21_init_625 : decode cX21_init 625 = .ok (.aload_n 0, 1) := by decide +kernel
theorem dX21_init_626 : decode cX21_init 626 = .ok (.sipush 4200, 3) := by decide +kernel
theorem dX21_init_629 : decode cX21_init 629 = .ok (.newarray .int, 2) := by decide +kernel
theorem dX21_init_631 : decode cX21_init 631 = .ok (.putfield 217, 3) := by decide +kernel
theorem dX21_init_634 : decode cX21_init 634 = .ok (.aload_n 0, 1) := by decide +kernel
theorem dX21_init_635 : decode cX21_init 635 = .ok (.sipush 4200, 3) := by decide +kernel
theorem dX21_init_638 : decode cX21_init 638 = .ok (.newarray .int, 2) := by decide +kernel
theorem dX21_init_640 : decode cX21_init 640 = .ok (.putfield 220, 3) := by decide +kernel
theorem dX21_init_643 : decode cX21_init 643 = .ok (.aload_n 0, 1) := by decide +kernel
theorem dX21_init_644 : decode cX21_init 644 = .ok (.sipush 4200, 3) := by decide +kernel
theorem dX21_init_647 : decode cX21_init 647 = .ok (.newarray .int, 2) := by decide +kernel
theorem dX21_init_649 : decode cX21_init 649 = .ok (.putfield 223, 3) := by decide +kernel
theorem dX21_init_652 : decode cX21_init 652 = .ok (.aload_n 0, 1) := by decide +kernel
theorem dX21_init_653 : decode cX21_init 653 = .ok (.sipush 4200, 3) := by decide +kernel
theorem dX21_init_656 : decode cX21_init 656 = .ok (.newarray .int, 2) := by decide +kernel
theorem dX21_init_658 : decode cX21_init 658 = .ok (.putfield 226, 3) := by decide +kernel
theorem dX21_init_661 : decode cX21_init 661 = .ok (.aload_n 0, 1) := by decide +kernel
theorem dX21_init_662 : decode cX21_init 662 = .ok (.sipush 4200, 3) := by decide +kernel
theorem dX21_init_665 : decode cX21_init 665 = .ok (.newarray .int, 2) := by decide +kernel
theorem dX21_init_667 : decode cX21_init 667 = .ok (.putfield 229, 3) := by decide +kernel
theorem dX21_init_670 : decode cX21_init 670 = .ok (.aload_n 0, 1) := by decide +kernel
theorem dX21_init_671 : decode cX21_init 671 = .ok (.sipush 4200, 3) := by decide +kernel
theorem dX21_init_674 : decode cX21_init 674 = .ok (.newarray .int, 2) := by decide +kernel
theorem dX21_init_676 : decode cX21_init 676 = .ok (.putfield 232, 3) := by decide +kernel
theorem dX21_init_679 : decode cX21_init 679 = .ok (.aload_n 0, 1) := by decide +kernel
theorem dX21_init_680 : decode cX21_init 680 = .ok (.sipush 4200, 3) := by decide +kernel
theorem dX21_init_683 : decode cX21_init 683 = .ok (.newarray .int, 2) := by decide +kernel
theorem dX21_init_685 : decode cX21_init 685 = .ok (.putfield 235, 3) := by decide +kernel
theorem dX21_init_688 : decode cX21_init 688 = .ok (.aload_n 0, 1) := by decide +kernel
theorem dX21_init_689 : decode cX21_init 689 = .ok (.sipush 2048, 3) := by decide +kernel
theorem dX21_init_692 : decode cX21_init 692 = .ok (.newarray .int, 2) := by decide +kernel
theorem dX21_init_694 : decode cX21_init 694 = .ok (.putfield 238, 3) := by decide +kernel
theorem dX21_init_697 : decode cX21_init 697 = .ok (.aload_n 0, 1) := by decide +kernel
theorem dX21_init_698 : decode cX21_init 698 = .ok (.sipush 2048, 3) := by decide +kernel
theorem dX21_init_701 : decode cX21_init 701 = .ok (.newarray .int, 2) := by decide +kernel
theorem dX21_init_703 : decode cX21_init 703 = .ok (.putfield 241, 3) := by decide +kernel
theorem dX21_init_706 : decode cX21_init 706 = .ok (.aload_n 0, 1) := by decide +kernel
theorem dX21_init_707 : decode cX21_init 707 = .ok (.sipush 2048, 3) := by decide +kernel
theorem dX21_init_710 : decode cX21_init 710 = .ok (.newarray .int, 2) := by decide +kernel
theorem dX21_init_712 : decode cX21_init 712 = .ok (.putfield 244, 3) := by decide +kernel
theorem dX21_init_715 : decode cX21_init 715 = .ok (.aload_n 0, 1) := by decide +kernel
theorem dX21_init_716 : decode cX21_init 716 = .ok (.sipush 2100, 3) := by decide +kernel
theorem dX21_init_719 : decode cX21_init 719 = .ok (.newarray .int, 2) := by decide +kernel
theorem dX21_init_721 : decode cX21_init 721 = .ok (.putfield 247, 3) := by decide +kernel
theorem dX21_init_724 : decode cX21_init 724 = .ok (.aload_n 0, 1) := by decide +kernel
theorem dX21_init_725 : decode cX21_init 725 = .ok (.sipush 2100, 3) := by decide +kernel
theorem dX21_init_728 : decode cX21_init 728 = .ok (.newarray .int, 2) := by decide +kernel
theorem dX21_init_730 : decode cX21_init 730 = .ok (.putfield 250, 3) := by decide +kernel
theorem dX21_init_733 : decode cX21_init 733 = .ok (.aload_n 0, 1) := by decide +kernel
theorem dX21_init_734 : decode cX21_init 734 = .ok (.sipush 2100, 3) := by decide +kernel
theorem dX21_init_737 : decode cX21_init 737 = .ok (.newarray .int, 2) := by decide +kernel
theorem dX21_init_739 : decode cX21_init 739 = .ok (.putfield 253, 3) := by decide +kernel
theorem dX21_init_742 : decode cX21_init 742 = .ok (.aload_n 0, 1) := by decide +kernel
theorem dX21_init_743 : decode cX21_init 743 = .ok (.sipush 600, 3) := by decide +kernel
theorem dX21_init_746 : decode cX21_init 746 = .ok (.newarray .int, 2) := by decide +kernel
theorem dX21_init_748 : decode cX21_init 748 = .ok (.putfield 256, 3) := by decide +kernel
theorem dX21_init_751 : decode cX21_init 751 = .ok (.aload_n 0, 1) := by decide +kernel
theorem dX21_init_752 : decode cX21_init 752 = .ok (.sipush 600, 3) := by decide +kernel
theorem dX21_init_755 : decode cX21_init 755 = .ok (.newarray .int, 2) := by decide +kernel
theorem dX21_init_757 : decode cX21_init 757 = .ok (.putfield 259, 3) := by decide +kernel
theorem dX21_init_760 : decode cX21_init 760 = .ok (.aload_n 0, 1) := by decide +kernel
theorem dX21_init_761 : decode cX21_init 761 = .ok (.sipush 2100, 3) := by decide +kernel
theorem dX21_init_764 : decode cX21_init 764 = .ok (.newarray .byte, 2) := by decide +kernel
theorem dX21_init_766 : decode cX21_init 766 = .ok (.putfield 262, 3) := by decide +kernel
theorem dX21_init_769 : decode cX21_init 769 = .ok (.aload_n 0, 1) := by decide +kernel
theorem dX21_init_770 : decode cX21_init 770 = .ok (.sipush 2100, 3) := by decide +kernel
theorem dX21_init_773 : decode cX21_init 773 = .ok (.newarray .boolean, 2) := by decide +kernel
theorem dX21_init_775 : decode cX21_init 775 = .ok (.putfield 265, 3) := by decide +kernel
theorem dX21_init_778 : decode cX21_init 778 = .ok (.aload_n 0, 1) := by decide +kernel
theorem dX21_init_779 : decode cX21_init 779 = .ok (.sipush 2100, 3) := by decide +kernel
theorem dX21_init_782 : decode cX21_init 782 = .ok (.newarray .int, 2) := by decide +kernel
theorem dX21_init_784 : decode cX21_init 784 = .ok (.putfield 269, 3) := by decide +kernel
theorem dX21_init_787 : decode cX21_init 787 = .ok (.aload_n 0, 1) := by decide +kernel
theorem dX21_init_788 : decode cX21_init 788 = .ok (.sipush 2100, 3) := by decide +kernel
theorem dX21_init_791 : decode cX21_init 791 = .ok (.newarray .int, 2) := by decide +kernel
theorem dX21_init_793 : decode cX21_init 793 = .ok (.putfield 272, 3) := by decide +kernel
theorem dX21_init_796 : decode cX21_init 796 = .ok (.aload_n 0, 1) := by decide +kernel
theorem dX21_init_797 : decode cX21_init 797 = .ok (.sipush 2100, 3) := by decide +kernel
theorem dX21_init_800 : decode cX21_init 800 = .ok (.newarray .int, 2) := by decide +kernel
theorem dX21_init_802 : decode cX21_init 802 = .ok (.putfield 275, 3) := by decide +kernel
theorem dX21_init_805 : decode cX21_init 805 = .ok (.aload_n 0, 1) := by decide +kernel
theorem dX21_init_806 : decode cX21_init 806 = .ok (.sipush 600, 3) := by decide +kernel
theorem dX21_init_809 : decode cX21_init 809 = .ok (.newarray .int, 2) := by decide +kernel
theorem dX21_init_811 : decode cX21_init 811 = .ok (.putfield 278, 3) := by decide +kernel
theorem dX21_init_814 : decode cX21_init 814 = .ok (.aload_n 0, 1) := by decide +kernel
theorem dX21_init_815 : decode cX21_init 815 = .ok (.ldc_w 281, 3) := by decide +kernel
theorem dX21_init_818 : decode cX21_init 818 = .ok (.newarray .int, 2) := by decide +kernel
theorem dX21_init_820 : decode cX21_init 820 = .ok (.putfield 282, 3) := by decide +kernel
theorem dX21_init_823 : decode cX21_init 823 = .ok (.aload_n 0, 1) := by decide +kernel
theorem dX21_init_824 : decode cX21_init 824 = .ok (.ldc_w 285, 3) := by decide +kernel
theorem dX21_init_827 : decode cX21_init 827 = .ok (.newarray .int, 2) := by decide +kernel
theorem dX21_init_829 : decode cX21_init 829 = .ok (.putfield 286, 3) := by decide +kernel
theorem dX21_init_832 : decode cX21_init 832 = .ok (.aload_n 0, 1) := by decide +kernel
theorem dX21_init_833 : decode cX21_init 833 = .ok (.ldc_w 285, 3) := by decide +kernel
theorem dX21_init_836 : decode cX21_init 836 = .ok (.newarray .int, 2) := by decide +kernel
theorem dX21_init_838 : decode cX21_init 838 = .ok (.putfield 289, 3) := by decide +kernel
theorem dX21_init_841 : decode cX21_init 841 = .ok (.aload_n 0, 1) := by decide +kernel
theorem dX21_init_842 : decode cX21_init 842 = .ok (.ldc_w 285, 3) := by decide +kernel
theorem dX21_init_845 : decode cX21_init 845 = .ok (.newarray .int, 2) := by decide +kernel
theorem dX21_init_847 : decode cX21_init 847 = .ok (.putfield 292, 3) := by decide +kernel
theorem dX21_init_850 : decode cX21_init 850 = .ok (.aload_n 0, 1) := by decide +kernel
theorem dX21_init_851 : decode cX21_init 851 = .ok (.sipush 300, 3) := by decide +kernel
theorem dX21_init_854 : decode cX21_init 854 = .ok (.newarray .int, 2) := by decide +kernel
theorem dX21_init_856 : decode cX21_init 856 = .ok (.putfield 295, 3) := by decide +kernel
theorem dX21_init_859 : decode cX21_init 859 = .ok (.aload_n 0, 1) := by decide +kernel
theorem dX21_init_860 : decode cX21_init 860 = .ok (.sipush 300, 3) := by decide +kernel
theorem dX21_init_863 : decode cX21_init 863 = .ok (.newarray .int, 2) := by decide +kernel
theorem dX21_init_865 : decode cX21_init 865 = .ok (.putfield 298, 3) := by decide +kernel
theorem dX21_init_868 : decode cX21_init 868 = .ok (.aload_n 0, 1) := by decide +kernel
theorem dX21_init_869 : decode cX21_init 869 = .ok (.sipush 1024, 3) := by decide +kernel
theorem dX21_init_872 : decode cX21_init 872 = .ok (.newarray .int, 2) := by decide +kernel
theorem dX21_init_874 : decode cX21_init 874 = .ok (.putfield 301, 3) := by decide +kernel
theorem dX21_init_877 : decode cX21_init 877 = .ok (.aload_n 0, 1) := by decide +kernel
theorem dX21_init_878 : decode cX21_init 878 = .ok (.bipush 64, 2) := by decide +kernel
theorem dX21_init_880 : decode cX21_init 880 = .ok (.newarray .int, 2) := by decide +kernel
theorem dX21_init_882 : decode cX21_init 882 = .ok (.putfield 304, 3) := by decide +kernel
theorem dX21_init_885 : decode cX21_init 885 = .ok (.aload_n 0, 1) := by decide +kernel
theorem dX21_init_886 : decode cX21_init 886 = .ok (.sipush 128, 3) := by decide +kernel
theorem dX21_init_889 : decode cX21_init 889 = .ok (.newarray .int, 2) := by decide +kernel
theorem dX21_init_891 : decode cX21_init 891 = .ok (.putfield 307, 3) := by decide +kernel
theorem dX21_init_894 : decode cX21_init 894 = .ok (.aload_n 0, 1) := by decide +kernel
theorem dX21_init_895 : decode cX21_init 895 = .ok (.ldc_w 310, 3) := by decide +kernel
theorem dX21_init_898 : decode cX21_init 898 = .ok (.putfield 311, 3) := by decide +kernel
theorem dX21_init_901 : decode cX21_init 901 = .ok (.aload_n 0, 1) := by decide +kernel
theorem dX21_init_902 : decode cX21_init 902 = .ok (.iconst 0, 1) := by decide +kernel
theorem dX21_init_903 : decode cX21_init 903 = .ok (.putfield 315, 3) := by decide +kernel
theorem dX21_init_906 : decode cX21_init 906 = .ok (.return_, 1) := by decide +kernel
theorem dX21_thrown_0 : decode cX21_thrown 0 = .ok (.aload_n 0, 1) := by decide +kernel
theorem dX21_thrown_1 : decode cX21_thrown 1 = .ok (.getfield 318, 3) := by decide +kernel
theorem dX21_thrown_4 : decode cX21_thrown 4 = .ok (.ireturn, 1) := by decide +kernel
theorem dX21_feed_0 : decode cX21_feed 0 = .ok (.aload_n 0, 1) := by decide +kernel
theorem dX21_feed_1 : decode cX21_feed 1 = .ok (.aload_n 0, 1) := by decide +kernel
theorem dX21_feed_2 : decode cX21_feed 2 = .ok (.getfield 315, 3) := by decide +kernel
theorem dX21_feed_5 : decode cX21_feed 5 = .ok (.bipush 20, 2) := by decide +kernel
theorem dX21_feed_7 : decode cX21_feed 7 = .ok (.iadd, 1) := by decide +kernel
theorem dX21_feed_8 : decode cX21_feed 8 = .ok (.sipush 4096, 3) := by decide +kernel
theorem dX21_feed_11 : decode cX21_feed 11 = .ok (.if_icmp .le 7, 3) := by decide +kernel
theorem dX21_feed_14 : decode cX21_feed 14 = .ok (.iconst 1, 1) := by decide +kernel
theorem dX21_feed_15 : decode cX21_feed 15 = .ok (.goto 4, 3) := by decide +kernel
theorem dX21_feed_18 : decode cX21_feed 18 = .ok (.iconst 0, 1) := by decide +kernel
theorem dX21_feed_19 : decode cX21_feed 19 = .ok (.putfield 318, 3) := by decide +kernel
theorem dX21_feed_22 : decode cX21_feed 22 = .ok (.aload_n 0, 1) := by decide +kernel
theorem dX21_feed_23 : decode cX21_feed 23 = .ok (.getfield 318, 3) := by decide +kernel
theorem dX21_feed_26 : decode cX21_feed 26 = .ok (.ifCond .le 4, 3) := by decide +kernel
theorem dX21_feed_29 : decode cX21_feed 29 = .ok (.return_, 1) := by decide +kernel
theorem dX21_feed_30 : decode cX21_feed 30 = .ok (.iconst 0, 1) := by decide +kernel
theorem dX21_feed_31 : decode cX21_feed 31 = .ok (.istore 6, 2) := by decide +kernel
theorem dX21_feed_33 : decode cX21_feed 33 = .ok (.iload 6, 2) := by decide +kernel
theorem dX21_feed_35 : decode cX21_feed 35 = .ok (.bipush 20, 2) := by decide +kernel
theorem dX21_feed_37 : decode cX21_feed 37 = .ok (.if_icmp .ge 90, 3) := by decide +kernel
theorem dX21_feed_40 : decode cX21_feed 40 = .ok (.iload 6, 2) := by decide +kernel
theorem dX21_feed_42 : decode cX21_feed 42 = .ok (.iconst 4, 1) := by decide +kernel
theorem dX21_feed_43 : decode cX21_feed 43 = .ok (.if_icmp .ge 7, 3) := by decide +kernel
theorem dX21_feed_46 : decode cX21_feed 46 = .ok (.iload_n 1, 1) := by decide +kernel
theorem dX21_feed_47 : decode cX21_feed 47 = .ok (.goto 39, 3) := by decide +kernel
theorem dX21_feed_50 : decode cX21_feed 50 = .ok (.iload 6, 2) := by decide +kernel
theorem dX21_feed_52 : decode cX21_feed 52 = .ok (.bipush 8, 2) := by decide +kernel
theorem dX21_feed_54 : decode cX21_feed 54 = .ok (.if_icmp .ge 7, 3) := by decide +kernel
theorem dX21_feed_57 : decode cX21_feed 57 = .ok (.iload_n 2, 1) := by decide +kernel
theorem dX21_feed_58 : decode cX21_feed 58 = .ok (.goto 28, 3) := by decide +kernel
theorem dX21_feed_61 : decode cX21_feed 61 = .ok (.iload 6, 2) := by decide +kernel
theorem dX21_feed_63 : decode cX21_feed 63 = .ok (.bipush 12, 2) := by decide +kernel
theorem dX21_feed_65 : decode cX21_feed 65 = .ok (.if_icmp .ge 7, 3) := by decide +kernel
theorem dX21_feed_68 : decode cX21_feed 68 = .ok (.iload_n 3, 1) := by decide +kernel
theorem dX21_feed_69 : decode cX21_feed 69 = .ok (.goto 17, 3) := by decide +kernel
theorem dX21_feed_72 : decode cX21_feed 72 = .ok (.iload 6, 2) := by decide +kernel
theorem dX21_feed_74 : decode cX21_feed 74 = .ok (.bipush 16, 2) := by decide +kernel
theorem dX21_feed_76 : decode cX21_feed 76 = .ok (.if_icmp .ge 8, 3) := by decide +kernel
theorem dX21_feed_79 : decode cX21_feed 79 = .ok (.iload 4, 2) := by decide +kernel
theorem dX21_feed_81 : decode cX21_feed 81 = .ok (.goto 5, 3) := by decide +kernel
theorem dX21_feed_84 : decode cX21_feed 84 = .ok (.iload 5, 2) := by decide +kernel
theorem dX21_feed_86 : decode cX21_feed 86 = .ok (.istore 7, 2) := by decide +kernel
theorem dX21_feed_88 : decode cX21_feed 88 = .ok (.aload_n 0, 1) := by decide +kernel
theorem dX21_feed_89 : decode cX21_feed 89 = .ok (.getfield 188, 3) := by decide +kernel
theorem dX21_feed_92 : decode cX21_feed 92 = .ok (.aload_n 0, 1) := by decide +kernel
theorem dX21_feed_93 : decode cX21_feed 93 = .ok (.getfield 315, 3) := by decide +kernel
theorem dX21_feed_96 : decode cX21_feed 96 = .ok (.iload 7, 2) := by decide +kernel
theorem dX21_feed_98 : decode cX21_feed 98 = .ok (.bipush 24, 2) := by decide +kernel
theorem dX21_feed_100 : decode cX21_feed 100 = .ok (.bipush 8, 2) := by decide +kernel
theorem dX21_feed_102 : decode cX21_feed 102 = .ok (.iload 6, 2) := by decide +kernel
theorem dX21_feed_104 : decode cX21_feed 104 = .ok (.iconst 4, 1) := by decide +kernel
theorem dX21_feed_105 : decode cX21_feed 105 = .ok (.irem, 1) := by decide +kernel
theorem dX21_feed_106 : decode cX21_feed 106 = .ok (.imul, 1) := by decide +kernel
theorem dX21_feed_107 : decode cX21_feed 107 = .ok (.isub, 1) := by decide +kernel
theorem dX21_feed_108 : decode cX21_feed 108 = .ok (.ishr, 1) := by decide +kernel
theorem dX21_feed_109 : decode cX21_feed 109 = .ok (.i2b, 1) := by decide +kernel
theorem dX21_feed_110 : decode cX21_feed 110 = .ok (.bastore, 1) := by decide +kernel
theorem dX21_feed_111 : decode cX21_feed 111 = .ok (.aload_n 0, 1) := by decide +kernel
theorem dX21_feed_112 : decode cX21_feed 112 = .ok (.dup, 1) := by decide +kernel
theorem dX21_feed_113 : decode cX21_feed 113 = .ok (.getfield 315, 3) := by decide +kernel
theorem dX21_feed_116 : decode cX21_feed 116 = .ok (.iconst 1, 1) := by decide +kernel
theorem dX21_feed_117 : decode cX21_feed 117 = .ok (.iadd, 1) := by decide +kernel
theorem dX21_feed_118 : decode cX21_feed 118 = .ok (.putfield 315, 3) := by decide +kernel
theorem dX21_feed_121 : decode cX21_feed 121 = .ok (.iinc 6 1, 3) := by decide +kernel
theorem dX21_feed_124 : decode cX21_feed 124 = .ok (.goto (-91), 3) := by decide +kernel
theorem dX21_feed_127 : decode cX21_feed 127 = .ok (.return_, 1) := by decide +kernel
theorem dX21_end_0 : decode cX21_end 0 = .ok (.aload_n 0, 1) := by decide +kernel
theorem dX21_end_1 : decode cX21_end 1 = .ok (.iload_n 1, 1) := by decide +kernel
theorem dX21_end_2 : decode cX21_end 2 = .ok (.ifCond .lt 11, 3) := by decide +kernel
theorem dX21_end_5 : decode cX21_end 5 = .ok (.iload_n 1, 1) := by decide +kernel
theorem dX21_end_6 : decode cX21_end 6 = .ok (.aload_n 0, 1) := by decide +kernel
theorem dX21_end_7 : decode cX21_end 7 = .ok (.getfield 315, 3) := by decide +kernel
theorem dX21_end_10 : decode cX21_end 10 = .ok (.if_icmp .le 7, 3) := by decide +kernel
theorem dX21_end_13 : decode cX21_end 13 = .ok (.iconst 1, 1) := by decide +kernel
theorem dX21_end_14 : decode cX21_end 14 = .ok (.goto 4, 3) := by decide +kernel
theorem dX21_end_17 : decode cX21_end 17 = .ok (.iconst 0, 1) := by decide +kernel
theorem dX21_end_18 : decode cX21_end 18 = .ok (.putfield 318, 3) := by decide +kernel
theorem dX21_end_21 : decode cX21_end 21 = .ok (.aload_n 0, 1) := by decide +kernel
theorem dX21_end_22 : decode cX21_end 22 = .ok (.aload_n 0, 1) := by decide +kernel
theorem dX21_end_23 : decode cX21_end 23 = .ok (.getfield 318, 3) := by decide +kernel
theorem dX21_end_26 : decode cX21_end 26 = .ok (.ifCond .le 10, 3) := by decide +kernel
theorem dX21_end_29 : decode cX21_end 29 = .ok (.aload_n 0, 1) := by decide +kernel
theorem dX21_end_30 : decode cX21_end 30 = .ok (.getfield 315, 3) := by decide +kernel
theorem dX21_end_33 : decode cX21_end 33 = .ok (.goto 4, 3) := by decide +kernel
theorem dX21_end_36 : decode cX21_end 36 = .ok (.iload_n 1, 1) := by decide +kernel
theorem dX21_end_37 : decode cX21_end 37 = .ok (.putfield 315, 3) := by decide +kernel
theorem dX21_end_40 : decode cX21_end 40 = .ok (.return_, 1) := by decide +kernel
theorem dX21_load_0 : decode cX21_load 0 = .ok (.aload_n 0, 1) := by decide +kernel
theorem dX21_load_1 : decode cX21_load 1 = .ok (.iconst 0, 1) := by decide +kernel
theorem dX21_load_2 : decode cX21_load 2 = .ok (.putfield 318, 3) := by decide +kernel
theorem dX21_load_5 : decode cX21_load 5 = .ok (.aload_n 0, 1) := by decide +kernel
theorem dX21_load_6 : decode cX21_load 6 = .ok (.aload_n 0, 1) := by decide +kernel
theorem dX21_load_7 : decode cX21_load 7 = .ok (.getfield 315, 3) := by decide +kernel
theorem dX21_load_10 : decode cX21_load 10 = .ok (.putfield 321, 3) := by decide +kernel
theorem dX21_load_13 : decode cX21_load 13 = .ok (.iconst 0, 1) := by decide +kernel
theorem dX21_load_14 : decode cX21_load 14 = .ok (.istore_n 1, 1) := by decide +kernel
theorem dX21_load_15 : decode cX21_load 15 = .ok (.iload_n 1, 1) := by decide +kernel
theorem dX21_load_16 : decode cX21_load 16 = .ok (.aload_n 0, 1) := by decide +kernel
theorem dX21_load_17 : decode cX21_load 17 = .ok (.getfield 315, 3) := by decide +kernel
theorem dX21_load_20 : decode cX21_load 20 = .ok (.if_icmp .ge 21, 3) := by decide +kernel
theorem dX21_load_23 : decode cX21_load 23 = .ok (.aload_n 0, 1) := by decide +kernel
theorem dX21_load_24 : decode cX21_load 24 = .ok (.getfield 192, 3) := by decide +kernel
theorem dX21_load_27 : decode cX21_load 27 = .ok (.iload_n 1, 1) := by decide +kernel
theorem dX21_load_28 : decode cX21_load 28 = .ok (.aload_n 0, 1) := by decide +kernel
theorem dX21_load_29 : decode cX21_load 29 = .ok (.getfield 188, 3) := by decide +kernel
theorem dX21_load_32 : decode cX21_load 32 = .ok (.iload_n 1, 1) := by decide +kernel
theorem dX21_load_33 : decode cX21_load 33 = .ok (.baload, 1) := by decide +kernel
theorem dX21_load_34 : decode cX21_load 34 = .ok (.bastore, 1) := by decide +kernel
theorem dX21_load_35 : decode cX21_load 35 = .ok (.iinc 1 1, 3) := by decide +kernel
theorem dX21_load_38 : decode cX21_load 38 = .ok (.goto (-23), 3) := by decide +kernel
theorem dX21_load_41 : decode cX21_load 41 = .ok (.aload_n 0, 1) := by decide +kernel
theorem dX21_load_42 : decode cX21_load 42 = .ok (.iconst 0, 1) := by decide +kernel
theorem dX21_load_43 : decode cX21_load 43 = .ok (.putfield 315, 3) := by decide +kernel
theorem dX21_load_46 : decode cX21_load 46 = .ok (.aload_n 0, 1) := by decide +kernel
theorem dX21_load_47 : decode cX21_load 47 = .ok (.invokevirtual 739, 3) := by decide +kernel
theorem dX21_load_50 : decode cX21_load 50 = .ok (.aload_n 0, 1) := by decide +kernel
theorem dX21_load_51 : decode cX21_load 51 = .ok (.iconst 0, 1) := by decide +kernel
theorem dX21_load_52 : decode cX21_load 52 = .ok (.putfield 388, 3) := by decide +kernel
theorem dX21_load_55 : decode cX21_load 55 = .ok (.aload_n 0, 1) := by decide +kernel
theorem dX21_load_56 : decode cX21_load 56 = .ok (.iconst 0, 1) := by decide +kernel
theorem dX21_load_57 : decode cX21_load 57 = .ok (.putfield 408, 3) := by decide +kernel
theorem dX21_load_60 : decode cX21_load 60 = .ok (.aload_n 0, 1) := by decide +kernel
theorem dX21_load_61 : decode cX21_load 61 = .ok (.iconst 0, 1) := by decide +kernel
theorem dX21_load_62 : decode cX21_load 62 = .ok (.putfield 418, 3) := by decide +kernel
theorem dX21_load_65 : decode cX21_load 65 = .ok (.aload_n 0, 1) := by decide +kernel
theorem dX21_load_66 : decode cX21_load 66 = .ok (.iconst 0, 1) := by decide +kernel
theorem dX21_load_67 : decode cX21_load 67 = .ok (.putfield 443, 3) := by decide +kernel
theorem dX21_load_70 : decode cX21_load 70 = .ok (.aload_n 0, 1) := by decide +kernel
theorem dX21_load_71 : decode cX21_load 71 = .ok (.iconst (-1), 1) := by decide +kernel
theorem dX21_load_72 : decode cX21_load 72 = .ok (.putfield 528, 3) := by decide +kernel
theorem dX21_load_75 : decode cX21_load 75 = .ok (.aload_n 0, 1) := by decide +kernel
theorem dX21_load_76 : decode cX21_load 76 = .ok (.iconst (-1), 1) := by decide +kernel
theorem dX21_load_77 : decode cX21_load 77 = .ok (.putfield 531, 3) := by decide +kernel
theorem dX21_load_80 : decode cX21_load 80 = .ok (.aload_n 0, 1) := by decide +kernel
theorem dX21_load_81 : decode cX21_load 81 = .ok (.iconst 0, 1) := by decide +kernel
theorem dX21_load_82 : decode cX21_load 82 = .ok (.putfield 550, 3) := by decide +kernel
theorem dX21_load_85 : decode cX21_load 85 = .ok (.aload_n 0, 1) := by decide +kernel
theorem dX21_load_86 : decode cX21_load 86 = .ok (.iconst 0, 1) := by decide +kernel
theorem dX21_load_87 : decode cX21_load 87 = .ok (.putfield 742, 3) := by decide +kernel
theorem dX21_load_90 : decode cX21_load 90 = .ok (.aload_n 0, 1) := by decide +kernel
theorem dX21_load_91 : decode cX21_load 91 = .ok (.iconst 0, 1) := by decide +kernel
theorem dX21_load_92 : decode cX21_load 92 = .ok (.putfield 724, 3) := by decide +kernel
theorem dX21_load_95 : decode cX21_load 95 = .ok (.aload_n 0, 1) := by decide +kernel
theorem dX21_load_96 : decode cX21_load 96 = .ok (.iconst 0, 1) := by decide +kernel
theorem dX21_load_97 : decode cX21_load 97 = .ok (.putfield 745, 3) := by decide +kernel
theorem dX21_load_100 : decode cX21_load 100 = .ok (.aload_n 0, 1) := by decide +kernel
theorem dX21_load_101 : decode cX21_load 101 = .ok (.iconst 0, 1) := by decide +kernel
theorem dX21_load_102 : decode cX21_load 102 = .ok (.putfield 748, 3) := by decide +kernel
theorem dX21_load_105 : decode cX21_load 105 = .ok (.aload_n 0, 1) := by decide +kernel
theorem dX21_load_106 : decode cX21_load 106 = .ok (.iconst 0, 1) := by decide +kernel
theorem dX21_load_107 : decode cX21_load 107 = .ok (.putfield 751, 3) := by decide +kernel
theorem dX21_load_110 : decode cX21_load 110 = .ok (.aload_n 0, 1) := by decide +kernel
theorem dX21_load_111 : decode cX21_load 111 = .ok (.iconst 0, 1) := by decide +kernel
theorem dX21_load_112 : decode cX21_load 112 = .ok (.putfield 754, 3) := by decide +kernel
theorem dX21_load_115 : decode cX21_load 115 = .ok (.iconst 0, 1) := by decide +kernel
theorem dX21_load_116 : decode cX21_load 116 = .ok (.istore_n 1, 1) := by decide +kernel
theorem dX21_load_117 : decode cX21_load 117 = .ok (.iload_n 1, 1) := by decide +kernel
theorem dX21_load_118 : decode cX21_load 118 = .ok (.ldc_w 281, 3) := by decide +kernel
theorem dX21_load_121 : decode cX21_load 121 = .ok (.if_icmp .ge 16, 3) := by decide +kernel
theorem dX21_load_124 : decode cX21_load 124 = .ok (.aload_n 0, 1) := by decide +kernel
theorem dX21_load_125 : decode cX21_load 125 = .ok (.getfield 282, 3) := by decide +kernel
theorem dX21_load_128 : decode cX21_load 128 = .ok (.iload_n 1, 1) := by decide +kernel
theorem dX21_load_129 : decode cX21_load 129 = .ok (.iconst 0, 1) := by decide +kernel
theorem dX21_load_130 : decode cX21_load 130 = .ok (.iastore, 1) := by decide +kernel
theorem dX21_load_131 : decode cX21_load 131 = .ok (.iinc 1 1, 3) := by decide +kernel
theorem dX21_load_134 : decode cX21_load 134 = .ok (.goto (-17), 3) := by decide +kernel
theorem dX21_load_137 : decode cX21_load 137 = .ok (.aload_n 0, 1) := by decide +kernel
theorem dX21_load_138 : decode cX21_load 138 = .ok (.invokevirtual 757, 3) := by decide +kernel
theorem dX21_load_141 : decode cX21_load 141 = .ok (.ifCond .ne 20, 3) := by decide +kernel
theorem dX21_load_144 : decode cX21_load 144 = .ok (.aload_n 0, 1) := by decide +kernel
theorem dX21_load_145 : decode cX21_load 145 = .ok (.aload_n 0, 1) := by decide +kernel
theorem dX21_load_146 : decode cX21_load 146 = .ok (.getfield 195, 3) := by decide +kernel
theorem dX21_load_149 : decode cX21_load 149 = .ok (.aload_n 0, 1) := by decide +kernel
theorem dX21_load_150 : decode cX21_load 150 = .ok (.getfield 388, 3) := by decide +kernel
theorem dX21_load_153 : decode cX21_load 153 = .ok (.iaload, 1) := by decide +kernel
theorem dX21_load_154 : decode cX21_load 154 = .ok (.iconst 1, 1) := by decide +kernel
theorem dX21_load_155 : decode cX21_load 155 = .ok (.iadd, 1) := by decide +kernel
theorem dX21_load_156 : decode cX21_load 156 = .ok (.putfield 742, 3) := by decide +kernel
theorem dX21_load_159 : decode cX21_load 159 = .ok (.iconst (-1), 1) := by decide +kernel
theorem dX21_load_160 : decode cX21_load 160 = .ok (.ireturn, 1) := by decide +kernel
theorem dX21_load_161 : decode cX21_load 161 = .ok (.aload_n 0, 1) := by decide +kernel
theorem dX21_load_162 : decode cX21_load 162 = .ok (.invokevirtual 760, 3) := by decide +kernel
theorem dX21_load_165 : decode cX21_load 165 = .ok (.aload_n 0, 1) := by decide +kernel
theorem dX21_load_166 : decode cX21_load 166 = .ok (.getfield 550, 3) := by decide +kernel
theorem dX21_load_169 : decode cX21_load 169 = .ok (.ifCond .le 28, 3) := by decide +kernel
theorem dX21_load_172 : decode cX21_load 172 = .ok (.aload_n 0, 1) := by decide +kernel
theorem dX21_load_173 : decode cX21_load 173 = .ok (.aload_n 0, 1) := by decide +kernel
theorem dX21_load_174 : decode cX21_load 174 = .ok (.getfield 195, 3) := by decide +kernel
theorem dX21_load_177 : decode cX21_load 177 = .ok (.aload_n 0, 1) := by decide +kernel
theorem dX21_load_178 : decode cX21_load 178 = .ok (.getfield 553, 3) := by decide +kernel
theorem dX21_load_181 : decode cX21_load 181 = .ok (.iaload, 1) := by decide +kernel
theorem dX21_load_182 : decode cX21_load 182 = .ok (.iconst 1, 1) := by decide +kernel
theorem dX21_load_183 : decode cX21_load 183 = .ok (.iadd, 1) := by decide +kernel
theorem dX21_load_184 : decode cX21_load 184 = .ok (.putfield 742, 3) := by decide +kernel
theorem dX21_load_187 : decode cX21_load 187 = .ok (.aload_n 0, 1) := by decide +kernel
theorem dX21_load_188 : decode cX21_load 188 = .ok (.iconst 0, 1) := by decide +kernel
theorem dX21_load_189 : decode cX21_load 189 = .ok (.putfield 724, 3) := by decide +kernel
theorem dX21_load_192 : decode cX21_load 192 = .ok (.aload_n 0, 1) := by decide +kernel
theorem dX21_load_193 : decode cX21_load 193 = .ok (.getfield 550, 3) := by decide +kernel
theorem dX21_load_196 : decode cX21_load 196 = .ok (.ireturn, 1) := by decide +kernel
theorem dX21_load_197 : decode cX21_load 197 = .ok (.aload_n 0, 1) := by decide +kernel
theorem dX21_load_198 : decode cX21_load 198 = .ok (.iconst 1, 1) := by decide +kernel
theorem dX21_load_199 : decode cX21_load 199 = .ok (.putfield 754, 3) := by decide +kernel
theorem dX21_load_202 : decode cX21_load 202 = .ok (.iconst 0, 1) := by decide +kernel
theorem dX21_load_203 : decode cX21_load 203 = .ok (.ireturn, 1) := by decide +kernel
theorem dX21_readTokens_0 : decode cX21_readTokens 0 = .ok (.aload_n 0, 1) := by decide +kernel
theorem dX21_readTokens_1 : decode cX21_readTokens 1 = .ok (.iconst 0, 1) := by decide +kernel
theorem dX21_readTokens_2 : decode cX21_readTokens 2 = .ok (.putfield 332, 3) := by decide +kernel
theorem dX21_readTokens_5 : decode cX21_readTokens 5 = .ok (.aload_n 0, 1) := by decide +kernel
theorem dX21_readTokens_6 : decode cX21_readTokens 6 = .ok (.iconst 0, 1) := by decide +kernel
theorem dX21_readTokens_7 : decode cX21_readTokens 7 = .ok (.invokevirtual 375, 3) := by decide +kernel
theorem dX21_readTokens_10 : decode cX21_readTokens 10 = .ok (.istore_n 1, 1) := by decide +kernel
theorem dX21_readTokens_11 : decode cX21_readTokens 11 = .ok (.iconst 1, 1) := by decide +kernel
theorem dX21_readTokens_12 : decode cX21_readTokens 12 = .ok (.istore_n 2, 1) := by decide +kernel
theorem dX21_readTokens_13 : decode cX21_readTokens 13 = .ok (.iload_n 2, 1) := by decide +kernel
theorem dX21_readTokens_14 : decode cX21_readTokens 14 = .ok (.ifCond .eq 64, 3) := by decide +kernel
theorem dX21_readTokens_17 : decode cX21_readTokens 17 = .ok (.iload_n 1, 1) := by decide +kernel
theorem dX21_readTokens_18 : decode cX21_readTokens 18 = .ok (.aload_n 0, 1) := by decide +kernel
theorem dX21_readTokens_19 : decode cX21_readTokens 19 = .ok (.getfield 321, 3) := by decide +kernel
theorem dX21_readTokens_22 : decode cX21_readTokens 22 = .ok (.if_icmp .ge 56, 3) := by decide +kernel
theorem dX21_readTokens_25 : decode cX21_readTokens 25 = .ok (.aload_n 0, 1) := by decide +kernel
theorem dX21_readTokens_26 : decode cX21_readTokens 26 = .ok (.getfield 332, 3) := by decide +kernel
theorem dX21_readTokens_29 : decode cX21_readTokens 29 = .ok (.istore_n 3, 1) := by decide +kernel
theorem dX21_readTokens_30 : decode cX21_readTokens 30 = .ok (.aload_n 0, 1) := by decide +kernel
theorem dX21_readTokens_31 : decode cX21_readTokens 31 = .ok (.iload_n 1, 1) := by decide +kernel
theorem dX21_readTokens_32 : decode cX21_readTokens 32 = .ok (.invokevirtual 378, 3) := by decide +kernel
theorem dX21_readTokens_35 : decode cX21_readTokens 35 = .ok (.istore_n 2, 1) := by decide +kernel
theorem dX21_readTokens_36 : decode cX21_readTokens 36 = .ok (.iload_n 2, 1) := by decide +kernel
theorem dX21_readTokens_37 : decode cX21_readTokens 37 = .ok (.ifCond .ne 20, 3) := by decide +kernel
theorem dX21_readTokens_40 : decode cX21_readTokens 40 = .ok (.aload_n 0, 1) := by decide +kernel
theorem dX21_readTokens_41 : decode cX21_readTokens 41 = .ok (.iload_n 3, 1) := by decide +kernel
theorem dX21_readTokens_42 : decode cX21_readTokens 42 = .ok (.putfield 332, 3) := by decide +kernel
theorem dX21_readTokens_45 : decode cX21_readTokens 45 = .ok (.aload_n 0, 1) := by decide +kernel
theorem dX21_readTokens_46 : decode cX21_readTokens 46 = .ok (.iload_n 1, 1) := by decide +kernel
theorem dX21_readTokens_47 : decode cX21_readTokens 47 = .ok (.iconst 0, 1) := by decide +kernel
theorem dX21_readTokens_48 : decode cX21_readTokens 48 = .ok (.bipush 6, 2) := by decide +kernel
theorem dX21_readTokens_50 : decode cX21_readTokens 50 = .ok (.iconst (-1), 1) := by decide +kernel
theorem dX21_readTokens_51 : decode cX21_readTokens 51 = .ok (.invokevirtual 353, 3) := by decide +kernel
theorem dX21_readTokens_54 : decode cX21_readTokens 54 = .ok (.goto 21, 3) := by decide +kernel
theorem dX21_readTokens_57 : decode cX21_readTokens 57 = .ok (.aload_n 0, 1) := by decide +kernel
theorem dX21_readTokens_58 : decode cX21_readTokens 58 = .ok (.aload_n 0, 1) := by decide +kernel
theorem dX21_readTokens_59 : decode cX21_readTokens 59 = .ok (.getfield 195, 3) := by decide +kernel
theorem dX21_readTokens_62 : decode cX21_readTokens 62 = .ok (.iload_n 3, 1) := by decide +kernel
theorem dX21_readTokens_63 : decode cX21_readTokens 63 = .ok (.iaload, 1) := by decide +kernel
theorem dX21_readTokens_64 : decode cX21_readTokens 64 = .ok (.aload_n 0, 1) := by decide +kernel
theorem dX21_readTokens_65 : decode cX21_readTokens 65 = .ok (.getfield 199, 3) := by decide +kernel
theorem dX21_readTokens_68 : decode cX21_readTokens 68 = .ok (.iload_n 3, 1) := by decide +kernel
theorem dX21_readTokens_69 : decode cX21_readTokens 69 = .ok (.iaload, 1) := by decide +kernel
theorem dX21_readTokens_70 : decode cX21_readTokens 70 = .ok (.iadd, 1) := by decide +kernel
theorem dX21_readTokens_71 : decode cX21_readTokens 71 = .ok (.invokevirtual 375, 3) := by decide +kernel
theorem dX21_readTokens_74 : decode cX21_readTokens 74 = .ok (.istore_n 1, 1) := by decide +kernel
theorem dX21_readTokens_75 : decode cX21_readTokens 75 = .ok (.goto (-62), 3) := by decide +kernel
theorem dX21_readTokens_78 : decode cX21_readTokens 78 = .ok (.iload_n 2, 1) := by decide +kernel
theorem dX21_readTokens_79 : decode cX21_readTokens 79 = .ok (.ifCond .eq 15, 3) := by decide +kernel
theorem dX21_readTokens_82 : decode cX21_readTokens 82 = .ok (.aload_n 0, 1) := by decide +kernel
theorem dX21_readTokens_83 : decode cX21_readTokens 83 = .ok (.aload_n 0, 1) := by decide +kernel
theorem dX21_readTokens_84 : decode cX21_readTokens 84 = .ok (.getfield 321, 3) := by decide +kernel
theorem dX21_readTokens_87 : decode cX21_readTokens 87 = .ok (.iconst 0, 1) := by decide +kernel
theorem dX21_readTokens_88 : decode cX21_readTokens 88 = .ok (.bipush 7, 2) := by decide +kernel
theorem dX21_readTokens_90 : decode cX21_readTokens 90 = .ok (.iconst (-1), 1) := by decide +kernel
theorem dX21_readTokens_91 : decode cX21_readTokens 91 = .ok (.invokevirtual 353, 3) := by decide +kernel
theorem dX21_readTokens_94 : decode cX21_readTokens 94 = .ok (.return_, 1) := by decide +kernel
theorem dX21_skip_0 : decode cX21_skip 0 = .ok (.iload_n 1, 1) := by decide +kernel
theorem dX21_skip_1 : decode cX21_skip 1 = .ok (.istore_n 2, 1) := by decide +kernel
theorem dX21_skip_2 : decode cX21_skip 2 = .ok (.iconst 1, 1) := by decide +kernel
theorem dX21_skip_3 : decode cX21_skip 3 = .ok (.istore_n 3, 1) := by decide +kernel
theorem dX21_skip_4 : decode cX21_skip 4 = .ok (.iload_n 3, 1) := by decide +kernel
theorem dX21_skip_5 : decode cX21_skip 5 = .ok (.ifCond .eq 188, 3) := by decide +kernel
theorem dX21_skip_8 : decode cX21_skip 8 = .ok (.aload_n 0, 1) := by decide +kernel
theorem dX21_skip_9 : decode cX21_skip 9 = .ok (.iload_n 2, 1) := by decide +kernel
theorem dX21_skip_10 : decode cX21_skip 10 = .ok (.invokevirtual 328, 3) := by decide +kernel
theorem dX21_skip_13 : decode cX21_skip 13 = .ok (.istore 4, 2) := by decide +kernel
theorem dX21_skip_15 : decode cX21_skip 15 = .ok (.iload 4, 2) := by decide +kernel
theorem dX21_skip_17 : decode cX21_skip 17 = .ok (.bipush 32, 2) := by decide +kernel
theorem dX21_skip_19 : decode cX21_skip 19 = .ok (.if_icmp .eq 24, 3) := by decide +kernel
theorem dX21_skip_22 : decode cX21_skip 22 = .ok (.iload 4, 2) := by decide +kernel
theorem dX21_skip_24 : decode cX21_skip 24 = .ok (.bipush 9, 2) := by decide +kernel
theorem dX21_skip_26 : decode cX21_skip 26 = .ok (.if_icmp .eq 17, 3) := by decide +kernel
theorem dX21_skip_29 : decode cX21_skip 29 = .ok (.iload 4, 2) := by decide +kernel
theorem dX21_skip_31 : decode cX21_skip 31 = .ok (.bipush 10, 2) := by decide +kernel
theorem dX21_skip_33 : decode cX21_skip 33 = .ok (.if_icmp .eq 10, 3) := by decide +kernel
theorem dX21_skip_36 : decode cX21_skip 36 = .ok (.iload 4, 2) := by decide +kernel
theorem dX21_skip_38 : decode cX21_skip 38 = .ok (.bipush 13, 2) := by decide +kernel
theorem dX21_skip_40 : decode cX21_skip 40 = .ok (.if_icmp .ne 9, 3) := by decide +kernel
theorem dX21_skip_43 : decode cX21_skip 43 = .ok (.iinc 2 1, 3) := by decide +kernel
theorem dX21_skip_46 : decode cX21_skip 46 = .ok (.goto 144, 3) := by decide +kernel
theorem dX21_skip_49 : decode cX21_skip 49 = .ok (.iload 4, 2) := by decide +kernel
theorem dX21_skip_51 : decode cX21_skip 51 = .ok (.bipush 47, 2) := by decide +kernel
theorem dX21_skip_53 : decode cX21_skip 53 = .ok (.if_icmp .ne 40, 3) := by decide +kernel
theorem dX21_skip_56 : decode cX21_skip 56 = .ok (.aload_n 0, 1) := by decide +kernel
theorem dX21_skip_57 : decode cX21_skip 57 = .ok (.iload_n 2, 1) := by decide +kernel
theorem dX21_skip_58 : decode cX21_skip 58 = .ok (.iconst 1, 1) := by decide +kernel
theorem dX21_skip_59 : decode cX21_skip 59 = .ok (.iadd, 1) := by decide +kernel
theorem dX21_skip_60 : decode cX21_skip 60 = .ok (.invokevirtual 328, 3) := by decide +kernel
theorem dX21_skip_63 : decode cX21_skip 63 = .ok (.bipush 47, 2) := by decide +kernel
theorem dX21_skip_65 : decode cX21_skip 65 = .ok (.if_icmp .ne 28, 3) := by decide +kernel
theorem dX21_skip_68 : decode cX21_skip 68 = .ok (.iload_n 2, 1) := by decide +kernel
theorem dX21_skip_69 : decode cX21_skip 69 = .ok (.aload_n 0, 1) := by decide +kernel
theorem dX21_skip_70 : decode cX21_skip 70 = .ok (.getfield 321, 3) := by decide +kernel
theorem dX21_skip_73 : decode cX21_skip 73 = .ok (.if_icmp .ge 117, 3) := by decide +kernel
theorem dX21_skip_76 : decode cX21_skip 76 = .ok (.aload_n 0, 1) := by decide +kernel
theorem dX21_skip_77 : decode cX21_skip 77 = .ok (.getfield 192, 3) := by decide +kernel
theorem dX21_skip_80 : decode cX21_skip 80 = .ok (.iload_n 2, 1) := by decide +kernel
theorem dX21_skip_81 : decode cX21_skip 81 = .ok (.baload, 1) := by decide +kernel
theorem dX21_skip_82 : decode cX21_skip 82 = .ok (.bipush 10, 2) := by decide +kernel
theorem dX21_skip_84 : decode cX21_skip 84 = .ok (.if_icmp .eq 106, 3) := by decide +kernel
theorem dX21_skip_87 : decode cX21_skip 87 = .ok (.iinc 2 1, 3) := by decide +kernel
theorem dX21_skip_90 : decode cX21_skip 90 = .ok (.goto (-22), 3) := by decide +kernel
theorem dX21_skip_93 : decode cX21_skip 93 = .ok (.iload 4, 2) := by decide +kernel
theorem dX21_skip_95 : decode cX21_skip 95 = .ok (.bipush 47, 2) := by decide +kernel
theorem dX21_skip_97 : decode cX21_skip 97 = .ok (.if_icmp .ne 91, 3) := by decide +kernel
theorem dX21_skip_100 : decode cX21_skip 100 = .ok (.aload_n 0, 1) := by decide +kernel
theorem dX21_skip_101 : decode cX21_skip 101 = .ok (.iload_n 2, 1) := by decide +kernel
theorem dX21_skip_102 : decode cX21_skip 102 = .ok (.iconst 1, 1) := by decide +kernel
theorem dX21_skip_103 : decode cX21_skip 103 = .ok (.iadd, 1) := by decide +kernel
theorem dX21_skip_104 : decode cX21_skip 104 = .ok (.invokevirtual 328, 3) := by decide +kernel
theorem dX21_skip_107 : decode cX21_skip 107 = .ok (.bipush 42, 2) := by decide +kernel
theorem dX21_skip_109 : decode cX21_skip 109 = .ok (.if_icmp .ne 79, 3) := by decide +kernel
theorem dX21_skip_112 : decode cX21_skip 112 = .ok (.iload_n 2, 1) := by decide +kernel
theorem dX21_skip_113 : decode cX21_skip 113 = .ok (.iconst 2, 1) := by decide +kernel
theorem dX21_skip_114 : decode cX21_skip 114 = .ok (.iadd, 1) := by decide +kernel
theorem dX21_skip_115 : decode cX21_skip 115 = .ok (.istore 5, 2) := by decide +kernel
theorem dX21_skip_117 : decode cX21_skip 117 = .ok (.iload 5, 2) := by decide +kernel
theorem dX21_skip_119 : decode cX21_skip 119 = .ok (.aload_n 0, 1) := by decide +kernel
theorem dX21_skip_120 : decode cX21_skip 120 = .ok (.getfield 321, 3) := by decide +kernel
theorem dX21_skip_123 : decode cX21_skip 123 = .ok (.if_icmp .ge 34, 3) := by decide +kernel
theorem dX21_skip_126 : decode cX21_skip 126 = .ok (.aload_n 0, 1) := by decide +kernel
theorem dX21_skip_127 : decode cX21_skip 127 = .ok (.getfield 192, 3) := by decide +kernel
theorem dX21_skip_130 : decode cX21_skip 130 = .ok (.iload 5, 2) := by decide +kernel
theorem dX21_skip_132 : decode cX21_skip 132 = .ok (.baload, 1) := by decide +kernel
theorem dX21_skip_133 : decode cX21_skip 133 = .ok (.bipush 42, 2) := by decide +kernel
theorem dX21_skip_135 : decode cX21_skip 135 = .ok (.if_icmp .ne 16, 3) := by decide +kernel
theorem dX21_skip_138 : decode cX21_skip 138 = .ok (.aload_n 0, 1) := by decide +kernel
theorem dX21_skip_139 : decode cX21_skip 139 = .ok (.iload 5, 2) := by decide +kernel
theorem dX21_skip_141 : decode cX21_skip 141 = .ok (.iconst 1, 1) := by decide +kernel
theorem dX21_skip_142 : decode cX21_skip 142 = .ok (.iadd, 1) := by decide +kernel
theorem dX21_skip_143 : decode cX21_skip 143 = .ok (.invokevirtual 328, 3) := by decide +kernel
theorem dX21_skip_146 : decode cX21_skip 146 = .ok (.bipush 47, 2) := by decide +kernel
theorem dX21_skip_148 : decode cX21_skip 148 = .ok (.if_icmp .eq 9, 3) := by decide +kernel
theorem dX21_skip_151 : decode cX21_skip 151 = .ok (.iinc 5 1, 3) := by decide +kernel
theorem dX21_skip_154 : decode cX21_skip 154 = .ok (.goto (-37), 3) := by decide +kernel
theorem dX21_skip_157 : decode cX21_skip 157 = .ok (.iload 5, 2) := by decide +kernel
theorem dX21_skip_159 : decode cX21_skip 159 = .ok (.aload_n 0, 1) := by decide +kernel
theorem dX21_skip_160 : decode cX21_skip 160 = .ok (.getfield 321, 3) := by decide +kernel
theorem dX21_skip_163 : decode cX21_skip 163 = .ok (.if_icmp .ge 7, 3) := by decide +kernel
theorem dX21_skip_166 : decode cX21_skip 166 = .ok (.iconst 1, 1) := by decide +kernel
theorem dX21_skip_167 : decode cX21_skip 167 = .ok (.goto 4, 3) := by decide +kernel
theorem dX21_skip_170 : decode cX21_skip 170 = .ok (.iconst 0, 1) := by decide +kernel
theorem dX21_skip_171 : decode cX21_skip 171 = .ok (.istore_n 3, 1) := by decide +kernel
theorem dX21_skip_172 : decode cX21_skip 172 = .ok (.iload_n 3, 1) := by decide +kernel
theorem dX21_skip_173 : decode cX21_skip 173 = .ok (.ifCond .eq 10, 3) := by decide +kernel
theorem dX21_skip_176 : decode cX21_skip 176 = .ok (.iload 5, 2) := by decide +kernel
theorem dX21_skip_178 : decode cX21_skip 178 = .ok (.iconst 2, 1) := by decide +kernel
theorem dX21_skip_179 : decode cX21_skip 179 = .ok (.iadd, 1) := by decide +kernel
theorem dX21_skip_180 : decode cX21_skip 180 = .ok (.goto 4, 3) := by decide +kernel
theorem dX21_skip_183 : decode cX21_skip 183 = .ok (.iload_n 2, 1) := by decide +kernel
theorem dX21_skip_184 : decode cX21_skip 184 = .ok (.istore_n 2, 1) := by decide +kernel
theorem dX21_skip_185 : decode cX21_skip 185 = .ok (.goto 5, 3) := by decide +kernel
theorem dX21_skip_188 : decode cX21_skip 188 = .ok (.iconst 0, 1) := by decide +kernel
theorem dX21_skip_189 : decode cX21_skip 189 = .ok (.istore_n 3, 1) := by decide +kernel
theorem dX21_skip_190 : decode cX21_skip 190 = .ok (.goto (-186), 3) := by decide +kernel
theorem dX21_skip_193 : decode cX21_skip 193 = .ok (.iload_n 2, 1) := by decide +kernel
theorem dX21_skip_194 : decode cX21_skip 194 = .ok (.ireturn, 1) := by decide +kernel
theorem dX21_byteAt_0 : decode cX21_byteAt 0 = .ok (.iload_n 1, 1) := by decide +kernel
theorem dX21_byteAt_1 : decode cX21_byteAt 1 = .ok (.aload_n 0, 1) := by decide +kernel
theorem dX21_byteAt_2 : decode cX21_byteAt 2 = .ok (.getfield 321, 3) := by decide +kernel
theorem dX21_byteAt_5 : decode cX21_byteAt 5 = .ok (.if_icmp .ge 12, 3) := by decide +kernel
theorem dX21_byteAt_8 : decode cX21_byteAt 8 = .ok (.aload_n 0, 1) := by decide +kernel
theorem dX21_byteAt_9 : decode cX21_byteAt 9 = .ok (.getfield 192, 3) := by decide +kernel
theorem dX21_byteAt_12 : decode cX21_byteAt 12 = .ok (.iload_n 1, 1) := by decide +kernel
theorem dX21_byteAt_13 : decode cX21_byteAt 13 = .ok (.baload, 1) := by decide +kernel
theorem dX21_byteAt_14 : decode cX21_byteAt 14 = .ok (.goto 4, 3) := by decide +kernel
theorem dX21_byteAt_17 : decode cX21_byteAt 17 = .ok (.iconst (-1), 1) := by decide +kernel
theorem dX21_byteAt_18 : decode cX21_byteAt 18 = .ok (.ireturn, 1) := by decide +kernel
theorem dX21_readToken_0 : decode cX21_readToken 0 = .ok (.aload_n 0, 1) := by decide +kernel
theorem dX21_readToken_1 : decode cX21_readToken 1 = .ok (.iload_n 1, 1) := by decide +kernel
theorem dX21_readToken_2 : decode cX21_readToken 2 = .ok (.invokevirtual 328, 3) := by decide +kernel
theorem dX21_readToken_5 : decode cX21_readToken 5 = .ok (.istore_n 2, 1) := by decide +kernel
theorem dX21_readToken_6 : decode cX21_readToken 6 = .ok (.iconst 0, 1) := by decide +kernel
theorem dX21_readToken_7 : decode cX21_readToken 7 = .ok (.istore_n 3, 1) := by decide +kernel
theorem dX21_readToken_8 : decode cX21_readToken 8 = .ok (.iload_n 2, 1) := by decide +kernel
theorem dX21_readToken_9 : decode cX21_readToken 9 = .ok (.invokestatic 346, 3) := by decide +kernel
theorem dX21_readToken_12 : decode cX21_readToken 12 = .ok (.ifCond .eq 73, 3) := by decide +kernel
theorem dX21_readToken_15 : decode cX21_readToken 15 = .ok (.aload_n 0, 1) := by decide +kernel
theorem dX21_readToken_16 : decode cX21_readToken 16 = .ok (.iload_n 1, 1) := by decide +kernel
theorem dX21_readToken_17 : decode cX21_readToken 17 = .ok (.iload_n 3, 1) := by decide +kernel
theorem dX21_readToken_18 : decode cX21_readToken 18 = .ok (.iadd, 1) := by decide +kernel
theorem dX21_readToken_19 : decode cX21_readToken 19 = .ok (.invokevirtual 328, 3) := by decide +kernel
theorem dX21_readToken_22 : decode cX21_readToken 22 = .ok (.invokestatic 346, 3) := by decide +kernel
theorem dX21_readToken_25 : decode cX21_readToken 25 = .ok (.ifCond .ne 16, 3) := by decide +kernel
theorem dX21_readToken_28 : decode cX21_readToken 28 = .ok (.aload_n 0, 1) := by decide +kernel
theorem dX21_readToken_29 : decode cX21_readToken 29 = .ok (.iload_n 1, 1) := by decide +kernel
theorem dX21_readToken_30 : decode cX21_readToken 30 = .ok (.iload_n 3, 1) := by decide +kernel
theorem dX21_readToken_31 : decode cX21_readToken 31 = .ok (.iadd, 1) := by decide +kernel
theorem dX21_readToken_32 : decode cX21_readToken 32 = .ok (.invokevirtual 328, 3) := by decide +kernel
theorem dX21_readToken_35 : decode cX21_readToken 35 = .ok (.invokestatic 324, 3) := by decide +kernel
theorem dX21_readToken_38 : decode cX21_readToken 38 = .ok (.ifCond .eq 9, 3) := by decide +kernel
theorem dX21_readToken_41 : decode cX21_readToken 41 = .ok (.iinc 3 1, 3) := by decide +kernel
theorem dX21_readToken_44 : decode cX21_readToken 44 = .ok (.goto (-29), 3) := by decide +kernel
theorem dX21_readToken_47 : decode cX21_readToken 47 = .ok (.aload_n 0, 1) := by decide +kernel
theorem dX21_readToken_48 : decode cX21_readToken 48 = .ok (.iload_n 1, 1) := by decide +kernel
theorem dX21_readToken_49 : decode cX21_readToken 49 = .ok (.iload_n 3, 1) := by decide +kernel
theorem dX21_readToken_50 : decode cX21_readToken 50 = .ok (.invokevirtual 349, 3) := by decide +kernel
theorem dX21_readToken_53 : decode cX21_readToken 53 = .ok (.istore 4, 2) := by decide +kernel
theorem dX21_readToken_55 : decode cX21_readToken 55 = .ok (.aload_n 0, 1) := by decide +kernel
theorem dX21_readToken_56 : decode cX21_readToken 56 = .ok (.iload_n 1, 1) := by decide +kernel
theorem dX21_readToken_57 : decode cX21_readToken 57 = .ok (.iload_n 3, 1) := by decide +kernel
theorem dX21_readToken_58 : decode cX21_readToken 58 = .ok (.iload 4, 2) := by decide +kernel
theorem dX21_readToken_60 : decode cX21_readToken 60 = .ok (.ifCond .lt 7, 3) := by decide +kernel
theorem dX21_readToken_63 : decode cX21_readToken 63 = .ok (.iconst 2, 1) := by decide +kernel
theorem dX21_readToken_64 : decode cX21_readToken 64 = .ok (.goto 4, 3) := by decide +kernel
theorem dX21_readToken_67 : decode cX21_readToken 67 = .ok (.iconst 1, 1) := by decide +kernel
theorem dX21_readToken_68 : decode cX21_readToken 68 = .ok (.iload 4, 2) := by decide +kernel
theorem dX21_readToken_70 : decode cX21_readToken 70 = .ok (.invokevirtual 353, 3) := by decide +kernel
theorem dX21_readToken_73 : decode cX21_readToken 73 = .ok (.iload_n 3, 1) := by decide +kernel
theorem dX21_readToken_74 : decode cX21_readToken 74 = .ok (.bipush 24, 2) := by decide +kernel
theorem dX21_readToken_76 : decode cX21_readToken 76 = .ok (.if_icmp .gt 7, 3) := by decide +kernel
theorem dX21_readToken_79 : decode cX21_readToken 79 = .ok (.iconst 1, 1) := by decide +kernel
theorem dX21_readToken_80 : decode cX21_readToken 80 = .ok (.goto 4, 3) := by decide +kernel
theorem dX21_readToken_83 : decode cX21_readToken 83 = .ok (.iconst 0, 1) := by decide +kernel
theorem dX21_readToken_84 : decode cX21_readToken 84 = .ok (.ireturn, 1) := by decide +kernel
theorem dX21_readToken_85 : decode cX21_readToken 85 = .ok (.iload_n 2, 1) := by decide +kernel
theorem dX21_readToken_86 : decode cX21_readToken 86 = .ok (.invokestatic 324, 3) := by decide +kernel
theorem dX21_readToken_89 : decode cX21_readToken 89 = .ok (.ifCond .eq 9, 3) := by decide +kernel
theorem dX21_readToken_92 : decode cX21_readToken 92 = .ok (.aload_n 0, 1) := by decide +kernel
theorem dX21_readToken_93 : decode cX21_readToken 93 = .ok (.iload_n 1, 1) := by decide +kernel
theorem dX21_readToken_94 : decode cX21_readToken 94 = .ok (.invokevirtual 357, 3) := by decide +kernel
theorem dX21_readToken_97 : decode cX21_readToken 97 = .ok (.ireturn, 1) := by decide +kernel
theorem dX21_readToken_98 : decode cX21_readToken 98 = .ok (.iload_n 2, 1) := by decide +kernel
theorem dX21_readToken_99 : decode cX21_readToken 99 = .ok (.bipush 39, 2) := by decide +kernel
theorem dX21_readToken_101 : decode cX21_readToken 101 = .ok (.if_icmp .ne 76, 3) := by decide +kernel
theorem dX21_readToken_104 : decode cX21_readToken 104 = .ok (.aload_n 0, 1) := by decide +kernel
theorem dX21_readToken_105 : decode cX21_readToken 105 = .ok (.iload_n 1, 1) := by decide +kernel
theorem dX21_readToken_106 : decode cX21_readToken 106 = .ok (.iconst 1, 1) := by decide +kernel
theorem dX21_readToken_107 : decode cX21_readToken 107 = .ok (.iadd, 1) := by decide +kernel
theorem dX21_readToken_108 : decode cX21_readToken 108 = .ok (.bipush 39, 2) := by decide +kernel
theorem dX21_readToken_110 : decode cX21_readToken 110 = .ok (.invokevirtual 360, 3) := by decide +kernel
theorem dX21_readToken_113 : decode cX21_readToken 113 = .ok (.istore 4, 2) := by decide +kernel
theorem dX21_readToken_115 : decode cX21_readToken 115 = .ok (.iload 4, 2) := by decide +kernel
theorem dX21_readToken_117 : decode cX21_readToken 117 = .ok (.ifCond .ge 7, 3) := by decide +kernel
theorem dX21_readToken_120 : decode cX21_readToken 120 = .ok (.iconst 0, 1) := by decide +kernel
theorem dX21_readToken_121 : decode cX21_readToken 121 = .ok (.goto 16, 3) := by decide +kernel
theorem dX21_readToken_124 : decode cX21_readToken 124 = .ok (.iload 4, 2) := by decide +kernel
theorem dX21_readToken_126 : decode cX21_readToken 126 = .ok (.sipush 1000, 3) := by decide +kernel
theorem dX21_readToken_129 : decode cX21_readToken 129 = .ok (.if_icmp .ge 7, 3) := by decide +kernel
theorem dX21_readToken_132 : decode cX21_readToken 132 = .ok (.iconst 1, 1) := by decide +kernel
theorem dX21_readToken_133 : decode cX21_readToken 133 = .ok (.goto 4, 3) := by decide +kernel
theorem dX21_readToken_136 : decode cX21_readToken 136 = .ok (.iconst 2, 1) := by decide +kernel
theorem dX21_readToken_137 : decode cX21_readToken 137 = .ok (.istore_n 3, 1) := by decide +kernel
theorem dX21_readToken_138 : decode cX21_readToken 138 = .ok (.aload_n 0, 1) := by decide +kernel
theorem dX21_readToken_139 : decode cX21_readToken 139 = .ok (.iload_n 1, 1) := by decide +kernel
theorem dX21_readToken_140 : decode cX21_readToken 140 = .ok (.iload_n 3, 1) := by decide +kernel
theorem dX21_readToken_141 : decode cX21_readToken 141 = .ok (.iconst 2, 1) := by decide +kernel
theorem dX21_readToken_142 : decode cX21_readToken 142 = .ok (.iadd, 1) := by decide +kernel
theorem dX21_readToken_143 : decode cX21_readToken 143 = .ok (.iconst 3, 1) := by decide +kernel
theorem dX21_readToken_144 : decode cX21_readToken 144 = .ok (.iload 4, 2) := by decide +kernel
theorem dX21_readToken_146 : decode cX21_readToken 146 = .ok (.sipush 1000, 3) := by decide +kernel
theorem dX21_readToken_149 : decode cX21_readToken 149 = .ok (.irem, 1) := by decide +kernel
theorem dX21_readToken_150 : decode cX21_readToken 150 = .ok (.invokevirtual 353, 3) := by decide +kernel
theorem dX21_readToken_153 : decode cX21_readToken 153 = .ok (.iload_n 3, 1) := by decide +kernel
theorem dX21_readToken_154 : decode cX21_readToken 154 = .ok (.ifCond .le 21, 3) := by decide +kernel
theorem dX21_readToken_157 : decode cX21_readToken 157 = .ok (.aload_n 0, 1) := by decide +kernel
theorem dX21_readToken_158 : decode cX21_readToken 158 = .ok (.iload_n 1, 1) := by decide +kernel
theorem dX21_readToken_159 : decode cX21_readToken 159 = .ok (.iconst 1, 1) := by decide +kernel
theorem dX21_readToken_160 : decode cX21_readToken 160 = .ok (.iadd, 1) := by decide +kernel
theorem dX21_readToken_161 : decode cX21_readToken 161 = .ok (.iload_n 3, 1) := by decide +kernel
theorem dX21_readToken_162 : decode cX21_readToken 162 = .ok (.iadd, 1) := by decide +kernel
theorem dX21_readToken_163 : decode cX21_readToken 163 = .ok (.invokevirtual 328, 3) := by decide +kernel
theorem dX21_readToken_166 : decode cX21_readToken 166 = .ok (.bipush 39, 2) := by decide +kernel
theorem dX21_readToken_168 : decode cX21_readToken 168 = .ok (.if_icmp .ne 7, 3) := by decide +kernel
theorem dX21_readToken_171 : decode cX21_readToken 171 = .ok (.iconst 1, 1) := by decide +kernel
theorem dX21_readToken_172 : decode cX21_readToken 172 = .ok (.goto 4, 3) := by decide +kernel
theorem dX21_readToken_175 : decode cX21_readToken 175 = .ok (.iconst 0, 1) := by decide +kernel
theorem dX21_readToken_176 : decode cX21_readToken 176 = .ok (.ireturn, 1) := by decide +kernel
theorem dX21_readToken_177 : decode cX21_readToken 177 = .ok (.iload_n 2, 1) := by decide +kernel
theorem dX21_readToken_178 : decode cX21_readToken 178 = .ok (.bipush 34, 2) := by decide +kernel
theorem dX21_readToken_180 : decode cX21_readToken 180 = .ok (.if_icmp .ne 9, 3) := by decide +kernel
theorem dX21_readToken_183 : decode cX21_readToken 183 = .ok (.aload_n 0, 1) := by decide +kernel
theorem dX21_readToken_184 : decode cX21_readToken 184 = .ok (.iload_n 1, 1) := by decide +kernel
theorem dX21_readToken_185 : decode cX21_readToken 185 = .ok (.invokevirtual 363, 3) := by decide +kernel
theorem dX21_readToken_188 : decode cX21_readToken 188 = .ok (.ireturn, 1) := by decide +kernel
theorem dX21_readToken_189 : decode cX21_readToken 189 = .ok (.iload_n 2, 1) := by decide +kernel
theorem dX21_readToken_190 : decode cX21_readToken 190 = .ok (.bipush 47, 2) := by decide +kernel
theorem dX21_readToken_192 : decode cX21_readToken 192 = .ok (.if_icmp .ne 17, 3) := by decide +kernel
theorem dX21_readToken_195 : decode cX21_readToken 195 = .ok (.aload_n 0, 1) := by decide +kernel
theorem dX21_readToken_196 : decode cX21_readToken 196 = .ok (.iload_n 1, 1) := by decide +kernel
theorem dX21_readToken_197 : decode cX21_readToken 197 = .ok (.iconst 1, 1) := by decide +kernel
theorem dX21_readToken_198 : decode cX21_readToken 198 = .ok (.iadd, 1) := by decide +kernel
theorem dX21_readToken_199 : decode cX21_readToken 199 = .ok (.invokevirtual 328, 3) := by decide +kernel
theorem dX21_readToken_202 : decode cX21_readToken 202 = .ok (.bipush 42, 2) := by decide +kernel
theorem dX21_readToken_204 : decode cX21_readToken 204 = .ok (.if_icmp .ne 5, 3) := by decide +kernel
theorem dX21_readToken_207 : decode cX21_readToken 207 = .ok (.iconst 0, 1) := by decide +kernel
theorem dX21_readToken_208 : decode cX21_readToken 208 = .ok (.ireturn, 1) := by decide +kernel
theorem dX21_readToken_209 : decode cX21_readToken 209 = .ok (.iconst 0, 1) := by decide +kernel
theorem dX21_readToken_210 : decode cX21_readToken 210 = .ok (.istore 4, 2) := by decide +kernel
theorem dX21_readToken_212 : decode cX21_readToken 212 = .ok (.iload 4, 2) := by decide +kernel
theorem dX21_readToken_214 : decode cX21_readToken 214 = .ok (.aload_n 0, 1) := by decide +kernel
theorem dX21_readToken_215 : decode cX21_readToken 215 = .ok (.getfield 131, 3) := by decide +kernel
theorem dX21_readToken_218 : decode cX21_readToken 218 = .ok (.arraylength, 1) := by decide +kernel
theorem dX21_readToken_219 : decode cX21_readToken 219 = .ok (.if_icmp .ge 44, 3) := by decide +kernel
theorem dX21_readToken_222 : decode cX21_readToken 222 = .ok (.aload_n 0, 1) := by decide +kernel
theorem dX21_readToken_223 : decode cX21_readToken 223 = .ok (.iload_n 1, 1) := by decide +kernel
theorem dX21_readToken_224 : decode cX21_readToken 224 = .ok (.aload_n 0, 1) := by decide +kernel
theorem dX21_readToken_225 : decode cX21_readToken 225 = .ok (.getfield 131, 3) := by decide +kernel
theorem dX21_readToken_228 : decode cX21_readToken 228 = .ok (.iload 4, 2) := by decide +kernel
theorem dX21_readToken_230 : decode cX21_readToken 230 = .ok (.aaload, 1) := by decide +kernel
theorem dX21_readToken_231 : decode cX21_readToken 231 = .ok (.invokevirtual 342, 3) := by decide +kernel
theorem dX21_readToken_234 : decode cX21_readToken 234 = .ok (.ifCond .eq 23, 3) := by decide +kernel
theorem dX21_readToken_237 : decode cX21_readToken 237 = .ok (.aload_n 0, 1) := by decide +kernel
theorem dX21_readToken_238 : decode cX21_readToken 238 = .ok (.iload_n 1, 1) := by decide +kernel
theorem dX21_readToken_239 : decode cX21_readToken 239 = .ok (.aload_n 0, 1) := by decide +kernel
theorem dX21_readToken_240 : decode cX21_readToken 240 = .ok (.getfield 131, 3) := by decide +kernel
theorem dX21_readToken_243 : decode cX21_readToken 243 = .ok (.iload 4, 2) := by decide +kernel
theorem dX21_readToken_245 : decode cX21_readToken 245 = .ok (.aaload, 1) := by decide +kernel
theorem dX21_readToken_246 : decode cX21_readToken 246 = .ok (.invokevirtual 335, 3) := by decide +kernel
theorem dX21_readToken_249 : decode cX21_readToken 249 = .ok (.iconst 5, 1) := by decide +kernel
theorem dX21_readToken_250 : decode cX21_readToken 250 = .ok (.iload 4, 2) := by decide +kernel
theorem dX21_readToken_252 : decode cX21_readToken 252 = .ok (.invokevirtual 353, 3) := by decide +kernel
theorem dX21_readToken_255 : decode cX21_readToken 255 = .ok (.iconst 1, 1) := by decide +kernel
theorem dX21_readToken_256 : decode cX21_readToken 256 = .ok (.ireturn, 1) := by decide +kernel
theorem dX21_readToken_257 : decode cX21_readToken 257 = .ok (.iinc 4 1, 3) := by decide +kernel
theorem dX21_readToken_260 : decode cX21_readToken 260 = .ok (.goto (-48), 3) := by decide +kernel
theorem dX21_readToken_263 : decode cX21_readToken 263 = .ok (.iconst 0, 1) := by decide +kernel
theorem dX21_readToken_264 : decode cX21_readToken 264 = .ok (.ireturn, 1) := by decide +kernel
theorem dX21_isLetter_0 : decode cX21_isLetter 0 = .ok (.iload_n 0, 1) := by decide +kernel
theorem dX21_isLetter_1 : decode cX21_isLetter 1 = .ok (.bipush 97, 2) := by decide +kernel
theorem dX21_isLetter_3 : decode cX21_isLetter 3 = .ok (.if_icmp .lt 9, 3) := by decide +kernel
theorem dX21_isLetter_6 : decode cX21_isLetter 6 = .ok (.iload_n 0, 1) := by decide +kernel
theorem dX21_isLetter_7 : decode cX21_isLetter 7 = .ok (.bipush 122, 2) := by decide +kernel
theorem dX21_isLetter_9 : decode cX21_isLetter 9 = .ok (.if_icmp .le 21, 3) := by decide +kernel
theorem dX21_isLetter_12 : decode cX21_isLetter 12 = .ok (.iload_n 0, 1) := by decide +kernel
theorem dX21_isLetter_13 : decode cX21_isLetter 13 = .ok (.bipush 65, 2) := by decide +kernel
theorem dX21_isLetter_15 : decode cX21_isLetter 15 = .ok (.if_icmp .lt 9, 3) := by decide +kernel
theorem dX21_isLetter_18 : decode cX21_isLetter 18 = .ok (.iload_n 0, 1) := by decide +kernel
theorem dX21_isLetter_19 : decode cX21_isLetter 19 = .ok (.bipush 90, 2) := by decide +kernel
theorem dX21_isLetter_21 : decode cX21_isLetter 21 = .ok (.if_icmp .le 9, 3) := by decide +kernel
theorem dX21_isLetter_24 : decode cX21_isLetter 24 = .ok (.iload_n 0, 1) := by decide +kernel
theorem dX21_isLetter_25 : decode cX21_isLetter 25 = .ok (.bipush 95, 2) := by decide +kernel
theorem dX21_isLetter_27 : decode cX21_isLetter 27 = .ok (.if_icmp .ne 7, 3) := by decide +kernel
theorem dX21_isLetter_30 : decode cX21_isLetter 30 = .ok (.iconst 1, 1) := by decide +kernel
theorem dX21_isLetter_31 : decode cX21_isLetter 31 = .ok (.goto 4, 3) := by decide +kernel
theorem dX21_isLetter_34 : decode cX21_isLetter 34 = .ok (.iconst 0, 1) := by decide +kernel
theorem dX21_isLetter_35 : decode cX21_isLetter 35 = .ok (.ireturn, 1) := by decide +kernel
theorem dX21_isDigit_0 : decode cX21_isDigit 0 = .ok (.iload_n 0, 1) := by decide +kernel
theorem dX21_isDigit_1 : decode cX21_isDigit 1 = .ok (.bipush 48, 2) := by decide +kernel
theorem dX21_isDigit_3 : decode cX21_isDigit 3 = .ok (.if_icmp .lt 13, 3) := by decide +kernel
theorem dX21_isDigit_6 : decode cX21_isDigit 6 = .ok (.iload_n 0, 1) := by decide +kernel
theorem dX21_isDigit_7 : decode cX21_isDigit 7 = .ok (.bipush 57, 2) := by decide +kernel
theorem dX21_isDigit_9 : decode cX21_isDigit 9 = .ok (.if_icmp .gt 7, 3) := by decide +kernel
theorem dX21_isDigit_12 : decode cX21_isDigit 12 = .ok (.iconst 1, 1) := by decide +kernel
theorem dX21_isDigit_13 : decode cX21_isDigit 13 = .ok (.goto 4, 3) := by decide +kernel
theorem dX21_isDigit_16 : decode cX21_isDigit 16 = .ok (.iconst 0, 1) := by decide +kernel
theorem dX21_isDigit_17 : decode cX21_isDigit 17 = .ok (.ireturn, 1) := by decide +kernel
theorem dX21_keyword_0 : decode cX21_keyword 0 = .ok (.iconst 0, 1) := by decide +kernel
theorem dX21_keyword_1 : decode cX21_keyword 1 = .ok (.istore_n 3, 1) := by decide +kernel
theorem dX21_keyword_2 : decode cX21_keyword 2 = .ok (.iload_n 3, 1) := by decide +kernel
theorem dX21_keyword_3 : decode cX21_keyword 3 = .ok (.aload_n 0, 1) := by decide +kernel
theorem dX21_keyword_4 : decode cX21_keyword 4 = .ok (.getfield 39, 3) := by decide +kernel
theorem dX21_keyword_7 : decode cX21_keyword 7 = .ok (.arraylength, 1) := by decide +kernel
theorem dX21_keyword_8 : decode cX21_keyword 8 = .ok (.if_icmp .ge 38, 3) := by decide +kernel
theorem dX21_keyword_11 : decode cX21_keyword 11 = .ok (.aload_n 0, 1) := by decide +kernel
theorem dX21_keyword_12 : decode cX21_keyword 12 = .ok (.getfield 39, 3) := by decide +kernel
theorem dX21_keyword_15 : decode cX21_keyword 15 = .ok (.iload_n 3, 1) := by decide +kernel
theorem dX21_keyword_16 : decode cX21_keyword 16 = .ok (.aaload, 1) := by decide +kernel
theorem dX21_keyword_17 : decode cX21_keyword 17 = .ok (.invokevirtual 335, 3) := by decide +kernel
theorem dX21_keyword_20 : decode cX21_keyword 20 = .ok (.iload_n 2, 1) := by decide +kernel
theorem dX21_keyword_21 : decode cX21_keyword 21 = .ok (.if_icmp .ne 19, 3) := by decide +kernel
theorem dX21_keyword_24 : decode cX21_keyword 24 = .ok (.aload_n 0, 1) := by decide +kernel
theorem dX21_keyword_25 : decode cX21_keyword 25 = .ok (.iload_n 1, 1) := by decide +kernel
theorem dX21_keyword_26 : decode cX21_keyword 26 = .ok (.aload_n 0, 1) := by decide +kernel
theorem dX21_keyword_27 : decode cX21_keyword 27 = .ok (.getfield 39, 3) := by decide +kernel
theorem dX21_keyword_30 : decode cX21_keyword 30 = .ok (.iload_n 3, 1) := by decide +kernel
theorem dX21_keyword_31 : decode cX21_keyword 31 = .ok (.aaload, 1) := by decide +kernel
theorem dX21_keyword_32 : decode cX21_keyword 32 = .ok (.invokevirtual 342, 3) := by decide +kernel
theorem dX21_keyword_35 : decode cX21_keyword 35 = .ok (.ifCond .eq 5, 3) := by decide +kernel
theorem dX21_keyword_38 : decode cX21_keyword 38 = .ok (.iload_n 3, 1) := by decide +kernel
theorem dX21_keyword_39 : decode cX21_keyword 39 = .ok (.ireturn, 1) := by decide +kernel
theorem dX21_keyword_40 : decode cX21_keyword 40 = .ok (.iinc 3 1, 3) := by decide +kernel
theorem dX21_keyword_43 : decode cX21_keyword 43 = .ok (.goto (-41), 3) := by decide +kernel
theorem dX21_keyword_46 : decode cX21_keyword 46 = .ok (.iconst (-1), 1) := by decide +kernel
theorem dX21_keyword_47 : decode cX21_keyword 47 = .ok (.ireturn, 1) := by decide +kernel
theorem dX21_stands_0 : decode cX21_stands 0 = .ok (.iconst 1, 1) := by decide +kernel
theorem dX21_stands_1 : decode cX21_stands 1 = .ok (.istore_n 3, 1) := by decide +kernel
theorem dX21_stands_2 : decode cX21_stands 2 = .ok (.iconst 0, 1) := by decide +kernel
theorem dX21_stands_3 : decode cX21_stands 3 = .ok (.istore 4, 2) := by decide +kernel
theorem dX21_stands_5 : decode cX21_stands 5 = .ok (.iload 4, 2) := by decide +kernel
theorem dX21_stands_7 : decode cX21_stands 7 = .ok (.aload_n 2, 1) := by decide +kernel
theorem dX21_stands_8 : decode cX21_stands 8 = .ok (.invokevirtual 335, 3) := by decide +kernel
theorem dX21_stands_11 : decode cX21_stands 11 = .ok (.if_icmp .ge 36, 3) := by decide +kernel
theorem dX21_stands_14 : decode cX21_stands 14 = .ok (.iload_n 3, 1) := by decide +kernel
theorem dX21_stands_15 : decode cX21_stands 15 = .ok (.ifCond .eq 32, 3) := by decide +kernel
theorem dX21_stands_18 : decode cX21_stands 18 = .ok (.aload_n 0, 1) := by decide +kernel
theorem dX21_stands_19 : decode cX21_stands 19 = .ok (.iload_n 1, 1) := by decide +kernel
theorem dX21_stands_20 : decode cX21_stands 20 = .ok (.iload 4, 2) := by decide +kernel
theorem dX21_stands_22 : decode cX21_stands 22 = .ok (.iadd, 1) := by decide +kernel
theorem dX21_stands_23 : decode cX21_stands 23 = .ok (.invokevirtual 328, 3) := by decide +kernel
theorem dX21_stands_26 : decode cX21_stands 26 = .ok (.aload_n 2, 1) := by decide +kernel
theorem dX21_stands_27 : decode cX21_stands 27 = .ok (.iload 4, 2) := by decide +kernel
theorem dX21_stands_29 : decode cX21_stands 29 = .ok (.invokevirtual 338, 3) := by decide +kernel
theorem dX21_stands_32 : decode cX21_stands 32 = .ok (.if_icmp .ne 7, 3) := by decide +kernel
theorem dX21_stands_35 : decode cX21_stands 35 = .ok (.iconst 1, 1) := by decide +kernel
theorem dX21_stands_36 : decode cX21_stands 36 = .ok (.goto 4, 3) := by decide +kernel
theorem dX21_stands_39 : decode cX21_stands 39 = .ok (.iconst 0, 1) := by decide +kernel
theorem dX21_stands_40 : decode cX21_stands 40 = .ok (.istore_n 3, 1) := by decide +kernel
theorem dX21_stands_41 : decode cX21_stands 41 = .ok (.iinc 4 1, 3) := by decide +kernel
theorem dX21_stands_44 : decode cX21_stands 44 = .ok (.goto (-39), 3) := by decide +kernel
theorem dX21_stands_47 : decode cX21_stands 47 = .ok (.iload_n 3, 1) := by decide +kernel
theorem dX21_stands_48 : decode cX21_stands 48 = .ok (.ireturn, 1) := by decide +kernel
theorem dX21_token_0 : decode cX21_token 0 = .ok (.aload_n 0, 1) := by decide +kernel
theorem dX21_token_1 : decode cX21_token 1 = .ok (.getfield 195, 3) := by decide +kernel
theorem dX21_token_4 : decode cX21_token 4 = .ok (.aload_n 0, 1) := by decide +kernel
theorem dX21_token_5 : decode cX21_token 5 = .ok (.getfield 332, 3) := by decide +kernel
theorem dX21_token_8 : decode cX21_token 8 = .ok (.iload_n 1, 1) := by decide +kernel
theorem dX21_token_9 : decode cX21_token 9 = .ok (.iastore, 1) := by decide +kernel
theorem dX21_token_10 : decode cX21_token 10 = .ok (.aload_n 0, 1) := by decide +kernel
theorem dX21_token_11 : decode cX21_token 11 = .ok (.getfield 199, 3) := by decide +kernel
theorem dX21_token_14 : decode cX21_token 14 = .ok (.aload_n 0, 1) := by decide +kernel
theorem dX21_token_15 : decode cX21_token 15 = .ok (.getfield 332, 3) := by decide +kernel
theorem dX21_token_18 : decode cX21_token 18 = .ok (.iload_n 2, 1) := by decide +kernel
theorem dX21_token_19 : decode cX21_token 19 = .ok (.iastore, 1) := by decide +kernel
theorem dX21_token_20 : decode cX21_token 20 = .ok (.aload_n 0, 1) := by decide +kernel
theorem dX21_token_21 : decode cX21_token 21 = .ok (.getfield 202, 3) := by decide +kernel
theorem dX21_token_24 : decode cX21_token 24 = .ok (.aload_n 0, 1) := by decide +kernel
theorem dX21_token_25 : decode cX21_token 25 = .ok (.getfield 332, 3) := by decide +kernel
theorem dX21_token_28 : decode cX21_token 28 = .ok (.iload_n 3, 1) := by decide +kernel
theorem dX21_token_29 : decode cX21_token 29 = .ok (.i2b, 1) := by decide +kernel
theorem dX21_token_30 : decode cX21_token 30 = .ok (.bastore, 1) := by decide +kernel
theorem dX21_token_31 : decode cX21_token 31 = .ok (.aload_n 0, 1) := by decide +kernel
theorem dX21_token_32 : decode cX21_token 32 = .ok (.getfield 205, 3) := by decide +kernel
theorem dX21_token_35 : decode cX21_token 35 = .ok (.aload_n 0, 1) := by decide +kernel
theorem dX21_token_36 : decode cX21_token 36 = .ok (.getfield 332, 3) := by decide +kernel
theorem dX21_token_39 : decode cX21_token 39 = .ok (.iload 4, 2) := by decide +kernel
theorem dX21_token_41 : decode cX21_token 41 = .ok (.iastore, 1) := by decide +kernel
theorem dX21_token_42 : decode cX21_token 42 = .ok (.aload_n 0, 1) := by decide +kernel
theorem dX21_token_43 : decode cX21_token 43 = .ok (.dup, 1) := by decide +kernel
theorem dX21_token_44 : decode cX21_token 44 = .ok (.getfield 332, 3) := by decide +kernel
theorem dX21_token_47 : decode cX21_token 47 = .ok (.iconst 1, 1) := by decide +kernel
theorem dX21_token_48 : decode cX21_token 48 = .ok (.iadd, 1) := by decide +kernel
theorem dX21_token_49 : decode cX21_token 49 = .ok (.putfield 332, 3) := by decide +kernel
theorem dX21_token_52 : decode cX21_token 52 = .ok (.return_, 1) := by decide +kernel
theorem dX21_readNumber_0 : decode cX21_readNumber 0 = .ok (.aload_n 0, 1) := by decide +kernel
theorem dX21_readNumber_1 : decode cX21_readNumber 1 = .ok (.iload_n 1, 1) := by decide +kernel
theorem dX21_readNumber_2 : decode cX21_readNumber 2 = .ok (.invokevirtual 328, 3) := by decide +kernel
theorem dX21_readNumber_5 : decode cX21_readNumber 5 = .ok (.bipush 48, 2) := by decide +kernel
theorem dX21_readNumber_7 : decode cX21_readNumber 7 = .ok (.if_icmp .ne 19, 3) := by decide +kernel
theorem dX21_readNumber_10 : decode cX21_readNumber 10 = .ok (.aload_n 0, 1) := by decide +kernel
theorem dX21_readNumber_11 : decode cX21_readNumber 11 = .ok (.iload_n 1, 1) := by decide +kernel
theorem dX21_readNumber_12 : decode cX21_readNumber 12 = .ok (.iconst 1, 1) := by decide +kernel
theorem dX21_readNumber_13 : decode cX21_readNumber 13 = .ok (.iadd, 1) := by decide +kernel
theorem dX21_readNumber_14 : decode cX21_readNumber 14 = .ok (.invokevirtual 328, 3) := by decide +kernel
theorem dX21_readNumber_17 : decode cX21_readNumber 17 = .ok (.bipush 120, 2) := by decide +kernel
theorem dX21_readNumber_19 : decode cX21_readNumber 19 = .ok (.if_icmp .ne 7, 3) := by decide +kernel
theorem dX21_readNumber_22 : decode cX21_readNumber 22 = .ok (.iconst 1, 1) := by decide +kernel
theorem dX21_readNumber_23 : decode cX21_readNumber 23 = .ok (.goto 4, 3) := by decide +kernel
theorem dX21_readNumber_26 : decode cX21_readNumber 26 = .ok (.iconst 0, 1) := by decide +kernel
theorem dX21_readNumber_27 : decode cX21_readNumber 27 = .ok (.istore_n 2, 1) := by decide +kernel
theorem dX21_readNumber_28 : decode cX21_readNumber 28 = .ok (.iload_n 2, 1) := by decide +kernel
theorem dX21_readNumber_29 : decode cX21_readNumber 29 = .ok (.ifCond .eq 9, 3) := by decide +kernel
theorem dX21_readNumber_32 : decode cX21_readNumber 32 = .ok (.iload_n 1, 1) := by decide +kernel
theorem dX21_readNumber_33 : decode cX21_readNumber 33 = .ok (.iconst 2, 1) := by decide +kernel
theorem dX21_readNumber_34 : decode cX21_readNumber 34 = .ok (.iadd, 1) := by decide +kernel
theorem dX21_readNumber_35 : decode cX21_readNumber 35 = .ok (.goto 4, 3) := by decide +kernel
theorem dX21_readNumber_38 : decode cX21_readNumber 38 = .ok (.iload_n 1, 1) := by decide +kernel
theorem dX21_readNumber_39 : decode cX21_readNumber 39 = .ok (.istore_n 3, 1) := by decide +kernel
theorem dX21_readNumber_40 : decode cX21_readNumber 40 = .ok (.iconst 0, 1) := by decide +kernel
theorem dX21_readNumber_41 : decode cX21_readNumber 41 = .ok (.istore 4, 2) := by decide +kernel
theorem dX21_readNumber_43 : decode cX21_readNumber 43 = .ok (.lconst 0, 1) := by decide +kernel
theorem dX21_readNumber_44 : decode cX21_readNumber 44 = .ok (.lstore 5, 2) := by decide +kernel
theorem dX21_readNumber_46 : decode cX21_readNumber 46 = .ok (.iload_n 2, 1) := by decide +kernel
theorem dX21_readNumber_47 : decode cX21_readNumber 47 = .ok (.ifCond .eq 20, 3) := by decide +kernel
theorem dX21_readNumber_50 : decode cX21_readNumber 50 = .ok (.aload_n 0, 1) := by decide +kernel
theorem dX21_readNumber_51 : decode cX21_readNumber 51 = .ok (.iload_n 3, 1) := by decide +kernel
theorem dX21_readNumber_52 : decode cX21_readNumber 52 = .ok (.iload 4, 2) := by decide +kernel
theorem dX21_readNumber_54 : decode cX21_readNumber 54 = .ok (.iadd, 1) := by decide +kernel
theorem dX21_readNumber_55 : decode cX21_readNumber 55 = .ok (.invokevirtual 328, 3) := by decide +kernel
theorem dX21_readNumber_58 : decode cX21_readNumber 58 = .ok (.invokestatic 366, 3) := by decide +kernel
theorem dX21_readNumber_61 : decode cX21_readNumber 61 = .ok (.ifCond .lt 69, 3) := by decide +kernel
theorem dX21_readNumber_64 : decode cX21_readNumber 64 = .ok (.goto 17, 3) := by decide +kernel
theorem dX21_readNumber_67 : decode cX21_readNumber 67 = .ok (.aload_n 0, 1) := by decide +kernel
theorem dX21_readNumber_68 : decode cX21_readNumber 68 = .ok (.iload_n 3, 1) := by decide +kernel
theorem dX21_readNumber_69 : decode cX21_readNumber 69 = .ok (.iload 4, 2) := by decide +kernel
theorem dX21_readNumber_71 : decode cX21_readNumber 71 = .ok (.iadd, 1) := by decide +kernel
theorem dX21_readNumber_72 : decode cX21_readNumber 72 = .ok (.invokevirtual 328, 3) := by decide +kernel
theorem dX21_readNumber_75 : decode cX21_readNumber 75 = .ok (.invokestatic 324, 3) := by decide +kernel
theorem dX21_readNumber_78 : decode cX21_readNumber 78 = .ok (.ifCond .eq 52, 3) := by decide +kernel
theorem dX21_readNumber_81 : decode cX21_readNumber 81 = .ok (.iload 4, 2) := by decide +kernel
theorem dX21_readNumber_83 : decode cX21_readNumber 83 = .ok (.bipush 12, 2) := by decide +kernel
theorem dX21_readNumber_85 : decode cX21_readNumber 85 = .ok (.if_icmp .ge 35, 3) := by decide +kernel
theorem dX21_readNumber_88 : decode cX21_readNumber 88 = .ok (.lload 5, 2) := by decide +kernel
theorem dX21_readNumber_90 : decode cX21_readNumber 90 = .ok (.iload_n 2, 1) := by decide +kernel
theorem dX21_readNumber_91 : decode cX21_readNumber 91 = .ok (.ifCond .eq 9, 3) := by decide +kernel
theorem dX21_readNumber_94 : decode cX21_readNumber 94 = .ok (.ldc2_w 369, 3) := by decide +kernel
theorem dX21_readNumber_97 : decode cX21_readNumber 97 = .ok (.goto 6, 3) := by decide +kernel
theorem dX21_readNumber_100 : decode cX21_readNumber 100 = .ok (.ldc2_w 371, 3) := by decide +kernel
theorem dX21_readNumber_103 : decode cX21_readNumber 103 = .ok (.lmul, 1) := by decide +kernel
theorem dX21_readNumber_104 : decode cX21_readNumber 104 = .ok (.aload_n 0, 1) := by decide +kernel
theorem dX21_readNumber_105 : decode cX21_readNumber 105 = .ok (.iload_n 3, 1) := by decide +kernel
theorem dX21_readNumber_106 : decode cX21_readNumber 106 = .ok (.iload 4, 2) := by decide +kernel
theorem dX21_readNumber_108 : decode cX21_readNumber 108 = .ok (.iadd, 1) := by decide +kernel
theorem dX21_readNumber_109 : decode cX21_readNumber 109 = .ok (.invokevirtual 328, 3) := by decide +kernel
theorem dX21_readNumber_112 : decode cX21_readNumber 112 = .ok (.invokestatic 366, 3) := by decide +kernel
theorem dX21_readNumber_115 : decode cX21_readNumber 115 = .ok (.i2l, 1) := by decide +kernel
theorem dX21_readNumber_116 : decode cX21_readNumber 116 = .ok (.ladd, 1) := by decide +kernel
theorem dX21_readNumber_117 : decode cX21_readNumber 117 = .ok (.goto 5, 3) := by decide +kernel
theorem dX21_readNumber_120 : decode cX21_readNumber 120 = .ok (.lload 5, 2) := by decide +kernel
theorem dX21_readNumber_122 : decode cX21_readNumber 122 = .ok (.lstore 5, 2) := by decide +kernel
theorem dX21_readNumber_124 : decode cX21_readNumber 124 = .ok (.iinc 4 1, 3) := by decide +kernel
theorem dX21_readNumber_127 : decode cX21_readNumber 127 = .ok (.goto (-81), 3) := by decide +kernel
theorem dX21_readNumber_130 : decode cX21_readNumber 130 = .ok (.aload_n 0, 1) := by decide +kernel
theorem dX21_readNumber_131 : decode cX21_readNumber 131 = .ok (.iload_n 1, 1) := by decide +kernel
theorem dX21_readNumber_132 : decode cX21_readNumber 132 = .ok (.iload_n 3, 1) := by decide +kernel
theorem dX21_readNumber_133 : decode cX21_readNumber 133 = .ok (.iload_n 1, 1) := by decide +kernel
theorem dX21_readNumber_134 : decode cX21_readNumber 134 = .ok (.isub, 1) := by decide +kernel
theorem dX21_readNumber_135 : decode cX21_readNumber 135 = .ok (.iload 4, 2) := by decide +kernel
theorem dX21_readNumber_137 : decode cX21_readNumber 137 = .ok (.iadd, 1) := by decide +kernel
theorem dX21_readNumber_138 : decode cX21_readNumber 138 = .ok (.iconst 3, 1) := by decide +kernel
theorem dX21_readNumber_139 : decode cX21_readNumber 139 = .ok (.lload 5, 2) := by decide +kernel
theorem dX21_readNumber_141 : decode cX21_readNumber 141 = .ok (.l2i, 1) := by decide +kernel
theorem dX21_readNumber_142 : decode cX21_readNumber 142 = .ok (.invokevirtual 353, 3) := by decide +kernel
theorem dX21_readNumber_145 : decode cX21_readNumber 145 = .ok (.iload_n 2, 1) := by decide +kernel
theorem dX21_readNumber_146 : decode cX21_readNumber 146 = .ok (.ifCond .eq 24, 3) := by decide +kernel
theorem dX21_readNumber_149 : decode cX21_readNumber 149 = .ok (.iload 4, 2) := by decide +kernel
theorem dX21_readNumber_151 : decode cX21_readNumber 151 = .ok (.iconst 1, 1) := by decide +kernel
theorem dX21_readNumber_152 : decode cX21_readNumber 152 = .ok (.if_icmp .lt 14, 3) := by decide +kernel
theorem dX21_readNumber_155 : decode cX21_readNumber 155 = .ok (.iload 4, 2) := by decide +kernel
theorem dX21_readNumber_157 : decode cX21_readNumber 157 = .ok (.bipush 8, 2) := by decide +kernel
theorem dX21_readNumber_159 : decode cX21_readNumber 159 = .ok (.if_icmp .gt 7, 3) := by decide +kernel
theorem dX21_readNumber_162 : decode cX21_readNumber 162 = .ok (.iconst 1, 1) := by decide +kernel
theorem dX21_readNumber_163 : decode cX21_readNumber 163 = .ok (.goto 28, 3) := by decide +kernel
theorem dX21_readNumber_166 : decode cX21_readNumber 166 = .ok (.iconst 0, 1) := by decide +kernel
theorem dX21_readNumber_167 : decode cX21_readNumber 167 = .ok (.goto 24, 3) := by decide +kernel
theorem dX21_readNumber_170 : decode cX21_readNumber 170 = .ok (.iload 4, 2) := by decide +kernel
theorem dX21_readNumber_172 : decode cX21_readNumber 172 = .ok (.bipush 10, 2) := by decide +kernel
theorem dX21_readNumber_174 : decode cX21_readNumber 174 = .ok (.if_icmp .gt 16, 3) := by decide +kernel
theorem dX21_readNumber_177 : decode cX21_readNumber 177 = .ok (.lload 5, 2) := by decide +kernel
theorem dX21_readNumber_179 : decode cX21_readNumber 179 = .ok (.ldc2_w 373, 3) := by decide +kernel
theorem dX21_readNumber_182 : decode cX21_readNumber 182 = .ok (.lcmp, 1) := by decide +kernel
theorem dX21_readNumber_183 : decode cX21_readNumber 183 = .ok (.ifCond .ge 7, 3) := by decide +kernel
theorem dX21_readNumber_186 : decode cX21_readNumber 186 = .ok (.iconst 1, 1) := by decide +kernel
theorem dX21_readNumber_187 : decode cX21_readNumber 187 = .ok (.goto 4, 3) := by decide +kernel
theorem dX21_readNumber_190 : decode cX21_readNumber 190 = .ok (.iconst 0, 1) := by decide +kernel
theorem dX21_readNumber_191 : decode cX21_readNumber 191 = .ok (.ireturn, 1) := by decide +kernel
theorem dX21_figure_0 : decode cX21_figure 0 = .ok (.iload_n 0, 1) := by decide +kernel
theorem dX21_figure_1 : decode cX21_figure 1 = .ok (.invokestatic 324, 3) := by decide +kernel
theorem dX21_figure_4 : decode cX21_figure 4 = .ok (.ifCond .eq 10, 3) := by decide +kernel
theorem dX21_figure_7 : decode cX21_figure 7 = .ok (.iload_n 0, 1) := by decide +kernel
theorem dX21_figure_8 : decode cX21_figure 8 = .ok (.bipush 48, 2) := by decide +kernel
theorem dX21_figure_10 : decode cX21_figure 10 = .ok (.isub, 1) := by decide +kernel
theorem dX21_figure_11 : decode cX21_figure 11 = .ok (.goto 48, 3) := by decide +kernel
theorem dX21_figure_14 : decode cX21_figure 14 = .ok (.iload_n 0, 1) := by decide +kernel
theorem dX21_figure_15 : decode cX21_figure 15 = .ok (.bipush 97, 2) := by decide +kernel
theorem dX21_figure_17 : decode cX21_figure 17 = .ok (.if_icmp .lt 19, 3) := by decide +kernel
theorem dX21_figure_20 : decode cX21_figure 20 = .ok (.iload_n 0, 1) := by decide +kernel
theorem dX21_figure_21 : decode cX21_figure 21 = .ok (.bipush 102, 2) := by decide +kernel
theorem dX21_figure_23 : decode cX21_figure 23 = .ok (.if_icmp .gt 13, 3) := by decide +kernel
theorem dX21_figure_26 : decode cX21_figure 26 = .ok (.iload_n 0, 1) := by decide +kernel
theorem dX21_figure_27 : decode cX21_figure 27 = .ok (.bipush 97, 2) := by decide +kernel
theorem dX21_figure_29 : decode cX21_figure 29 = .ok (.isub, 1) := by decide +kernel
theorem dX21_figure_30 : decode cX21_figure 30 = .ok (.bipush 10, 2) := by decide +kernel
theorem dX21_figure_32 : decode cX21_figure 32 = .ok (.iadd, 1) := by decide +kernel
theorem dX21_figure_33 : decode cX21_figure 33 = .ok (.goto 26, 3) := by decide +kernel
theorem dX21_figure_36 : decode cX21_figure 36 = .ok (.iload_n 0, 1) := by decide +kernel
theorem dX21_figure_37 : decode cX21_figure 37 = .ok (.bipush 65, 2) := by decide +kernel
theorem dX21_figure_39 : decode cX21_figure 39 = .ok (.if_icmp .lt 19, 3) := by decide +kernel
theorem dX21_figure_42 : decode cX21_figure 42 = .ok (.iload_n 0, 1) := by decide +kernel
theorem dX21_figure_43 : decode cX21_figure 43 = .ok (.bipush 70, 2) := by decide +kernel
theorem dX21_figure_45 : decode cX21_figure 45 = .ok (.if_icmp .gt 13, 3) := by decide +kernel
theorem dX21_figure_48 : decode cX21_figure 48 = .ok (.iload_n 0, 1) := by decide +kernel
theorem dX21_figure_49 : decode cX21_figure 49 = .ok (.bipush 65, 2) := by decide +kernel
theorem dX21_figure_51 : decode cX21_figure 51 = .ok (.isub, 1) := by decide +kernel
theorem dX21_figure_52 : decode cX21_figure 52 = .ok (.bipush 10, 2) := by decide +kernel
theorem dX21_figure_54 : decode cX21_figure 54 = .ok (.iadd, 1) := by decide +kernel
theorem dX21_figure_55 : decode cX21_figure 55 = .ok (.goto 4, 3) := by decide +kernel
theorem dX21_figure_58 : decode cX21_figure 58 = .ok (.iconst (-1), 1) := by decide +kernel
theorem dX21_figure_59 : decode cX21_figure 59 = .ok (.ireturn, 1) := by decide +kernel
theorem dX21_character_0 : decode cX21_character 0 = .ok (.aload_n 0, 1) := by decide +kernel
theorem dX21_character_1 : decode cX21_character 1 = .ok (.iload_n 1, 1) := by decide +kernel
theorem dX21_character_2 : decode cX21_character 2 = .ok (.invokevirtual 328, 3) := by decide +kernel
theorem dX21_character_5 : decode cX21_character 5 = .ok (.istore_n 3, 1) := by decide +kernel
theorem dX21_character_6 : decode cX21_character 6 = .ok (.iload_n 3, 1) := by decide +kernel
theorem dX21_character_7 : decode cX21_character 7 = .ok (.bipush 92, 2) := by decide +kernel
theorem dX21_character_9 : decode cX21_character 9 = .ok (.if_icmp .ne 72, 3) := by decide +kernel
theorem dX21_character_12 : decode cX21_character 12 = .ok (.aload_n 0, 1) := by decide +kernel
theorem dX21_character_13 : decode cX21_character 13 = .ok (.iload_n 1, 1) := by decide +kernel
theorem dX21_character_14 : decode cX21_character 14 = .ok (.iconst 1, 1) := by decide +kernel
theorem dX21_character_15 : decode cX21_character 15 = .ok (.iadd, 1) := by decide +kernel
theorem dX21_character_16 : decode cX21_character 16 = .ok (.invokevirtual 328, 3) := by decide +kernel
theorem dX21_character_19 : decode cX21_character 19 = .ok (.istore 4, 2) := by decide +kernel
theorem dX21_character_21 : decode cX21_character 21 = .ok (.iload 4, 2) := by decide +kernel
theorem dX21_character_23 : decode cX21_character 23 = .ok (.bipush 110, 2) := by decide +kernel
theorem dX21_character_25 : decode cX21_character 25 = .ok (.if_icmp .ne 8, 3) := by decide +kernel
theorem dX21_character_28 : decode cX21_character 28 = .ok (.bipush 10, 2) := by decide +kernel
theorem dX21_character_30 : decode cX21_character 30 = .ok (.goto 33, 3) := by decide +kernel
theorem dX21_character_33 : decode cX21_character 33 = .ok (.iload 4, 2) := by decide +kernel
theorem dX21_character_35 : decode cX21_character 35 = .ok (.bipush 48, 2) := by decide +kernel
theorem dX21_character_37 : decode cX21_character 37 = .ok (.if_icmp .ne 7, 3) := by decide +kernel
theorem dX21_character_40 : decode cX21_character 40 = .ok (.iconst 0, 1) := by decide +kernel
theorem dX21_character_41 : decode cX21_character 41 = .ok (.goto 22, 3) := by decide +kernel
theorem dX21_character_44 : decode cX21_character 44 = .ok (.iload 4, 2) := by decide +kernel
theorem dX21_character_46 : decode cX21_character 46 = .ok (.iload_n 2, 1) := by decide +kernel
theorem dX21_character_47 : decode cX21_character 47 = .ok (.if_icmp .eq 10, 3) := by decide +kernel
theorem dX21_character_50 : decode cX21_character 50 = .ok (.iload 4, 2) := by decide +kernel
theorem dX21_character_52 : decode cX21_character 52 = .ok (.bipush 92, 2) := by decide +kernel
theorem dX21_character_54 : decode cX21_character 54 = .ok (.if_icmp .ne 8, 3) := by decide +kernel
theorem dX21_character_57 : decode cX21_character 57 = .ok (.iload 4, 2) := by decide +kernel
theorem dX21_character_59 : decode cX21_character 59 = .ok (.goto 4, 3) := by decide +kernel
theorem dX21_character_62 : decode cX21_character 62 = .ok (.iconst (-1), 1) := by decide +kernel
theorem dX21_character_63 : decode cX21_character 63 = .ok (.istore 5, 2) := by decide +kernel
theorem dX21_character_65 : decode cX21_character 65 = .ok (.iload 5, 2) := by decide +kernel
theorem dX21_character_67 : decode cX21_character 67 = .ok (.ifCond .ge 7, 3) := by decide +kernel
theorem dX21_character_70 : decode cX21_character 70 = .ok (.iconst (-1), 1) := by decide +kernel
theorem dX21_character_71 : decode cX21_character 71 = .ok (.goto 9, 3) := by decide +kernel
theorem dX21_character_74 : decode cX21_character 74 = .ok (.iload 5, 2) := by decide +kernel
theorem dX21_character_76 : decode cX21_character 76 = .ok (.sipush 1000, 3) := by decide +kernel
theorem dX21_character_79 : decode cX21_character 79 = .ok (.iadd, 1) := by decide +kernel
theorem dX21_character_80 : decode cX21_character 80 = .ok (.ireturn, 1) := by decide +kernel
theorem dX21_character_81 : decode cX21_character 81 = .ok (.iload_n 3, 1) := by decide +kernel
theorem dX21_character_82 : decode cX21_character 82 = .ok (.bipush 32, 2) := by decide +kernel
theorem dX21_character_84 : decode cX21_character 84 = .ok (.if_icmp .lt 14, 3) := by decide +kernel
theorem dX21_character_87 : decode cX21_character 87 = .ok (.iload_n 3, 1) := by decide +kernel
theorem dX21_character_88 : decode cX21_character 88 = .ok (.bipush 126, 2) := by decide +kernel
theorem dX21_character_90 : decode cX21_character 90 = .ok (.if_icmp .gt 8, 3) := by decide +kernel
theorem dX21_character_93 : decode cX21_character 93 = .ok (.iload_n 3, 1) := by decide +kernel
theorem dX21_character_94 : decode cX21_character 94 = .ok (.iload_n 2, 1) := by decide +kernel
theorem dX21_character_95 : decode cX21_character 95 = .ok (.if_icmp .ne 7, 3) := by decide +kernel
theorem dX21_character_98 : decode cX21_character 98 = .ok (.iconst (-1), 1) := by decide +kernel
theorem dX21_character_99 : decode cX21_character 99 = .ok (.goto 4, 3) := by decide +kernel
theorem dX21_character_102 : decode cX21_character 102 = .ok (.iload_n 3, 1) := by decide +kernel
theorem dX21_character_103 : decode cX21_character 103 = .ok (.ireturn, 1) := by decide +kernel
theorem dX21_readString_0 : decode cX21_readString 0 = .ok (.iload_n 1, 1) := by decide +kernel
theorem dX21_readString_1 : decode cX21_readString 1 = .ok (.iconst 1, 1) := by decide +kernel
theorem dX21_readString_2 : decode cX21_readString 2 = .ok (.iadd, 1) := by decide +kernel
theorem dX21_readString_3 : decode cX21_readString 3 = .ok (.istore_n 2, 1) := by decide +kernel
theorem dX21_readString_4 : decode cX21_readString 4 = .ok (.iconst 0, 1) := by decide +kernel
theorem dX21_readString_5 : decode cX21_readString 5 = .ok (.istore_n 3, 1) := by decide +kernel
theorem dX21_readString_6 : decode cX21_readString 6 = .ok (.aload_n 0, 1) := by decide +kernel
theorem dX21_readString_7 : decode cX21_readString 7 = .ok (.iload_n 2, 1) := by decide +kernel
theorem dX21_readString_8 : decode cX21_readString 8 = .ok (.bipush 34, 2) := by decide +kernel
theorem dX21_readString_10 : decode cX21_readString 10 = .ok (.invokevirtual 360, 3) := by decide +kernel
theorem dX21_readString_13 : decode cX21_readString 13 = .ok (.istore 4, 2) := by decide +kernel
theorem dX21_readString_15 : decode cX21_readString 15 = .ok (.iload 4, 2) := by decide +kernel
theorem dX21_readString_17 : decode cX21_readString 17 = .ok (.ifCond .lt 34, 3) := by decide +kernel
theorem dX21_readString_20 : decode cX21_readString 20 = .ok (.iload_n 2, 1) := by decide +kernel
theorem dX21_readString_21 : decode cX21_readString 21 = .ok (.iload 4, 2) := by decide +kernel
theorem dX21_readString_23 : decode cX21_readString 23 = .ok (.sipush 1000, 3) := by decide +kernel
theorem dX21_readString_26 : decode cX21_readString 26 = .ok (.if_icmp .ge 7, 3) := by decide +kernel
theorem dX21_readString_29 : decode cX21_readString 29 = .ok (.iconst 1, 1) := by decide +kernel
theorem dX21_readString_30 : decode cX21_readString 30 = .ok (.goto 4, 3) := by decide +kernel
theorem dX21_readString_33 : decode cX21_readString 33 = .ok (.iconst 2, 1) := by decide +kernel
theorem dX21_readString_34 : decode cX21_readString 34 = .ok (.iadd, 1) := by decide +kernel
theorem dX21_readString_35 : decode cX21_readString 35 = .ok (.istore_n 2, 1) := by decide +kernel
theorem dX21_readString_36 : decode cX21_readString 36 = .ok (.iinc 3 1, 3) := by decide +kernel
theorem dX21_readString_39 : decode cX21_readString 39 = .ok (.aload_n 0, 1) := by decide +kernel
theorem dX21_readString_40 : decode cX21_readString 40 = .ok (.iload_n 2, 1) := by decide +kernel
theorem dX21_readString_41 : decode cX21_readString 41 = .ok (.bipush 34, 2) := by decide +kernel
theorem dX21_readString_43 : decode cX21_readString 43 = .ok (.invokevirtual 360, 3) := by decide +kernel
theorem dX21_readString_46 : decode cX21_readString 46 = .ok (.istore 4, 2) := by decide +kernel
theorem dX21_readString_48 : decode cX21_readString 48 = .ok (.goto (-33), 3) := by decide +kernel
theorem dX21_readString_51 : decode cX21_readString 51 = .ok (.aload_n 0, 1) := by decide +kernel
theorem dX21_readString_52 : decode cX21_readString 52 = .ok (.iload_n 1, 1) := by decide +kernel
theorem dX21_readString_53 : decode cX21_readString 53 = .ok (.iload_n 2, 1) := by decide +kernel
theorem dX21_readString_54 : decode cX21_readString 54 = .ok (.iconst 1, 1) := by decide +kernel
theorem dX21_readString_55 : decode cX21_readString 55 = .ok (.iadd, 1) := by decide +kernel
theorem dX21_readString_56 : decode cX21_readString 56 = .ok (.iload_n 1, 1) := by decide +kernel
theorem dX21_readString_57 : decode cX21_readString 57 = .ok (.isub, 1) := by decide +kernel
theorem dX21_readString_58 : decode cX21_readString 58 = .ok (.iconst 4, 1) := by decide +kernel
theorem dX21_readString_59 : decode cX21_readString 59 = .ok (.iload_n 3, 1) := by decide +kernel
theorem dX21_readString_60 : decode cX21_readString 60 = .ok (.invokevirtual 353, 3) := by decide +kernel
theorem dX21_readString_63 : decode cX21_readString 63 = .ok (.aload_n 0, 1) := by decide +kernel
theorem dX21_readString_64 : decode cX21_readString 64 = .ok (.iload_n 2, 1) := by decide +kernel
theorem dX21_readString_65 : decode cX21_readString 65 = .ok (.invokevirtual 328, 3) := by decide +kernel
theorem dX21_readString_68 : decode cX21_readString 68 = .ok (.bipush 34, 2) := by decide +kernel
theorem dX21_readString_70 : decode cX21_readString 70 = .ok (.if_icmp .ne 14, 3) := by decide +kernel
theorem dX21_readString_73 : decode cX21_readString 73 = .ok (.iload_n 3, 1) := by decide +kernel
theorem dX21_readString_74 : decode cX21_readString 74 = .ok (.sipush 200, 3) := by decide +kernel
theorem dX21_readString_77 : decode cX21_readString 77 = .ok (.if_icmp .gt 7, 3) := by decide +kernel
theorem dX21_readString_80 : decode cX21_readString 80 = .ok (.iconst 1, 1) := by decide +kernel
theorem dX21_readString_81 : decode cX21_readString 81 = .ok (.goto 4, 3) := by decide +kernel
theorem dX21_readString_84 : decode cX21_readString 84 = .ok (.iconst 0, 1) := by decide +kernel
theorem dX21_readString_85 : decode cX21_readString 85 = .ok (.ireturn, 1) := by decide +kernel
theorem dX21_isText_0 : decode cX21_isText 0 = .ok (.iconst 1, 1) := by decide +kernel
theorem dX21_isText_1 : decode cX21_isText 1 = .ok (.istore_n 1, 1) := by decide +kernel
theorem dX21_isText_2 : decode cX21_isText 2 = .ok (.aload_n 0, 1) := by decide +kernel
theorem dX21_isText_3 : decode cX21_isText 3 = .ok (.invokevirtual 736, 3) := by decide +kernel
theorem dX21_isText_6 : decode cX21_isText 6 = .ok (.goto 6, 3) := by decide +kernel
theorem dX21_isText_9 : decode cX21_isText 9 = .ok (.astore_n 2, 1) := by decide +kernel
theorem dX21_isText_10 : decode cX21_isText 10 = .ok (.iconst 0, 1) := by decide +kernel
theorem dX21_isText_11 : decode cX21_isText 11 = .ok (.istore_n 1, 1) := by decide +kernel
theorem dX21_isText_12 : decode cX21_isText 12 = .ok (.iload_n 1, 1) := by decide +kernel
theorem dX21_isText_13 : decode cX21_isText 13 = .ok (.ireturn, 1) := by decide +kernel
theorem dX21_whole_0 : decode cX21_whole 0 = .ok (.aload_n 0, 1) := by decide +kernel
theorem dX21_whole_1 : decode cX21_whole 1 = .ok (.getfield 202, 3) := by decide +kernel
theorem dX21_whole_4 : decode cX21_whole 4 = .ok (.aload_n 0, 1) := by decide +kernel
theorem dX21_whole_5 : decode cX21_whole 5 = .ok (.getfield 388, 3) := by decide +kernel
theorem dX21_whole_8 : decode cX21_whole 8 = .ok (.baload, 1) := by decide +kernel
theorem dX21_whole_9 : decode cX21_whole 9 = .ok (.bipush 7, 2) := by decide +kernel
theorem dX21_whole_11 : decode cX21_whole 11 = .ok (.if_icmp .eq 10, 3) := by decide +kernel
theorem dX21_whole_14 : decode cX21_whole 14 = .ok (.aload_n 0, 1) := by decide +kernel
theorem dX21_whole_15 : decode cX21_whole 15 = .ok (.invokevirtual 547, 3) := by decide +kernel
theorem dX21_whole_18 : decode cX21_whole 18 = .ok (.goto (-18), 3) := by decide +kernel
theorem dX21_whole_21 : decode cX21_whole 21 = .ok (.return_, 1) := by decide +kernel
theorem dX21_piece_0 : decode cX21_piece 0 = .ok (.aload_n 0, 1) := by decide +kernel
theorem dX21_piece_1 : decode cX21_piece 1 = .ok (.iconst 3, 1) := by decide +kernel
theorem dX21_piece_2 : decode cX21_piece 2 = .ok (.invokevirtual 405, 3) := by decide +kernel
theorem dX21_piece_5 : decode cX21_piece 5 = .ok (.ifCond .eq 8, 3) := by decide +kernel
theorem dX21_piece_8 : decode cX21_piece 8 = .ok (.aload_n 0, 1) := by decide +kernel
theorem dX21_piece_9 : decode cX21_piece 9 = .ok (.invokevirtual 540, 3) := by decide +kernel
theorem dX21_piece_12 : decode cX21_piece 12 = .ok (.return_, 1) := by decide +kernel
theorem dX21_piece_13 : decode cX21_piece 13 = .ok (.aload_n 0, 1) := by decide +kernel
theorem dX21_piece_14 : decode cX21_piece 14 = .ok (.aload_n 0, 1) := by decide +kernel
theorem dX21_piece_15 : decode cX21_piece 15 = .ok (.invokevirtual 501, 3) := by decide +kernel
theorem dX21_piece_18 : decode cX21_piece 18 = .ok (.ifCond .ne 11, 3) := by decide +kernel
theorem dX21_piece_21 : decode cX21_piece 21 = .ok (.aload_n 0, 1) := by decide +kernel
theorem dX21_piece_22 : decode cX21_piece 22 = .ok (.iconst 2, 1) := by decide +kernel
theorem dX21_piece_23 : decode cX21_piece 23 = .ok (.invokevirtual 405, 3) := by decide +kernel
theorem dX21_piece_26 : decode cX21_piece 26 = .ok (.ifCond .eq 7, 3) := by decide +kernel
theorem dX21_piece_29 : decode cX21_piece 29 = .ok (.iconst 1, 1) := by decide +kernel
theorem dX21_piece_30 : decode cX21_piece 30 = .ok (.goto 4, 3) := by decide +kernel
theorem dX21_piece_33 : decode cX21_piece 33 = .ok (.iconst 0, 1) := by decide +kernel
theorem dX21_piece_34 : decode cX21_piece 34 = .ok (.invokevirtual 401, 3) := by decide +kernel
theorem dX21_piece_37 : decode cX21_piece 37 = .ok (.aload_n 0, 1) := by decide +kernel
theorem dX21_piece_38 : decode cX21_piece 38 = .ok (.getfield 205, 3) := by decide +kernel
theorem dX21_piece_41 : decode cX21_piece 41 = .ok (.aload_n 0, 1) := by decide +kernel
theorem dX21_piece_42 : decode cX21_piece 42 = .ok (.getfield 388, 3) := by decide +kernel
theorem dX21_piece_45 : decode cX21_piece 45 = .ok (.iaload, 1) := by decide +kernel
theorem dX21_piece_46 : decode cX21_piece 46 = .ok (.istore_n 1, 1) := by decide +kernel
theorem dX21_piece_47 : decode cX21_piece 47 = .ok (.aload_n 0, 1) := by decide +kernel
theorem dX21_piece_48 : decode cX21_piece 48 = .ok (.getfield 202, 3) := by decide +kernel
theorem dX21_piece_51 : decode cX21_piece 51 = .ok (.aload_n 0, 1) := by decide +kernel
theorem dX21_piece_52 : decode cX21_piece 52 = .ok (.getfield 388, 3) := by decide +kernel
theorem dX21_piece_55 : decode cX21_piece 55 = .ok (.iconst 1, 1) := by decide +kernel
theorem dX21_piece_56 : decode cX21_piece 56 = .ok (.iadd, 1) := by decide +kernel
theorem dX21_piece_57 : decode cX21_piece 57 = .ok (.baload, 1) := by decide +kernel
theorem dX21_piece_58 : decode cX21_piece 58 = .ok (.iconst 1, 1) := by decide +kernel
theorem dX21_piece_59 : decode cX21_piece 59 = .ok (.if_icmp .ne 22, 3) := by decide +kernel
theorem dX21_piece_62 : decode cX21_piece 62 = .ok (.aload_n 0, 1) := by decide +kernel
theorem dX21_piece_63 : decode cX21_piece 63 = .ok (.aload_n 0, 1) := by decide +kernel
theorem dX21_piece_64 : decode cX21_piece 64 = .ok (.getfield 388, 3) := by decide +kernel
theorem dX21_piece_67 : decode cX21_piece 67 = .ok (.iconst 2, 1) := by decide +kernel
theorem dX21_piece_68 : decode cX21_piece 68 = .ok (.iadd, 1) := by decide +kernel
theorem dX21_piece_69 : decode cX21_piece 69 = .ok (.ldc 85, 2) := by decide +kernel
theorem dX21_piece_71 : decode cX21_piece 71 = .ok (.invokevirtual 391, 3) := by decide +kernel
theorem dX21_piece_74 : decode cX21_piece 74 = .ok (.ifCond .eq 7, 3) := by decide +kernel
theorem dX21_piece_77 : decode cX21_piece 77 = .ok (.iconst 1, 1) := by decide +kernel
theorem dX21_piece_78 : decode cX21_piece 78 = .ok (.goto 4, 3) := by decide +kernel
theorem dX21_piece_81 : decode cX21_piece 81 = .ok (.iconst 0, 1) := by decide +kernel
theorem dX21_piece_82 : decode cX21_piece 82 = .ok (.istore_n 2, 1) := by decide +kernel
theorem dX21_piece_83 : decode cX21_piece 83 = .ok (.iload_n 2, 1) := by decide +kernel
theorem dX21_piece_84 : decode cX21_piece 84 = .ok (.ifCond .ne 8, 3) := by decide +kernel
theorem dX21_piece_87 : decode cX21_piece 87 = .ok (.iload_n 1, 1) := by decide +kernel
theorem dX21_piece_88 : decode cX21_piece 88 = .ok (.iconst 2, 1) := by decide +kernel
theorem dX21_piece_89 : decode cX21_piece 89 = .ok (.if_icmp .ne 35, 3) := by decide +kernel
theorem dX21_piece_92 : decode cX21_piece 92 = .ok (.aload_n 0, 1) := by decide +kernel
theorem dX21_piece_93 : decode cX21_piece 93 = .ok (.dup, 1) := by decide +kernel
theorem dX21_piece_94 : decode cX21_piece 94 = .ok (.getfield 388, 3) := by decide +kernel
theorem dX21_piece_97 : decode cX21_piece 97 = .ok (.iconst 1, 1) := by decide +kernel
theorem dX21_piece_98 : decode cX21_piece 98 = .ok (.iadd, 1) := by decide +kernel
theorem dX21_piece_99 : decode cX21_piece 99 = .ok (.putfield 388, 3) := by decide +kernel
theorem dX21_piece_102 : decode cX21_piece 102 = .ok (.aload_n 0, 1) := by decide +kernel
theorem dX21_piece_103 : decode cX21_piece 103 = .ok (.invokevirtual 470, 3) := by decide +kernel
theorem dX21_piece_106 : decode cX21_piece 106 = .ok (.istore_n 3, 1) := by decide +kernel
theorem dX21_piece_107 : decode cX21_piece 107 = .ok (.aload_n 0, 1) := by decide +kernel
theorem dX21_piece_108 : decode cX21_piece 108 = .ok (.aload_n 0, 1) := by decide +kernel
theorem dX21_piece_109 : decode cX21_piece 109 = .ok (.ldc 85, 2) := by decide +kernel
theorem dX21_piece_111 : decode cX21_piece 111 = .ok (.invokevirtual 394, 3) := by decide +kernel
theorem dX21_piece_114 : decode cX21_piece 114 = .ok (.invokevirtual 401, 3) := by decide +kernel
theorem dX21_piece_117 : decode cX21_piece 117 = .ok (.aload_n 0, 1) := by decide +kernel
theorem dX21_piece_118 : decode cX21_piece 118 = .ok (.iload_n 1, 1) := by decide +kernel
theorem dX21_piece_119 : decode cX21_piece 119 = .ok (.iload_n 3, 1) := by decide +kernel
theorem dX21_piece_120 : decode cX21_piece 120 = .ok (.invokevirtual 543, 3) := by decide +kernel
theorem dX21_piece_123 : decode cX21_piece 123 = .ok (.return_, 1) := by decide +kernel
theorem dX21_piece_124 : decode cX21_piece 124 = .ok (.aload_n 0, 1) := by decide +kernel
theorem dX21_piece_125 : decode cX21_piece 125 = .ok (.aload_n 0, 1) := by decide +kernel
theorem dX21_piece_126 : decode cX21_piece 126 = .ok (.invokevirtual 504, 3) := by decide +kernel
theorem dX21_piece_129 : decode cX21_piece 129 = .ok (.invokevirtual 534, 3) := by decide +kernel
theorem dX21_piece_132 : decode cX21_piece 132 = .ok (.return_, 1) := by decide +kernel
theorem dX21_isKey_0 : decode cX21_isKey 0 = .ok (.aload_n 0, 1) := by decide +kernel
theorem dX21_isKey_1 : decode cX21_isKey 1 = .ok (.getfield 202, 3) := by decide +kernel
theorem dX21_isKey_4 : decode cX21_isKey 4 = .ok (.aload_n 0, 1) := by decide +kernel
theorem dX21_isKey_5 : decode cX21_isKey 5 = .ok (.getfield 388, 3) := by decide +kernel
