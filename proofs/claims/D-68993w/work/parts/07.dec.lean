set_option maxRecDepth 100000
theorem dX21_reckon_97 : decode cX21_reckon 97 = .ok (.getfield 195, 3) := by decide +kernel
theorem dX21_reckon_100 : decode cX21_reckon 100 = .ok (.aload_n 0, 1) := by decide +kernel
theorem dX21_reckon_101 : decode cX21_reckon 101 = .ok (.getfield 211, 3) := by decide +kernel
theorem dX21_reckon_104 : decode cX21_reckon 104 = .ok (.iload_n 1, 1) := by decide +kernel
theorem dX21_reckon_105 : decode cX21_reckon 105 = .ok (.iaload, 1) := by decide +kernel
theorem dX21_reckon_106 : decode cX21_reckon 106 = .ok (.iaload, 1) := by decide +kernel
theorem dX21_reckon_107 : decode cX21_reckon 107 = .ok (.baload, 1) := by decide +kernel
theorem dX21_reckon_108 : decode cX21_reckon 108 = .ok (.istore_n 3, 1) := by decide +kernel
theorem dX21_reckon_109 : decode cX21_reckon 109 = .ok (.iload_n 3, 1) := by decide +kernel
theorem dX21_reckon_110 : decode cX21_reckon 110 = .ok (.bipush 45, 2) := by decide +kernel
theorem dX21_reckon_112 : decode cX21_reckon 112 = .ok (.if_icmp .ne 8, 3) := by decide +kernel
theorem dX21_reckon_115 : decode cX21_reckon 115 = .ok (.iload_n 2, 1) := by decide +kernel
theorem dX21_reckon_116 : decode cX21_reckon 116 = .ok (.ineg, 1) := by decide +kernel
theorem dX21_reckon_117 : decode cX21_reckon 117 = .ok (.goto 34, 3) := by decide +kernel
theorem dX21_reckon_120 : decode cX21_reckon 120 = .ok (.iload_n 3, 1) := by decide +kernel
theorem dX21_reckon_121 : decode cX21_reckon 121 = .ok (.bipush 33, 2) := by decide +kernel
theorem dX21_reckon_123 : decode cX21_reckon 123 = .ok (.if_icmp .ne 15, 3) := by decide +kernel
theorem dX21_reckon_126 : decode cX21_reckon 126 = .ok (.iload_n 2, 1) := by decide +kernel
theorem dX21_reckon_127 : decode cX21_reckon 127 = .ok (.ifCond .ne 7, 3) := by decide +kernel
theorem dX21_reckon_130 : decode cX21_reckon 130 = .ok (.iconst 1, 1) := by decide +kernel
theorem dX21_reckon_131 : decode cX21_reckon 131 = .ok (.goto 20, 3) := by decide +kernel
theorem dX21_reckon_134 : decode cX21_reckon 134 = .ok (.iconst 0, 1) := by decide +kernel
theorem dX21_reckon_135 : decode cX21_reckon 135 = .ok (.goto 16, 3) := by decide +kernel
theorem dX21_reckon_138 : decode cX21_reckon 138 = .ok (.iload_n 3, 1) := by decide +kernel
theorem dX21_reckon_139 : decode cX21_reckon 139 = .ok (.bipush 126, 2) := by decide +kernel
theorem dX21_reckon_141 : decode cX21_reckon 141 = .ok (.if_icmp .ne 9, 3) := by decide +kernel
theorem dX21_reckon_144 : decode cX21_reckon 144 = .ok (.iload_n 2, 1) := by decide +kernel
theorem dX21_reckon_145 : decode cX21_reckon 145 = .ok (.iconst (-1), 1) := by decide +kernel
theorem dX21_reckon_146 : decode cX21_reckon 146 = .ok (.ixor, 1) := by decide +kernel
theorem dX21_reckon_147 : decode cX21_reckon 147 = .ok (.goto 4, 3) := by decide +kernel
theorem dX21_reckon_150 : decode cX21_reckon 150 = .ok (.iload_n 2, 1) := by decide +kernel
theorem dX21_reckon_151 : decode cX21_reckon 151 = .ok (.ireturn, 1) := by decide +kernel
theorem dX21_reckon_152 : decode cX21_reckon 152 = .ok (.aload_n 0, 1) := by decide +kernel
theorem dX21_reckon_153 : decode cX21_reckon 153 = .ok (.aload_n 0, 1) := by decide +kernel
theorem dX21_reckon_154 : decode cX21_reckon 154 = .ok (.getfield 217, 3) := by decide +kernel
theorem dX21_reckon_157 : decode cX21_reckon 157 = .ok (.iload_n 1, 1) := by decide +kernel
theorem dX21_reckon_158 : decode cX21_reckon 158 = .ok (.iaload, 1) := by decide +kernel
theorem dX21_reckon_159 : decode cX21_reckon 159 = .ok (.invokevirtual 640, 3) := by decide +kernel
theorem dX21_reckon_162 : decode cX21_reckon 162 = .ok (.ifCond .eq 16, 3) := by decide +kernel
theorem dX21_reckon_165 : decode cX21_reckon 165 = .ok (.aload_n 0, 1) := by decide +kernel
theorem dX21_reckon_166 : decode cX21_reckon 166 = .ok (.aload_n 0, 1) := by decide +kernel
theorem dX21_reckon_167 : decode cX21_reckon 167 = .ok (.getfield 220, 3) := by decide +kernel
theorem dX21_reckon_170 : decode cX21_reckon 170 = .ok (.iload_n 1, 1) := by decide +kernel
theorem dX21_reckon_171 : decode cX21_reckon 171 = .ok (.iaload, 1) := by decide +kernel
theorem dX21_reckon_172 : decode cX21_reckon 172 = .ok (.invokevirtual 640, 3) := by decide +kernel
theorem dX21_reckon_175 : decode cX21_reckon 175 = .ok (.goto 13, 3) := by decide +kernel
theorem dX21_reckon_178 : decode cX21_reckon 178 = .ok (.aload_n 0, 1) := by decide +kernel
theorem dX21_reckon_179 : decode cX21_reckon 179 = .ok (.aload_n 0, 1) := by decide +kernel
theorem dX21_reckon_180 : decode cX21_reckon 180 = .ok (.getfield 223, 3) := by decide +kernel
theorem dX21_reckon_183 : decode cX21_reckon 183 = .ok (.iload_n 1, 1) := by decide +kernel
theorem dX21_reckon_184 : decode cX21_reckon 184 = .ok (.iaload, 1) := by decide +kernel
theorem dX21_reckon_185 : decode cX21_reckon 185 = .ok (.invokevirtual 640, 3) := by decide +kernel
theorem dX21_reckon_188 : decode cX21_reckon 188 = .ok (.ireturn, 1) := by decide +kernel
theorem dX21_reckon_189 : decode cX21_reckon 189 = .ok (.aload_n 0, 1) := by decide +kernel
theorem dX21_reckon_190 : decode cX21_reckon 190 = .ok (.getfield 232, 3) := by decide +kernel
theorem dX21_reckon_193 : decode cX21_reckon 193 = .ok (.iload_n 1, 1) := by decide +kernel
theorem dX21_reckon_194 : decode cX21_reckon 194 = .ok (.iaload, 1) := by decide +kernel
theorem dX21_reckon_195 : decode cX21_reckon 195 = .ok (.istore 4, 2) := by decide +kernel
theorem dX21_reckon_197 : decode cX21_reckon 197 = .ok (.aload_n 0, 1) := by decide +kernel
theorem dX21_reckon_198 : decode cX21_reckon 198 = .ok (.aload_n 0, 1) := by decide +kernel
theorem dX21_reckon_199 : decode cX21_reckon 199 = .ok (.getfield 217, 3) := by decide +kernel
theorem dX21_reckon_202 : decode cX21_reckon 202 = .ok (.iload_n 1, 1) := by decide +kernel
theorem dX21_reckon_203 : decode cX21_reckon 203 = .ok (.iaload, 1) := by decide +kernel
theorem dX21_reckon_204 : decode cX21_reckon 204 = .ok (.invokevirtual 640, 3) := by decide +kernel
theorem dX21_reckon_207 : decode cX21_reckon 207 = .ok (.istore 5, 2) := by decide +kernel
theorem dX21_reckon_209 : decode cX21_reckon 209 = .ok (.aload_n 0, 1) := by decide +kernel
theorem dX21_reckon_210 : decode cX21_reckon 210 = .ok (.getfield 229, 3) := by decide +kernel
theorem dX21_reckon_213 : decode cX21_reckon 213 = .ok (.aload_n 0, 1) := by decide +kernel
theorem dX21_reckon_214 : decode cX21_reckon 214 = .ok (.getfield 217, 3) := by decide +kernel
theorem dX21_reckon_217 : decode cX21_reckon 217 = .ok (.iload_n 1, 1) := by decide +kernel
theorem dX21_reckon_218 : decode cX21_reckon 218 = .ok (.iaload, 1) := by decide +kernel
theorem dX21_reckon_219 : decode cX21_reckon 219 = .ok (.iaload, 1) := by decide +kernel
theorem dX21_reckon_220 : decode cX21_reckon 220 = .ok (.istore 6, 2) := by decide +kernel
theorem dX21_reckon_222 : decode cX21_reckon 222 = .ok (.iload 6, 2) := by decide +kernel
theorem dX21_reckon_224 : decode cX21_reckon 224 = .ok (.ifCond .lt 96, 3) := by decide +kernel
theorem dX21_reckon_227 : decode cX21_reckon 227 = .ok (.iload 4, 2) := by decide +kernel
theorem dX21_reckon_229 : decode cX21_reckon 229 = .ok (.iconst 1, 1) := by decide +kernel
theorem dX21_reckon_230 : decode cX21_reckon 230 = .ok (.if_icmp .ne 27, 3) := by decide +kernel
theorem dX21_reckon_233 : decode cX21_reckon 233 = .ok (.iload 5, 2) := by decide +kernel
theorem dX21_reckon_235 : decode cX21_reckon 235 = .ok (.ifCond .ne 12, 3) := by decide +kernel
theorem dX21_reckon_238 : decode cX21_reckon 238 = .ok (.aload_n 0, 1) := by decide +kernel
theorem dX21_reckon_239 : decode cX21_reckon 239 = .ok (.iload 6, 2) := by decide +kernel
theorem dX21_reckon_241 : decode cX21_reckon 241 = .ok (.invokevirtual 640, 3) := by decide +kernel
theorem dX21_reckon_244 : decode cX21_reckon 244 = .ok (.ifCond .eq 7, 3) := by decide +kernel
theorem dX21_reckon_247 : decode cX21_reckon 247 = .ok (.iconst 1, 1) := by decide +kernel
theorem dX21_reckon_248 : decode cX21_reckon 248 = .ok (.goto 4, 3) := by decide +kernel
theorem dX21_reckon_251 : decode cX21_reckon 251 = .ok (.iconst 0, 1) := by decide +kernel
theorem dX21_reckon_252 : decode cX21_reckon 252 = .ok (.istore 5, 2) := by decide +kernel
theorem dX21_reckon_254 : decode cX21_reckon 254 = .ok (.goto 54, 3) := by decide +kernel
theorem dX21_reckon_257 : decode cX21_reckon 257 = .ok (.iload 4, 2) := by decide +kernel
theorem dX21_reckon_259 : decode cX21_reckon 259 = .ok (.iconst 2, 1) := by decide +kernel
theorem dX21_reckon_260 : decode cX21_reckon 260 = .ok (.if_icmp .ne 27, 3) := by decide +kernel
theorem dX21_reckon_263 : decode cX21_reckon 263 = .ok (.iload 5, 2) := by decide +kernel
theorem dX21_reckon_265 : decode cX21_reckon 265 = .ok (.ifCond .eq 16, 3) := by decide +kernel
theorem dX21_reckon_268 : decode cX21_reckon 268 = .ok (.aload_n 0, 1) := by decide +kernel
theorem dX21_reckon_269 : decode cX21_reckon 269 = .ok (.iload 6, 2) := by decide +kernel
theorem dX21_reckon_271 : decode cX21_reckon 271 = .ok (.invokevirtual 640, 3) := by decide +kernel
theorem dX21_reckon_274 : decode cX21_reckon 274 = .ok (.ifCond .eq 7, 3) := by decide +kernel
theorem dX21_reckon_277 : decode cX21_reckon 277 = .ok (.iconst 1, 1) := by decide +kernel
theorem dX21_reckon_278 : decode cX21_reckon 278 = .ok (.goto 4, 3) := by decide +kernel
theorem dX21_reckon_281 : decode cX21_reckon 281 = .ok (.iconst 0, 1) := by decide +kernel
theorem dX21_reckon_282 : decode cX21_reckon 282 = .ok (.istore 5, 2) := by decide +kernel
theorem dX21_reckon_284 : decode cX21_reckon 284 = .ok (.goto 24, 3) := by decide +kernel
theorem dX21_reckon_287 : decode cX21_reckon 287 = .ok (.aload_n 0, 1) := by decide +kernel
theorem dX21_reckon_288 : decode cX21_reckon 288 = .ok (.aload_n 0, 1) := by decide +kernel
theorem dX21_reckon_289 : decode cX21_reckon 289 = .ok (.getfield 226, 3) := by decide +kernel
theorem dX21_reckon_292 : decode cX21_reckon 292 = .ok (.iload 6, 2) := by decide +kernel
theorem dX21_reckon_294 : decode cX21_reckon 294 = .ok (.iaload, 1) := by decide +kernel
theorem dX21_reckon_295 : decode cX21_reckon 295 = .ok (.iload 5, 2) := by decide +kernel
theorem dX21_reckon_297 : decode cX21_reckon 297 = .ok (.aload_n 0, 1) := by decide +kernel
theorem dX21_reckon_298 : decode cX21_reckon 298 = .ok (.iload 6, 2) := by decide +kernel
theorem dX21_reckon_300 : decode cX21_reckon 300 = .ok (.invokevirtual 640, 3) := by decide +kernel
theorem dX21_reckon_303 : decode cX21_reckon 303 = .ok (.invokevirtual 646, 3) := by decide +kernel
theorem dX21_reckon_306 : decode cX21_reckon 306 = .ok (.istore 5, 2) := by decide +kernel
theorem dX21_reckon_308 : decode cX21_reckon 308 = .ok (.aload_n 0, 1) := by decide +kernel
theorem dX21_reckon_309 : decode cX21_reckon 309 = .ok (.getfield 229, 3) := by decide +kernel
theorem dX21_reckon_312 : decode cX21_reckon 312 = .ok (.iload 6, 2) := by decide +kernel
theorem dX21_reckon_314 : decode cX21_reckon 314 = .ok (.iaload, 1) := by decide +kernel
theorem dX21_reckon_315 : decode cX21_reckon 315 = .ok (.istore 6, 2) := by decide +kernel
theorem dX21_reckon_317 : decode cX21_reckon 317 = .ok (.goto (-95), 3) := by decide +kernel
theorem dX21_reckon_320 : decode cX21_reckon 320 = .ok (.iload 5, 2) := by decide +kernel
theorem dX21_reckon_322 : decode cX21_reckon 322 = .ok (.ireturn, 1) := by decide +kernel
theorem dX21_two_0 : decode cX21_two 0 = .ok (.aload_n 0, 1) := by decide +kernel
theorem dX21_two_1 : decode cX21_two 1 = .ok (.getfield 131, 3) := by decide +kernel
theorem dX21_two_4 : decode cX21_two 4 = .ok (.aload_n 0, 1) := by decide +kernel
theorem dX21_two_5 : decode cX21_two 5 = .ok (.getfield 205, 3) := by decide +kernel
theorem dX21_two_8 : decode cX21_two 8 = .ok (.iload_n 1, 1) := by decide +kernel
theorem dX21_two_9 : decode cX21_two 9 = .ok (.iaload, 1) := by decide +kernel
theorem dX21_two_10 : decode cX21_two 10 = .ok (.aaload, 1) := by decide +kernel
theorem dX21_two_11 : decode cX21_two 11 = .ok (.astore 4, 2) := by decide +kernel
theorem dX21_two_13 : decode cX21_two 13 = .ok (.aload 4, 2) := by decide +kernel
theorem dX21_two_15 : decode cX21_two 15 = .ok (.invokevirtual 335, 3) := by decide +kernel
theorem dX21_two_18 : decode cX21_two 18 = .ok (.iconst 2, 1) := by decide +kernel
theorem dX21_two_19 : decode cX21_two 19 = .ok (.if_icmp .ne 127, 3) := by decide +kernel
theorem dX21_two_22 : decode cX21_two 22 = .ok (.aload 4, 2) := by decide +kernel
theorem dX21_two_24 : decode cX21_two 24 = .ok (.ldc 69, 2) := by decide +kernel
theorem dX21_two_26 : decode cX21_two 26 = .ok (.invokevirtual 384, 3) := by decide +kernel
theorem dX21_two_29 : decode cX21_two 29 = .ok (.ifCond .eq 16, 3) := by decide +kernel
theorem dX21_two_32 : decode cX21_two 32 = .ok (.iload_n 2, 1) := by decide +kernel
theorem dX21_two_33 : decode cX21_two 33 = .ok (.iload_n 3, 1) := by decide +kernel
theorem dX21_two_34 : decode cX21_two 34 = .ok (.if_icmp .ne 7, 3) := by decide +kernel
theorem dX21_two_37 : decode cX21_two 37 = .ok (.iconst 1, 1) := by decide +kernel
theorem dX21_two_38 : decode cX21_two 38 = .ok (.goto 63, 3) := by decide +kernel
theorem dX21_two_41 : decode cX21_two 41 = .ok (.iconst 0, 1) := by decide +kernel
theorem dX21_two_42 : decode cX21_two 42 = .ok (.goto 59, 3) := by decide +kernel
theorem dX21_two_45 : decode cX21_two 45 = .ok (.aload 4, 2) := by decide +kernel
theorem dX21_two_47 : decode cX21_two 47 = .ok (.ldc 71, 2) := by decide +kernel
theorem dX21_two_49 : decode cX21_two 49 = .ok (.invokevirtual 384, 3) := by decide +kernel
theorem dX21_two_52 : decode cX21_two 52 = .ok (.ifCond .eq 16, 3) := by decide +kernel
theorem dX21_two_55 : decode cX21_two 55 = .ok (.iload_n 2, 1) := by decide +kernel
theorem dX21_two_56 : decode cX21_two 56 = .ok (.iload_n 3, 1) := by decide +kernel
theorem dX21_two_57 : decode cX21_two 57 = .ok (.if_icmp .eq 7, 3) := by decide +kernel
theorem dX21_two_60 : decode cX21_two 60 = .ok (.iconst 1, 1) := by decide +kernel
theorem dX21_two_61 : decode cX21_two 61 = .ok (.goto 40, 3) := by decide +kernel
theorem dX21_two_64 : decode cX21_two 64 = .ok (.iconst 0, 1) := by decide +kernel
theorem dX21_two_65 : decode cX21_two 65 = .ok (.goto 36, 3) := by decide +kernel
theorem dX21_two_68 : decode cX21_two 68 = .ok (.aload 4, 2) := by decide +kernel
theorem dX21_two_70 : decode cX21_two 70 = .ok (.ldc 73, 2) := by decide +kernel
theorem dX21_two_72 : decode cX21_two 72 = .ok (.invokevirtual 384, 3) := by decide +kernel
theorem dX21_two_75 : decode cX21_two 75 = .ok (.ifCond .eq 16, 3) := by decide +kernel
theorem dX21_two_78 : decode cX21_two 78 = .ok (.iload_n 2, 1) := by decide +kernel
theorem dX21_two_79 : decode cX21_two 79 = .ok (.iload_n 3, 1) := by decide +kernel
theorem dX21_two_80 : decode cX21_two 80 = .ok (.if_icmp .gt 7, 3) := by decide +kernel
theorem dX21_two_83 : decode cX21_two 83 = .ok (.iconst 1, 1) := by decide +kernel
theorem dX21_two_84 : decode cX21_two 84 = .ok (.goto 17, 3) := by decide +kernel
theorem dX21_two_87 : decode cX21_two 87 = .ok (.iconst 0, 1) := by decide +kernel
theorem dX21_two_88 : decode cX21_two 88 = .ok (.goto 13, 3) := by decide +kernel
theorem dX21_two_91 : decode cX21_two 91 = .ok (.iload_n 2, 1) := by decide +kernel
theorem dX21_two_92 : decode cX21_two 92 = .ok (.iload_n 3, 1) := by decide +kernel
theorem dX21_two_93 : decode cX21_two 93 = .ok (.if_icmp .lt 7, 3) := by decide +kernel
theorem dX21_two_96 : decode cX21_two 96 = .ok (.iconst 1, 1) := by decide +kernel
theorem dX21_two_97 : decode cX21_two 97 = .ok (.goto 4, 3) := by decide +kernel
theorem dX21_two_100 : decode cX21_two 100 = .ok (.iconst 0, 1) := by decide +kernel
theorem dX21_two_101 : decode cX21_two 101 = .ok (.istore 5, 2) := by decide +kernel
theorem dX21_two_103 : decode cX21_two 103 = .ok (.aload 4, 2) := by decide +kernel
theorem dX21_two_105 : decode cX21_two 105 = .ok (.ldc 77, 2) := by decide +kernel
theorem dX21_two_107 : decode cX21_two 107 = .ok (.invokevirtual 384, 3) := by decide +kernel
theorem dX21_two_110 : decode cX21_two 110 = .ok (.ifCond .eq 9, 3) := by decide +kernel
theorem dX21_two_113 : decode cX21_two 113 = .ok (.iload_n 2, 1) := by decide +kernel
theorem dX21_two_114 : decode cX21_two 114 = .ok (.iload_n 3, 1) := by decide +kernel
theorem dX21_two_115 : decode cX21_two 115 = .ok (.ishl, 1) := by decide +kernel
theorem dX21_two_116 : decode cX21_two 116 = .ok (.goto 29, 3) := by decide +kernel
theorem dX21_two_119 : decode cX21_two 119 = .ok (.aload 4, 2) := by decide +kernel
theorem dX21_two_121 : decode cX21_two 121 = .ok (.ldc 79, 2) := by decide +kernel
theorem dX21_two_123 : decode cX21_two 123 = .ok (.invokevirtual 384, 3) := by decide +kernel
theorem dX21_two_126 : decode cX21_two 126 = .ok (.ifCond .eq 9, 3) := by decide +kernel
theorem dX21_two_129 : decode cX21_two 129 = .ok (.iload_n 2, 1) := by decide +kernel
theorem dX21_two_130 : decode cX21_two 130 = .ok (.iload_n 3, 1) := by decide +kernel
theorem dX21_two_131 : decode cX21_two 131 = .ok (.ishr, 1) := by decide +kernel
theorem dX21_two_132 : decode cX21_two 132 = .ok (.goto 13, 3) := by decide +kernel
theorem dX21_two_135 : decode cX21_two 135 = .ok (.iload 5, 2) := by decide +kernel
theorem dX21_two_137 : decode cX21_two 137 = .ok (.ifCond .eq 7, 3) := by decide +kernel
theorem dX21_two_140 : decode cX21_two 140 = .ok (.iconst 1, 1) := by decide +kernel
theorem dX21_two_141 : decode cX21_two 141 = .ok (.goto 4, 3) := by decide +kernel
theorem dX21_two_144 : decode cX21_two 144 = .ok (.iconst 0, 1) := by decide +kernel
theorem dX21_two_145 : decode cX21_two 145 = .ok (.ireturn, 1) := by decide +kernel
theorem dX21_two_146 : decode cX21_two 146 = .ok (.aload 4, 2) := by decide +kernel
theorem dX21_two_148 : decode cX21_two 148 = .ok (.iconst 0, 1) := by decide +kernel
theorem dX21_two_149 : decode cX21_two 149 = .ok (.invokevirtual 338, 3) := by decide +kernel
theorem dX21_two_152 : decode cX21_two 152 = .ok (.lookupswitch 122 #[(38, 84), (42, 118), (43, 110), (45, 114), (60, 88), (62, 99), (94, 80), (124, 76)], 76) := by decide +kernel
theorem dX21_two_228 : decode cX21_two 228 = .ok (.iload_n 2, 1) := by decide +kernel
theorem dX21_two_229 : decode cX21_two 229 = .ok (.iload_n 3, 1) := by decide +kernel
theorem dX21_two_230 : decode cX21_two 230 = .ok (.ior, 1) := by decide +kernel
theorem dX21_two_231 : decode cX21_two 231 = .ok (.ireturn, 1) := by decide +kernel
theorem dX21_two_232 : decode cX21_two 232 = .ok (.iload_n 2, 1) := by decide +kernel
theorem dX21_two_233 : decode cX21_two 233 = .ok (.iload_n 3, 1) := by decide +kernel
theorem dX21_two_234 : decode cX21_two 234 = .ok (.ixor, 1) := by decide +kernel
theorem dX21_two_235 : decode cX21_two 235 = .ok (.ireturn, 1) := by decide +kernel
theorem dX21_two_236 : decode cX21_two 236 = .ok (.iload_n 2, 1) := by decide +kernel
theorem dX21_two_237 : decode cX21_two 237 = .ok (.iload_n 3, 1) := by decide +kernel
theorem dX21_two_238 : decode cX21_two 238 = .ok (.iand, 1) := by decide +kernel
theorem dX21_two_239 : decode cX21_two 239 = .ok (.ireturn, 1) := by decide +kernel
theorem dX21_two_240 : decode cX21_two 240 = .ok (.iload_n 2, 1) := by decide +kernel
theorem dX21_two_241 : decode cX21_two 241 = .ok (.iload_n 3, 1) := by decide +kernel
theorem dX21_two_242 : decode cX21_two 242 = .ok (.if_icmp .ge 7, 3) := by decide +kernel
theorem dX21_two_245 : decode cX21_two 245 = .ok (.iconst 1, 1) := by decide +kernel
theorem dX21_two_246 : decode cX21_two 246 = .ok (.goto 4, 3) := by decide +kernel
theorem dX21_two_249 : decode cX21_two 249 = .ok (.iconst 0, 1) := by decide +kernel
theorem dX21_two_250 : decode cX21_two 250 = .ok (.ireturn, 1) := by decide +kernel
theorem dX21_two_251 : decode cX21_two 251 = .ok (.iload_n 2, 1) := by decide +kernel
theorem dX21_two_252 : decode cX21_two 252 = .ok (.iload_n 3, 1) := by decide +kernel
theorem dX21_two_253 : decode cX21_two 253 = .ok (.if_icmp .le 7, 3) := by decide +kernel
theorem dX21_two_256 : decode cX21_two 256 = .ok (.iconst 1, 1) := by decide +kernel
theorem dX21_two_257 : decode cX21_two 257 = .ok (.goto 4, 3) := by decide +kernel
theorem dX21_two_260 : decode cX21_two 260 = .ok (.iconst 0, 1) := by decide +kernel
theorem dX21_two_261 : decode cX21_two 261 = .ok (.ireturn, 1) := by decide +kernel
theorem dX21_two_262 : decode cX21_two 262 = .ok (.iload_n 2, 1) := by decide +kernel
theorem dX21_two_263 : decode cX21_two 263 = .ok (.iload_n 3, 1) := by decide +kernel
theorem dX21_two_264 : decode cX21_two 264 = .ok (.iadd, 1) := by decide +kernel
theorem dX21_two_265 : decode cX21_two 265 = .ok (.ireturn, 1) := by decide +kernel
theorem dX21_two_266 : decode cX21_two 266 = .ok (.iload_n 2, 1) := by decide +kernel
theorem dX21_two_267 : decode cX21_two 267 = .ok (.iload_n 3, 1) := by decide +kernel
theorem dX21_two_268 : decode cX21_two 268 = .ok (.isub, 1) := by decide +kernel
theorem dX21_two_269 : decode cX21_two 269 = .ok (.ireturn, 1) := by decide +kernel
theorem dX21_two_270 : decode cX21_two 270 = .ok (.iload_n 2, 1) := by decide +kernel
theorem dX21_two_271 : decode cX21_two 271 = .ok (.iload_n 3, 1) := by decide +kernel
theorem dX21_two_272 : decode cX21_two 272 = .ok (.imul, 1) := by decide +kernel
theorem dX21_two_273 : decode cX21_two 273 = .ok (.ireturn, 1) := by decide +kernel
theorem dX21_two_274 : decode cX21_two 274 = .ok (.aload_n 0, 1) := by decide +kernel
theorem dX21_two_275 : decode cX21_two 275 = .ok (.aload_n 0, 1) := by decide +kernel
theorem dX21_two_276 : decode cX21_two 276 = .ok (.getfield 634, 3) := by decide +kernel
theorem dX21_two_279 : decode cX21_two 279 = .ok (.ifCond .ne 7, 3) := by decide +kernel
theorem dX21_two_282 : decode cX21_two 282 = .ok (.iload_n 3, 1) := by decide +kernel
theorem dX21_two_283 : decode cX21_two 283 = .ok (.ifCond .ne 7, 3) := by decide +kernel
theorem dX21_two_286 : decode cX21_two 286 = .ok (.iconst 1, 1) := by decide +kernel
theorem dX21_two_287 : decode cX21_two 287 = .ok (.goto 4, 3) := by decide +kernel
theorem dX21_two_290 : decode cX21_two 290 = .ok (.iconst 0, 1) := by decide +kernel
theorem dX21_two_291 : decode cX21_two 291 = .ok (.putfield 634, 3) := by decide +kernel
theorem dX21_two_294 : decode cX21_two 294 = .ok (.iload_n 3, 1) := by decide +kernel
theorem dX21_two_295 : decode cX21_two 295 = .ok (.ifCond .ne 7, 3) := by decide +kernel
theorem dX21_two_298 : decode cX21_two 298 = .ok (.iconst 0, 1) := by decide +kernel
theorem dX21_two_299 : decode cX21_two 299 = .ok (.goto 23, 3) := by decide +kernel
theorem dX21_two_302 : decode cX21_two 302 = .ok (.aload 4, 2) := by decide +kernel
theorem dX21_two_304 : decode cX21_two 304 = .ok (.iconst 0, 1) := by decide +kernel
theorem dX21_two_305 : decode cX21_two 305 = .ok (.invokevirtual 338, 3) := by decide +kernel
theorem dX21_two_308 : decode cX21_two 308 = .ok (.bipush 47, 2) := by decide +kernel
theorem dX21_two_310 : decode cX21_two 310 = .ok (.if_icmp .ne 9, 3) := by decide +kernel
theorem dX21_two_313 : decode cX21_two 313 = .ok (.iload_n 2, 1) := by decide +kernel
theorem dX21_two_314 : decode cX21_two 314 = .ok (.iload_n 3, 1) := by decide +kernel
theorem dX21_two_315 : decode cX21_two 315 = .ok (.idiv, 1) := by decide +kernel
theorem dX21_two_316 : decode cX21_two 316 = .ok (.goto 6, 3) := by decide +kernel
theorem dX21_two_319 : decode cX21_two 319 = .ok (.iload_n 2, 1) := by decide +kernel
theorem dX21_two_320 : decode cX21_two 320 = .ok (.iload_n 3, 1) := by decide +kernel
theorem dX21_two_321 : decode cX21_two 321 = .ok (.irem, 1) := by decide +kernel
theorem dX21_two_322 : decode cX21_two 322 = .ok (.ireturn, 1) := by decide +kernel
theorem dX21_checkIndex_0 : decode cX21_checkIndex 0 = .ok (.aload_n 0, 1) := by decide +kernel
theorem dX21_checkIndex_1 : decode cX21_checkIndex 1 = .ok (.getfield 211, 3) := by decide +kernel
theorem dX21_checkIndex_4 : decode cX21_checkIndex 4 = .ok (.iload_n 1, 1) := by decide +kernel
theorem dX21_checkIndex_5 : decode cX21_checkIndex 5 = .ok (.iaload, 1) := by decide +kernel
theorem dX21_checkIndex_6 : decode cX21_checkIndex 6 = .ok (.istore_n 2, 1) := by decide +kernel
theorem dX21_checkIndex_7 : decode cX21_checkIndex 7 = .ok (.aload_n 0, 1) := by decide +kernel
theorem dX21_checkIndex_8 : decode cX21_checkIndex 8 = .ok (.iload_n 2, 1) := by decide +kernel
theorem dX21_checkIndex_9 : decode cX21_checkIndex 9 = .ok (.iconst 0, 1) := by decide +kernel
theorem dX21_checkIndex_10 : decode cX21_checkIndex 10 = .ok (.invokevirtual 591, 3) := by decide +kernel
theorem dX21_checkIndex_13 : decode cX21_checkIndex 13 = .ok (.istore_n 3, 1) := by decide +kernel
theorem dX21_checkIndex_14 : decode cX21_checkIndex 14 = .ok (.iload_n 3, 1) := by decide +kernel
theorem dX21_checkIndex_15 : decode cX21_checkIndex 15 = .ok (.ifCond .ge 20, 3) := by decide +kernel
theorem dX21_checkIndex_18 : decode cX21_checkIndex 18 = .ok (.aload_n 0, 1) := by decide +kernel
theorem dX21_checkIndex_19 : decode cX21_checkIndex 19 = .ok (.iload_n 2, 1) := by decide +kernel
theorem dX21_checkIndex_20 : decode cX21_checkIndex 20 = .ok (.invokevirtual 594, 3) := by decide +kernel
theorem dX21_checkIndex_23 : decode cX21_checkIndex 23 = .ok (.ifCond .ne 12, 3) := by decide +kernel
theorem dX21_checkIndex_26 : decode cX21_checkIndex 26 = .ok (.aload_n 0, 1) := by decide +kernel
theorem dX21_checkIndex_27 : decode cX21_checkIndex 27 = .ok (.iconst 2, 1) := by decide +kernel
theorem dX21_checkIndex_28 : decode cX21_checkIndex 28 = .ok (.iload_n 2, 1) := by decide +kernel
theorem dX21_checkIndex_29 : decode cX21_checkIndex 29 = .ok (.invokevirtual 597, 3) := by decide +kernel
theorem dX21_checkIndex_32 : decode cX21_checkIndex 32 = .ok (.goto 48, 3) := by decide +kernel
theorem dX21_checkIndex_35 : decode cX21_checkIndex 35 = .ok (.iload_n 3, 1) := by decide +kernel
theorem dX21_checkIndex_36 : decode cX21_checkIndex 36 = .ok (.ifCond .lt 23, 3) := by decide +kernel
theorem dX21_checkIndex_39 : decode cX21_checkIndex 39 = .ok (.aload_n 0, 1) := by decide +kernel
theorem dX21_checkIndex_40 : decode cX21_checkIndex 40 = .ok (.getfield 250, 3) := by decide +kernel
theorem dX21_checkIndex_43 : decode cX21_checkIndex 43 = .ok (.iload_n 3, 1) := by decide +kernel
theorem dX21_checkIndex_44 : decode cX21_checkIndex 44 = .ok (.iaload, 1) := by decide +kernel
theorem dX21_checkIndex_45 : decode cX21_checkIndex 45 = .ok (.iconst 2, 1) := by decide +kernel
theorem dX21_checkIndex_46 : decode cX21_checkIndex 46 = .ok (.if_icmp .eq 22, 3) := by decide +kernel
theorem dX21_checkIndex_49 : decode cX21_checkIndex 49 = .ok (.aload_n 0, 1) := by decide +kernel
theorem dX21_checkIndex_50 : decode cX21_checkIndex 50 = .ok (.getfield 250, 3) := by decide +kernel
theorem dX21_checkIndex_53 : decode cX21_checkIndex 53 = .ok (.iload_n 3, 1) := by decide +kernel
theorem dX21_checkIndex_54 : decode cX21_checkIndex 54 = .ok (.iaload, 1) := by decide +kernel
theorem dX21_checkIndex_55 : decode cX21_checkIndex 55 = .ok (.iconst 3, 1) := by decide +kernel
theorem dX21_checkIndex_56 : decode cX21_checkIndex 56 = .ok (.if_icmp .eq 12, 3) := by decide +kernel
theorem dX21_checkIndex_59 : decode cX21_checkIndex 59 = .ok (.aload_n 0, 1) := by decide +kernel
theorem dX21_checkIndex_60 : decode cX21_checkIndex 60 = .ok (.iconst 3, 1) := by decide +kernel
theorem dX21_checkIndex_61 : decode cX21_checkIndex 61 = .ok (.iload_n 2, 1) := by decide +kernel
theorem dX21_checkIndex_62 : decode cX21_checkIndex 62 = .ok (.invokevirtual 597, 3) := by decide +kernel
theorem dX21_checkIndex_65 : decode cX21_checkIndex 65 = .ok (.goto 15, 3) := by decide +kernel
theorem dX21_checkIndex_68 : decode cX21_checkIndex 68 = .ok (.aload_n 0, 1) := by decide +kernel
theorem dX21_checkIndex_69 : decode cX21_checkIndex 69 = .ok (.getfield 220, 3) := by decide +kernel
theorem dX21_checkIndex_72 : decode cX21_checkIndex 72 = .ok (.iload_n 1, 1) := by decide +kernel
theorem dX21_checkIndex_73 : decode cX21_checkIndex 73 = .ok (.aload_n 0, 1) := by decide +kernel
theorem dX21_checkIndex_74 : decode cX21_checkIndex 74 = .ok (.getfield 275, 3) := by decide +kernel
theorem dX21_checkIndex_77 : decode cX21_checkIndex 77 = .ok (.iload_n 3, 1) := by decide +kernel
theorem dX21_checkIndex_78 : decode cX21_checkIndex 78 = .ok (.iaload, 1) := by decide +kernel
theorem dX21_checkIndex_79 : decode cX21_checkIndex 79 = .ok (.iastore, 1) := by decide +kernel
theorem dX21_checkIndex_80 : decode cX21_checkIndex 80 = .ok (.return_, 1) := by decide +kernel
theorem dX21_checkPlace_0 : decode cX21_checkPlace 0 = .ok (.iload_n 2, 1) := by decide +kernel
theorem dX21_checkPlace_1 : decode cX21_checkPlace 1 = .ok (.iconst 2, 1) := by decide +kernel
theorem dX21_checkPlace_2 : decode cX21_checkPlace 2 = .ok (.if_icmp .eq 8, 3) := by decide +kernel
theorem dX21_checkPlace_5 : decode cX21_checkPlace 5 = .ok (.iload_n 2, 1) := by decide +kernel
theorem dX21_checkPlace_6 : decode cX21_checkPlace 6 = .ok (.iconst 3, 1) := by decide +kernel
theorem dX21_checkPlace_7 : decode cX21_checkPlace 7 = .ok (.if_icmp .ne 13, 3) := by decide +kernel
theorem dX21_checkPlace_10 : decode cX21_checkPlace 10 = .ok (.aload_n 0, 1) := by decide +kernel
theorem dX21_checkPlace_11 : decode cX21_checkPlace 11 = .ok (.iconst 3, 1) := by decide +kernel
theorem dX21_checkPlace_12 : decode cX21_checkPlace 12 = .ok (.aload_n 0, 1) := by decide +kernel
theorem dX21_checkPlace_13 : decode cX21_checkPlace 13 = .ok (.iload_n 1, 1) := by decide +kernel
theorem dX21_checkPlace_14 : decode cX21_checkPlace 14 = .ok (.invokevirtual 616, 3) := by decide +kernel
theorem dX21_checkPlace_17 : decode cX21_checkPlace 17 = .ok (.invokevirtual 597, 3) := by decide +kernel
theorem dX21_checkPlace_20 : decode cX21_checkPlace 20 = .ok (.aload_n 0, 1) := by decide +kernel
theorem dX21_checkPlace_21 : decode cX21_checkPlace 21 = .ok (.getfield 208, 3) := by decide +kernel
theorem dX21_checkPlace_24 : decode cX21_checkPlace 24 = .ok (.iload_n 1, 1) := by decide +kernel
theorem dX21_checkPlace_25 : decode cX21_checkPlace 25 = .ok (.baload, 1) := by decide +kernel
theorem dX21_checkPlace_26 : decode cX21_checkPlace 26 = .ok (.iconst 4, 1) := by decide +kernel
theorem dX21_checkPlace_27 : decode cX21_checkPlace 27 = .ok (.if_icmp .eq 17, 3) := by decide +kernel
theorem dX21_checkPlace_30 : decode cX21_checkPlace 30 = .ok (.aload_n 0, 1) := by decide +kernel
theorem dX21_checkPlace_31 : decode cX21_checkPlace 31 = .ok (.getfield 208, 3) := by decide +kernel
theorem dX21_checkPlace_34 : decode cX21_checkPlace 34 = .ok (.iload_n 1, 1) := by decide +kernel
theorem dX21_checkPlace_35 : decode cX21_checkPlace 35 = .ok (.baload, 1) := by decide +kernel
theorem dX21_checkPlace_36 : decode cX21_checkPlace 36 = .ok (.iconst 2, 1) := by decide +kernel
theorem dX21_checkPlace_37 : decode cX21_checkPlace 37 = .ok (.if_icmp .ne 11, 3) := by decide +kernel
theorem dX21_checkPlace_40 : decode cX21_checkPlace 40 = .ok (.iload_n 2, 1) := by decide +kernel
theorem dX21_checkPlace_41 : decode cX21_checkPlace 41 = .ok (.ifCond .ne 7, 3) := by decide +kernel
theorem dX21_checkPlace_44 : decode cX21_checkPlace 44 = .ok (.iconst 1, 1) := by decide +kernel
theorem dX21_checkPlace_45 : decode cX21_checkPlace 45 = .ok (.goto 4, 3) := by decide +kernel
theorem dX21_checkPlace_48 : decode cX21_checkPlace 48 = .ok (.iconst 0, 1) := by decide +kernel
theorem dX21_checkPlace_49 : decode cX21_checkPlace 49 = .ok (.istore_n 3, 1) := by decide +kernel
theorem dX21_checkPlace_50 : decode cX21_checkPlace 50 = .ok (.aload_n 0, 1) := by decide +kernel
theorem dX21_checkPlace_51 : decode cX21_checkPlace 51 = .ok (.getfield 208, 3) := by decide +kernel
theorem dX21_checkPlace_54 : decode cX21_checkPlace 54 = .ok (.iload_n 1, 1) := by decide +kernel
theorem dX21_checkPlace_55 : decode cX21_checkPlace 55 = .ok (.baload, 1) := by decide +kernel
theorem dX21_checkPlace_56 : decode cX21_checkPlace 56 = .ok (.iconst 2, 1) := by decide +kernel
theorem dX21_checkPlace_57 : decode cX21_checkPlace 57 = .ok (.if_icmp .ne 34, 3) := by decide +kernel
theorem dX21_checkPlace_60 : decode cX21_checkPlace 60 = .ok (.iload_n 2, 1) := by decide +kernel
theorem dX21_checkPlace_61 : decode cX21_checkPlace 61 = .ok (.iconst 1, 1) := by decide +kernel
theorem dX21_checkPlace_62 : decode cX21_checkPlace 62 = .ok (.if_icmp .ne 29, 3) := by decide +kernel
theorem dX21_checkPlace_65 : decode cX21_checkPlace 65 = .ok (.aload_n 0, 1) := by decide +kernel
theorem dX21_checkPlace_66 : decode cX21_checkPlace 66 = .ok (.getfield 250, 3) := by decide +kernel
theorem dX21_checkPlace_69 : decode cX21_checkPlace 69 = .ok (.aload_n 0, 1) := by decide +kernel
theorem dX21_checkPlace_70 : decode cX21_checkPlace 70 = .ok (.aload_n 0, 1) := by decide +kernel
theorem dX21_checkPlace_71 : decode cX21_checkPlace 71 = .ok (.getfield 211, 3) := by decide +kernel
theorem dX21_checkPlace_74 : decode cX21_checkPlace 74 = .ok (.iload_n 1, 1) := by decide +kernel
theorem dX21_checkPlace_75 : decode cX21_checkPlace 75 = .ok (.iaload, 1) := by decide +kernel
theorem dX21_checkPlace_76 : decode cX21_checkPlace 76 = .ok (.iconst 0, 1) := by decide +kernel
theorem dX21_checkPlace_77 : decode cX21_checkPlace 77 = .ok (.invokevirtual 591, 3) := by decide +kernel
theorem dX21_checkPlace_80 : decode cX21_checkPlace 80 = .ok (.iaload, 1) := by decide +kernel
theorem dX21_checkPlace_81 : decode cX21_checkPlace 81 = .ok (.iconst 1, 1) := by decide +kernel
theorem dX21_checkPlace_82 : decode cX21_checkPlace 82 = .ok (.if_icmp .ne 7, 3) := by decide +kernel
theorem dX21_checkPlace_85 : decode cX21_checkPlace 85 = .ok (.iconst 1, 1) := by decide +kernel
theorem dX21_checkPlace_86 : decode cX21_checkPlace 86 = .ok (.goto 4, 3) := by decide +kernel
theorem dX21_checkPlace_89 : decode cX21_checkPlace 89 = .ok (.iconst 0, 1) := by decide +kernel
theorem dX21_checkPlace_90 : decode cX21_checkPlace 90 = .ok (.istore_n 3, 1) := by decide +kernel
theorem dX21_checkPlace_91 : decode cX21_checkPlace 91 = .ok (.iload_n 3, 1) := by decide +kernel
theorem dX21_checkPlace_92 : decode cX21_checkPlace 92 = .ok (.ifCond .ne 14, 3) := by decide +kernel
theorem dX21_checkPlace_95 : decode cX21_checkPlace 95 = .ok (.aload_n 0, 1) := by decide +kernel
theorem dX21_checkPlace_96 : decode cX21_checkPlace 96 = .ok (.bipush 6, 2) := by decide +kernel
theorem dX21_checkPlace_98 : decode cX21_checkPlace 98 = .ok (.aload_n 0, 1) := by decide +kernel
theorem dX21_checkPlace_99 : decode cX21_checkPlace 99 = .ok (.iload_n 1, 1) := by decide +kernel
theorem dX21_checkPlace_100 : decode cX21_checkPlace 100 = .ok (.invokevirtual 616, 3) := by decide +kernel
theorem dX21_checkPlace_103 : decode cX21_checkPlace 103 = .ok (.invokevirtual 597, 3) := by decide +kernel
theorem dX21_checkPlace_106 : decode cX21_checkPlace 106 = .ok (.return_, 1) := by decide +kernel
theorem dX21_declare_0 : decode cX21_declare 0 = .ok (.aload_n 0, 1) := by decide +kernel
theorem dX21_declare_1 : decode cX21_declare 1 = .ok (.getfield 217, 3) := by decide +kernel
theorem dX21_declare_4 : decode cX21_declare 4 = .ok (.iload_n 1, 1) := by decide +kernel
theorem dX21_declare_5 : decode cX21_declare 5 = .ok (.iaload, 1) := by decide +kernel
theorem dX21_declare_6 : decode cX21_declare 6 = .ok (.istore_n 3, 1) := by decide +kernel
theorem dX21_declare_7 : decode cX21_declare 7 = .ok (.iload_n 3, 1) := by decide +kernel
theorem dX21_declare_8 : decode cX21_declare 8 = .ok (.ifCond .lt 225, 3) := by decide +kernel
theorem dX21_declare_11 : decode cX21_declare 11 = .ok (.aload_n 0, 1) := by decide +kernel
theorem dX21_declare_12 : decode cX21_declare 12 = .ok (.getfield 211, 3) := by decide +kernel
theorem dX21_declare_15 : decode cX21_declare 15 = .ok (.iload_n 3, 1) := by decide +kernel
theorem dX21_declare_16 : decode cX21_declare 16 = .ok (.iaload, 1) := by decide +kernel
theorem dX21_declare_17 : decode cX21_declare 17 = .ok (.istore 4, 2) := by decide +kernel
theorem dX21_declare_19 : decode cX21_declare 19 = .ok (.aload_n 0, 1) := by decide +kernel
theorem dX21_declare_20 : decode cX21_declare 20 = .ok (.iload 4, 2) := by decide +kernel
theorem dX21_declare_22 : decode cX21_declare 22 = .ok (.invokevirtual 649, 3) := by decide +kernel
theorem dX21_declare_25 : decode cX21_declare 25 = .ok (.aload_n 0, 1) := by decide +kernel
theorem dX21_declare_26 : decode cX21_declare 26 = .ok (.getfield 217, 3) := by decide +kernel
theorem dX21_declare_29 : decode cX21_declare 29 = .ok (.iload_n 3, 1) := by decide +kernel
theorem dX21_declare_30 : decode cX21_declare 30 = .ok (.iaload, 1) := by decide +kernel
theorem dX21_declare_31 : decode cX21_declare 31 = .ok (.ifCond .lt 92, 3) := by decide +kernel
theorem dX21_declare_34 : decode cX21_declare 34 = .ok (.aload_n 0, 1) := by decide +kernel
theorem dX21_declare_35 : decode cX21_declare 35 = .ok (.aload_n 0, 1) := by decide +kernel
theorem dX21_declare_36 : decode cX21_declare 36 = .ok (.getfield 652, 3) := by decide +kernel
theorem dX21_declare_39 : decode cX21_declare 39 = .ok (.aload_n 0, 1) := by decide +kernel
theorem dX21_declare_40 : decode cX21_declare 40 = .ok (.iload_n 3, 1) := by decide +kernel
theorem dX21_declare_41 : decode cX21_declare 41 = .ok (.aload_n 0, 1) := by decide +kernel
theorem dX21_declare_42 : decode cX21_declare 42 = .ok (.getfield 232, 3) := by decide +kernel
theorem dX21_declare_45 : decode cX21_declare 45 = .ok (.iload_n 1, 1) := by decide +kernel
theorem dX21_declare_46 : decode cX21_declare 46 = .ok (.iaload, 1) := by decide +kernel
theorem dX21_declare_47 : decode cX21_declare 47 = .ok (.iconst 1, 1) := by decide +kernel
theorem dX21_declare_48 : decode cX21_declare 48 = .ok (.if_icmp .ne 7, 3) := by decide +kernel
theorem dX21_declare_51 : decode cX21_declare 51 = .ok (.iconst 1, 1) := by decide +kernel
theorem dX21_declare_52 : decode cX21_declare 52 = .ok (.goto 4, 3) := by decide +kernel
theorem dX21_declare_55 : decode cX21_declare 55 = .ok (.iconst 0, 1) := by decide +kernel
theorem dX21_declare_56 : decode cX21_declare 56 = .ok (.invokevirtual 655, 3) := by decide +kernel
theorem dX21_declare_59 : decode cX21_declare 59 = .ok (.iadd, 1) := by decide +kernel
theorem dX21_declare_60 : decode cX21_declare 60 = .ok (.putfield 652, 3) := by decide +kernel
theorem dX21_declare_63 : decode cX21_declare 63 = .ok (.aload_n 0, 1) := by decide +kernel
theorem dX21_declare_64 : decode cX21_declare 64 = .ok (.getfield 226, 3) := by decide +kernel
theorem dX21_declare_67 : decode cX21_declare 67 = .ok (.iload_n 3, 1) := by decide +kernel
theorem dX21_declare_68 : decode cX21_declare 68 = .ok (.aload_n 0, 1) := by decide +kernel
theorem dX21_declare_69 : decode cX21_declare 69 = .ok (.aload_n 0, 1) := by decide +kernel
theorem dX21_declare_70 : decode cX21_declare 70 = .ok (.getfield 232, 3) := by decide +kernel
theorem dX21_declare_73 : decode cX21_declare 73 = .ok (.iload_n 1, 1) := by decide +kernel
theorem dX21_declare_74 : decode cX21_declare 74 = .ok (.iaload, 1) := by decide +kernel
theorem dX21_declare_75 : decode cX21_declare 75 = .ok (.iconst 1, 1) := by decide +kernel
theorem dX21_declare_76 : decode cX21_declare 76 = .ok (.if_icmp .ne 7, 3) := by decide +kernel
theorem dX21_declare_79 : decode cX21_declare 79 = .ok (.iconst 3, 1) := by decide +kernel
theorem dX21_declare_80 : decode cX21_declare 80 = .ok (.goto 4, 3) := by decide +kernel
theorem dX21_declare_83 : decode cX21_declare 83 = .ok (.iconst 2, 1) := by decide +kernel
theorem dX21_declare_84 : decode cX21_declare 84 = .ok (.aload_n 0, 1) := by decide +kernel
theorem dX21_declare_85 : decode cX21_declare 85 = .ok (.getfield 658, 3) := by decide +kernel
theorem dX21_declare_88 : decode cX21_declare 88 = .ok (.invokevirtual 661, 3) := by decide +kernel
theorem dX21_declare_91 : decode cX21_declare 91 = .ok (.iastore, 1) := by decide +kernel
theorem dX21_declare_92 : decode cX21_declare 92 = .ok (.aload_n 0, 1) := by decide +kernel
theorem dX21_declare_93 : decode cX21_declare 93 = .ok (.iload 4, 2) := by decide +kernel
theorem dX21_declare_95 : decode cX21_declare 95 = .ok (.aload_n 0, 1) := by decide +kernel
theorem dX21_declare_96 : decode cX21_declare 96 = .ok (.getfield 232, 3) := by decide +kernel
theorem dX21_declare_99 : decode cX21_declare 99 = .ok (.iload_n 1, 1) := by decide +kernel
theorem dX21_declare_100 : decode cX21_declare 100 = .ok (.iaload, 1) := by decide +kernel
theorem dX21_declare_101 : decode cX21_declare 101 = .ok (.iconst 1, 1) := by decide +kernel
theorem dX21_declare_102 : decode cX21_declare 102 = .ok (.if_icmp .ne 7, 3) := by decide +kernel
theorem dX21_declare_105 : decode cX21_declare 105 = .ok (.iconst 3, 1) := by decide +kernel
theorem dX21_declare_106 : decode cX21_declare 106 = .ok (.goto 4, 3) := by decide +kernel
theorem dX21_declare_109 : decode cX21_declare 109 = .ok (.iconst 2, 1) := by decide +kernel
theorem dX21_declare_110 : decode cX21_declare 110 = .ok (.iconst 0, 1) := by decide +kernel
theorem dX21_declare_111 : decode cX21_declare 111 = .ok (.aload_n 0, 1) := by decide +kernel
theorem dX21_declare_112 : decode cX21_declare 112 = .ok (.getfield 226, 3) := by decide +kernel
theorem dX21_declare_115 : decode cX21_declare 115 = .ok (.iload_n 3, 1) := by decide +kernel
theorem dX21_declare_116 : decode cX21_declare 116 = .ok (.iaload, 1) := by decide +kernel
theorem dX21_declare_117 : decode cX21_declare 117 = .ok (.invokevirtual 664, 3) := by decide +kernel
theorem dX21_declare_120 : decode cX21_declare 120 = .ok (.goto 103, 3) := by decide +kernel
theorem dX21_declare_123 : decode cX21_declare 123 = .ok (.aload_n 0, 1) := by decide +kernel
theorem dX21_declare_124 : decode cX21_declare 124 = .ok (.getfield 232, 3) := by decide +kernel
theorem dX21_declare_127 : decode cX21_declare 127 = .ok (.iload_n 3, 1) := by decide +kernel
theorem dX21_declare_128 : decode cX21_declare 128 = .ok (.iaload, 1) := by decide +kernel
theorem dX21_declare_129 : decode cX21_declare 129 = .ok (.iconst 1, 1) := by decide +kernel
theorem dX21_declare_130 : decode cX21_declare 130 = .ok (.if_icmp .ne 21, 3) := by decide +kernel
theorem dX21_declare_133 : decode cX21_declare 133 = .ok (.iload_n 2, 1) := by decide +kernel
theorem dX21_declare_134 : decode cX21_declare 134 = .ok (.ifCond .eq 17, 3) := by decide +kernel
theorem dX21_declare_137 : decode cX21_declare 137 = .ok (.aload_n 0, 1) := by decide +kernel
theorem dX21_declare_138 : decode cX21_declare 138 = .ok (.aload_n 0, 1) := by decide +kernel
theorem dX21_declare_139 : decode cX21_declare 139 = .ok (.getfield 220, 3) := by decide +kernel
theorem dX21_declare_142 : decode cX21_declare 142 = .ok (.iload_n 3, 1) := by decide +kernel
theorem dX21_declare_143 : decode cX21_declare 143 = .ok (.iaload, 1) := by decide +kernel
theorem dX21_declare_144 : decode cX21_declare 144 = .ok (.invokevirtual 625, 3) := by decide +kernel
theorem dX21_declare_147 : decode cX21_declare 147 = .ok (.pop, 1) := by decide +kernel
theorem dX21_declare_148 : decode cX21_declare 148 = .ok (.goto 25, 3) := by decide +kernel
theorem dX21_declare_151 : decode cX21_declare 151 = .ok (.aload_n 0, 1) := by decide +kernel
theorem dX21_declare_152 : decode cX21_declare 152 = .ok (.getfield 232, 3) := by decide +kernel
theorem dX21_declare_155 : decode cX21_declare 155 = .ok (.iload_n 3, 1) := by decide +kernel
theorem dX21_declare_156 : decode cX21_declare 156 = .ok (.iaload, 1) := by decide +kernel
theorem dX21_declare_157 : decode cX21_declare 157 = .ok (.iconst 1, 1) := by decide +kernel
theorem dX21_declare_158 : decode cX21_declare 158 = .ok (.if_icmp .ne 15, 3) := by decide +kernel
theorem dX21_declare_161 : decode cX21_declare 161 = .ok (.aload_n 0, 1) := by decide +kernel
theorem dX21_declare_162 : decode cX21_declare 162 = .ok (.aload_n 0, 1) := by decide +kernel
theorem dX21_declare_163 : decode cX21_declare 163 = .ok (.getfield 220, 3) := by decide +kernel
theorem dX21_declare_166 : decode cX21_declare 166 = .ok (.iload_n 3, 1) := by decide +kernel
theorem dX21_declare_167 : decode cX21_declare 167 = .ok (.iaload, 1) := by decide +kernel
theorem dX21_declare_168 : decode cX21_declare 168 = .ok (.iconst 1, 1) := by decide +kernel
theorem dX21_declare_169 : decode cX21_declare 169 = .ok (.invokevirtual 609, 3) := by decide +kernel
theorem dX21_declare_172 : decode cX21_declare 172 = .ok (.pop, 1) := by decide +kernel
theorem dX21_declare_173 : decode cX21_declare 173 = .ok (.aload_n 0, 1) := by decide +kernel
theorem dX21_declare_174 : decode cX21_declare 174 = .ok (.dup, 1) := by decide +kernel
theorem dX21_declare_175 : decode cX21_declare 175 = .ok (.getfield 652, 3) := by decide +kernel
theorem dX21_declare_178 : decode cX21_declare 178 = .ok (.iconst 1, 1) := by decide +kernel
theorem dX21_declare_179 : decode cX21_declare 179 = .ok (.iadd, 1) := by decide +kernel
theorem dX21_declare_180 : decode cX21_declare 180 = .ok (.putfield 652, 3) := by decide +kernel
theorem dX21_declare_183 : decode cX21_declare 183 = .ok (.aload_n 0, 1) := by decide +kernel
theorem dX21_declare_184 : decode cX21_declare 184 = .ok (.getfield 226, 3) := by decide +kernel
theorem dX21_declare_187 : decode cX21_declare 187 = .ok (.iload_n 3, 1) := by decide +kernel
theorem dX21_declare_188 : decode cX21_declare 188 = .ok (.aload_n 0, 1) := by decide +kernel
theorem dX21_declare_189 : decode cX21_declare 189 = .ok (.aload_n 0, 1) := by decide +kernel
theorem dX21_declare_190 : decode cX21_declare 190 = .ok (.getfield 232, 3) := by decide +kernel
theorem dX21_declare_193 : decode cX21_declare 193 = .ok (.iload_n 1, 1) := by decide +kernel
theorem dX21_declare_194 : decode cX21_declare 194 = .ok (.iaload, 1) := by decide +kernel
theorem dX21_declare_195 : decode cX21_declare 195 = .ok (.iconst 1, 1) := by decide +kernel
theorem dX21_declare_196 : decode cX21_declare 196 = .ok (.if_icmp .ne 7, 3) := by decide +kernel
theorem dX21_declare_199 : decode cX21_declare 199 = .ok (.iconst 1, 1) := by decide +kernel
theorem dX21_declare_200 : decode cX21_declare 200 = .ok (.goto 4, 3) := by decide +kernel
theorem dX21_declare_203 : decode cX21_declare 203 = .ok (.iconst 0, 1) := by decide +kernel
theorem dX21_declare_204 : decode cX21_declare 204 = .ok (.iconst 1, 1) := by decide +kernel
theorem dX21_declare_205 : decode cX21_declare 205 = .ok (.invokevirtual 661, 3) := by decide +kernel
theorem dX21_declare_208 : decode cX21_declare 208 = .ok (.iastore, 1) := by decide +kernel
theorem dX21_declare_209 : decode cX21_declare 209 = .ok (.aload_n 0, 1) := by decide +kernel
theorem dX21_declare_210 : decode cX21_declare 210 = .ok (.iload 4, 2) := by decide +kernel
theorem dX21_declare_212 : decode cX21_declare 212 = .ok (.iconst 1, 1) := by decide +kernel
theorem dX21_declare_213 : decode cX21_declare 213 = .ok (.iconst 0, 1) := by decide +kernel
theorem dX21_declare_214 : decode cX21_declare 214 = .ok (.aload_n 0, 1) := by decide +kernel
theorem dX21_declare_215 : decode cX21_declare 215 = .ok (.getfield 226, 3) := by decide +kernel
theorem dX21_declare_218 : decode cX21_declare 218 = .ok (.iload_n 3, 1) := by decide +kernel
theorem dX21_declare_219 : decode cX21_declare 219 = .ok (.iaload, 1) := by decide +kernel
theorem dX21_declare_220 : decode cX21_declare 220 = .ok (.invokevirtual 664, 3) := by decide +kernel
theorem dX21_declare_223 : decode cX21_declare 223 = .ok (.aload_n 0, 1) := by decide +kernel
theorem dX21_declare_224 : decode cX21_declare 224 = .ok (.getfield 229, 3) := by decide +kernel
theorem dX21_declare_227 : decode cX21_declare 227 = .ok (.iload_n 3, 1) := by decide +kernel
theorem dX21_declare_228 : decode cX21_declare 228 = .ok (.iaload, 1) := by decide +kernel
theorem dX21_declare_229 : decode cX21_declare 229 = .ok (.istore_n 3, 1) := by decide +kernel
theorem dX21_declare_230 : decode cX21_declare 230 = .ok (.goto (-223), 3) := by decide +kernel
theorem dX21_declare_233 : decode cX21_declare 233 = .ok (.return_, 1) := by decide +kernel
theorem dX21_declareArray_0 : decode cX21_declareArray 0 = .ok (.iconst (-1), 1) := by decide +kernel
theorem dX21_declareArray_1 : decode cX21_declareArray 1 = .ok (.istore_n 3, 1) := by decide +kernel
theorem dX21_declareArray_2 : decode cX21_declareArray 2 = .ok (.aload_n 0, 1) := by decide +kernel
theorem dX21_declareArray_3 : decode cX21_declareArray 3 = .ok (.aload_n 0, 1) := by decide +kernel
theorem dX21_declareArray_4 : decode cX21_declareArray 4 = .ok (.getfield 217, 3) := by decide +kernel
theorem dX21_declareArray_7 : decode cX21_declareArray 7 = .ok (.iload_n 1, 1) := by decide +kernel
theorem dX21_declareArray_8 : decode cX21_declareArray 8 = .ok (.iaload, 1) := by decide +kernel
theorem dX21_declareArray_9 : decode cX21_declareArray 9 = .ok (.invokevirtual 625, 3) := by decide +kernel
theorem dX21_declareArray_12 : decode cX21_declareArray 12 = .ok (.ifCond .eq 40, 3) := by decide +kernel
theorem dX21_declareArray_15 : decode cX21_declareArray 15 = .ok (.aload_n 0, 1) := by decide +kernel
theorem dX21_declareArray_16 : decode cX21_declareArray 16 = .ok (.getfield 643, 3) := by decide +kernel
theorem dX21_declareArray_19 : decode cX21_declareArray 19 = .ok (.istore_n 3, 1) := by decide +kernel
theorem dX21_declareArray_20 : decode cX21_declareArray 20 = .ok (.iload_n 3, 1) := by decide +kernel
theorem dX21_declareArray_21 : decode cX21_declareArray 21 = .ok (.iconst 1, 1) := by decide +kernel
theorem dX21_declareArray_22 : decode cX21_declareArray 22 = .ok (.if_icmp .lt 10, 3) := by decide +kernel
theorem dX21_declareArray_25 : decode cX21_declareArray 25 = .ok (.iload_n 3, 1) := by decide +kernel
theorem dX21_declareArray_26 : decode cX21_declareArray 26 = .ok (.sipush 4096, 3) := by decide +kernel
theorem dX21_declareArray_29 : decode cX21_declareArray 29 = .ok (.if_icmp .le 23, 3) := by decide +kernel
theorem dX21_declareArray_32 : decode cX21_declareArray 32 = .ok (.aload_n 0, 1) := by decide +kernel
theorem dX21_declareArray_33 : decode cX21_declareArray 33 = .ok (.bipush 8, 2) := by decide +kernel
theorem dX21_declareArray_35 : decode cX21_declareArray 35 = .ok (.aload_n 0, 1) := by decide +kernel
theorem dX21_declareArray_36 : decode cX21_declareArray 36 = .ok (.aload_n 0, 1) := by decide +kernel
theorem dX21_declareArray_37 : decode cX21_declareArray 37 = .ok (.getfield 217, 3) := by decide +kernel
theorem dX21_declareArray_40 : decode cX21_declareArray 40 = .ok (.iload_n 1, 1) := by decide +kernel
theorem dX21_declareArray_41 : decode cX21_declareArray 41 = .ok (.iaload, 1) := by decide +kernel
theorem dX21_declareArray_42 : decode cX21_declareArray 42 = .ok (.invokevirtual 616, 3) := by decide +kernel
theorem dX21_declareArray_45 : decode cX21_declareArray 45 = .ok (.invokevirtual 597, 3) := by decide +kernel
theorem dX21_declareArray_48 : decode cX21_declareArray 48 = .ok (.sipush 4096, 3) := by decide +kernel
theorem dX21_declareArray_51 : decode cX21_declareArray 51 = .ok (.istore_n 3, 1) := by decide +kernel
theorem dX21_declareArray_52 : decode cX21_declareArray 52 = .ok (.aload_n 0, 1) := by decide +kernel
theorem dX21_declareArray_53 : decode cX21_declareArray 53 = .ok (.getfield 232, 3) := by decide +kernel
theorem dX21_declareArray_56 : decode cX21_declareArray 56 = .ok (.iload_n 1, 1) := by decide +kernel
theorem dX21_declareArray_57 : decode cX21_declareArray 57 = .ok (.iaload, 1) := by decide +kernel
theorem dX21_declareArray_58 : decode cX21_declareArray 58 = .ok (.iconst 2, 1) := by decide +kernel
theorem dX21_declareArray_59 : decode cX21_declareArray 59 = .ok (.if_icmp .ne 66, 3) := by decide +kernel
theorem dX21_declareArray_62 : decode cX21_declareArray 62 = .ok (.iconst 0, 1) := by decide +kernel
theorem dX21_declareArray_63 : decode cX21_declareArray 63 = .ok (.istore 4, 2) := by decide +kernel
theorem dX21_declareArray_65 : decode cX21_declareArray 65 = .ok (.aload_n 0, 1) := by decide +kernel
theorem dX21_declareArray_66 : decode cX21_declareArray 66 = .ok (.getfield 220, 3) := by decide +kernel
theorem dX21_declareArray_69 : decode cX21_declareArray 69 = .ok (.iload_n 1, 1) := by decide +kernel
theorem dX21_declareArray_70 : decode cX21_declareArray 70 = .ok (.iaload, 1) := by decide +kernel
theorem dX21_declareArray_71 : decode cX21_declareArray 71 = .ok (.istore 5, 2) := by decide +kernel
theorem dX21_declareArray_73 : decode cX21_declareArray 73 = .ok (.iload 5, 2) := by decide +kernel
theorem dX21_declareArray_75 : decode cX21_declareArray 75 = .ok (.ifCond .lt 25, 3) := by decide +kernel
theorem dX21_declareArray_78 : decode cX21_declareArray 78 = .ok (.aload_n 0, 1) := by decide +kernel
theorem dX21_declareArray_79 : decode cX21_declareArray 79 = .ok (.iload 5, 2) := by decide +kernel
theorem dX21_declareArray_81 : decode cX21_declareArray 81 = .ok (.invokevirtual 625, 3) := by decide +kernel
theorem dX21_declareArray_84 : decode cX21_declareArray 84 = .ok (.pop, 1) := by decide +kernel
theorem dX21_declareArray_85 : decode cX21_declareArray 85 = .ok (.iinc 4 1, 3) := by decide +kernel
theorem dX21_declareArray_88 : decode cX21_declareArray 88 = .ok (.aload_n 0, 1) := by decide +kernel
theorem dX21_declareArray_89 : decode cX21_declareArray 89 = .ok (.getfield 229, 3) := by decide +kernel
theorem dX21_declareArray_92 : decode cX21_declareArray 92 = .ok (.iload 5, 2) := by decide +kernel
theorem dX21_declareArray_94 : decode cX21_declareArray 94 = .ok (.iaload, 1) := by decide +kernel
theorem dX21_declareArray_95 : decode cX21_declareArray 95 = .ok (.istore 5, 2) := by decide +kernel
theorem dX21_declareArray_97 : decode cX21_declareArray 97 = .ok (.goto (-24), 3) := by decide +kernel
theorem dX21_declareArray_100 : decode cX21_declareArray 100 = .ok (.iload_n 3, 1) := by decide +kernel
theorem dX21_declareArray_101 : decode cX21_declareArray 101 = .ok (.ifCond .lt 21, 3) := by decide +kernel
theorem dX21_declareArray_104 : decode cX21_declareArray 104 = .ok (.iload 4, 2) := by decide +kernel
theorem dX21_declareArray_106 : decode cX21_declareArray 106 = .ok (.iload_n 3, 1) := by decide +kernel
theorem dX21_declareArray_107 : decode cX21_declareArray 107 = .ok (.if_icmp .le 15, 3) := by decide +kernel
theorem dX21_declareArray_110 : decode cX21_declareArray 110 = .ok (.aload_n 0, 1) := by decide +kernel
theorem dX21_declareArray_111 : decode cX21_declareArray 111 = .ok (.bipush 8, 2) := by decide +kernel
theorem dX21_declareArray_113 : decode cX21_declareArray 113 = .ok (.aload_n 0, 1) := by decide +kernel
theorem dX21_declareArray_114 : decode cX21_declareArray 114 = .ok (.getfield 223, 3) := by decide +kernel
theorem dX21_declareArray_117 : decode cX21_declareArray 117 = .ok (.iload_n 1, 1) := by decide +kernel
theorem dX21_declareArray_118 : decode cX21_declareArray 118 = .ok (.iaload, 1) := by decide +kernel
theorem dX21_declareArray_119 : decode cX21_declareArray 119 = .ok (.invokevirtual 597, 3) := by decide +kernel
theorem dX21_declareArray_122 : decode cX21_declareArray 122 = .ok (.goto 54, 3) := by decide +kernel
theorem dX21_declareArray_125 : decode cX21_declareArray 125 = .ok (.aload_n 0, 1) := by decide +kernel
theorem dX21_declareArray_126 : decode cX21_declareArray 126 = .ok (.getfield 232, 3) := by decide +kernel
theorem dX21_declareArray_129 : decode cX21_declareArray 129 = .ok (.iload_n 1, 1) := by decide +kernel
theorem dX21_declareArray_130 : decode cX21_declareArray 130 = .ok (.iaload, 1) := by decide +kernel
theorem dX21_declareArray_131 : decode cX21_declareArray 131 = .ok (.iconst 3, 1) := by decide +kernel
theorem dX21_declareArray_132 : decode cX21_declareArray 132 = .ok (.if_icmp .ne 44, 3) := by decide +kernel
theorem dX21_declareArray_135 : decode cX21_declareArray 135 = .ok (.aload_n 0, 1) := by decide +kernel
theorem dX21_declareArray_136 : decode cX21_declareArray 136 = .ok (.getfield 205, 3) := by decide +kernel
theorem dX21_declareArray_139 : decode cX21_declareArray 139 = .ok (.aload_n 0, 1) := by decide +kernel
theorem dX21_declareArray_140 : decode cX21_declareArray 140 = .ok (.getfield 223, 3) := by decide +kernel
theorem dX21_declareArray_143 : decode cX21_declareArray 143 = .ok (.iload_n 1, 1) := by decide +kernel
theorem dX21_declareArray_144 : decode cX21_declareArray 144 = .ok (.iaload, 1) := by decide +kernel
theorem dX21_declareArray_145 : decode cX21_declareArray 145 = .ok (.iaload, 1) := by decide +kernel
theorem dX21_declareArray_146 : decode cX21_declareArray 146 = .ok (.iconst 1, 1) := by decide +kernel
theorem dX21_declareArray_147 : decode cX21_declareArray 147 = .ok (.iadd, 1) := by decide +kernel
theorem dX21_declareArray_148 : decode cX21_declareArray 148 = .ok (.istore 4, 2) := by decide +kernel
theorem dX21_declareArray_150 : decode cX21_declareArray 150 = .ok (.iload_n 2, 1) := by decide +kernel
theorem dX21_declareArray_151 : decode cX21_declareArray 151 = .ok (.ifCond .eq 13, 3) := by decide +kernel
theorem dX21_declareArray_154 : decode cX21_declareArray 154 = .ok (.iload_n 3, 1) := by decide +kernel
theorem dX21_declareArray_155 : decode cX21_declareArray 155 = .ok (.ifCond .lt 21, 3) := by decide +kernel
theorem dX21_declareArray_158 : decode cX21_declareArray 158 = .ok (.iload 4, 2) := by decide +kernel
theorem dX21_declareArray_160 : decode cX21_declareArray 160 = .ok (.iload_n 3, 1) := by decide +kernel
theorem dX21_declareArray_161 : decode cX21_declareArray 161 = .ok (.if_icmp .le 15, 3) := by decide +kernel
theorem dX21_declareArray_164 : decode cX21_declareArray 164 = .ok (.aload_n 0, 1) := by decide +kernel
theorem dX21_declareArray_165 : decode cX21_declareArray 165 = .ok (.bipush 8, 2) := by decide +kernel
theorem dX21_declareArray_167 : decode cX21_declareArray 167 = .ok (.aload_n 0, 1) := by decide +kernel
theorem dX21_declareArray_168 : decode cX21_declareArray 168 = .ok (.getfield 223, 3) := by decide +kernel
theorem dX21_declareArray_171 : decode cX21_declareArray 171 = .ok (.iload_n 1, 1) := by decide +kernel
theorem dX21_declareArray_172 : decode cX21_declareArray 172 = .ok (.iaload, 1) := by decide +kernel
theorem dX21_declareArray_173 : decode cX21_declareArray 173 = .ok (.invokevirtual 597, 3) := by decide +kernel
theorem dX21_declareArray_176 : decode cX21_declareArray 176 = .ok (.aload_n 0, 1) := by decide +kernel
theorem dX21_declareArray_177 : decode cX21_declareArray 177 = .ok (.iload_n 3, 1) := by decide +kernel
theorem dX21_declareArray_178 : decode cX21_declareArray 178 = .ok (.ifCond .ge 7, 3) := by decide +kernel
theorem dX21_declareArray_181 : decode cX21_declareArray 181 = .ok (.iconst 0, 1) := by decide +kernel
theorem dX21_declareArray_182 : decode cX21_declareArray 182 = .ok (.goto 4, 3) := by decide +kernel
theorem dX21_declareArray_185 : decode cX21_declareArray 185 = .ok (.iload_n 3, 1) := by decide +kernel
theorem dX21_declareArray_186 : decode cX21_declareArray 186 = .ok (.putfield 658, 3) := by decide +kernel
theorem dX21_declareArray_189 : decode cX21_declareArray 189 = .ok (.iload_n 2, 1) := by decide +kernel
theorem dX21_declareArray_190 : decode cX21_declareArray 190 = .ok (.ifCond .eq 14, 3) := by decide +kernel
theorem dX21_declareArray_193 : decode cX21_declareArray 193 = .ok (.aload_n 0, 1) := by decide +kernel
theorem dX21_declareArray_194 : decode cX21_declareArray 194 = .ok (.getfield 658, 3) := by decide +kernel
theorem dX21_declareArray_197 : decode cX21_declareArray 197 = .ok (.iconst 3, 1) := by decide +kernel
theorem dX21_declareArray_198 : decode cX21_declareArray 198 = .ok (.iadd, 1) := by decide +kernel
theorem dX21_declareArray_199 : decode cX21_declareArray 199 = .ok (.iconst 4, 1) := by decide +kernel
theorem dX21_declareArray_200 : decode cX21_declareArray 200 = .ok (.idiv, 1) := by decide +kernel
theorem dX21_declareArray_201 : decode cX21_declareArray 201 = .ok (.goto 7, 3) := by decide +kernel
theorem dX21_declareArray_204 : decode cX21_declareArray 204 = .ok (.aload_n 0, 1) := by decide +kernel
theorem dX21_declareArray_205 : decode cX21_declareArray 205 = .ok (.getfield 658, 3) := by decide +kernel
theorem dX21_declareArray_208 : decode cX21_declareArray 208 = .ok (.ireturn, 1) := by decide +kernel
theorem dX21_checkBody_0 : decode cX21_checkBody 0 = .ok (.aload_n 0, 1) := by decide +kernel
theorem dX21_checkBody_1 : decode cX21_checkBody 1 = .ok (.dup, 1) := by decide +kernel
theorem dX21_checkBody_2 : decode cX21_checkBody 2 = .ok (.getfield 698, 3) := by decide +kernel
theorem dX21_checkBody_5 : decode cX21_checkBody 5 = .ok (.iconst 1, 1) := by decide +kernel
theorem dX21_checkBody_6 : decode cX21_checkBody 6 = .ok (.iadd, 1) := by decide +kernel
theorem dX21_checkBody_7 : decode cX21_checkBody 7 = .ok (.putfield 698, 3) := by decide +kernel
theorem dX21_checkBody_10 : decode cX21_checkBody 10 = .ok (.aload_n 0, 1) := by decide +kernel
theorem dX21_checkBody_11 : decode cX21_checkBody 11 = .ok (.iload_n 1, 1) := by decide +kernel
theorem dX21_checkBody_12 : decode cX21_checkBody 12 = .ok (.invokevirtual 667, 3) := by decide +kernel
theorem dX21_checkBody_15 : decode cX21_checkBody 15 = .ok (.aload_n 0, 1) := by decide +kernel
theorem dX21_checkBody_16 : decode cX21_checkBody 16 = .ok (.dup, 1) := by decide +kernel
theorem dX21_checkBody_17 : decode cX21_checkBody 17 = .ok (.getfield 698, 3) := by decide +kernel
theorem dX21_checkBody_20 : decode cX21_checkBody 20 = .ok (.iconst 1, 1) := by decide +kernel
theorem dX21_checkBody_21 : decode cX21_checkBody 21 = .ok (.isub, 1) := by decide +kernel
theorem dX21_checkBody_22 : decode cX21_checkBody 22 = .ok (.putfield 698, 3) := by decide +kernel
theorem dX21_checkBody_25 : decode cX21_checkBody 25 = .ok (.return_, 1) := by decide +kernel
theorem dX21_checkFor_0 : decode cX21_checkFor 0 = .ok (.aload_n 0, 1) := by decide +kernel
theorem dX21_checkFor_1 : decode cX21_checkFor 1 = .ok (.getfield 556, 3) := by decide +kernel
theorem dX21_checkFor_4 : decode cX21_checkFor 4 = .ok (.istore_n 2, 1) := by decide +kernel
theorem dX21_checkFor_5 : decode cX21_checkFor 5 = .ok (.aload_n 0, 1) := by decide +kernel
theorem dX21_checkFor_6 : decode cX21_checkFor 6 = .ok (.getfield 588, 3) := by decide +kernel
theorem dX21_checkFor_9 : decode cX21_checkFor 9 = .ok (.istore_n 3, 1) := by decide +kernel
theorem dX21_checkFor_10 : decode cX21_checkFor 10 = .ok (.aload_n 0, 1) := by decide +kernel
theorem dX21_checkFor_11 : decode cX21_checkFor 11 = .ok (.aload_n 0, 1) := by decide +kernel
theorem dX21_checkFor_12 : decode cX21_checkFor 12 = .ok (.getfield 556, 3) := by decide +kernel
theorem dX21_checkFor_15 : decode cX21_checkFor 15 = .ok (.putfield 588, 3) := by decide +kernel
theorem dX21_checkFor_18 : decode cX21_checkFor 18 = .ok (.aload_n 0, 1) := by decide +kernel
theorem dX21_checkFor_19 : decode cX21_checkFor 19 = .ok (.getfield 217, 3) := by decide +kernel
theorem dX21_checkFor_22 : decode cX21_checkFor 22 = .ok (.iload_n 1, 1) := by decide +kernel
theorem dX21_checkFor_23 : decode cX21_checkFor 23 = .ok (.iaload, 1) := by decide +kernel
theorem dX21_checkFor_24 : decode cX21_checkFor 24 = .ok (.ifCond .lt 13, 3) := by decide +kernel
theorem dX21_checkFor_27 : decode cX21_checkFor 27 = .ok (.aload_n 0, 1) := by decide +kernel
theorem dX21_checkFor_28 : decode cX21_checkFor 28 = .ok (.aload_n 0, 1) := by decide +kernel
theorem dX21_checkFor_29 : decode cX21_checkFor 29 = .ok (.getfield 217, 3) := by decide +kernel
theorem dX21_checkFor_32 : decode cX21_checkFor 32 = .ok (.iload_n 1, 1) := by decide +kernel
theorem dX21_checkFor_33 : decode cX21_checkFor 33 = .ok (.iaload, 1) := by decide +kernel
theorem dX21_checkFor_34 : decode cX21_checkFor 34 = .ok (.invokevirtual 667, 3) := by decide +kernel
theorem dX21_checkFor_37 : decode cX21_checkFor 37 = .ok (.aload_n 0, 1) := by decide +kernel
theorem dX21_checkFor_38 : decode cX21_checkFor 38 = .ok (.getfield 220, 3) := by decide +kernel
theorem dX21_checkFor_41 : decode cX21_checkFor 41 = .ok (.iload_n 1, 1) := by decide +kernel
theorem dX21_checkFor_42 : decode cX21_checkFor 42 = .ok (.iaload, 1) := by decide +kernel
theorem dX21_checkFor_43 : decode cX21_checkFor 43 = .ok (.ifCond .lt 15, 3) := by decide +kernel
theorem dX21_checkFor_46 : decode cX21_checkFor 46 = .ok (.aload_n 0, 1) := by decide +kernel
theorem dX21_checkFor_47 : decode cX21_checkFor 47 = .ok (.aload_n 0, 1) := by decide +kernel
theorem dX21_checkFor_48 : decode cX21_checkFor 48 = .ok (.getfield 220, 3) := by decide +kernel
theorem dX21_checkFor_51 : decode cX21_checkFor 51 = .ok (.iload_n 1, 1) := by decide +kernel
theorem dX21_checkFor_52 : decode cX21_checkFor 52 = .ok (.iaload, 1) := by decide +kernel
theorem dX21_checkFor_53 : decode cX21_checkFor 53 = .ok (.iconst 1, 1) := by decide +kernel
theorem dX21_checkFor_54 : decode cX21_checkFor 54 = .ok (.invokevirtual 609, 3) := by decide +kernel
theorem dX21_checkFor_57 : decode cX21_checkFor 57 = .ok (.pop, 1) := by decide +kernel
theorem dX21_checkFor_58 : decode cX21_checkFor 58 = .ok (.aload_n 0, 1) := by decide +kernel
theorem dX21_checkFor_59 : decode cX21_checkFor 59 = .ok (.getfield 223, 3) := by decide +kernel
theorem dX21_checkFor_62 : decode cX21_checkFor 62 = .ok (.iload_n 1, 1) := by decide +kernel
theorem dX21_checkFor_63 : decode cX21_checkFor 63 = .ok (.iaload, 1) := by decide +kernel
theorem dX21_checkFor_64 : decode cX21_checkFor 64 = .ok (.ifCond .lt 13, 3) := by decide +kernel
theorem dX21_checkFor_67 : decode cX21_checkFor 67 = .ok (.aload_n 0, 1) := by decide +kernel
theorem dX21_checkFor_68 : decode cX21_checkFor 68 = .ok (.aload_n 0, 1) := by decide +kernel
theorem dX21_checkFor_69 : decode cX21_checkFor 69 = .ok (.getfield 223, 3) := by decide +kernel
theorem dX21_checkFor_72 : decode cX21_checkFor 72 = .ok (.iload_n 1, 1) := by decide +kernel
theorem dX21_checkFor_73 : decode cX21_checkFor 73 = .ok (.iaload, 1) := by decide +kernel
theorem dX21_checkFor_74 : decode cX21_checkFor 74 = .ok (.invokevirtual 679, 3) := by decide +kernel
theorem dX21_checkFor_77 : decode cX21_checkFor 77 = .ok (.aload_n 0, 1) := by decide +kernel
theorem dX21_checkFor_78 : decode cX21_checkFor 78 = .ok (.aload_n 0, 1) := by decide +kernel
theorem dX21_checkFor_79 : decode cX21_checkFor 79 = .ok (.getfield 226, 3) := by decide +kernel
theorem dX21_checkFor_82 : decode cX21_checkFor 82 = .ok (.iload_n 1, 1) := by decide +kernel
theorem dX21_checkFor_83 : decode cX21_checkFor 83 = .ok (.iaload, 1) := by decide +kernel
theorem dX21_checkFor_84 : decode cX21_checkFor 84 = .ok (.invokevirtual 686, 3) := by decide +kernel
theorem dX21_checkFor_87 : decode cX21_checkFor 87 = .ok (.aload_n 0, 1) := by decide +kernel
theorem dX21_checkFor_88 : decode cX21_checkFor 88 = .ok (.iload_n 2, 1) := by decide +kernel
theorem dX21_checkFor_89 : decode cX21_checkFor 89 = .ok (.iload_n 3, 1) := by decide +kernel
theorem dX21_checkFor_90 : decode cX21_checkFor 90 = .ok (.invokevirtual 673, 3) := by decide +kernel
theorem dX21_checkFor_93 : decode cX21_checkFor 93 = .ok (.return_, 1) := by decide +kernel
theorem dX21_checkSwitch_0 : decode cX21_checkSwitch 0 = .ok (.aload_n 0, 1) := by decide +kernel
theorem dX21_checkSwitch_1 : decode cX21_checkSwitch 1 = .ok (.aload_n 0, 1) := by decide +kernel
theorem dX21_checkSwitch_2 : decode cX21_checkSwitch 2 = .ok (.getfield 217, 3) := by decide +kernel
theorem dX21_checkSwitch_5 : decode cX21_checkSwitch 5 = .ok (.iload_n 1, 1) := by decide +kernel
theorem dX21_checkSwitch_6 : decode cX21_checkSwitch 6 = .ok (.iaload, 1) := by decide +kernel
theorem dX21_checkSwitch_7 : decode cX21_checkSwitch 7 = .ok (.iconst 1, 1) := by decide +kernel
theorem dX21_checkSwitch_8 : decode cX21_checkSwitch 8 = .ok (.invokevirtual 609, 3) := by decide +kernel
theorem dX21_checkSwitch_11 : decode cX21_checkSwitch 11 = .ok (.pop, 1) := by decide +kernel
theorem dX21_checkSwitch_12 : decode cX21_checkSwitch 12 = .ok (.aload_n 0, 1) := by decide +kernel
theorem dX21_checkSwitch_13 : decode cX21_checkSwitch 13 = .ok (.getfield 556, 3) := by decide +kernel
theorem dX21_checkSwitch_16 : decode cX21_checkSwitch 16 = .ok (.istore_n 2, 1) := by decide +kernel
theorem dX21_checkSwitch_17 : decode cX21_checkSwitch 17 = .ok (.aload_n 0, 1) := by decide +kernel
theorem dX21_checkSwitch_18 : decode cX21_checkSwitch 18 = .ok (.getfield 588, 3) := by decide +kernel
theorem dX21_checkSwitch_21 : decode cX21_checkSwitch 21 = .ok (.istore_n 3, 1) := by decide +kernel
theorem dX21_checkSwitch_22 : decode cX21_checkSwitch 22 = .ok (.aload_n 0, 1) := by decide +kernel
theorem dX21_checkSwitch_23 : decode cX21_checkSwitch 23 = .ok (.aload_n 0, 1) := by decide +kernel
theorem dX21_checkSwitch_24 : decode cX21_checkSwitch 24 = .ok (.getfield 556, 3) := by decide +kernel
theorem dX21_checkSwitch_27 : decode cX21_checkSwitch 27 = .ok (.putfield 588, 3) := by decide +kernel
theorem dX21_checkSwitch_30 : decode cX21_checkSwitch 30 = .ok (.aload_n 0, 1) := by decide +kernel
theorem dX21_checkSwitch_31 : decode cX21_checkSwitch 31 = .ok (.dup, 1) := by decide +kernel
theorem dX21_checkSwitch_32 : decode cX21_checkSwitch 32 = .ok (.getfield 701, 3) := by decide +kernel
theorem dX21_checkSwitch_35 : decode cX21_checkSwitch 35 = .ok (.iconst 1, 1) := by decide +kernel
theorem dX21_checkSwitch_36 : decode cX21_checkSwitch 36 = .ok (.iadd, 1) := by decide +kernel
theorem dX21_checkSwitch_37 : decode cX21_checkSwitch 37 = .ok (.putfield 701, 3) := by decide +kernel
theorem dX21_checkSwitch_40 : decode cX21_checkSwitch 40 = .ok (.iconst 0, 1) := by decide +kernel
theorem dX21_checkSwitch_41 : decode cX21_checkSwitch 41 = .ok (.istore 4, 2) := by decide +kernel
theorem dX21_checkSwitch_43 : decode cX21_checkSwitch 43 = .ok (.aload_n 0, 1) := by decide +kernel
theorem dX21_checkSwitch_44 : decode cX21_checkSwitch 44 = .ok (.getfield 220, 3) := by decide +kernel
theorem dX21_checkSwitch_47 : decode cX21_checkSwitch 47 = .ok (.iload_n 1, 1) := by decide +kernel
theorem dX21_checkSwitch_48 : decode cX21_checkSwitch 48 = .ok (.iaload, 1) := by decide +kernel
theorem dX21_checkSwitch_49 : decode cX21_checkSwitch 49 = .ok (.istore 5, 2) := by decide +kernel
theorem dX21_checkSwitch_51 : decode cX21_checkSwitch 51 = .ok (.iload 5, 2) := by decide +kernel
theorem dX21_checkSwitch_53 : decode cX21_checkSwitch 53 = .ok (.ifCond .lt 200, 3) := by decide +kernel
theorem dX21_checkSwitch_56 : decode cX21_checkSwitch 56 = .ok (.aload_n 0, 1) := by decide +kernel
theorem dX21_checkSwitch_57 : decode cX21_checkSwitch 57 = .ok (.getfield 208, 3) := by decide +kernel
theorem dX21_checkSwitch_60 : decode cX21_checkSwitch 60 = .ok (.iload 5, 2) := by decide +kernel
theorem dX21_checkSwitch_62 : decode cX21_checkSwitch 62 = .ok (.baload, 1) := by decide +kernel
theorem dX21_checkSwitch_63 : decode cX21_checkSwitch 63 = .ok (.bipush 29, 2) := by decide +kernel
theorem dX21_checkSwitch_65 : decode cX21_checkSwitch 65 = .ok (.if_icmp .ne 134, 3) := by decide +kernel
theorem dX21_checkSwitch_68 : decode cX21_checkSwitch 68 = .ok (.aload_n 0, 1) := by decide +kernel
theorem dX21_checkSwitch_69 : decode cX21_checkSwitch 69 = .ok (.getfield 232, 3) := by decide +kernel
theorem dX21_checkSwitch_72 : decode cX21_checkSwitch 72 = .ok (.iload 5, 2) := by decide +kernel
theorem dX21_checkSwitch_74 : decode cX21_checkSwitch 74 = .ok (.aload_n 0, 1) := by decide +kernel
theorem dX21_checkSwitch_75 : decode cX21_checkSwitch 75 = .ok (.aload_n 0, 1) := by decide +kernel
theorem dX21_checkSwitch_76 : decode cX21_checkSwitch 76 = .ok (.getfield 217, 3) := by decide +kernel
theorem dX21_checkSwitch_79 : decode cX21_checkSwitch 79 = .ok (.iload 5, 2) := by decide +kernel
theorem dX21_checkSwitch_81 : decode cX21_checkSwitch 81 = .ok (.iaload, 1) := by decide +kernel
theorem dX21_checkSwitch_82 : decode cX21_checkSwitch 82 = .ok (.invokevirtual 625, 3) := by decide +kernel
theorem dX21_checkSwitch_85 : decode cX21_checkSwitch 85 = .ok (.ifCond .eq 7, 3) := by decide +kernel
theorem dX21_checkSwitch_88 : decode cX21_checkSwitch 88 = .ok (.iconst 1, 1) := by decide +kernel
theorem dX21_checkSwitch_89 : decode cX21_checkSwitch 89 = .ok (.goto 4, 3) := by decide +kernel
theorem dX21_checkSwitch_92 : decode cX21_checkSwitch 92 = .ok (.iconst 0, 1) := by decide +kernel
theorem dX21_checkSwitch_93 : decode cX21_checkSwitch 93 = .ok (.iastore, 1) := by decide +kernel
theorem dX21_checkSwitch_94 : decode cX21_checkSwitch 94 = .ok (.aload_n 0, 1) := by decide +kernel
theorem dX21_checkSwitch_95 : decode cX21_checkSwitch 95 = .ok (.getfield 220, 3) := by decide +kernel
theorem dX21_checkSwitch_98 : decode cX21_checkSwitch 98 = .ok (.iload 5, 2) := by decide +kernel
theorem dX21_checkSwitch_100 : decode cX21_checkSwitch 100 = .ok (.aload_n 0, 1) := by decide +kernel
theorem dX21_checkSwitch_101 : decode cX21_checkSwitch 101 = .ok (.getfield 643, 3) := by decide +kernel
theorem dX21_checkSwitch_104 : decode cX21_checkSwitch 104 = .ok (.iastore, 1) := by decide +kernel
theorem dX21_checkSwitch_105 : decode cX21_checkSwitch 105 = .ok (.aload_n 0, 1) := by decide +kernel
theorem dX21_checkSwitch_106 : decode cX21_checkSwitch 106 = .ok (.getfield 220, 3) := by decide +kernel
theorem dX21_checkSwitch_109 : decode cX21_checkSwitch 109 = .ok (.iload_n 1, 1) := by decide +kernel
theorem dX21_checkSwitch_110 : decode cX21_checkSwitch 110 = .ok (.iaload, 1) := by decide +kernel
theorem dX21_checkSwitch_111 : decode cX21_checkSwitch 111 = .ok (.istore 6, 2) := by decide +kernel
theorem dX21_checkSwitch_113 : decode cX21_checkSwitch 113 = .ok (.iload 6, 2) := by decide +kernel
theorem dX21_checkSwitch_115 : decode cX21_checkSwitch 115 = .ok (.iload 5, 2) := by decide +kernel
theorem dX21_checkSwitch_117 : decode cX21_checkSwitch 117 = .ok (.if_icmp .eq 79, 3) := by decide +kernel
theorem dX21_checkSwitch_120 : decode cX21_checkSwitch 120 = .ok (.aload_n 0, 1) := by decide +kernel
theorem dX21_checkSwitch_121 : decode cX21_checkSwitch 121 = .ok (.getfield 208, 3) := by decide +kernel
theorem dX21_checkSwitch_124 : decode cX21_checkSwitch 124 = .ok (.iload 6, 2) := by decide +kernel
theorem dX21_checkSwitch_126 : decode cX21_checkSwitch 126 = .ok (.baload, 1) := by decide +kernel
theorem dX21_checkSwitch_127 : decode cX21_checkSwitch 127 = .ok (.bipush 29, 2) := by decide +kernel
theorem dX21_checkSwitch_129 : decode cX21_checkSwitch 129 = .ok (.if_icmp .ne 55, 3) := by decide +kernel
theorem dX21_checkSwitch_132 : decode cX21_checkSwitch 132 = .ok (.aload_n 0, 1) := by decide +kernel
theorem dX21_checkSwitch_133 : decode cX21_checkSwitch 133 = .ok (.getfield 232, 3) := by decide +kernel
theorem dX21_checkSwitch_136 : decode cX21_checkSwitch 136 = .ok (.iload 6, 2) := by decide +kernel
theorem dX21_checkSwitch_138 : decode cX21_checkSwitch 138 = .ok (.iaload, 1) := by decide +kernel
theorem dX21_checkSwitch_139 : decode cX21_checkSwitch 139 = .ok (.iconst 1, 1) := by decide +kernel
theorem dX21_checkSwitch_140 : decode cX21_checkSwitch 140 = .ok (.if_icmp .ne 44, 3) := by decide +kernel
theorem dX21_checkSwitch_143 : decode cX21_checkSwitch 143 = .ok (.aload_n 0, 1) := by decide +kernel
theorem dX21_checkSwitch_144 : decode cX21_checkSwitch 144 = .ok (.getfield 232, 3) := by decide +kernel
theorem dX21_checkSwitch_147 : decode cX21_checkSwitch 147 = .ok (.iload 5, 2) := by decide +kernel
theorem dX21_checkSwitch_149 : decode cX21_checkSwitch 149 = .ok (.iaload, 1) := by decide +kernel
theorem dX21_checkSwitch_150 : decode cX21_checkSwitch 150 = .ok (.iconst 1, 1) := by decide +kernel
theorem dX21_checkSwitch_151 : decode cX21_checkSwitch 151 = .ok (.if_icmp .ne 33, 3) := by decide +kernel
theorem dX21_checkSwitch_154 : decode cX21_checkSwitch 154 = .ok (.aload_n 0, 1) := by decide +kernel
theorem dX21_checkSwitch_155 : decode cX21_checkSwitch 155 = .ok (.getfield 220, 3) := by decide +kernel
theorem dX21_checkSwitch_158 : decode cX21_checkSwitch 158 = .ok (.iload 6, 2) := by decide +kernel
theorem dX21_checkSwitch_160 : decode cX21_checkSwitch 160 = .ok (.iaload, 1) := by decide +kernel
theorem dX21_checkSwitch_161 : decode cX21_checkSwitch 161 = .ok (.aload_n 0, 1) := by decide +kernel
theorem dX21_checkSwitch_162 : decode cX21_checkSwitch 162 = .ok (.getfield 220, 3) := by decide +kernel
theorem dX21_checkSwitch_165 : decode cX21_checkSwitch 165 = .ok (.iload 5, 2) := by decide +kernel
theorem dX21_checkSwitch_167 : decode cX21_checkSwitch 167 = .ok (.iaload, 1) := by decide +kernel
theorem dX21_checkSwitch_168 : decode cX21_checkSwitch 168 = .ok (.if_icmp .ne 16, 3) := by decide +kernel
theorem dX21_checkSwitch_171 : decode cX21_checkSwitch 171 = .ok (.aload_n 0, 1) := by decide +kernel
theorem dX21_checkSwitch_172 : decode cX21_checkSwitch 172 = .ok (.bipush 10, 2) := by decide +kernel
theorem dX21_checkSwitch_174 : decode cX21_checkSwitch 174 = .ok (.aload_n 0, 1) := by decide +kernel
theorem dX21_checkSwitch_175 : decode cX21_checkSwitch 175 = .ok (.getfield 211, 3) := by decide +kernel
theorem dX21_checkSwitch_178 : decode cX21_checkSwitch 178 = .ok (.iload 5, 2) := by decide +kernel
theorem dX21_checkSwitch_180 : decode cX21_checkSwitch 180 = .ok (.iaload, 1) := by decide +kernel
theorem dX21_checkSwitch_181 : decode cX21_checkSwitch 181 = .ok (.invokevirtual 597, 3) := by decide +kernel
theorem dX21_checkSwitch_184 : decode cX21_checkSwitch 184 = .ok (.aload_n 0, 1) := by decide +kernel
theorem dX21_checkSwitch_185 : decode cX21_checkSwitch 185 = .ok (.getfield 229, 3) := by decide +kernel
theorem dX21_checkSwitch_188 : decode cX21_checkSwitch 188 = .ok (.iload 6, 2) := by decide +kernel
theorem dX21_checkSwitch_190 : decode cX21_checkSwitch 190 = .ok (.iaload, 1) := by decide +kernel
theorem dX21_checkSwitch_191 : decode cX21_checkSwitch 191 = .ok (.istore 6, 2) := by decide +kernel
theorem dX21_checkSwitch_193 : decode cX21_checkSwitch 193 = .ok (.goto (-80), 3) := by decide +kernel
theorem dX21_checkSwitch_196 : decode cX21_checkSwitch 196 = .ok (.goto 45, 3) := by decide +kernel
theorem dX21_checkSwitch_199 : decode cX21_checkSwitch 199 = .ok (.aload_n 0, 1) := by decide +kernel
theorem dX21_checkSwitch_200 : decode cX21_checkSwitch 200 = .ok (.getfield 208, 3) := by decide +kernel
theorem dX21_checkSwitch_203 : decode cX21_checkSwitch 203 = .ok (.iload 5, 2) := by decide +kernel
theorem dX21_checkSwitch_205 : decode cX21_checkSwitch 205 = .ok (.baload, 1) := by decide +kernel
theorem dX21_checkSwitch_206 : decode cX21_checkSwitch 206 = .ok (.bipush 30, 2) := by decide +kernel
theorem dX21_checkSwitch_208 : decode cX21_checkSwitch 208 = .ok (.if_icmp .ne 27, 3) := by decide +kernel
theorem dX21_checkSwitch_211 : decode cX21_checkSwitch 211 = .ok (.iload 4, 2) := by decide +kernel
theorem dX21_checkSwitch_213 : decode cX21_checkSwitch 213 = .ok (.ifCond .eq 16, 3) := by decide +kernel
theorem dX21_checkSwitch_216 : decode cX21_checkSwitch 216 = .ok (.aload_n 0, 1) := by decide +kernel
theorem dX21_checkSwitch_217 : decode cX21_checkSwitch 217 = .ok (.bipush 10, 2) := by decide +kernel
theorem dX21_checkSwitch_219 : decode cX21_checkSwitch 219 = .ok (.aload_n 0, 1) := by decide +kernel
theorem dX21_checkSwitch_220 : decode cX21_checkSwitch 220 = .ok (.getfield 211, 3) := by decide +kernel
theorem dX21_checkSwitch_223 : decode cX21_checkSwitch 223 = .ok (.iload 5, 2) := by decide +kernel
theorem dX21_checkSwitch_225 : decode cX21_checkSwitch 225 = .ok (.iaload, 1) := by decide +kernel
theorem dX21_checkSwitch_226 : decode cX21_checkSwitch 226 = .ok (.invokevirtual 597, 3) := by decide +kernel
theorem dX21_checkSwitch_229 : decode cX21_checkSwitch 229 = .ok (.iconst 1, 1) := by decide +kernel
theorem dX21_checkSwitch_230 : decode cX21_checkSwitch 230 = .ok (.istore 4, 2) := by decide +kernel
theorem dX21_checkSwitch_232 : decode cX21_checkSwitch 232 = .ok (.goto 9, 3) := by decide +kernel
theorem dX21_checkSwitch_235 : decode cX21_checkSwitch 235 = .ok (.aload_n 0, 1) := by decide +kernel
theorem dX21_checkSwitch_236 : decode cX21_checkSwitch 236 = .ok (.iload 5, 2) := by decide +kernel
theorem dX21_checkSwitch_238 : decode cX21_checkSwitch 238 = .ok (.invokevirtual 667, 3) := by decide +kernel
theorem dX21_checkSwitch_241 : decode cX21_checkSwitch 241 = .ok (.aload_n 0, 1) := by decide +kernel
theorem dX21_checkSwitch_242 : decode cX21_checkSwitch 242 = .ok (.getfield 229, 3) := by decide +kernel
theorem dX21_checkSwitch_245 : decode cX21_checkSwitch 245 = .ok (.iload 5, 2) := by decide +kernel
theorem dX21_checkSwitch_247 : decode cX21_checkSwitch 247 = .ok (.iaload, 1) := by decide +kernel
theorem dX21_checkSwitch_248 : decode cX21_checkSwitch 248 = .ok (.istore 5, 2) := by decide +kernel
theorem dX21_checkSwitch_250 : decode cX21_checkSwitch 250 = .ok (.goto (-199), 3) := by decide +kernel
theorem dX21_checkSwitch_253 : decode cX21_checkSwitch 253 = .ok (.aload_n 0, 1) := by decide +kernel
theorem dX21_checkSwitch_254 : decode cX21_checkSwitch 254 = .ok (.dup, 1) := by decide +kernel
theorem dX21_checkSwitch_255 : decode cX21_checkSwitch 255 = .ok (.getfield 701, 3) := by decide +kernel
theorem dX21_checkSwitch_258 : decode cX21_checkSwitch 258 = .ok (.iconst 1, 1) := by decide +kernel
theorem dX21_checkSwitch_259 : decode cX21_checkSwitch 259 = .ok (.isub, 1) := by decide +kernel
theorem dX21_checkSwitch_260 : decode cX21_checkSwitch 260 = .ok (.putfield 701, 3) := by decide +kernel
theorem dX21_checkSwitch_263 : decode cX21_checkSwitch 263 = .ok (.aload_n 0, 1) := by decide +kernel
theorem dX21_checkSwitch_264 : decode cX21_checkSwitch 264 = .ok (.iload_n 2, 1) := by decide +kernel
theorem dX21_checkSwitch_265 : decode cX21_checkSwitch 265 = .ok (.iload_n 3, 1) := by decide +kernel
theorem dX21_checkSwitch_266 : decode cX21_checkSwitch 266 = .ok (.invokevirtual 673, 3) := by decide +kernel
theorem dX21_checkSwitch_269 : decode cX21_checkSwitch 269 = .ok (.return_, 1) := by decide +kernel
theorem dX21_checkReturn_0 : decode cX21_checkReturn 0 = .ok (.aload_n 0, 1) := by decide +kernel
theorem dX21_checkReturn_1 : decode cX21_checkReturn 1 = .ok (.getfield 232, 3) := by decide +kernel
theorem dX21_checkReturn_4 : decode cX21_checkReturn 4 = .ok (.aload_n 0, 1) := by decide +kernel
theorem dX21_checkReturn_5 : decode cX21_checkReturn 5 = .ok (.getfield 582, 3) := by decide +kernel
theorem dX21_checkReturn_8 : decode cX21_checkReturn 8 = .ok (.iaload, 1) := by decide +kernel
theorem dX21_checkReturn_9 : decode cX21_checkReturn 9 = .ok (.iconst 2, 1) := by decide +kernel
theorem dX21_checkReturn_10 : decode cX21_checkReturn 10 = .ok (.if_icmp .ne 7, 3) := by decide +kernel
theorem dX21_checkReturn_13 : decode cX21_checkReturn 13 = .ok (.iconst 1, 1) := by decide +kernel
theorem dX21_checkReturn_14 : decode cX21_checkReturn 14 = .ok (.goto 4, 3) := by decide +kernel
theorem dX21_checkReturn_17 : decode cX21_checkReturn 17 = .ok (.iconst 0, 1) := by decide +kernel
theorem dX21_checkReturn_18 : decode cX21_checkReturn 18 = .ok (.istore_n 2, 1) := by decide +kernel
theorem dX21_checkReturn_19 : decode cX21_checkReturn 19 = .ok (.iload_n 2, 1) := by decide +kernel
theorem dX21_checkReturn_20 : decode cX21_checkReturn 20 = .ok (.aload_n 0, 1) := by decide +kernel
theorem dX21_checkReturn_21 : decode cX21_checkReturn 21 = .ok (.getfield 217, 3) := by decide +kernel
theorem dX21_checkReturn_24 : decode cX21_checkReturn 24 = .ok (.iload_n 1, 1) := by decide +kernel
theorem dX21_checkReturn_25 : decode cX21_checkReturn 25 = .ok (.iaload, 1) := by decide +kernel
theorem dX21_checkReturn_26 : decode cX21_checkReturn 26 = .ok (.ifCond .lt 7, 3) := by decide +kernel
theorem dX21_checkReturn_29 : decode cX21_checkReturn 29 = .ok (.iconst 1, 1) := by decide +kernel
theorem dX21_checkReturn_30 : decode cX21_checkReturn 30 = .ok (.goto 4, 3) := by decide +kernel
theorem dX21_checkReturn_33 : decode cX21_checkReturn 33 = .ok (.iconst 0, 1) := by decide +kernel
theorem dX21_checkReturn_34 : decode cX21_checkReturn 34 = .ok (.if_icmp .ne 15, 3) := by decide +kernel
theorem dX21_checkReturn_37 : decode cX21_checkReturn 37 = .ok (.aload_n 0, 1) := by decide +kernel
theorem dX21_checkReturn_38 : decode cX21_checkReturn 38 = .ok (.bipush 11, 2) := by decide +kernel
theorem dX21_checkReturn_40 : decode cX21_checkReturn 40 = .ok (.aload_n 0, 1) := by decide +kernel
theorem dX21_checkReturn_41 : decode cX21_checkReturn 41 = .ok (.getfield 211, 3) := by decide +kernel
theorem dX21_checkReturn_44 : decode cX21_checkReturn 44 = .ok (.iload_n 1, 1) := by decide +kernel
theorem dX21_checkReturn_45 : decode cX21_checkReturn 45 = .ok (.iaload, 1) := by decide +kernel
theorem dX21_checkReturn_46 : decode cX21_checkReturn 46 = .ok (.invokevirtual 597, 3) := by decide +kernel
theorem dX21_checkReturn_49 : decode cX21_checkReturn 49 = .ok (.aload_n 0, 1) := by decide +kernel
theorem dX21_checkReturn_50 : decode cX21_checkReturn 50 = .ok (.getfield 217, 3) := by decide +kernel
theorem dX21_checkReturn_53 : decode cX21_checkReturn 53 = .ok (.iload_n 1, 1) := by decide +kernel
theorem dX21_checkReturn_54 : decode cX21_checkReturn 54 = .ok (.iaload, 1) := by decide +kernel
theorem dX21_checkReturn_55 : decode cX21_checkReturn 55 = .ok (.ifCond .lt 15, 3) := by decide +kernel
theorem dX21_checkReturn_58 : decode cX21_checkReturn 58 = .ok (.aload_n 0, 1) := by decide +kernel
theorem dX21_checkReturn_59 : decode cX21_checkReturn 59 = .ok (.aload_n 0, 1) := by decide +kernel
theorem dX21_checkReturn_60 : decode cX21_checkReturn 60 = .ok (.getfield 217, 3) := by decide +kernel
theorem dX21_checkReturn_63 : decode cX21_checkReturn 63 = .ok (.iload_n 1, 1) := by decide +kernel
theorem dX21_checkReturn_64 : decode cX21_checkReturn 64 = .ok (.iaload, 1) := by decide +kernel
theorem dX21_checkReturn_65 : decode cX21_checkReturn 65 = .ok (.iconst 1, 1) := by decide +kernel
theorem dX21_checkReturn_66 : decode cX21_checkReturn 66 = .ok (.invokevirtual 609, 3) := by decide +kernel
theorem dX21_checkReturn_69 : decode cX21_checkReturn 69 = .ok (.pop, 1) := by decide +kernel
theorem dX21_checkReturn_70 : decode cX21_checkReturn 70 = .ok (.return_, 1) := by decide +kernel
theorem dX21_measure_0 : decode cX21_measure 0 = .ok (.iload_n 1, 1) := by decide +kernel
theorem dX21_measure_1 : decode cX21_measure 1 = .ok (.istore_n 2, 1) := by decide +kernel
theorem dX21_measure_2 : decode cX21_measure 2 = .ok (.iload_n 2, 1) := by decide +kernel
theorem dX21_measure_3 : decode cX21_measure 3 = .ok (.ifCond .lt 18, 3) := by decide +kernel
theorem dX21_measure_6 : decode cX21_measure 6 = .ok (.aload_n 0, 1) := by decide +kernel
theorem dX21_measure_7 : decode cX21_measure 7 = .ok (.iload_n 2, 1) := by decide +kernel
theorem dX21_measure_8 : decode cX21_measure 8 = .ok (.invokevirtual 713, 3) := by decide +kernel
theorem dX21_measure_11 : decode cX21_measure 11 = .ok (.aload_n 0, 1) := by decide +kernel
theorem dX21_measure_12 : decode cX21_measure 12 = .ok (.getfield 229, 3) := by decide +kernel
theorem dX21_measure_15 : decode cX21_measure 15 = .ok (.iload_n 2, 1) := by decide +kernel
theorem dX21_measure_16 : decode cX21_measure 16 = .ok (.iaload, 1) := by decide +kernel
theorem dX21_measure_17 : decode cX21_measure 17 = .ok (.istore_n 2, 1) := by decide +kernel
theorem dX21_measure_18 : decode cX21_measure 18 = .ok (.goto (-16), 3) := by decide +kernel
theorem dX21_measure_21 : decode cX21_measure 21 = .ok (.return_, 1) := by decide +kernel
theorem dX21_measureOne_0 : decode cX21_measureOne 0 = .ok (.aload_n 0, 1) := by decide +kernel
theorem dX21_measureOne_1 : decode cX21_measureOne 1 = .ok (.getfield 208, 3) := by decide +kernel
theorem dX21_measureOne_4 : decode cX21_measureOne 4 = .ok (.iload_n 1, 1) := by decide +kernel
theorem dX21_measureOne_5 : decode cX21_measureOne 5 = .ok (.baload, 1) := by decide +kernel
theorem dX21_measureOne_6 : decode cX21_measureOne 6 = .ok (.tableswitch 261 20 33 #[70, 261, 83, 96, 144, 144, 144, 186, 238, 261, 261, 261, 261, 83], 70) := by decide +kernel
theorem dX21_measureOne_76 : decode cX21_measureOne 76 = .ok (.aload_n 0, 1) := by decide +kernel
theorem dX21_measureOne_77 : decode cX21_measureOne 77 = .ok (.aload_n 0, 1) := by decide +kernel
theorem dX21_measureOne_78 : decode cX21_measureOne 78 = .ok (.getfield 217, 3) := by decide +kernel
theorem dX21_measureOne_81 : decode cX21_measureOne 81 = .ok (.iload_n 1, 1) := by decide +kernel
theorem dX21_measureOne_82 : decode cX21_measureOne 82 = .ok (.iaload, 1) := by decide +kernel
theorem dX21_measureOne_83 : decode cX21_measureOne 83 = .ok (.invokevirtual 707, 3) := by decide +kernel
theorem dX21_measureOne_86 : decode cX21_measureOne 86 = .ok (.goto 181, 3) := by decide +kernel
theorem dX21_measureOne_89 : decode cX21_measureOne 89 = .ok (.aload_n 0, 1) := by decide +kernel
theorem dX21_measureOne_90 : decode cX21_measureOne 90 = .ok (.aload_n 0, 1) := by decide +kernel
theorem dX21_measureOne_91 : decode cX21_measureOne 91 = .ok (.getfield 217, 3) := by decide +kernel
theorem dX21_measureOne_94 : decode cX21_measureOne 94 = .ok (.iload_n 1, 1) := by decide +kernel
theorem dX21_measureOne_95 : decode cX21_measureOne 95 = .ok (.iaload, 1) := by decide +kernel
theorem dX21_measureOne_96 : decode cX21_measureOne 96 = .ok (.invokevirtual 716, 3) := by decide +kernel
theorem dX21_measureOne_99 : decode cX21_measureOne 99 = .ok (.goto 168, 3) := by decide +kernel
theorem dX21_measureOne_102 : decode cX21_measureOne 102 = .ok (.aload_n 0, 1) := by decide +kernel
theorem dX21_measureOne_103 : decode cX21_measureOne 103 = .ok (.getfield 217, 3) := by decide +kernel
theorem dX21_measureOne_106 : decode cX21_measureOne 106 = .ok (.iload_n 1, 1) := by decide +kernel
theorem dX21_measureOne_107 : decode cX21_measureOne 107 = .ok (.iaload, 1) := by decide +kernel
theorem dX21_measureOne_108 : decode cX21_measureOne 108 = .ok (.istore_n 2, 1) := by decide +kernel
theorem dX21_measureOne_109 : decode cX21_measureOne 109 = .ok (.iload_n 2, 1) := by decide +kernel
theorem dX21_measureOne_110 : decode cX21_measureOne 110 = .ok (.ifCond .lt 37, 3) := by decide +kernel
theorem dX21_measureOne_113 : decode cX21_measureOne 113 = .ok (.aload_n 0, 1) := by decide +kernel
theorem dX21_measureOne_114 : decode cX21_measureOne 114 = .ok (.aload_n 0, 1) := by decide +kernel
theorem dX21_measureOne_115 : decode cX21_measureOne 115 = .ok (.getfield 232, 3) := by decide +kernel
theorem dX21_measureOne_118 : decode cX21_measureOne 118 = .ok (.iload_n 2, 1) := by decide +kernel
theorem dX21_measureOne_119 : decode cX21_measureOne 119 = .ok (.iaload, 1) := by decide +kernel
theorem dX21_measureOne_120 : decode cX21_measureOne 120 = .ok (.iconst 1, 1) := by decide +kernel
theorem dX21_measureOne_121 : decode cX21_measureOne 121 = .ok (.if_icmp .ne 12, 3) := by decide +kernel
theorem dX21_measureOne_124 : decode cX21_measureOne 124 = .ok (.aload_n 0, 1) := by decide +kernel
theorem dX21_measureOne_125 : decode cX21_measureOne 125 = .ok (.getfield 220, 3) := by decide +kernel
theorem dX21_measureOne_128 : decode cX21_measureOne 128 = .ok (.iload_n 2, 1) := by decide +kernel
theorem dX21_measureOne_129 : decode cX21_measureOne 129 = .ok (.iaload, 1) := by decide +kernel
theorem dX21_measureOne_130 : decode cX21_measureOne 130 = .ok (.goto 4, 3) := by decide +kernel
theorem dX21_measureOne_133 : decode cX21_measureOne 133 = .ok (.iconst (-1), 1) := by decide +kernel
theorem dX21_measureOne_134 : decode cX21_measureOne 134 = .ok (.invokevirtual 716, 3) := by decide +kernel
theorem dX21_measureOne_137 : decode cX21_measureOne 137 = .ok (.aload_n 0, 1) := by decide +kernel
theorem dX21_measureOne_138 : decode cX21_measureOne 138 = .ok (.getfield 229, 3) := by decide +kernel
theorem dX21_measureOne_141 : decode cX21_measureOne 141 = .ok (.iload_n 2, 1) := by decide +kernel
theorem dX21_measureOne_142 : decode cX21_measureOne 142 = .ok (.iaload, 1) := by decide +kernel
theorem dX21_measureOne_143 : decode cX21_measureOne 143 = .ok (.istore_n 2, 1) := by decide +kernel
theorem dX21_measureOne_144 : decode cX21_measureOne 144 = .ok (.goto (-35), 3) := by decide +kernel
theorem dX21_measureOne_147 : decode cX21_measureOne 147 = .ok (.goto 120, 3) := by decide +kernel
theorem dX21_measureOne_150 : decode cX21_measureOne 150 = .ok (.aload_n 0, 1) := by decide +kernel
theorem dX21_measureOne_151 : decode cX21_measureOne 151 = .ok (.aload_n 0, 1) := by decide +kernel
theorem dX21_measureOne_152 : decode cX21_measureOne 152 = .ok (.getfield 217, 3) := by decide +kernel
theorem dX21_measureOne_155 : decode cX21_measureOne 155 = .ok (.iload_n 1, 1) := by decide +kernel
theorem dX21_measureOne_156 : decode cX21_measureOne 156 = .ok (.iaload, 1) := by decide +kernel
theorem dX21_measureOne_157 : decode cX21_measureOne 157 = .ok (.invokevirtual 716, 3) := by decide +kernel
theorem dX21_measureOne_160 : decode cX21_measureOne 160 = .ok (.aload_n 0, 1) := by decide +kernel
theorem dX21_measureOne_161 : decode cX21_measureOne 161 = .ok (.aload_n 0, 1) := by decide +kernel
theorem dX21_measureOne_162 : decode cX21_measureOne 162 = .ok (.getfield 220, 3) := by decide +kernel
theorem dX21_measureOne_165 : decode cX21_measureOne 165 = .ok (.iload_n 1, 1) := by decide +kernel
theorem dX21_measureOne_166 : decode cX21_measureOne 166 = .ok (.iaload, 1) := by decide +kernel
theorem dX21_measureOne_167 : decode cX21_measureOne 167 = .ok (.invokevirtual 713, 3) := by decide +kernel
theorem dX21_measureOne_170 : decode cX21_measureOne 170 = .ok (.aload_n 0, 1) := by decide +kernel
theorem dX21_measureOne_171 : decode cX21_measureOne 171 = .ok (.getfield 223, 3) := by decide +kernel
theorem dX21_measureOne_174 : decode cX21_measureOne 174 = .ok (.iload_n 1, 1) := by decide +kernel
theorem dX21_measureOne_175 : decode cX21_measureOne 175 = .ok (.iaload, 1) := by decide +kernel
theorem dX21_measureOne_176 : decode cX21_measureOne 176 = .ok (.ifCond .lt 91, 3) := by decide +kernel
theorem dX21_measureOne_179 : decode cX21_measureOne 179 = .ok (.aload_n 0, 1) := by decide +kernel
theorem dX21_measureOne_180 : decode cX21_measureOne 180 = .ok (.aload_n 0, 1) := by decide +kernel
theorem dX21_measureOne_181 : decode cX21_measureOne 181 = .ok (.getfield 223, 3) := by decide +kernel
theorem dX21_measureOne_184 : decode cX21_measureOne 184 = .ok (.iload_n 1, 1) := by decide +kernel
theorem dX21_measureOne_185 : decode cX21_measureOne 185 = .ok (.iaload, 1) := by decide +kernel
theorem dX21_measureOne_186 : decode cX21_measureOne 186 = .ok (.invokevirtual 713, 3) := by decide +kernel
theorem dX21_measureOne_189 : decode cX21_measureOne 189 = .ok (.goto 78, 3) := by decide +kernel
theorem dX21_measureOne_192 : decode cX21_measureOne 192 = .ok (.aload_n 0, 1) := by decide +kernel
theorem dX21_measureOne_193 : decode cX21_measureOne 193 = .ok (.getfield 217, 3) := by decide +kernel
theorem dX21_measureOne_196 : decode cX21_measureOne 196 = .ok (.iload_n 1, 1) := by decide +kernel
theorem dX21_measureOne_197 : decode cX21_measureOne 197 = .ok (.iaload, 1) := by decide +kernel
theorem dX21_measureOne_198 : decode cX21_measureOne 198 = .ok (.ifCond .lt 13, 3) := by decide +kernel
theorem dX21_measureOne_201 : decode cX21_measureOne 201 = .ok (.aload_n 0, 1) := by decide +kernel
theorem dX21_measureOne_202 : decode cX21_measureOne 202 = .ok (.aload_n 0, 1) := by decide +kernel
theorem dX21_measureOne_203 : decode cX21_measureOne 203 = .ok (.getfield 217, 3) := by decide +kernel
theorem dX21_measureOne_206 : decode cX21_measureOne 206 = .ok (.iload_n 1, 1) := by decide +kernel
theorem dX21_measureOne_207 : decode cX21_measureOne 207 = .ok (.iaload, 1) := by decide +kernel
theorem dX21_measureOne_208 : decode cX21_measureOne 208 = .ok (.invokevirtual 713, 3) := by decide +kernel
theorem dX21_measureOne_211 : decode cX21_measureOne 211 = .ok (.aload_n 0, 1) := by decide +kernel
theorem dX21_measureOne_212 : decode cX21_measureOne 212 = .ok (.aload_n 0, 1) := by decide +kernel
theorem dX21_measureOne_213 : decode cX21_measureOne 213 = .ok (.getfield 220, 3) := by decide +kernel
theorem dX21_measureOne_216 : decode cX21_measureOne 216 = .ok (.iload_n 1, 1) := by decide +kernel
theorem dX21_measureOne_217 : decode cX21_measureOne 217 = .ok (.iaload, 1) := by decide +kernel
theorem dX21_measureOne_218 : decode cX21_measureOne 218 = .ok (.invokevirtual 716, 3) := by decide +kernel
theorem dX21_measureOne_221 : decode cX21_measureOne 221 = .ok (.aload_n 0, 1) := by decide +kernel
theorem dX21_measureOne_222 : decode cX21_measureOne 222 = .ok (.aload_n 0, 1) := by decide +kernel
theorem dX21_measureOne_223 : decode cX21_measureOne 223 = .ok (.getfield 223, 3) := by decide +kernel
theorem dX21_measureOne_226 : decode cX21_measureOne 226 = .ok (.iload_n 1, 1) := by decide +kernel
theorem dX21_measureOne_227 : decode cX21_measureOne 227 = .ok (.iaload, 1) := by decide +kernel
theorem dX21_measureOne_228 : decode cX21_measureOne 228 = .ok (.invokevirtual 716, 3) := by decide +kernel
theorem dX21_measureOne_231 : decode cX21_measureOne 231 = .ok (.aload_n 0, 1) := by decide +kernel
theorem dX21_measureOne_232 : decode cX21_measureOne 232 = .ok (.aload_n 0, 1) := by decide +kernel
theorem dX21_measureOne_233 : decode cX21_measureOne 233 = .ok (.getfield 226, 3) := by decide +kernel
theorem dX21_measureOne_236 : decode cX21_measureOne 236 = .ok (.iload_n 1, 1) := by decide +kernel
theorem dX21_measureOne_237 : decode cX21_measureOne 237 = .ok (.iaload, 1) := by decide +kernel
theorem dX21_measureOne_238 : decode cX21_measureOne 238 = .ok (.invokevirtual 713, 3) := by decide +kernel
theorem dX21_measureOne_241 : decode cX21_measureOne 241 = .ok (.goto 26, 3) := by decide +kernel
theorem dX21_measureOne_244 : decode cX21_measureOne 244 = .ok (.aload_n 0, 1) := by decide +kernel
theorem dX21_measureOne_245 : decode cX21_measureOne 245 = .ok (.aload_n 0, 1) := by decide +kernel
theorem dX21_measureOne_246 : decode cX21_measureOne 246 = .ok (.getfield 217, 3) := by decide +kernel
theorem dX21_measureOne_249 : decode cX21_measureOne 249 = .ok (.iload_n 1, 1) := by decide +kernel
theorem dX21_measureOne_250 : decode cX21_measureOne 250 = .ok (.iaload, 1) := by decide +kernel
theorem dX21_measureOne_251 : decode cX21_measureOne 251 = .ok (.invokevirtual 716, 3) := by decide +kernel
theorem dX21_measureOne_254 : decode cX21_measureOne 254 = .ok (.aload_n 0, 1) := by decide +kernel
theorem dX21_measureOne_255 : decode cX21_measureOne 255 = .ok (.aload_n 0, 1) := by decide +kernel
theorem dX21_measureOne_256 : decode cX21_measureOne 256 = .ok (.getfield 220, 3) := by decide +kernel
theorem dX21_measureOne_259 : decode cX21_measureOne 259 = .ok (.iload_n 1, 1) := by decide +kernel
theorem dX21_measureOne_260 : decode cX21_measureOne 260 = .ok (.iaload, 1) := by decide +kernel
theorem dX21_measureOne_261 : decode cX21_measureOne 261 = .ok (.invokevirtual 707, 3) := by decide +kernel
theorem dX21_measureOne_264 : decode cX21_measureOne 264 = .ok (.goto 3, 3) := by decide +kernel
theorem dX21_measureOne_267 : decode cX21_measureOne 267 = .ok (.return_, 1) := by decide +kernel
theorem dX21_raise_0 : decode cX21_raise 0 = .ok (.iload_n 1, 1) := by decide +kernel
theorem dX21_raise_1 : decode cX21_raise 1 = .ok (.ifCond .ge 7, 3) := by decide +kernel
theorem dX21_raise_4 : decode cX21_raise 4 = .ok (.iconst 0, 1) := by decide +kernel
theorem dX21_raise_5 : decode cX21_raise 5 = .ok (.goto 8, 3) := by decide +kernel
theorem dX21_raise_8 : decode cX21_raise 8 = .ok (.aload_n 0, 1) := by decide +kernel
theorem dX21_raise_9 : decode cX21_raise 9 = .ok (.iload_n 1, 1) := by decide +kernel
theorem dX21_raise_10 : decode cX21_raise 10 = .ok (.invokevirtual 710, 3) := by decide +kernel
theorem dX21_raise_13 : decode cX21_raise 13 = .ok (.istore_n 2, 1) := by decide +kernel
theorem dX21_raise_14 : decode cX21_raise 14 = .ok (.aload_n 0, 1) := by decide +kernel
theorem dX21_raise_15 : decode cX21_raise 15 = .ok (.iload_n 2, 1) := by decide +kernel
theorem dX21_raise_16 : decode cX21_raise 16 = .ok (.aload_n 0, 1) := by decide +kernel
theorem dX21_raise_17 : decode cX21_raise 17 = .ok (.getfield 704, 3) := by decide +kernel
theorem dX21_raise_20 : decode cX21_raise 20 = .ok (.if_icmp .le 7, 3) := by decide +kernel
theorem dX21_raise_23 : decode cX21_raise 23 = .ok (.iload_n 2, 1) := by decide +kernel
theorem dX21_raise_24 : decode cX21_raise 24 = .ok (.goto 7, 3) := by decide +kernel
theorem dX21_raise_27 : decode cX21_raise 27 = .ok (.aload_n 0, 1) := by decide +kernel
theorem dX21_raise_28 : decode cX21_raise 28 = .ok (.getfield 704, 3) := by decide +kernel
theorem dX21_raise_31 : decode cX21_raise 31 = .ok (.putfield 704, 3) := by decide +kernel
theorem dX21_raise_34 : decode cX21_raise 34 = .ok (.return_, 1) := by decide +kernel
theorem dX21_height_0 : decode cX21_height 0 = .ok (.aload_n 0, 1) := by decide +kernel
theorem dX21_height_1 : decode cX21_height 1 = .ok (.getfield 208, 3) := by decide +kernel
theorem dX21_height_4 : decode cX21_height 4 = .ok (.iload_n 1, 1) := by decide +kernel
theorem dX21_height_5 : decode cX21_height 5 = .ok (.baload, 1) := by decide +kernel
theorem dX21_height_6 : decode cX21_height 6 = .ok (.tableswitch 439 1 9 #[50, 50, 52, 223, 439, 439, 234, 305, 372], 50) := by decide +kernel
theorem dX21_height_56 : decode cX21_height 56 = .ok (.iconst 1, 1) := by decide +kernel
theorem dX21_height_57 : decode cX21_height 57 = .ok (.ireturn, 1) := by decide +kernel
theorem dX21_height_58 : decode cX21_height 58 = .ok (.iconst 1, 1) := by decide +kernel
theorem dX21_height_59 : decode cX21_height 59 = .ok (.istore_n 2, 1) := by decide +kernel
theorem dX21_height_60 : decode cX21_height 60 = .ok (.iconst 0, 1) := by decide +kernel
theorem dX21_height_61 : decode cX21_height 61 = .ok (.istore_n 3, 1) := by decide +kernel
theorem dX21_height_62 : decode cX21_height 62 = .ok (.aload_n 0, 1) := by decide +kernel
theorem dX21_height_63 : decode cX21_height 63 = .ok (.getfield 220, 3) := by decide +kernel
theorem dX21_height_66 : decode cX21_height 66 = .ok (.iload_n 1, 1) := by decide +kernel
theorem dX21_height_67 : decode cX21_height 67 = .ok (.iaload, 1) := by decide +kernel
theorem dX21_height_68 : decode cX21_height 68 = .ok (.bipush 100, 2) := by decide +kernel
theorem dX21_height_70 : decode cX21_height 70 = .ok (.if_icmp .ge 7, 3) := by decide +kernel
theorem dX21_height_73 : decode cX21_height 73 = .ok (.iconst 1, 1) := by decide +kernel
theorem dX21_height_74 : decode cX21_height 74 = .ok (.goto 4, 3) := by decide +kernel
theorem dX21_height_77 : decode cX21_height 77 = .ok (.iconst 0, 1) := by decide +kernel
theorem dX21_height_78 : decode cX21_height 78 = .ok (.istore 4, 2) := by decide +kernel
theorem dX21_height_80 : decode cX21_height 80 = .ok (.iconst 0, 1) := by decide +kernel
theorem dX21_height_81 : decode cX21_height 81 = .ok (.istore 5, 2) := by decide +kernel
theorem dX21_height_83 : decode cX21_height 83 = .ok (.aload_n 0, 1) := by decide +kernel
theorem dX21_height_84 : decode cX21_height 84 = .ok (.getfield 217, 3) := by decide +kernel
theorem dX21_height_87 : decode cX21_height 87 = .ok (.iload_n 1, 1) := by decide +kernel
theorem dX21_height_88 : decode cX21_height 88 = .ok (.iaload, 1) := by decide +kernel
theorem dX21_height_89 : decode cX21_height 89 = .ok (.istore 6, 2) := by decide +kernel
theorem dX21_height_91 : decode cX21_height 91 = .ok (.iload 6, 2) := by decide +kernel
theorem dX21_height_93 : decode cX21_height 93 = .ok (.ifCond .lt 134, 3) := by decide +kernel
theorem dX21_height_96 : decode cX21_height 96 = .ok (.iload 4, 2) := by decide +kernel
theorem dX21_height_98 : decode cX21_height 98 = .ok (.ifCond .eq 19, 3) := by decide +kernel
theorem dX21_height_101 : decode cX21_height 101 = .ok (.aload_n 0, 1) := by decide +kernel
theorem dX21_height_102 : decode cX21_height 102 = .ok (.iconst (-1), 1) := by decide +kernel
theorem dX21_height_103 : decode cX21_height 103 = .ok (.aload_n 0, 1) := by decide +kernel
theorem dX21_height_104 : decode cX21_height 104 = .ok (.getfield 220, 3) := by decide +kernel
theorem dX21_height_107 : decode cX21_height 107 = .ok (.iload_n 1, 1) := by decide +kernel
theorem dX21_height_108 : decode cX21_height 108 = .ok (.iaload, 1) := by decide +kernel
theorem dX21_height_109 : decode cX21_height 109 = .ok (.iload 5, 2) := by decide +kernel
theorem dX21_height_111 : decode cX21_height 111 = .ok (.invokevirtual 619, 3) := by decide +kernel
theorem dX21_height_114 : decode cX21_height 114 = .ok (.goto 19, 3) := by decide +kernel
theorem dX21_height_117 : decode cX21_height 117 = .ok (.aload_n 0, 1) := by decide +kernel
theorem dX21_height_118 : decode cX21_height 118 = .ok (.aload_n 0, 1) := by decide +kernel
theorem dX21_height_119 : decode cX21_height 119 = .ok (.getfield 220, 3) := by decide +kernel
theorem dX21_height_122 : decode cX21_height 122 = .ok (.iload_n 1, 1) := by decide +kernel
theorem dX21_height_123 : decode cX21_height 123 = .ok (.iaload, 1) := by decide +kernel
theorem dX21_height_124 : decode cX21_height 124 = .ok (.bipush 100, 2) := by decide +kernel
theorem dX21_height_126 : decode cX21_height 126 = .ok (.isub, 1) := by decide +kernel
theorem dX21_height_127 : decode cX21_height 127 = .ok (.iconst (-1), 1) := by decide +kernel
theorem dX21_height_128 : decode cX21_height 128 = .ok (.iload 5, 2) := by decide +kernel
theorem dX21_height_130 : decode cX21_height 130 = .ok (.invokevirtual 619, 3) := by decide +kernel
theorem dX21_height_133 : decode cX21_height 133 = .ok (.istore 7, 2) := by decide +kernel
theorem dX21_height_135 : decode cX21_height 135 = .ok (.iload 7, 2) := by decide +kernel
theorem dX21_height_137 : decode cX21_height 137 = .ok (.bipush 105, 2) := by decide +kernel
theorem dX21_height_139 : decode cX21_height 139 = .ok (.if_icmp .eq 14, 3) := by decide +kernel
theorem dX21_height_142 : decode cX21_height 142 = .ok (.iload 7, 2) := by decide +kernel
theorem dX21_height_144 : decode cX21_height 144 = .ok (.bipush 107, 2) := by decide +kernel
theorem dX21_height_146 : decode cX21_height 146 = .ok (.if_icmp .eq 7, 3) := by decide +kernel
theorem dX21_height_149 : decode cX21_height 149 = .ok (.iconst 1, 1) := by decide +kernel
theorem dX21_height_150 : decode cX21_height 150 = .ok (.goto 4, 3) := by decide +kernel
theorem dX21_height_153 : decode cX21_height 153 = .ok (.iconst 0, 1) := by decide +kernel
theorem dX21_height_154 : decode cX21_height 154 = .ok (.istore 8, 2) := by decide +kernel
theorem dX21_height_156 : decode cX21_height 156 = .ok (.iload_n 3, 1) := by decide +kernel
theorem dX21_height_157 : decode cX21_height 157 = .ok (.iload 8, 2) := by decide +kernel
theorem dX21_height_159 : decode cX21_height 159 = .ok (.ifCond .eq 7, 3) := by decide +kernel
theorem dX21_height_162 : decode cX21_height 162 = .ok (.iconst 2, 1) := by decide +kernel
theorem dX21_height_163 : decode cX21_height 163 = .ok (.goto 20, 3) := by decide +kernel
theorem dX21_height_166 : decode cX21_height 166 = .ok (.iload 7, 2) := by decide +kernel
theorem dX21_height_168 : decode cX21_height 168 = .ok (.bipush 107, 2) := by decide +kernel
theorem dX21_height_170 : decode cX21_height 170 = .ok (.if_icmp .ne 7, 3) := by decide +kernel
theorem dX21_height_173 : decode cX21_height 173 = .ok (.iconst 1, 1) := by decide +kernel
theorem dX21_height_174 : decode cX21_height 174 = .ok (.goto 9, 3) := by decide +kernel
theorem dX21_height_177 : decode cX21_height 177 = .ok (.aload_n 0, 1) := by decide +kernel
theorem dX21_height_178 : decode cX21_height 178 = .ok (.iload 6, 2) := by decide +kernel
theorem dX21_height_180 : decode cX21_height 180 = .ok (.invokevirtual 710, 3) := by decide +kernel
theorem dX21_height_183 : decode cX21_height 183 = .ok (.iadd, 1) := by decide +kernel
theorem dX21_height_184 : decode cX21_height 184 = .ok (.istore 9, 2) := by decide +kernel
theorem dX21_height_186 : decode cX21_height 186 = .ok (.iload 9, 2) := by decide +kernel
theorem dX21_height_188 : decode cX21_height 188 = .ok (.iload_n 2, 1) := by decide +kernel
theorem dX21_height_189 : decode cX21_height 189 = .ok (.if_icmp .le 8, 3) := by decide +kernel
theorem dX21_height_192 : decode cX21_height 192 = .ok (.iload 9, 2) := by decide +kernel
theorem dX21_height_194 : decode cX21_height 194 = .ok (.goto 4, 3) := by decide +kernel
theorem dX21_height_197 : decode cX21_height 197 = .ok (.iload_n 2, 1) := by decide +kernel
theorem dX21_height_198 : decode cX21_height 198 = .ok (.istore_n 2, 1) := by decide +kernel
theorem dX21_height_199 : decode cX21_height 199 = .ok (.iload_n 3, 1) := by decide +kernel
theorem dX21_height_200 : decode cX21_height 200 = .ok (.iload 8, 2) := by decide +kernel
theorem dX21_height_202 : decode cX21_height 202 = .ok (.ifCond .eq 7, 3) := by decide +kernel
theorem dX21_height_205 : decode cX21_height 205 = .ok (.iconst 2, 1) := by decide +kernel
theorem dX21_height_206 : decode cX21_height 206 = .ok (.goto 4, 3) := by decide +kernel
theorem dX21_height_209 : decode cX21_height 209 = .ok (.iconst 1, 1) := by decide +kernel
theorem dX21_height_210 : decode cX21_height 210 = .ok (.iadd, 1) := by decide +kernel
theorem dX21_height_211 : decode cX21_height 211 = .ok (.istore_n 3, 1) := by decide +kernel
theorem dX21_height_212 : decode cX21_height 212 = .ok (.iinc 5 1, 3) := by decide +kernel
theorem dX21_height_215 : decode cX21_height 215 = .ok (.aload_n 0, 1) := by decide +kernel
theorem dX21_height_216 : decode cX21_height 216 = .ok (.getfield 229, 3) := by decide +kernel
theorem dX21_height_219 : decode cX21_height 219 = .ok (.iload 6, 2) := by decide +kernel
theorem dX21_height_221 : decode cX21_height 221 = .ok (.iaload, 1) := by decide +kernel
theorem dX21_height_222 : decode cX21_height 222 = .ok (.istore 6, 2) := by decide +kernel
theorem dX21_height_224 : decode cX21_height 224 = .ok (.goto (-133), 3) := by decide +kernel
theorem dX21_height_227 : decode cX21_height 227 = .ok (.iload_n 2, 1) := by decide +kernel
theorem dX21_height_228 : decode cX21_height 228 = .ok (.ireturn, 1) := by decide +kernel
theorem dX21_height_229 : decode cX21_height 229 = .ok (.aload_n 0, 1) := by decide +kernel
theorem dX21_height_230 : decode cX21_height 230 = .ok (.aload_n 0, 1) := by decide +kernel
theorem dX21_height_231 : decode cX21_height 231 = .ok (.getfield 217, 3) := by decide +kernel
theorem dX21_height_234 : decode cX21_height 234 = .ok (.iload_n 1, 1) := by decide +kernel
theorem dX21_height_235 : decode cX21_height 235 = .ok (.iaload, 1) := by decide +kernel
theorem dX21_height_236 : decode cX21_height 236 = .ok (.invokevirtual 710, 3) := by decide +kernel
theorem dX21_height_239 : decode cX21_height 239 = .ok (.ireturn, 1) := by decide +kernel
theorem dX21_height_240 : decode cX21_height 240 = .ok (.aload_n 0, 1) := by decide +kernel
theorem dX21_height_241 : decode cX21_height 241 = .ok (.aload_n 0, 1) := by decide +kernel
theorem dX21_height_242 : decode cX21_height 242 = .ok (.getfield 217, 3) := by decide +kernel
theorem dX21_height_245 : decode cX21_height 245 = .ok (.iload_n 1, 1) := by decide +kernel
theorem dX21_height_246 : decode cX21_height 246 = .ok (.iaload, 1) := by decide +kernel
theorem dX21_height_247 : decode cX21_height 247 = .ok (.invokevirtual 710, 3) := by decide +kernel
theorem dX21_height_250 : decode cX21_height 250 = .ok (.istore 6, 2) := by decide +kernel
theorem dX21_height_252 : decode cX21_height 252 = .ok (.aload_n 0, 1) := by decide +kernel
theorem dX21_height_253 : decode cX21_height 253 = .ok (.getfield 229, 3) := by decide +kernel
theorem dX21_height_256 : decode cX21_height 256 = .ok (.aload_n 0, 1) := by decide +kernel
theorem dX21_height_257 : decode cX21_height 257 = .ok (.getfield 217, 3) := by decide +kernel
theorem dX21_height_260 : decode cX21_height 260 = .ok (.iload_n 1, 1) := by decide +kernel
theorem dX21_height_261 : decode cX21_height 261 = .ok (.iaload, 1) := by decide +kernel
theorem dX21_height_262 : decode cX21_height 262 = .ok (.iaload, 1) := by decide +kernel
theorem dX21_height_263 : decode cX21_height 263 = .ok (.istore 7, 2) := by decide +kernel
theorem dX21_height_265 : decode cX21_height 265 = .ok (.iload 7, 2) := by decide +kernel
theorem dX21_height_267 : decode cX21_height 267 = .ok (.ifCond .lt 41, 3) := by decide +kernel
theorem dX21_height_270 : decode cX21_height 270 = .ok (.iconst 1, 1) := by decide +kernel
theorem dX21_height_271 : decode cX21_height 271 = .ok (.aload_n 0, 1) := by decide +kernel
theorem dX21_height_272 : decode cX21_height 272 = .ok (.iload 7, 2) := by decide +kernel
theorem dX21_height_274 : decode cX21_height 274 = .ok (.invokevirtual 710, 3) := by decide +kernel
theorem dX21_height_277 : decode cX21_height 277 = .ok (.iadd, 1) := by decide +kernel
theorem dX21_height_278 : decode cX21_height 278 = .ok (.istore 8, 2) := by decide +kernel
theorem dX21_height_280 : decode cX21_height 280 = .ok (.iload 8, 2) := by decide +kernel
theorem dX21_height_282 : decode cX21_height 282 = .ok (.iload 6, 2) := by decide +kernel
theorem dX21_height_284 : decode cX21_height 284 = .ok (.if_icmp .le 8, 3) := by decide +kernel
theorem dX21_height_287 : decode cX21_height 287 = .ok (.iload 8, 2) := by decide +kernel
theorem dX21_height_289 : decode cX21_height 289 = .ok (.goto 5, 3) := by decide +kernel
theorem dX21_height_292 : decode cX21_height 292 = .ok (.iload 6, 2) := by decide +kernel
theorem dX21_height_294 : decode cX21_height 294 = .ok (.istore 6, 2) := by decide +kernel
theorem dX21_height_296 : decode cX21_height 296 = .ok (.aload_n 0, 1) := by decide +kernel
theorem dX21_height_297 : decode cX21_height 297 = .ok (.getfield 229, 3) := by decide +kernel
theorem dX21_height_300 : decode cX21_height 300 = .ok (.iload 7, 2) := by decide +kernel
theorem dX21_height_302 : decode cX21_height 302 = .ok (.iaload, 1) := by decide +kernel
theorem dX21_height_303 : decode cX21_height 303 = .ok (.istore 7, 2) := by decide +kernel
theorem dX21_height_305 : decode cX21_height 305 = .ok (.goto (-40), 3) := by decide +kernel
theorem dX21_height_308 : decode cX21_height 308 = .ok (.iload 6, 2) := by decide +kernel
theorem dX21_height_310 : decode cX21_height 310 = .ok (.ireturn, 1) := by decide +kernel
theorem dX21_height_311 : decode cX21_height 311 = .ok (.aload_n 0, 1) := by decide +kernel
theorem dX21_height_312 : decode cX21_height 312 = .ok (.aload_n 0, 1) := by decide +kernel
theorem dX21_height_313 : decode cX21_height 313 = .ok (.getfield 217, 3) := by decide +kernel
theorem dX21_height_316 : decode cX21_height 316 = .ok (.iload_n 1, 1) := by decide +kernel
theorem dX21_height_317 : decode cX21_height 317 = .ok (.iaload, 1) := by decide +kernel
theorem dX21_height_318 : decode cX21_height 318 = .ok (.invokevirtual 710, 3) := by decide +kernel
theorem dX21_height_321 : decode cX21_height 321 = .ok (.istore 7, 2) := by decide +kernel
theorem dX21_height_323 : decode cX21_height 323 = .ok (.aload_n 0, 1) := by decide +kernel
theorem dX21_height_324 : decode cX21_height 324 = .ok (.aload_n 0, 1) := by decide +kernel
theorem dX21_height_325 : decode cX21_height 325 = .ok (.getfield 220, 3) := by decide +kernel
theorem dX21_height_328 : decode cX21_height 328 = .ok (.iload_n 1, 1) := by decide +kernel
theorem dX21_height_329 : decode cX21_height 329 = .ok (.iaload, 1) := by decide +kernel
theorem dX21_height_330 : decode cX21_height 330 = .ok (.invokevirtual 710, 3) := by decide +kernel
theorem dX21_height_333 : decode cX21_height 333 = .ok (.istore 8, 2) := by decide +kernel
theorem dX21_height_335 : decode cX21_height 335 = .ok (.aload_n 0, 1) := by decide +kernel
theorem dX21_height_336 : decode cX21_height 336 = .ok (.aload_n 0, 1) := by decide +kernel
theorem dX21_height_337 : decode cX21_height 337 = .ok (.getfield 223, 3) := by decide +kernel
theorem dX21_height_340 : decode cX21_height 340 = .ok (.iload_n 1, 1) := by decide +kernel
theorem dX21_height_341 : decode cX21_height 341 = .ok (.iaload, 1) := by decide +kernel
theorem dX21_height_342 : decode cX21_height 342 = .ok (.invokevirtual 710, 3) := by decide +kernel
theorem dX21_height_345 : decode cX21_height 345 = .ok (.istore 9, 2) := by decide +kernel
theorem dX21_height_347 : decode cX21_height 347 = .ok (.iload 8, 2) := by decide +kernel
theorem dX21_height_349 : decode cX21_height 349 = .ok (.iload 7, 2) := by decide +kernel
theorem dX21_height_351 : decode cX21_height 351 = .ok (.if_icmp .le 8, 3) := by decide +kernel
theorem dX21_height_354 : decode cX21_height 354 = .ok (.iload 8, 2) := by decide +kernel
theorem dX21_height_356 : decode cX21_height 356 = .ok (.goto 5, 3) := by decide +kernel
theorem dX21_height_359 : decode cX21_height 359 = .ok (.iload 7, 2) := by decide +kernel
theorem dX21_height_361 : decode cX21_height 361 = .ok (.istore 7, 2) := by decide +kernel
theorem dX21_height_363 : decode cX21_height 363 = .ok (.iload 9, 2) := by decide +kernel
theorem dX21_height_365 : decode cX21_height 365 = .ok (.iload 7, 2) := by decide +kernel
theorem dX21_height_367 : decode cX21_height 367 = .ok (.if_icmp .le 8, 3) := by decide +kernel
theorem dX21_height_370 : decode cX21_height 370 = .ok (.iload 9, 2) := by decide +kernel
theorem dX21_height_372 : decode cX21_height 372 = .ok (.goto 5, 3) := by decide +kernel
theorem dX21_height_375 : decode cX21_height 375 = .ok (.iload 7, 2) := by decide +kernel
theorem dX21_height_377 : decode cX21_height 377 = .ok (.ireturn, 1) := by decide +kernel
theorem dX21_height_378 : decode cX21_height 378 = .ok (.aload_n 0, 1) := by decide +kernel
theorem dX21_height_379 : decode cX21_height 379 = .ok (.aload_n 0, 1) := by decide +kernel
theorem dX21_height_380 : decode cX21_height 380 = .ok (.getfield 220, 3) := by decide +kernel
theorem dX21_height_383 : decode cX21_height 383 = .ok (.iload_n 1, 1) := by decide +kernel
theorem dX21_height_384 : decode cX21_height 384 = .ok (.iaload, 1) := by decide +kernel
theorem dX21_height_385 : decode cX21_height 385 = .ok (.invokevirtual 710, 3) := by decide +kernel
theorem dX21_height_388 : decode cX21_height 388 = .ok (.istore 10, 2) := by decide +kernel
theorem dX21_height_390 : decode cX21_height 390 = .ok (.aload_n 0, 1) := by decide +kernel
theorem dX21_height_391 : decode cX21_height 391 = .ok (.getfield 208, 3) := by decide +kernel
theorem dX21_height_394 : decode cX21_height 394 = .ok (.aload_n 0, 1) := by decide +kernel
theorem dX21_height_395 : decode cX21_height 395 = .ok (.getfield 217, 3) := by decide +kernel
theorem dX21_height_398 : decode cX21_height 398 = .ok (.iload_n 1, 1) := by decide +kernel
theorem dX21_height_399 : decode cX21_height 399 = .ok (.iaload, 1) := by decide +kernel
theorem dX21_height_400 : decode cX21_height 400 = .ok (.baload, 1) := by decide +kernel
theorem dX21_height_401 : decode cX21_height 401 = .ok (.iconst 4, 1) := by decide +kernel
theorem dX21_height_402 : decode cX21_height 402 = .ok (.if_icmp .ne 40, 3) := by decide +kernel
theorem dX21_height_405 : decode cX21_height 405 = .ok (.aload_n 0, 1) := by decide +kernel
theorem dX21_height_406 : decode cX21_height 406 = .ok (.aload_n 0, 1) := by decide +kernel
theorem dX21_height_407 : decode cX21_height 407 = .ok (.getfield 217, 3) := by decide +kernel
theorem dX21_height_410 : decode cX21_height 410 = .ok (.aload_n 0, 1) := by decide +kernel
theorem dX21_height_411 : decode cX21_height 411 = .ok (.getfield 217, 3) := by decide +kernel
theorem dX21_height_414 : decode cX21_height 414 = .ok (.iload_n 1, 1) := by decide +kernel
theorem dX21_height_415 : decode cX21_height 415 = .ok (.iaload, 1) := by decide +kernel
theorem dX21_height_416 : decode cX21_height 416 = .ok (.iaload, 1) := by decide +kernel
theorem dX21_height_417 : decode cX21_height 417 = .ok (.invokevirtual 710, 3) := by decide +kernel
theorem dX21_height_420 : decode cX21_height 420 = .ok (.istore 11, 2) := by decide +kernel
theorem dX21_height_422 : decode cX21_height 422 = .ok (.iload 11, 2) := by decide +kernel
theorem dX21_height_424 : decode cX21_height 424 = .ok (.iload 10, 2) := by decide +kernel
theorem dX21_height_426 : decode cX21_height 426 = .ok (.iconst 1, 1) := by decide +kernel
theorem dX21_height_427 : decode cX21_height 427 = .ok (.iadd, 1) := by decide +kernel
theorem dX21_height_428 : decode cX21_height 428 = .ok (.if_icmp .le 8, 3) := by decide +kernel
theorem dX21_height_431 : decode cX21_height 431 = .ok (.iload 11, 2) := by decide +kernel
theorem dX21_height_433 : decode cX21_height 433 = .ok (.goto 7, 3) := by decide +kernel
theorem dX21_height_436 : decode cX21_height 436 = .ok (.iload 10, 2) := by decide +kernel
theorem dX21_height_438 : decode cX21_height 438 = .ok (.iconst 1, 1) := by decide +kernel
theorem dX21_height_439 : decode cX21_height 439 = .ok (.iadd, 1) := by decide +kernel
theorem dX21_height_440 : decode cX21_height 440 = .ok (.istore 10, 2) := by decide +kernel
theorem dX21_height_442 : decode cX21_height 442 = .ok (.iload 10, 2) := by decide +kernel
theorem dX21_height_444 : decode cX21_height 444 = .ok (.ireturn, 1) := by decide +kernel
theorem dX21_height_445 : decode cX21_height 445 = .ok (.aload_n 0, 1) := by decide +kernel
theorem dX21_height_446 : decode cX21_height 446 = .ok (.aload_n 0, 1) := by decide +kernel
theorem dX21_height_447 : decode cX21_height 447 = .ok (.getfield 217, 3) := by decide +kernel
theorem dX21_height_450 : decode cX21_height 450 = .ok (.iload_n 1, 1) := by decide +kernel
theorem dX21_height_451 : decode cX21_height 451 = .ok (.iaload, 1) := by decide +kernel
theorem dX21_height_452 : decode cX21_height 452 = .ok (.invokevirtual 710, 3) := by decide +kernel
theorem dX21_height_455 : decode cX21_height 455 = .ok (.ireturn, 1) := by decide +kernel
theorem dX21_checkEnum_0 : decode cX21_checkEnum 0 = .ok (.iconst 0, 1) := by decide +kernel
theorem dX21_checkEnum_1 : decode cX21_checkEnum 1 = .ok (.istore_n 2, 1) := by decide +kernel
theorem dX21_checkEnum_2 : decode cX21_checkEnum 2 = .ok (.aload_n 0, 1) := by decide +kernel
theorem dX21_checkEnum_3 : decode cX21_checkEnum 3 = .ok (.getfield 217, 3) := by decide +kernel
theorem dX21_checkEnum_6 : decode cX21_checkEnum 6 = .ok (.iload_n 1, 1) := by decide +kernel
theorem dX21_checkEnum_7 : decode cX21_checkEnum 7 = .ok (.iaload, 1) := by decide +kernel
theorem dX21_checkEnum_8 : decode cX21_checkEnum 8 = .ok (.istore_n 3, 1) := by decide +kernel
theorem dX21_checkEnum_9 : decode cX21_checkEnum 9 = .ok (.iload_n 3, 1) := by decide +kernel
theorem dX21_checkEnum_10 : decode cX21_checkEnum 10 = .ok (.ifCond .lt 73, 3) := by decide +kernel
theorem dX21_checkEnum_13 : decode cX21_checkEnum 13 = .ok (.aload_n 0, 1) := by decide +kernel
theorem dX21_checkEnum_14 : decode cX21_checkEnum 14 = .ok (.aload_n 0, 1) := by decide +kernel
theorem dX21_checkEnum_15 : decode cX21_checkEnum 15 = .ok (.getfield 211, 3) := by decide +kernel
theorem dX21_checkEnum_18 : decode cX21_checkEnum 18 = .ok (.iload_n 3, 1) := by decide +kernel
theorem dX21_checkEnum_19 : decode cX21_checkEnum 19 = .ok (.iaload, 1) := by decide +kernel
theorem dX21_checkEnum_20 : decode cX21_checkEnum 20 = .ok (.invokevirtual 649, 3) := by decide +kernel
theorem dX21_checkEnum_23 : decode cX21_checkEnum 23 = .ok (.aload_n 0, 1) := by decide +kernel
theorem dX21_checkEnum_24 : decode cX21_checkEnum 24 = .ok (.getfield 217, 3) := by decide +kernel
theorem dX21_checkEnum_27 : decode cX21_checkEnum 27 = .ok (.iload_n 3, 1) := by decide +kernel
theorem dX21_checkEnum_28 : decode cX21_checkEnum 28 = .ok (.iaload, 1) := by decide +kernel
theorem dX21_checkEnum_29 : decode cX21_checkEnum 29 = .ok (.ifCond .lt 21, 3) := by decide +kernel
theorem dX21_checkEnum_32 : decode cX21_checkEnum 32 = .ok (.aload_n 0, 1) := by decide +kernel
theorem dX21_checkEnum_33 : decode cX21_checkEnum 33 = .ok (.aload_n 0, 1) := by decide +kernel
theorem dX21_checkEnum_34 : decode cX21_checkEnum 34 = .ok (.getfield 217, 3) := by decide +kernel
theorem dX21_checkEnum_37 : decode cX21_checkEnum 37 = .ok (.iload_n 3, 1) := by decide +kernel
theorem dX21_checkEnum_38 : decode cX21_checkEnum 38 = .ok (.iaload, 1) := by decide +kernel
theorem dX21_checkEnum_39 : decode cX21_checkEnum 39 = .ok (.invokevirtual 625, 3) := by decide +kernel
theorem dX21_checkEnum_42 : decode cX21_checkEnum 42 = .ok (.ifCond .eq 8, 3) := by decide +kernel
theorem dX21_checkEnum_45 : decode cX21_checkEnum 45 = .ok (.aload_n 0, 1) := by decide +kernel
theorem dX21_checkEnum_46 : decode cX21_checkEnum 46 = .ok (.getfield 643, 3) := by decide +kernel
theorem dX21_checkEnum_49 : decode cX21_checkEnum 49 = .ok (.istore_n 2, 1) := by decide +kernel
theorem dX21_checkEnum_50 : decode cX21_checkEnum 50 = .ok (.aload_n 0, 1) := by decide +kernel
theorem dX21_checkEnum_51 : decode cX21_checkEnum 51 = .ok (.getfield 220, 3) := by decide +kernel
theorem dX21_checkEnum_54 : decode cX21_checkEnum 54 = .ok (.iload_n 3, 1) := by decide +kernel
theorem dX21_checkEnum_55 : decode cX21_checkEnum 55 = .ok (.iload_n 2, 1) := by decide +kernel
theorem dX21_checkEnum_56 : decode cX21_checkEnum 56 = .ok (.iastore, 1) := by decide +kernel
theorem dX21_checkEnum_57 : decode cX21_checkEnum 57 = .ok (.aload_n 0, 1) := by decide +kernel
theorem dX21_checkEnum_58 : decode cX21_checkEnum 58 = .ok (.aload_n 0, 1) := by decide +kernel
theorem dX21_checkEnum_59 : decode cX21_checkEnum 59 = .ok (.getfield 211, 3) := by decide +kernel
theorem dX21_checkEnum_62 : decode cX21_checkEnum 62 = .ok (.iload_n 3, 1) := by decide +kernel
theorem dX21_checkEnum_63 : decode cX21_checkEnum 63 = .ok (.iaload, 1) := by decide +kernel
theorem dX21_checkEnum_64 : decode cX21_checkEnum 64 = .ok (.iconst 4, 1) := by decide +kernel
theorem dX21_checkEnum_65 : decode cX21_checkEnum 65 = .ok (.iload_n 2, 1) := by decide +kernel
theorem dX21_checkEnum_66 : decode cX21_checkEnum 66 = .ok (.iconst (-1), 1) := by decide +kernel
theorem dX21_checkEnum_67 : decode cX21_checkEnum 67 = .ok (.invokevirtual 664, 3) := by decide +kernel
theorem dX21_checkEnum_70 : decode cX21_checkEnum 70 = .ok (.iinc 2 1, 3) := by decide +kernel
theorem dX21_checkEnum_73 : decode cX21_checkEnum 73 = .ok (.aload_n 0, 1) := by decide +kernel
theorem dX21_checkEnum_74 : decode cX21_checkEnum 74 = .ok (.getfield 229, 3) := by decide +kernel
theorem dX21_checkEnum_77 : decode cX21_checkEnum 77 = .ok (.iload_n 3, 1) := by decide +kernel
theorem dX21_checkEnum_78 : decode cX21_checkEnum 78 = .ok (.iaload, 1) := by decide +kernel
theorem dX21_checkEnum_79 : decode cX21_checkEnum 79 = .ok (.istore_n 3, 1) := by decide +kernel
theorem dX21_checkEnum_80 : decode cX21_checkEnum 80 = .ok (.goto (-71), 3) := by decide +kernel
theorem dX21_checkEnum_83 : decode cX21_checkEnum 83 = .ok (.return_, 1) := by decide +kernel
theorem dX21_hasMain_0 : decode cX21_hasMain 0 = .ok (.iconst 0, 1) := by decide +kernel
theorem dX21_hasMain_1 : decode cX21_hasMain 1 = .ok (.istore_n 1, 1) := by decide +kernel
theorem dX21_hasMain_2 : decode cX21_hasMain 2 = .ok (.iload_n 1, 1) := by decide +kernel
theorem dX21_hasMain_3 : decode cX21_hasMain 3 = .ok (.aload_n 0, 1) := by decide +kernel
theorem dX21_hasMain_4 : decode cX21_hasMain 4 = .ok (.getfield 563, 3) := by decide +kernel
theorem dX21_hasMain_7 : decode cX21_hasMain 7 = .ok (.if_icmp .ge 104, 3) := by decide +kernel
theorem dX21_hasMain_10 : decode cX21_hasMain 10 = .ok (.aload_n 0, 1) := by decide +kernel
theorem dX21_hasMain_11 : decode cX21_hasMain 11 = .ok (.getfield 256, 3) := by decide +kernel
theorem dX21_hasMain_14 : decode cX21_hasMain 14 = .ok (.iload_n 1, 1) := by decide +kernel
theorem dX21_hasMain_15 : decode cX21_hasMain 15 = .ok (.iaload, 1) := by decide +kernel
theorem dX21_hasMain_16 : decode cX21_hasMain 16 = .ok (.istore_n 2, 1) := by decide +kernel
theorem dX21_hasMain_17 : decode cX21_hasMain 17 = .ok (.aload_n 0, 1) := by decide +kernel
theorem dX21_hasMain_18 : decode cX21_hasMain 18 = .ok (.getfield 217, 3) := by decide +kernel
theorem dX21_hasMain_21 : decode cX21_hasMain 21 = .ok (.iload_n 2, 1) := by decide +kernel
theorem dX21_hasMain_22 : decode cX21_hasMain 22 = .ok (.iaload, 1) := by decide +kernel
theorem dX21_hasMain_23 : decode cX21_hasMain 23 = .ok (.ifCond .lt 49, 3) := by decide +kernel
theorem dX21_hasMain_26 : decode cX21_hasMain 26 = .ok (.aload_n 0, 1) := by decide +kernel
theorem dX21_hasMain_27 : decode cX21_hasMain 27 = .ok (.getfield 229, 3) := by decide +kernel
theorem dX21_hasMain_30 : decode cX21_hasMain 30 = .ok (.aload_n 0, 1) := by decide +kernel
theorem dX21_hasMain_31 : decode cX21_hasMain 31 = .ok (.getfield 217, 3) := by decide +kernel
theorem dX21_hasMain_34 : decode cX21_hasMain 34 = .ok (.iload_n 2, 1) := by decide +kernel
theorem dX21_hasMain_35 : decode cX21_hasMain 35 = .ok (.iaload, 1) := by decide +kernel
theorem dX21_hasMain_36 : decode cX21_hasMain 36 = .ok (.iaload, 1) := by decide +kernel
theorem dX21_hasMain_37 : decode cX21_hasMain 37 = .ok (.ifCond .ge 35, 3) := by decide +kernel
theorem dX21_hasMain_40 : decode cX21_hasMain 40 = .ok (.aload_n 0, 1) := by decide +kernel
theorem dX21_hasMain_41 : decode cX21_hasMain 41 = .ok (.getfield 217, 3) := by decide +kernel
theorem dX21_hasMain_44 : decode cX21_hasMain 44 = .ok (.aload_n 0, 1) := by decide +kernel
theorem dX21_hasMain_45 : decode cX21_hasMain 45 = .ok (.getfield 217, 3) := by decide +kernel
theorem dX21_hasMain_48 : decode cX21_hasMain 48 = .ok (.iload_n 2, 1) := by decide +kernel
theorem dX21_hasMain_49 : decode cX21_hasMain 49 = .ok (.iaload, 1) := by decide +kernel
theorem dX21_hasMain_50 : decode cX21_hasMain 50 = .ok (.iaload, 1) := by decide +kernel
theorem dX21_hasMain_51 : decode cX21_hasMain 51 = .ok (.ifCond .ge 21, 3) := by decide +kernel
theorem dX21_hasMain_54 : decode cX21_hasMain 54 = .ok (.aload_n 0, 1) := by decide +kernel
theorem dX21_hasMain_55 : decode cX21_hasMain 55 = .ok (.getfield 232, 3) := by decide +kernel
theorem dX21_hasMain_58 : decode cX21_hasMain 58 = .ok (.aload_n 0, 1) := by decide +kernel
theorem dX21_hasMain_59 : decode cX21_hasMain 59 = .ok (.getfield 217, 3) := by decide +kernel
theorem dX21_hasMain_62 : decode cX21_hasMain 62 = .ok (.iload_n 2, 1) := by decide +kernel
theorem dX21_hasMain_63 : decode cX21_hasMain 63 = .ok (.iaload, 1) := by decide +kernel
theorem dX21_hasMain_64 : decode cX21_hasMain 64 = .ok (.iaload, 1) := by decide +kernel
theorem dX21_hasMain_65 : decode cX21_hasMain 65 = .ok (.ifCond .ne 7, 3) := by decide +kernel
theorem dX21_hasMain_68 : decode cX21_hasMain 68 = .ok (.iconst 1, 1) := by decide +kernel
theorem dX21_hasMain_69 : decode cX21_hasMain 69 = .ok (.goto 4, 3) := by decide +kernel
theorem dX21_hasMain_72 : decode cX21_hasMain 72 = .ok (.iconst 0, 1) := by decide +kernel
theorem dX21_hasMain_73 : decode cX21_hasMain 73 = .ok (.istore_n 3, 1) := by decide +kernel
theorem dX21_hasMain_74 : decode cX21_hasMain 74 = .ok (.aload_n 0, 1) := by decide +kernel
theorem dX21_hasMain_75 : decode cX21_hasMain 75 = .ok (.aload_n 0, 1) := by decide +kernel
theorem dX21_hasMain_76 : decode cX21_hasMain 76 = .ok (.getfield 211, 3) := by decide +kernel
theorem dX21_hasMain_79 : decode cX21_hasMain 79 = .ok (.iload_n 2, 1) := by decide +kernel
theorem dX21_hasMain_80 : decode cX21_hasMain 80 = .ok (.iaload, 1) := by decide +kernel
theorem dX21_hasMain_81 : decode cX21_hasMain 81 = .ok (.ldc_w 719, 3) := by decide +kernel
theorem dX21_hasMain_84 : decode cX21_hasMain 84 = .ok (.invokevirtual 570, 3) := by decide +kernel
theorem dX21_hasMain_87 : decode cX21_hasMain 87 = .ok (.ifCond .eq 18, 3) := by decide +kernel
theorem dX21_hasMain_90 : decode cX21_hasMain 90 = .ok (.aload_n 0, 1) := by decide +kernel
theorem dX21_hasMain_91 : decode cX21_hasMain 91 = .ok (.getfield 232, 3) := by decide +kernel
theorem dX21_hasMain_94 : decode cX21_hasMain 94 = .ok (.iload_n 2, 1) := by decide +kernel
theorem dX21_hasMain_95 : decode cX21_hasMain 95 = .ok (.iaload, 1) := by decide +kernel
theorem dX21_hasMain_96 : decode cX21_hasMain 96 = .ok (.ifCond .ne 9, 3) := by decide +kernel
theorem dX21_hasMain_99 : decode cX21_hasMain 99 = .ok (.iload_n 3, 1) := by decide +kernel
theorem dX21_hasMain_100 : decode cX21_hasMain 100 = .ok (.ifCond .eq 5, 3) := by decide +kernel
theorem dX21_hasMain_103 : decode cX21_hasMain 103 = .ok (.iconst 1, 1) := by decide +kernel
theorem dX21_hasMain_104 : decode cX21_hasMain 104 = .ok (.ireturn, 1) := by decide +kernel
theorem dX21_hasMain_105 : decode cX21_hasMain 105 = .ok (.iinc 1 1, 3) := by decide +kernel
theorem dX21_hasMain_108 : decode cX21_hasMain 108 = .ok (.goto (-106), 3) := by decide +kernel
theorem dX21_hasMain_111 : decode cX21_hasMain 111 = .ok (.iconst 0, 1) := by decide +kernel
theorem dX21_hasMain_112 : decode cX21_hasMain 112 = .ok (.ireturn, 1) := by decide +kernel
theorem dX21_place_0 : decode cX21_place 0 = .ok (.aload_n 0, 1) := by decide +kernel
theorem dX21_place_1 : decode cX21_place 1 = .ok (.iconst 0, 1) := by decide +kernel
theorem dX21_place_2 : decode cX21_place 2 = .ok (.putfield 318, 3) := by decide +kernel
theorem dX21_place_5 : decode cX21_place 5 = .ok (.aload_n 0, 1) := by decide +kernel
theorem dX21_place_6 : decode cX21_place 6 = .ok (.getfield 742, 3) := by decide +kernel
theorem dX21_place_9 : decode cX21_place 9 = .ok (.ireturn, 1) := by decide +kernel
theorem dX21_run_0 : decode cX21_run 0 = .ok (.iload_n 2, 1) := by decide +kernel
theorem dX21_run_1 : decode cX21_run 1 = .ok (.ifCond .lt 21, 3) := by decide +kernel
theorem dX21_run_4 : decode cX21_run 4 = .ok (.iload_n 2, 1) := by decide +kernel
theorem dX21_run_5 : decode cX21_run 5 = .ok (.sipush 2000, 3) := by decide +kernel
theorem dX21_run_8 : decode cX21_run 8 = .ok (.if_icmp .gt 14, 3) := by decide +kernel
theorem dX21_run_11 : decode cX21_run 11 = .ok (.iload_n 3, 1) := by decide +kernel
theorem dX21_run_12 : decode cX21_run 12 = .ok (.ifCond .lt 10, 3) := by decide +kernel
theorem dX21_run_15 : decode cX21_run 15 = .ok (.iload_n 3, 1) := by decide +kernel
theorem dX21_run_16 : decode cX21_run 16 = .ok (.sipush 1024, 3) := by decide +kernel
theorem dX21_run_19 : decode cX21_run 19 = .ok (.if_icmp .le 7, 3) := by decide +kernel
theorem dX21_run_22 : decode cX21_run 22 = .ok (.iconst 1, 1) := by decide +kernel
theorem dX21_run_23 : decode cX21_run 23 = .ok (.goto 4, 3) := by decide +kernel
theorem dX21_run_26 : decode cX21_run 26 = .ok (.iconst 0, 1) := by decide +kernel
theorem dX21_run_27 : decode cX21_run 27 = .ok (.istore 4, 2) := by decide +kernel
theorem dX21_run_29 : decode cX21_run 29 = .ok (.aload_n 0, 1) := by decide +kernel
theorem dX21_run_30 : decode cX21_run 30 = .ok (.aload_n 0, 1) := by decide +kernel
theorem dX21_run_31 : decode cX21_run 31 = .ok (.getfield 754, 3) := by decide +kernel
theorem dX21_run_34 : decode cX21_run 34 = .ok (.ifCond .ne 7, 3) := by decide +kernel
theorem dX21_run_37 : decode cX21_run 37 = .ok (.iconst 1, 1) := by decide +kernel
theorem dX21_run_38 : decode cX21_run 38 = .ok (.goto 28, 3) := by decide +kernel
theorem dX21_run_41 : decode cX21_run 41 = .ok (.iload 4, 2) := by decide +kernel
theorem dX21_run_43 : decode cX21_run 43 = .ok (.ifCond .eq 7, 3) := by decide +kernel
theorem dX21_run_46 : decode cX21_run 46 = .ok (.iconst 2, 1) := by decide +kernel
theorem dX21_run_47 : decode cX21_run 47 = .ok (.goto 19, 3) := by decide +kernel
theorem dX21_run_50 : decode cX21_run 50 = .ok (.aload_n 0, 1) := by decide +kernel
theorem dX21_run_51 : decode cX21_run 51 = .ok (.getfield 311, 3) := by decide +kernel
theorem dX21_run_54 : decode cX21_run 54 = .ok (.iload_n 2, 1) := by decide +kernel
theorem dX21_run_55 : decode cX21_run 55 = .ok (.bipush 10, 2) := by decide +kernel
theorem dX21_run_57 : decode cX21_run 57 = .ok (.iadd, 1) := by decide +kernel
theorem dX21_run_58 : decode cX21_run 58 = .ok (.if_icmp .ge 7, 3) := by decide +kernel
theorem dX21_run_61 : decode cX21_run 61 = .ok (.iconst 3, 1) := by decide +kernel
theorem dX21_run_62 : decode cX21_run 62 = .ok (.goto 4, 3) := by decide +kernel
theorem dX21_run_65 : decode cX21_run 65 = .ok (.iconst 0, 1) := by decide +kernel
theorem dX21_run_66 : decode cX21_run 66 = .ok (.putfield 318, 3) := by decide +kernel
theorem dX21_run_69 : decode cX21_run 69 = .ok (.aload_n 0, 1) := by decide +kernel
theorem dX21_run_70 : decode cX21_run 70 = .ok (.getfield 318, 3) := by decide +kernel
theorem dX21_run_73 : decode cX21_run 73 = .ok (.ifCond .le 5, 3) := by decide +kernel
theorem dX21_run_76 : decode cX21_run 76 = .ok (.iconst 0, 1) := by decide +kernel
theorem dX21_run_77 : decode cX21_run 77 = .ok (.ireturn, 1) := by decide +kernel
theorem dX21_run_78 : decode cX21_run 78 = .ok (.aload_n 0, 1) := by decide +kernel
theorem dX21_run_79 : decode cX21_run 79 = .ok (.aload_n 0, 1) := by decide +kernel
theorem dX21_run_80 : decode cX21_run 80 = .ok (.getfield 311, 3) := by decide +kernel
theorem dX21_run_83 : decode cX21_run 83 = .ok (.iload_n 2, 1) := by decide +kernel
theorem dX21_run_84 : decode cX21_run 84 = .ok (.isub, 1) := by decide +kernel
theorem dX21_run_85 : decode cX21_run 85 = .ok (.bipush 10, 2) := by decide +kernel
theorem dX21_run_87 : decode cX21_run 87 = .ok (.isub, 1) := by decide +kernel
theorem dX21_run_88 : decode cX21_run 88 = .ok (.putfield 311, 3) := by decide +kernel
theorem dX21_run_91 : decode cX21_run 91 = .ok (.aload_n 0, 1) := by decide +kernel
theorem dX21_run_92 : decode cX21_run 92 = .ok (.invokevirtual 902, 3) := by decide +kernel
theorem dX21_run_95 : decode cX21_run 95 = .ok (.aload_n 0, 1) := by decide +kernel
theorem dX21_run_96 : decode cX21_run 96 = .ok (.iconst 0, 1) := by decide +kernel
theorem dX21_run_97 : decode cX21_run 97 = .ok (.putfield 745, 3) := by decide +kernel
theorem dX21_run_100 : decode cX21_run 100 = .ok (.aload_n 0, 1) := by decide +kernel
theorem dX21_run_101 : decode cX21_run 101 = .ok (.iconst 0, 1) := by decide +kernel
theorem dX21_run_102 : decode cX21_run 102 = .ok (.putfield 748, 3) := by decide +kernel
theorem dX21_run_105 : decode cX21_run 105 = .ok (.aload_n 0, 1) := by decide +kernel
theorem dX21_run_106 : decode cX21_run 106 = .ok (.iload_n 2, 1) := by decide +kernel
theorem dX21_run_107 : decode cX21_run 107 = .ok (.putfield 751, 3) := by decide +kernel
theorem dX21_run_110 : decode cX21_run 110 = .ok (.aload_n 0, 1) := by decide +kernel
theorem dX21_run_111 : decode cX21_run 111 = .ok (.iload_n 3, 1) := by decide +kernel
theorem dX21_run_112 : decode cX21_run 112 = .ok (.putfield 850, 3) := by decide +kernel
theorem dX21_run_115 : decode cX21_run 115 = .ok (.aload_n 0, 1) := by decide +kernel
theorem dX21_run_116 : decode cX21_run 116 = .ok (.iconst 0, 1) := by decide +kernel
theorem dX21_run_117 : decode cX21_run 117 = .ok (.putfield 763, 3) := by decide +kernel
theorem dX21_run_120 : decode cX21_run 120 = .ok (.aload_n 0, 1) := by decide +kernel
theorem dX21_run_121 : decode cX21_run 121 = .ok (.iconst 0, 1) := by decide +kernel
theorem dX21_run_122 : decode cX21_run 122 = .ok (.putfield 766, 3) := by decide +kernel
theorem dX21_run_125 : decode cX21_run 125 = .ok (.aload_n 0, 1) := by decide +kernel
theorem dX21_run_126 : decode cX21_run 126 = .ok (.iconst 0, 1) := by decide +kernel
theorem dX21_run_127 : decode cX21_run 127 = .ok (.putfield 853, 3) := by decide +kernel
theorem dX21_run_130 : decode cX21_run 130 = .ok (.aload_n 0, 1) := by decide +kernel
theorem dX21_run_131 : decode cX21_run 131 = .ok (.aload_n 0, 1) := by decide +kernel
theorem dX21_run_132 : decode cX21_run 132 = .ok (.getfield 721, 3) := by decide +kernel
theorem dX21_run_135 : decode cX21_run 135 = .ok (.putfield 778, 3) := by decide +kernel
theorem dX21_run_138 : decode cX21_run 138 = .ok (.aload_n 0, 1) := by decide +kernel
theorem dX21_run_139 : decode cX21_run 139 = .ok (.aload_n 0, 1) := by decide +kernel
theorem dX21_run_140 : decode cX21_run 140 = .ok (.getfield 721, 3) := by decide +kernel
theorem dX21_run_143 : decode cX21_run 143 = .ok (.putfield 856, 3) := by decide +kernel
theorem dX21_run_146 : decode cX21_run 146 = .ok (.aload_n 0, 1) := by decide +kernel
theorem dX21_run_147 : decode cX21_run 147 = .ok (.iconst (-1), 1) := by decide +kernel
theorem dX21_run_148 : decode cX21_run 148 = .ok (.putfield 772, 3) := by decide +kernel
theorem dX21_run_151 : decode cX21_run 151 = .ok (.aload_n 0, 1) := by decide +kernel
theorem dX21_run_152 : decode cX21_run 152 = .ok (.iload_n 1, 1) := by decide +kernel
theorem dX21_run_153 : decode cX21_run 153 = .ok (.invokevirtual 769, 3) := by decide +kernel
theorem dX21_run_156 : decode cX21_run 156 = .ok (.aload_n 0, 1) := by decide +kernel
theorem dX21_run_157 : decode cX21_run 157 = .ok (.aload_n 0, 1) := by decide +kernel
theorem dX21_run_158 : decode cX21_run 158 = .ok (.invokevirtual 905, 3) := by decide +kernel
theorem dX21_run_161 : decode cX21_run 161 = .ok (.invokevirtual 841, 3) := by decide +kernel
theorem dX21_run_164 : decode cX21_run 164 = .ok (.aload_n 0, 1) := by decide +kernel
theorem dX21_run_165 : decode cX21_run 165 = .ok (.getfield 772, 3) := by decide +kernel
theorem dX21_run_168 : decode cX21_run 168 = .ok (.iconst (-1), 1) := by decide +kernel
theorem dX21_run_169 : decode cX21_run 169 = .ok (.if_icmp .ne 17, 3) := by decide +kernel
theorem dX21_run_172 : decode cX21_run 172 = .ok (.aload_n 0, 1) := by decide +kernel
theorem dX21_run_173 : decode cX21_run 173 = .ok (.getfield 763, 3) := by decide +kernel
theorem dX21_run_176 : decode cX21_run 176 = .ok (.ifCond .le 10, 3) := by decide +kernel
theorem dX21_run_179 : decode cX21_run 179 = .ok (.aload_n 0, 1) := by decide +kernel
theorem dX21_run_180 : decode cX21_run 180 = .ok (.invokevirtual 908, 3) := by decide +kernel
theorem dX21_run_183 : decode cX21_run 183 = .ok (.goto (-19), 3) := by decide +kernel
theorem dX21_run_186 : decode cX21_run 186 = .ok (.aload_n 0, 1) := by decide +kernel
theorem dX21_run_187 : decode cX21_run 187 = .ok (.getfield 772, 3) := by decide +kernel
theorem dX21_run_190 : decode cX21_run 190 = .ok (.iconst (-1), 1) := by decide +kernel
theorem dX21_run_191 : decode cX21_run 191 = .ok (.if_icmp .ne 16, 3) := by decide +kernel
theorem dX21_run_194 : decode cX21_run 194 = .ok (.aload_n 0, 1) := by decide +kernel
theorem dX21_run_195 : decode cX21_run 195 = .ok (.aload_n 0, 1) := by decide +kernel
theorem dX21_run_196 : decode cX21_run 196 = .ok (.invokevirtual 793, 3) := by decide +kernel
theorem dX21_run_199 : decode cX21_run 199 = .ok (.putfield 748, 3) := by decide +kernel
theorem dX21_run_202 : decode cX21_run 202 = .ok (.aload_n 0, 1) := by decide +kernel
theorem dX21_run_203 : decode cX21_run 203 = .ok (.iconst 0, 1) := by decide +kernel
theorem dX21_run_204 : decode cX21_run 204 = .ok (.putfield 772, 3) := by decide +kernel
theorem dX21_run_207 : decode cX21_run 207 = .ok (.aload_n 0, 1) := by decide +kernel
theorem dX21_run_208 : decode cX21_run 208 = .ok (.getfield 772, 3) := by decide +kernel
theorem dX21_run_211 : decode cX21_run 211 = .ok (.ireturn, 1) := by decide +kernel
theorem dX21_setText_0 : decode cX21_setText 0 = .ok (.aload_n 0, 1) := by decide +kernel
theorem dX21_setText_1 : decode cX21_setText 1 = .ok (.iconst (-1), 1) := by decide +kernel
theorem dX21_setText_2 : decode cX21_setText 2 = .ok (.putfield 582, 3) := by decide +kernel
theorem dX21_setText_5 : decode cX21_setText 5 = .ok (.iconst 0, 1) := by decide +kernel
theorem dX21_setText_6 : decode cX21_setText 6 = .ok (.istore_n 1, 1) := by decide +kernel
theorem dX21_setText_7 : decode cX21_setText 7 = .ok (.iload_n 1, 1) := by decide +kernel
theorem dX21_setText_8 : decode cX21_setText 8 = .ok (.ldc_w 281, 3) := by decide +kernel
theorem dX21_setText_11 : decode cX21_setText 11 = .ok (.if_icmp .ge 16, 3) := by decide +kernel
theorem dX21_setText_14 : decode cX21_setText 14 = .ok (.aload_n 0, 1) := by decide +kernel
theorem dX21_setText_15 : decode cX21_setText 15 = .ok (.getfield 282, 3) := by decide +kernel
theorem dX21_setText_18 : decode cX21_setText 18 = .ok (.iload_n 1, 1) := by decide +kernel
theorem dX21_setText_19 : decode cX21_setText 19 = .ok (.iconst 0, 1) := by decide +kernel
theorem dX21_setText_20 : decode cX21_setText 20 = .ok (.iastore, 1) := by decide +kernel
theorem dX21_setText_21 : decode cX21_setText 21 = .ok (.iinc 1 1, 3) := by decide +kernel
theorem dX21_setText_24 : decode cX21_setText 24 = .ok (.goto (-17), 3) := by decide +kernel
theorem dX21_setText_27 : decode cX21_setText 27 = .ok (.aload_n 0, 1) := by decide +kernel
theorem dX21_setText_28 : decode cX21_setText 28 = .ok (.iconst 0, 1) := by decide +kernel
theorem dX21_setText_29 : decode cX21_setText 29 = .ok (.putfield 778, 3) := by decide +kernel
theorem dX21_setText_32 : decode cX21_setText 32 = .ok (.aload_n 0, 1) := by decide +kernel
theorem dX21_setText_33 : decode cX21_setText 33 = .ok (.getfield 528, 3) := by decide +kernel
theorem dX21_setText_36 : decode cX21_setText 36 = .ok (.istore_n 1, 1) := by decide +kernel
theorem dX21_setText_37 : decode cX21_setText 37 = .ok (.iload_n 1, 1) := by decide +kernel
theorem dX21_setText_38 : decode cX21_setText 38 = .ok (.ifCond .lt 97, 3) := by decide +kernel
theorem dX21_setText_41 : decode cX21_setText 41 = .ok (.aload_n 0, 1) := by decide +kernel
theorem dX21_setText_42 : decode cX21_setText 42 = .ok (.getfield 208, 3) := by decide +kernel
theorem dX21_setText_45 : decode cX21_setText 45 = .ok (.iload_n 1, 1) := by decide +kernel
theorem dX21_setText_46 : decode cX21_setText 46 = .ok (.baload, 1) := by decide +kernel
theorem dX21_setText_47 : decode cX21_setText 47 = .ok (.bipush 23, 2) := by decide +kernel
theorem dX21_setText_49 : decode cX21_setText 49 = .ok (.if_icmp .ne 76, 3) := by decide +kernel
theorem dX21_setText_52 : decode cX21_setText 52 = .ok (.aload_n 0, 1) := by decide +kernel
theorem dX21_setText_53 : decode cX21_setText 53 = .ok (.getfield 217, 3) := by decide +kernel
theorem dX21_setText_56 : decode cX21_setText 56 = .ok (.iload_n 1, 1) := by decide +kernel
theorem dX21_setText_57 : decode cX21_setText 57 = .ok (.iaload, 1) := by decide +kernel
theorem dX21_setText_58 : decode cX21_setText 58 = .ok (.istore_n 2, 1) := by decide +kernel
theorem dX21_setText_59 : decode cX21_setText 59 = .ok (.iload_n 2, 1) := by decide +kernel
theorem dX21_setText_60 : decode cX21_setText 60 = .ok (.ifCond .lt 65, 3) := by decide +kernel
theorem dX21_setText_63 : decode cX21_setText 63 = .ok (.aload_n 0, 1) := by decide +kernel
theorem dX21_setText_64 : decode cX21_setText 64 = .ok (.iload_n 2, 1) := by decide +kernel
theorem dX21_setText_65 : decode cX21_setText 65 = .ok (.invokevirtual 896, 3) := by decide +kernel
theorem dX21_setText_68 : decode cX21_setText 68 = .ok (.aload_n 0, 1) := by decide +kernel
theorem dX21_setText_69 : decode cX21_setText 69 = .ok (.getfield 232, 3) := by decide +kernel
theorem dX21_setText_72 : decode cX21_setText 72 = .ok (.iload_n 2, 1) := by decide +kernel
theorem dX21_setText_73 : decode cX21_setText 73 = .ok (.iaload, 1) := by decide +kernel
theorem dX21_setText_74 : decode cX21_setText 74 = .ok (.iconst 1, 1) := by decide +kernel
theorem dX21_setText_75 : decode cX21_setText 75 = .ok (.if_icmp .ne 40, 3) := by decide +kernel
theorem dX21_setText_78 : decode cX21_setText 78 = .ok (.aload_n 0, 1) := by decide +kernel
theorem dX21_setText_79 : decode cX21_setText 79 = .ok (.getfield 282, 3) := by decide +kernel
theorem dX21_setText_82 : decode cX21_setText 82 = .ok (.aload_n 0, 1) := by decide +kernel
theorem dX21_setText_83 : decode cX21_setText 83 = .ok (.getfield 269, 3) := by decide +kernel
theorem dX21_setText_86 : decode cX21_setText 86 = .ok (.aload_n 0, 1) := by decide +kernel
theorem dX21_setText_87 : decode cX21_setText 87 = .ok (.getfield 226, 3) := by decide +kernel
theorem dX21_setText_90 : decode cX21_setText 90 = .ok (.iload_n 2, 1) := by decide +kernel
theorem dX21_setText_91 : decode cX21_setText 91 = .ok (.iaload, 1) := by decide +kernel
theorem dX21_setText_92 : decode cX21_setText 92 = .ok (.iaload, 1) := by decide +kernel
theorem dX21_setText_93 : decode cX21_setText 93 = .ok (.aload_n 0, 1) := by decide +kernel
theorem dX21_setText_94 : decode cX21_setText 94 = .ok (.aload_n 0, 1) := by decide +kernel
theorem dX21_setText_95 : decode cX21_setText 95 = .ok (.getfield 226, 3) := by decide +kernel
theorem dX21_setText_98 : decode cX21_setText 98 = .ok (.iload_n 2, 1) := by decide +kernel
theorem dX21_setText_99 : decode cX21_setText 99 = .ok (.iaload, 1) := by decide +kernel
theorem dX21_setText_100 : decode cX21_setText 100 = .ok (.aload_n 0, 1) := by decide +kernel
theorem dX21_setText_101 : decode cX21_setText 101 = .ok (.getfield 226, 3) := by decide +kernel
theorem dX21_setText_104 : decode cX21_setText 104 = .ok (.aload_n 0, 1) := by decide +kernel
theorem dX21_setText_105 : decode cX21_setText 105 = .ok (.getfield 220, 3) := by decide +kernel
theorem dX21_setText_108 : decode cX21_setText 108 = .ok (.iload_n 2, 1) := by decide +kernel
theorem dX21_setText_109 : decode cX21_setText 109 = .ok (.iaload, 1) := by decide +kernel
theorem dX21_setText_110 : decode cX21_setText 110 = .ok (.iaload, 1) := by decide +kernel
theorem dX21_setText_111 : decode cX21_setText 111 = .ok (.invokevirtual 832, 3) := by decide +kernel
theorem dX21_setText_114 : decode cX21_setText 114 = .ok (.iastore, 1) := by decide +kernel
theorem dX21_setText_115 : decode cX21_setText 115 = .ok (.aload_n 0, 1) := by decide +kernel
theorem dX21_setText_116 : decode cX21_setText 116 = .ok (.getfield 229, 3) := by decide +kernel
theorem dX21_setText_119 : decode cX21_setText 119 = .ok (.iload_n 2, 1) := by decide +kernel
theorem dX21_setText_120 : decode cX21_setText 120 = .ok (.iaload, 1) := by decide +kernel
theorem dX21_setText_121 : decode cX21_setText 121 = .ok (.istore_n 2, 1) := by decide +kernel
theorem dX21_setText_122 : decode cX21_setText 122 = .ok (.goto (-63), 3) := by decide +kernel
theorem dX21_setText_125 : decode cX21_setText 125 = .ok (.aload_n 0, 1) := by decide +kernel
theorem dX21_setText_126 : decode cX21_setText 126 = .ok (.getfield 229, 3) := by decide +kernel
theorem dX21_setText_129 : decode cX21_setText 129 = .ok (.iload_n 1, 1) := by decide +kernel
theorem dX21_setText_130 : decode cX21_setText 130 = .ok (.iaload, 1) := by decide +kernel
theorem dX21_setText_131 : decode cX21_setText 131 = .ok (.istore_n 1, 1) := by decide +kernel
theorem dX21_setText_132 : decode cX21_setText 132 = .ok (.goto (-95), 3) := by decide +kernel
theorem dX21_setText_135 : decode cX21_setText 135 = .ok (.return_, 1) := by decide +kernel
theorem dX21_begin_0 : decode cX21_begin 0 = .ok (.aload_n 0, 1) := by decide +kernel
theorem dX21_begin_1 : decode cX21_begin 1 = .ok (.getfield 226, 3) := by decide +kernel
theorem dX21_begin_4 : decode cX21_begin 4 = .ok (.iload_n 1, 1) := by decide +kernel
theorem dX21_begin_5 : decode cX21_begin 5 = .ok (.iaload, 1) := by decide +kernel
theorem dX21_begin_6 : decode cX21_begin 6 = .ok (.istore_n 2, 1) := by decide +kernel
theorem dX21_begin_7 : decode cX21_begin 7 = .ok (.aload_n 0, 1) := by decide +kernel
theorem dX21_begin_8 : decode cX21_begin 8 = .ok (.iload_n 2, 1) := by decide +kernel
theorem dX21_begin_9 : decode cX21_begin 9 = .ok (.invokevirtual 784, 3) := by decide +kernel
theorem dX21_begin_12 : decode cX21_begin 12 = .ok (.istore_n 3, 1) := by decide +kernel
theorem dX21_begin_13 : decode cX21_begin 13 = .ok (.iconst 0, 1) := by decide +kernel
theorem dX21_begin_14 : decode cX21_begin 14 = .ok (.istore 4, 2) := by decide +kernel
theorem dX21_begin_16 : decode cX21_begin 16 = .ok (.iload 4, 2) := by decide +kernel
theorem dX21_begin_18 : decode cX21_begin 18 = .ok (.aload_n 0, 1) := by decide +kernel
theorem dX21_begin_19 : decode cX21_begin 19 = .ok (.getfield 272, 3) := by decide +kernel
theorem dX21_begin_22 : decode cX21_begin 22 = .ok (.iload_n 2, 1) := by decide +kernel
theorem dX21_begin_23 : decode cX21_begin 23 = .ok (.iaload, 1) := by decide +kernel
theorem dX21_begin_24 : decode cX21_begin 24 = .ok (.if_icmp .ge 19, 3) := by decide +kernel
theorem dX21_begin_27 : decode cX21_begin 27 = .ok (.aload_n 0, 1) := by decide +kernel
theorem dX21_begin_28 : decode cX21_begin 28 = .ok (.getfield 282, 3) := by decide +kernel
theorem dX21_begin_31 : decode cX21_begin 31 = .ok (.iload_n 3, 1) := by decide +kernel
theorem dX21_begin_32 : decode cX21_begin 32 = .ok (.iload 4, 2) := by decide +kernel
theorem dX21_begin_34 : decode cX21_begin 34 = .ok (.iadd, 1) := by decide +kernel
theorem dX21_begin_35 : decode cX21_begin 35 = .ok (.iconst 0, 1) := by decide +kernel
theorem dX21_begin_36 : decode cX21_begin 36 = .ok (.iastore, 1) := by decide +kernel
theorem dX21_begin_37 : decode cX21_begin 37 = .ok (.iinc 4 1, 3) := by decide +kernel
theorem dX21_begin_40 : decode cX21_begin 40 = .ok (.goto (-24), 3) := by decide +kernel
theorem dX21_begin_43 : decode cX21_begin 43 = .ok (.aload_n 0, 1) := by decide +kernel
theorem dX21_begin_44 : decode cX21_begin 44 = .ok (.getfield 232, 3) := by decide +kernel
theorem dX21_begin_47 : decode cX21_begin 47 = .ok (.iload_n 1, 1) := by decide +kernel
theorem dX21_begin_48 : decode cX21_begin 48 = .ok (.iaload, 1) := by decide +kernel
theorem dX21_begin_49 : decode cX21_begin 49 = .ok (.iconst 2, 1) := by decide +kernel
theorem dX21_begin_50 : decode cX21_begin 50 = .ok (.if_icmp .ne 58, 3) := by decide +kernel
theorem dX21_begin_53 : decode cX21_begin 53 = .ok (.iconst 0, 1) := by decide +kernel
theorem dX21_begin_54 : decode cX21_begin 54 = .ok (.istore 4, 2) := by decide +kernel
theorem dX21_begin_56 : decode cX21_begin 56 = .ok (.aload_n 0, 1) := by decide +kernel
theorem dX21_begin_57 : decode cX21_begin 57 = .ok (.getfield 220, 3) := by decide +kernel
theorem dX21_begin_60 : decode cX21_begin 60 = .ok (.iload_n 1, 1) := by decide +kernel
theorem dX21_begin_61 : decode cX21_begin 61 = .ok (.iaload, 1) := by decide +kernel
theorem dX21_begin_62 : decode cX21_begin 62 = .ok (.istore 5, 2) := by decide +kernel
theorem dX21_begin_64 : decode cX21_begin 64 = .ok (.iload 5, 2) := by decide +kernel
theorem dX21_begin_66 : decode cX21_begin 66 = .ok (.ifCond .lt 39, 3) := by decide +kernel
theorem dX21_begin_69 : decode cX21_begin 69 = .ok (.aload_n 0, 1) := by decide +kernel
theorem dX21_begin_70 : decode cX21_begin 70 = .ok (.getfield 282, 3) := by decide +kernel
theorem dX21_begin_73 : decode cX21_begin 73 = .ok (.iload_n 3, 1) := by decide +kernel
theorem dX21_begin_74 : decode cX21_begin 74 = .ok (.iload 4, 2) := by decide +kernel
theorem dX21_begin_76 : decode cX21_begin 76 = .ok (.iadd, 1) := by decide +kernel
theorem dX21_begin_77 : decode cX21_begin 77 = .ok (.aload_n 0, 1) := by decide +kernel
theorem dX21_begin_78 : decode cX21_begin 78 = .ok (.iload_n 2, 1) := by decide +kernel
theorem dX21_begin_79 : decode cX21_begin 79 = .ok (.aload_n 0, 1) := by decide +kernel
theorem dX21_begin_80 : decode cX21_begin 80 = .ok (.getfield 226, 3) := by decide +kernel
theorem dX21_begin_83 : decode cX21_begin 83 = .ok (.iload 5, 2) := by decide +kernel
theorem dX21_begin_85 : decode cX21_begin 85 = .ok (.iaload, 1) := by decide +kernel
theorem dX21_begin_86 : decode cX21_begin 86 = .ok (.invokevirtual 832, 3) := by decide +kernel
theorem dX21_begin_89 : decode cX21_begin 89 = .ok (.iastore, 1) := by decide +kernel
theorem dX21_begin_90 : decode cX21_begin 90 = .ok (.iinc 4 1, 3) := by decide +kernel
theorem dX21_begin_93 : decode cX21_begin 93 = .ok (.aload_n 0, 1) := by decide +kernel
theorem dX21_begin_94 : decode cX21_begin 94 = .ok (.getfield 229, 3) := by decide +kernel
theorem dX21_begin_97 : decode cX21_begin 97 = .ok (.iload 5, 2) := by decide +kernel
theorem dX21_begin_99 : decode cX21_begin 99 = .ok (.iaload, 1) := by decide +kernel
theorem dX21_begin_100 : decode cX21_begin 100 = .ok (.istore 5, 2) := by decide +kernel
theorem dX21_begin_102 : decode cX21_begin 102 = .ok (.goto (-38), 3) := by decide +kernel
theorem dX21_begin_105 : decode cX21_begin 105 = .ok (.goto 96, 3) := by decide +kernel
theorem dX21_begin_108 : decode cX21_begin 108 = .ok (.aload_n 0, 1) := by decide +kernel
theorem dX21_begin_109 : decode cX21_begin 109 = .ok (.getfield 232, 3) := by decide +kernel
theorem dX21_begin_112 : decode cX21_begin 112 = .ok (.iload_n 1, 1) := by decide +kernel
theorem dX21_begin_113 : decode cX21_begin 113 = .ok (.iaload, 1) := by decide +kernel
theorem dX21_begin_114 : decode cX21_begin 114 = .ok (.iconst 3, 1) := by decide +kernel
theorem dX21_begin_115 : decode cX21_begin 115 = .ok (.if_icmp .ne 86, 3) := by decide +kernel
theorem dX21_begin_118 : decode cX21_begin 118 = .ok (.aload_n 0, 1) := by decide +kernel
theorem dX21_begin_119 : decode cX21_begin 119 = .ok (.getfield 195, 3) := by decide +kernel
theorem dX21_begin_122 : decode cX21_begin 122 = .ok (.aload_n 0, 1) := by decide +kernel
theorem dX21_begin_123 : decode cX21_begin 123 = .ok (.getfield 223, 3) := by decide +kernel
theorem dX21_begin_126 : decode cX21_begin 126 = .ok (.iload_n 1, 1) := by decide +kernel
theorem dX21_begin_127 : decode cX21_begin 127 = .ok (.iaload, 1) := by decide +kernel
theorem dX21_begin_128 : decode cX21_begin 128 = .ok (.iaload, 1) := by decide +kernel
theorem dX21_begin_129 : decode cX21_begin 129 = .ok (.iconst 1, 1) := by decide +kernel
theorem dX21_begin_130 : decode cX21_begin 130 = .ok (.iadd, 1) := by decide +kernel
theorem dX21_begin_131 : decode cX21_begin 131 = .ok (.istore 4, 2) := by decide +kernel
theorem dX21_begin_133 : decode cX21_begin 133 = .ok (.iconst 0, 1) := by decide +kernel
theorem dX21_begin_134 : decode cX21_begin 134 = .ok (.istore 5, 2) := by decide +kernel
theorem dX21_begin_136 : decode cX21_begin 136 = .ok (.iload 5, 2) := by decide +kernel
theorem dX21_begin_138 : decode cX21_begin 138 = .ok (.aload_n 0, 1) := by decide +kernel
theorem dX21_begin_139 : decode cX21_begin 139 = .ok (.getfield 205, 3) := by decide +kernel
theorem dX21_begin_142 : decode cX21_begin 142 = .ok (.aload_n 0, 1) := by decide +kernel
theorem dX21_begin_143 : decode cX21_begin 143 = .ok (.getfield 223, 3) := by decide +kernel
theorem dX21_begin_146 : decode cX21_begin 146 = .ok (.iload_n 1, 1) := by decide +kernel
theorem dX21_begin_147 : decode cX21_begin 147 = .ok (.iaload, 1) := by decide +kernel
theorem dX21_begin_148 : decode cX21_begin 148 = .ok (.iaload, 1) := by decide +kernel
theorem dX21_begin_149 : decode cX21_begin 149 = .ok (.if_icmp .ge 52, 3) := by decide +kernel
theorem dX21_begin_152 : decode cX21_begin 152 = .ok (.aload_n 0, 1) := by decide +kernel
theorem dX21_begin_153 : decode cX21_begin 153 = .ok (.iload 4, 2) := by decide +kernel
theorem dX21_begin_155 : decode cX21_begin 155 = .ok (.bipush 34, 2) := by decide +kernel
theorem dX21_begin_157 : decode cX21_begin 157 = .ok (.invokevirtual 360, 3) := by decide +kernel
theorem dX21_begin_160 : decode cX21_begin 160 = .ok (.istore 6, 2) := by decide +kernel
theorem dX21_begin_162 : decode cX21_begin 162 = .ok (.aload_n 0, 1) := by decide +kernel
theorem dX21_begin_163 : decode cX21_begin 163 = .ok (.getfield 282, 3) := by decide +kernel
theorem dX21_begin_166 : decode cX21_begin 166 = .ok (.iload_n 3, 1) := by decide +kernel
theorem dX21_begin_167 : decode cX21_begin 167 = .ok (.iload 5, 2) := by decide +kernel
theorem dX21_begin_169 : decode cX21_begin 169 = .ok (.iadd, 1) := by decide +kernel
theorem dX21_begin_170 : decode cX21_begin 170 = .ok (.iload 6, 2) := by decide +kernel
theorem dX21_begin_172 : decode cX21_begin 172 = .ok (.sipush 1000, 3) := by decide +kernel
theorem dX21_begin_175 : decode cX21_begin 175 = .ok (.irem, 1) := by decide +kernel
theorem dX21_begin_176 : decode cX21_begin 176 = .ok (.iastore, 1) := by decide +kernel
theorem dX21_begin_177 : decode cX21_begin 177 = .ok (.iload 4, 2) := by decide +kernel
theorem dX21_begin_179 : decode cX21_begin 179 = .ok (.iload 6, 2) := by decide +kernel
theorem dX21_begin_181 : decode cX21_begin 181 = .ok (.sipush 1000, 3) := by decide +kernel
theorem dX21_begin_184 : decode cX21_begin 184 = .ok (.if_icmp .ge 7, 3) := by decide +kernel
theorem dX21_begin_187 : decode cX21_begin 187 = .ok (.iconst 1, 1) := by decide +kernel
theorem dX21_begin_188 : decode cX21_begin 188 = .ok (.goto 4, 3) := by decide +kernel
theorem dX21_begin_191 : decode cX21_begin 191 = .ok (.iconst 2, 1) := by decide +kernel
theorem dX21_begin_192 : decode cX21_begin 192 = .ok (.iadd, 1) := by decide +kernel
theorem dX21_begin_193 : decode cX21_begin 193 = .ok (.istore 4, 2) := by decide +kernel
theorem dX21_begin_195 : decode cX21_begin 195 = .ok (.iinc 5 1, 3) := by decide +kernel
theorem dX21_begin_198 : decode cX21_begin 198 = .ok (.goto (-62), 3) := by decide +kernel
theorem dX21_begin_201 : decode cX21_begin 201 = .ok (.return_, 1) := by decide +kernel
theorem dX21_cellOf_0 : decode cX21_cellOf 0 = .ok (.aload_n 0, 1) := by decide +kernel
theorem dX21_cellOf_1 : decode cX21_cellOf 1 = .ok (.getfield 265, 3) := by decide +kernel
theorem dX21_cellOf_4 : decode cX21_cellOf 4 = .ok (.iload_n 1, 1) := by decide +kernel
theorem dX21_cellOf_5 : decode cX21_cellOf 5 = .ok (.baload, 1) := by decide +kernel
theorem dX21_cellOf_6 : decode cX21_cellOf 6 = .ok (.ifCond .eq 12, 3) := by decide +kernel
theorem dX21_cellOf_9 : decode cX21_cellOf 9 = .ok (.aload_n 0, 1) := by decide +kernel
theorem dX21_cellOf_10 : decode cX21_cellOf 10 = .ok (.getfield 269, 3) := by decide +kernel
theorem dX21_cellOf_13 : decode cX21_cellOf 13 = .ok (.iload_n 1, 1) := by decide +kernel
theorem dX21_cellOf_14 : decode cX21_cellOf 14 = .ok (.iaload, 1) := by decide +kernel
theorem dX21_cellOf_15 : decode cX21_cellOf 15 = .ok (.goto 14, 3) := by decide +kernel
theorem dX21_cellOf_18 : decode cX21_cellOf 18 = .ok (.aload_n 0, 1) := by decide +kernel
theorem dX21_cellOf_19 : decode cX21_cellOf 19 = .ok (.getfield 778, 3) := by decide +kernel
theorem dX21_cellOf_22 : decode cX21_cellOf 22 = .ok (.aload_n 0, 1) := by decide +kernel
theorem dX21_cellOf_23 : decode cX21_cellOf 23 = .ok (.getfield 269, 3) := by decide +kernel
theorem dX21_cellOf_26 : decode cX21_cellOf 26 = .ok (.iload_n 1, 1) := by decide +kernel
theorem dX21_cellOf_27 : decode cX21_cellOf 27 = .ok (.iaload, 1) := by decide +kernel
theorem dX21_cellOf_28 : decode cX21_cellOf 28 = .ok (.iadd, 1) := by decide +kernel
theorem dX21_cellOf_29 : decode cX21_cellOf 29 = .ok (.ireturn, 1) := by decide +kernel
theorem dX21_stored_0 : decode cX21_stored 0 = .ok (.aload_n 0, 1) := by decide +kernel
theorem dX21_stored_1 : decode cX21_stored 1 = .ok (.iload_n 1, 1) := by decide +kernel
theorem dX21_stored_2 : decode cX21_stored 2 = .ok (.invokevirtual 798, 3) := by decide +kernel
theorem dX21_stored_5 : decode cX21_stored 5 = .ok (.ifCond .eq 11, 3) := by decide +kernel
theorem dX21_stored_8 : decode cX21_stored 8 = .ok (.iload_n 2, 1) := by decide +kernel
theorem dX21_stored_9 : decode cX21_stored 9 = .ok (.sipush 255, 3) := by decide +kernel
theorem dX21_stored_12 : decode cX21_stored 12 = .ok (.iand, 1) := by decide +kernel
theorem dX21_stored_13 : decode cX21_stored 13 = .ok (.goto 4, 3) := by decide +kernel
theorem dX21_stored_16 : decode cX21_stored 16 = .ok (.iload_n 2, 1) := by decide +kernel
theorem dX21_stored_17 : decode cX21_stored 17 = .ok (.ireturn, 1) := by decide +kernel
theorem dX21_isOfChar_0 : decode cX21_isOfChar 0 = .ok (.aload_n 0, 1) := by decide +kernel
theorem dX21_isOfChar_1 : decode cX21_isOfChar 1 = .ok (.getfield 262, 3) := by decide +kernel
theorem dX21_isOfChar_4 : decode cX21_isOfChar 4 = .ok (.iload_n 1, 1) := by decide +kernel
theorem dX21_isOfChar_5 : decode cX21_isOfChar 5 = .ok (.baload, 1) := by decide +kernel
theorem dX21_isOfChar_6 : decode cX21_isOfChar 6 = .ok (.istore_n 2, 1) := by decide +kernel
theorem dX21_isOfChar_7 : decode cX21_isOfChar 7 = .ok (.iload_n 2, 1) := by decide +kernel
theorem dX21_isOfChar_8 : decode cX21_isOfChar 8 = .ok (.iconst 1, 1) := by decide +kernel
theorem dX21_isOfChar_9 : decode cX21_isOfChar 9 = .ok (.if_icmp .eq 13, 3) := by decide +kernel
theorem dX21_isOfChar_12 : decode cX21_isOfChar 12 = .ok (.iload_n 2, 1) := by decide +kernel
theorem dX21_isOfChar_13 : decode cX21_isOfChar 13 = .ok (.iconst 3, 1) := by decide +kernel
theorem dX21_isOfChar_14 : decode cX21_isOfChar 14 = .ok (.if_icmp .eq 8, 3) := by decide +kernel
theorem dX21_isOfChar_17 : decode cX21_isOfChar 17 = .ok (.iload_n 2, 1) := by decide +kernel
theorem dX21_isOfChar_18 : decode cX21_isOfChar 18 = .ok (.iconst 5, 1) := by decide +kernel
theorem dX21_isOfChar_19 : decode cX21_isOfChar 19 = .ok (.if_icmp .ne 7, 3) := by decide +kernel
theorem dX21_isOfChar_22 : decode cX21_isOfChar 22 = .ok (.iconst 1, 1) := by decide +kernel
theorem dX21_isOfChar_23 : decode cX21_isOfChar 23 = .ok (.goto 4, 3) := by decide +kernel
theorem dX21_isOfChar_26 : decode cX21_isOfChar 26 = .ok (.iconst 0, 1) := by decide +kernel
theorem dX21_isOfChar_27 : decode cX21_isOfChar 27 = .ok (.ireturn, 1) := by decide +kernel
theorem dX21_give_0 : decode cX21_give 0 = .ok (.aload_n 0, 1) := by decide +kernel
theorem dX21_give_1 : decode cX21_give 1 = .ok (.getfield 292, 3) := by decide +kernel
theorem dX21_give_4 : decode cX21_give 4 = .ok (.aload_n 0, 1) := by decide +kernel
theorem dX21_give_5 : decode cX21_give 5 = .ok (.getfield 766, 3) := by decide +kernel
theorem dX21_give_8 : decode cX21_give 8 = .ok (.iload_n 1, 1) := by decide +kernel
theorem dX21_give_9 : decode cX21_give 9 = .ok (.iastore, 1) := by decide +kernel
theorem dX21_give_10 : decode cX21_give 10 = .ok (.aload_n 0, 1) := by decide +kernel
theorem dX21_give_11 : decode cX21_give 11 = .ok (.dup, 1) := by decide +kernel
theorem dX21_give_12 : decode cX21_give 12 = .ok (.getfield 766, 3) := by decide +kernel
theorem dX21_give_15 : decode cX21_give 15 = .ok (.iconst 1, 1) := by decide +kernel
theorem dX21_give_16 : decode cX21_give 16 = .ok (.iadd, 1) := by decide +kernel
theorem dX21_give_17 : decode cX21_give 17 = .ok (.putfield 766, 3) := by decide +kernel
theorem dX21_give_20 : decode cX21_give 20 = .ok (.return_, 1) := by decide +kernel
theorem dX21_mainFunction_0 : decode cX21_mainFunction 0 = .ok (.iconst (-1), 1) := by decide +kernel
theorem dX21_mainFunction_1 : decode cX21_mainFunction 1 = .ok (.istore_n 1, 1) := by decide +kernel
theorem dX21_mainFunction_2 : decode cX21_mainFunction 2 = .ok (.iconst 0, 1) := by decide +kernel
theorem dX21_mainFunction_3 : decode cX21_mainFunction 3 = .ok (.istore_n 2, 1) := by decide +kernel
theorem dX21_mainFunction_4 : decode cX21_mainFunction 4 = .ok (.iload_n 2, 1) := by decide +kernel
theorem dX21_mainFunction_5 : decode cX21_mainFunction 5 = .ok (.aload_n 0, 1) := by decide +kernel
theorem dX21_mainFunction_6 : decode cX21_mainFunction 6 = .ok (.getfield 563, 3) := by decide +kernel
theorem dX21_mainFunction_9 : decode cX21_mainFunction 9 = .ok (.if_icmp .ge 36, 3) := by decide +kernel
theorem dX21_mainFunction_12 : decode cX21_mainFunction 12 = .ok (.aload_n 0, 1) := by decide +kernel
theorem dX21_mainFunction_13 : decode cX21_mainFunction 13 = .ok (.aload_n 0, 1) := by decide +kernel
theorem dX21_mainFunction_14 : decode cX21_mainFunction 14 = .ok (.getfield 211, 3) := by decide +kernel
theorem dX21_mainFunction_17 : decode cX21_mainFunction 17 = .ok (.aload_n 0, 1) := by decide +kernel
theorem dX21_mainFunction_18 : decode cX21_mainFunction 18 = .ok (.getfield 256, 3) := by decide +kernel
theorem dX21_mainFunction_21 : decode cX21_mainFunction 21 = .ok (.iload_n 2, 1) := by decide +kernel
theorem dX21_mainFunction_22 : decode cX21_mainFunction 22 = .ok (.iaload, 1) := by decide +kernel
theorem dX21_mainFunction_23 : decode cX21_mainFunction 23 = .ok (.iaload, 1) := by decide +kernel
theorem dX21_mainFunction_24 : decode cX21_mainFunction 24 = .ok (.ldc_w 719, 3) := by decide +kernel
theorem dX21_mainFunction_27 : decode cX21_mainFunction 27 = .ok (.invokevirtual 570, 3) := by decide +kernel
theorem dX21_mainFunction_30 : decode cX21_mainFunction 30 = .ok (.ifCond .eq 7, 3) := by decide +kernel
theorem dX21_mainFunction_33 : decode cX21_mainFunction 33 = .ok (.iload_n 2, 1) := by decide +kernel
theorem dX21_mainFunction_34 : decode cX21_mainFunction 34 = .ok (.goto 4, 3) := by decide +kernel
theorem dX21_mainFunction_37 : decode cX21_mainFunction 37 = .ok (.iload_n 1, 1) := by decide +kernel
theorem dX21_mainFunction_38 : decode cX21_mainFunction 38 = .ok (.istore_n 1, 1) := by decide +kernel
theorem dX21_mainFunction_39 : decode cX21_mainFunction 39 = .ok (.iinc 2 1, 3) := by decide +kernel
theorem dX21_mainFunction_42 : decode cX21_mainFunction 42 = .ok (.goto (-38), 3) := by decide +kernel
theorem dX21_mainFunction_45 : decode cX21_mainFunction 45 = .ok (.iload_n 1, 1) := by decide +kernel
theorem dX21_mainFunction_46 : decode cX21_mainFunction 46 = .ok (.ireturn, 1) := by decide +kernel
theorem dX21_enter_0 : decode cX21_enter 0 = .ok (.aload_n 0, 1) := by decide +kernel
theorem dX21_enter_1 : decode cX21_enter 1 = .ok (.getfield 256, 3) := by decide +kernel
theorem dX21_enter_4 : decode cX21_enter 4 = .ok (.iload_n 1, 1) := by decide +kernel
theorem dX21_enter_5 : decode cX21_enter 5 = .ok (.iaload, 1) := by decide +kernel
theorem dX21_enter_6 : decode cX21_enter 6 = .ok (.istore_n 2, 1) := by decide +kernel
theorem dX21_enter_7 : decode cX21_enter 7 = .ok (.aload_n 0, 1) := by decide +kernel
theorem dX21_enter_8 : decode cX21_enter 8 = .ok (.invokevirtual 847, 3) := by decide +kernel
theorem dX21_enter_11 : decode cX21_enter 11 = .ok (.ifCond .ne 4, 3) := by decide +kernel
theorem dX21_enter_14 : decode cX21_enter 14 = .ok (.return_, 1) := by decide +kernel
theorem dX21_enter_15 : decode cX21_enter 15 = .ok (.aload_n 0, 1) := by decide +kernel
theorem dX21_enter_16 : decode cX21_enter 16 = .ok (.getfield 850, 3) := by decide +kernel
theorem dX21_enter_19 : decode cX21_enter 19 = .ok (.aload_n 0, 1) := by decide +kernel
theorem dX21_enter_20 : decode cX21_enter 20 = .ok (.getfield 259, 3) := by decide +kernel
theorem dX21_enter_23 : decode cX21_enter 23 = .ok (.iload_n 1, 1) := by decide +kernel
theorem dX21_enter_24 : decode cX21_enter 24 = .ok (.iaload, 1) := by decide +kernel
theorem dX21_enter_25 : decode cX21_enter 25 = .ok (.if_icmp .ge 9, 3) := by decide +kernel
theorem dX21_enter_28 : decode cX21_enter 28 = .ok (.aload_n 0, 1) := by decide +kernel
theorem dX21_enter_29 : decode cX21_enter 29 = .ok (.iconst 4, 1) := by decide +kernel
theorem dX21_enter_30 : decode cX21_enter 30 = .ok (.invokevirtual 775, 3) := by decide +kernel
theorem dX21_enter_33 : decode cX21_enter 33 = .ok (.return_, 1) := by decide +kernel
theorem dX21_enter_34 : decode cX21_enter 34 = .ok (.aload_n 0, 1) := by decide +kernel
theorem dX21_enter_35 : decode cX21_enter 35 = .ok (.aload_n 0, 1) := by decide +kernel
theorem dX21_enter_36 : decode cX21_enter 36 = .ok (.getfield 850, 3) := by decide +kernel
theorem dX21_enter_39 : decode cX21_enter 39 = .ok (.aload_n 0, 1) := by decide +kernel
theorem dX21_enter_40 : decode cX21_enter 40 = .ok (.getfield 259, 3) := by decide +kernel
theorem dX21_enter_43 : decode cX21_enter 43 = .ok (.iload_n 1, 1) := by decide +kernel
theorem dX21_enter_44 : decode cX21_enter 44 = .ok (.iaload, 1) := by decide +kernel
theorem dX21_enter_45 : decode cX21_enter 45 = .ok (.isub, 1) := by decide +kernel
theorem dX21_enter_46 : decode cX21_enter 46 = .ok (.putfield 850, 3) := by decide +kernel
theorem dX21_enter_49 : decode cX21_enter 49 = .ok (.aload_n 0, 1) := by decide +kernel
theorem dX21_enter_50 : decode cX21_enter 50 = .ok (.getfield 295, 3) := by decide +kernel
theorem dX21_enter_53 : decode cX21_enter 53 = .ok (.aload_n 0, 1) := by decide +kernel
theorem dX21_enter_54 : decode cX21_enter 54 = .ok (.getfield 853, 3) := by decide +kernel
theorem dX21_enter_57 : decode cX21_enter 57 = .ok (.aload_n 0, 1) := by decide +kernel
theorem dX21_enter_58 : decode cX21_enter 58 = .ok (.getfield 778, 3) := by decide +kernel
theorem dX21_enter_61 : decode cX21_enter 61 = .ok (.iastore, 1) := by decide +kernel
theorem dX21_enter_62 : decode cX21_enter 62 = .ok (.aload_n 0, 1) := by decide +kernel
theorem dX21_enter_63 : decode cX21_enter 63 = .ok (.getfield 298, 3) := by decide +kernel
theorem dX21_enter_66 : decode cX21_enter 66 = .ok (.aload_n 0, 1) := by decide +kernel
theorem dX21_enter_67 : decode cX21_enter 67 = .ok (.getfield 853, 3) := by decide +kernel
theorem dX21_enter_70 : decode cX21_enter 70 = .ok (.aload_n 0, 1) := by decide +kernel
theorem dX21_enter_71 : decode cX21_enter 71 = .ok (.getfield 856, 3) := by decide +kernel
theorem dX21_enter_74 : decode cX21_enter 74 = .ok (.iastore, 1) := by decide +kernel
theorem dX21_enter_75 : decode cX21_enter 75 = .ok (.aload_n 0, 1) := by decide +kernel
theorem dX21_enter_76 : decode cX21_enter 76 = .ok (.dup, 1) := by decide +kernel
theorem dX21_enter_77 : decode cX21_enter 77 = .ok (.getfield 853, 3) := by decide +kernel
theorem dX21_enter_80 : decode cX21_enter 80 = .ok (.iconst 1, 1) := by decide +kernel
theorem dX21_enter_81 : decode cX21_enter 81 = .ok (.iadd, 1) := by decide +kernel
theorem dX21_enter_82 : decode cX21_enter 82 = .ok (.putfield 853, 3) := by decide +kernel
theorem dX21_enter_85 : decode cX21_enter 85 = .ok (.aload_n 0, 1) := by decide +kernel
theorem dX21_enter_86 : decode cX21_enter 86 = .ok (.aload_n 0, 1) := by decide +kernel
theorem dX21_enter_87 : decode cX21_enter 87 = .ok (.getfield 856, 3) := by decide +kernel
theorem dX21_enter_90 : decode cX21_enter 90 = .ok (.putfield 778, 3) := by decide +kernel
theorem dX21_enter_93 : decode cX21_enter 93 = .ok (.aload_n 0, 1) := by decide +kernel
theorem dX21_enter_94 : decode cX21_enter 94 = .ok (.aload_n 0, 1) := by decide +kernel
theorem dX21_enter_95 : decode cX21_enter 95 = .ok (.getfield 856, 3) := by decide +kernel
theorem dX21_enter_98 : decode cX21_enter 98 = .ok (.aload_n 0, 1) := by decide +kernel
theorem dX21_enter_99 : decode cX21_enter 99 = .ok (.getfield 278, 3) := by decide +kernel
theorem dX21_enter_102 : decode cX21_enter 102 = .ok (.iload_n 1, 1) := by decide +kernel
theorem dX21_enter_103 : decode cX21_enter 103 = .ok (.iaload, 1) := by decide +kernel
theorem dX21_enter_104 : decode cX21_enter 104 = .ok (.iadd, 1) := by decide +kernel
theorem dX21_enter_105 : decode cX21_enter 105 = .ok (.putfield 856, 3) := by decide +kernel
theorem dX21_enter_108 : decode cX21_enter 108 = .ok (.aload_n 0, 1) := by decide +kernel
theorem dX21_enter_109 : decode cX21_enter 109 = .ok (.getfield 778, 3) := by decide +kernel
theorem dX21_enter_112 : decode cX21_enter 112 = .ok (.istore_n 3, 1) := by decide +kernel
theorem dX21_enter_113 : decode cX21_enter 113 = .ok (.iload_n 3, 1) := by decide +kernel
theorem dX21_enter_114 : decode cX21_enter 114 = .ok (.aload_n 0, 1) := by decide +kernel
theorem dX21_enter_115 : decode cX21_enter 115 = .ok (.getfield 856, 3) := by decide +kernel
theorem dX21_enter_118 : decode cX21_enter 118 = .ok (.if_icmp .ge 16, 3) := by decide +kernel
theorem dX21_enter_121 : decode cX21_enter 121 = .ok (.aload_n 0, 1) := by decide +kernel
theorem dX21_enter_122 : decode cX21_enter 122 = .ok (.getfield 282, 3) := by decide +kernel
theorem dX21_enter_125 : decode cX21_enter 125 = .ok (.iload_n 3, 1) := by decide +kernel
theorem dX21_enter_126 : decode cX21_enter 126 = .ok (.iconst 0, 1) := by decide +kernel
theorem dX21_enter_127 : decode cX21_enter 127 = .ok (.iastore, 1) := by decide +kernel
theorem dX21_enter_128 : decode cX21_enter 128 = .ok (.iinc 3 1, 3) := by decide +kernel
theorem dX21_enter_131 : decode cX21_enter 131 = .ok (.goto (-18), 3) := by decide +kernel
theorem dX21_enter_134 : decode cX21_enter 134 = .ok (.iconst 0, 1) := by decide +kernel
theorem dX21_enter_135 : decode cX21_enter 135 = .ok (.istore_n 3, 1) := by decide +kernel
theorem dX21_enter_136 : decode cX21_enter 136 = .ok (.aload_n 0, 1) := by decide +kernel
theorem dX21_enter_137 : decode cX21_enter 137 = .ok (.getfield 217, 3) := by decide +kernel
theorem dX21_enter_140 : decode cX21_enter 140 = .ok (.iload_n 2, 1) := by decide +kernel
theorem dX21_enter_141 : decode cX21_enter 141 = .ok (.iaload, 1) := by decide +kernel
theorem dX21_enter_142 : decode cX21_enter 142 = .ok (.istore 4, 2) := by decide +kernel
theorem dX21_enter_144 : decode cX21_enter 144 = .ok (.iload 4, 2) := by decide +kernel
theorem dX21_enter_146 : decode cX21_enter 146 = .ok (.ifCond .lt 37, 3) := by decide +kernel
theorem dX21_enter_149 : decode cX21_enter 149 = .ok (.iload_n 3, 1) := by decide +kernel
theorem dX21_enter_150 : decode cX21_enter 150 = .ok (.aload_n 0, 1) := by decide +kernel
theorem dX21_enter_151 : decode cX21_enter 151 = .ok (.aload_n 0, 1) := by decide +kernel
theorem dX21_enter_152 : decode cX21_enter 152 = .ok (.getfield 220, 3) := by decide +kernel
theorem dX21_enter_155 : decode cX21_enter 155 = .ok (.iload 4, 2) := by decide +kernel
theorem dX21_enter_157 : decode cX21_enter 157 = .ok (.iaload, 1) := by decide +kernel
theorem dX21_enter_158 : decode cX21_enter 158 = .ok (.invokevirtual 781, 3) := by decide +kernel
theorem dX21_enter_161 : decode cX21_enter 161 = .ok (.ifCond .eq 7, 3) := by decide +kernel
theorem dX21_enter_164 : decode cX21_enter 164 = .ok (.iconst 2, 1) := by decide +kernel
theorem dX21_enter_165 : decode cX21_enter 165 = .ok (.goto 4, 3) := by decide +kernel
theorem dX21_enter_168 : decode cX21_enter 168 = .ok (.iconst 1, 1) := by decide +kernel
theorem dX21_enter_169 : decode cX21_enter 169 = .ok (.iadd, 1) := by decide +kernel
theorem dX21_enter_170 : decode cX21_enter 170 = .ok (.istore_n 3, 1) := by decide +kernel
theorem dX21_enter_171 : decode cX21_enter 171 = .ok (.aload_n 0, 1) := by decide +kernel
theorem dX21_enter_172 : decode cX21_enter 172 = .ok (.getfield 229, 3) := by decide +kernel
theorem dX21_enter_175 : decode cX21_enter 175 = .ok (.iload 4, 2) := by decide +kernel
theorem dX21_enter_177 : decode cX21_enter 177 = .ok (.iaload, 1) := by decide +kernel
theorem dX21_enter_178 : decode cX21_enter 178 = .ok (.istore 4, 2) := by decide +kernel
theorem dX21_enter_180 : decode cX21_enter 180 = .ok (.goto (-36), 3) := by decide +kernel
theorem dX21_enter_183 : decode cX21_enter 183 = .ok (.aload_n 0, 1) := by decide +kernel
theorem dX21_enter_184 : decode cX21_enter 184 = .ok (.getfield 766, 3) := by decide +kernel
theorem dX21_enter_187 : decode cX21_enter 187 = .ok (.iload_n 3, 1) := by decide +kernel
theorem dX21_enter_188 : decode cX21_enter 188 = .ok (.isub, 1) := by decide +kernel
theorem dX21_enter_189 : decode cX21_enter 189 = .ok (.istore 4, 2) := by decide +kernel
theorem dX21_enter_191 : decode cX21_enter 191 = .ok (.aload_n 0, 1) := by decide +kernel
theorem dX21_enter_192 : decode cX21_enter 192 = .ok (.iload 4, 2) := by decide +kernel
theorem dX21_enter_194 : decode cX21_enter 194 = .ok (.putfield 766, 3) := by decide +kernel
theorem dX21_enter_197 : decode cX21_enter 197 = .ok (.aload_n 0, 1) := by decide +kernel
theorem dX21_enter_198 : decode cX21_enter 198 = .ok (.getfield 217, 3) := by decide +kernel
theorem dX21_enter_201 : decode cX21_enter 201 = .ok (.iload_n 2, 1) := by decide +kernel
theorem dX21_enter_202 : decode cX21_enter 202 = .ok (.iaload, 1) := by decide +kernel
theorem dX21_enter_203 : decode cX21_enter 203 = .ok (.istore 5, 2) := by decide +kernel
theorem dX21_enter_205 : decode cX21_enter 205 = .ok (.iload 5, 2) := by decide +kernel
theorem dX21_enter_207 : decode cX21_enter 207 = .ok (.ifCond .lt 108, 3) := by decide +kernel
theorem dX21_enter_210 : decode cX21_enter 210 = .ok (.aload_n 0, 1) := by decide +kernel
theorem dX21_enter_211 : decode cX21_enter 211 = .ok (.aload_n 0, 1) := by decide +kernel
theorem dX21_enter_212 : decode cX21_enter 212 = .ok (.getfield 220, 3) := by decide +kernel
theorem dX21_enter_215 : decode cX21_enter 215 = .ok (.iload 5, 2) := by decide +kernel
theorem dX21_enter_217 : decode cX21_enter 217 = .ok (.iaload, 1) := by decide +kernel
theorem dX21_enter_218 : decode cX21_enter 218 = .ok (.invokevirtual 784, 3) := by decide +kernel
theorem dX21_enter_221 : decode cX21_enter 221 = .ok (.istore 6, 2) := by decide +kernel
theorem dX21_enter_223 : decode cX21_enter 223 = .ok (.aload_n 0, 1) := by decide +kernel
theorem dX21_enter_224 : decode cX21_enter 224 = .ok (.aload_n 0, 1) := by decide +kernel
theorem dX21_enter_225 : decode cX21_enter 225 = .ok (.getfield 220, 3) := by decide +kernel
theorem dX21_enter_228 : decode cX21_enter 228 = .ok (.iload 5, 2) := by decide +kernel
theorem dX21_enter_230 : decode cX21_enter 230 = .ok (.iaload, 1) := by decide +kernel
theorem dX21_enter_231 : decode cX21_enter 231 = .ok (.invokevirtual 781, 3) := by decide +kernel
theorem dX21_enter_234 : decode cX21_enter 234 = .ok (.ifCond .eq 41, 3) := by decide +kernel
theorem dX21_enter_237 : decode cX21_enter 237 = .ok (.aload_n 0, 1) := by decide +kernel
theorem dX21_enter_238 : decode cX21_enter 238 = .ok (.getfield 282, 3) := by decide +kernel
theorem dX21_enter_241 : decode cX21_enter 241 = .ok (.iload 6, 2) := by decide +kernel
theorem dX21_enter_243 : decode cX21_enter 243 = .ok (.aload_n 0, 1) := by decide +kernel
theorem dX21_enter_244 : decode cX21_enter 244 = .ok (.getfield 292, 3) := by decide +kernel
theorem dX21_enter_247 : decode cX21_enter 247 = .ok (.iload 4, 2) := by decide +kernel
theorem dX21_enter_249 : decode cX21_enter 249 = .ok (.iaload, 1) := by decide +kernel
theorem dX21_enter_250 : decode cX21_enter 250 = .ok (.iastore, 1) := by decide +kernel
theorem dX21_enter_251 : decode cX21_enter 251 = .ok (.aload_n 0, 1) := by decide +kernel
theorem dX21_enter_252 : decode cX21_enter 252 = .ok (.getfield 282, 3) := by decide +kernel
theorem dX21_enter_255 : decode cX21_enter 255 = .ok (.iload 6, 2) := by decide +kernel
theorem dX21_enter_257 : decode cX21_enter 257 = .ok (.iconst 1, 1) := by decide +kernel
theorem dX21_enter_258 : decode cX21_enter 258 = .ok (.iadd, 1) := by decide +kernel
theorem dX21_enter_259 : decode cX21_enter 259 = .ok (.aload_n 0, 1) := by decide +kernel
theorem dX21_enter_260 : decode cX21_enter 260 = .ok (.getfield 292, 3) := by decide +kernel
theorem dX21_enter_263 : decode cX21_enter 263 = .ok (.iload 4, 2) := by decide +kernel
theorem dX21_enter_265 : decode cX21_enter 265 = .ok (.iconst 1, 1) := by decide +kernel
theorem dX21_enter_266 : decode cX21_enter 266 = .ok (.iadd, 1) := by decide +kernel
theorem dX21_enter_267 : decode cX21_enter 267 = .ok (.iaload, 1) := by decide +kernel
theorem dX21_enter_268 : decode cX21_enter 268 = .ok (.iastore, 1) := by decide +kernel
theorem dX21_enter_269 : decode cX21_enter 269 = .ok (.iinc 4 2, 3) := by decide +kernel
theorem dX21_enter_272 : decode cX21_enter 272 = .ok (.goto 31, 3) := by decide +kernel
theorem dX21_enter_275 : decode cX21_enter 275 = .ok (.aload_n 0, 1) := by decide +kernel
theorem dX21_enter_276 : decode cX21_enter 276 = .ok (.getfield 282, 3) := by decide +kernel
theorem dX21_enter_279 : decode cX21_enter 279 = .ok (.iload 6, 2) := by decide +kernel
theorem dX21_enter_281 : decode cX21_enter 281 = .ok (.aload_n 0, 1) := by decide +kernel
theorem dX21_enter_282 : decode cX21_enter 282 = .ok (.aload_n 0, 1) := by decide +kernel
theorem dX21_enter_283 : decode cX21_enter 283 = .ok (.getfield 220, 3) := by decide +kernel
theorem dX21_enter_286 : decode cX21_enter 286 = .ok (.iload 5, 2) := by decide +kernel
theorem dX21_enter_288 : decode cX21_enter 288 = .ok (.iaload, 1) := by decide +kernel
theorem dX21_enter_289 : decode cX21_enter 289 = .ok (.aload_n 0, 1) := by decide +kernel
theorem dX21_enter_290 : decode cX21_enter 290 = .ok (.getfield 292, 3) := by decide +kernel
theorem dX21_enter_293 : decode cX21_enter 293 = .ok (.iload 4, 2) := by decide +kernel
theorem dX21_enter_295 : decode cX21_enter 295 = .ok (.iaload, 1) := by decide +kernel
theorem dX21_enter_296 : decode cX21_enter 296 = .ok (.invokevirtual 832, 3) := by decide +kernel
theorem dX21_enter_299 : decode cX21_enter 299 = .ok (.iastore, 1) := by decide +kernel
theorem dX21_enter_300 : decode cX21_enter 300 = .ok (.iinc 4 1, 3) := by decide +kernel
theorem dX21_enter_303 : decode cX21_enter 303 = .ok (.aload_n 0, 1) := by decide +kernel
theorem dX21_enter_304 : decode cX21_enter 304 = .ok (.getfield 229, 3) := by decide +kernel
theorem dX21_enter_307 : decode cX21_enter 307 = .ok (.iload 5, 2) := by decide +kernel
theorem dX21_enter_309 : decode cX21_enter 309 = .ok (.iaload, 1) := by decide +kernel
theorem dX21_enter_310 : decode cX21_enter 310 = .ok (.istore 5, 2) := by decide +kernel
theorem dX21_enter_312 : decode cX21_enter 312 = .ok (.goto (-107), 3) := by decide +kernel
theorem dX21_enter_315 : decode cX21_enter 315 = .ok (.aload_n 0, 1) := by decide +kernel
theorem dX21_enter_316 : decode cX21_enter 316 = .ok (.iload_n 2, 1) := by decide +kernel
theorem dX21_enter_317 : decode cX21_enter 317 = .ok (.invokevirtual 813, 3) := by decide +kernel
theorem dX21_enter_320 : decode cX21_enter 320 = .ok (.aload_n 0, 1) := by decide +kernel
theorem dX21_enter_321 : decode cX21_enter 321 = .ok (.getfield 289, 3) := by decide +kernel
theorem dX21_enter_324 : decode cX21_enter 324 = .ok (.aload_n 0, 1) := by decide +kernel
theorem dX21_enter_325 : decode cX21_enter 325 = .ok (.getfield 763, 3) := by decide +kernel
theorem dX21_enter_328 : decode cX21_enter 328 = .ok (.iconst 1, 1) := by decide +kernel
theorem dX21_enter_329 : decode cX21_enter 329 = .ok (.isub, 1) := by decide +kernel
theorem dX21_enter_330 : decode cX21_enter 330 = .ok (.iload_n 1, 1) := by decide +kernel
theorem dX21_enter_331 : decode cX21_enter 331 = .ok (.iconst 1, 1) := by decide +kernel
theorem dX21_enter_332 : decode cX21_enter 332 = .ok (.iadd, 1) := by decide +kernel
theorem dX21_enter_333 : decode cX21_enter 333 = .ok (.iastore, 1) := by decide +kernel
theorem dX21_enter_334 : decode cX21_enter 334 = .ok (.aload_n 0, 1) := by decide +kernel
theorem dX21_enter_335 : decode cX21_enter 335 = .ok (.aload_n 0, 1) := by decide +kernel
theorem dX21_enter_336 : decode cX21_enter 336 = .ok (.getfield 220, 3) := by decide +kernel
theorem dX21_enter_339 : decode cX21_enter 339 = .ok (.iload_n 2, 1) := by decide +kernel
theorem dX21_enter_340 : decode cX21_enter 340 = .ok (.iaload, 1) := by decide +kernel
theorem dX21_enter_341 : decode cX21_enter 341 = .ok (.invokevirtual 813, 3) := by decide +kernel
theorem dX21_enter_344 : decode cX21_enter 344 = .ok (.return_, 1) := by decide +kernel
theorem dX21_takesWork_0 : decode cX21_takesWork 0 = .ok (.aload_n 0, 1) := by decide +kernel
theorem dX21_takesWork_1 : decode cX21_takesWork 1 = .ok (.getfield 751, 3) := by decide +kernel
theorem dX21_takesWork_4 : decode cX21_takesWork 4 = .ok (.ifCond .ne 10, 3) := by decide +kernel
theorem dX21_takesWork_7 : decode cX21_takesWork 7 = .ok (.aload_n 0, 1) := by decide +kernel
theorem dX21_takesWork_8 : decode cX21_takesWork 8 = .ok (.iconst 5, 1) := by decide +kernel
theorem dX21_takesWork_9 : decode cX21_takesWork 9 = .ok (.invokevirtual 775, 3) := by decide +kernel
theorem dX21_takesWork_12 : decode cX21_takesWork 12 = .ok (.iconst 0, 1) := by decide +kernel
theorem dX21_takesWork_13 : decode cX21_takesWork 13 = .ok (.ireturn, 1) := by decide +kernel
theorem dX21_takesWork_14 : decode cX21_takesWork 14 = .ok (.aload_n 0, 1) := by decide +kernel
theorem dX21_takesWork_15 : decode cX21_takesWork 15 = .ok (.dup, 1) := by decide +kernel
theorem dX21_takesWork_16 : decode cX21_takesWork 16 = .ok (.getfield 751, 3) := by decide +kernel
theorem dX21_takesWork_19 : decode cX21_takesWork 19 = .ok (.iconst 1, 1) := by decide +kernel
theorem dX21_takesWork_20 : decode cX21_takesWork 20 = .ok (.isub, 1) := by decide +kernel
theorem dX21_takesWork_21 : decode cX21_takesWork 21 = .ok (.putfield 751, 3) := by decide +kernel
theorem dX21_takesWork_24 : decode cX21_takesWork 24 = .ok (.iconst 1, 1) := by decide +kernel
theorem dX21_takesWork_25 : decode cX21_takesWork 25 = .ok (.ireturn, 1) := by decide +kernel
theorem dX21_stop_0 : decode cX21_stop 0 = .ok (.aload_n 0, 1) := by decide +kernel
theorem dX21_stop_1 : decode cX21_stop 1 = .ok (.iload_n 1, 1) := by decide +kernel
theorem dX21_stop_2 : decode cX21_stop 2 = .ok (.putfield 772, 3) := by decide +kernel
theorem dX21_stop_5 : decode cX21_stop 5 = .ok (.return_, 1) := by decide +kernel
theorem dX21_isGiven_0 : decode cX21_isGiven 0 = .ok (.aload_n 0, 1) := by decide +kernel
theorem dX21_isGiven_1 : decode cX21_isGiven 1 = .ok (.getfield 262, 3) := by decide +kernel
theorem dX21_isGiven_4 : decode cX21_isGiven 4 = .ok (.iload_n 1, 1) := by decide +kernel
theorem dX21_isGiven_5 : decode cX21_isGiven 5 = .ok (.baload, 1) := by decide +kernel
theorem dX21_isGiven_6 : decode cX21_isGiven 6 = .ok (.iconst 4, 1) := by decide +kernel
theorem dX21_isGiven_7 : decode cX21_isGiven 7 = .ok (.if_icmp .lt 7, 3) := by decide +kernel
theorem dX21_isGiven_10 : decode cX21_isGiven 10 = .ok (.iconst 1, 1) := by decide +kernel
theorem dX21_isGiven_11 : decode cX21_isGiven 11 = .ok (.goto 4, 3) := by decide +kernel
theorem dX21_isGiven_14 : decode cX21_isGiven 14 = .ok (.iconst 0, 1) := by decide +kernel
theorem dX21_isGiven_15 : decode cX21_isGiven 15 = .ok (.ireturn, 1) := by decide +kernel
theorem dX21_push_0 : decode cX21_push 0 = .ok (.aload_n 0, 1) := by decide +kernel
theorem dX21_push_1 : decode cX21_push 1 = .ok (.getfield 286, 3) := by decide +kernel
theorem dX21_push_4 : decode cX21_push 4 = .ok (.aload_n 0, 1) := by decide +kernel
theorem dX21_push_5 : decode cX21_push 5 = .ok (.getfield 763, 3) := by decide +kernel
theorem dX21_push_8 : decode cX21_push 8 = .ok (.iload_n 1, 1) := by decide +kernel
theorem dX21_push_9 : decode cX21_push 9 = .ok (.iastore, 1) := by decide +kernel
theorem dX21_push_10 : decode cX21_push 10 = .ok (.aload_n 0, 1) := by decide +kernel
theorem dX21_push_11 : decode cX21_push 11 = .ok (.getfield 289, 3) := by decide +kernel
theorem dX21_push_14 : decode cX21_push 14 = .ok (.aload_n 0, 1) := by decide +kernel
theorem dX21_push_15 : decode cX21_push 15 = .ok (.getfield 763, 3) := by decide +kernel
theorem dX21_push_18 : decode cX21_push 18 = .ok (.iconst 0, 1) := by decide +kernel
theorem dX21_push_19 : decode cX21_push 19 = .ok (.iastore, 1) := by decide +kernel
theorem dX21_push_20 : decode cX21_push 20 = .ok (.aload_n 0, 1) := by decide +kernel
theorem dX21_push_21 : decode cX21_push 21 = .ok (.dup, 1) := by decide +kernel
theorem dX21_push_22 : decode cX21_push 22 = .ok (.getfield 763, 3) := by decide +kernel
theorem dX21_push_25 : decode cX21_push 25 = .ok (.iconst 1, 1) := by decide +kernel
theorem dX21_push_26 : decode cX21_push 26 = .ok (.iadd, 1) := by decide +kernel
theorem dX21_push_27 : decode cX21_push 27 = .ok (.putfield 763, 3) := by decide +kernel
theorem dX21_push_30 : decode cX21_push 30 = .ok (.return_, 1) := by decide +kernel
theorem dX21_step_0 : decode cX21_step 0 = .ok (.aload_n 0, 1) := by decide +kernel
theorem dX21_step_1 : decode cX21_step 1 = .ok (.getfield 286, 3) := by decide +kernel
theorem dX21_step_4 : decode cX21_step 4 = .ok (.aload_n 0, 1) := by decide +kernel
theorem dX21_step_5 : decode cX21_step 5 = .ok (.getfield 763, 3) := by decide +kernel
theorem dX21_step_8 : decode cX21_step 8 = .ok (.iconst 1, 1) := by decide +kernel
theorem dX21_step_9 : decode cX21_step 9 = .ok (.isub, 1) := by decide +kernel
theorem dX21_step_10 : decode cX21_step 10 = .ok (.iaload, 1) := by decide +kernel
theorem dX21_step_11 : decode cX21_step 11 = .ok (.istore_n 1, 1) := by decide +kernel
theorem dX21_step_12 : decode cX21_step 12 = .ok (.aload_n 0, 1) := by decide +kernel
theorem dX21_step_13 : decode cX21_step 13 = .ok (.getfield 289, 3) := by decide +kernel
theorem dX21_step_16 : decode cX21_step 16 = .ok (.aload_n 0, 1) := by decide +kernel
theorem dX21_step_17 : decode cX21_step 17 = .ok (.getfield 763, 3) := by decide +kernel
theorem dX21_step_20 : decode cX21_step 20 = .ok (.iconst 1, 1) := by decide +kernel
theorem dX21_step_21 : decode cX21_step 21 = .ok (.isub, 1) := by decide +kernel
theorem dX21_step_22 : decode cX21_step 22 = .ok (.iaload, 1) := by decide +kernel
theorem dX21_step_23 : decode cX21_step 23 = .ok (.istore_n 2, 1) := by decide +kernel
theorem dX21_step_24 : decode cX21_step 24 = .ok (.aload_n 0, 1) := by decide +kernel
theorem dX21_step_25 : decode cX21_step 25 = .ok (.getfield 208, 3) := by decide +kernel
theorem dX21_step_28 : decode cX21_step 28 = .ok (.iload_n 1, 1) := by decide +kernel
theorem dX21_step_29 : decode cX21_step 29 = .ok (.baload, 1) := by decide +kernel
theorem dX21_step_30 : decode cX21_step 30 = .ok (.bipush 20, 2) := by decide +kernel
theorem dX21_step_32 : decode cX21_step 32 = .ok (.if_icmp .lt 10, 3) := by decide +kernel
theorem dX21_step_35 : decode cX21_step 35 = .ok (.aload_n 0, 1) := by decide +kernel
theorem dX21_step_36 : decode cX21_step 36 = .ok (.iload_n 1, 1) := by decide +kernel
theorem dX21_step_37 : decode cX21_step 37 = .ok (.iload_n 2, 1) := by decide +kernel
theorem dX21_step_38 : decode cX21_step 38 = .ok (.invokevirtual 801, 3) := by decide +kernel
theorem dX21_step_41 : decode cX21_step 41 = .ok (.return_, 1) := by decide +kernel
theorem dX21_step_42 : decode cX21_step 42 = .ok (.aload_n 0, 1) := by decide +kernel
theorem dX21_step_43 : decode cX21_step 43 = .ok (.getfield 208, 3) := by decide +kernel
theorem dX21_step_46 : decode cX21_step 46 = .ok (.iload_n 1, 1) := by decide +kernel
theorem dX21_step_47 : decode cX21_step 47 = .ok (.baload, 1) := by decide +kernel
theorem dX21_step_48 : decode cX21_step 48 = .ok (.tableswitch 260 1 8 #[48, 66, 106, 115, 169, 178, 188, 197], 48) := by decide +kernel
theorem dX21_step_96 : decode cX21_step 96 = .ok (.aload_n 0, 1) := by decide +kernel
theorem dX21_step_97 : decode cX21_step 97 = .ok (.aload_n 0, 1) := by decide +kernel
theorem dX21_step_98 : decode cX21_step 98 = .ok (.getfield 205, 3) := by decide +kernel
theorem dX21_step_101 : decode cX21_step 101 = .ok (.aload_n 0, 1) := by decide +kernel
theorem dX21_step_102 : decode cX21_step 102 = .ok (.getfield 211, 3) := by decide +kernel
theorem dX21_step_105 : decode cX21_step 105 = .ok (.iload_n 1, 1) := by decide +kernel
theorem dX21_step_106 : decode cX21_step 106 = .ok (.iaload, 1) := by decide +kernel
theorem dX21_step_107 : decode cX21_step 107 = .ok (.iaload, 1) := by decide +kernel
theorem dX21_step_108 : decode cX21_step 108 = .ok (.invokevirtual 804, 3) := by decide +kernel
theorem dX21_step_111 : decode cX21_step 111 = .ok (.goto 203, 3) := by decide +kernel
theorem dX21_step_114 : decode cX21_step 114 = .ok (.aload_n 0, 1) := by decide +kernel
theorem dX21_step_115 : decode cX21_step 115 = .ok (.aload_n 0, 1) := by decide +kernel
theorem dX21_step_116 : decode cX21_step 116 = .ok (.getfield 220, 3) := by decide +kernel
theorem dX21_step_119 : decode cX21_step 119 = .ok (.iload_n 1, 1) := by decide +kernel
theorem dX21_step_120 : decode cX21_step 120 = .ok (.iaload, 1) := by decide +kernel
theorem dX21_step_121 : decode cX21_step 121 = .ok (.ifCond .ge 12, 3) := by decide +kernel
theorem dX21_step_124 : decode cX21_step 124 = .ok (.aload_n 0, 1) := by decide +kernel
theorem dX21_step_125 : decode cX21_step 125 = .ok (.getfield 223, 3) := by decide +kernel
theorem dX21_step_128 : decode cX21_step 128 = .ok (.iload_n 1, 1) := by decide +kernel
theorem dX21_step_129 : decode cX21_step 129 = .ok (.iaload, 1) := by decide +kernel
theorem dX21_step_130 : decode cX21_step 130 = .ok (.goto 18, 3) := by decide +kernel
theorem dX21_step_133 : decode cX21_step 133 = .ok (.aload_n 0, 1) := by decide +kernel
theorem dX21_step_134 : decode cX21_step 134 = .ok (.getfield 282, 3) := by decide +kernel
theorem dX21_step_137 : decode cX21_step 137 = .ok (.aload_n 0, 1) := by decide +kernel
theorem dX21_step_138 : decode cX21_step 138 = .ok (.aload_n 0, 1) := by decide +kernel
theorem dX21_step_139 : decode cX21_step 139 = .ok (.getfield 220, 3) := by decide +kernel
theorem dX21_step_142 : decode cX21_step 142 = .ok (.iload_n 1, 1) := by decide +kernel
theorem dX21_step_143 : decode cX21_step 143 = .ok (.iaload, 1) := by decide +kernel
theorem dX21_step_144 : decode cX21_step 144 = .ok (.invokevirtual 784, 3) := by decide +kernel
theorem dX21_step_147 : decode cX21_step 147 = .ok (.iaload, 1) := by decide +kernel
theorem dX21_step_148 : decode cX21_step 148 = .ok (.invokevirtual 804, 3) := by decide +kernel
theorem dX21_step_151 : decode cX21_step 151 = .ok (.goto 163, 3) := by decide +kernel
theorem dX21_step_154 : decode cX21_step 154 = .ok (.aload_n 0, 1) := by decide +kernel
theorem dX21_step_155 : decode cX21_step 155 = .ok (.iload_n 1, 1) := by decide +kernel
theorem dX21_step_156 : decode cX21_step 156 = .ok (.iload_n 2, 1) := by decide +kernel
theorem dX21_step_157 : decode cX21_step 157 = .ok (.invokevirtual 807, 3) := by decide +kernel
theorem dX21_step_160 : decode cX21_step 160 = .ok (.goto 154, 3) := by decide +kernel
theorem dX21_step_163 : decode cX21_step 163 = .ok (.iload_n 2, 1) := by decide +kernel
theorem dX21_step_164 : decode cX21_step 164 = .ok (.ifCond .ne 21, 3) := by decide +kernel
theorem dX21_step_167 : decode cX21_step 167 = .ok (.aload_n 0, 1) := by decide +kernel
theorem dX21_step_168 : decode cX21_step 168 = .ok (.iconst 1, 1) := by decide +kernel
theorem dX21_step_169 : decode cX21_step 169 = .ok (.invokevirtual 810, 3) := by decide +kernel
theorem dX21_step_172 : decode cX21_step 172 = .ok (.aload_n 0, 1) := by decide +kernel
theorem dX21_step_173 : decode cX21_step 173 = .ok (.aload_n 0, 1) := by decide +kernel
theorem dX21_step_174 : decode cX21_step 174 = .ok (.getfield 217, 3) := by decide +kernel
theorem dX21_step_177 : decode cX21_step 177 = .ok (.iload_n 1, 1) := by decide +kernel
theorem dX21_step_178 : decode cX21_step 178 = .ok (.iaload, 1) := by decide +kernel
theorem dX21_step_179 : decode cX21_step 179 = .ok (.invokevirtual 813, 3) := by decide +kernel
theorem dX21_step_182 : decode cX21_step 182 = .ok (.goto 132, 3) := by decide +kernel
theorem dX21_step_185 : decode cX21_step 185 = .ok (.aload_n 0, 1) := by decide +kernel
theorem dX21_step_186 : decode cX21_step 186 = .ok (.aload_n 0, 1) := by decide +kernel
theorem dX21_step_187 : decode cX21_step 187 = .ok (.getfield 220, 3) := by decide +kernel
theorem dX21_step_190 : decode cX21_step 190 = .ok (.iload_n 1, 1) := by decide +kernel
theorem dX21_step_191 : decode cX21_step 191 = .ok (.iaload, 1) := by decide +kernel
theorem dX21_step_192 : decode cX21_step 192 = .ok (.aload_n 0, 1) := by decide +kernel
theorem dX21_step_193 : decode cX21_step 193 = .ok (.invokevirtual 793, 3) := by decide +kernel
theorem dX21_step_196 : decode cX21_step 196 = .ok (.invokevirtual 795, 3) := by decide +kernel
theorem dX21_step_199 : decode cX21_step 199 = .ok (.istore_n 3, 1) := by decide +kernel
theorem dX21_step_200 : decode cX21_step 200 = .ok (.iload_n 3, 1) := by decide +kernel
theorem dX21_step_201 : decode cX21_step 201 = .ok (.ifCond .lt 13, 3) := by decide +kernel
theorem dX21_step_204 : decode cX21_step 204 = .ok (.aload_n 0, 1) := by decide +kernel
theorem dX21_step_205 : decode cX21_step 205 = .ok (.aload_n 0, 1) := by decide +kernel
theorem dX21_step_206 : decode cX21_step 206 = .ok (.getfield 282, 3) := by decide +kernel
theorem dX21_step_209 : decode cX21_step 209 = .ok (.iload_n 3, 1) := by decide +kernel
theorem dX21_step_210 : decode cX21_step 210 = .ok (.iaload, 1) := by decide +kernel
theorem dX21_step_211 : decode cX21_step 211 = .ok (.invokevirtual 804, 3) := by decide +kernel
theorem dX21_step_214 : decode cX21_step 214 = .ok (.goto 100, 3) := by decide +kernel
theorem dX21_step_217 : decode cX21_step 217 = .ok (.aload_n 0, 1) := by decide +kernel
theorem dX21_step_218 : decode cX21_step 218 = .ok (.iload_n 1, 1) := by decide +kernel
theorem dX21_step_219 : decode cX21_step 219 = .ok (.iload_n 2, 1) := by decide +kernel
theorem dX21_step_220 : decode cX21_step 220 = .ok (.invokevirtual 816, 3) := by decide +kernel
theorem dX21_step_223 : decode cX21_step 223 = .ok (.goto 91, 3) := by decide +kernel
theorem dX21_step_226 : decode cX21_step 226 = .ok (.aload_n 0, 1) := by decide +kernel
theorem dX21_step_227 : decode cX21_step 227 = .ok (.iload_n 1, 1) := by decide +kernel
theorem dX21_step_228 : decode cX21_step 228 = .ok (.iload_n 2, 1) := by decide +kernel
theorem dX21_step_229 : decode cX21_step 229 = .ok (.iconst 0, 1) := by decide +kernel
theorem dX21_step_230 : decode cX21_step 230 = .ok (.invokevirtual 819, 3) := by decide +kernel
theorem dX21_step_233 : decode cX21_step 233 = .ok (.goto 81, 3) := by decide +kernel
theorem dX21_step_236 : decode cX21_step 236 = .ok (.aload_n 0, 1) := by decide +kernel
theorem dX21_step_237 : decode cX21_step 237 = .ok (.iload_n 1, 1) := by decide +kernel
theorem dX21_step_238 : decode cX21_step 238 = .ok (.iload_n 2, 1) := by decide +kernel
theorem dX21_step_239 : decode cX21_step 239 = .ok (.invokevirtual 823, 3) := by decide +kernel
theorem dX21_step_242 : decode cX21_step 242 = .ok (.goto 72, 3) := by decide +kernel
theorem dX21_step_245 : decode cX21_step 245 = .ok (.iload_n 2, 1) := by decide +kernel
theorem dX21_step_246 : decode cX21_step 246 = .ok (.ifCond .ne 21, 3) := by decide +kernel
theorem dX21_step_249 : decode cX21_step 249 = .ok (.aload_n 0, 1) := by decide +kernel
theorem dX21_step_250 : decode cX21_step 250 = .ok (.iconst 1, 1) := by decide +kernel
theorem dX21_step_251 : decode cX21_step 251 = .ok (.invokevirtual 810, 3) := by decide +kernel
theorem dX21_step_254 : decode cX21_step 254 = .ok (.aload_n 0, 1) := by decide +kernel
theorem dX21_step_255 : decode cX21_step 255 = .ok (.aload_n 0, 1) := by decide +kernel
theorem dX21_step_256 : decode cX21_step 256 = .ok (.getfield 217, 3) := by decide +kernel
theorem dX21_step_259 : decode cX21_step 259 = .ok (.iload_n 1, 1) := by decide +kernel
theorem dX21_step_260 : decode cX21_step 260 = .ok (.iaload, 1) := by decide +kernel
theorem dX21_step_261 : decode cX21_step 261 = .ok (.invokevirtual 813, 3) := by decide +kernel
theorem dX21_step_264 : decode cX21_step 264 = .ok (.goto 50, 3) := by decide +kernel
theorem dX21_step_267 : decode cX21_step 267 = .ok (.aload_n 0, 1) := by decide +kernel
theorem dX21_step_268 : decode cX21_step 268 = .ok (.invokevirtual 793, 3) := by decide +kernel
theorem dX21_step_271 : decode cX21_step 271 = .ok (.ifCond .eq 12, 3) := by decide +kernel
theorem dX21_step_274 : decode cX21_step 274 = .ok (.aload_n 0, 1) := by decide +kernel
theorem dX21_step_275 : decode cX21_step 275 = .ok (.getfield 220, 3) := by decide +kernel
theorem dX21_step_278 : decode cX21_step 278 = .ok (.iload_n 1, 1) := by decide +kernel
theorem dX21_step_279 : decode cX21_step 279 = .ok (.iaload, 1) := by decide +kernel
theorem dX21_step_280 : decode cX21_step 280 = .ok (.goto 9, 3) := by decide +kernel
theorem dX21_step_283 : decode cX21_step 283 = .ok (.aload_n 0, 1) := by decide +kernel
theorem dX21_step_284 : decode cX21_step 284 = .ok (.getfield 223, 3) := by decide +kernel
theorem dX21_step_287 : decode cX21_step 287 = .ok (.iload_n 1, 1) := by decide +kernel
theorem dX21_step_288 : decode cX21_step 288 = .ok (.iaload, 1) := by decide +kernel
theorem dX21_step_289 : decode cX21_step 289 = .ok (.istore_n 3, 1) := by decide +kernel
theorem dX21_step_290 : decode cX21_step 290 = .ok (.aload_n 0, 1) := by decide +kernel
theorem dX21_step_291 : decode cX21_step 291 = .ok (.dup, 1) := by decide +kernel
theorem dX21_step_292 : decode cX21_step 292 = .ok (.getfield 763, 3) := by decide +kernel
theorem dX21_step_295 : decode cX21_step 295 = .ok (.iconst 1, 1) := by decide +kernel
theorem dX21_step_296 : decode cX21_step 296 = .ok (.isub, 1) := by decide +kernel
theorem dX21_step_297 : decode cX21_step 297 = .ok (.putfield 763, 3) := by decide +kernel
theorem dX21_step_300 : decode cX21_step 300 = .ok (.aload_n 0, 1) := by decide +kernel
theorem dX21_step_301 : decode cX21_step 301 = .ok (.iload_n 3, 1) := by decide +kernel
theorem dX21_step_302 : decode cX21_step 302 = .ok (.invokevirtual 813, 3) := by decide +kernel
theorem dX21_step_305 : decode cX21_step 305 = .ok (.goto 9, 3) := by decide +kernel
theorem dX21_step_308 : decode cX21_step 308 = .ok (.aload_n 0, 1) := by decide +kernel
theorem dX21_step_309 : decode cX21_step 309 = .ok (.iload_n 1, 1) := by decide +kernel
theorem dX21_step_310 : decode cX21_step 310 = .ok (.iload_n 2, 1) := by decide +kernel
theorem dX21_step_311 : decode cX21_step 311 = .ok (.invokevirtual 826, 3) := by decide +kernel
theorem dX21_step_314 : decode cX21_step 314 = .ok (.return_, 1) := by decide +kernel
theorem dX21_doStatement_0 : decode cX21_doStatement 0 = .ok (.aload_n 0, 1) := by decide +kernel
theorem dX21_doStatement_1 : decode cX21_doStatement 1 = .ok (.getfield 208, 3) := by decide +kernel
theorem dX21_doStatement_4 : decode cX21_doStatement 4 = .ok (.iload_n 1, 1) := by decide +kernel
theorem dX21_doStatement_5 : decode cX21_doStatement 5 = .ok (.baload, 1) := by decide +kernel
theorem dX21_doStatement_6 : decode cX21_doStatement 6 = .ok (.tableswitch 413 20 41 #[102, 413, 130, 170, 179, 246, 313, 322, 331, 413, 413, 340, 347, 354, 413, 413, 413, 413, 413, 413, 413, 405], 102) := by decide +kernel
theorem dX21_doStatement_108 : decode cX21_doStatement 108 = .ok (.aload_n 0, 1) := by decide +kernel
theorem dX21_doStatement_109 : decode cX21_doStatement 109 = .ok (.iload_n 2, 1) := by decide +kernel
theorem dX21_doStatement_110 : decode cX21_doStatement 110 = .ok (.ifCond .ne 12, 3) := by decide +kernel
theorem dX21_doStatement_113 : decode cX21_doStatement 113 = .ok (.aload_n 0, 1) := by decide +kernel
theorem dX21_doStatement_114 : decode cX21_doStatement 114 = .ok (.getfield 217, 3) := by decide +kernel
theorem dX21_doStatement_117 : decode cX21_doStatement 117 = .ok (.iload_n 1, 1) := by decide +kernel
theorem dX21_doStatement_118 : decode cX21_doStatement 118 = .ok (.iaload, 1) := by decide +kernel
theorem dX21_doStatement_119 : decode cX21_doStatement 119 = .ok (.goto 11, 3) := by decide +kernel
theorem dX21_doStatement_122 : decode cX21_doStatement 122 = .ok (.aload_n 0, 1) := by decide +kernel
theorem dX21_doStatement_123 : decode cX21_doStatement 123 = .ok (.getfield 229, 3) := by decide +kernel
theorem dX21_doStatement_126 : decode cX21_doStatement 126 = .ok (.iload_n 2, 1) := by decide +kernel
theorem dX21_doStatement_127 : decode cX21_doStatement 127 = .ok (.iconst 1, 1) := by decide +kernel
theorem dX21_doStatement_128 : decode cX21_doStatement 128 = .ok (.isub, 1) := by decide +kernel
theorem dX21_doStatement_129 : decode cX21_doStatement 129 = .ok (.iaload, 1) := by decide +kernel
theorem dX21_doStatement_130 : decode cX21_doStatement 130 = .ok (.invokevirtual 872, 3) := by decide +kernel
theorem dX21_doStatement_133 : decode cX21_doStatement 133 = .ok (.goto 296, 3) := by decide +kernel
theorem dX21_doStatement_136 : decode cX21_doStatement 136 = .ok (.iload_n 2, 1) := by decide +kernel
theorem dX21_doStatement_137 : decode cX21_doStatement 137 = .ok (.ifCond .ne 21, 3) := by decide +kernel
theorem dX21_doStatement_140 : decode cX21_doStatement 140 = .ok (.aload_n 0, 1) := by decide +kernel
theorem dX21_doStatement_141 : decode cX21_doStatement 141 = .ok (.iconst 1, 1) := by decide +kernel
theorem dX21_doStatement_142 : decode cX21_doStatement 142 = .ok (.invokevirtual 810, 3) := by decide +kernel
theorem dX21_doStatement_145 : decode cX21_doStatement 145 = .ok (.aload_n 0, 1) := by decide +kernel
theorem dX21_doStatement_146 : decode cX21_doStatement 146 = .ok (.aload_n 0, 1) := by decide +kernel
theorem dX21_doStatement_147 : decode cX21_doStatement 147 = .ok (.getfield 217, 3) := by decide +kernel
theorem dX21_doStatement_150 : decode cX21_doStatement 150 = .ok (.iload_n 1, 1) := by decide +kernel
theorem dX21_doStatement_151 : decode cX21_doStatement 151 = .ok (.iaload, 1) := by decide +kernel
theorem dX21_doStatement_152 : decode cX21_doStatement 152 = .ok (.invokevirtual 813, 3) := by decide +kernel
theorem dX21_doStatement_155 : decode cX21_doStatement 155 = .ok (.goto 274, 3) := by decide +kernel
theorem dX21_doStatement_158 : decode cX21_doStatement 158 = .ok (.aload_n 0, 1) := by decide +kernel
theorem dX21_doStatement_159 : decode cX21_doStatement 159 = .ok (.invokevirtual 793, 3) := by decide +kernel
theorem dX21_doStatement_162 : decode cX21_doStatement 162 = .ok (.pop, 1) := by decide +kernel
theorem dX21_doStatement_163 : decode cX21_doStatement 163 = .ok (.aload_n 0, 1) := by decide +kernel
theorem dX21_doStatement_164 : decode cX21_doStatement 164 = .ok (.dup, 1) := by decide +kernel
theorem dX21_doStatement_165 : decode cX21_doStatement 165 = .ok (.getfield 763, 3) := by decide +kernel
theorem dX21_doStatement_168 : decode cX21_doStatement 168 = .ok (.iconst 1, 1) := by decide +kernel
theorem dX21_doStatement_169 : decode cX21_doStatement 169 = .ok (.isub, 1) := by decide +kernel
theorem dX21_doStatement_170 : decode cX21_doStatement 170 = .ok (.putfield 763, 3) := by decide +kernel
theorem dX21_doStatement_173 : decode cX21_doStatement 173 = .ok (.goto 256, 3) := by decide +kernel
theorem dX21_doStatement_176 : decode cX21_doStatement 176 = .ok (.aload_n 0, 1) := by decide +kernel
theorem dX21_doStatement_177 : decode cX21_doStatement 177 = .ok (.iload_n 1, 1) := by decide +kernel
theorem dX21_doStatement_178 : decode cX21_doStatement 178 = .ok (.iload_n 2, 1) := by decide +kernel
theorem dX21_doStatement_179 : decode cX21_doStatement 179 = .ok (.invokevirtual 875, 3) := by decide +kernel
theorem dX21_doStatement_182 : decode cX21_doStatement 182 = .ok (.goto 247, 3) := by decide +kernel
theorem dX21_doStatement_185 : decode cX21_doStatement 185 = .ok (.iload_n 2, 1) := by decide +kernel
theorem dX21_doStatement_186 : decode cX21_doStatement 186 = .ok (.ifCond .ne 21, 3) := by decide +kernel
theorem dX21_doStatement_189 : decode cX21_doStatement 189 = .ok (.aload_n 0, 1) := by decide +kernel
theorem dX21_doStatement_190 : decode cX21_doStatement 190 = .ok (.iconst 1, 1) := by decide +kernel
theorem dX21_doStatement_191 : decode cX21_doStatement 191 = .ok (.invokevirtual 810, 3) := by decide +kernel
theorem dX21_doStatement_194 : decode cX21_doStatement 194 = .ok (.aload_n 0, 1) := by decide +kernel
theorem dX21_doStatement_195 : decode cX21_doStatement 195 = .ok (.aload_n 0, 1) := by decide +kernel
theorem dX21_doStatement_196 : decode cX21_doStatement 196 = .ok (.getfield 217, 3) := by decide +kernel
theorem dX21_doStatement_199 : decode cX21_doStatement 199 = .ok (.iload_n 1, 1) := by decide +kernel
theorem dX21_doStatement_200 : decode cX21_doStatement 200 = .ok (.iaload, 1) := by decide +kernel
theorem dX21_doStatement_201 : decode cX21_doStatement 201 = .ok (.invokevirtual 813, 3) := by decide +kernel
theorem dX21_doStatement_204 : decode cX21_doStatement 204 = .ok (.goto 225, 3) := by decide +kernel
theorem dX21_doStatement_207 : decode cX21_doStatement 207 = .ok (.aload_n 0, 1) := by decide +kernel
theorem dX21_doStatement_208 : decode cX21_doStatement 208 = .ok (.invokevirtual 793, 3) := by decide +kernel
theorem dX21_doStatement_211 : decode cX21_doStatement 211 = .ok (.ifCond .eq 12, 3) := by decide +kernel
theorem dX21_doStatement_214 : decode cX21_doStatement 214 = .ok (.aload_n 0, 1) := by decide +kernel
theorem dX21_doStatement_215 : decode cX21_doStatement 215 = .ok (.getfield 220, 3) := by decide +kernel
theorem dX21_doStatement_218 : decode cX21_doStatement 218 = .ok (.iload_n 1, 1) := by decide +kernel
theorem dX21_doStatement_219 : decode cX21_doStatement 219 = .ok (.iaload, 1) := by decide +kernel
theorem dX21_doStatement_220 : decode cX21_doStatement 220 = .ok (.goto 9, 3) := by decide +kernel
theorem dX21_doStatement_223 : decode cX21_doStatement 223 = .ok (.aload_n 0, 1) := by decide +kernel
theorem dX21_doStatement_224 : decode cX21_doStatement 224 = .ok (.getfield 223, 3) := by decide +kernel
theorem dX21_doStatement_227 : decode cX21_doStatement 227 = .ok (.iload_n 1, 1) := by decide +kernel
theorem dX21_doStatement_228 : decode cX21_doStatement 228 = .ok (.iaload, 1) := by decide +kernel
theorem dX21_doStatement_229 : decode cX21_doStatement 229 = .ok (.istore_n 3, 1) := by decide +kernel
theorem dX21_doStatement_230 : decode cX21_doStatement 230 = .ok (.aload_n 0, 1) := by decide +kernel
theorem dX21_doStatement_231 : decode cX21_doStatement 231 = .ok (.dup, 1) := by decide +kernel
theorem dX21_doStatement_232 : decode cX21_doStatement 232 = .ok (.getfield 763, 3) := by decide +kernel
theorem dX21_doStatement_235 : decode cX21_doStatement 235 = .ok (.iconst 1, 1) := by decide +kernel
theorem dX21_doStatement_236 : decode cX21_doStatement 236 = .ok (.isub, 1) := by decide +kernel
theorem dX21_doStatement_237 : decode cX21_doStatement 237 = .ok (.putfield 763, 3) := by decide +kernel
theorem dX21_doStatement_240 : decode cX21_doStatement 240 = .ok (.iload_n 3, 1) := by decide +kernel
theorem dX21_doStatement_241 : decode cX21_doStatement 241 = .ok (.ifCond .lt 8, 3) := by decide +kernel
theorem dX21_doStatement_244 : decode cX21_doStatement 244 = .ok (.aload_n 0, 1) := by decide +kernel
theorem dX21_doStatement_245 : decode cX21_doStatement 245 = .ok (.iload_n 3, 1) := by decide +kernel
theorem dX21_doStatement_246 : decode cX21_doStatement 246 = .ok (.invokevirtual 813, 3) := by decide +kernel
theorem dX21_doStatement_249 : decode cX21_doStatement 249 = .ok (.goto 180, 3) := by decide +kernel
theorem dX21_doStatement_252 : decode cX21_doStatement 252 = .ok (.iload_n 2, 1) := by decide +kernel
theorem dX21_doStatement_253 : decode cX21_doStatement 253 = .ok (.ifCond .ne 21, 3) := by decide +kernel
theorem dX21_doStatement_256 : decode cX21_doStatement 256 = .ok (.aload_n 0, 1) := by decide +kernel
theorem dX21_doStatement_257 : decode cX21_doStatement 257 = .ok (.iconst 1, 1) := by decide +kernel
theorem dX21_doStatement_258 : decode cX21_doStatement 258 = .ok (.invokevirtual 810, 3) := by decide +kernel
theorem dX21_doStatement_261 : decode cX21_doStatement 261 = .ok (.aload_n 0, 1) := by decide +kernel
theorem dX21_doStatement_262 : decode cX21_doStatement 262 = .ok (.aload_n 0, 1) := by decide +kernel
theorem dX21_doStatement_263 : decode cX21_doStatement 263 = .ok (.getfield 217, 3) := by decide +kernel
theorem dX21_doStatement_266 : decode cX21_doStatement 266 = .ok (.iload_n 1, 1) := by decide +kernel
theorem dX21_doStatement_267 : decode cX21_doStatement 267 = .ok (.iaload, 1) := by decide +kernel
theorem dX21_doStatement_268 : decode cX21_doStatement 268 = .ok (.invokevirtual 813, 3) := by decide +kernel
theorem dX21_doStatement_271 : decode cX21_doStatement 271 = .ok (.goto 158, 3) := by decide +kernel
theorem dX21_doStatement_274 : decode cX21_doStatement 274 = .ok (.aload_n 0, 1) := by decide +kernel
theorem dX21_doStatement_275 : decode cX21_doStatement 275 = .ok (.invokevirtual 793, 3) := by decide +kernel
theorem dX21_doStatement_278 : decode cX21_doStatement 278 = .ok (.ifCond .ne 16, 3) := by decide +kernel
theorem dX21_doStatement_281 : decode cX21_doStatement 281 = .ok (.aload_n 0, 1) := by decide +kernel
theorem dX21_doStatement_282 : decode cX21_doStatement 282 = .ok (.dup, 1) := by decide +kernel
theorem dX21_doStatement_283 : decode cX21_doStatement 283 = .ok (.getfield 763, 3) := by decide +kernel
theorem dX21_doStatement_286 : decode cX21_doStatement 286 = .ok (.iconst 1, 1) := by decide +kernel
theorem dX21_doStatement_287 : decode cX21_doStatement 287 = .ok (.isub, 1) := by decide +kernel
theorem dX21_doStatement_288 : decode cX21_doStatement 288 = .ok (.putfield 763, 3) := by decide +kernel
theorem dX21_doStatement_291 : decode cX21_doStatement 291 = .ok (.goto 138, 3) := by decide +kernel
theorem dX21_doStatement_294 : decode cX21_doStatement 294 = .ok (.aload_n 0, 1) := by decide +kernel
theorem dX21_doStatement_295 : decode cX21_doStatement 295 = .ok (.invokevirtual 847, 3) := by decide +kernel
theorem dX21_doStatement_298 : decode cX21_doStatement 298 = .ok (.ifCond .eq 131, 3) := by decide +kernel
theorem dX21_doStatement_301 : decode cX21_doStatement 301 = .ok (.aload_n 0, 1) := by decide +kernel
theorem dX21_doStatement_302 : decode cX21_doStatement 302 = .ok (.iconst 0, 1) := by decide +kernel
theorem dX21_doStatement_303 : decode cX21_doStatement 303 = .ok (.invokevirtual 810, 3) := by decide +kernel
theorem dX21_doStatement_306 : decode cX21_doStatement 306 = .ok (.aload_n 0, 1) := by decide +kernel
theorem dX21_doStatement_307 : decode cX21_doStatement 307 = .ok (.aload_n 0, 1) := by decide +kernel
theorem dX21_doStatement_308 : decode cX21_doStatement 308 = .ok (.getfield 220, 3) := by decide +kernel
theorem dX21_doStatement_311 : decode cX21_doStatement 311 = .ok (.iload_n 1, 1) := by decide +kernel
theorem dX21_doStatement_312 : decode cX21_doStatement 312 = .ok (.iaload, 1) := by decide +kernel
theorem dX21_doStatement_313 : decode cX21_doStatement 313 = .ok (.invokevirtual 813, 3) := by decide +kernel
theorem dX21_doStatement_316 : decode cX21_doStatement 316 = .ok (.goto 113, 3) := by decide +kernel
theorem dX21_doStatement_319 : decode cX21_doStatement 319 = .ok (.aload_n 0, 1) := by decide +kernel
theorem dX21_doStatement_320 : decode cX21_doStatement 320 = .ok (.iload_n 1, 1) := by decide +kernel
theorem dX21_doStatement_321 : decode cX21_doStatement 321 = .ok (.iload_n 2, 1) := by decide +kernel
theorem dX21_doStatement_322 : decode cX21_doStatement 322 = .ok (.invokevirtual 878, 3) := by decide +kernel
theorem dX21_doStatement_325 : decode cX21_doStatement 325 = .ok (.goto 104, 3) := by decide +kernel
theorem dX21_doStatement_328 : decode cX21_doStatement 328 = .ok (.aload_n 0, 1) := by decide +kernel
theorem dX21_doStatement_329 : decode cX21_doStatement 329 = .ok (.iload_n 1, 1) := by decide +kernel
theorem dX21_doStatement_330 : decode cX21_doStatement 330 = .ok (.iload_n 2, 1) := by decide +kernel
theorem dX21_doStatement_331 : decode cX21_doStatement 331 = .ok (.invokevirtual 881, 3) := by decide +kernel
theorem dX21_doStatement_334 : decode cX21_doStatement 334 = .ok (.goto 95, 3) := by decide +kernel
theorem dX21_doStatement_337 : decode cX21_doStatement 337 = .ok (.aload_n 0, 1) := by decide +kernel
theorem dX21_doStatement_338 : decode cX21_doStatement 338 = .ok (.iload_n 1, 1) := by decide +kernel
theorem dX21_doStatement_339 : decode cX21_doStatement 339 = .ok (.iload_n 2, 1) := by decide +kernel
theorem dX21_doStatement_340 : decode cX21_doStatement 340 = .ok (.invokevirtual 884, 3) := by decide +kernel
theorem dX21_doStatement_343 : decode cX21_doStatement 343 = .ok (.goto 86, 3) := by decide +kernel
theorem dX21_doStatement_346 : decode cX21_doStatement 346 = .ok (.aload_n 0, 1) := by decide +kernel
theorem dX21_doStatement_347 : decode cX21_doStatement 347 = .ok (.invokevirtual 887, 3) := by decide +kernel
theorem dX21_doStatement_350 : decode cX21_doStatement 350 = .ok (.goto 79, 3) := by decide +kernel
theorem dX21_doStatement_353 : decode cX21_doStatement 353 = .ok (.aload_n 0, 1) := by decide +kernel
theorem dX21_doStatement_354 : decode cX21_doStatement 354 = .ok (.invokevirtual 890, 3) := by decide +kernel
theorem dX21_doStatement_357 : decode cX21_doStatement 357 = .ok (.goto 72, 3) := by decide +kernel
theorem dX21_doStatement_360 : decode cX21_doStatement 360 = .ok (.iload_n 2, 1) := by decide +kernel
theorem dX21_doStatement_361 : decode cX21_doStatement 361 = .ok (.ifCond .ne 30, 3) := by decide +kernel
theorem dX21_doStatement_364 : decode cX21_doStatement 364 = .ok (.aload_n 0, 1) := by decide +kernel
theorem dX21_doStatement_365 : decode cX21_doStatement 365 = .ok (.getfield 217, 3) := by decide +kernel
theorem dX21_doStatement_368 : decode cX21_doStatement 368 = .ok (.iload_n 1, 1) := by decide +kernel
theorem dX21_doStatement_369 : decode cX21_doStatement 369 = .ok (.iaload, 1) := by decide +kernel
theorem dX21_doStatement_370 : decode cX21_doStatement 370 = .ok (.ifCond .lt 21, 3) := by decide +kernel
theorem dX21_doStatement_373 : decode cX21_doStatement 373 = .ok (.aload_n 0, 1) := by decide +kernel
theorem dX21_doStatement_374 : decode cX21_doStatement 374 = .ok (.iconst 1, 1) := by decide +kernel
theorem dX21_doStatement_375 : decode cX21_doStatement 375 = .ok (.invokevirtual 810, 3) := by decide +kernel
theorem dX21_doStatement_378 : decode cX21_doStatement 378 = .ok (.aload_n 0, 1) := by decide +kernel
theorem dX21_doStatement_379 : decode cX21_doStatement 379 = .ok (.aload_n 0, 1) := by decide +kernel
theorem dX21_doStatement_380 : decode cX21_doStatement 380 = .ok (.getfield 217, 3) := by decide +kernel
theorem dX21_doStatement_383 : decode cX21_doStatement 383 = .ok (.iload_n 1, 1) := by decide +kernel
theorem dX21_doStatement_384 : decode cX21_doStatement 384 = .ok (.iaload, 1) := by decide +kernel
theorem dX21_doStatement_385 : decode cX21_doStatement 385 = .ok (.invokevirtual 813, 3) := by decide +kernel
theorem dX21_doStatement_388 : decode cX21_doStatement 388 = .ok (.goto 41, 3) := by decide +kernel
theorem dX21_doStatement_391 : decode cX21_doStatement 391 = .ok (.aload_n 0, 1) := by decide +kernel
theorem dX21_doStatement_392 : decode cX21_doStatement 392 = .ok (.iload_n 2, 1) := by decide +kernel
theorem dX21_doStatement_393 : decode cX21_doStatement 393 = .ok (.iconst 1, 1) := by decide +kernel
theorem dX21_doStatement_394 : decode cX21_doStatement 394 = .ok (.if_icmp .ne 10, 3) := by decide +kernel
theorem dX21_doStatement_397 : decode cX21_doStatement 397 = .ok (.aload_n 0, 1) := by decide +kernel
theorem dX21_doStatement_398 : decode cX21_doStatement 398 = .ok (.invokevirtual 793, 3) := by decide +kernel
theorem dX21_doStatement_401 : decode cX21_doStatement 401 = .ok (.goto 4, 3) := by decide +kernel
theorem dX21_doStatement_404 : decode cX21_doStatement 404 = .ok (.iconst 0, 1) := by decide +kernel
theorem dX21_doStatement_405 : decode cX21_doStatement 405 = .ok (.invokevirtual 893, 3) := by decide +kernel
theorem dX21_doStatement_408 : decode cX21_doStatement 408 = .ok (.goto 21, 3) := by decide +kernel
theorem dX21_doStatement_411 : decode cX21_doStatement 411 = .ok (.aload_n 0, 1) := by decide +kernel
theorem dX21_doStatement_412 : decode cX21_doStatement 412 = .ok (.iconst 0, 1) := by decide +kernel
theorem dX21_doStatement_413 : decode cX21_doStatement 413 = .ok (.invokevirtual 893, 3) := by decide +kernel
theorem dX21_doStatement_416 : decode cX21_doStatement 416 = .ok (.goto 13, 3) := by decide +kernel
theorem dX21_doStatement_419 : decode cX21_doStatement 419 = .ok (.aload_n 0, 1) := by decide +kernel
theorem dX21_doStatement_420 : decode cX21_doStatement 420 = .ok (.dup, 1) := by decide +kernel
theorem dX21_doStatement_421 : decode cX21_doStatement 421 = .ok (.getfield 763, 3) := by decide +kernel
theorem dX21_doStatement_424 : decode cX21_doStatement 424 = .ok (.iconst 1, 1) := by decide +kernel
theorem dX21_doStatement_425 : decode cX21_doStatement 425 = .ok (.isub, 1) := by decide +kernel
theorem dX21_doStatement_426 : decode cX21_doStatement 426 = .ok (.putfield 763, 3) := by decide +kernel
theorem dX21_doStatement_429 : decode cX21_doStatement 429 = .ok (.return_, 1) := by decide +kernel
theorem dX21_doRow_0 : decode cX21_doRow 0 = .ok (.iload_n 1, 1) := by decide +kernel
theorem dX21_doRow_1 : decode cX21_doRow 1 = .ok (.ifCond .ge 16, 3) := by decide +kernel
theorem dX21_doRow_4 : decode cX21_doRow 4 = .ok (.aload_n 0, 1) := by decide +kernel
theorem dX21_doRow_5 : decode cX21_doRow 5 = .ok (.dup, 1) := by decide +kernel
theorem dX21_doRow_6 : decode cX21_doRow 6 = .ok (.getfield 763, 3) := by decide +kernel
theorem dX21_doRow_9 : decode cX21_doRow 9 = .ok (.iconst 1, 1) := by decide +kernel
theorem dX21_doRow_10 : decode cX21_doRow 10 = .ok (.isub, 1) := by decide +kernel
theorem dX21_doRow_11 : decode cX21_doRow 11 = .ok (.putfield 763, 3) := by decide +kernel
theorem dX21_doRow_14 : decode cX21_doRow 14 = .ok (.goto 15, 3) := by decide +kernel
theorem dX21_doRow_17 : decode cX21_doRow 17 = .ok (.aload_n 0, 1) := by decide +kernel
theorem dX21_doRow_18 : decode cX21_doRow 18 = .ok (.iload_n 1, 1) := by decide +kernel
theorem dX21_doRow_19 : decode cX21_doRow 19 = .ok (.iconst 1, 1) := by decide +kernel
theorem dX21_doRow_20 : decode cX21_doRow 20 = .ok (.iadd, 1) := by decide +kernel
theorem dX21_doRow_21 : decode cX21_doRow 21 = .ok (.invokevirtual 810, 3) := by decide +kernel
theorem dX21_doRow_24 : decode cX21_doRow 24 = .ok (.aload_n 0, 1) := by decide +kernel
theorem dX21_doRow_25 : decode cX21_doRow 25 = .ok (.iload_n 1, 1) := by decide +kernel
theorem dX21_doRow_26 : decode cX21_doRow 26 = .ok (.invokevirtual 813, 3) := by decide +kernel
theorem dX21_doRow_29 : decode cX21_doRow 29 = .ok (.return_, 1) := by decide +kernel
theorem dX21_state_0 : decode cX21_state 0 = .ok (.aload_n 0, 1) := by decide +kernel
theorem dX21_state_1 : decode cX21_state 1 = .ok (.getfield 289, 3) := by decide +kernel
theorem dX21_state_4 : decode cX21_state 4 = .ok (.aload_n 0, 1) := by decide +kernel
theorem dX21_state_5 : decode cX21_state 5 = .ok (.getfield 763, 3) := by decide +kernel
theorem dX21_state_8 : decode cX21_state 8 = .ok (.iconst 1, 1) := by decide +kernel
theorem dX21_state_9 : decode cX21_state 9 = .ok (.isub, 1) := by decide +kernel
theorem dX21_state_10 : decode cX21_state 10 = .ok (.iload_n 1, 1) := by decide +kernel
theorem dX21_state_11 : decode cX21_state 11 = .ok (.iastore, 1) := by decide +kernel
theorem dX21_state_12 : decode cX21_state 12 = .ok (.return_, 1) := by decide +kernel
theorem dX21_take_2_0 : decode cX21_take_2 0 = .ok (.aload_n 0, 1) := by decide +kernel
theorem dX21_take_2_1 : decode cX21_take_2 1 = .ok (.dup, 1) := by decide +kernel
theorem dX21_take_2_2 : decode cX21_take_2 2 = .ok (.getfield 766, 3) := by decide +kernel
theorem dX21_take_2_5 : decode cX21_take_2 5 = .ok (.iconst 1, 1) := by decide +kernel
theorem dX21_take_2_6 : decode cX21_take_2 6 = .ok (.isub, 1) := by decide +kernel
theorem dX21_take_2_7 : decode cX21_take_2 7 = .ok (.putfield 766, 3) := by decide +kernel
theorem dX21_take_2_10 : decode cX21_take_2 10 = .ok (.aload_n 0, 1) := by decide +kernel
theorem dX21_take_2_11 : decode cX21_take_2 11 = .ok (.getfield 292, 3) := by decide +kernel
theorem dX21_take_2_14 : decode cX21_take_2 14 = .ok (.aload_n 0, 1) := by decide +kernel
theorem dX21_take_2_15 : decode cX21_take_2 15 = .ok (.getfield 766, 3) := by decide +kernel
theorem dX21_take_2_18 : decode cX21_take_2 18 = .ok (.iaload, 1) := by decide +kernel
theorem dX21_take_2_19 : decode cX21_take_2 19 = .ok (.ireturn, 1) := by decide +kernel
theorem dX21_doDeclare_0 : decode cX21_doDeclare 0 = .ok (.iload_n 2, 1) := by decide +kernel
theorem dX21_doDeclare_1 : decode cX21_doDeclare 1 = .ok (.ifCond .ne 12, 3) := by decide +kernel
theorem dX21_doDeclare_4 : decode cX21_doDeclare 4 = .ok (.aload_n 0, 1) := by decide +kernel
theorem dX21_doDeclare_5 : decode cX21_doDeclare 5 = .ok (.getfield 217, 3) := by decide +kernel
theorem dX21_doDeclare_8 : decode cX21_doDeclare 8 = .ok (.iload_n 1, 1) := by decide +kernel
theorem dX21_doDeclare_9 : decode cX21_doDeclare 9 = .ok (.iaload, 1) := by decide +kernel
theorem dX21_doDeclare_10 : decode cX21_doDeclare 10 = .ok (.goto 8, 3) := by decide +kernel
theorem dX21_doDeclare_13 : decode cX21_doDeclare 13 = .ok (.iload_n 2, 1) := by decide +kernel
theorem dX21_doDeclare_14 : decode cX21_doDeclare 14 = .ok (.iconst 2, 1) := by decide +kernel
theorem dX21_doDeclare_15 : decode cX21_doDeclare 15 = .ok (.idiv, 1) := by decide +kernel
theorem dX21_doDeclare_16 : decode cX21_doDeclare 16 = .ok (.iconst 1, 1) := by decide +kernel
theorem dX21_doDeclare_17 : decode cX21_doDeclare 17 = .ok (.isub, 1) := by decide +kernel
theorem dX21_doDeclare_18 : decode cX21_doDeclare 18 = .ok (.istore_n 3, 1) := by decide +kernel
theorem dX21_doDeclare_19 : decode cX21_doDeclare 19 = .ok (.iload_n 2, 1) := by decide +kernel
theorem dX21_doDeclare_20 : decode cX21_doDeclare 20 = .ok (.iconst 2, 1) := by decide +kernel
theorem dX21_doDeclare_21 : decode cX21_doDeclare 21 = .ok (.irem, 1) := by decide +kernel
theorem dX21_doDeclare_22 : decode cX21_doDeclare 22 = .ok (.iconst 1, 1) := by decide +kernel
theorem dX21_doDeclare_23 : decode cX21_doDeclare 23 = .ok (.if_icmp .ne 39, 3) := by decide +kernel
theorem dX21_doDeclare_26 : decode cX21_doDeclare 26 = .ok (.aload_n 0, 1) := by decide +kernel
theorem dX21_doDeclare_27 : decode cX21_doDeclare 27 = .ok (.getfield 226, 3) := by decide +kernel
theorem dX21_doDeclare_30 : decode cX21_doDeclare 30 = .ok (.iload_n 3, 1) := by decide +kernel
theorem dX21_doDeclare_31 : decode cX21_doDeclare 31 = .ok (.iaload, 1) := by decide +kernel
theorem dX21_doDeclare_32 : decode cX21_doDeclare 32 = .ok (.istore 4, 2) := by decide +kernel
theorem dX21_doDeclare_34 : decode cX21_doDeclare 34 = .ok (.aload_n 0, 1) := by decide +kernel
theorem dX21_doDeclare_35 : decode cX21_doDeclare 35 = .ok (.getfield 282, 3) := by decide +kernel
theorem dX21_doDeclare_38 : decode cX21_doDeclare 38 = .ok (.aload_n 0, 1) := by decide +kernel
theorem dX21_doDeclare_39 : decode cX21_doDeclare 39 = .ok (.iload 4, 2) := by decide +kernel
theorem dX21_doDeclare_41 : decode cX21_doDeclare 41 = .ok (.invokevirtual 784, 3) := by decide +kernel
theorem dX21_doDeclare_44 : decode cX21_doDeclare 44 = .ok (.aload_n 0, 1) := by decide +kernel
theorem dX21_doDeclare_45 : decode cX21_doDeclare 45 = .ok (.iload 4, 2) := by decide +kernel
theorem dX21_doDeclare_47 : decode cX21_doDeclare 47 = .ok (.aload_n 0, 1) := by decide +kernel
theorem dX21_doDeclare_48 : decode cX21_doDeclare 48 = .ok (.invokevirtual 793, 3) := by decide +kernel
theorem dX21_doDeclare_51 : decode cX21_doDeclare 51 = .ok (.invokevirtual 832, 3) := by decide +kernel
theorem dX21_doDeclare_54 : decode cX21_doDeclare 54 = .ok (.iastore, 1) := by decide +kernel
theorem dX21_doDeclare_55 : decode cX21_doDeclare 55 = .ok (.aload_n 0, 1) := by decide +kernel
theorem dX21_doDeclare_56 : decode cX21_doDeclare 56 = .ok (.getfield 229, 3) := by decide +kernel
theorem dX21_doDeclare_59 : decode cX21_doDeclare 59 = .ok (.iload_n 3, 1) := by decide +kernel
theorem dX21_doDeclare_60 : decode cX21_doDeclare 60 = .ok (.iaload, 1) := by decide +kernel
theorem dX21_doDeclare_61 : decode cX21_doDeclare 61 = .ok (.istore_n 3, 1) := by decide +kernel
theorem dX21_doDeclare_62 : decode cX21_doDeclare 62 = .ok (.iload_n 3, 1) := by decide +kernel
theorem dX21_doDeclare_63 : decode cX21_doDeclare 63 = .ok (.ifCond .lt 50, 3) := by decide +kernel
theorem dX21_doDeclare_66 : decode cX21_doDeclare 66 = .ok (.aload_n 0, 1) := by decide +kernel
theorem dX21_doDeclare_67 : decode cX21_doDeclare 67 = .ok (.getfield 232, 3) := by decide +kernel
theorem dX21_doDeclare_70 : decode cX21_doDeclare 70 = .ok (.iload_n 3, 1) := by decide +kernel
theorem dX21_doDeclare_71 : decode cX21_doDeclare 71 = .ok (.iaload, 1) := by decide +kernel
theorem dX21_doDeclare_72 : decode cX21_doDeclare 72 = .ok (.iconst 1, 1) := by decide +kernel
theorem dX21_doDeclare_73 : decode cX21_doDeclare 73 = .ok (.if_icmp .ne 25, 3) := by decide +kernel
theorem dX21_doDeclare_76 : decode cX21_doDeclare 76 = .ok (.aload_n 0, 1) := by decide +kernel
theorem dX21_doDeclare_77 : decode cX21_doDeclare 77 = .ok (.iconst 2, 1) := by decide +kernel
theorem dX21_doDeclare_78 : decode cX21_doDeclare 78 = .ok (.iload_n 3, 1) := by decide +kernel
theorem dX21_doDeclare_79 : decode cX21_doDeclare 79 = .ok (.iconst 1, 1) := by decide +kernel
theorem dX21_doDeclare_80 : decode cX21_doDeclare 80 = .ok (.iadd, 1) := by decide +kernel
theorem dX21_doDeclare_81 : decode cX21_doDeclare 81 = .ok (.imul, 1) := by decide +kernel
theorem dX21_doDeclare_82 : decode cX21_doDeclare 82 = .ok (.iconst 1, 1) := by decide +kernel
theorem dX21_doDeclare_83 : decode cX21_doDeclare 83 = .ok (.iadd, 1) := by decide +kernel
theorem dX21_doDeclare_84 : decode cX21_doDeclare 84 = .ok (.invokevirtual 810, 3) := by decide +kernel
theorem dX21_doDeclare_87 : decode cX21_doDeclare 87 = .ok (.aload_n 0, 1) := by decide +kernel
theorem dX21_doDeclare_88 : decode cX21_doDeclare 88 = .ok (.aload_n 0, 1) := by decide +kernel
theorem dX21_doDeclare_89 : decode cX21_doDeclare 89 = .ok (.getfield 220, 3) := by decide +kernel
theorem dX21_doDeclare_92 : decode cX21_doDeclare 92 = .ok (.iload_n 3, 1) := by decide +kernel
theorem dX21_doDeclare_93 : decode cX21_doDeclare 93 = .ok (.iaload, 1) := by decide +kernel
theorem dX21_doDeclare_94 : decode cX21_doDeclare 94 = .ok (.invokevirtual 813, 3) := by decide +kernel
theorem dX21_doDeclare_97 : decode cX21_doDeclare 97 = .ok (.return_, 1) := by decide +kernel
theorem dX21_doDeclare_98 : decode cX21_doDeclare 98 = .ok (.aload_n 0, 1) := by decide +kernel
theorem dX21_doDeclare_99 : decode cX21_doDeclare 99 = .ok (.iload_n 3, 1) := by decide +kernel
theorem dX21_doDeclare_100 : decode cX21_doDeclare 100 = .ok (.invokevirtual 896, 3) := by decide +kernel
theorem dX21_doDeclare_103 : decode cX21_doDeclare 103 = .ok (.aload_n 0, 1) := by decide +kernel
theorem dX21_doDeclare_104 : decode cX21_doDeclare 104 = .ok (.getfield 229, 3) := by decide +kernel
theorem dX21_doDeclare_107 : decode cX21_doDeclare 107 = .ok (.iload_n 3, 1) := by decide +kernel
theorem dX21_doDeclare_108 : decode cX21_doDeclare 108 = .ok (.iaload, 1) := by decide +kernel
theorem dX21_doDeclare_109 : decode cX21_doDeclare 109 = .ok (.istore_n 3, 1) := by decide +kernel
theorem dX21_doDeclare_110 : decode cX21_doDeclare 110 = .ok (.goto (-48), 3) := by decide +kernel
theorem dX21_doDeclare_113 : decode cX21_doDeclare 113 = .ok (.aload_n 0, 1) := by decide +kernel
theorem dX21_doDeclare_114 : decode cX21_doDeclare 114 = .ok (.dup, 1) := by decide +kernel
theorem dX21_doDeclare_115 : decode cX21_doDeclare 115 = .ok (.getfield 763, 3) := by decide +kernel
theorem dX21_doDeclare_118 : decode cX21_doDeclare 118 = .ok (.iconst 1, 1) := by decide +kernel
theorem dX21_doDeclare_119 : decode cX21_doDeclare 119 = .ok (.isub, 1) := by decide +kernel
theorem dX21_doDeclare_120 : decode cX21_doDeclare 120 = .ok (.putfield 763, 3) := by decide +kernel
theorem dX21_doDeclare_123 : decode cX21_doDeclare 123 = .ok (.return_, 1) := by decide +kernel
theorem dX21_doDo_0 : decode cX21_doDo 0 = .ok (.iload_n 2, 1) := by decide +kernel
theorem dX21_doDo_1 : decode cX21_doDo 1 = .ok (.ifCond .ne 28, 3) := by decide +kernel
theorem dX21_doDo_4 : decode cX21_doDo 4 = .ok (.aload_n 0, 1) := by decide +kernel
theorem dX21_doDo_5 : decode cX21_doDo 5 = .ok (.invokevirtual 847, 3) := by decide +kernel
theorem dX21_doDo_8 : decode cX21_doDo 8 = .ok (.ifCond .eq 69, 3) := by decide +kernel
theorem dX21_doDo_11 : decode cX21_doDo 11 = .ok (.aload_n 0, 1) := by decide +kernel
theorem dX21_doDo_12 : decode cX21_doDo 12 = .ok (.iconst 1, 1) := by decide +kernel
theorem dX21_doDo_13 : decode cX21_doDo 13 = .ok (.invokevirtual 810, 3) := by decide +kernel
theorem dX21_doDo_16 : decode cX21_doDo 16 = .ok (.aload_n 0, 1) := by decide +kernel
theorem dX21_doDo_17 : decode cX21_doDo 17 = .ok (.aload_n 0, 1) := by decide +kernel
theorem dX21_doDo_18 : decode cX21_doDo 18 = .ok (.getfield 220, 3) := by decide +kernel
theorem dX21_doDo_21 : decode cX21_doDo 21 = .ok (.iload_n 1, 1) := by decide +kernel
theorem dX21_doDo_22 : decode cX21_doDo 22 = .ok (.iaload, 1) := by decide +kernel
theorem dX21_doDo_23 : decode cX21_doDo 23 = .ok (.invokevirtual 813, 3) := by decide +kernel
theorem dX21_doDo_26 : decode cX21_doDo 26 = .ok (.goto 51, 3) := by decide +kernel
theorem dX21_doDo_29 : decode cX21_doDo 29 = .ok (.iload_n 2, 1) := by decide +kernel
theorem dX21_doDo_30 : decode cX21_doDo 30 = .ok (.iconst 1, 1) := by decide +kernel
theorem dX21_doDo_31 : decode cX21_doDo 31 = .ok (.if_icmp .ne 21, 3) := by decide +kernel
theorem dX21_doDo_34 : decode cX21_doDo 34 = .ok (.aload_n 0, 1) := by decide +kernel
theorem dX21_doDo_35 : decode cX21_doDo 35 = .ok (.iconst 2, 1) := by decide +kernel
theorem dX21_doDo_36 : decode cX21_doDo 36 = .ok (.invokevirtual 810, 3) := by decide +kernel
theorem dX21_doDo_39 : decode cX21_doDo 39 = .ok (.aload_n 0, 1) := by decide +kernel
theorem dX21_doDo_40 : decode cX21_doDo 40 = .ok (.aload_n 0, 1) := by decide +kernel
theorem dX21_doDo_41 : decode cX21_doDo 41 = .ok (.getfield 217, 3) := by decide +kernel
theorem dX21_doDo_44 : decode cX21_doDo 44 = .ok (.iload_n 1, 1) := by decide +kernel
theorem dX21_doDo_45 : decode cX21_doDo 45 = .ok (.iaload, 1) := by decide +kernel
theorem dX21_doDo_46 : decode cX21_doDo 46 = .ok (.invokevirtual 813, 3) := by decide +kernel
theorem dX21_doDo_49 : decode cX21_doDo 49 = .ok (.goto 28, 3) := by decide +kernel
theorem dX21_doDo_52 : decode cX21_doDo 52 = .ok (.aload_n 0, 1) := by decide +kernel
theorem dX21_doDo_53 : decode cX21_doDo 53 = .ok (.invokevirtual 793, 3) := by decide +kernel
theorem dX21_doDo_56 : decode cX21_doDo 56 = .ok (.ifCond .eq 11, 3) := by decide +kernel
theorem dX21_doDo_59 : decode cX21_doDo 59 = .ok (.aload_n 0, 1) := by decide +kernel
theorem dX21_doDo_60 : decode cX21_doDo 60 = .ok (.iconst 0, 1) := by decide +kernel
theorem dX21_doDo_61 : decode cX21_doDo 61 = .ok (.invokevirtual 810, 3) := by decide +kernel
theorem dX21_doDo_64 : decode cX21_doDo 64 = .ok (.goto 13, 3) := by decide +kernel
theorem dX21_doDo_67 : decode cX21_doDo 67 = .ok (.aload_n 0, 1) := by decide +kernel
theorem dX21_doDo_68 : decode cX21_doDo 68 = .ok (.dup, 1) := by decide +kernel
theorem dX21_doDo_69 : decode cX21_doDo 69 = .ok (.getfield 763, 3) := by decide +kernel
theorem dX21_doDo_72 : decode cX21_doDo 72 = .ok (.iconst 1, 1) := by decide +kernel
theorem dX21_doDo_73 : decode cX21_doDo 73 = .ok (.isub, 1) := by decide +kernel
theorem dX21_doDo_74 : decode cX21_doDo 74 = .ok (.putfield 763, 3) := by decide +kernel
theorem dX21_doDo_77 : decode cX21_doDo 77 = .ok (.return_, 1) := by decide +kernel
theorem dX21_doFor_0 : decode cX21_doFor 0 = .ok (.iload_n 2, 1) := by decide +kernel
theorem dX21_doFor_1 : decode cX21_doFor 1 = .ok (.ifCond .ne 30, 3) := by decide +kernel
theorem dX21_doFor_4 : decode cX21_doFor 4 = .ok (.aload_n 0, 1) := by decide +kernel
theorem dX21_doFor_5 : decode cX21_doFor 5 = .ok (.iconst 1, 1) := by decide +kernel
theorem dX21_doFor_6 : decode cX21_doFor 6 = .ok (.invokevirtual 810, 3) := by decide +kernel
theorem dX21_doFor_9 : decode cX21_doFor 9 = .ok (.aload_n 0, 1) := by decide +kernel
theorem dX21_doFor_10 : decode cX21_doFor 10 = .ok (.getfield 217, 3) := by decide +kernel
theorem dX21_doFor_13 : decode cX21_doFor 13 = .ok (.iload_n 1, 1) := by decide +kernel
theorem dX21_doFor_14 : decode cX21_doFor 14 = .ok (.iaload, 1) := by decide +kernel
theorem dX21_doFor_15 : decode cX21_doFor 15 = .ok (.ifCond .lt 156, 3) := by decide +kernel
theorem dX21_doFor_18 : decode cX21_doFor 18 = .ok (.aload_n 0, 1) := by decide +kernel
theorem dX21_doFor_19 : decode cX21_doFor 19 = .ok (.aload_n 0, 1) := by decide +kernel
theorem dX21_doFor_20 : decode cX21_doFor 20 = .ok (.getfield 217, 3) := by decide +kernel
theorem dX21_doFor_23 : decode cX21_doFor 23 = .ok (.iload_n 1, 1) := by decide +kernel
theorem dX21_doFor_24 : decode cX21_doFor 24 = .ok (.iaload, 1) := by decide +kernel
theorem dX21_doFor_25 : decode cX21_doFor 25 = .ok (.invokevirtual 813, 3) := by decide +kernel
theorem dX21_doFor_28 : decode cX21_doFor 28 = .ok (.goto 143, 3) := by decide +kernel
theorem dX21_doFor_31 : decode cX21_doFor 31 = .ok (.iload_n 2, 1) := by decide +kernel
theorem dX21_doFor_32 : decode cX21_doFor 32 = .ok (.iconst 1, 1) := by decide +kernel
theorem dX21_doFor_33 : decode cX21_doFor 33 = .ok (.if_icmp .ne 38, 3) := by decide +kernel
theorem dX21_doFor_36 : decode cX21_doFor 36 = .ok (.aload_n 0, 1) := by decide +kernel
theorem dX21_doFor_37 : decode cX21_doFor 37 = .ok (.iconst 2, 1) := by decide +kernel
theorem dX21_doFor_38 : decode cX21_doFor 38 = .ok (.invokevirtual 810, 3) := by decide +kernel
theorem dX21_doFor_41 : decode cX21_doFor 41 = .ok (.aload_n 0, 1) := by decide +kernel
theorem dX21_doFor_42 : decode cX21_doFor 42 = .ok (.getfield 220, 3) := by decide +kernel
theorem dX21_doFor_45 : decode cX21_doFor 45 = .ok (.iload_n 1, 1) := by decide +kernel
theorem dX21_doFor_46 : decode cX21_doFor 46 = .ok (.iaload, 1) := by decide +kernel
theorem dX21_doFor_47 : decode cX21_doFor 47 = .ok (.ifCond .lt 16, 3) := by decide +kernel
theorem dX21_doFor_50 : decode cX21_doFor 50 = .ok (.aload_n 0, 1) := by decide +kernel
theorem dX21_doFor_51 : decode cX21_doFor 51 = .ok (.aload_n 0, 1) := by decide +kernel
theorem dX21_doFor_52 : decode cX21_doFor 52 = .ok (.getfield 220, 3) := by decide +kernel
theorem dX21_doFor_55 : decode cX21_doFor 55 = .ok (.iload_n 1, 1) := by decide +kernel
theorem dX21_doFor_56 : decode cX21_doFor 56 = .ok (.iaload, 1) := by decide +kernel
theorem dX21_doFor_57 : decode cX21_doFor 57 = .ok (.invokevirtual 813, 3) := by decide +kernel
theorem dX21_doFor_60 : decode cX21_doFor 60 = .ok (.goto 111, 3) := by decide +kernel
theorem dX21_doFor_63 : decode cX21_doFor 63 = .ok (.aload_n 0, 1) := by decide +kernel
theorem dX21_doFor_64 : decode cX21_doFor 64 = .ok (.iconst 1, 1) := by decide +kernel
theorem dX21_doFor_65 : decode cX21_doFor 65 = .ok (.invokevirtual 769, 3) := by decide +kernel
theorem dX21_doFor_68 : decode cX21_doFor 68 = .ok (.goto 103, 3) := by decide +kernel
theorem dX21_doFor_71 : decode cX21_doFor 71 = .ok (.iload_n 2, 1) := by decide +kernel
theorem dX21_doFor_72 : decode cX21_doFor 72 = .ok (.iconst 2, 1) := by decide +kernel
theorem dX21_doFor_73 : decode cX21_doFor 73 = .ok (.if_icmp .ne 48, 3) := by decide +kernel
theorem dX21_doFor_76 : decode cX21_doFor 76 = .ok (.aload_n 0, 1) := by decide +kernel
theorem dX21_doFor_77 : decode cX21_doFor 77 = .ok (.invokevirtual 793, 3) := by decide +kernel
theorem dX21_doFor_80 : decode cX21_doFor 80 = .ok (.ifCond .ne 16, 3) := by decide +kernel
theorem dX21_doFor_83 : decode cX21_doFor 83 = .ok (.aload_n 0, 1) := by decide +kernel
theorem dX21_doFor_84 : decode cX21_doFor 84 = .ok (.dup, 1) := by decide +kernel
theorem dX21_doFor_85 : decode cX21_doFor 85 = .ok (.getfield 763, 3) := by decide +kernel
theorem dX21_doFor_88 : decode cX21_doFor 88 = .ok (.iconst 1, 1) := by decide +kernel
theorem dX21_doFor_89 : decode cX21_doFor 89 = .ok (.isub, 1) := by decide +kernel
theorem dX21_doFor_90 : decode cX21_doFor 90 = .ok (.putfield 763, 3) := by decide +kernel
theorem dX21_doFor_93 : decode cX21_doFor 93 = .ok (.goto 78, 3) := by decide +kernel
theorem dX21_doFor_96 : decode cX21_doFor 96 = .ok (.aload_n 0, 1) := by decide +kernel
theorem dX21_doFor_97 : decode cX21_doFor 97 = .ok (.invokevirtual 847, 3) := by decide +kernel
theorem dX21_doFor_100 : decode cX21_doFor 100 = .ok (.ifCond .eq 71, 3) := by decide +kernel
theorem dX21_doFor_103 : decode cX21_doFor 103 = .ok (.aload_n 0, 1) := by decide +kernel
theorem dX21_doFor_104 : decode cX21_doFor 104 = .ok (.iconst 3, 1) := by decide +kernel
theorem dX21_doFor_105 : decode cX21_doFor 105 = .ok (.invokevirtual 810, 3) := by decide +kernel
theorem dX21_doFor_108 : decode cX21_doFor 108 = .ok (.aload_n 0, 1) := by decide +kernel
theorem dX21_doFor_109 : decode cX21_doFor 109 = .ok (.aload_n 0, 1) := by decide +kernel
theorem dX21_doFor_110 : decode cX21_doFor 110 = .ok (.getfield 226, 3) := by decide +kernel
theorem dX21_doFor_113 : decode cX21_doFor 113 = .ok (.iload_n 1, 1) := by decide +kernel
theorem dX21_doFor_114 : decode cX21_doFor 114 = .ok (.iaload, 1) := by decide +kernel
theorem dX21_doFor_115 : decode cX21_doFor 115 = .ok (.invokevirtual 813, 3) := by decide +kernel
theorem dX21_doFor_118 : decode cX21_doFor 118 = .ok (.goto 53, 3) := by decide +kernel
theorem dX21_doFor_121 : decode cX21_doFor 121 = .ok (.iload_n 2, 1) := by decide +kernel
theorem dX21_doFor_122 : decode cX21_doFor 122 = .ok (.iconst 3, 1) := by decide +kernel
theorem dX21_doFor_123 : decode cX21_doFor 123 = .ok (.if_icmp .ne 38, 3) := by decide +kernel
theorem dX21_doFor_126 : decode cX21_doFor 126 = .ok (.aload_n 0, 1) := by decide +kernel
theorem dX21_doFor_127 : decode cX21_doFor 127 = .ok (.iconst 4, 1) := by decide +kernel
theorem dX21_doFor_128 : decode cX21_doFor 128 = .ok (.invokevirtual 810, 3) := by decide +kernel
theorem dX21_doFor_131 : decode cX21_doFor 131 = .ok (.aload_n 0, 1) := by decide +kernel
theorem dX21_doFor_132 : decode cX21_doFor 132 = .ok (.getfield 223, 3) := by decide +kernel
theorem dX21_doFor_135 : decode cX21_doFor 135 = .ok (.iload_n 1, 1) := by decide +kernel
theorem dX21_doFor_136 : decode cX21_doFor 136 = .ok (.iaload, 1) := by decide +kernel
theorem dX21_doFor_137 : decode cX21_doFor 137 = .ok (.ifCond .lt 16, 3) := by decide +kernel
theorem dX21_doFor_140 : decode cX21_doFor 140 = .ok (.aload_n 0, 1) := by decide +kernel
theorem dX21_doFor_141 : decode cX21_doFor 141 = .ok (.aload_n 0, 1) := by decide +kernel
theorem dX21_doFor_142 : decode cX21_doFor 142 = .ok (.getfield 223, 3) := by decide +kernel
theorem dX21_doFor_145 : decode cX21_doFor 145 = .ok (.iload_n 1, 1) := by decide +kernel
theorem dX21_doFor_146 : decode cX21_doFor 146 = .ok (.iaload, 1) := by decide +kernel
theorem dX21_doFor_147 : decode cX21_doFor 147 = .ok (.invokevirtual 813, 3) := by decide +kernel
theorem dX21_doFor_150 : decode cX21_doFor 150 = .ok (.goto 21, 3) := by decide +kernel
theorem dX21_doFor_153 : decode cX21_doFor 153 = .ok (.aload_n 0, 1) := by decide +kernel
theorem dX21_doFor_154 : decode cX21_doFor 154 = .ok (.iconst 0, 1) := by decide +kernel
theorem dX21_doFor_155 : decode cX21_doFor 155 = .ok (.invokevirtual 769, 3) := by decide +kernel
theorem dX21_doFor_158 : decode cX21_doFor 158 = .ok (.goto 13, 3) := by decide +kernel
theorem dX21_doFor_161 : decode cX21_doFor 161 = .ok (.aload_n 0, 1) := by decide +kernel
theorem dX21_doFor_162 : decode cX21_doFor 162 = .ok (.invokevirtual 793, 3) := by decide +kernel
theorem dX21_doFor_165 : decode cX21_doFor 165 = .ok (.pop, 1) := by decide +kernel
theorem dX21_doFor_166 : decode cX21_doFor 166 = .ok (.aload_n 0, 1) := by decide +kernel
theorem dX21_doFor_167 : decode cX21_doFor 167 = .ok (.iconst 1, 1) := by decide +kernel
theorem dX21_doFor_168 : decode cX21_doFor 168 = .ok (.invokevirtual 810, 3) := by decide +kernel
theorem dX21_doFor_171 : decode cX21_doFor 171 = .ok (.return_, 1) := by decide +kernel
theorem dX21_doSwitch_0 : decode cX21_doSwitch 0 = .ok (.iload_n 2, 1) := by decide +kernel
theorem dX21_doSwitch_1 : decode cX21_doSwitch 1 = .ok (.ifCond .ne 19, 3) := by decide +kernel
theorem dX21_doSwitch_4 : decode cX21_doSwitch 4 = .ok (.aload_n 0, 1) := by decide +kernel
theorem dX21_doSwitch_5 : decode cX21_doSwitch 5 = .ok (.iconst (-1), 1) := by decide +kernel
theorem dX21_doSwitch_6 : decode cX21_doSwitch 6 = .ok (.invokevirtual 810, 3) := by decide +kernel
theorem dX21_doSwitch_9 : decode cX21_doSwitch 9 = .ok (.aload_n 0, 1) := by decide +kernel
theorem dX21_doSwitch_10 : decode cX21_doSwitch 10 = .ok (.aload_n 0, 1) := by decide +kernel
theorem dX21_doSwitch_11 : decode cX21_doSwitch 11 = .ok (.getfield 217, 3) := by decide +kernel
theorem dX21_doSwitch_14 : decode cX21_doSwitch 14 = .ok (.iload_n 1, 1) := by decide +kernel
theorem dX21_doSwitch_15 : decode cX21_doSwitch 15 = .ok (.iaload, 1) := by decide +kernel
theorem dX21_doSwitch_16 : decode cX21_doSwitch 16 = .ok (.invokevirtual 813, 3) := by decide +kernel
theorem dX21_doSwitch_19 : decode cX21_doSwitch 19 = .ok (.return_, 1) := by decide +kernel
theorem dX21_doSwitch_20 : decode cX21_doSwitch 20 = .ok (.iload_n 2, 1) := by decide +kernel
theorem dX21_doSwitch_21 : decode cX21_doSwitch 21 = .ok (.ifCond .le 16, 3) := by decide +kernel
theorem dX21_doSwitch_24 : decode cX21_doSwitch 24 = .ok (.aload_n 0, 1) := by decide +kernel
theorem dX21_doSwitch_25 : decode cX21_doSwitch 25 = .ok (.aload_n 0, 1) := by decide +kernel
theorem dX21_doSwitch_26 : decode cX21_doSwitch 26 = .ok (.getfield 229, 3) := by decide +kernel
theorem dX21_doSwitch_29 : decode cX21_doSwitch 29 = .ok (.iload_n 2, 1) := by decide +kernel
theorem dX21_doSwitch_30 : decode cX21_doSwitch 30 = .ok (.iconst 1, 1) := by decide +kernel
theorem dX21_doSwitch_31 : decode cX21_doSwitch 31 = .ok (.isub, 1) := by decide +kernel
theorem dX21_doSwitch_32 : decode cX21_doSwitch 32 = .ok (.iaload, 1) := by decide +kernel
theorem dX21_doSwitch_33 : decode cX21_doSwitch 33 = .ok (.invokevirtual 872, 3) := by decide +kernel
theorem dX21_doSwitch_36 : decode cX21_doSwitch 36 = .ok (.return_, 1) := by decide +kernel
theorem dX21_doSwitch_37 : decode cX21_doSwitch 37 = .ok (.aload_n 0, 1) := by decide +kernel
theorem dX21_doSwitch_38 : decode cX21_doSwitch 38 = .ok (.invokevirtual 793, 3) := by decide +kernel
theorem dX21_doSwitch_41 : decode cX21_doSwitch 41 = .ok (.istore_n 3, 1) := by decide +kernel
theorem dX21_doSwitch_42 : decode cX21_doSwitch 42 = .ok (.iconst (-1), 1) := by decide +kernel
theorem dX21_doSwitch_43 : decode cX21_doSwitch 43 = .ok (.istore 4, 2) := by decide +kernel
theorem dX21_doSwitch_45 : decode cX21_doSwitch 45 = .ok (.iconst (-1), 1) := by decide +kernel
theorem dX21_doSwitch_46 : decode cX21_doSwitch 46 = .ok (.istore 5, 2) := by decide +kernel
theorem dX21_doSwitch_48 : decode cX21_doSwitch 48 = .ok (.aload_n 0, 1) := by decide +kernel
theorem dX21_doSwitch_49 : decode cX21_doSwitch 49 = .ok (.getfield 220, 3) := by decide +kernel
theorem dX21_doSwitch_52 : decode cX21_doSwitch 52 = .ok (.iload_n 1, 1) := by decide +kernel
theorem dX21_doSwitch_53 : decode cX21_doSwitch 53 = .ok (.iaload, 1) := by decide +kernel
theorem dX21_doSwitch_54 : decode cX21_doSwitch 54 = .ok (.istore 6, 2) := by decide +kernel
theorem dX21_doSwitch_56 : decode cX21_doSwitch 56 = .ok (.iload 6, 2) := by decide +kernel
theorem dX21_doSwitch_58 : decode cX21_doSwitch 58 = .ok (.ifCond .lt 68, 3) := by decide +kernel
theorem dX21_doSwitch_61 : decode cX21_doSwitch 61 = .ok (.aload_n 0, 1) := by decide +kernel
theorem dX21_doSwitch_62 : decode cX21_doSwitch 62 = .ok (.getfield 208, 3) := by decide +kernel
theorem dX21_doSwitch_65 : decode cX21_doSwitch 65 = .ok (.iload 6, 2) := by decide +kernel
theorem dX21_doSwitch_67 : decode cX21_doSwitch 67 = .ok (.baload, 1) := by decide +kernel
theorem dX21_doSwitch_68 : decode cX21_doSwitch 68 = .ok (.bipush 29, 2) := by decide +kernel
theorem dX21_doSwitch_70 : decode cX21_doSwitch 70 = .ok (.if_icmp .ne 19, 3) := by decide +kernel
theorem dX21_doSwitch_73 : decode cX21_doSwitch 73 = .ok (.aload_n 0, 1) := by decide +kernel
theorem dX21_doSwitch_74 : decode cX21_doSwitch 74 = .ok (.getfield 220, 3) := by decide +kernel
theorem dX21_doSwitch_77 : decode cX21_doSwitch 77 = .ok (.iload 6, 2) := by decide +kernel
theorem dX21_doSwitch_79 : decode cX21_doSwitch 79 = .ok (.iaload, 1) := by decide +kernel
theorem dX21_doSwitch_80 : decode cX21_doSwitch 80 = .ok (.iload_n 3, 1) := by decide +kernel
theorem dX21_doSwitch_81 : decode cX21_doSwitch 81 = .ok (.if_icmp .ne 8, 3) := by decide +kernel
theorem dX21_doSwitch_84 : decode cX21_doSwitch 84 = .ok (.iload 6, 2) := by decide +kernel
theorem dX21_doSwitch_86 : decode cX21_doSwitch 86 = .ok (.goto 5, 3) := by decide +kernel
theorem dX21_doSwitch_89 : decode cX21_doSwitch 89 = .ok (.iload 4, 2) := by decide +kernel
theorem dX21_doSwitch_91 : decode cX21_doSwitch 91 = .ok (.istore 4, 2) := by decide +kernel
theorem dX21_doSwitch_93 : decode cX21_doSwitch 93 = .ok (.aload_n 0, 1) := by decide +kernel
theorem dX21_doSwitch_94 : decode cX21_doSwitch 94 = .ok (.getfield 208, 3) := by decide +kernel
theorem dX21_doSwitch_97 : decode cX21_doSwitch 97 = .ok (.iload 6, 2) := by decide +kernel
theorem dX21_doSwitch_99 : decode cX21_doSwitch 99 = .ok (.baload, 1) := by decide +kernel
theorem dX21_doSwitch_100 : decode cX21_doSwitch 100 = .ok (.bipush 30, 2) := by decide +kernel
theorem dX21_doSwitch_102 : decode cX21_doSwitch 102 = .ok (.if_icmp .ne 8, 3) := by decide +kernel
theorem dX21_doSwitch_105 : decode cX21_doSwitch 105 = .ok (.iload 6, 2) := by decide +kernel
theorem dX21_doSwitch_107 : decode cX21_doSwitch 107 = .ok (.goto 5, 3) := by decide +kernel
theorem dX21_doSwitch_110 : decode cX21_doSwitch 110 = .ok (.iload 5, 2) := by decide +kernel
theorem dX21_doSwitch_112 : decode cX21_doSwitch 112 = .ok (.istore 5, 2) := by decide +kernel
theorem dX21_doSwitch_114 : decode cX21_doSwitch 114 = .ok (.aload_n 0, 1) := by decide +kernel
theorem dX21_doSwitch_115 : decode cX21_doSwitch 115 = .ok (.getfield 229, 3) := by decide +kernel
theorem dX21_doSwitch_118 : decode cX21_doSwitch 118 = .ok (.iload 6, 2) := by decide +kernel
theorem dX21_doSwitch_120 : decode cX21_doSwitch 120 = .ok (.iaload, 1) := by decide +kernel
theorem dX21_doSwitch_121 : decode cX21_doSwitch 121 = .ok (.istore 6, 2) := by decide +kernel
theorem dX21_doSwitch_123 : decode cX21_doSwitch 123 = .ok (.goto (-67), 3) := by decide +kernel
theorem dX21_doSwitch_126 : decode cX21_doSwitch 126 = .ok (.aload_n 0, 1) := by decide +kernel
theorem dX21_doSwitch_127 : decode cX21_doSwitch 127 = .ok (.iload 4, 2) := by decide +kernel
theorem dX21_doSwitch_129 : decode cX21_doSwitch 129 = .ok (.ifCond .lt 8, 3) := by decide +kernel
theorem dX21_doSwitch_132 : decode cX21_doSwitch 132 = .ok (.iload 4, 2) := by decide +kernel
theorem dX21_doSwitch_134 : decode cX21_doSwitch 134 = .ok (.goto 5, 3) := by decide +kernel
theorem dX21_doSwitch_137 : decode cX21_doSwitch 137 = .ok (.iload 5, 2) := by decide +kernel
theorem dX21_doSwitch_139 : decode cX21_doSwitch 139 = .ok (.invokevirtual 872, 3) := by decide +kernel
theorem dX21_doSwitch_142 : decode cX21_doSwitch 142 = .ok (.return_, 1) := by decide +kernel
theorem dX21_doBreak_0 : decode cX21_doBreak 0 = .ok (.aload_n 0, 1) := by decide +kernel
theorem dX21_doBreak_1 : decode cX21_doBreak 1 = .ok (.dup, 1) := by decide +kernel
theorem dX21_doBreak_2 : decode cX21_doBreak 2 = .ok (.getfield 763, 3) := by decide +kernel
theorem dX21_doBreak_5 : decode cX21_doBreak 5 = .ok (.iconst 1, 1) := by decide +kernel
theorem dX21_doBreak_6 : decode cX21_doBreak 6 = .ok (.isub, 1) := by decide +kernel
theorem dX21_doBreak_7 : decode cX21_doBreak 7 = .ok (.putfield 763, 3) := by decide +kernel
theorem dX21_doBreak_10 : decode cX21_doBreak 10 = .ok (.aload_n 0, 1) := by decide +kernel
theorem dX21_doBreak_11 : decode cX21_doBreak 11 = .ok (.aload_n 0, 1) := by decide +kernel
theorem dX21_doBreak_12 : decode cX21_doBreak 12 = .ok (.getfield 208, 3) := by decide +kernel
theorem dX21_doBreak_15 : decode cX21_doBreak 15 = .ok (.aload_n 0, 1) := by decide +kernel
theorem dX21_doBreak_16 : decode cX21_doBreak 16 = .ok (.getfield 286, 3) := by decide +kernel
theorem dX21_doBreak_19 : decode cX21_doBreak 19 = .ok (.aload_n 0, 1) := by decide +kernel
theorem dX21_doBreak_20 : decode cX21_doBreak 20 = .ok (.getfield 763, 3) := by decide +kernel
theorem dX21_doBreak_23 : decode cX21_doBreak 23 = .ok (.iconst 1, 1) := by decide +kernel
theorem dX21_doBreak_24 : decode cX21_doBreak 24 = .ok (.isub, 1) := by decide +kernel
theorem dX21_doBreak_25 : decode cX21_doBreak 25 = .ok (.iaload, 1) := by decide +kernel
theorem dX21_doBreak_26 : decode cX21_doBreak 26 = .ok (.baload, 1) := by decide +kernel
theorem dX21_doBreak_27 : decode cX21_doBreak 27 = .ok (.invokevirtual 899, 3) := by decide +kernel
theorem dX21_doBreak_30 : decode cX21_doBreak 30 = .ok (.ifCond .ne 37, 3) := by decide +kernel
theorem dX21_doBreak_33 : decode cX21_doBreak 33 = .ok (.aload_n 0, 1) := by decide +kernel
theorem dX21_doBreak_34 : decode cX21_doBreak 34 = .ok (.getfield 208, 3) := by decide +kernel
theorem dX21_doBreak_37 : decode cX21_doBreak 37 = .ok (.aload_n 0, 1) := by decide +kernel
theorem dX21_doBreak_38 : decode cX21_doBreak 38 = .ok (.getfield 286, 3) := by decide +kernel
theorem dX21_doBreak_41 : decode cX21_doBreak 41 = .ok (.aload_n 0, 1) := by decide +kernel
theorem dX21_doBreak_42 : decode cX21_doBreak 42 = .ok (.getfield 763, 3) := by decide +kernel
theorem dX21_doBreak_45 : decode cX21_doBreak 45 = .ok (.iconst 1, 1) := by decide +kernel
theorem dX21_doBreak_46 : decode cX21_doBreak 46 = .ok (.isub, 1) := by decide +kernel
theorem dX21_doBreak_47 : decode cX21_doBreak 47 = .ok (.iaload, 1) := by decide +kernel
theorem dX21_doBreak_48 : decode cX21_doBreak 48 = .ok (.baload, 1) := by decide +kernel
theorem dX21_doBreak_49 : decode cX21_doBreak 49 = .ok (.bipush 28, 2) := by decide +kernel
theorem dX21_doBreak_51 : decode cX21_doBreak 51 = .ok (.if_icmp .eq 16, 3) := by decide +kernel
theorem dX21_doBreak_54 : decode cX21_doBreak 54 = .ok (.aload_n 0, 1) := by decide +kernel
theorem dX21_doBreak_55 : decode cX21_doBreak 55 = .ok (.dup, 1) := by decide +kernel
theorem dX21_doBreak_56 : decode cX21_doBreak 56 = .ok (.getfield 763, 3) := by decide +kernel
theorem dX21_doBreak_59 : decode cX21_doBreak 59 = .ok (.iconst 1, 1) := by decide +kernel
theorem dX21_doBreak_60 : decode cX21_doBreak 60 = .ok (.isub, 1) := by decide +kernel
theorem dX21_doBreak_61 : decode cX21_doBreak 61 = .ok (.putfield 763, 3) := by decide +kernel
theorem dX21_doBreak_64 : decode cX21_doBreak 64 = .ok (.goto (-54), 3) := by decide +kernel
theorem dX21_doBreak_67 : decode cX21_doBreak 67 = .ok (.aload_n 0, 1) := by decide +kernel
theorem dX21_doBreak_68 : decode cX21_doBreak 68 = .ok (.dup, 1) := by decide +kernel
theorem dX21_doBreak_69 : decode cX21_doBreak 69 = .ok (.getfield 763, 3) := by decide +kernel
theorem dX21_doBreak_72 : decode cX21_doBreak 72 = .ok (.iconst 1, 1) := by decide +kernel
theorem dX21_doBreak_73 : decode cX21_doBreak 73 = .ok (.isub, 1) := by decide +kernel
theorem dX21_doBreak_74 : decode cX21_doBreak 74 = .ok (.putfield 763, 3) := by decide +kernel
theorem dX21_doBreak_77 : decode cX21_doBreak 77 = .ok (.return_, 1) := by decide +kernel
theorem dX21_isLoop_0 : decode cX21_isLoop 0 = .ok (.iload_n 1, 1) := by decide +kernel
theorem dX21_isLoop_1 : decode cX21_isLoop 1 = .ok (.bipush 25, 2) := by decide +kernel
theorem dX21_isLoop_3 : decode cX21_isLoop 3 = .ok (.if_icmp .eq 15, 3) := by decide +kernel
theorem dX21_isLoop_6 : decode cX21_isLoop 6 = .ok (.iload_n 1, 1) := by decide +kernel
theorem dX21_isLoop_7 : decode cX21_isLoop 7 = .ok (.bipush 26, 2) := by decide +kernel
theorem dX21_isLoop_9 : decode cX21_isLoop 9 = .ok (.if_icmp .eq 9, 3) := by decide +kernel
theorem dX21_isLoop_12 : decode cX21_isLoop 12 = .ok (.iload_n 1, 1) := by decide +kernel
theorem dX21_isLoop_13 : decode cX21_isLoop 13 = .ok (.bipush 27, 2) := by decide +kernel
theorem dX21_isLoop_15 : decode cX21_isLoop 15 = .ok (.if_icmp .ne 7, 3) := by decide +kernel
theorem dX21_isLoop_18 : decode cX21_isLoop 18 = .ok (.iconst 1, 1) := by decide +kernel
theorem dX21_isLoop_19 : decode cX21_isLoop 19 = .ok (.goto 4, 3) := by decide +kernel
theorem dX21_isLoop_22 : decode cX21_isLoop 22 = .ok (.iconst 0, 1) := by decide +kernel
theorem dX21_isLoop_23 : decode cX21_isLoop 23 = .ok (.ireturn, 1) := by decide +kernel
theorem dX21_doContinue_0 : decode cX21_doContinue 0 = .ok (.aload_n 0, 1) := by decide +kernel
theorem dX21_doContinue_1 : decode cX21_doContinue 1 = .ok (.dup, 1) := by decide +kernel
theorem dX21_doContinue_2 : decode cX21_doContinue 2 = .ok (.getfield 763, 3) := by decide +kernel
theorem dX21_doContinue_5 : decode cX21_doContinue 5 = .ok (.iconst 1, 1) := by decide +kernel
theorem dX21_doContinue_6 : decode cX21_doContinue 6 = .ok (.isub, 1) := by decide +kernel
theorem dX21_doContinue_7 : decode cX21_doContinue 7 = .ok (.putfield 763, 3) := by decide +kernel
theorem dX21_doContinue_10 : decode cX21_doContinue 10 = .ok (.aload_n 0, 1) := by decide +kernel
theorem dX21_doContinue_11 : decode cX21_doContinue 11 = .ok (.aload_n 0, 1) := by decide +kernel
theorem dX21_doContinue_12 : decode cX21_doContinue 12 = .ok (.getfield 208, 3) := by decide +kernel
theorem dX21_doContinue_15 : decode cX21_doContinue 15 = .ok (.aload_n 0, 1) := by decide +kernel
theorem dX21_doContinue_16 : decode cX21_doContinue 16 = .ok (.getfield 286, 3) := by decide +kernel
theorem dX21_doContinue_19 : decode cX21_doContinue 19 = .ok (.aload_n 0, 1) := by decide +kernel
theorem dX21_doContinue_20 : decode cX21_doContinue 20 = .ok (.getfield 763, 3) := by decide +kernel
theorem dX21_doContinue_23 : decode cX21_doContinue 23 = .ok (.iconst 1, 1) := by decide +kernel
theorem dX21_doContinue_24 : decode cX21_doContinue 24 = .ok (.isub, 1) := by decide +kernel
theorem dX21_doContinue_25 : decode cX21_doContinue 25 = .ok (.iaload, 1) := by decide +kernel
theorem dX21_doContinue_26 : decode cX21_doContinue 26 = .ok (.baload, 1) := by decide +kernel
theorem dX21_doContinue_27 : decode cX21_doContinue 27 = .ok (.invokevirtual 899, 3) := by decide +kernel
theorem dX21_doContinue_30 : decode cX21_doContinue 30 = .ok (.ifCond .ne 16, 3) := by decide +kernel
theorem dX21_doContinue_33 : decode cX21_doContinue 33 = .ok (.aload_n 0, 1) := by decide +kernel
theorem dX21_doContinue_34 : decode cX21_doContinue 34 = .ok (.dup, 1) := by decide +kernel
theorem dX21_doContinue_35 : decode cX21_doContinue 35 = .ok (.getfield 763, 3) := by decide +kernel
theorem dX21_doContinue_38 : decode cX21_doContinue 38 = .ok (.iconst 1, 1) := by decide +kernel
theorem dX21_doContinue_39 : decode cX21_doContinue 39 = .ok (.isub, 1) := by decide +kernel
theorem dX21_doContinue_40 : decode cX21_doContinue 40 = .ok (.putfield 763, 3) := by decide +kernel
theorem dX21_doContinue_43 : decode cX21_doContinue 43 = .ok (.goto (-33), 3) := by decide +kernel
theorem dX21_doContinue_46 : decode cX21_doContinue 46 = .ok (.aload_n 0, 1) := by decide +kernel
theorem dX21_doContinue_47 : decode cX21_doContinue 47 = .ok (.getfield 208, 3) := by decide +kernel
theorem dX21_doContinue_50 : decode cX21_doContinue 50 = .ok (.aload_n 0, 1) := by decide +kernel
theorem dX21_doContinue_51 : decode cX21_doContinue 51 = .ok (.getfield 286, 3) := by decide +kernel
theorem dX21_doContinue_54 : decode cX21_doContinue 54 = .ok (.aload_n 0, 1) := by decide +kernel
theorem dX21_doContinue_55 : decode cX21_doContinue 55 = .ok (.getfield 763, 3) := by decide +kernel
theorem dX21_doContinue_58 : decode cX21_doContinue 58 = .ok (.iconst 1, 1) := by decide +kernel
theorem dX21_doContinue_59 : decode cX21_doContinue 59 = .ok (.isub, 1) := by decide +kernel
theorem dX21_doContinue_60 : decode cX21_doContinue 60 = .ok (.iaload, 1) := by decide +kernel
theorem dX21_doContinue_61 : decode cX21_doContinue 61 = .ok (.baload, 1) := by decide +kernel
theorem dX21_doContinue_62 : decode cX21_doContinue 62 = .ok (.istore_n 1, 1) := by decide +kernel
theorem dX21_doContinue_63 : decode cX21_doContinue 63 = .ok (.aload_n 0, 1) := by decide +kernel
theorem dX21_doContinue_64 : decode cX21_doContinue 64 = .ok (.iload_n 1, 1) := by decide +kernel
theorem dX21_doContinue_65 : decode cX21_doContinue 65 = .ok (.bipush 25, 2) := by decide +kernel
theorem dX21_doContinue_67 : decode cX21_doContinue 67 = .ok (.if_icmp .ne 7, 3) := by decide +kernel
theorem dX21_doContinue_70 : decode cX21_doContinue 70 = .ok (.iconst 0, 1) := by decide +kernel
theorem dX21_doContinue_71 : decode cX21_doContinue 71 = .ok (.goto 14, 3) := by decide +kernel
theorem dX21_doContinue_74 : decode cX21_doContinue 74 = .ok (.iload_n 1, 1) := by decide +kernel
theorem dX21_doContinue_75 : decode cX21_doContinue 75 = .ok (.bipush 26, 2) := by decide +kernel
theorem dX21_doContinue_77 : decode cX21_doContinue 77 = .ok (.if_icmp .ne 7, 3) := by decide +kernel
theorem dX21_doContinue_80 : decode cX21_doContinue 80 = .ok (.iconst 1, 1) := by decide +kernel
theorem dX21_doContinue_81 : decode cX21_doContinue 81 = .ok (.goto 4, 3) := by decide +kernel
theorem dX21_doContinue_84 : decode cX21_doContinue 84 = .ok (.iconst 3, 1) := by decide +kernel
theorem dX21_doContinue_85 : decode cX21_doContinue 85 = .ok (.invokevirtual 810, 3) := by decide +kernel
theorem dX21_doContinue_88 : decode cX21_doContinue 88 = .ok (.return_, 1) := by decide +kernel
theorem dX21_leaveCall_0 : decode cX21_leaveCall 0 = .ok (.aload_n 0, 1) := by decide +kernel
theorem dX21_leaveCall_1 : decode cX21_leaveCall 1 = .ok (.getfield 208, 3) := by decide +kernel
theorem dX21_leaveCall_4 : decode cX21_leaveCall 4 = .ok (.aload_n 0, 1) := by decide +kernel
theorem dX21_leaveCall_5 : decode cX21_leaveCall 5 = .ok (.getfield 286, 3) := by decide +kernel
theorem dX21_leaveCall_8 : decode cX21_leaveCall 8 = .ok (.aload_n 0, 1) := by decide +kernel
theorem dX21_leaveCall_9 : decode cX21_leaveCall 9 = .ok (.getfield 763, 3) := by decide +kernel
theorem dX21_leaveCall_12 : decode cX21_leaveCall 12 = .ok (.iconst 1, 1) := by decide +kernel
theorem dX21_leaveCall_13 : decode cX21_leaveCall 13 = .ok (.isub, 1) := by decide +kernel
theorem dX21_leaveCall_14 : decode cX21_leaveCall 14 = .ok (.iaload, 1) := by decide +kernel
theorem dX21_leaveCall_15 : decode cX21_leaveCall 15 = .ok (.baload, 1) := by decide +kernel
theorem dX21_leaveCall_16 : decode cX21_leaveCall 16 = .ok (.bipush 41, 2) := by decide +kernel
theorem dX21_leaveCall_18 : decode cX21_leaveCall 18 = .ok (.if_icmp .eq 16, 3) := by decide +kernel
theorem dX21_leaveCall_21 : decode cX21_leaveCall 21 = .ok (.aload_n 0, 1) := by decide +kernel
theorem dX21_leaveCall_22 : decode cX21_leaveCall 22 = .ok (.dup, 1) := by decide +kernel
theorem dX21_leaveCall_23 : decode cX21_leaveCall 23 = .ok (.getfield 763, 3) := by decide +kernel
theorem dX21_leaveCall_26 : decode cX21_leaveCall 26 = .ok (.iconst 1, 1) := by decide +kernel
theorem dX21_leaveCall_27 : decode cX21_leaveCall 27 = .ok (.isub, 1) := by decide +kernel
theorem dX21_leaveCall_28 : decode cX21_leaveCall 28 = .ok (.putfield 763, 3) := by decide +kernel
theorem dX21_leaveCall_31 : decode cX21_leaveCall 31 = .ok (.goto (-31), 3) := by decide +kernel
theorem dX21_leaveCall_34 : decode cX21_leaveCall 34 = .ok (.aload_n 0, 1) := by decide +kernel
theorem dX21_leaveCall_35 : decode cX21_leaveCall 35 = .ok (.getfield 286, 3) := by decide +kernel
theorem dX21_leaveCall_38 : decode cX21_leaveCall 38 = .ok (.aload_n 0, 1) := by decide +kernel
theorem dX21_leaveCall_39 : decode cX21_leaveCall 39 = .ok (.getfield 763, 3) := by decide +kernel
theorem dX21_leaveCall_42 : decode cX21_leaveCall 42 = .ok (.iconst 1, 1) := by decide +kernel
theorem dX21_leaveCall_43 : decode cX21_leaveCall 43 = .ok (.isub, 1) := by decide +kernel
theorem dX21_leaveCall_44 : decode cX21_leaveCall 44 = .ok (.iaload, 1) := by decide +kernel
theorem dX21_leaveCall_45 : decode cX21_leaveCall 45 = .ok (.istore_n 2, 1) := by decide +kernel
theorem dX21_leaveCall_46 : decode cX21_leaveCall 46 = .ok (.aload_n 0, 1) := by decide +kernel
theorem dX21_leaveCall_47 : decode cX21_leaveCall 47 = .ok (.getfield 289, 3) := by decide +kernel
theorem dX21_leaveCall_50 : decode cX21_leaveCall 50 = .ok (.aload_n 0, 1) := by decide +kernel
theorem dX21_leaveCall_51 : decode cX21_leaveCall 51 = .ok (.getfield 763, 3) := by decide +kernel
theorem dX21_leaveCall_54 : decode cX21_leaveCall 54 = .ok (.iconst 1, 1) := by decide +kernel
theorem dX21_leaveCall_55 : decode cX21_leaveCall 55 = .ok (.isub, 1) := by decide +kernel
theorem dX21_leaveCall_56 : decode cX21_leaveCall 56 = .ok (.iaload, 1) := by decide +kernel
theorem dX21_leaveCall_57 : decode cX21_leaveCall 57 = .ok (.iconst 1, 1) := by decide +kernel
theorem dX21_leaveCall_58 : decode cX21_leaveCall 58 = .ok (.isub, 1) := by decide +kernel
theorem dX21_leaveCall_59 : decode cX21_leaveCall 59 = .ok (.istore_n 3, 1) := by decide +kernel
theorem dX21_leaveCall_60 : decode cX21_leaveCall 60 = .ok (.aload_n 0, 1) := by decide +kernel
theorem dX21_leaveCall_61 : decode cX21_leaveCall 61 = .ok (.dup, 1) := by decide +kernel
theorem dX21_leaveCall_62 : decode cX21_leaveCall 62 = .ok (.getfield 763, 3) := by decide +kernel
theorem dX21_leaveCall_65 : decode cX21_leaveCall 65 = .ok (.iconst 1, 1) := by decide +kernel
theorem dX21_leaveCall_66 : decode cX21_leaveCall 66 = .ok (.isub, 1) := by decide +kernel
theorem dX21_leaveCall_67 : decode cX21_leaveCall 67 = .ok (.putfield 763, 3) := by decide +kernel
theorem dX21_leaveCall_70 : decode cX21_leaveCall 70 = .ok (.aload_n 0, 1) := by decide +kernel
theorem dX21_leaveCall_71 : decode cX21_leaveCall 71 = .ok (.dup, 1) := by decide +kernel
theorem dX21_leaveCall_72 : decode cX21_leaveCall 72 = .ok (.getfield 853, 3) := by decide +kernel
theorem dX21_leaveCall_75 : decode cX21_leaveCall 75 = .ok (.iconst 1, 1) := by decide +kernel
theorem dX21_leaveCall_76 : decode cX21_leaveCall 76 = .ok (.isub, 1) := by decide +kernel
theorem dX21_leaveCall_77 : decode cX21_leaveCall 77 = .ok (.putfield 853, 3) := by decide +kernel
theorem dX21_leaveCall_80 : decode cX21_leaveCall 80 = .ok (.aload_n 0, 1) := by decide +kernel
theorem dX21_leaveCall_81 : decode cX21_leaveCall 81 = .ok (.aload_n 0, 1) := by decide +kernel
theorem dX21_leaveCall_82 : decode cX21_leaveCall 82 = .ok (.getfield 850, 3) := by decide +kernel
theorem dX21_leaveCall_85 : decode cX21_leaveCall 85 = .ok (.aload_n 0, 1) := by decide +kernel
theorem dX21_leaveCall_86 : decode cX21_leaveCall 86 = .ok (.getfield 259, 3) := by decide +kernel
theorem dX21_leaveCall_89 : decode cX21_leaveCall 89 = .ok (.iload_n 3, 1) := by decide +kernel
theorem dX21_leaveCall_90 : decode cX21_leaveCall 90 = .ok (.iaload, 1) := by decide +kernel
theorem dX21_leaveCall_91 : decode cX21_leaveCall 91 = .ok (.iadd, 1) := by decide +kernel
theorem dX21_leaveCall_92 : decode cX21_leaveCall 92 = .ok (.putfield 850, 3) := by decide +kernel
theorem dX21_leaveCall_95 : decode cX21_leaveCall 95 = .ok (.aload_n 0, 1) := by decide +kernel
theorem dX21_leaveCall_96 : decode cX21_leaveCall 96 = .ok (.aload_n 0, 1) := by decide +kernel
theorem dX21_leaveCall_97 : decode cX21_leaveCall 97 = .ok (.getfield 295, 3) := by decide +kernel
theorem dX21_leaveCall_100 : decode cX21_leaveCall 100 = .ok (.aload_n 0, 1) := by decide +kernel
theorem dX21_leaveCall_101 : decode cX21_leaveCall 101 = .ok (.getfield 853, 3) := by decide +kernel
theorem dX21_leaveCall_104 : decode cX21_leaveCall 104 = .ok (.iaload, 1) := by decide +kernel
theorem dX21_leaveCall_105 : decode cX21_leaveCall 105 = .ok (.putfield 778, 3) := by decide +kernel
theorem dX21_leaveCall_108 : decode cX21_leaveCall 108 = .ok (.aload_n 0, 1) := by decide +kernel
theorem dX21_leaveCall_109 : decode cX21_leaveCall 109 = .ok (.aload_n 0, 1) := by decide +kernel
theorem dX21_leaveCall_110 : decode cX21_leaveCall 110 = .ok (.getfield 298, 3) := by decide +kernel
theorem dX21_leaveCall_113 : decode cX21_leaveCall 113 = .ok (.aload_n 0, 1) := by decide +kernel
theorem dX21_leaveCall_114 : decode cX21_leaveCall 114 = .ok (.getfield 853, 3) := by decide +kernel
theorem dX21_leaveCall_117 : decode cX21_leaveCall 117 = .ok (.iaload, 1) := by decide +kernel
theorem dX21_leaveCall_118 : decode cX21_leaveCall 118 = .ok (.putfield 856, 3) := by decide +kernel
theorem dX21_leaveCall_121 : decode cX21_leaveCall 121 = .ok (.aload_n 0, 1) := by decide +kernel
theorem dX21_leaveCall_122 : decode cX21_leaveCall 122 = .ok (.aload_n 0, 1) := by decide +kernel
theorem dX21_leaveCall_123 : decode cX21_leaveCall 123 = .ok (.getfield 232, 3) := by decide +kernel
theorem dX21_leaveCall_126 : decode cX21_leaveCall 126 = .ok (.iload_n 2, 1) := by decide +kernel
theorem dX21_leaveCall_127 : decode cX21_leaveCall 127 = .ok (.iaload, 1) := by decide +kernel
theorem dX21_leaveCall_128 : decode cX21_leaveCall 128 = .ok (.iconst 1, 1) := by decide +kernel
theorem dX21_leaveCall_129 : decode cX21_leaveCall 129 = .ok (.if_icmp .ne 11, 3) := by decide +kernel
theorem dX21_leaveCall_132 : decode cX21_leaveCall 132 = .ok (.iload_n 1, 1) := by decide +kernel
theorem dX21_leaveCall_133 : decode cX21_leaveCall 133 = .ok (.sipush 255, 3) := by decide +kernel
theorem dX21_leaveCall_136 : decode cX21_leaveCall 136 = .ok (.iand, 1) := by decide +kernel
theorem dX21_leaveCall_137 : decode cX21_leaveCall 137 = .ok (.goto 4, 3) := by decide +kernel
theorem dX21_leaveCall_140 : decode cX21_leaveCall 140 = .ok (.iload_n 1, 1) := by decide +kernel
theorem dX21_leaveCall_141 : decode cX21_leaveCall 141 = .ok (.invokevirtual 769, 3) := by decide +kernel
theorem dX21_leaveCall_144 : decode cX21_leaveCall 144 = .ok (.return_, 1) := by decide +kernel
theorem dX21_done_0 : decode cX21_done 0 = .ok (.aload_n 0, 1) := by decide +kernel
theorem dX21_done_1 : decode cX21_done 1 = .ok (.dup, 1) := by decide +kernel
theorem dX21_done_2 : decode cX21_done 2 = .ok (.getfield 763, 3) := by decide +kernel
theorem dX21_done_5 : decode cX21_done 5 = .ok (.iconst 1, 1) := by decide +kernel
theorem dX21_done_6 : decode cX21_done 6 = .ok (.isub, 1) := by decide +kernel
theorem dX21_done_7 : decode cX21_done 7 = .ok (.putfield 763, 3) := by decide +kernel
theorem dX21_done_10 : decode cX21_done 10 = .ok (.aload_n 0, 1) := by decide +kernel
theorem dX21_done_11 : decode cX21_done 11 = .ok (.iload_n 1, 1) := by decide +kernel
theorem dX21_done_12 : decode cX21_done 12 = .ok (.invokevirtual 769, 3) := by decide +kernel
theorem dX21_done_15 : decode cX21_done 15 = .ok (.return_, 1) := by decide +kernel
theorem dX21_doCall_0 : decode cX21_doCall 0 = .ok (.iconst 0, 1) := by decide +kernel
theorem dX21_doCall_1 : decode cX21_doCall 1 = .ok (.istore_n 3, 1) := by decide +kernel
theorem dX21_doCall_2 : decode cX21_doCall 2 = .ok (.aload_n 0, 1) := by decide +kernel
theorem dX21_doCall_3 : decode cX21_doCall 3 = .ok (.getfield 217, 3) := by decide +kernel
theorem dX21_doCall_6 : decode cX21_doCall 6 = .ok (.iload_n 1, 1) := by decide +kernel
theorem dX21_doCall_7 : decode cX21_doCall 7 = .ok (.iaload, 1) := by decide +kernel
theorem dX21_doCall_8 : decode cX21_doCall 8 = .ok (.istore 4, 2) := by decide +kernel
theorem dX21_doCall_10 : decode cX21_doCall 10 = .ok (.iload_n 3, 1) := by decide +kernel
theorem dX21_doCall_11 : decode cX21_doCall 11 = .ok (.iload_n 2, 1) := by decide +kernel
theorem dX21_doCall_12 : decode cX21_doCall 12 = .ok (.if_icmp .ge 18, 3) := by decide +kernel
theorem dX21_doCall_15 : decode cX21_doCall 15 = .ok (.aload_n 0, 1) := by decide +kernel
theorem dX21_doCall_16 : decode cX21_doCall 16 = .ok (.getfield 229, 3) := by decide +kernel
theorem dX21_doCall_19 : decode cX21_doCall 19 = .ok (.iload 4, 2) := by decide +kernel
theorem dX21_doCall_21 : decode cX21_doCall 21 = .ok (.iaload, 1) := by decide +kernel
theorem dX21_doCall_22 : decode cX21_doCall 22 = .ok (.istore 4, 2) := by decide +kernel
theorem dX21_doCall_24 : decode cX21_doCall 24 = .ok (.iinc 3 1, 3) := by decide +kernel
theorem dX21_doCall_27 : decode cX21_doCall 27 = .ok (.goto (-17), 3) := by decide +kernel
theorem dX21_doCall_30 : decode cX21_doCall 30 = .ok (.iload 4, 2) := by decide +kernel
theorem dX21_doCall_32 : decode cX21_doCall 32 = .ok (.ifCond .lt 66, 3) := by decide +kernel
theorem dX21_doCall_35 : decode cX21_doCall 35 = .ok (.aload_n 0, 1) := by decide +kernel
theorem dX21_doCall_36 : decode cX21_doCall 36 = .ok (.iload_n 2, 1) := by decide +kernel
theorem dX21_doCall_37 : decode cX21_doCall 37 = .ok (.iconst 1, 1) := by decide +kernel
theorem dX21_doCall_38 : decode cX21_doCall 38 = .ok (.iadd, 1) := by decide +kernel
theorem dX21_doCall_39 : decode cX21_doCall 39 = .ok (.invokevirtual 810, 3) := by decide +kernel
theorem dX21_doCall_42 : decode cX21_doCall 42 = .ok (.aload_n 0, 1) := by decide +kernel
theorem dX21_doCall_43 : decode cX21_doCall 43 = .ok (.aload_n 0, 1) := by decide +kernel
theorem dX21_doCall_44 : decode cX21_doCall 44 = .ok (.getfield 220, 3) := by decide +kernel
theorem dX21_doCall_47 : decode cX21_doCall 47 = .ok (.iload_n 1, 1) := by decide +kernel
theorem dX21_doCall_48 : decode cX21_doCall 48 = .ok (.iaload, 1) := by decide +kernel
theorem dX21_doCall_49 : decode cX21_doCall 49 = .ok (.iload_n 2, 1) := by decide +kernel
theorem dX21_doCall_50 : decode cX21_doCall 50 = .ok (.invokevirtual 838, 3) := by decide +kernel
theorem dX21_doCall_53 : decode cX21_doCall 53 = .ok (.ifCond .eq 36, 3) := by decide +kernel
theorem dX21_doCall_56 : decode cX21_doCall 56 = .ok (.aload_n 0, 1) := by decide +kernel
theorem dX21_doCall_57 : decode cX21_doCall 57 = .ok (.aload_n 0, 1) := by decide +kernel
theorem dX21_doCall_58 : decode cX21_doCall 58 = .ok (.aload_n 0, 1) := by decide +kernel
theorem dX21_doCall_59 : decode cX21_doCall 59 = .ok (.getfield 220, 3) := by decide +kernel
theorem dX21_doCall_62 : decode cX21_doCall 62 = .ok (.iload 4, 2) := by decide +kernel
theorem dX21_doCall_64 : decode cX21_doCall 64 = .ok (.iaload, 1) := by decide +kernel
theorem dX21_doCall_65 : decode cX21_doCall 65 = .ok (.invokevirtual 790, 3) := by decide +kernel
theorem dX21_doCall_68 : decode cX21_doCall 68 = .ok (.invokevirtual 769, 3) := by decide +kernel
theorem dX21_doCall_71 : decode cX21_doCall 71 = .ok (.aload_n 0, 1) := by decide +kernel
theorem dX21_doCall_72 : decode cX21_doCall 72 = .ok (.aload_n 0, 1) := by decide +kernel
theorem dX21_doCall_73 : decode cX21_doCall 73 = .ok (.aload_n 0, 1) := by decide +kernel
theorem dX21_doCall_74 : decode cX21_doCall 74 = .ok (.getfield 220, 3) := by decide +kernel
theorem dX21_doCall_77 : decode cX21_doCall 77 = .ok (.iload 4, 2) := by decide +kernel
theorem dX21_doCall_79 : decode cX21_doCall 79 = .ok (.iaload, 1) := by decide +kernel
theorem dX21_doCall_80 : decode cX21_doCall 80 = .ok (.invokevirtual 787, 3) := by decide +kernel
theorem dX21_doCall_83 : decode cX21_doCall 83 = .ok (.invokevirtual 769, 3) := by decide +kernel
theorem dX21_doCall_86 : decode cX21_doCall 86 = .ok (.goto 59, 3) := by decide +kernel
theorem dX21_doCall_89 : decode cX21_doCall 89 = .ok (.aload_n 0, 1) := by decide +kernel
theorem dX21_doCall_90 : decode cX21_doCall 90 = .ok (.iload 4, 2) := by decide +kernel
theorem dX21_doCall_92 : decode cX21_doCall 92 = .ok (.invokevirtual 813, 3) := by decide +kernel
theorem dX21_doCall_95 : decode cX21_doCall 95 = .ok (.goto 50, 3) := by decide +kernel
theorem dX21_doCall_98 : decode cX21_doCall 98 = .ok (.aload_n 0, 1) := by decide +kernel
theorem dX21_doCall_99 : decode cX21_doCall 99 = .ok (.getfield 220, 3) := by decide +kernel
theorem dX21_doCall_102 : decode cX21_doCall 102 = .ok (.iload_n 1, 1) := by decide +kernel
theorem dX21_doCall_103 : decode cX21_doCall 103 = .ok (.iaload, 1) := by decide +kernel
theorem dX21_doCall_104 : decode cX21_doCall 104 = .ok (.bipush 100, 2) := by decide +kernel
theorem dX21_doCall_106 : decode cX21_doCall 106 = .ok (.if_icmp .lt 29, 3) := by decide +kernel
theorem dX21_doCall_109 : decode cX21_doCall 109 = .ok (.aload_n 0, 1) := by decide +kernel
theorem dX21_doCall_110 : decode cX21_doCall 110 = .ok (.dup, 1) := by decide +kernel
theorem dX21_doCall_111 : decode cX21_doCall 111 = .ok (.getfield 763, 3) := by decide +kernel
theorem dX21_doCall_114 : decode cX21_doCall 114 = .ok (.iconst 1, 1) := by decide +kernel
theorem dX21_doCall_115 : decode cX21_doCall 115 = .ok (.isub, 1) := by decide +kernel
theorem dX21_doCall_116 : decode cX21_doCall 116 = .ok (.putfield 763, 3) := by decide +kernel
theorem dX21_doCall_119 : decode cX21_doCall 119 = .ok (.aload_n 0, 1) := by decide +kernel
theorem dX21_doCall_120 : decode cX21_doCall 120 = .ok (.aload_n 0, 1) := by decide +kernel
theorem dX21_doCall_121 : decode cX21_doCall 121 = .ok (.getfield 220, 3) := by decide +kernel
theorem dX21_doCall_124 : decode cX21_doCall 124 = .ok (.iload_n 1, 1) := by decide +kernel
theorem dX21_doCall_125 : decode cX21_doCall 125 = .ok (.iaload, 1) := by decide +kernel
theorem dX21_doCall_126 : decode cX21_doCall 126 = .ok (.bipush 100, 2) := by decide +kernel
theorem dX21_doCall_128 : decode cX21_doCall 128 = .ok (.isub, 1) := by decide +kernel
theorem dX21_doCall_129 : decode cX21_doCall 129 = .ok (.invokevirtual 841, 3) := by decide +kernel
theorem dX21_doCall_132 : decode cX21_doCall 132 = .ok (.goto 13, 3) := by decide +kernel
theorem dX21_doCall_135 : decode cX21_doCall 135 = .ok (.aload_n 0, 1) := by decide +kernel
theorem dX21_doCall_136 : decode cX21_doCall 136 = .ok (.aload_n 0, 1) := by decide +kernel
theorem dX21_doCall_137 : decode cX21_doCall 137 = .ok (.getfield 220, 3) := by decide +kernel
theorem dX21_doCall_140 : decode cX21_doCall 140 = .ok (.iload_n 1, 1) := by decide +kernel
theorem dX21_doCall_141 : decode cX21_doCall 141 = .ok (.iaload, 1) := by decide +kernel
theorem dX21_doCall_142 : decode cX21_doCall 142 = .ok (.invokevirtual 844, 3) := by decide +kernel
theorem dX21_doCall_145 : decode cX21_doCall 145 = .ok (.return_, 1) := by decide +kernel
theorem dX21_isArray_0 : decode cX21_isArray 0 = .ok (.iload_n 1, 1) := by decide +kernel
theorem dX21_isArray_1 : decode cX21_isArray 1 = .ok (.bipush 100, 2) := by decide +kernel
theorem dX21_isArray_3 : decode cX21_isArray 3 = .ok (.if_icmp .lt 16, 3) := by decide +kernel
theorem dX21_isArray_6 : decode cX21_isArray 6 = .ok (.aload_n 0, 1) := by decide +kernel
theorem dX21_isArray_7 : decode cX21_isArray 7 = .ok (.iload_n 1, 1) := by decide +kernel
theorem dX21_isArray_8 : decode cX21_isArray 8 = .ok (.bipush 100, 2) := by decide +kernel
theorem dX21_isArray_10 : decode cX21_isArray 10 = .ok (.isub, 1) := by decide +kernel
theorem dX21_isArray_11 : decode cX21_isArray 11 = .ok (.iconst (-1), 1) := by decide +kernel
theorem dX21_isArray_12 : decode cX21_isArray 12 = .ok (.iload_n 2, 1) := by decide +kernel
theorem dX21_isArray_13 : decode cX21_isArray 13 = .ok (.invokevirtual 619, 3) := by decide +kernel
theorem dX21_isArray_16 : decode cX21_isArray 16 = .ok (.goto 10, 3) := by decide +kernel
theorem dX21_isArray_19 : decode cX21_isArray 19 = .ok (.aload_n 0, 1) := by decide +kernel
theorem dX21_isArray_20 : decode cX21_isArray 20 = .ok (.iconst (-1), 1) := by decide +kernel
theorem dX21_isArray_21 : decode cX21_isArray 21 = .ok (.iload_n 1, 1) := by decide +kernel
theorem dX21_isArray_22 : decode cX21_isArray 22 = .ok (.iload_n 2, 1) := by decide +kernel
theorem dX21_isArray_23 : decode cX21_isArray 23 = .ok (.invokevirtual 619, 3) := by decide +kernel
theorem dX21_isArray_26 : decode cX21_isArray 26 = .ok (.istore_n 3, 1) := by decide +kernel
theorem dX21_isArray_27 : decode cX21_isArray 27 = .ok (.iload_n 3, 1) := by decide +kernel
theorem dX21_isArray_28 : decode cX21_isArray 28 = .ok (.bipush 105, 2) := by decide +kernel
theorem dX21_isArray_30 : decode cX21_isArray 30 = .ok (.if_icmp .eq 13, 3) := by decide +kernel
theorem dX21_isArray_33 : decode cX21_isArray 33 = .ok (.iload_n 3, 1) := by decide +kernel
theorem dX21_isArray_34 : decode cX21_isArray 34 = .ok (.bipush 107, 2) := by decide +kernel
theorem dX21_isArray_36 : decode cX21_isArray 36 = .ok (.if_icmp .eq 7, 3) := by decide +kernel
theorem dX21_isArray_39 : decode cX21_isArray 39 = .ok (.iconst 1, 1) := by decide +kernel
theorem dX21_isArray_40 : decode cX21_isArray 40 = .ok (.goto 4, 3) := by decide +kernel
theorem dX21_isArray_43 : decode cX21_isArray 43 = .ok (.iconst 0, 1) := by decide +kernel
theorem dX21_isArray_44 : decode cX21_isArray 44 = .ok (.ireturn, 1) := by decide +kernel
theorem dX21_arrayAt_0 : decode cX21_arrayAt 0 = .ok (.aload_n 0, 1) := by decide +kernel
theorem dX21_arrayAt_1 : decode cX21_arrayAt 1 = .ok (.iload_n 1, 1) := by decide +kernel
theorem dX21_arrayAt_2 : decode cX21_arrayAt 2 = .ok (.invokevirtual 781, 3) := by decide +kernel
theorem dX21_arrayAt_5 : decode cX21_arrayAt 5 = .ok (.ifCond .eq 16, 3) := by decide +kernel
theorem dX21_arrayAt_8 : decode cX21_arrayAt 8 = .ok (.aload_n 0, 1) := by decide +kernel
theorem dX21_arrayAt_9 : decode cX21_arrayAt 9 = .ok (.getfield 282, 3) := by decide +kernel
theorem dX21_arrayAt_12 : decode cX21_arrayAt 12 = .ok (.aload_n 0, 1) := by decide +kernel
theorem dX21_arrayAt_13 : decode cX21_arrayAt 13 = .ok (.iload_n 1, 1) := by decide +kernel
theorem dX21_arrayAt_14 : decode cX21_arrayAt 14 = .ok (.invokevirtual 784, 3) := by decide +kernel
theorem dX21_arrayAt_17 : decode cX21_arrayAt 17 = .ok (.iaload, 1) := by decide +kernel
theorem dX21_arrayAt_18 : decode cX21_arrayAt 18 = .ok (.goto 8, 3) := by decide +kernel
theorem dX21_arrayAt_21 : decode cX21_arrayAt 21 = .ok (.aload_n 0, 1) := by decide +kernel
theorem dX21_arrayAt_22 : decode cX21_arrayAt 22 = .ok (.iload_n 1, 1) := by decide +kernel
theorem dX21_arrayAt_23 : decode cX21_arrayAt 23 = .ok (.invokevirtual 784, 3) := by decide +kernel
theorem dX21_arrayAt_26 : decode cX21_arrayAt 26 = .ok (.ireturn, 1) := by decide +kernel
theorem dX21_arraySize_0 : decode cX21_arraySize 0 = .ok (.aload_n 0, 1) := by decide +kernel
theorem dX21_arraySize_1 : decode cX21_arraySize 1 = .ok (.iload_n 1, 1) := by decide +kernel
theorem dX21_arraySize_2 : decode cX21_arraySize 2 = .ok (.invokevirtual 781, 3) := by decide +kernel
theorem dX21_arraySize_5 : decode cX21_arraySize 5 = .ok (.ifCond .eq 18, 3) := by decide +kernel
theorem dX21_arraySize_8 : decode cX21_arraySize 8 = .ok (.aload_n 0, 1) := by decide +kernel
theorem dX21_arraySize_9 : decode cX21_arraySize 9 = .ok (.getfield 282, 3) := by decide +kernel
theorem dX21_arraySize_12 : decode cX21_arraySize 12 = .ok (.aload_n 0, 1) := by decide +kernel
theorem dX21_arraySize_13 : decode cX21_arraySize 13 = .ok (.iload_n 1, 1) := by decide +kernel
theorem dX21_arraySize_14 : decode cX21_arraySize 14 = .ok (.invokevirtual 784, 3) := by decide +kernel
theorem dX21_arraySize_17 : decode cX21_arraySize 17 = .ok (.iconst 1, 1) := by decide +kernel
theorem dX21_arraySize_18 : decode cX21_arraySize 18 = .ok (.iadd, 1) := by decide +kernel
theorem dX21_arraySize_19 : decode cX21_arraySize 19 = .ok (.iaload, 1) := by decide +kernel
theorem dX21_arraySize_20 : decode cX21_arraySize 20 = .ok (.goto 9, 3) := by decide +kernel
theorem dX21_arraySize_23 : decode cX21_arraySize 23 = .ok (.aload_n 0, 1) := by decide +kernel
theorem dX21_arraySize_24 : decode cX21_arraySize 24 = .ok (.getfield 272, 3) := by decide +kernel
theorem dX21_arraySize_27 : decode cX21_arraySize 27 = .ok (.iload_n 1, 1) := by decide +kernel
theorem dX21_arraySize_28 : decode cX21_arraySize 28 = .ok (.iaload, 1) := by decide +kernel
theorem dX21_arraySize_29 : decode cX21_arraySize 29 = .ok (.ireturn, 1) := by decide +kernel
theorem dX21_doOwn_0 : decode cX21_doOwn 0 = .ok (.iload_n 1, 1) := by decide +kernel
theorem dX21_doOwn_1 : decode cX21_doOwn 1 = .ok (.ifCond .le 11, 3) := by decide +kernel
theorem dX21_doOwn_4 : decode cX21_doOwn 4 = .ok (.aload_n 0, 1) := by decide +kernel
theorem dX21_doOwn_5 : decode cX21_doOwn 5 = .ok (.invokevirtual 847, 3) := by decide +kernel
theorem dX21_doOwn_8 : decode cX21_doOwn 8 = .ok (.ifCond .ne 4, 3) := by decide +kernel
theorem dX21_doOwn_11 : decode cX21_doOwn 11 = .ok (.return_, 1) := by decide +kernel
theorem dX21_doOwn_12 : decode cX21_doOwn 12 = .ok (.iconst 0, 1) := by decide +kernel
theorem dX21_doOwn_13 : decode cX21_doOwn 13 = .ok (.istore_n 2, 1) := by decide +kernel
theorem dX21_doOwn_14 : decode cX21_doOwn 14 = .ok (.iconst 0, 1) := by decide +kernel
theorem dX21_doOwn_15 : decode cX21_doOwn 15 = .ok (.istore_n 3, 1) := by decide +kernel
theorem dX21_doOwn_16 : decode cX21_doOwn 16 = .ok (.iload_n 1, 1) := by decide +kernel
theorem dX21_doOwn_17 : decode cX21_doOwn 17 = .ok (.ifCond .eq 15, 3) := by decide +kernel
theorem dX21_doOwn_20 : decode cX21_doOwn 20 = .ok (.iload_n 1, 1) := by decide +kernel
theorem dX21_doOwn_21 : decode cX21_doOwn 21 = .ok (.bipush 7, 2) := by decide +kernel
theorem dX21_doOwn_23 : decode cX21_doOwn 23 = .ok (.if_icmp .eq 9, 3) := by decide +kernel
theorem dX21_doOwn_26 : decode cX21_doOwn 26 = .ok (.iload_n 1, 1) := by decide +kernel
theorem dX21_doOwn_27 : decode cX21_doOwn 27 = .ok (.bipush 8, 2) := by decide +kernel
theorem dX21_doOwn_29 : decode cX21_doOwn 29 = .ok (.if_icmp .ne 7, 3) := by decide +kernel
theorem dX21_doOwn_32 : decode cX21_doOwn 32 = .ok (.iconst 1, 1) := by decide +kernel
theorem dX21_doOwn_33 : decode cX21_doOwn 33 = .ok (.goto 4, 3) := by decide +kernel
theorem dX21_doOwn_36 : decode cX21_doOwn 36 = .ok (.iconst 0, 1) := by decide +kernel
theorem dX21_doOwn_37 : decode cX21_doOwn 37 = .ok (.istore 4, 2) := by decide +kernel
theorem dX21_doOwn_39 : decode cX21_doOwn 39 = .ok (.iload 4, 2) := by decide +kernel
theorem dX21_doOwn_41 : decode cX21_doOwn 41 = .ok (.ifCond .eq 13, 3) := by decide +kernel
theorem dX21_doOwn_44 : decode cX21_doOwn 44 = .ok (.aload_n 0, 1) := by decide +kernel
theorem dX21_doOwn_45 : decode cX21_doOwn 45 = .ok (.invokevirtual 793, 3) := by decide +kernel
theorem dX21_doOwn_48 : decode cX21_doOwn 48 = .ok (.istore_n 2, 1) := by decide +kernel
theorem dX21_doOwn_49 : decode cX21_doOwn 49 = .ok (.aload_n 0, 1) := by decide +kernel
theorem dX21_doOwn_50 : decode cX21_doOwn 50 = .ok (.invokevirtual 793, 3) := by decide +kernel
theorem dX21_doOwn_53 : decode cX21_doOwn 53 = .ok (.istore_n 3, 1) := by decide +kernel
theorem dX21_doOwn_54 : decode cX21_doOwn 54 = .ok (.iload 4, 2) := by decide +kernel
theorem dX21_doOwn_56 : decode cX21_doOwn 56 = .ok (.ifCond .eq 11, 3) := by decide +kernel
theorem dX21_doOwn_59 : decode cX21_doOwn 59 = .ok (.iload_n 1, 1) := by decide +kernel
theorem dX21_doOwn_60 : decode cX21_doOwn 60 = .ok (.ifCond .ne 7, 3) := by decide +kernel
theorem dX21_doOwn_63 : decode cX21_doOwn 63 = .ok (.iconst 0, 1) := by decide +kernel
theorem dX21_doOwn_64 : decode cX21_doOwn 64 = .ok (.goto 7, 3) := by decide +kernel
theorem dX21_doOwn_67 : decode cX21_doOwn 67 = .ok (.aload_n 0, 1) := by decide +kernel
theorem dX21_doOwn_68 : decode cX21_doOwn 68 = .ok (.invokevirtual 793, 3) := by decide +kernel
theorem dX21_doOwn_71 : decode cX21_doOwn 71 = .ok (.istore 5, 2) := by decide +kernel
theorem dX21_doOwn_73 : decode cX21_doOwn 73 = .ok (.iload_n 1, 1) := by decide +kernel
theorem dX21_doOwn_74 : decode cX21_doOwn 74 = .ok (.tableswitch 187 0 8 #[50, 58, 72, 98, 125, 144, 157, 165, 165], 50) := by decide +kernel
theorem dX21_doOwn_124 : decode cX21_doOwn 124 = .ok (.aload_n 0, 1) := by decide +kernel
theorem dX21_doOwn_125 : decode cX21_doOwn 125 = .ok (.iload_n 2, 1) := by decide +kernel
theorem dX21_doOwn_126 : decode cX21_doOwn 126 = .ok (.invokevirtual 804, 3) := by decide +kernel
theorem dX21_doOwn_129 : decode cX21_doOwn 129 = .ok (.goto 143, 3) := by decide +kernel
theorem dX21_doOwn_132 : decode cX21_doOwn 132 = .ok (.aload_n 0, 1) := by decide +kernel
theorem dX21_doOwn_133 : decode cX21_doOwn 133 = .ok (.iload 5, 2) := by decide +kernel
theorem dX21_doOwn_135 : decode cX21_doOwn 135 = .ok (.invokevirtual 859, 3) := by decide +kernel
theorem dX21_doOwn_138 : decode cX21_doOwn 138 = .ok (.aload_n 0, 1) := by decide +kernel
theorem dX21_doOwn_139 : decode cX21_doOwn 139 = .ok (.iconst 0, 1) := by decide +kernel
theorem dX21_doOwn_140 : decode cX21_doOwn 140 = .ok (.invokevirtual 804, 3) := by decide +kernel
theorem dX21_doOwn_143 : decode cX21_doOwn 143 = .ok (.goto 129, 3) := by decide +kernel
theorem dX21_doOwn_146 : decode cX21_doOwn 146 = .ok (.aload_n 0, 1) := by decide +kernel
theorem dX21_doOwn_147 : decode cX21_doOwn 147 = .ok (.invokevirtual 793, 3) := by decide +kernel
theorem dX21_doOwn_150 : decode cX21_doOwn 150 = .ok (.istore 6, 2) := by decide +kernel
theorem dX21_doOwn_152 : decode cX21_doOwn 152 = .ok (.aload_n 0, 1) := by decide +kernel
theorem dX21_doOwn_153 : decode cX21_doOwn 153 = .ok (.iload 6, 2) := by decide +kernel
theorem dX21_doOwn_155 : decode cX21_doOwn 155 = .ok (.invokevirtual 859, 3) := by decide +kernel
theorem dX21_doOwn_158 : decode cX21_doOwn 158 = .ok (.aload_n 0, 1) := by decide +kernel
theorem dX21_doOwn_159 : decode cX21_doOwn 159 = .ok (.iload 5, 2) := by decide +kernel
theorem dX21_doOwn_161 : decode cX21_doOwn 161 = .ok (.invokevirtual 859, 3) := by decide +kernel
theorem dX21_doOwn_164 : decode cX21_doOwn 164 = .ok (.aload_n 0, 1) := by decide +kernel
theorem dX21_doOwn_165 : decode cX21_doOwn 165 = .ok (.iconst 0, 1) := by decide +kernel
theorem dX21_doOwn_166 : decode cX21_doOwn 166 = .ok (.invokevirtual 804, 3) := by decide +kernel
theorem dX21_doOwn_169 : decode cX21_doOwn 169 = .ok (.goto 103, 3) := by decide +kernel
theorem dX21_doOwn_172 : decode cX21_doOwn 172 = .ok (.aload_n 0, 1) := by decide +kernel
theorem dX21_doOwn_173 : decode cX21_doOwn 173 = .ok (.getfield 862, 3) := by decide +kernel
theorem dX21_doOwn_176 : decode cX21_doOwn 176 = .ok (.ifCond .ne 12, 3) := by decide +kernel
theorem dX21_doOwn_179 : decode cX21_doOwn 179 = .ok (.aload_n 0, 1) := by decide +kernel
theorem dX21_doOwn_180 : decode cX21_doOwn 180 = .ok (.bipush 6, 2) := by decide +kernel
theorem dX21_doOwn_182 : decode cX21_doOwn 182 = .ok (.invokevirtual 775, 3) := by decide +kernel
theorem dX21_doOwn_185 : decode cX21_doOwn 185 = .ok (.goto 87, 3) := by decide +kernel
theorem dX21_doOwn_188 : decode cX21_doOwn 188 = .ok (.aload_n 0, 1) := by decide +kernel
theorem dX21_doOwn_189 : decode cX21_doOwn 189 = .ok (.aload_n 0, 1) := by decide +kernel
theorem dX21_doOwn_190 : decode cX21_doOwn 190 = .ok (.invokevirtual 865, 3) := by decide +kernel
theorem dX21_doOwn_193 : decode cX21_doOwn 193 = .ok (.invokevirtual 804, 3) := by decide +kernel
theorem dX21_doOwn_196 : decode cX21_doOwn 196 = .ok (.goto 76, 3) := by decide +kernel
theorem dX21_doOwn_199 : decode cX21_doOwn 199 = .ok (.aload_n 0, 1) := by decide +kernel
theorem dX21_doOwn_200 : decode cX21_doOwn 200 = .ok (.aload_n 0, 1) := by decide +kernel
theorem dX21_doOwn_201 : decode cX21_doOwn 201 = .ok (.getfield 862, 3) := by decide +kernel
theorem dX21_doOwn_204 : decode cX21_doOwn 204 = .ok (.ifCond .le 7, 3) := by decide +kernel
theorem dX21_doOwn_207 : decode cX21_doOwn 207 = .ok (.iconst 1, 1) := by decide +kernel
theorem dX21_doOwn_208 : decode cX21_doOwn 208 = .ok (.goto 4, 3) := by decide +kernel
theorem dX21_doOwn_211 : decode cX21_doOwn 211 = .ok (.iconst 0, 1) := by decide +kernel
theorem dX21_doOwn_212 : decode cX21_doOwn 212 = .ok (.invokevirtual 804, 3) := by decide +kernel
theorem dX21_doOwn_215 : decode cX21_doOwn 215 = .ok (.goto 57, 3) := by decide +kernel
theorem dX21_doOwn_218 : decode cX21_doOwn 218 = .ok (.aload_n 0, 1) := by decide +kernel
theorem dX21_doOwn_219 : decode cX21_doOwn 219 = .ok (.invokevirtual 793, 3) := by decide +kernel
theorem dX21_doOwn_222 : decode cX21_doOwn 222 = .ok (.pop, 1) := by decide +kernel
theorem dX21_doOwn_223 : decode cX21_doOwn 223 = .ok (.aload_n 0, 1) := by decide +kernel
theorem dX21_doOwn_224 : decode cX21_doOwn 224 = .ok (.iconst (-1), 1) := by decide +kernel
theorem dX21_doOwn_225 : decode cX21_doOwn 225 = .ok (.invokevirtual 804, 3) := by decide +kernel
theorem dX21_doOwn_228 : decode cX21_doOwn 228 = .ok (.goto 44, 3) := by decide +kernel
theorem dX21_doOwn_231 : decode cX21_doOwn 231 = .ok (.aload_n 0, 1) := by decide +kernel
theorem dX21_doOwn_232 : decode cX21_doOwn 232 = .ok (.iconst (-1), 1) := by decide +kernel
theorem dX21_doOwn_233 : decode cX21_doOwn 233 = .ok (.invokevirtual 804, 3) := by decide +kernel
theorem dX21_doOwn_236 : decode cX21_doOwn 236 = .ok (.goto 36, 3) := by decide +kernel
theorem dX21_doOwn_239 : decode cX21_doOwn 239 = .ok (.aload_n 0, 1) := by decide +kernel
theorem dX21_doOwn_240 : decode cX21_doOwn 240 = .ok (.iload_n 1, 1) := by decide +kernel
theorem dX21_doOwn_241 : decode cX21_doOwn 241 = .ok (.bipush 7, 2) := by decide +kernel
theorem dX21_doOwn_243 : decode cX21_doOwn 243 = .ok (.if_icmp .ne 7, 3) := by decide +kernel
theorem dX21_doOwn_246 : decode cX21_doOwn 246 = .ok (.iconst 1, 1) := by decide +kernel
theorem dX21_doOwn_247 : decode cX21_doOwn 247 = .ok (.goto 4, 3) := by decide +kernel
theorem dX21_doOwn_250 : decode cX21_doOwn 250 = .ok (.iconst 0, 1) := by decide +kernel
theorem dX21_doOwn_251 : decode cX21_doOwn 251 = .ok (.iload 5, 2) := by decide +kernel
theorem dX21_doOwn_253 : decode cX21_doOwn 253 = .ok (.iload_n 3, 1) := by decide +kernel
theorem dX21_doOwn_254 : decode cX21_doOwn 254 = .ok (.iload_n 2, 1) := by decide +kernel
theorem dX21_doOwn_255 : decode cX21_doOwn 255 = .ok (.invokevirtual 868, 3) := by decide +kernel
theorem dX21_doOwn_258 : decode cX21_doOwn 258 = .ok (.goto 14, 3) := by decide +kernel
theorem dX21_doOwn_261 : decode cX21_doOwn 261 = .ok (.aload_n 0, 1) := by decide +kernel
theorem dX21_doOwn_262 : decode cX21_doOwn 262 = .ok (.iload 5, 2) := by decide +kernel
theorem dX21_doOwn_264 : decode cX21_doOwn 264 = .ok (.putfield 748, 3) := by decide +kernel
theorem dX21_doOwn_267 : decode cX21_doOwn 267 = .ok (.aload_n 0, 1) := by decide +kernel
theorem dX21_doOwn_268 : decode cX21_doOwn 268 = .ok (.iconst 1, 1) := by decide +kernel
theorem dX21_doOwn_269 : decode cX21_doOwn 269 = .ok (.invokevirtual 775, 3) := by decide +kernel
theorem dX21_doOwn_272 : decode cX21_doOwn 272 = .ok (.return_, 1) := by decide +kernel
theorem dX21_write_0 : decode cX21_write 0 = .ok (.aload_n 0, 1) := by decide +kernel
theorem dX21_write_1 : decode cX21_write 1 = .ok (.getfield 745, 3) := by decide +kernel
theorem dX21_write_4 : decode cX21_write 4 = .ok (.sipush 1024, 3) := by decide +kernel
theorem dX21_write_7 : decode cX21_write 7 = .ok (.if_icmp .ge 13, 3) := by decide +kernel
theorem dX21_write_10 : decode cX21_write 10 = .ok (.aload_n 0, 1) := by decide +kernel
theorem dX21_write_11 : decode cX21_write 11 = .ok (.getfield 301, 3) := by decide +kernel
theorem dX21_write_14 : decode cX21_write 14 = .ok (.aload_n 0, 1) := by decide +kernel
theorem dX21_write_15 : decode cX21_write 15 = .ok (.getfield 745, 3) := by decide +kernel
theorem dX21_write_18 : decode cX21_write 18 = .ok (.iload_n 1, 1) := by decide +kernel
theorem dX21_write_19 : decode cX21_write 19 = .ok (.iastore, 1) := by decide +kernel
theorem dX21_write_20 : decode cX21_write 20 = .ok (.aload_n 0, 1) := by decide +kernel
theorem dX21_write_21 : decode cX21_write 21 = .ok (.dup, 1) := by decide +kernel
theorem dX21_write_22 : decode cX21_write 22 = .ok (.getfield 745, 3) := by decide +kernel
theorem dX21_write_25 : decode cX21_write 25 = .ok (.iconst 1, 1) := by decide +kernel
theorem dX21_write_26 : decode cX21_write 26 = .ok (.iadd, 1) := by decide +kernel
theorem dX21_write_27 : decode cX21_write 27 = .ok (.putfield 745, 3) := by decide +kernel
theorem dX21_write_30 : decode cX21_write 30 = .ok (.return_, 1) := by decide +kernel
theorem dX21_nextInput_0 : decode cX21_nextInput 0 = .ok (.aload_n 0, 1) := by decide +kernel
theorem dX21_nextInput_1 : decode cX21_nextInput 1 = .ok (.getfield 304, 3) := by decide +kernel
theorem dX21_nextInput_4 : decode cX21_nextInput 4 = .ok (.iconst 0, 1) := by decide +kernel
theorem dX21_nextInput_5 : decode cX21_nextInput 5 = .ok (.iaload, 1) := by decide +kernel
theorem dX21_nextInput_6 : decode cX21_nextInput 6 = .ok (.istore_n 1, 1) := by decide +kernel
theorem dX21_nextInput_7 : decode cX21_nextInput 7 = .ok (.aload_n 0, 1) := by decide +kernel
theorem dX21_nextInput_8 : decode cX21_nextInput 8 = .ok (.dup, 1) := by decide +kernel
theorem dX21_nextInput_9 : decode cX21_nextInput 9 = .ok (.getfield 862, 3) := by decide +kernel
theorem dX21_nextInput_12 : decode cX21_nextInput 12 = .ok (.iconst 1, 1) := by decide +kernel
theorem dX21_nextInput_13 : decode cX21_nextInput 13 = .ok (.isub, 1) := by decide +kernel
theorem dX21_nextInput_14 : decode cX21_nextInput 14 = .ok (.putfield 862, 3) := by decide +kernel
theorem dX21_nextInput_17 : decode cX21_nextInput 17 = .ok (.iconst 0, 1) := by decide +kernel
theorem dX21_nextInput_18 : decode cX21_nextInput 18 = .ok (.istore_n 2, 1) := by decide +kernel
theorem dX21_nextInput_19 : decode cX21_nextInput 19 = .ok (.iload_n 2, 1) := by decide +kernel
theorem dX21_nextInput_20 : decode cX21_nextInput 20 = .ok (.aload_n 0, 1) := by decide +kernel
theorem dX21_nextInput_21 : decode cX21_nextInput 21 = .ok (.getfield 862, 3) := by decide +kernel
theorem dX21_nextInput_24 : decode cX21_nextInput 24 = .ok (.if_icmp .ge 23, 3) := by decide +kernel
theorem dX21_nextInput_27 : decode cX21_nextInput 27 = .ok (.aload_n 0, 1) := by decide +kernel
theorem dX21_nextInput_28 : decode cX21_nextInput 28 = .ok (.getfield 304, 3) := by decide +kernel
theorem dX21_nextInput_31 : decode cX21_nextInput 31 = .ok (.iload_n 2, 1) := by decide +kernel
theorem dX21_nextInput_32 : decode cX21_nextInput 32 = .ok (.aload_n 0, 1) := by decide +kernel
theorem dX21_nextInput_33 : decode cX21_nextInput 33 = .ok (.getfield 304, 3) := by decide +kernel
theorem dX21_nextInput_36 : decode cX21_nextInput 36 = .ok (.iload_n 2, 1) := by decide +kernel
theorem dX21_nextInput_37 : decode cX21_nextInput 37 = .ok (.iconst 1, 1) := by decide +kernel
theorem dX21_nextInput_38 : decode cX21_nextInput 38 = .ok (.iadd, 1) := by decide +kernel
theorem dX21_nextInput_39 : decode cX21_nextInput 39 = .ok (.iaload, 1) := by decide +kernel
theorem dX21_nextInput_40 : decode cX21_nextInput 40 = .ok (.iastore, 1) := by decide +kernel
theorem dX21_nextInput_41 : decode cX21_nextInput 41 = .ok (.iinc 2 1, 3) := by decide +kernel
theorem dX21_nextInput_44 : decode cX21_nextInput 44 = .ok (.goto (-25), 3) := by decide +kernel
theorem dX21_nextInput_47 : decode cX21_nextInput 47 = .ok (.iload_n 1, 1) := by decide +kernel
theorem dX21_nextInput_48 : decode cX21_nextInput 48 = .ok (.ireturn, 1) := by decide +kernel
theorem dX21_moveBlock_0 : decode cX21_moveBlock 0 = .ok (.iload_n 2, 1) := by decide +kernel
theorem dX21_moveBlock_1 : decode cX21_moveBlock 1 = .ok (.ifCond .lt 9, 3) := by decide +kernel
theorem dX21_moveBlock_4 : decode cX21_moveBlock 4 = .ok (.iload_n 2, 1) := by decide +kernel
theorem dX21_moveBlock_5 : decode cX21_moveBlock 5 = .ok (.bipush 7, 2) := by decide +kernel
theorem dX21_moveBlock_7 : decode cX21_moveBlock 7 = .ok (.if_icmp .le 9, 3) := by decide +kernel
theorem dX21_moveBlock_10 : decode cX21_moveBlock 10 = .ok (.aload_n 0, 1) := by decide +kernel
theorem dX21_moveBlock_11 : decode cX21_moveBlock 11 = .ok (.iconst 2, 1) := by decide +kernel
theorem dX21_moveBlock_12 : decode cX21_moveBlock 12 = .ok (.invokevirtual 775, 3) := by decide +kernel
theorem dX21_moveBlock_15 : decode cX21_moveBlock 15 = .ok (.return_, 1) := by decide +kernel
theorem dX21_moveBlock_16 : decode cX21_moveBlock 16 = .ok (.iconst 0, 1) := by decide +kernel
theorem dX21_moveBlock_17 : decode cX21_moveBlock 17 = .ok (.istore 5, 2) := by decide +kernel
theorem dX21_moveBlock_19 : decode cX21_moveBlock 19 = .ok (.iload 5, 2) := by decide +kernel
theorem dX21_moveBlock_21 : decode cX21_moveBlock 21 = .ok (.iload 4, 2) := by decide +kernel
theorem dX21_moveBlock_23 : decode cX21_moveBlock 23 = .ok (.if_icmp .ge 65, 3) := by decide +kernel
theorem dX21_moveBlock_26 : decode cX21_moveBlock 26 = .ok (.iload 5, 2) := by decide +kernel
theorem dX21_moveBlock_28 : decode cX21_moveBlock 28 = .ok (.bipush 16, 2) := by decide +kernel
theorem dX21_moveBlock_30 : decode cX21_moveBlock 30 = .ok (.if_icmp .ge 58, 3) := by decide +kernel
theorem dX21_moveBlock_33 : decode cX21_moveBlock 33 = .ok (.iload_n 1, 1) := by decide +kernel
theorem dX21_moveBlock_34 : decode cX21_moveBlock 34 = .ok (.ifCond .eq 27, 3) := by decide +kernel
theorem dX21_moveBlock_37 : decode cX21_moveBlock 37 = .ok (.aload_n 0, 1) := by decide +kernel
theorem dX21_moveBlock_38 : decode cX21_moveBlock 38 = .ok (.getfield 282, 3) := by decide +kernel
theorem dX21_moveBlock_41 : decode cX21_moveBlock 41 = .ok (.iload_n 3, 1) := by decide +kernel
theorem dX21_moveBlock_42 : decode cX21_moveBlock 42 = .ok (.iload 5, 2) := by decide +kernel
theorem dX21_moveBlock_44 : decode cX21_moveBlock 44 = .ok (.iadd, 1) := by decide +kernel
theorem dX21_moveBlock_45 : decode cX21_moveBlock 45 = .ok (.aload_n 0, 1) := by decide +kernel
theorem dX21_moveBlock_46 : decode cX21_moveBlock 46 = .ok (.getfield 307, 3) := by decide +kernel
theorem dX21_moveBlock_49 : decode cX21_moveBlock 49 = .ok (.bipush 16, 2) := by decide +kernel
theorem dX21_moveBlock_51 : decode cX21_moveBlock 51 = .ok (.iload_n 2, 1) := by decide +kernel
theorem dX21_moveBlock_52 : decode cX21_moveBlock 52 = .ok (.imul, 1) := by decide +kernel
theorem dX21_moveBlock_53 : decode cX21_moveBlock 53 = .ok (.iload 5, 2) := by decide +kernel
theorem dX21_moveBlock_55 : decode cX21_moveBlock 55 = .ok (.iadd, 1) := by decide +kernel
theorem dX21_moveBlock_56 : decode cX21_moveBlock 56 = .ok (.iaload, 1) := by decide +kernel
theorem dX21_moveBlock_57 : decode cX21_moveBlock 57 = .ok (.iastore, 1) := by decide +kernel
theorem dX21_moveBlock_58 : decode cX21_moveBlock 58 = .ok (.goto 24, 3) := by decide +kernel
theorem dX21_moveBlock_61 : decode cX21_moveBlock 61 = .ok (.aload_n 0, 1) := by decide +kernel
theorem dX21_moveBlock_62 : decode cX21_moveBlock 62 = .ok (.getfield 307, 3) := by decide +kernel
theorem dX21_moveBlock_65 : decode cX21_moveBlock 65 = .ok (.bipush 16, 2) := by decide +kernel
theorem dX21_moveBlock_67 : decode cX21_moveBlock 67 = .ok (.iload_n 2, 1) := by decide +kernel
theorem dX21_moveBlock_68 : decode cX21_moveBlock 68 = .ok (.imul, 1) := by decide +kernel
theorem dX21_moveBlock_69 : decode cX21_moveBlock 69 = .ok (.iload 5, 2) := by decide +kernel
theorem dX21_moveBlock_71 : decode cX21_moveBlock 71 = .ok (.iadd, 1) := by decide +kernel
theorem dX21_moveBlock_72 : decode cX21_moveBlock 72 = .ok (.aload_n 0, 1) := by decide +kernel
theorem dX21_moveBlock_73 : decode cX21_moveBlock 73 = .ok (.getfield 282, 3) := by decide +kernel
theorem dX21_moveBlock_76 : decode cX21_moveBlock 76 = .ok (.iload_n 3, 1) := by decide +kernel
theorem dX21_moveBlock_77 : decode cX21_moveBlock 77 = .ok (.iload 5, 2) := by decide +kernel
theorem dX21_moveBlock_79 : decode cX21_moveBlock 79 = .ok (.iadd, 1) := by decide +kernel
theorem dX21_moveBlock_80 : decode cX21_moveBlock 80 = .ok (.iaload, 1) := by decide +kernel
theorem dX21_moveBlock_81 : decode cX21_moveBlock 81 = .ok (.iastore, 1) := by decide +kernel
theorem dX21_moveBlock_82 : decode cX21_moveBlock 82 = .ok (.iinc 5 1, 3) := by decide +kernel
theorem dX21_moveBlock_85 : decode cX21_moveBlock 85 = .ok (.goto (-66), 3) := by decide +kernel
theorem dX21_moveBlock_88 : decode cX21_moveBlock 88 = .ok (.aload_n 0, 1) := by decide +kernel
theorem dX21_moveBlock_89 : decode cX21_moveBlock 89 = .ok (.iconst 0, 1) := by decide +kernel
theorem dX21_moveBlock_90 : decode cX21_moveBlock 90 = .ok (.invokevirtual 804, 3) := by decide +kernel
theorem dX21_moveBlock_93 : decode cX21_moveBlock 93 = .ok (.return_, 1) := by decide +kernel
theorem dX21_elementAt_0 : decode cX21_elementAt 0 = .ok (.iload_n 2, 1) := by decide +kernel
theorem dX21_elementAt_1 : decode cX21_elementAt 1 = .ok (.ifCond .lt 12, 3) := by decide +kernel
theorem dX21_elementAt_4 : decode cX21_elementAt 4 = .ok (.iload_n 2, 1) := by decide +kernel
theorem dX21_elementAt_5 : decode cX21_elementAt 5 = .ok (.aload_n 0, 1) := by decide +kernel
theorem dX21_elementAt_6 : decode cX21_elementAt 6 = .ok (.iload_n 1, 1) := by decide +kernel
theorem dX21_elementAt_7 : decode cX21_elementAt 7 = .ok (.invokevirtual 787, 3) := by decide +kernel
theorem dX21_elementAt_10 : decode cX21_elementAt 10 = .ok (.if_icmp .lt 10, 3) := by decide +kernel
theorem dX21_elementAt_13 : decode cX21_elementAt 13 = .ok (.aload_n 0, 1) := by decide +kernel
theorem dX21_elementAt_14 : decode cX21_elementAt 14 = .ok (.iconst 2, 1) := by decide +kernel
theorem dX21_elementAt_15 : decode cX21_elementAt 15 = .ok (.invokevirtual 775, 3) := by decide +kernel
theorem dX21_elementAt_18 : decode cX21_elementAt 18 = .ok (.iconst (-1), 1) := by decide +kernel
theorem dX21_elementAt_19 : decode cX21_elementAt 19 = .ok (.ireturn, 1) := by decide +kernel
theorem dX21_elementAt_20 : decode cX21_elementAt 20 = .ok (.aload_n 0, 1) := by decide +kernel
theorem dX21_elementAt_21 : decode cX21_elementAt 21 = .ok (.iload_n 1, 1) := by decide +kernel
theorem dX21_elementAt_22 : decode cX21_elementAt 22 = .ok (.invokevirtual 790, 3) := by decide +kernel
theorem dX21_elementAt_25 : decode cX21_elementAt 25 = .ok (.iload_n 2, 1) := by decide +kernel
theorem dX21_elementAt_26 : decode cX21_elementAt 26 = .ok (.iadd, 1) := by decide +kernel
theorem dX21_elementAt_27 : decode cX21_elementAt 27 = .ok (.ireturn, 1) := by decide +kernel
theorem dX21_doUnary_0 : decode cX21_doUnary 0 = .ok (.aload_n 0, 1) := by decide +kernel
theorem dX21_doUnary_1 : decode cX21_doUnary 1 = .ok (.getfield 199, 3) := by decide +kernel
theorem dX21_doUnary_4 : decode cX21_doUnary 4 = .ok (.aload_n 0, 1) := by decide +kernel
theorem dX21_doUnary_5 : decode cX21_doUnary 5 = .ok (.getfield 211, 3) := by decide +kernel
theorem dX21_doUnary_8 : decode cX21_doUnary 8 = .ok (.iload_n 1, 1) := by decide +kernel
theorem dX21_doUnary_9 : decode cX21_doUnary 9 = .ok (.iaload, 1) := by decide +kernel
theorem dX21_doUnary_10 : decode cX21_doUnary 10 = .ok (.iaload, 1) := by decide +kernel
theorem dX21_doUnary_11 : decode cX21_doUnary 11 = .ok (.iconst 2, 1) := by decide +kernel
theorem dX21_doUnary_12 : decode cX21_doUnary 12 = .ok (.if_icmp .ne 13, 3) := by decide +kernel
theorem dX21_doUnary_15 : decode cX21_doUnary 15 = .ok (.aload_n 0, 1) := by decide +kernel
theorem dX21_doUnary_16 : decode cX21_doUnary 16 = .ok (.iload_n 1, 1) := by decide +kernel
theorem dX21_doUnary_17 : decode cX21_doUnary 17 = .ok (.iload_n 2, 1) := by decide +kernel
theorem dX21_doUnary_18 : decode cX21_doUnary 18 = .ok (.iconst 1, 1) := by decide +kernel
theorem dX21_doUnary_19 : decode cX21_doUnary 19 = .ok (.invokevirtual 819, 3) := by decide +kernel
theorem dX21_doUnary_22 : decode cX21_doUnary 22 = .ok (.goto 97, 3) := by decide +kernel
theorem dX21_doUnary_25 : decode cX21_doUnary 25 = .ok (.iload_n 2, 1) := by decide +kernel
theorem dX21_doUnary_26 : decode cX21_doUnary 26 = .ok (.ifCond .ne 21, 3) := by decide +kernel
theorem dX21_doUnary_29 : decode cX21_doUnary 29 = .ok (.aload_n 0, 1) := by decide +kernel
theorem dX21_doUnary_30 : decode cX21_doUnary 30 = .ok (.iconst 1, 1) := by decide +kernel
theorem dX21_doUnary_31 : decode cX21_doUnary 31 = .ok (.invokevirtual 810, 3) := by decide +kernel
theorem dX21_doUnary_34 : decode cX21_doUnary 34 = .ok (.aload_n 0, 1) := by decide +kernel
theorem dX21_doUnary_35 : decode cX21_doUnary 35 = .ok (.aload_n 0, 1) := by decide +kernel
theorem dX21_doUnary_36 : decode cX21_doUnary 36 = .ok (.getfield 217, 3) := by decide +kernel
theorem dX21_doUnary_39 : decode cX21_doUnary 39 = .ok (.iload_n 1, 1) := by decide +kernel
theorem dX21_doUnary_40 : decode cX21_doUnary 40 = .ok (.iaload, 1) := by decide +kernel
theorem dX21_doUnary_41 : decode cX21_doUnary 41 = .ok (.invokevirtual 813, 3) := by decide +kernel
theorem dX21_doUnary_44 : decode cX21_doUnary 44 = .ok (.goto 75, 3) := by decide +kernel
theorem dX21_doUnary_47 : decode cX21_doUnary 47 = .ok (.aload_n 0, 1) := by decide +kernel
theorem dX21_doUnary_48 : decode cX21_doUnary 48 = .ok (.invokevirtual 793, 3) := by decide +kernel
theorem dX21_doUnary_51 : decode cX21_doUnary 51 = .ok (.istore_n 3, 1) := by decide +kernel
theorem dX21_doUnary_52 : decode cX21_doUnary 52 = .ok (.aload_n 0, 1) := by decide +kernel
theorem dX21_doUnary_53 : decode cX21_doUnary 53 = .ok (.getfield 192, 3) := by decide +kernel
theorem dX21_doUnary_56 : decode cX21_doUnary 56 = .ok (.aload_n 0, 1) := by decide +kernel
theorem dX21_doUnary_57 : decode cX21_doUnary 57 = .ok (.getfield 195, 3) := by decide +kernel
theorem dX21_doUnary_60 : decode cX21_doUnary 60 = .ok (.aload_n 0, 1) := by decide +kernel
theorem dX21_doUnary_61 : decode cX21_doUnary 61 = .ok (.getfield 211, 3) := by decide +kernel
theorem dX21_doUnary_64 : decode cX21_doUnary 64 = .ok (.iload_n 1, 1) := by decide +kernel
theorem dX21_doUnary_65 : decode cX21_doUnary 65 = .ok (.iaload, 1) := by decide +kernel
theorem dX21_doUnary_66 : decode cX21_doUnary 66 = .ok (.iaload, 1) := by decide +kernel
theorem dX21_doUnary_67 : decode cX21_doUnary 67 = .ok (.baload, 1) := by decide +kernel
theorem dX21_doUnary_68 : decode cX21_doUnary 68 = .ok (.istore 4, 2) := by decide +kernel
theorem dX21_doUnary_70 : decode cX21_doUnary 70 = .ok (.aload_n 0, 1) := by decide +kernel
theorem dX21_doUnary_71 : decode cX21_doUnary 71 = .ok (.iload 4, 2) := by decide +kernel
theorem dX21_doUnary_73 : decode cX21_doUnary 73 = .ok (.bipush 45, 2) := by decide +kernel
theorem dX21_doUnary_75 : decode cX21_doUnary 75 = .ok (.if_icmp .ne 8, 3) := by decide +kernel
theorem dX21_doUnary_78 : decode cX21_doUnary 78 = .ok (.iload_n 3, 1) := by decide +kernel
theorem dX21_doUnary_79 : decode cX21_doUnary 79 = .ok (.ineg, 1) := by decide +kernel
theorem dX21_doUnary_80 : decode cX21_doUnary 80 = .ok (.goto 36, 3) := by decide +kernel
theorem dX21_doUnary_83 : decode cX21_doUnary 83 = .ok (.iload 4, 2) := by decide +kernel
theorem dX21_doUnary_85 : decode cX21_doUnary 85 = .ok (.bipush 33, 2) := by decide +kernel
theorem dX21_doUnary_87 : decode cX21_doUnary 87 = .ok (.if_icmp .ne 15, 3) := by decide +kernel
theorem dX21_doUnary_90 : decode cX21_doUnary 90 = .ok (.iload_n 3, 1) := by decide +kernel
theorem dX21_doUnary_91 : decode cX21_doUnary 91 = .ok (.ifCond .ne 7, 3) := by decide +kernel
theorem dX21_doUnary_94 : decode cX21_doUnary 94 = .ok (.iconst 1, 1) := by decide +kernel
theorem dX21_doUnary_95 : decode cX21_doUnary 95 = .ok (.goto 21, 3) := by decide +kernel
theorem dX21_doUnary_98 : decode cX21_doUnary 98 = .ok (.iconst 0, 1) := by decide +kernel
theorem dX21_doUnary_99 : decode cX21_doUnary 99 = .ok (.goto 17, 3) := by decide +kernel
theorem dX21_doUnary_102 : decode cX21_doUnary 102 = .ok (.iload 4, 2) := by decide +kernel
theorem dX21_doUnary_104 : decode cX21_doUnary 104 = .ok (.bipush 126, 2) := by decide +kernel
theorem dX21_doUnary_106 : decode cX21_doUnary 106 = .ok (.if_icmp .ne 9, 3) := by decide +kernel
theorem dX21_doUnary_109 : decode cX21_doUnary 109 = .ok (.iload_n 3, 1) := by decide +kernel
theorem dX21_doUnary_110 : decode cX21_doUnary 110 = .ok (.iconst (-1), 1) := by decide +kernel
theorem dX21_doUnary_111 : decode cX21_doUnary 111 = .ok (.ixor, 1) := by decide +kernel
theorem dX21_doUnary_112 : decode cX21_doUnary 112 = .ok (.goto 4, 3) := by decide +kernel
theorem dX21_doUnary_115 : decode cX21_doUnary 115 = .ok (.iload_n 3, 1) := by decide +kernel
theorem dX21_doUnary_116 : decode cX21_doUnary 116 = .ok (.invokevirtual 804, 3) := by decide +kernel
theorem dX21_doUnary_119 : decode cX21_doUnary 119 = .ok (.return_, 1) := by decide +kernel
theorem dX21_doStep_0 : decode cX21_doStep 0 = .ok (.aload_n 0, 1) := by decide +kernel
theorem dX21_doStep_1 : decode cX21_doStep 1 = .ok (.getfield 217, 3) := by decide +kernel
theorem dX21_doStep_4 : decode cX21_doStep 4 = .ok (.iload_n 1, 1) := by decide +kernel
theorem dX21_doStep_5 : decode cX21_doStep 5 = .ok (.iaload, 1) := by decide +kernel
theorem dX21_doStep_6 : decode cX21_doStep 6 = .ok (.istore 4, 2) := by decide +kernel
theorem dX21_doStep_8 : decode cX21_doStep 8 = .ok (.iload_n 2, 1) := by decide +kernel
theorem dX21_doStep_9 : decode cX21_doStep 9 = .ok (.ifCond .ne 31, 3) := by decide +kernel
theorem dX21_doStep_12 : decode cX21_doStep 12 = .ok (.aload_n 0, 1) := by decide +kernel
theorem dX21_doStep_13 : decode cX21_doStep 13 = .ok (.getfield 208, 3) := by decide +kernel
theorem dX21_doStep_16 : decode cX21_doStep 16 = .ok (.iload 4, 2) := by decide +kernel
theorem dX21_doStep_18 : decode cX21_doStep 18 = .ok (.baload, 1) := by decide +kernel
theorem dX21_doStep_19 : decode cX21_doStep 19 = .ok (.iconst 4, 1) := by decide +kernel
theorem dX21_doStep_20 : decode cX21_doStep 20 = .ok (.if_icmp .ne 20, 3) := by decide +kernel
theorem dX21_doStep_23 : decode cX21_doStep 23 = .ok (.aload_n 0, 1) := by decide +kernel
theorem dX21_doStep_24 : decode cX21_doStep 24 = .ok (.iconst 1, 1) := by decide +kernel
theorem dX21_doStep_25 : decode cX21_doStep 25 = .ok (.invokevirtual 810, 3) := by decide +kernel
theorem dX21_doStep_28 : decode cX21_doStep 28 = .ok (.aload_n 0, 1) := by decide +kernel
theorem dX21_doStep_29 : decode cX21_doStep 29 = .ok (.aload_n 0, 1) := by decide +kernel
theorem dX21_doStep_30 : decode cX21_doStep 30 = .ok (.getfield 217, 3) := by decide +kernel
theorem dX21_doStep_33 : decode cX21_doStep 33 = .ok (.iload 4, 2) := by decide +kernel
theorem dX21_doStep_35 : decode cX21_doStep 35 = .ok (.iaload, 1) := by decide +kernel
theorem dX21_doStep_36 : decode cX21_doStep 36 = .ok (.invokevirtual 813, 3) := by decide +kernel
theorem dX21_doStep_39 : decode cX21_doStep 39 = .ok (.return_, 1) := by decide +kernel
theorem dX21_doStep_40 : decode cX21_doStep 40 = .ok (.aload_n 0, 1) := by decide +kernel
theorem dX21_doStep_41 : decode cX21_doStep 41 = .ok (.iload 4, 2) := by decide +kernel
theorem dX21_doStep_43 : decode cX21_doStep 43 = .ok (.invokevirtual 829, 3) := by decide +kernel
theorem dX21_doStep_46 : decode cX21_doStep 46 = .ok (.istore 5, 2) := by decide +kernel
theorem dX21_doStep_48 : decode cX21_doStep 48 = .ok (.iload 5, 2) := by decide +kernel
theorem dX21_doStep_50 : decode cX21_doStep 50 = .ok (.ifCond .lt 81, 3) := by decide +kernel
theorem dX21_doStep_53 : decode cX21_doStep 53 = .ok (.aload_n 0, 1) := by decide +kernel
theorem dX21_doStep_54 : decode cX21_doStep 54 = .ok (.getfield 282, 3) := by decide +kernel
theorem dX21_doStep_57 : decode cX21_doStep 57 = .ok (.iload 5, 2) := by decide +kernel
theorem dX21_doStep_59 : decode cX21_doStep 59 = .ok (.iaload, 1) := by decide +kernel
theorem dX21_doStep_60 : decode cX21_doStep 60 = .ok (.istore 6, 2) := by decide +kernel
theorem dX21_doStep_62 : decode cX21_doStep 62 = .ok (.aload_n 0, 1) := by decide +kernel
theorem dX21_doStep_63 : decode cX21_doStep 63 = .ok (.aload_n 0, 1) := by decide +kernel
theorem dX21_doStep_64 : decode cX21_doStep 64 = .ok (.getfield 220, 3) := by decide +kernel
theorem dX21_doStep_67 : decode cX21_doStep 67 = .ok (.iload 4, 2) := by decide +kernel
theorem dX21_doStep_69 : decode cX21_doStep 69 = .ok (.iaload, 1) := by decide +kernel
theorem dX21_doStep_70 : decode cX21_doStep 70 = .ok (.aload_n 0, 1) := by decide +kernel
theorem dX21_doStep_71 : decode cX21_doStep 71 = .ok (.getfield 192, 3) := by decide +kernel
theorem dX21_doStep_74 : decode cX21_doStep 74 = .ok (.aload_n 0, 1) := by decide +kernel
theorem dX21_doStep_75 : decode cX21_doStep 75 = .ok (.getfield 195, 3) := by decide +kernel
theorem dX21_doStep_78 : decode cX21_doStep 78 = .ok (.aload_n 0, 1) := by decide +kernel
theorem dX21_doStep_79 : decode cX21_doStep 79 = .ok (.getfield 211, 3) := by decide +kernel
theorem dX21_doStep_82 : decode cX21_doStep 82 = .ok (.iload_n 1, 1) := by decide +kernel
theorem dX21_doStep_83 : decode cX21_doStep 83 = .ok (.iaload, 1) := by decide +kernel
theorem dX21_doStep_84 : decode cX21_doStep 84 = .ok (.iaload, 1) := by decide +kernel
theorem dX21_doStep_85 : decode cX21_doStep 85 = .ok (.baload, 1) := by decide +kernel
theorem dX21_doStep_86 : decode cX21_doStep 86 = .ok (.bipush 43, 2) := by decide +kernel
theorem dX21_doStep_88 : decode cX21_doStep 88 = .ok (.if_icmp .ne 10, 3) := by decide +kernel
theorem dX21_doStep_91 : decode cX21_doStep 91 = .ok (.iload 6, 2) := by decide +kernel
theorem dX21_doStep_93 : decode cX21_doStep 93 = .ok (.iconst 1, 1) := by decide +kernel
theorem dX21_doStep_94 : decode cX21_doStep 94 = .ok (.iadd, 1) := by decide +kernel
theorem dX21_doStep_95 : decode cX21_doStep 95 = .ok (.goto 7, 3) := by decide +kernel
theorem dX21_doStep_98 : decode cX21_doStep 98 = .ok (.iload 6, 2) := by decide +kernel
theorem dX21_doStep_100 : decode cX21_doStep 100 = .ok (.iconst 1, 1) := by decide +kernel
theorem dX21_doStep_101 : decode cX21_doStep 101 = .ok (.isub, 1) := by decide +kernel
theorem dX21_doStep_102 : decode cX21_doStep 102 = .ok (.invokevirtual 832, 3) := by decide +kernel
theorem dX21_doStep_105 : decode cX21_doStep 105 = .ok (.istore 7, 2) := by decide +kernel
theorem dX21_doStep_107 : decode cX21_doStep 107 = .ok (.aload_n 0, 1) := by decide +kernel
theorem dX21_doStep_108 : decode cX21_doStep 108 = .ok (.getfield 282, 3) := by decide +kernel
theorem dX21_doStep_111 : decode cX21_doStep 111 = .ok (.iload 5, 2) := by decide +kernel
theorem dX21_doStep_113 : decode cX21_doStep 113 = .ok (.iload 7, 2) := by decide +kernel
theorem dX21_doStep_115 : decode cX21_doStep 115 = .ok (.iastore, 1) := by decide +kernel
theorem dX21_doStep_116 : decode cX21_doStep 116 = .ok (.aload_n 0, 1) := by decide +kernel
theorem dX21_doStep_117 : decode cX21_doStep 117 = .ok (.iload_n 3, 1) := by decide +kernel
theorem dX21_doStep_118 : decode cX21_doStep 118 = .ok (.ifCond .eq 8, 3) := by decide +kernel
theorem dX21_doStep_121 : decode cX21_doStep 121 = .ok (.iload 7, 2) := by decide +kernel
theorem dX21_doStep_123 : decode cX21_doStep 123 = .ok (.goto 5, 3) := by decide +kernel
theorem dX21_doStep_126 : decode cX21_doStep 126 = .ok (.iload 6, 2) := by decide +kernel
theorem dX21_doStep_128 : decode cX21_doStep 128 = .ok (.invokevirtual 804, 3) := by decide +kernel
theorem dX21_doStep_131 : decode cX21_doStep 131 = .ok (.return_, 1) := by decide +kernel
theorem dX21_placeOf_0 : decode cX21_placeOf 0 = .ok (.aload_n 0, 1) := by decide +kernel
theorem dX21_placeOf_1 : decode cX21_placeOf 1 = .ok (.getfield 208, 3) := by decide +kernel
theorem dX21_placeOf_4 : decode cX21_placeOf 4 = .ok (.iload_n 1, 1) := by decide +kernel
theorem dX21_placeOf_5 : decode cX21_placeOf 5 = .ok (.baload, 1) := by decide +kernel
theorem dX21_placeOf_6 : decode cX21_placeOf 6 = .ok (.iconst 4, 1) := by decide +kernel
theorem dX21_placeOf_7 : decode cX21_placeOf 7 = .ok (.if_icmp .ne 20, 3) := by decide +kernel
theorem dX21_placeOf_10 : decode cX21_placeOf 10 = .ok (.aload_n 0, 1) := by decide +kernel
theorem dX21_placeOf_11 : decode cX21_placeOf 11 = .ok (.aload_n 0, 1) := by decide +kernel
theorem dX21_placeOf_12 : decode cX21_placeOf 12 = .ok (.getfield 220, 3) := by decide +kernel
theorem dX21_placeOf_15 : decode cX21_placeOf 15 = .ok (.iload_n 1, 1) := by decide +kernel
theorem dX21_placeOf_16 : decode cX21_placeOf 16 = .ok (.iaload, 1) := by decide +kernel
theorem dX21_placeOf_17 : decode cX21_placeOf 17 = .ok (.aload_n 0, 1) := by decide +kernel
theorem dX21_placeOf_18 : decode cX21_placeOf 18 = .ok (.invokevirtual 793, 3) := by decide +kernel
theorem dX21_placeOf_21 : decode cX21_placeOf 21 = .ok (.invokevirtual 795, 3) := by decide +kernel
theorem dX21_placeOf_24 : decode cX21_placeOf 24 = .ok (.goto 13, 3) := by decide +kernel
theorem dX21_placeOf_27 : decode cX21_placeOf 27 = .ok (.aload_n 0, 1) := by decide +kernel
theorem dX21_placeOf_28 : decode cX21_placeOf 28 = .ok (.aload_n 0, 1) := by decide +kernel
theorem dX21_placeOf_29 : decode cX21_placeOf 29 = .ok (.getfield 220, 3) := by decide +kernel
theorem dX21_placeOf_32 : decode cX21_placeOf 32 = .ok (.iload_n 1, 1) := by decide +kernel
theorem dX21_placeOf_33 : decode cX21_placeOf 33 = .ok (.iaload, 1) := by decide +kernel
theorem dX21_placeOf_34 : decode cX21_placeOf 34 = .ok (.invokevirtual 784, 3) := by decide +kernel
theorem dX21_placeOf_37 : decode cX21_placeOf 37 = .ok (.ireturn, 1) := by decide +kernel
theorem dX21_doChain_0 : decode cX21_doChain 0 = .ok (.iload_n 2, 1) := by decide +kernel
theorem dX21_doChain_1 : decode cX21_doChain 1 = .ok (.ifCond .ne 26, 3) := by decide +kernel
theorem dX21_doChain_4 : decode cX21_doChain 4 = .ok (.aload_n 0, 1) := by decide +kernel
theorem dX21_doChain_5 : decode cX21_doChain 5 = .ok (.aload_n 0, 1) := by decide +kernel
theorem dX21_doChain_6 : decode cX21_doChain 6 = .ok (.getfield 217, 3) := by decide +kernel
theorem dX21_doChain_9 : decode cX21_doChain 9 = .ok (.iload_n 1, 1) := by decide +kernel
theorem dX21_doChain_10 : decode cX21_doChain 10 = .ok (.iaload, 1) := by decide +kernel
theorem dX21_doChain_11 : decode cX21_doChain 11 = .ok (.iconst 1, 1) := by decide +kernel
theorem dX21_doChain_12 : decode cX21_doChain 12 = .ok (.iadd, 1) := by decide +kernel
theorem dX21_doChain_13 : decode cX21_doChain 13 = .ok (.invokevirtual 810, 3) := by decide +kernel
theorem dX21_doChain_16 : decode cX21_doChain 16 = .ok (.aload_n 0, 1) := by decide +kernel
theorem dX21_doChain_17 : decode cX21_doChain 17 = .ok (.aload_n 0, 1) := by decide +kernel
theorem dX21_doChain_18 : decode cX21_doChain 18 = .ok (.getfield 217, 3) := by decide +kernel
theorem dX21_doChain_21 : decode cX21_doChain 21 = .ok (.iload_n 1, 1) := by decide +kernel
theorem dX21_doChain_22 : decode cX21_doChain 22 = .ok (.iaload, 1) := by decide +kernel
theorem dX21_doChain_23 : decode cX21_doChain 23 = .ok (.invokevirtual 813, 3) := by decide +kernel
theorem dX21_doChain_26 : decode cX21_doChain 26 = .ok (.return_, 1) := by decide +kernel
theorem dX21_doChain_27 : decode cX21_doChain 27 = .ok (.iload_n 2, 1) := by decide +kernel
theorem dX21_doChain_28 : decode cX21_doChain 28 = .ok (.iconst 1, 1) := by decide +kernel
theorem dX21_doChain_29 : decode cX21_doChain 29 = .ok (.isub, 1) := by decide +kernel
theorem dX21_doChain_30 : decode cX21_doChain 30 = .ok (.istore_n 3, 1) := by decide +kernel
theorem dX21_doChain_31 : decode cX21_doChain 31 = .ok (.aload_n 0, 1) := by decide +kernel
theorem dX21_doChain_32 : decode cX21_doChain 32 = .ok (.getfield 229, 3) := by decide +kernel
theorem dX21_doChain_35 : decode cX21_doChain 35 = .ok (.iload_n 3, 1) := by decide +kernel
theorem dX21_doChain_36 : decode cX21_doChain 36 = .ok (.iaload, 1) := by decide +kernel
theorem dX21_doChain_37 : decode cX21_doChain 37 = .ok (.istore 4, 2) := by decide +kernel
theorem dX21_doChain_39 : decode cX21_doChain 39 = .ok (.aload_n 0, 1) := by decide +kernel
theorem dX21_doChain_40 : decode cX21_doChain 40 = .ok (.getfield 232, 3) := by decide +kernel
theorem dX21_doChain_43 : decode cX21_doChain 43 = .ok (.iload_n 1, 1) := by decide +kernel
theorem dX21_doChain_44 : decode cX21_doChain 44 = .ok (.iaload, 1) := by decide +kernel
theorem dX21_doChain_45 : decode cX21_doChain 45 = .ok (.istore 5, 2) := by decide +kernel
theorem dX21_doChain_47 : decode cX21_doChain 47 = .ok (.iload 5, 2) := by decide +kernel
theorem dX21_doChain_49 : decode cX21_doChain 49 = .ok (.iconst 3, 1) := by decide +kernel
theorem dX21_doChain_50 : decode cX21_doChain 50 = .ok (.if_icmp .ge 56, 3) := by decide +kernel
theorem dX21_doChain_53 : decode cX21_doChain 53 = .ok (.aload_n 0, 1) := by decide +kernel
theorem dX21_doChain_54 : decode cX21_doChain 54 = .ok (.invokevirtual 793, 3) := by decide +kernel
theorem dX21_doChain_57 : decode cX21_doChain 57 = .ok (.ifCond .eq 7, 3) := by decide +kernel
theorem dX21_doChain_60 : decode cX21_doChain 60 = .ok (.iconst 1, 1) := by decide +kernel
theorem dX21_doChain_61 : decode cX21_doChain 61 = .ok (.goto 4, 3) := by decide +kernel
theorem dX21_doChain_64 : decode cX21_doChain 64 = .ok (.iconst 0, 1) := by decide +kernel
theorem dX21_doChain_65 : decode cX21_doChain 65 = .ok (.istore 6, 2) := by decide +kernel
theorem dX21_doChain_67 : decode cX21_doChain 67 = .ok (.iload 6, 2) := by decide +kernel
theorem dX21_doChain_69 : decode cX21_doChain 69 = .ok (.iload 5, 2) := by decide +kernel
theorem dX21_doChain_71 : decode cX21_doChain 71 = .ok (.iconst 1, 1) := by decide +kernel
theorem dX21_doChain_72 : decode cX21_doChain 72 = .ok (.if_icmp .ne 7, 3) := by decide +kernel
theorem dX21_doChain_75 : decode cX21_doChain 75 = .ok (.iconst 1, 1) := by decide +kernel
theorem dX21_doChain_76 : decode cX21_doChain 76 = .ok (.goto 4, 3) := by decide +kernel
theorem dX21_doChain_79 : decode cX21_doChain 79 = .ok (.iconst 0, 1) := by decide +kernel
theorem dX21_doChain_80 : decode cX21_doChain 80 = .ok (.if_icmp .eq 8, 3) := by decide +kernel
theorem dX21_doChain_83 : decode cX21_doChain 83 = .ok (.iload 4, 2) := by decide +kernel
theorem dX21_doChain_85 : decode cX21_doChain 85 = .ok (.ifCond .ge 18, 3) := by decide +kernel
theorem dX21_doChain_88 : decode cX21_doChain 88 = .ok (.aload_n 0, 1) := by decide +kernel
theorem dX21_doChain_89 : decode cX21_doChain 89 = .ok (.iload 6, 2) := by decide +kernel
theorem dX21_doChain_91 : decode cX21_doChain 91 = .ok (.ifCond .eq 7, 3) := by decide +kernel
theorem dX21_doChain_94 : decode cX21_doChain 94 = .ok (.iconst 1, 1) := by decide +kernel
theorem dX21_doChain_95 : decode cX21_doChain 95 = .ok (.goto 4, 3) := by decide +kernel
theorem dX21_doChain_98 : decode cX21_doChain 98 = .ok (.iconst 0, 1) := by decide +kernel
theorem dX21_doChain_99 : decode cX21_doChain 99 = .ok (.invokevirtual 804, 3) := by decide +kernel
theorem dX21_doChain_102 : decode cX21_doChain 102 = .ok (.return_, 1) := by decide +kernel
