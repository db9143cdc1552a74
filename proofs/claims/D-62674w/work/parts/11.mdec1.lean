theorem d_M_base_0 : decode m_M_base.2.1 0 = .ok (.iload_n 0, 1) := by decide +kernel
theorem d_M_base_1 : decode m_M_base.2.1 1 = .ok (.ifCond .ne 7, 3) := by decide +kernel
theorem d_M_base_4 : decode m_M_base.2.1 4 = .ok (.iconst 0, 1) := by decide +kernel
theorem d_M_base_5 : decode m_M_base.2.1 5 = .ok (.goto 10, 3) := by decide +kernel
theorem d_M_base_8 : decode m_M_base.2.1 8 = .ok (.bipush 10, 2) := by decide +kernel
theorem d_M_base_10 : decode m_M_base.2.1 10 = .ok (.bipush 10, 2) := by decide +kernel
theorem d_M_base_12 : decode m_M_base.2.1 12 = .ok (.iload_n 0, 1) := by decide +kernel
theorem d_M_base_13 : decode m_M_base.2.1 13 = .ok (.imul, 1) := by decide +kernel
theorem d_M_base_14 : decode m_M_base.2.1 14 = .ok (.iadd, 1) := by decide +kernel
theorem d_M_base_15 : decode m_M_base.2.1 15 = .ok (.ireturn, 1) := by decide +kernel
theorem d_M_below_0 : decode m_M_below.2.1 0 = .ok (.dload_n 0, 1) := by decide +kernel
theorem d_M_below_1 : decode m_M_below.2.1 1 = .ok (.d2l, 1) := by decide +kernel
theorem d_M_below_2 : decode m_M_below.2.1 2 = .ok (.lstore_n 2, 1) := by decide +kernel
theorem d_M_below_3 : decode m_M_below.2.1 3 = .ok (.lload_n 2, 1) := by decide +kernel
theorem d_M_below_4 : decode m_M_below.2.1 4 = .ok (.l2d, 1) := by decide +kernel
theorem d_M_below_5 : decode m_M_below.2.1 5 = .ok (.dload_n 0, 1) := by decide +kernel
theorem d_M_below_6 : decode m_M_below.2.1 6 = .ok (.dcmp .l, 1) := by decide +kernel
theorem d_M_below_7 : decode m_M_below.2.1 7 = .ok (.ifCond .le 10, 3) := by decide +kernel
theorem d_M_below_10 : decode m_M_below.2.1 10 = .ok (.lload_n 2, 1) := by decide +kernel
theorem d_M_below_11 : decode m_M_below.2.1 11 = .ok (.lconst 1, 1) := by decide +kernel
theorem d_M_below_12 : decode m_M_below.2.1 12 = .ok (.lsub, 1) := by decide +kernel
theorem d_M_below_13 : decode m_M_below.2.1 13 = .ok (.l2d, 1) := by decide +kernel
theorem d_M_below_14 : decode m_M_below.2.1 14 = .ok (.goto 5, 3) := by decide +kernel
theorem d_M_below_17 : decode m_M_below.2.1 17 = .ok (.lload_n 2, 1) := by decide +kernel
theorem d_M_below_18 : decode m_M_below.2.1 18 = .ok (.l2d, 1) := by decide +kernel
theorem d_M_below_19 : decode m_M_below.2.1 19 = .ok (.dreturn, 1) := by decide +kernel
theorem d_M_count_0 : decode m_M_count.2.1 0 = .ok (.lload_n 0, 1) := by decide +kernel
theorem d_M_count_1 : decode m_M_count.2.1 1 = .ok (.bipush 10, 2) := by decide +kernel
theorem d_M_count_3 : decode m_M_count.2.1 3 = .ok (.lshr, 1) := by decide +kernel
theorem d_M_count_4 : decode m_M_count.2.1 4 = .ok (.l2i, 1) := by decide +kernel
theorem d_M_count_5 : decode m_M_count.2.1 5 = .ok (.ireturn, 1) := by decide +kernel
theorem d_M_cover_0 : decode m_M_cover.2.1 0 = .ok (.iload_n 1, 1) := by decide +kernel
theorem d_M_cover_1 : decode m_M_cover.2.1 1 = .ok (.aload_n 0, 1) := by decide +kernel
theorem d_M_cover_2 : decode m_M_cover.2.1 2 = .ok (.getfield 236, 3) := by decide +kernel
theorem d_M_cover_5 : decode m_M_cover.2.1 5 = .ok (.irem, 1) := by decide +kernel
theorem d_M_cover_6 : decode m_M_cover.2.1 6 = .ok (.i2d, 1) := by decide +kernel
theorem d_M_cover_7 : decode m_M_cover.2.1 7 = .ok (.ldc2_w 484, 3) := by decide +kernel
theorem d_M_cover_10 : decode m_M_cover.2.1 10 = .ok (.dadd, 1) := by decide +kernel
theorem d_M_cover_11 : decode m_M_cover.2.1 11 = .ok (.dstore_n 3, 1) := by decide +kernel
theorem d_M_cover_12 : decode m_M_cover.2.1 12 = .ok (.iload_n 1, 1) := by decide +kernel
theorem d_M_cover_13 : decode m_M_cover.2.1 13 = .ok (.aload_n 0, 1) := by decide +kernel
theorem d_M_cover_14 : decode m_M_cover.2.1 14 = .ok (.getfield 236, 3) := by decide +kernel
theorem d_M_cover_17 : decode m_M_cover.2.1 17 = .ok (.idiv, 1) := by decide +kernel
theorem d_M_cover_18 : decode m_M_cover.2.1 18 = .ok (.i2d, 1) := by decide +kernel
theorem d_M_cover_19 : decode m_M_cover.2.1 19 = .ok (.ldc2_w 484, 3) := by decide +kernel
theorem d_M_cover_22 : decode m_M_cover.2.1 22 = .ok (.dadd, 1) := by decide +kernel
theorem d_M_cover_23 : decode m_M_cover.2.1 23 = .ok (.dstore 5, 2) := by decide +kernel
theorem d_M_cover_25 : decode m_M_cover.2.1 25 = .ok (.iconst 0, 1) := by decide +kernel
theorem d_M_cover_26 : decode m_M_cover.2.1 26 = .ok (.istore 7, 2) := by decide +kernel
theorem d_M_cover_28 : decode m_M_cover.2.1 28 = .ok (.iconst 0, 1) := by decide +kernel
theorem d_M_cover_29 : decode m_M_cover.2.1 29 = .ok (.istore 8, 2) := by decide +kernel
theorem d_M_cover_31 : decode m_M_cover.2.1 31 = .ok (.iconst 0, 1) := by decide +kernel
theorem d_M_cover_32 : decode m_M_cover.2.1 32 = .ok (.istore 9, 2) := by decide +kernel
theorem d_M_cover_34 : decode m_M_cover.2.1 34 = .ok (.iload 9, 2) := by decide +kernel
theorem d_M_cover_36 : decode m_M_cover.2.1 36 = .ok (.aload_n 0, 1) := by decide +kernel
theorem d_M_cover_37 : decode m_M_cover.2.1 37 = .ok (.getfield 547, 3) := by decide +kernel
theorem d_M_cover_40 : decode m_M_cover.2.1 40 = .ok (.if_icmp .ge 181, 3) := by decide +kernel
theorem d_M_cover_43 : decode m_M_cover.2.1 43 = .ok (.iload 9, 2) := by decide +kernel
theorem d_M_cover_45 : decode m_M_cover.2.1 45 = .ok (.iconst 1, 1) := by decide +kernel
theorem d_M_cover_46 : decode m_M_cover.2.1 46 = .ok (.iadd, 1) := by decide +kernel
theorem d_M_cover_47 : decode m_M_cover.2.1 47 = .ok (.aload_n 0, 1) := by decide +kernel
theorem d_M_cover_48 : decode m_M_cover.2.1 48 = .ok (.getfield 547, 3) := by decide +kernel
theorem d_M_cover_51 : decode m_M_cover.2.1 51 = .ok (.if_icmp .ge 29, 3) := by decide +kernel
theorem d_M_cover_54 : decode m_M_cover.2.1 54 = .ok (.aload_n 0, 1) := by decide +kernel
theorem d_M_cover_55 : decode m_M_cover.2.1 55 = .ok (.getfield 84, 3) := by decide +kernel
theorem d_M_cover_58 : decode m_M_cover.2.1 58 = .ok (.iload 9, 2) := by decide +kernel
theorem d_M_cover_60 : decode m_M_cover.2.1 60 = .ok (.iconst 1, 1) := by decide +kernel
theorem d_M_cover_61 : decode m_M_cover.2.1 61 = .ok (.iadd, 1) := by decide +kernel
theorem d_M_cover_62 : decode m_M_cover.2.1 62 = .ok (.iaload, 1) := by decide +kernel
theorem d_M_cover_63 : decode m_M_cover.2.1 63 = .ok (.aload_n 0, 1) := by decide +kernel
theorem d_M_cover_64 : decode m_M_cover.2.1 64 = .ok (.getfield 84, 3) := by decide +kernel
theorem d_M_cover_67 : decode m_M_cover.2.1 67 = .ok (.iload 9, 2) := by decide +kernel
theorem d_M_cover_69 : decode m_M_cover.2.1 69 = .ok (.iaload, 1) := by decide +kernel
theorem d_M_cover_70 : decode m_M_cover.2.1 70 = .ok (.if_icmp .ne 10, 3) := by decide +kernel
theorem d_M_cover_73 : decode m_M_cover.2.1 73 = .ok (.iload 9, 2) := by decide +kernel
theorem d_M_cover_75 : decode m_M_cover.2.1 75 = .ok (.iconst 1, 1) := by decide +kernel
theorem d_M_cover_76 : decode m_M_cover.2.1 76 = .ok (.iadd, 1) := by decide +kernel
theorem d_M_cover_77 : decode m_M_cover.2.1 77 = .ok (.goto 10, 3) := by decide +kernel
theorem d_M_cover_80 : decode m_M_cover.2.1 80 = .ok (.aload_n 0, 1) := by decide +kernel
theorem d_M_cover_81 : decode m_M_cover.2.1 81 = .ok (.getfield 84, 3) := by decide +kernel
theorem d_M_cover_84 : decode m_M_cover.2.1 84 = .ok (.iload 9, 2) := by decide +kernel
theorem d_M_cover_86 : decode m_M_cover.2.1 86 = .ok (.iaload, 1) := by decide +kernel
theorem d_M_cover_87 : decode m_M_cover.2.1 87 = .ok (.istore 10, 2) := by decide +kernel
theorem d_M_cover_89 : decode m_M_cover.2.1 89 = .ok (.aload_n 0, 1) := by decide +kernel
theorem d_M_cover_90 : decode m_M_cover.2.1 90 = .ok (.getfield 78, 3) := by decide +kernel
theorem d_M_cover_93 : decode m_M_cover.2.1 93 = .ok (.iload 10, 2) := by decide +kernel
theorem d_M_cover_95 : decode m_M_cover.2.1 95 = .ok (.daload, 1) := by decide +kernel
theorem d_M_cover_96 : decode m_M_cover.2.1 96 = .ok (.aload_n 0, 1) := by decide +kernel
theorem d_M_cover_97 : decode m_M_cover.2.1 97 = .ok (.getfield 78, 3) := by decide +kernel
theorem d_M_cover_100 : decode m_M_cover.2.1 100 = .ok (.iload 9, 2) := by decide +kernel
theorem d_M_cover_102 : decode m_M_cover.2.1 102 = .ok (.daload, 1) := by decide +kernel
theorem d_M_cover_103 : decode m_M_cover.2.1 103 = .ok (.dsub, 1) := by decide +kernel
theorem d_M_cover_104 : decode m_M_cover.2.1 104 = .ok (.dload 5, 2) := by decide +kernel
theorem d_M_cover_106 : decode m_M_cover.2.1 106 = .ok (.aload_n 0, 1) := by decide +kernel
theorem d_M_cover_107 : decode m_M_cover.2.1 107 = .ok (.getfield 81, 3) := by decide +kernel
theorem d_M_cover_110 : decode m_M_cover.2.1 110 = .ok (.iload 9, 2) := by decide +kernel
theorem d_M_cover_112 : decode m_M_cover.2.1 112 = .ok (.daload, 1) := by decide +kernel
theorem d_M_cover_113 : decode m_M_cover.2.1 113 = .ok (.dsub, 1) := by decide +kernel
theorem d_M_cover_114 : decode m_M_cover.2.1 114 = .ok (.dmul, 1) := by decide +kernel
theorem d_M_cover_115 : decode m_M_cover.2.1 115 = .ok (.dload_n 3, 1) := by decide +kernel
theorem d_M_cover_116 : decode m_M_cover.2.1 116 = .ok (.aload_n 0, 1) := by decide +kernel
theorem d_M_cover_117 : decode m_M_cover.2.1 117 = .ok (.getfield 78, 3) := by decide +kernel
theorem d_M_cover_120 : decode m_M_cover.2.1 120 = .ok (.iload 9, 2) := by decide +kernel
theorem d_M_cover_122 : decode m_M_cover.2.1 122 = .ok (.daload, 1) := by decide +kernel
theorem d_M_cover_123 : decode m_M_cover.2.1 123 = .ok (.dsub, 1) := by decide +kernel
theorem d_M_cover_124 : decode m_M_cover.2.1 124 = .ok (.aload_n 0, 1) := by decide +kernel
theorem d_M_cover_125 : decode m_M_cover.2.1 125 = .ok (.getfield 81, 3) := by decide +kernel
theorem d_M_cover_128 : decode m_M_cover.2.1 128 = .ok (.iload 10, 2) := by decide +kernel
theorem d_M_cover_130 : decode m_M_cover.2.1 130 = .ok (.daload, 1) := by decide +kernel
theorem d_M_cover_131 : decode m_M_cover.2.1 131 = .ok (.aload_n 0, 1) := by decide +kernel
theorem d_M_cover_132 : decode m_M_cover.2.1 132 = .ok (.getfield 81, 3) := by decide +kernel
theorem d_M_cover_135 : decode m_M_cover.2.1 135 = .ok (.iload 9, 2) := by decide +kernel
theorem d_M_cover_137 : decode m_M_cover.2.1 137 = .ok (.daload, 1) := by decide +kernel
theorem d_M_cover_138 : decode m_M_cover.2.1 138 = .ok (.dsub, 1) := by decide +kernel
theorem d_M_cover_139 : decode m_M_cover.2.1 139 = .ok (.dmul, 1) := by decide +kernel
theorem d_M_cover_140 : decode m_M_cover.2.1 140 = .ok (.dsub, 1) := by decide +kernel
theorem d_M_cover_141 : decode m_M_cover.2.1 141 = .ok (.dstore 11, 2) := by decide +kernel
theorem d_M_cover_143 : decode m_M_cover.2.1 143 = .ok (.aload_n 0, 1) := by decide +kernel
theorem d_M_cover_144 : decode m_M_cover.2.1 144 = .ok (.getfield 81, 3) := by decide +kernel
theorem d_M_cover_147 : decode m_M_cover.2.1 147 = .ok (.iload 9, 2) := by decide +kernel
theorem d_M_cover_149 : decode m_M_cover.2.1 149 = .ok (.daload, 1) := by decide +kernel
theorem d_M_cover_150 : decode m_M_cover.2.1 150 = .ok (.dload 5, 2) := by decide +kernel
theorem d_M_cover_152 : decode m_M_cover.2.1 152 = .ok (.dcmp .g, 1) := by decide +kernel
theorem d_M_cover_153 : decode m_M_cover.2.1 153 = .ok (.ifCond .gt 26, 3) := by decide +kernel
theorem d_M_cover_156 : decode m_M_cover.2.1 156 = .ok (.dload 5, 2) := by decide +kernel
theorem d_M_cover_158 : decode m_M_cover.2.1 158 = .ok (.aload_n 0, 1) := by decide +kernel
theorem d_M_cover_159 : decode m_M_cover.2.1 159 = .ok (.getfield 81, 3) := by decide +kernel
theorem d_M_cover_162 : decode m_M_cover.2.1 162 = .ok (.iload 10, 2) := by decide +kernel
theorem d_M_cover_164 : decode m_M_cover.2.1 164 = .ok (.daload, 1) := by decide +kernel
theorem d_M_cover_165 : decode m_M_cover.2.1 165 = .ok (.dcmp .g, 1) := by decide +kernel
theorem d_M_cover_166 : decode m_M_cover.2.1 166 = .ok (.ifCond .ge 13, 3) := by decide +kernel
theorem d_M_cover_169 : decode m_M_cover.2.1 169 = .ok (.dload 11, 2) := by decide +kernel
theorem d_M_cover_171 : decode m_M_cover.2.1 171 = .ok (.dconst 0, 1) := by decide +kernel
theorem d_M_cover_172 : decode m_M_cover.2.1 172 = .ok (.dcmp .l, 1) := by decide +kernel
theorem d_M_cover_173 : decode m_M_cover.2.1 173 = .ok (.ifCond .le 6, 3) := by decide +kernel
theorem d_M_cover_176 : decode m_M_cover.2.1 176 = .ok (.iinc 7 1, 3) := by decide +kernel
theorem d_M_cover_179 : decode m_M_cover.2.1 179 = .ok (.aload_n 0, 1) := by decide +kernel
theorem d_M_cover_180 : decode m_M_cover.2.1 180 = .ok (.getfield 81, 3) := by decide +kernel
theorem d_M_cover_183 : decode m_M_cover.2.1 183 = .ok (.iload 10, 2) := by decide +kernel
theorem d_M_cover_185 : decode m_M_cover.2.1 185 = .ok (.daload, 1) := by decide +kernel
theorem d_M_cover_186 : decode m_M_cover.2.1 186 = .ok (.dload 5, 2) := by decide +kernel
theorem d_M_cover_188 : decode m_M_cover.2.1 188 = .ok (.dcmp .g, 1) := by decide +kernel
theorem d_M_cover_189 : decode m_M_cover.2.1 189 = .ok (.ifCond .gt 26, 3) := by decide +kernel
theorem d_M_cover_192 : decode m_M_cover.2.1 192 = .ok (.dload 5, 2) := by decide +kernel
theorem d_M_cover_194 : decode m_M_cover.2.1 194 = .ok (.aload_n 0, 1) := by decide +kernel
theorem d_M_cover_195 : decode m_M_cover.2.1 195 = .ok (.getfield 81, 3) := by decide +kernel
theorem d_M_cover_198 : decode m_M_cover.2.1 198 = .ok (.iload 9, 2) := by decide +kernel
theorem d_M_cover_200 : decode m_M_cover.2.1 200 = .ok (.daload, 1) := by decide +kernel
theorem d_M_cover_201 : decode m_M_cover.2.1 201 = .ok (.dcmp .g, 1) := by decide +kernel
theorem d_M_cover_202 : decode m_M_cover.2.1 202 = .ok (.ifCond .ge 13, 3) := by decide +kernel
theorem d_M_cover_205 : decode m_M_cover.2.1 205 = .ok (.dload 11, 2) := by decide +kernel
theorem d_M_cover_207 : decode m_M_cover.2.1 207 = .ok (.dconst 0, 1) := by decide +kernel
theorem d_M_cover_208 : decode m_M_cover.2.1 208 = .ok (.dcmp .g, 1) := by decide +kernel
theorem d_M_cover_209 : decode m_M_cover.2.1 209 = .ok (.ifCond .ge 6, 3) := by decide +kernel
theorem d_M_cover_212 : decode m_M_cover.2.1 212 = .ok (.iinc 8 1, 3) := by decide +kernel
theorem d_M_cover_215 : decode m_M_cover.2.1 215 = .ok (.iinc 9 1, 3) := by decide +kernel
theorem d_M_cover_218 : decode m_M_cover.2.1 218 = .ok (.goto (-184), 3) := by decide +kernel
theorem d_M_cover_221 : decode m_M_cover.2.1 221 = .ok (.iload_n 2, 1) := by decide +kernel
theorem d_M_cover_222 : decode m_M_cover.2.1 222 = .ok (.ifCond .eq 22, 3) := by decide +kernel
theorem d_M_cover_225 : decode m_M_cover.2.1 225 = .ok (.iload 7, 2) := by decide +kernel
theorem d_M_cover_227 : decode m_M_cover.2.1 227 = .ok (.iload 8, 2) := by decide +kernel
theorem d_M_cover_229 : decode m_M_cover.2.1 229 = .ok (.iadd, 1) := by decide +kernel
theorem d_M_cover_230 : decode m_M_cover.2.1 230 = .ok (.iconst 2, 1) := by decide +kernel
theorem d_M_cover_231 : decode m_M_cover.2.1 231 = .ok (.irem, 1) := by decide +kernel
theorem d_M_cover_232 : decode m_M_cover.2.1 232 = .ok (.iconst 1, 1) := by decide +kernel
theorem d_M_cover_233 : decode m_M_cover.2.1 233 = .ok (.if_icmp .ne 7, 3) := by decide +kernel
theorem d_M_cover_236 : decode m_M_cover.2.1 236 = .ok (.iconst 1, 1) := by decide +kernel
theorem d_M_cover_237 : decode m_M_cover.2.1 237 = .ok (.goto 19, 3) := by decide +kernel
theorem d_M_cover_240 : decode m_M_cover.2.1 240 = .ok (.iconst 0, 1) := by decide +kernel
theorem d_M_cover_241 : decode m_M_cover.2.1 241 = .ok (.goto 15, 3) := by decide +kernel
theorem d_M_cover_244 : decode m_M_cover.2.1 244 = .ok (.iload 7, 2) := by decide +kernel
theorem d_M_cover_246 : decode m_M_cover.2.1 246 = .ok (.iload 8, 2) := by decide +kernel
theorem d_M_cover_248 : decode m_M_cover.2.1 248 = .ok (.if_icmp .eq 7, 3) := by decide +kernel
theorem d_M_cover_251 : decode m_M_cover.2.1 251 = .ok (.iconst 1, 1) := by decide +kernel
theorem d_M_cover_252 : decode m_M_cover.2.1 252 = .ok (.goto 4, 3) := by decide +kernel
theorem d_M_cover_255 : decode m_M_cover.2.1 255 = .ok (.iconst 0, 1) := by decide +kernel
theorem d_M_cover_256 : decode m_M_cover.2.1 256 = .ok (.istore 9, 2) := by decide +kernel
theorem d_M_cover_258 : decode m_M_cover.2.1 258 = .ok (.iload 9, 2) := by decide +kernel
theorem d_M_cover_260 : decode m_M_cover.2.1 260 = .ok (.ifCond .eq 37, 3) := by decide +kernel
theorem d_M_cover_263 : decode m_M_cover.2.1 263 = .ok (.aload_n 0, 1) := by decide +kernel
theorem d_M_cover_264 : decode m_M_cover.2.1 264 = .ok (.getfield 71, 3) := by decide +kernel
theorem d_M_cover_267 : decode m_M_cover.2.1 267 = .ok (.bipush 24, 2) := by decide +kernel
theorem d_M_cover_269 : decode m_M_cover.2.1 269 = .ok (.iload_n 1, 1) := by decide +kernel
theorem d_M_cover_270 : decode m_M_cover.2.1 270 = .ok (.aload_n 0, 1) := by decide +kernel
theorem d_M_cover_271 : decode m_M_cover.2.1 271 = .ok (.getfield 236, 3) := by decide +kernel
theorem d_M_cover_274 : decode m_M_cover.2.1 274 = .ok (.idiv, 1) := by decide +kernel
theorem d_M_cover_275 : decode m_M_cover.2.1 275 = .ok (.imul, 1) := by decide +kernel
theorem d_M_cover_276 : decode m_M_cover.2.1 276 = .ok (.iload_n 1, 1) := by decide +kernel
theorem d_M_cover_277 : decode m_M_cover.2.1 277 = .ok (.aload_n 0, 1) := by decide +kernel
theorem d_M_cover_278 : decode m_M_cover.2.1 278 = .ok (.getfield 236, 3) := by decide +kernel
theorem d_M_cover_281 : decode m_M_cover.2.1 281 = .ok (.irem, 1) := by decide +kernel
theorem d_M_cover_282 : decode m_M_cover.2.1 282 = .ok (.iadd, 1) := by decide +kernel
theorem d_M_cover_283 : decode m_M_cover.2.1 283 = .ok (.ldc_w 562, 3) := by decide +kernel
theorem d_M_cover_286 : decode m_M_cover.2.1 286 = .ok (.aload_n 0, 1) := by decide +kernel
theorem d_M_cover_287 : decode m_M_cover.2.1 287 = .ok (.getfield 74, 3) := by decide +kernel
theorem d_M_cover_290 : decode m_M_cover.2.1 290 = .ok (.fmul, 1) := by decide +kernel
theorem d_M_cover_291 : decode m_M_cover.2.1 291 = .ok (.ldc_w 563, 3) := by decide +kernel
theorem d_M_cover_294 : decode m_M_cover.2.1 294 = .ok (.fadd, 1) := by decide +kernel
theorem d_M_cover_295 : decode m_M_cover.2.1 295 = .ok (.f2i, 1) := by decide +kernel
theorem d_M_cover_296 : decode m_M_cover.2.1 296 = .ok (.iastore, 1) := by decide +kernel
theorem d_M_cover_297 : decode m_M_cover.2.1 297 = .ok (.return_, 1) := by decide +kernel
theorem d_M_depth_0 : decode m_M_depth.2.1 0 = .ok (.aload_n 0, 1) := by decide +kernel
theorem d_M_depth_1 : decode m_M_depth.2.1 1 = .ok (.iconst 0, 1) := by decide +kernel
theorem d_M_depth_2 : decode m_M_depth.2.1 2 = .ok (.putfield 242, 3) := by decide +kernel
theorem d_M_depth_5 : decode m_M_depth.2.1 5 = .ok (.aload_n 0, 1) := by decide +kernel
theorem d_M_depth_6 : decode m_M_depth.2.1 6 = .ok (.getfield 247, 3) := by decide +kernel
theorem d_M_depth_9 : decode m_M_depth.2.1 9 = .ok (.ireturn, 1) := by decide +kernel
theorem d_M_fault_0 : decode m_M_fault.2.1 0 = .ok (.aload_n 0, 1) := by decide +kernel
theorem d_M_fault_1 : decode m_M_fault.2.1 1 = .ok (.iconst 0, 1) := by decide +kernel
theorem d_M_fault_2 : decode m_M_fault.2.1 2 = .ok (.putfield 242, 3) := by decide +kernel
theorem d_M_fault_5 : decode m_M_fault.2.1 5 = .ok (.aload_n 0, 1) := by decide +kernel
theorem d_M_fault_6 : decode m_M_fault.2.1 6 = .ok (.getfield 402, 3) := by decide +kernel
theorem d_M_fault_9 : decode m_M_fault.2.1 9 = .ok (.ireturn, 1) := by decide +kernel
theorem d_M_first_0 : decode m_M_first.2.1 0 = .ok (.lload_n 0, 1) := by decide +kernel
theorem d_M_first_1 : decode m_M_first.2.1 1 = .ok (.ldc2_w 245, 3) := by decide +kernel
theorem d_M_first_4 : decode m_M_first.2.1 4 = .ok (.land, 1) := by decide +kernel
theorem d_M_first_5 : decode m_M_first.2.1 5 = .ok (.l2i, 1) := by decide +kernel
theorem d_M_first_6 : decode m_M_first.2.1 6 = .ok (.ireturn, 1) := by decide +kernel
theorem d_M_frame_0 : decode m_M_frame.2.1 0 = .ok (.aload_n 0, 1) := by decide +kernel
theorem d_M_frame_1 : decode m_M_frame.2.1 1 = .ok (.getfield 43, 3) := by decide +kernel
theorem d_M_frame_4 : decode m_M_frame.2.1 4 = .ok (.aload_n 0, 1) := by decide +kernel
theorem d_M_frame_5 : decode m_M_frame.2.1 5 = .ok (.getfield 346, 3) := by decide +kernel
theorem d_M_frame_8 : decode m_M_frame.2.1 8 = .ok (.iload_n 1, 1) := by decide +kernel
theorem d_M_frame_9 : decode m_M_frame.2.1 9 = .ok (.iastore, 1) := by decide +kernel
theorem d_M_frame_10 : decode m_M_frame.2.1 10 = .ok (.aload_n 0, 1) := by decide +kernel
theorem d_M_frame_11 : decode m_M_frame.2.1 11 = .ok (.getfield 46, 3) := by decide +kernel
theorem d_M_frame_14 : decode m_M_frame.2.1 14 = .ok (.aload_n 0, 1) := by decide +kernel
theorem d_M_frame_15 : decode m_M_frame.2.1 15 = .ok (.getfield 346, 3) := by decide +kernel
theorem d_M_frame_18 : decode m_M_frame.2.1 18 = .ok (.lload_n 2, 1) := by decide +kernel
theorem d_M_frame_19 : decode m_M_frame.2.1 19 = .ok (.lastore, 1) := by decide +kernel
theorem d_M_frame_20 : decode m_M_frame.2.1 20 = .ok (.aload_n 0, 1) := by decide +kernel
theorem d_M_frame_21 : decode m_M_frame.2.1 21 = .ok (.getfield 49, 3) := by decide +kernel
theorem d_M_frame_24 : decode m_M_frame.2.1 24 = .ok (.aload_n 0, 1) := by decide +kernel
theorem d_M_frame_25 : decode m_M_frame.2.1 25 = .ok (.getfield 346, 3) := by decide +kernel
theorem d_M_frame_28 : decode m_M_frame.2.1 28 = .ok (.iconst 0, 1) := by decide +kernel
theorem d_M_frame_29 : decode m_M_frame.2.1 29 = .ok (.iastore, 1) := by decide +kernel
theorem d_M_frame_30 : decode m_M_frame.2.1 30 = .ok (.aload_n 0, 1) := by decide +kernel
theorem d_M_frame_31 : decode m_M_frame.2.1 31 = .ok (.dup, 1) := by decide +kernel
theorem d_M_frame_32 : decode m_M_frame.2.1 32 = .ok (.getfield 346, 3) := by decide +kernel
theorem d_M_frame_35 : decode m_M_frame.2.1 35 = .ok (.iconst 1, 1) := by decide +kernel
theorem d_M_frame_36 : decode m_M_frame.2.1 36 = .ok (.iadd, 1) := by decide +kernel
theorem d_M_frame_37 : decode m_M_frame.2.1 37 = .ok (.putfield 346, 3) := by decide +kernel
theorem d_M_frame_40 : decode m_M_frame.2.1 40 = .ok (.aload_n 0, 1) := by decide +kernel
theorem d_M_frame_41 : decode m_M_frame.2.1 41 = .ok (.dup, 1) := by decide +kernel
theorem d_M_frame_42 : decode m_M_frame.2.1 42 = .ok (.getfield 349, 3) := by decide +kernel
theorem d_M_frame_45 : decode m_M_frame.2.1 45 = .ok (.iload_n 1, 1) := by decide +kernel
theorem d_M_frame_46 : decode m_M_frame.2.1 46 = .ok (.iconst 2, 1) := by decide +kernel
theorem d_M_frame_47 : decode m_M_frame.2.1 47 = .ok (.if_icmp .gt 7, 3) := by decide +kernel
theorem d_M_frame_50 : decode m_M_frame.2.1 50 = .ok (.iconst 1, 1) := by decide +kernel
theorem d_M_frame_51 : decode m_M_frame.2.1 51 = .ok (.goto 4, 3) := by decide +kernel
theorem d_M_frame_54 : decode m_M_frame.2.1 54 = .ok (.iconst 0, 1) := by decide +kernel
theorem d_M_frame_55 : decode m_M_frame.2.1 55 = .ok (.iadd, 1) := by decide +kernel
theorem d_M_frame_56 : decode m_M_frame.2.1 56 = .ok (.putfield 349, 3) := by decide +kernel
theorem d_M_frame_59 : decode m_M_frame.2.1 59 = .ok (.return_, 1) := by decide +kernel
theorem d_M_isDigit_0 : decode m_M_isDigit.2.1 0 = .ok (.iload_n 0, 1) := by decide +kernel
theorem d_M_isDigit_1 : decode m_M_isDigit.2.1 1 = .ok (.bipush 48, 2) := by decide +kernel
theorem d_M_isDigit_3 : decode m_M_isDigit.2.1 3 = .ok (.if_icmp .lt 13, 3) := by decide +kernel
theorem d_M_isDigit_6 : decode m_M_isDigit.2.1 6 = .ok (.iload_n 0, 1) := by decide +kernel
theorem d_M_isDigit_7 : decode m_M_isDigit.2.1 7 = .ok (.bipush 57, 2) := by decide +kernel
theorem d_M_isDigit_9 : decode m_M_isDigit.2.1 9 = .ok (.if_icmp .gt 7, 3) := by decide +kernel
theorem d_M_isDigit_12 : decode m_M_isDigit.2.1 12 = .ok (.iconst 1, 1) := by decide +kernel
theorem d_M_isDigit_13 : decode m_M_isDigit.2.1 13 = .ok (.goto 4, 3) := by decide +kernel
theorem d_M_isDigit_16 : decode m_M_isDigit.2.1 16 = .ok (.iconst 0, 1) := by decide +kernel
theorem d_M_isDigit_17 : decode m_M_isDigit.2.1 17 = .ok (.ireturn, 1) := by decide +kernel
theorem d_M_isLetter_0 : decode m_M_isLetter.2.1 0 = .ok (.iload_n 0, 1) := by decide +kernel
theorem d_M_isLetter_1 : decode m_M_isLetter.2.1 1 = .ok (.bipush 97, 2) := by decide +kernel
theorem d_M_isLetter_3 : decode m_M_isLetter.2.1 3 = .ok (.if_icmp .lt 13, 3) := by decide +kernel
theorem d_M_isLetter_6 : decode m_M_isLetter.2.1 6 = .ok (.iload_n 0, 1) := by decide +kernel
theorem d_M_isLetter_7 : decode m_M_isLetter.2.1 7 = .ok (.bipush 122, 2) := by decide +kernel
theorem d_M_isLetter_9 : decode m_M_isLetter.2.1 9 = .ok (.if_icmp .gt 7, 3) := by decide +kernel
theorem d_M_isLetter_12 : decode m_M_isLetter.2.1 12 = .ok (.iconst 1, 1) := by decide +kernel
theorem d_M_isLetter_13 : decode m_M_isLetter.2.1 13 = .ok (.goto 4, 3) := by decide +kernel
theorem d_M_isLetter_16 : decode m_M_isLetter.2.1 16 = .ok (.iconst 0, 1) := by decide +kernel
theorem d_M_isLetter_17 : decode m_M_isLetter.2.1 17 = .ok (.ireturn, 1) := by decide +kernel
theorem d_M_isNumber_0 : decode m_M_isNumber.2.1 0 = .ok (.aload_n 0, 1) := by decide +kernel
theorem d_M_isNumber_1 : decode m_M_isNumber.2.1 1 = .ok (.getfield 7, 3) := by decide +kernel
theorem d_M_isNumber_4 : decode m_M_isNumber.2.1 4 = .ok (.iload_n 1, 1) := by decide +kernel
theorem d_M_isNumber_5 : decode m_M_isNumber.2.1 5 = .ok (.iaload, 1) := by decide +kernel
theorem d_M_isNumber_6 : decode m_M_isNumber.2.1 6 = .ok (.iconst 2, 1) := by decide +kernel
theorem d_M_isNumber_7 : decode m_M_isNumber.2.1 7 = .ok (.if_icmp .ge 7, 3) := by decide +kernel
theorem d_M_isNumber_10 : decode m_M_isNumber.2.1 10 = .ok (.iconst 1, 1) := by decide +kernel
theorem d_M_isNumber_11 : decode m_M_isNumber.2.1 11 = .ok (.goto 4, 3) := by decide +kernel
theorem d_M_isNumber_14 : decode m_M_isNumber.2.1 14 = .ok (.iconst 0, 1) := by decide +kernel
theorem d_M_isNumber_15 : decode m_M_isNumber.2.1 15 = .ok (.ireturn, 1) := by decide +kernel
theorem d_M_isProcedure_0 : decode m_M_isProcedure.2.1 0 = .ok (.aload_n 0, 1) := by decide +kernel
theorem d_M_isProcedure_1 : decode m_M_isProcedure.2.1 1 = .ok (.getfield 7, 3) := by decide +kernel
theorem d_M_isProcedure_4 : decode m_M_isProcedure.2.1 4 = .ok (.iload_n 1, 1) := by decide +kernel
theorem d_M_isProcedure_5 : decode m_M_isProcedure.2.1 5 = .ok (.iaload, 1) := by decide +kernel
theorem d_M_isProcedure_6 : decode m_M_isProcedure.2.1 6 = .ok (.bipush 13, 2) := by decide +kernel
theorem d_M_isProcedure_8 : decode m_M_isProcedure.2.1 8 = .ok (.if_icmp .ne 7, 3) := by decide +kernel
theorem d_M_isProcedure_11 : decode m_M_isProcedure.2.1 11 = .ok (.iconst 1, 1) := by decide +kernel
theorem d_M_isProcedure_12 : decode m_M_isProcedure.2.1 12 = .ok (.goto 4, 3) := by decide +kernel
theorem d_M_isProcedure_15 : decode m_M_isProcedure.2.1 15 = .ok (.iconst 0, 1) := by decide +kernel
theorem d_M_isProcedure_16 : decode m_M_isProcedure.2.1 16 = .ok (.ireturn, 1) := by decide +kernel
theorem d_M_kind_0 : decode m_M_kind.2.1 0 = .ok (.aload_n 0, 1) := by decide +kernel
theorem d_M_kind_1 : decode m_M_kind.2.1 1 = .ok (.iload_n 1, 1) := by decide +kernel
theorem d_M_kind_2 : decode m_M_kind.2.1 2 = .ok (.ifCond .lt 11, 3) := by decide +kernel
theorem d_M_kind_5 : decode m_M_kind.2.1 5 = .ok (.iload_n 1, 1) := by decide +kernel
theorem d_M_kind_6 : decode m_M_kind.2.1 6 = .ok (.aload_n 0, 1) := by decide +kernel
theorem d_M_kind_7 : decode m_M_kind.2.1 7 = .ok (.getfield 247, 3) := by decide +kernel
theorem d_M_kind_10 : decode m_M_kind.2.1 10 = .ok (.if_icmp .lt 7, 3) := by decide +kernel
theorem d_M_kind_13 : decode m_M_kind.2.1 13 = .ok (.iconst 1, 1) := by decide +kernel
theorem d_M_kind_14 : decode m_M_kind.2.1 14 = .ok (.goto 4, 3) := by decide +kernel
theorem d_M_kind_17 : decode m_M_kind.2.1 17 = .ok (.iconst 0, 1) := by decide +kernel
theorem d_M_kind_18 : decode m_M_kind.2.1 18 = .ok (.putfield 242, 3) := by decide +kernel
theorem d_M_kind_21 : decode m_M_kind.2.1 21 = .ok (.aload_n 0, 1) := by decide +kernel
theorem d_M_kind_22 : decode m_M_kind.2.1 22 = .ok (.getfield 242, 3) := by decide +kernel
theorem d_M_kind_25 : decode m_M_kind.2.1 25 = .ok (.ifCond .le 7, 3) := by decide +kernel
theorem d_M_kind_28 : decode m_M_kind.2.1 28 = .ok (.iconst 0, 1) := by decide +kernel
theorem d_M_kind_29 : decode m_M_kind.2.1 29 = .ok (.goto 16, 3) := by decide +kernel
theorem d_M_kind_32 : decode m_M_kind.2.1 32 = .ok (.aload_n 0, 1) := by decide +kernel
theorem d_M_kind_33 : decode m_M_kind.2.1 33 = .ok (.getfield 7, 3) := by decide +kernel
theorem d_M_kind_36 : decode m_M_kind.2.1 36 = .ok (.aload_n 0, 1) := by decide +kernel
theorem d_M_kind_37 : decode m_M_kind.2.1 37 = .ok (.getfield 247, 3) := by decide +kernel
theorem d_M_kind_40 : decode m_M_kind.2.1 40 = .ok (.iconst 1, 1) := by decide +kernel
theorem d_M_kind_41 : decode m_M_kind.2.1 41 = .ok (.isub, 1) := by decide +kernel
theorem d_M_kind_42 : decode m_M_kind.2.1 42 = .ok (.iload_n 1, 1) := by decide +kernel
theorem d_M_kind_43 : decode m_M_kind.2.1 43 = .ok (.isub, 1) := by decide +kernel
theorem d_M_kind_44 : decode m_M_kind.2.1 44 = .ok (.iaload, 1) := by decide +kernel
theorem d_M_kind_45 : decode m_M_kind.2.1 45 = .ok (.ireturn, 1) := by decide +kernel
theorem d_M_kindOf_0 : decode m_M_kindOf.2.1 0 = .ok (.aload_n 0, 1) := by decide +kernel
theorem d_M_kindOf_1 : decode m_M_kindOf.2.1 1 = .ok (.getfield 7, 3) := by decide +kernel
theorem d_M_kindOf_4 : decode m_M_kindOf.2.1 4 = .ok (.iload_n 1, 1) := by decide +kernel
theorem d_M_kindOf_5 : decode m_M_kindOf.2.1 5 = .ok (.iaload, 1) := by decide +kernel
theorem d_M_kindOf_6 : decode m_M_kindOf.2.1 6 = .ok (.bipush 7, 2) := by decide +kernel
theorem d_M_kindOf_8 : decode m_M_kindOf.2.1 8 = .ok (.iand, 1) := by decide +kernel
theorem d_M_kindOf_9 : decode m_M_kindOf.2.1 9 = .ok (.ireturn, 1) := by decide +kernel
theorem d_M_leave_0 : decode m_M_leave.2.1 0 = .ok (.aload_n 0, 1) := by decide +kernel
theorem d_M_leave_1 : decode m_M_leave.2.1 1 = .ok (.dup, 1) := by decide +kernel
theorem d_M_leave_2 : decode m_M_leave.2.1 2 = .ok (.getfield 346, 3) := by decide +kernel
theorem d_M_leave_5 : decode m_M_leave.2.1 5 = .ok (.iconst 1, 1) := by decide +kernel
theorem d_M_leave_6 : decode m_M_leave.2.1 6 = .ok (.isub, 1) := by decide +kernel
theorem d_M_leave_7 : decode m_M_leave.2.1 7 = .ok (.putfield 346, 3) := by decide +kernel
theorem d_M_leave_10 : decode m_M_leave.2.1 10 = .ok (.aload_n 0, 1) := by decide +kernel
theorem d_M_leave_11 : decode m_M_leave.2.1 11 = .ok (.dup, 1) := by decide +kernel
theorem d_M_leave_12 : decode m_M_leave.2.1 12 = .ok (.getfield 349, 3) := by decide +kernel
theorem d_M_leave_15 : decode m_M_leave.2.1 15 = .ok (.aload_n 0, 1) := by decide +kernel
theorem d_M_leave_16 : decode m_M_leave.2.1 16 = .ok (.getfield 43, 3) := by decide +kernel
theorem d_M_leave_19 : decode m_M_leave.2.1 19 = .ok (.aload_n 0, 1) := by decide +kernel
theorem d_M_leave_20 : decode m_M_leave.2.1 20 = .ok (.getfield 346, 3) := by decide +kernel
theorem d_M_leave_23 : decode m_M_leave.2.1 23 = .ok (.iaload, 1) := by decide +kernel
theorem d_M_leave_24 : decode m_M_leave.2.1 24 = .ok (.iconst 2, 1) := by decide +kernel
theorem d_M_leave_25 : decode m_M_leave.2.1 25 = .ok (.if_icmp .gt 7, 3) := by decide +kernel
theorem d_M_leave_28 : decode m_M_leave.2.1 28 = .ok (.iconst 1, 1) := by decide +kernel
theorem d_M_leave_29 : decode m_M_leave.2.1 29 = .ok (.goto 4, 3) := by decide +kernel
theorem d_M_leave_32 : decode m_M_leave.2.1 32 = .ok (.iconst 0, 1) := by decide +kernel
theorem d_M_leave_33 : decode m_M_leave.2.1 33 = .ok (.isub, 1) := by decide +kernel
theorem d_M_leave_34 : decode m_M_leave.2.1 34 = .ok (.putfield 349, 3) := by decide +kernel
theorem d_M_leave_37 : decode m_M_leave.2.1 37 = .ok (.return_, 1) := by decide +kernel
theorem d_M_letters_0 : decode m_M_letters.2.1 0 = .ok (.iconst 0, 1) := by decide +kernel
theorem d_M_letters_1 : decode m_M_letters.2.1 1 = .ok (.istore_n 2, 1) := by decide +kernel
theorem d_M_letters_2 : decode m_M_letters.2.1 2 = .ok (.iload_n 2, 1) := by decide +kernel
theorem d_M_letters_3 : decode m_M_letters.2.1 3 = .ok (.bipush 12, 2) := by decide +kernel
theorem d_M_letters_5 : decode m_M_letters.2.1 5 = .ok (.if_icmp .ge 19, 3) := by decide +kernel
theorem d_M_letters_8 : decode m_M_letters.2.1 8 = .ok (.lload_n 0, 1) := by decide +kernel
theorem d_M_letters_9 : decode m_M_letters.2.1 9 = .ok (.iconst 5, 1) := by decide +kernel
theorem d_M_letters_10 : decode m_M_letters.2.1 10 = .ok (.iload_n 2, 1) := by decide +kernel
theorem d_M_letters_11 : decode m_M_letters.2.1 11 = .ok (.imul, 1) := by decide +kernel
theorem d_M_letters_12 : decode m_M_letters.2.1 12 = .ok (.lshr, 1) := by decide +kernel
theorem d_M_letters_13 : decode m_M_letters.2.1 13 = .ok (.lconst 0, 1) := by decide +kernel
theorem d_M_letters_14 : decode m_M_letters.2.1 14 = .ok (.lcmp, 1) := by decide +kernel
theorem d_M_letters_15 : decode m_M_letters.2.1 15 = .ok (.ifCond .eq 9, 3) := by decide +kernel
theorem d_M_letters_18 : decode m_M_letters.2.1 18 = .ok (.iinc 2 1, 3) := by decide +kernel
theorem d_M_letters_21 : decode m_M_letters.2.1 21 = .ok (.goto (-19), 3) := by decide +kernel
theorem d_M_letters_24 : decode m_M_letters.2.1 24 = .ok (.iload_n 2, 1) := by decide +kernel
theorem d_M_letters_25 : decode m_M_letters.2.1 25 = .ok (.ireturn, 1) := by decide +kernel
theorem d_M_look_0 : decode m_M_look.2.1 0 = .ok (.iload_n 1, 1) := by decide +kernel
theorem d_M_look_1 : decode m_M_look.2.1 1 = .ok (.aload_n 0, 1) := by decide +kernel
theorem d_M_look_2 : decode m_M_look.2.1 2 = .ok (.getfield 270, 3) := by decide +kernel
theorem d_M_look_5 : decode m_M_look.2.1 5 = .ok (.if_icmp .ge 12, 3) := by decide +kernel
theorem d_M_look_8 : decode m_M_look.2.1 8 = .ok (.aload_n 0, 1) := by decide +kernel
theorem d_M_look_9 : decode m_M_look.2.1 9 = .ok (.getfield 61, 3) := by decide +kernel
theorem d_M_look_12 : decode m_M_look.2.1 12 = .ok (.iload_n 1, 1) := by decide +kernel
theorem d_M_look_13 : decode m_M_look.2.1 13 = .ok (.caload, 1) := by decide +kernel
theorem d_M_look_14 : decode m_M_look.2.1 14 = .ok (.goto 5, 3) := by decide +kernel
theorem d_M_look_17 : decode m_M_look.2.1 17 = .ok (.bipush 32, 2) := by decide +kernel
theorem d_M_look_19 : decode m_M_look.2.1 19 = .ok (.ireturn, 1) := by decide +kernel
theorem d_M_move_0 : decode m_M_move.2.1 0 = .ok (.aload_n 0, 1) := by decide +kernel
theorem d_M_move_1 : decode m_M_move.2.1 1 = .ok (.getfield 7, 3) := by decide +kernel
theorem d_M_move_4 : decode m_M_move.2.1 4 = .ok (.iload_n 1, 1) := by decide +kernel
theorem d_M_move_5 : decode m_M_move.2.1 5 = .ok (.aload_n 0, 1) := by decide +kernel
theorem d_M_move_6 : decode m_M_move.2.1 6 = .ok (.getfield 7, 3) := by decide +kernel
theorem d_M_move_9 : decode m_M_move.2.1 9 = .ok (.iload_n 2, 1) := by decide +kernel
theorem d_M_move_10 : decode m_M_move.2.1 10 = .ok (.iaload, 1) := by decide +kernel
theorem d_M_move_11 : decode m_M_move.2.1 11 = .ok (.iastore, 1) := by decide +kernel
theorem d_M_move_12 : decode m_M_move.2.1 12 = .ok (.aload_n 0, 1) := by decide +kernel
theorem d_M_move_13 : decode m_M_move.2.1 13 = .ok (.getfield 13, 3) := by decide +kernel
theorem d_M_move_16 : decode m_M_move.2.1 16 = .ok (.iload_n 1, 1) := by decide +kernel
theorem d_M_move_17 : decode m_M_move.2.1 17 = .ok (.aload_n 0, 1) := by decide +kernel
theorem d_M_move_18 : decode m_M_move.2.1 18 = .ok (.getfield 13, 3) := by decide +kernel
theorem d_M_move_21 : decode m_M_move.2.1 21 = .ok (.iload_n 2, 1) := by decide +kernel
theorem d_M_move_22 : decode m_M_move.2.1 22 = .ok (.laload, 1) := by decide +kernel
theorem d_M_move_23 : decode m_M_move.2.1 23 = .ok (.lastore, 1) := by decide +kernel
theorem d_M_move_24 : decode m_M_move.2.1 24 = .ok (.aload_n 0, 1) := by decide +kernel
theorem d_M_move_25 : decode m_M_move.2.1 25 = .ok (.getfield 17, 3) := by decide +kernel
theorem d_M_move_28 : decode m_M_move.2.1 28 = .ok (.iload_n 1, 1) := by decide +kernel
theorem d_M_move_29 : decode m_M_move.2.1 29 = .ok (.aload_n 0, 1) := by decide +kernel
theorem d_M_move_30 : decode m_M_move.2.1 30 = .ok (.getfield 17, 3) := by decide +kernel
theorem d_M_move_33 : decode m_M_move.2.1 33 = .ok (.iload_n 2, 1) := by decide +kernel
theorem d_M_move_34 : decode m_M_move.2.1 34 = .ok (.daload, 1) := by decide +kernel
theorem d_M_move_35 : decode m_M_move.2.1 35 = .ok (.dastore, 1) := by decide +kernel
theorem d_M_move_36 : decode m_M_move.2.1 36 = .ok (.return_, 1) := by decide +kernel
theorem d_M_numberAt_0 : decode m_M_numberAt.2.1 0 = .ok (.aload_n 0, 1) := by decide +kernel
theorem d_M_numberAt_1 : decode m_M_numberAt.2.1 1 = .ok (.getfield 7, 3) := by decide +kernel
theorem d_M_numberAt_4 : decode m_M_numberAt.2.1 4 = .ok (.iload_n 1, 1) := by decide +kernel
theorem d_M_numberAt_5 : decode m_M_numberAt.2.1 5 = .ok (.iaload, 1) := by decide +kernel
theorem d_M_numberAt_6 : decode m_M_numberAt.2.1 6 = .ok (.ifCond .ne 13, 3) := by decide +kernel
theorem d_M_numberAt_9 : decode m_M_numberAt.2.1 9 = .ok (.aload_n 0, 1) := by decide +kernel
theorem d_M_numberAt_10 : decode m_M_numberAt.2.1 10 = .ok (.getfield 13, 3) := by decide +kernel
theorem d_M_numberAt_13 : decode m_M_numberAt.2.1 13 = .ok (.iload_n 1, 1) := by decide +kernel
theorem d_M_numberAt_14 : decode m_M_numberAt.2.1 14 = .ok (.laload, 1) := by decide +kernel
theorem d_M_numberAt_15 : decode m_M_numberAt.2.1 15 = .ok (.l2d, 1) := by decide +kernel
theorem d_M_numberAt_16 : decode m_M_numberAt.2.1 16 = .ok (.goto 9, 3) := by decide +kernel
theorem d_M_numberAt_19 : decode m_M_numberAt.2.1 19 = .ok (.aload_n 0, 1) := by decide +kernel
theorem d_M_numberAt_20 : decode m_M_numberAt.2.1 20 = .ok (.getfield 17, 3) := by decide +kernel
theorem d_M_numberAt_23 : decode m_M_numberAt.2.1 23 = .ok (.iload_n 1, 1) := by decide +kernel
theorem d_M_numberAt_24 : decode m_M_numberAt.2.1 24 = .ok (.daload, 1) := by decide +kernel
theorem d_M_numberAt_25 : decode m_M_numberAt.2.1 25 = .ok (.dreturn, 1) := by decide +kernel
theorem d_M_operatorOf_0 : decode m_M_operatorOf.2.1 0 = .ok (.lload_n 1, 1) := by decide +kernel
theorem d_M_operatorOf_1 : decode m_M_operatorOf.2.1 1 = .ok (.ldc2_w 314, 3) := by decide +kernel
theorem d_M_operatorOf_4 : decode m_M_operatorOf.2.1 4 = .ok (.lcmp, 1) := by decide +kernel
theorem d_M_operatorOf_5 : decode m_M_operatorOf.2.1 5 = .ok (.ifCond .eq 11, 3) := by decide +kernel
theorem d_M_operatorOf_8 : decode m_M_operatorOf.2.1 8 = .ok (.lload_n 1, 1) := by decide +kernel
theorem d_M_operatorOf_9 : decode m_M_operatorOf.2.1 9 = .ok (.ldc2_w 316, 3) := by decide +kernel
theorem d_M_operatorOf_12 : decode m_M_operatorOf.2.1 12 = .ok (.lcmp, 1) := by decide +kernel
theorem d_M_operatorOf_13 : decode m_M_operatorOf.2.1 13 = .ok (.ifCond .ne 9, 3) := by decide +kernel
theorem d_M_operatorOf_16 : decode m_M_operatorOf.2.1 16 = .ok (.lload_n 1, 1) := by decide +kernel
theorem d_M_operatorOf_17 : decode m_M_operatorOf.2.1 17 = .ok (.l2i, 1) := by decide +kernel
theorem d_M_operatorOf_18 : decode m_M_operatorOf.2.1 18 = .ok (.bipush 43, 2) := by decide +kernel
theorem d_M_operatorOf_20 : decode m_M_operatorOf.2.1 20 = .ok (.iadd, 1) := by decide +kernel
theorem d_M_operatorOf_21 : decode m_M_operatorOf.2.1 21 = .ok (.ireturn, 1) := by decide +kernel
theorem d_M_operatorOf_22 : decode m_M_operatorOf.2.1 22 = .ok (.iconst 0, 1) := by decide +kernel
theorem d_M_operatorOf_23 : decode m_M_operatorOf.2.1 23 = .ok (.istore_n 3, 1) := by decide +kernel
theorem d_M_operatorOf_24 : decode m_M_operatorOf.2.1 24 = .ok (.iload_n 3, 1) := by decide +kernel
theorem d_M_operatorOf_25 : decode m_M_operatorOf.2.1 25 = .ok (.bipush 35, 2) := by decide +kernel
theorem d_M_operatorOf_27 : decode m_M_operatorOf.2.1 27 = .ok (.if_icmp .ge 38, 3) := by decide +kernel
theorem d_M_operatorOf_30 : decode m_M_operatorOf.2.1 30 = .ok (.aload_n 0, 1) := by decide +kernel
theorem d_M_operatorOf_31 : decode m_M_operatorOf.2.1 31 = .ok (.getfield 160, 3) := by decide +kernel
theorem d_M_operatorOf_34 : decode m_M_operatorOf.2.1 34 = .ok (.iload_n 3, 1) := by decide +kernel
theorem d_M_operatorOf_35 : decode m_M_operatorOf.2.1 35 = .ok (.laload, 1) := by decide +kernel
theorem d_M_operatorOf_36 : decode m_M_operatorOf.2.1 36 = .ok (.lload_n 1, 1) := by decide +kernel
theorem d_M_operatorOf_37 : decode m_M_operatorOf.2.1 37 = .ok (.lcmp, 1) := by decide +kernel
theorem d_M_operatorOf_38 : decode m_M_operatorOf.2.1 38 = .ok (.ifCond .ne 5, 3) := by decide +kernel
theorem d_M_operatorOf_41 : decode m_M_operatorOf.2.1 41 = .ok (.iload_n 3, 1) := by decide +kernel
theorem d_M_operatorOf_42 : decode m_M_operatorOf.2.1 42 = .ok (.ireturn, 1) := by decide +kernel
theorem d_M_operatorOf_43 : decode m_M_operatorOf.2.1 43 = .ok (.aload_n 0, 1) := by decide +kernel
theorem d_M_operatorOf_44 : decode m_M_operatorOf.2.1 44 = .ok (.getfield 233, 3) := by decide +kernel
theorem d_M_operatorOf_47 : decode m_M_operatorOf.2.1 47 = .ok (.iload_n 3, 1) := by decide +kernel
theorem d_M_operatorOf_48 : decode m_M_operatorOf.2.1 48 = .ok (.laload, 1) := by decide +kernel
theorem d_M_operatorOf_49 : decode m_M_operatorOf.2.1 49 = .ok (.lload_n 1, 1) := by decide +kernel
theorem d_M_operatorOf_50 : decode m_M_operatorOf.2.1 50 = .ok (.lcmp, 1) := by decide +kernel
theorem d_M_operatorOf_51 : decode m_M_operatorOf.2.1 51 = .ok (.ifCond .ne 8, 3) := by decide +kernel
theorem d_M_operatorOf_54 : decode m_M_operatorOf.2.1 54 = .ok (.bipush 35, 2) := by decide +kernel
theorem d_M_operatorOf_56 : decode m_M_operatorOf.2.1 56 = .ok (.iload_n 3, 1) := by decide +kernel
theorem d_M_operatorOf_57 : decode m_M_operatorOf.2.1 57 = .ok (.iadd, 1) := by decide +kernel
theorem d_M_operatorOf_58 : decode m_M_operatorOf.2.1 58 = .ok (.ireturn, 1) := by decide +kernel
theorem d_M_operatorOf_59 : decode m_M_operatorOf.2.1 59 = .ok (.iinc 3 1, 3) := by decide +kernel
theorem d_M_operatorOf_62 : decode m_M_operatorOf.2.1 62 = .ok (.goto (-38), 3) := by decide +kernel
theorem d_M_operatorOf_65 : decode m_M_operatorOf.2.1 65 = .ok (.iconst (-1), 1) := by decide +kernel
theorem d_M_operatorOf_66 : decode m_M_operatorOf.2.1 66 = .ok (.ireturn, 1) := by decide +kernel
theorem d_M_page_0 : decode m_M_page.2.1 0 = .ok (.aload_n 0, 1) := by decide +kernel
theorem d_M_page_1 : decode m_M_page.2.1 1 = .ok (.iconst 0, 1) := by decide +kernel
theorem d_M_page_2 : decode m_M_page.2.1 2 = .ok (.putfield 242, 3) := by decide +kernel
theorem d_M_page_5 : decode m_M_page.2.1 5 = .ok (.iconst 0, 1) := by decide +kernel
theorem d_M_page_6 : decode m_M_page.2.1 6 = .ok (.istore_n 1, 1) := by decide +kernel
theorem d_M_page_7 : decode m_M_page.2.1 7 = .ok (.iconst 0, 1) := by decide +kernel
theorem d_M_page_8 : decode m_M_page.2.1 8 = .ok (.istore_n 2, 1) := by decide +kernel
theorem d_M_page_9 : decode m_M_page.2.1 9 = .ok (.iload_n 2, 1) := by decide +kernel
theorem d_M_page_10 : decode m_M_page.2.1 10 = .ok (.sipush 384, 3) := by decide +kernel
theorem d_M_page_13 : decode m_M_page.2.1 13 = .ok (.if_icmp .ge 33, 3) := by decide +kernel
theorem d_M_page_16 : decode m_M_page.2.1 16 = .ok (.iload_n 1, 1) := by decide +kernel
theorem d_M_page_17 : decode m_M_page.2.1 17 = .ok (.aload_n 0, 1) := by decide +kernel
theorem d_M_page_18 : decode m_M_page.2.1 18 = .ok (.getfield 71, 3) := by decide +kernel
theorem d_M_page_21 : decode m_M_page.2.1 21 = .ok (.iload_n 2, 1) := by decide +kernel
theorem d_M_page_22 : decode m_M_page.2.1 22 = .ok (.iaload, 1) := by decide +kernel
theorem d_M_page_23 : decode m_M_page.2.1 23 = .ok (.ifCond .le 7, 3) := by decide +kernel
theorem d_M_page_26 : decode m_M_page.2.1 26 = .ok (.iconst 1, 1) := by decide +kernel
theorem d_M_page_27 : decode m_M_page.2.1 27 = .ok (.goto 4, 3) := by decide +kernel
theorem d_M_page_30 : decode m_M_page.2.1 30 = .ok (.iconst 0, 1) := by decide +kernel
theorem d_M_page_31 : decode m_M_page.2.1 31 = .ok (.iadd, 1) := by decide +kernel
theorem d_M_page_32 : decode m_M_page.2.1 32 = .ok (.istore_n 1, 1) := by decide +kernel
theorem d_M_page_33 : decode m_M_page.2.1 33 = .ok (.aload_n 0, 1) := by decide +kernel
theorem d_M_page_34 : decode m_M_page.2.1 34 = .ok (.getfield 71, 3) := by decide +kernel
theorem d_M_page_37 : decode m_M_page.2.1 37 = .ok (.iload_n 2, 1) := by decide +kernel
theorem d_M_page_38 : decode m_M_page.2.1 38 = .ok (.iconst 0, 1) := by decide +kernel
theorem d_M_page_39 : decode m_M_page.2.1 39 = .ok (.iastore, 1) := by decide +kernel
theorem d_M_page_40 : decode m_M_page.2.1 40 = .ok (.iinc 2 1, 3) := by decide +kernel
theorem d_M_page_43 : decode m_M_page.2.1 43 = .ok (.goto (-34), 3) := by decide +kernel
theorem d_M_page_46 : decode m_M_page.2.1 46 = .ok (.iload_n 1, 1) := by decide +kernel
theorem d_M_page_47 : decode m_M_page.2.1 47 = .ok (.ireturn, 1) := by decide +kernel
theorem d_M_pattern_0 : decode m_M_pattern.2.1 0 = .ok (.iload_n 1, 1) := by decide +kernel
theorem d_M_pattern_1 : decode m_M_pattern.2.1 1 = .ok (.bipush 10, 2) := by decide +kernel
theorem d_M_pattern_3 : decode m_M_pattern.2.1 3 = .ok (.if_icmp .ge 44, 3) := by decide +kernel
theorem d_M_pattern_6 : decode m_M_pattern.2.1 6 = .ok (.iload_n 1, 1) := by decide +kernel
theorem d_M_pattern_7 : decode m_M_pattern.2.1 7 = .ok (.iconst 5, 1) := by decide +kernel
theorem d_M_pattern_8 : decode m_M_pattern.2.1 8 = .ok (.if_icmp .ne 8, 3) := by decide +kernel
theorem d_M_pattern_11 : decode m_M_pattern.2.1 11 = .ok (.bipush 11, 2) := by decide +kernel
theorem d_M_pattern_13 : decode m_M_pattern.2.1 13 = .ok (.goto 33, 3) := by decide +kernel
theorem d_M_pattern_16 : decode m_M_pattern.2.1 16 = .ok (.iload_n 1, 1) := by decide +kernel
theorem d_M_pattern_17 : decode m_M_pattern.2.1 17 = .ok (.iconst 5, 1) := by decide +kernel
theorem d_M_pattern_18 : decode m_M_pattern.2.1 18 = .ok (.if_icmp .le 7, 3) := by decide +kernel
theorem d_M_pattern_21 : decode m_M_pattern.2.1 21 = .ok (.iconst 0, 1) := by decide +kernel
theorem d_M_pattern_22 : decode m_M_pattern.2.1 22 = .ok (.goto 24, 3) := by decide +kernel
theorem d_M_pattern_25 : decode m_M_pattern.2.1 25 = .ok (.iload_n 1, 1) := by decide +kernel
theorem d_M_pattern_26 : decode m_M_pattern.2.1 26 = .ok (.iconst 2, 1) := by decide +kernel
theorem d_M_pattern_27 : decode m_M_pattern.2.1 27 = .ok (.if_icmp .le 7, 3) := by decide +kernel
theorem d_M_pattern_30 : decode m_M_pattern.2.1 30 = .ok (.iconst 1, 1) := by decide +kernel
theorem d_M_pattern_31 : decode m_M_pattern.2.1 31 = .ok (.goto 15, 3) := by decide +kernel
theorem d_M_pattern_34 : decode m_M_pattern.2.1 34 = .ok (.iload_n 1, 1) := by decide +kernel
theorem d_M_pattern_35 : decode m_M_pattern.2.1 35 = .ok (.iconst 1, 1) := by decide +kernel
theorem d_M_pattern_36 : decode m_M_pattern.2.1 36 = .ok (.if_icmp .ne 8, 3) := by decide +kernel
theorem d_M_pattern_39 : decode m_M_pattern.2.1 39 = .ok (.bipush 99, 2) := by decide +kernel
theorem d_M_pattern_41 : decode m_M_pattern.2.1 41 = .ok (.goto 5, 3) := by decide +kernel
theorem d_M_pattern_44 : decode m_M_pattern.2.1 44 = .ok (.bipush 9, 2) := by decide +kernel
theorem d_M_pattern_46 : decode m_M_pattern.2.1 46 = .ok (.ireturn, 1) := by decide +kernel
theorem d_M_pattern_47 : decode m_M_pattern.2.1 47 = .ok (.iload_n 1, 1) := by decide +kernel
theorem d_M_pattern_48 : decode m_M_pattern.2.1 48 = .ok (.bipush 21, 2) := by decide +kernel
theorem d_M_pattern_50 : decode m_M_pattern.2.1 50 = .ok (.if_icmp .ge 27, 3) := by decide +kernel
theorem d_M_pattern_53 : decode m_M_pattern.2.1 53 = .ok (.iload_n 1, 1) := by decide +kernel
theorem d_M_pattern_54 : decode m_M_pattern.2.1 54 = .ok (.bipush 14, 2) := by decide +kernel
theorem d_M_pattern_56 : decode m_M_pattern.2.1 56 = .ok (.if_icmp .ge 8, 3) := by decide +kernel
theorem d_M_pattern_59 : decode m_M_pattern.2.1 59 = .ok (.bipush 22, 2) := by decide +kernel
theorem d_M_pattern_61 : decode m_M_pattern.2.1 61 = .ok (.goto 15, 3) := by decide +kernel
theorem d_M_pattern_64 : decode m_M_pattern.2.1 64 = .ok (.iload_n 1, 1) := by decide +kernel
theorem d_M_pattern_65 : decode m_M_pattern.2.1 65 = .ok (.bipush 16, 2) := by decide +kernel
theorem d_M_pattern_67 : decode m_M_pattern.2.1 67 = .ok (.if_icmp .ge 8, 3) := by decide +kernel
theorem d_M_pattern_70 : decode m_M_pattern.2.1 70 = .ok (.bipush 11, 2) := by decide +kernel
theorem d_M_pattern_72 : decode m_M_pattern.2.1 72 = .ok (.goto 4, 3) := by decide +kernel
theorem d_M_pattern_75 : decode m_M_pattern.2.1 75 = .ok (.iconst 2, 1) := by decide +kernel
theorem d_M_pattern_76 : decode m_M_pattern.2.1 76 = .ok (.ireturn, 1) := by decide +kernel
theorem d_M_pattern_77 : decode m_M_pattern.2.1 77 = .ok (.iload_n 1, 1) := by decide +kernel
theorem d_M_pattern_78 : decode m_M_pattern.2.1 78 = .ok (.bipush 37, 2) := by decide +kernel
theorem d_M_pattern_80 : decode m_M_pattern.2.1 80 = .ok (.if_icmp .ge 60, 3) := by decide +kernel
theorem d_M_pattern_83 : decode m_M_pattern.2.1 83 = .ok (.iload_n 1, 1) := by decide +kernel
theorem d_M_pattern_84 : decode m_M_pattern.2.1 84 = .ok (.bipush 23, 2) := by decide +kernel
theorem d_M_pattern_86 : decode m_M_pattern.2.1 86 = .ok (.if_icmp .ge 7, 3) := by decide +kernel
theorem d_M_pattern_89 : decode m_M_pattern.2.1 89 = .ok (.iconst 0, 1) := by decide +kernel
theorem d_M_pattern_90 : decode m_M_pattern.2.1 90 = .ok (.goto 49, 3) := by decide +kernel
theorem d_M_pattern_93 : decode m_M_pattern.2.1 93 = .ok (.iload_n 1, 1) := by decide +kernel
theorem d_M_pattern_94 : decode m_M_pattern.2.1 94 = .ok (.bipush 25, 2) := by decide +kernel
theorem d_M_pattern_96 : decode m_M_pattern.2.1 96 = .ok (.if_icmp .ge 8, 3) := by decide +kernel
theorem d_M_pattern_99 : decode m_M_pattern.2.1 99 = .ok (.bipush 99, 2) := by decide +kernel
theorem d_M_pattern_101 : decode m_M_pattern.2.1 101 = .ok (.goto 38, 3) := by decide +kernel
theorem d_M_pattern_104 : decode m_M_pattern.2.1 104 = .ok (.iload_n 1, 1) := by decide +kernel
theorem d_M_pattern_105 : decode m_M_pattern.2.1 105 = .ok (.bipush 29, 2) := by decide +kernel
theorem d_M_pattern_107 : decode m_M_pattern.2.1 107 = .ok (.if_icmp .ge 8, 3) := by decide +kernel
theorem d_M_pattern_110 : decode m_M_pattern.2.1 110 = .ok (.bipush 22, 2) := by decide +kernel
theorem d_M_pattern_112 : decode m_M_pattern.2.1 112 = .ok (.goto 27, 3) := by decide +kernel
theorem d_M_pattern_115 : decode m_M_pattern.2.1 115 = .ok (.iload_n 1, 1) := by decide +kernel
theorem d_M_pattern_116 : decode m_M_pattern.2.1 116 = .ok (.bipush 31, 2) := by decide +kernel
theorem d_M_pattern_118 : decode m_M_pattern.2.1 118 = .ok (.if_icmp .ge 8, 3) := by decide +kernel
theorem d_M_pattern_121 : decode m_M_pattern.2.1 121 = .ok (.bipush 99, 2) := by decide +kernel
theorem d_M_pattern_123 : decode m_M_pattern.2.1 123 = .ok (.goto 16, 3) := by decide +kernel
theorem d_M_pattern_126 : decode m_M_pattern.2.1 126 = .ok (.iload_n 1, 1) := by decide +kernel
theorem d_M_pattern_127 : decode m_M_pattern.2.1 127 = .ok (.bipush 32, 2) := by decide +kernel
theorem d_M_pattern_129 : decode m_M_pattern.2.1 129 = .ok (.if_icmp .ne 8, 3) := by decide +kernel
theorem d_M_pattern_132 : decode m_M_pattern.2.1 132 = .ok (.bipush 11, 2) := by decide +kernel
theorem d_M_pattern_134 : decode m_M_pattern.2.1 134 = .ok (.goto 5, 3) := by decide +kernel
theorem d_M_pattern_137 : decode m_M_pattern.2.1 137 = .ok (.bipush 9, 2) := by decide +kernel
theorem d_M_pattern_139 : decode m_M_pattern.2.1 139 = .ok (.ireturn, 1) := by decide +kernel
theorem d_M_pattern_140 : decode m_M_pattern.2.1 140 = .ok (.iload_n 1, 1) := by decide +kernel
theorem d_M_pattern_141 : decode m_M_pattern.2.1 141 = .ok (.bipush 70, 2) := by decide +kernel
theorem d_M_pattern_143 : decode m_M_pattern.2.1 143 = .ok (.if_icmp .ge 15, 3) := by decide +kernel
theorem d_M_pattern_146 : decode m_M_pattern.2.1 146 = .ok (.aload_n 0, 1) := by decide +kernel
theorem d_M_pattern_147 : decode m_M_pattern.2.1 147 = .ok (.getfield 87, 3) := by decide +kernel
theorem d_M_pattern_150 : decode m_M_pattern.2.1 150 = .ok (.iload_n 1, 1) := by decide +kernel
theorem d_M_pattern_151 : decode m_M_pattern.2.1 151 = .ok (.bipush 37, 2) := by decide +kernel
theorem d_M_pattern_153 : decode m_M_pattern.2.1 153 = .ok (.isub, 1) := by decide +kernel
theorem d_M_pattern_154 : decode m_M_pattern.2.1 154 = .ok (.iaload, 1) := by decide +kernel
theorem d_M_pattern_155 : decode m_M_pattern.2.1 155 = .ok (.goto 4, 3) := by decide +kernel
theorem d_M_pattern_158 : decode m_M_pattern.2.1 158 = .ok (.iconst 0, 1) := by decide +kernel
theorem d_M_pattern_159 : decode m_M_pattern.2.1 159 = .ok (.ireturn, 1) := by decide +kernel
theorem d_M_pixel_0 : decode m_M_pixel.2.1 0 = .ok (.aload_n 0, 1) := by decide +kernel
theorem d_M_pixel_1 : decode m_M_pixel.2.1 1 = .ok (.iconst 0, 1) := by decide +kernel
theorem d_M_pixel_2 : decode m_M_pixel.2.1 2 = .ok (.putfield 242, 3) := by decide +kernel
theorem d_M_pixel_5 : decode m_M_pixel.2.1 5 = .ok (.iload_n 1, 1) := by decide +kernel
theorem d_M_pixel_6 : decode m_M_pixel.2.1 6 = .ok (.ifCond .lt 23, 3) := by decide +kernel
theorem d_M_pixel_9 : decode m_M_pixel.2.1 9 = .ok (.iload_n 1, 1) := by decide +kernel
theorem d_M_pixel_10 : decode m_M_pixel.2.1 10 = .ok (.aload_n 0, 1) := by decide +kernel
theorem d_M_pixel_11 : decode m_M_pixel.2.1 11 = .ok (.getfield 236, 3) := by decide +kernel
theorem d_M_pixel_14 : decode m_M_pixel.2.1 14 = .ok (.if_icmp .ge 15, 3) := by decide +kernel
theorem d_M_pixel_17 : decode m_M_pixel.2.1 17 = .ok (.iload_n 2, 1) := by decide +kernel
theorem d_M_pixel_18 : decode m_M_pixel.2.1 18 = .ok (.ifCond .lt 11, 3) := by decide +kernel
theorem d_M_pixel_21 : decode m_M_pixel.2.1 21 = .ok (.iload_n 2, 1) := by decide +kernel
theorem d_M_pixel_22 : decode m_M_pixel.2.1 22 = .ok (.aload_n 0, 1) := by decide +kernel
theorem d_M_pixel_23 : decode m_M_pixel.2.1 23 = .ok (.getfield 239, 3) := by decide +kernel
theorem d_M_pixel_26 : decode m_M_pixel.2.1 26 = .ok (.if_icmp .lt 7, 3) := by decide +kernel
theorem d_M_pixel_29 : decode m_M_pixel.2.1 29 = .ok (.iconst (-1), 1) := by decide +kernel
theorem d_M_pixel_30 : decode m_M_pixel.2.1 30 = .ok (.goto 14, 3) := by decide +kernel
theorem d_M_pixel_33 : decode m_M_pixel.2.1 33 = .ok (.aload_n 0, 1) := by decide +kernel
theorem d_M_pixel_34 : decode m_M_pixel.2.1 34 = .ok (.getfield 71, 3) := by decide +kernel
theorem d_M_pixel_37 : decode m_M_pixel.2.1 37 = .ok (.bipush 24, 2) := by decide +kernel
theorem d_M_pixel_39 : decode m_M_pixel.2.1 39 = .ok (.iload_n 2, 1) := by decide +kernel
theorem d_M_pixel_40 : decode m_M_pixel.2.1 40 = .ok (.imul, 1) := by decide +kernel
theorem d_M_pixel_41 : decode m_M_pixel.2.1 41 = .ok (.iload_n 1, 1) := by decide +kernel
theorem d_M_pixel_42 : decode m_M_pixel.2.1 42 = .ok (.iadd, 1) := by decide +kernel
theorem d_M_pixel_43 : decode m_M_pixel.2.1 43 = .ok (.iaload, 1) := by decide +kernel
theorem d_M_pixel_44 : decode m_M_pixel.2.1 44 = .ok (.ireturn, 1) := by decide +kernel
theorem d_M_point_0 : decode m_M_point.2.1 0 = .ok (.aload_n 0, 1) := by decide +kernel
theorem d_M_point_1 : decode m_M_point.2.1 1 = .ok (.getfield 78, 3) := by decide +kernel
theorem d_M_point_4 : decode m_M_point.2.1 4 = .ok (.aload_n 0, 1) := by decide +kernel
theorem d_M_point_5 : decode m_M_point.2.1 5 = .ok (.getfield 547, 3) := by decide +kernel
theorem d_M_point_8 : decode m_M_point.2.1 8 = .ok (.dload_n 1, 1) := by decide +kernel
theorem d_M_point_9 : decode m_M_point.2.1 9 = .ok (.dastore, 1) := by decide +kernel
theorem d_M_point_10 : decode m_M_point.2.1 10 = .ok (.aload_n 0, 1) := by decide +kernel
theorem d_M_point_11 : decode m_M_point.2.1 11 = .ok (.getfield 81, 3) := by decide +kernel
theorem d_M_point_14 : decode m_M_point.2.1 14 = .ok (.aload_n 0, 1) := by decide +kernel
theorem d_M_point_15 : decode m_M_point.2.1 15 = .ok (.getfield 547, 3) := by decide +kernel
theorem d_M_point_18 : decode m_M_point.2.1 18 = .ok (.dload_n 3, 1) := by decide +kernel
theorem d_M_point_19 : decode m_M_point.2.1 19 = .ok (.dastore, 1) := by decide +kernel
theorem d_M_point_20 : decode m_M_point.2.1 20 = .ok (.aload_n 0, 1) := by decide +kernel
theorem d_M_point_21 : decode m_M_point.2.1 21 = .ok (.getfield 84, 3) := by decide +kernel
theorem d_M_point_24 : decode m_M_point.2.1 24 = .ok (.aload_n 0, 1) := by decide +kernel
theorem d_M_point_25 : decode m_M_point.2.1 25 = .ok (.getfield 547, 3) := by decide +kernel
theorem d_M_point_28 : decode m_M_point.2.1 28 = .ok (.iload 5, 2) := by decide +kernel
theorem d_M_point_30 : decode m_M_point.2.1 30 = .ok (.iastore, 1) := by decide +kernel
theorem d_M_point_31 : decode m_M_point.2.1 31 = .ok (.aload_n 0, 1) := by decide +kernel
theorem d_M_point_32 : decode m_M_point.2.1 32 = .ok (.dup, 1) := by decide +kernel
theorem d_M_point_33 : decode m_M_point.2.1 33 = .ok (.getfield 547, 3) := by decide +kernel
theorem d_M_point_36 : decode m_M_point.2.1 36 = .ok (.iconst 1, 1) := by decide +kernel
theorem d_M_point_37 : decode m_M_point.2.1 37 = .ok (.iadd, 1) := by decide +kernel
theorem d_M_point_38 : decode m_M_point.2.1 38 = .ok (.putfield 547, 3) := by decide +kernel
theorem d_M_point_41 : decode m_M_point.2.1 41 = .ok (.iconst 0, 1) := by decide +kernel
theorem d_M_point_42 : decode m_M_point.2.1 42 = .ok (.ireturn, 1) := by decide +kernel
theorem d_M_set_0 : decode m_M_set.2.1 0 = .ok (.aload_n 0, 1) := by decide +kernel
theorem d_M_set_1 : decode m_M_set.2.1 1 = .ok (.getfield 7, 3) := by decide +kernel
theorem d_M_set_4 : decode m_M_set.2.1 4 = .ok (.iload_n 1, 1) := by decide +kernel
theorem d_M_set_5 : decode m_M_set.2.1 5 = .ok (.iload_n 2, 1) := by decide +kernel
theorem d_M_set_6 : decode m_M_set.2.1 6 = .ok (.iastore, 1) := by decide +kernel
theorem d_M_set_7 : decode m_M_set.2.1 7 = .ok (.aload_n 0, 1) := by decide +kernel
theorem d_M_set_8 : decode m_M_set.2.1 8 = .ok (.getfield 13, 3) := by decide +kernel
theorem d_M_set_11 : decode m_M_set.2.1 11 = .ok (.iload_n 1, 1) := by decide +kernel
theorem d_M_set_12 : decode m_M_set.2.1 12 = .ok (.lload_n 3, 1) := by decide +kernel
theorem d_M_set_13 : decode m_M_set.2.1 13 = .ok (.lastore, 1) := by decide +kernel
theorem d_M_set_14 : decode m_M_set.2.1 14 = .ok (.aload_n 0, 1) := by decide +kernel
theorem d_M_set_15 : decode m_M_set.2.1 15 = .ok (.getfield 17, 3) := by decide +kernel
theorem d_M_set_18 : decode m_M_set.2.1 18 = .ok (.iload_n 1, 1) := by decide +kernel
theorem d_M_set_19 : decode m_M_set.2.1 19 = .ok (.dconst 0, 1) := by decide +kernel
theorem d_M_set_20 : decode m_M_set.2.1 20 = .ok (.dastore, 1) := by decide +kernel
theorem d_M_set_21 : decode m_M_set.2.1 21 = .ok (.return_, 1) := by decide +kernel
theorem d_M_step_0 : decode m_M_step.2.1 0 = .ok (.aload_n 0, 1) := by decide +kernel
theorem d_M_step_1 : decode m_M_step.2.1 1 = .ok (.getfield 356, 3) := by decide +kernel
theorem d_M_step_4 : decode m_M_step.2.1 4 = .ok (.aload_n 0, 1) := by decide +kernel
theorem d_M_step_5 : decode m_M_step.2.1 5 = .ok (.getfield 359, 3) := by decide +kernel
theorem d_M_step_8 : decode m_M_step.2.1 8 = .ok (.if_icmp .ne 6, 3) := by decide +kernel
theorem d_M_step_11 : decode m_M_step.2.1 11 = .ok (.bipush 16, 2) := by decide +kernel
theorem d_M_step_13 : decode m_M_step.2.1 13 = .ok (.ireturn, 1) := by decide +kernel
theorem d_M_step_14 : decode m_M_step.2.1 14 = .ok (.aload_n 0, 1) := by decide +kernel
theorem d_M_step_15 : decode m_M_step.2.1 15 = .ok (.dup, 1) := by decide +kernel
theorem d_M_step_16 : decode m_M_step.2.1 16 = .ok (.getfield 356, 3) := by decide +kernel
theorem d_M_step_19 : decode m_M_step.2.1 19 = .ok (.iconst 1, 1) := by decide +kernel
theorem d_M_step_20 : decode m_M_step.2.1 20 = .ok (.iadd, 1) := by decide +kernel
theorem d_M_step_21 : decode m_M_step.2.1 21 = .ok (.putfield 356, 3) := by decide +kernel
theorem d_M_step_24 : decode m_M_step.2.1 24 = .ok (.iconst 0, 1) := by decide +kernel
theorem d_M_step_25 : decode m_M_step.2.1 25 = .ok (.ireturn, 1) := by decide +kernel
theorem d_M_steps_0 : decode m_M_steps.2.1 0 = .ok (.aload_n 0, 1) := by decide +kernel
theorem d_M_steps_1 : decode m_M_steps.2.1 1 = .ok (.iconst 0, 1) := by decide +kernel
theorem d_M_steps_2 : decode m_M_steps.2.1 2 = .ok (.putfield 242, 3) := by decide +kernel
theorem d_M_steps_5 : decode m_M_steps.2.1 5 = .ok (.aload_n 0, 1) := by decide +kernel
theorem d_M_steps_6 : decode m_M_steps.2.1 6 = .ok (.getfield 356, 3) := by decide +kernel
theorem d_M_steps_9 : decode m_M_steps.2.1 9 = .ok (.ireturn, 1) := by decide +kernel
theorem d_M_thrown_0 : decode m_M_thrown.2.1 0 = .ok (.aload_n 0, 1) := by decide +kernel
theorem d_M_thrown_1 : decode m_M_thrown.2.1 1 = .ok (.getfield 242, 3) := by decide +kernel
theorem d_M_thrown_4 : decode m_M_thrown.2.1 4 = .ok (.ireturn, 1) := by decide +kernel
theorem d_M_topMark_0 : decode m_M_topMark.2.1 0 = .ok (.aload_n 0, 1) := by decide +kernel
theorem d_M_topMark_1 : decode m_M_topMark.2.1 1 = .ok (.getfield 247, 3) := by decide +kernel
theorem d_M_topMark_4 : decode m_M_topMark.2.1 4 = .ok (.iconst 1, 1) := by decide +kernel
theorem d_M_topMark_5 : decode m_M_topMark.2.1 5 = .ok (.isub, 1) := by decide +kernel
theorem d_M_topMark_6 : decode m_M_topMark.2.1 6 = .ok (.istore_n 1, 1) := by decide +kernel
theorem d_M_topMark_7 : decode m_M_topMark.2.1 7 = .ok (.iload_n 1, 1) := by decide +kernel
theorem d_M_topMark_8 : decode m_M_topMark.2.1 8 = .ok (.ifCond .lt 19, 3) := by decide +kernel
theorem d_M_topMark_11 : decode m_M_topMark.2.1 11 = .ok (.aload_n 0, 1) := by decide +kernel
theorem d_M_topMark_12 : decode m_M_topMark.2.1 12 = .ok (.getfield 7, 3) := by decide +kernel
theorem d_M_topMark_15 : decode m_M_topMark.2.1 15 = .ok (.iload_n 1, 1) := by decide +kernel
theorem d_M_topMark_16 : decode m_M_topMark.2.1 16 = .ok (.iaload, 1) := by decide +kernel
theorem d_M_topMark_17 : decode m_M_topMark.2.1 17 = .ok (.iconst 4, 1) := by decide +kernel
theorem d_M_topMark_18 : decode m_M_topMark.2.1 18 = .ok (.if_icmp .eq 9, 3) := by decide +kernel
theorem d_M_topMark_21 : decode m_M_topMark.2.1 21 = .ok (.iinc 1 (-1), 3) := by decide +kernel
theorem d_M_topMark_24 : decode m_M_topMark.2.1 24 = .ok (.goto (-17), 3) := by decide +kernel
theorem d_M_topMark_27 : decode m_M_topMark.2.1 27 = .ok (.iload_n 1, 1) := by decide +kernel
theorem d_M_topMark_28 : decode m_M_topMark.2.1 28 = .ok (.ireturn, 1) := by decide +kernel
theorem d_M_used_0 : decode m_M_used.2.1 0 = .ok (.aload_n 0, 1) := by decide +kernel
theorem d_M_used_1 : decode m_M_used.2.1 1 = .ok (.iconst 0, 1) := by decide +kernel
theorem d_M_used_2 : decode m_M_used.2.1 2 = .ok (.putfield 242, 3) := by decide +kernel
theorem d_M_used_5 : decode m_M_used.2.1 5 = .ok (.iconst 0, 1) := by decide +kernel
theorem d_M_used_6 : decode m_M_used.2.1 6 = .ok (.istore_n 2, 1) := by decide +kernel
theorem d_M_used_7 : decode m_M_used.2.1 7 = .ok (.iconst 1, 1) := by decide +kernel
theorem d_M_used_8 : decode m_M_used.2.1 8 = .ok (.istore_n 3, 1) := by decide +kernel
theorem d_M_used_9 : decode m_M_used.2.1 9 = .ok (.iload_n 3, 1) := by decide +kernel
theorem d_M_used_10 : decode m_M_used.2.1 10 = .ok (.bipush 7, 2) := by decide +kernel
theorem d_M_used_12 : decode m_M_used.2.1 12 = .ok (.if_icmp .ge 26, 3) := by decide +kernel
theorem d_M_used_15 : decode m_M_used.2.1 15 = .ok (.iload_n 2, 1) := by decide +kernel
theorem d_M_used_16 : decode m_M_used.2.1 16 = .ok (.aload_n 0, 1) := by decide +kernel
theorem d_M_used_17 : decode m_M_used.2.1 17 = .ok (.getfield 27, 3) := by decide +kernel
theorem d_M_used_20 : decode m_M_used.2.1 20 = .ok (.iload_n 3, 1) := by decide +kernel
theorem d_M_used_21 : decode m_M_used.2.1 21 = .ok (.iaload, 1) := by decide +kernel
theorem d_M_used_22 : decode m_M_used.2.1 22 = .ok (.ifCond .le 7, 3) := by decide +kernel
theorem d_M_used_25 : decode m_M_used.2.1 25 = .ok (.iconst 1, 1) := by decide +kernel
theorem d_M_used_26 : decode m_M_used.2.1 26 = .ok (.goto 4, 3) := by decide +kernel
theorem d_M_used_29 : decode m_M_used.2.1 29 = .ok (.iconst 0, 1) := by decide +kernel
theorem d_M_used_30 : decode m_M_used.2.1 30 = .ok (.iadd, 1) := by decide +kernel
theorem d_M_used_31 : decode m_M_used.2.1 31 = .ok (.istore_n 2, 1) := by decide +kernel
theorem d_M_used_32 : decode m_M_used.2.1 32 = .ok (.iinc 3 1, 3) := by decide +kernel
theorem d_M_used_35 : decode m_M_used.2.1 35 = .ok (.goto (-26), 3) := by decide +kernel
theorem d_M_used_38 : decode m_M_used.2.1 38 = .ok (.iload_n 1, 1) := by decide +kernel
theorem d_M_used_39 : decode m_M_used.2.1 39 = .ok (.ifCond .ne 10, 3) := by decide +kernel
theorem d_M_used_42 : decode m_M_used.2.1 42 = .ok (.aload_n 0, 1) := by decide +kernel
theorem d_M_used_43 : decode m_M_used.2.1 43 = .ok (.getfield 325, 3) := by decide +kernel
theorem d_M_used_46 : decode m_M_used.2.1 46 = .ok (.goto 74, 3) := by decide +kernel
theorem d_M_used_49 : decode m_M_used.2.1 49 = .ok (.iload_n 1, 1) := by decide +kernel
theorem d_M_used_50 : decode m_M_used.2.1 50 = .ok (.iconst 1, 1) := by decide +kernel
theorem d_M_used_51 : decode m_M_used.2.1 51 = .ok (.if_icmp .ne 7, 3) := by decide +kernel
theorem d_M_used_54 : decode m_M_used.2.1 54 = .ok (.iload_n 2, 1) := by decide +kernel
theorem d_M_used_55 : decode m_M_used.2.1 55 = .ok (.goto 65, 3) := by decide +kernel
theorem d_M_used_58 : decode m_M_used.2.1 58 = .ok (.iload_n 1, 1) := by decide +kernel
theorem d_M_used_59 : decode m_M_used.2.1 59 = .ok (.iconst 2, 1) := by decide +kernel
theorem d_M_used_60 : decode m_M_used.2.1 60 = .ok (.if_icmp .ne 10, 3) := by decide +kernel
theorem d_M_used_63 : decode m_M_used.2.1 63 = .ok (.aload_n 0, 1) := by decide +kernel
theorem d_M_used_64 : decode m_M_used.2.1 64 = .ok (.getfield 33, 3) := by decide +kernel
theorem d_M_used_67 : decode m_M_used.2.1 67 = .ok (.goto 53, 3) := by decide +kernel
theorem d_M_used_70 : decode m_M_used.2.1 70 = .ok (.iload_n 1, 1) := by decide +kernel
theorem d_M_used_71 : decode m_M_used.2.1 71 = .ok (.iconst 3, 1) := by decide +kernel
theorem d_M_used_72 : decode m_M_used.2.1 72 = .ok (.if_icmp .ne 10, 3) := by decide +kernel
theorem d_M_used_75 : decode m_M_used.2.1 75 = .ok (.aload_n 0, 1) := by decide +kernel
theorem d_M_used_76 : decode m_M_used.2.1 76 = .ok (.getfield 534, 3) := by decide +kernel
theorem d_M_used_79 : decode m_M_used.2.1 79 = .ok (.goto 41, 3) := by decide +kernel
theorem d_M_used_82 : decode m_M_used.2.1 82 = .ok (.iload_n 1, 1) := by decide +kernel
theorem d_M_used_83 : decode m_M_used.2.1 83 = .ok (.iconst 4, 1) := by decide +kernel
theorem d_M_used_84 : decode m_M_used.2.1 84 = .ok (.if_icmp .ne 10, 3) := by decide +kernel
theorem d_M_used_87 : decode m_M_used.2.1 87 = .ok (.aload_n 0, 1) := by decide +kernel
theorem d_M_used_88 : decode m_M_used.2.1 88 = .ok (.getfield 547, 3) := by decide +kernel
theorem d_M_used_91 : decode m_M_used.2.1 91 = .ok (.goto 29, 3) := by decide +kernel
theorem d_M_used_94 : decode m_M_used.2.1 94 = .ok (.iload_n 1, 1) := by decide +kernel
theorem d_M_used_95 : decode m_M_used.2.1 95 = .ok (.iconst 5, 1) := by decide +kernel
theorem d_M_used_96 : decode m_M_used.2.1 96 = .ok (.if_icmp .ne 10, 3) := by decide +kernel
theorem d_M_used_99 : decode m_M_used.2.1 99 = .ok (.aload_n 0, 1) := by decide +kernel
theorem d_M_used_100 : decode m_M_used.2.1 100 = .ok (.getfield 311, 3) := by decide +kernel
theorem d_M_used_103 : decode m_M_used.2.1 103 = .ok (.goto 17, 3) := by decide +kernel
theorem d_M_used_106 : decode m_M_used.2.1 106 = .ok (.iload_n 1, 1) := by decide +kernel
theorem d_M_used_107 : decode m_M_used.2.1 107 = .ok (.bipush 6, 2) := by decide +kernel
theorem d_M_used_109 : decode m_M_used.2.1 109 = .ok (.if_icmp .ne 10, 3) := by decide +kernel
theorem d_M_used_112 : decode m_M_used.2.1 112 = .ok (.aload_n 0, 1) := by decide +kernel
theorem d_M_used_113 : decode m_M_used.2.1 113 = .ok (.getfield 270, 3) := by decide +kernel
theorem d_M_used_116 : decode m_M_used.2.1 116 = .ok (.goto 4, 3) := by decide +kernel
theorem d_M_used_119 : decode m_M_used.2.1 119 = .ok (.iconst (-1), 1) := by decide +kernel
theorem d_M_used_120 : decode m_M_used.2.1 120 = .ok (.ireturn, 1) := by decide +kernel
theorem d_M_whole_0 : decode m_M_whole.2.1 0 = .ok (.lconst 0, 1) := by decide +kernel
theorem d_M_whole_1 : decode m_M_whole.2.1 1 = .ok (.lstore_n 3, 1) := by decide +kernel
theorem d_M_whole_2 : decode m_M_whole.2.1 2 = .ok (.iconst 0, 1) := by decide +kernel
theorem d_M_whole_3 : decode m_M_whole.2.1 3 = .ok (.istore 5, 2) := by decide +kernel
theorem d_M_whole_5 : decode m_M_whole.2.1 5 = .ok (.iload 5, 2) := by decide +kernel
theorem d_M_whole_7 : decode m_M_whole.2.1 7 = .ok (.iload_n 2, 1) := by decide +kernel
theorem d_M_whole_8 : decode m_M_whole.2.1 8 = .ok (.if_icmp .ge 30, 3) := by decide +kernel
theorem d_M_whole_11 : decode m_M_whole.2.1 11 = .ok (.ldc2_w 277, 3) := by decide +kernel
theorem d_M_whole_14 : decode m_M_whole.2.1 14 = .ok (.lload_n 3, 1) := by decide +kernel
theorem d_M_whole_15 : decode m_M_whole.2.1 15 = .ok (.lmul, 1) := by decide +kernel
theorem d_M_whole_16 : decode m_M_whole.2.1 16 = .ok (.aload_n 0, 1) := by decide +kernel
theorem d_M_whole_17 : decode m_M_whole.2.1 17 = .ok (.getfield 61, 3) := by decide +kernel
theorem d_M_whole_20 : decode m_M_whole.2.1 20 = .ok (.iload_n 1, 1) := by decide +kernel
theorem d_M_whole_21 : decode m_M_whole.2.1 21 = .ok (.iload 5, 2) := by decide +kernel
theorem d_M_whole_23 : decode m_M_whole.2.1 23 = .ok (.iadd, 1) := by decide +kernel
theorem d_M_whole_24 : decode m_M_whole.2.1 24 = .ok (.caload, 1) := by decide +kernel
theorem d_M_whole_25 : decode m_M_whole.2.1 25 = .ok (.i2l, 1) := by decide +kernel
theorem d_M_whole_26 : decode m_M_whole.2.1 26 = .ok (.ladd, 1) := by decide +kernel
theorem d_M_whole_27 : decode m_M_whole.2.1 27 = .ok (.ldc2_w 279, 3) := by decide +kernel
theorem d_M_whole_30 : decode m_M_whole.2.1 30 = .ok (.lsub, 1) := by decide +kernel
theorem d_M_whole_31 : decode m_M_whole.2.1 31 = .ok (.lstore_n 3, 1) := by decide +kernel
theorem d_M_whole_32 : decode m_M_whole.2.1 32 = .ok (.iinc 5 1, 3) := by decide +kernel
theorem d_M_whole_35 : decode m_M_whole.2.1 35 = .ok (.goto (-30), 3) := by decide +kernel
theorem d_M_whole_38 : decode m_M_whole.2.1 38 = .ok (.lload_n 3, 1) := by decide +kernel
theorem d_M_whole_39 : decode m_M_whole.2.1 39 = .ok (.lreturn, 1) := by decide +kernel
theorem d_M_write_0 : decode m_M_write.2.1 0 = .ok (.aload_n 0, 1) := by decide +kernel
theorem d_M_write_1 : decode m_M_write.2.1 1 = .ok (.iconst 0, 1) := by decide +kernel
theorem d_M_write_2 : decode m_M_write.2.1 2 = .ok (.putfield 242, 3) := by decide +kernel
theorem d_M_write_5 : decode m_M_write.2.1 5 = .ok (.iconst 0, 1) := by decide +kernel
theorem d_M_write_6 : decode m_M_write.2.1 6 = .ok (.istore_n 3, 1) := by decide +kernel
theorem d_M_write_7 : decode m_M_write.2.1 7 = .ok (.iconst 0, 1) := by decide +kernel
theorem d_M_write_8 : decode m_M_write.2.1 8 = .ok (.istore 4, 2) := by decide +kernel
theorem d_M_write_10 : decode m_M_write.2.1 10 = .ok (.iload 4, 2) := by decide +kernel
theorem d_M_write_12 : decode m_M_write.2.1 12 = .ok (.bipush 8, 2) := by decide +kernel
theorem d_M_write_14 : decode m_M_write.2.1 14 = .ok (.if_icmp .ge 57, 3) := by decide +kernel
theorem d_M_write_17 : decode m_M_write.2.1 17 = .ok (.lload_n 1, 1) := by decide +kernel
theorem d_M_write_18 : decode m_M_write.2.1 18 = .ok (.bipush 8, 2) := by decide +kernel
theorem d_M_write_20 : decode m_M_write.2.1 20 = .ok (.iload 4, 2) := by decide +kernel
theorem d_M_write_22 : decode m_M_write.2.1 22 = .ok (.imul, 1) := by decide +kernel
theorem d_M_write_23 : decode m_M_write.2.1 23 = .ok (.lshr, 1) := by decide +kernel
theorem d_M_write_24 : decode m_M_write.2.1 24 = .ok (.ldc2_w 564, 3) := by decide +kernel
theorem d_M_write_27 : decode m_M_write.2.1 27 = .ok (.land, 1) := by decide +kernel
theorem d_M_write_28 : decode m_M_write.2.1 28 = .ok (.l2i, 1) := by decide +kernel
theorem d_M_write_29 : decode m_M_write.2.1 29 = .ok (.istore 5, 2) := by decide +kernel
theorem d_M_write_31 : decode m_M_write.2.1 31 = .ok (.iload 5, 2) := by decide +kernel
theorem d_M_write_33 : decode m_M_write.2.1 33 = .ok (.ifCond .eq 19, 3) := by decide +kernel
theorem d_M_write_36 : decode m_M_write.2.1 36 = .ok (.iload 5, 2) := by decide +kernel
theorem d_M_write_38 : decode m_M_write.2.1 38 = .ok (.bipush 32, 2) := by decide +kernel
theorem d_M_write_40 : decode m_M_write.2.1 40 = .ok (.if_icmp .lt 10, 3) := by decide +kernel
theorem d_M_write_43 : decode m_M_write.2.1 43 = .ok (.iload 5, 2) := by decide +kernel
theorem d_M_write_45 : decode m_M_write.2.1 45 = .ok (.bipush 126, 2) := by decide +kernel
theorem d_M_write_47 : decode m_M_write.2.1 47 = .ok (.if_icmp .le 5, 3) := by decide +kernel
theorem d_M_write_50 : decode m_M_write.2.1 50 = .ok (.iconst 0, 1) := by decide +kernel
theorem d_M_write_51 : decode m_M_write.2.1 51 = .ok (.ireturn, 1) := by decide +kernel
theorem d_M_write_52 : decode m_M_write.2.1 52 = .ok (.iload_n 3, 1) := by decide +kernel
theorem d_M_write_53 : decode m_M_write.2.1 53 = .ok (.iload 5, 2) := by decide +kernel
theorem d_M_write_55 : decode m_M_write.2.1 55 = .ok (.ifCond .ne 7, 3) := by decide +kernel
theorem d_M_write_58 : decode m_M_write.2.1 58 = .ok (.iconst 0, 1) := by decide +kernel
theorem d_M_write_59 : decode m_M_write.2.1 59 = .ok (.goto 4, 3) := by decide +kernel
theorem d_M_write_62 : decode m_M_write.2.1 62 = .ok (.iconst 1, 1) := by decide +kernel
theorem d_M_write_63 : decode m_M_write.2.1 63 = .ok (.iadd, 1) := by decide +kernel
theorem d_M_write_64 : decode m_M_write.2.1 64 = .ok (.istore_n 3, 1) := by decide +kernel
theorem d_M_write_65 : decode m_M_write.2.1 65 = .ok (.iinc 4 1, 3) := by decide +kernel
theorem d_M_write_68 : decode m_M_write.2.1 68 = .ok (.goto (-58), 3) := by decide +kernel
theorem d_M_write_71 : decode m_M_write.2.1 71 = .ok (.aload_n 0, 1) := by decide +kernel
theorem d_M_write_72 : decode m_M_write.2.1 72 = .ok (.getfield 270, 3) := by decide +kernel
theorem d_M_write_75 : decode m_M_write.2.1 75 = .ok (.iload_n 3, 1) := by decide +kernel
theorem d_M_write_76 : decode m_M_write.2.1 76 = .ok (.iadd, 1) := by decide +kernel
theorem d_M_write_77 : decode m_M_write.2.1 77 = .ok (.bipush 120, 2) := by decide +kernel
theorem d_M_write_79 : decode m_M_write.2.1 79 = .ok (.if_icmp .le 5, 3) := by decide +kernel
theorem d_M_write_82 : decode m_M_write.2.1 82 = .ok (.iconst 0, 1) := by decide +kernel
theorem d_M_write_83 : decode m_M_write.2.1 83 = .ok (.ireturn, 1) := by decide +kernel
theorem d_M_write_84 : decode m_M_write.2.1 84 = .ok (.bipush 7, 2) := by decide +kernel
theorem d_M_write_86 : decode m_M_write.2.1 86 = .ok (.istore 4, 2) := by decide +kernel
theorem d_M_write_88 : decode m_M_write.2.1 88 = .ok (.iload 4, 2) := by decide +kernel
theorem d_M_write_90 : decode m_M_write.2.1 90 = .ok (.ifCond .lt 50, 3) := by decide +kernel
theorem d_M_write_93 : decode m_M_write.2.1 93 = .ok (.lload_n 1, 1) := by decide +kernel
theorem d_M_write_94 : decode m_M_write.2.1 94 = .ok (.bipush 8, 2) := by decide +kernel
theorem d_M_write_96 : decode m_M_write.2.1 96 = .ok (.iload 4, 2) := by decide +kernel
theorem d_M_write_98 : decode m_M_write.2.1 98 = .ok (.imul, 1) := by decide +kernel
theorem d_M_write_99 : decode m_M_write.2.1 99 = .ok (.lshr, 1) := by decide +kernel
theorem d_M_write_100 : decode m_M_write.2.1 100 = .ok (.ldc2_w 564, 3) := by decide +kernel
theorem d_M_write_103 : decode m_M_write.2.1 103 = .ok (.land, 1) := by decide +kernel
theorem d_M_write_104 : decode m_M_write.2.1 104 = .ok (.l2i, 1) := by decide +kernel
theorem d_M_write_105 : decode m_M_write.2.1 105 = .ok (.istore 5, 2) := by decide +kernel
theorem d_M_write_107 : decode m_M_write.2.1 107 = .ok (.iload 5, 2) := by decide +kernel
theorem d_M_write_109 : decode m_M_write.2.1 109 = .ok (.ifCond .eq 25, 3) := by decide +kernel
theorem d_M_write_112 : decode m_M_write.2.1 112 = .ok (.aload_n 0, 1) := by decide +kernel
theorem d_M_write_113 : decode m_M_write.2.1 113 = .ok (.getfield 61, 3) := by decide +kernel
theorem d_M_write_116 : decode m_M_write.2.1 116 = .ok (.aload_n 0, 1) := by decide +kernel
theorem d_M_write_117 : decode m_M_write.2.1 117 = .ok (.getfield 270, 3) := by decide +kernel
theorem d_M_write_120 : decode m_M_write.2.1 120 = .ok (.iload 5, 2) := by decide +kernel
theorem d_M_write_122 : decode m_M_write.2.1 122 = .ok (.i2c, 1) := by decide +kernel
theorem d_M_write_123 : decode m_M_write.2.1 123 = .ok (.castore, 1) := by decide +kernel
theorem d_M_write_124 : decode m_M_write.2.1 124 = .ok (.aload_n 0, 1) := by decide +kernel
theorem d_M_write_125 : decode m_M_write.2.1 125 = .ok (.dup, 1) := by decide +kernel
theorem d_M_write_126 : decode m_M_write.2.1 126 = .ok (.getfield 270, 3) := by decide +kernel
theorem d_M_write_129 : decode m_M_write.2.1 129 = .ok (.iconst 1, 1) := by decide +kernel
theorem d_M_write_130 : decode m_M_write.2.1 130 = .ok (.iadd, 1) := by decide +kernel
theorem d_M_write_131 : decode m_M_write.2.1 131 = .ok (.putfield 270, 3) := by decide +kernel
theorem d_M_write_134 : decode m_M_write.2.1 134 = .ok (.iinc 4 (-1), 3) := by decide +kernel
theorem d_M_write_137 : decode m_M_write.2.1 137 = .ok (.goto (-49), 3) := by decide +kernel
theorem d_M_write_140 : decode m_M_write.2.1 140 = .ok (.iconst 1, 1) := by decide +kernel
theorem d_M_write_141 : decode m_M_write.2.1 141 = .ok (.ireturn, 1) := by decide +kernel
theorem d_M_again_0 : decode m_M_again.2.1 0 = .ok (.aload_n 0, 1) := by decide +kernel
theorem d_M_again_1 : decode m_M_again.2.1 1 = .ok (.getfield 7, 3) := by decide +kernel
theorem d_M_again_4 : decode m_M_again.2.1 4 = .ok (.bipush 40, 2) := by decide +kernel
theorem d_M_again_6 : decode m_M_again.2.1 6 = .ok (.iaload, 1) := by decide +kernel
theorem d_M_again_7 : decode m_M_again.2.1 7 = .ok (.bipush 11, 2) := by decide +kernel
theorem d_M_again_9 : decode m_M_again.2.1 9 = .ok (.if_icmp .eq 5, 3) := by decide +kernel
theorem d_M_again_12 : decode m_M_again.2.1 12 = .ok (.iconst (-1), 1) := by decide +kernel
theorem d_M_again_13 : decode m_M_again.2.1 13 = .ok (.ireturn, 1) := by decide +kernel
theorem d_M_again_14 : decode m_M_again.2.1 14 = .ok (.aload_n 0, 1) := by decide +kernel
theorem d_M_again_15 : decode m_M_again.2.1 15 = .ok (.getfield 349, 3) := by decide +kernel
theorem d_M_again_18 : decode m_M_again.2.1 18 = .ok (.bipush 8, 2) := by decide +kernel
theorem d_M_again_20 : decode m_M_again.2.1 20 = .ok (.if_icmp .ne 6, 3) := by decide +kernel
theorem d_M_again_23 : decode m_M_again.2.1 23 = .ok (.bipush 12, 2) := by decide +kernel
theorem d_M_again_25 : decode m_M_again.2.1 25 = .ok (.ireturn, 1) := by decide +kernel
theorem d_M_again_26 : decode m_M_again.2.1 26 = .ok (.aload_n 0, 1) := by decide +kernel
theorem d_M_again_27 : decode m_M_again.2.1 27 = .ok (.iconst 2, 1) := by decide +kernel
theorem d_M_again_28 : decode m_M_again.2.1 28 = .ok (.lconst 0, 1) := by decide +kernel
theorem d_M_again_29 : decode m_M_again.2.1 29 = .ok (.invokevirtual 352, 3) := by decide +kernel
theorem d_M_again_32 : decode m_M_again.2.1 32 = .ok (.iconst (-1), 1) := by decide +kernel
theorem d_M_again_33 : decode m_M_again.2.1 33 = .ok (.ireturn, 1) := by decide +kernel
theorem d_M_alike_0 : decode m_M_alike.2.1 0 = .ok (.aload_n 0, 1) := by decide +kernel
theorem d_M_alike_1 : decode m_M_alike.2.1 1 = .ok (.iload_n 1, 1) := by decide +kernel
theorem d_M_alike_2 : decode m_M_alike.2.1 2 = .ok (.invokevirtual 418, 3) := by decide +kernel
theorem d_M_alike_5 : decode m_M_alike.2.1 5 = .ok (.ifCond .eq 31, 3) := by decide +kernel
theorem d_M_alike_8 : decode m_M_alike.2.1 8 = .ok (.aload_n 0, 1) := by decide +kernel
theorem d_M_alike_9 : decode m_M_alike.2.1 9 = .ok (.iload_n 2, 1) := by decide +kernel
theorem d_M_alike_10 : decode m_M_alike.2.1 10 = .ok (.invokevirtual 418, 3) := by decide +kernel
theorem d_M_alike_13 : decode m_M_alike.2.1 13 = .ok (.ifCond .eq 23, 3) := by decide +kernel
theorem d_M_alike_16 : decode m_M_alike.2.1 16 = .ok (.aload_n 0, 1) := by decide +kernel
theorem d_M_alike_17 : decode m_M_alike.2.1 17 = .ok (.iload_n 1, 1) := by decide +kernel
theorem d_M_alike_18 : decode m_M_alike.2.1 18 = .ok (.invokevirtual 473, 3) := by decide +kernel
theorem d_M_alike_21 : decode m_M_alike.2.1 21 = .ok (.aload_n 0, 1) := by decide +kernel
theorem d_M_alike_22 : decode m_M_alike.2.1 22 = .ok (.iload_n 2, 1) := by decide +kernel
theorem d_M_alike_23 : decode m_M_alike.2.1 23 = .ok (.invokevirtual 473, 3) := by decide +kernel
theorem d_M_alike_26 : decode m_M_alike.2.1 26 = .ok (.dcmp .l, 1) := by decide +kernel
theorem d_M_alike_27 : decode m_M_alike.2.1 27 = .ok (.ifCond .ne 7, 3) := by decide +kernel
theorem d_M_alike_30 : decode m_M_alike.2.1 30 = .ok (.iconst 1, 1) := by decide +kernel
theorem d_M_alike_31 : decode m_M_alike.2.1 31 = .ok (.goto 4, 3) := by decide +kernel
theorem d_M_alike_34 : decode m_M_alike.2.1 34 = .ok (.iconst 0, 1) := by decide +kernel
theorem d_M_alike_35 : decode m_M_alike.2.1 35 = .ok (.ireturn, 1) := by decide +kernel
theorem d_M_alike_36 : decode m_M_alike.2.1 36 = .ok (.aload_n 0, 1) := by decide +kernel
theorem d_M_alike_37 : decode m_M_alike.2.1 37 = .ok (.iload_n 1, 1) := by decide +kernel
theorem d_M_alike_38 : decode m_M_alike.2.1 38 = .ok (.invokevirtual 421, 3) := by decide +kernel
theorem d_M_alike_41 : decode m_M_alike.2.1 41 = .ok (.aload_n 0, 1) := by decide +kernel
theorem d_M_alike_42 : decode m_M_alike.2.1 42 = .ok (.iload_n 2, 1) := by decide +kernel
theorem d_M_alike_43 : decode m_M_alike.2.1 43 = .ok (.invokevirtual 421, 3) := by decide +kernel
theorem d_M_alike_46 : decode m_M_alike.2.1 46 = .ok (.if_icmp .eq 5, 3) := by decide +kernel
theorem d_M_alike_49 : decode m_M_alike.2.1 49 = .ok (.iconst 0, 1) := by decide +kernel
theorem d_M_alike_50 : decode m_M_alike.2.1 50 = .ok (.ireturn, 1) := by decide +kernel
theorem d_M_alike_51 : decode m_M_alike.2.1 51 = .ok (.aload_n 0, 1) := by decide +kernel
