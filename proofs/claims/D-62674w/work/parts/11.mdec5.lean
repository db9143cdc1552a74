theorem d_M_single_34 : decode m_M_single.2.1 34 = .ok (.iload_n 2, 1) := by decide +kernel
theorem d_M_single_35 : decode m_M_single.2.1 35 = .ok (.laload, 1) := by decide +kernel
theorem d_M_single_36 : decode m_M_single.2.1 36 = .ok (.lneg, 1) := by decide +kernel
theorem d_M_single_37 : decode m_M_single.2.1 37 = .ok (.invokevirtual 477, 3) := by decide +kernel
theorem d_M_single_40 : decode m_M_single.2.1 40 = .ok (.goto 11, 3) := by decide +kernel
theorem d_M_single_43 : decode m_M_single.2.1 43 = .ok (.aload_n 0, 1) := by decide +kernel
theorem d_M_single_44 : decode m_M_single.2.1 44 = .ok (.iconst 1, 1) := by decide +kernel
theorem d_M_single_45 : decode m_M_single.2.1 45 = .ok (.dconst 0, 1) := by decide +kernel
theorem d_M_single_46 : decode m_M_single.2.1 46 = .ok (.dload_n 3, 1) := by decide +kernel
theorem d_M_single_47 : decode m_M_single.2.1 47 = .ok (.dsub, 1) := by decide +kernel
theorem d_M_single_48 : decode m_M_single.2.1 48 = .ok (.invokevirtual 266, 3) := by decide +kernel
theorem d_M_single_51 : decode m_M_single.2.1 51 = .ok (.ireturn, 1) := by decide +kernel
theorem d_M_single_52 : decode m_M_single.2.1 52 = .ok (.iload_n 1, 1) := by decide +kernel
theorem d_M_single_53 : decode m_M_single.2.1 53 = .ok (.bipush 20, 2) := by decide +kernel
theorem d_M_single_55 : decode m_M_single.2.1 55 = .ok (.if_icmp .ne 10, 3) := by decide +kernel
theorem d_M_single_58 : decode m_M_single.2.1 58 = .ok (.aload_n 0, 1) := by decide +kernel
theorem d_M_single_59 : decode m_M_single.2.1 59 = .ok (.iconst 1, 1) := by decide +kernel
theorem d_M_single_60 : decode m_M_single.2.1 60 = .ok (.dload_n 3, 1) := by decide +kernel
theorem d_M_single_61 : decode m_M_single.2.1 61 = .ok (.invokevirtual 266, 3) := by decide +kernel
theorem d_M_single_64 : decode m_M_single.2.1 64 = .ok (.ireturn, 1) := by decide +kernel
theorem d_M_single_65 : decode m_M_single.2.1 65 = .ok (.aload_n 0, 1) := by decide +kernel
theorem d_M_single_66 : decode m_M_single.2.1 66 = .ok (.getfield 7, 3) := by decide +kernel
theorem d_M_single_69 : decode m_M_single.2.1 69 = .ok (.iload_n 2, 1) := by decide +kernel
theorem d_M_single_70 : decode m_M_single.2.1 70 = .ok (.iaload, 1) := by decide +kernel
theorem d_M_single_71 : decode m_M_single.2.1 71 = .ok (.ifCond .ne 5, 3) := by decide +kernel
theorem d_M_single_74 : decode m_M_single.2.1 74 = .ok (.iconst 0, 1) := by decide +kernel
theorem d_M_single_75 : decode m_M_single.2.1 75 = .ok (.ireturn, 1) := by decide +kernel
theorem d_M_single_76 : decode m_M_single.2.1 76 = .ok (.iload_n 1, 1) := by decide +kernel
theorem d_M_single_77 : decode m_M_single.2.1 77 = .ok (.bipush 17, 2) := by decide +kernel
theorem d_M_single_79 : decode m_M_single.2.1 79 = .ok (.if_icmp .ne 13, 3) := by decide +kernel
theorem d_M_single_82 : decode m_M_single.2.1 82 = .ok (.aload_n 0, 1) := by decide +kernel
theorem d_M_single_83 : decode m_M_single.2.1 83 = .ok (.iconst 1, 1) := by decide +kernel
theorem d_M_single_84 : decode m_M_single.2.1 84 = .ok (.dload_n 3, 1) := by decide +kernel
theorem d_M_single_85 : decode m_M_single.2.1 85 = .ok (.invokestatic 480, 3) := by decide +kernel
theorem d_M_single_88 : decode m_M_single.2.1 88 = .ok (.invokevirtual 266, 3) := by decide +kernel
theorem d_M_single_91 : decode m_M_single.2.1 91 = .ok (.ireturn, 1) := by decide +kernel
theorem d_M_single_92 : decode m_M_single.2.1 92 = .ok (.iload_n 1, 1) := by decide +kernel
theorem d_M_single_93 : decode m_M_single.2.1 93 = .ok (.bipush 18, 2) := by decide +kernel
theorem d_M_single_95 : decode m_M_single.2.1 95 = .ok (.if_icmp .ne 17, 3) := by decide +kernel
theorem d_M_single_98 : decode m_M_single.2.1 98 = .ok (.aload_n 0, 1) := by decide +kernel
theorem d_M_single_99 : decode m_M_single.2.1 99 = .ok (.iconst 1, 1) := by decide +kernel
theorem d_M_single_100 : decode m_M_single.2.1 100 = .ok (.dload_n 3, 1) := by decide +kernel
theorem d_M_single_101 : decode m_M_single.2.1 101 = .ok (.ldc2_w 484, 3) := by decide +kernel
theorem d_M_single_104 : decode m_M_single.2.1 104 = .ok (.dadd, 1) := by decide +kernel
theorem d_M_single_105 : decode m_M_single.2.1 105 = .ok (.invokestatic 480, 3) := by decide +kernel
theorem d_M_single_108 : decode m_M_single.2.1 108 = .ok (.invokevirtual 266, 3) := by decide +kernel
theorem d_M_single_111 : decode m_M_single.2.1 111 = .ok (.ireturn, 1) := by decide +kernel
theorem d_M_single_112 : decode m_M_single.2.1 112 = .ok (.dload_n 3, 1) := by decide +kernel
theorem d_M_single_113 : decode m_M_single.2.1 113 = .ok (.d2l, 1) := by decide +kernel
theorem d_M_single_114 : decode m_M_single.2.1 114 = .ok (.lstore 5, 2) := by decide +kernel
theorem d_M_single_116 : decode m_M_single.2.1 116 = .ok (.lload 5, 2) := by decide +kernel
theorem d_M_single_118 : decode m_M_single.2.1 118 = .ok (.lload 5, 2) := by decide +kernel
theorem d_M_single_120 : decode m_M_single.2.1 120 = .ok (.l2i, 1) := by decide +kernel
theorem d_M_single_121 : decode m_M_single.2.1 121 = .ok (.i2l, 1) := by decide +kernel
theorem d_M_single_122 : decode m_M_single.2.1 122 = .ok (.lcmp, 1) := by decide +kernel
theorem d_M_single_123 : decode m_M_single.2.1 123 = .ok (.ifCond .ne 14, 3) := by decide +kernel
theorem d_M_single_126 : decode m_M_single.2.1 126 = .ok (.aload_n 0, 1) := by decide +kernel
theorem d_M_single_127 : decode m_M_single.2.1 127 = .ok (.iconst 1, 1) := by decide +kernel
theorem d_M_single_128 : decode m_M_single.2.1 128 = .ok (.iconst 0, 1) := by decide +kernel
theorem d_M_single_129 : decode m_M_single.2.1 129 = .ok (.lload 5, 2) := by decide +kernel
theorem d_M_single_131 : decode m_M_single.2.1 131 = .ok (.invokevirtual 262, 3) := by decide +kernel
theorem d_M_single_134 : decode m_M_single.2.1 134 = .ok (.goto 4, 3) := by decide +kernel
theorem d_M_single_137 : decode m_M_single.2.1 137 = .ok (.iconst 4, 1) := by decide +kernel
theorem d_M_single_138 : decode m_M_single.2.1 138 = .ok (.ireturn, 1) := by decide +kernel
theorem d_M_stackOperator_0 : decode m_M_stackOperator.2.1 0 = .ok (.aload_n 0, 1) := by decide +kernel
theorem d_M_stackOperator_1 : decode m_M_stackOperator.2.1 1 = .ok (.getfield 247, 3) := by decide +kernel
theorem d_M_stackOperator_4 : decode m_M_stackOperator.2.1 4 = .ok (.iconst 1, 1) := by decide +kernel
theorem d_M_stackOperator_5 : decode m_M_stackOperator.2.1 5 = .ok (.isub, 1) := by decide +kernel
theorem d_M_stackOperator_6 : decode m_M_stackOperator.2.1 6 = .ok (.istore_n 2, 1) := by decide +kernel
theorem d_M_stackOperator_7 : decode m_M_stackOperator.2.1 7 = .ok (.iload_n 2, 1) := by decide +kernel
theorem d_M_stackOperator_8 : decode m_M_stackOperator.2.1 8 = .ok (.ifCond .ge 7, 3) := by decide +kernel
theorem d_M_stackOperator_11 : decode m_M_stackOperator.2.1 11 = .ok (.lconst 0, 1) := by decide +kernel
theorem d_M_stackOperator_12 : decode m_M_stackOperator.2.1 12 = .ok (.goto 9, 3) := by decide +kernel
theorem d_M_stackOperator_15 : decode m_M_stackOperator.2.1 15 = .ok (.aload_n 0, 1) := by decide +kernel
theorem d_M_stackOperator_16 : decode m_M_stackOperator.2.1 16 = .ok (.getfield 13, 3) := by decide +kernel
theorem d_M_stackOperator_19 : decode m_M_stackOperator.2.1 19 = .ok (.iload_n 2, 1) := by decide +kernel
theorem d_M_stackOperator_20 : decode m_M_stackOperator.2.1 20 = .ok (.laload, 1) := by decide +kernel
theorem d_M_stackOperator_21 : decode m_M_stackOperator.2.1 21 = .ok (.lstore_n 3, 1) := by decide +kernel
theorem d_M_stackOperator_22 : decode m_M_stackOperator.2.1 22 = .ok (.iload_n 1, 1) := by decide +kernel
theorem d_M_stackOperator_23 : decode m_M_stackOperator.2.1 23 = .ok (.lookupswitch 270 #[(0, 89), (1, 101), (2, 127), (3, 133), (4, 203), (5, 231), (6, 245), (7, 252), (8, 263), (70, 263)], 89) := by decide +kernel
theorem d_M_stackOperator_112 : decode m_M_stackOperator.2.1 112 = .ok (.aload_n 0, 1) := by decide +kernel
theorem d_M_stackOperator_113 : decode m_M_stackOperator.2.1 113 = .ok (.dup, 1) := by decide +kernel
theorem d_M_stackOperator_114 : decode m_M_stackOperator.2.1 114 = .ok (.getfield 247, 3) := by decide +kernel
theorem d_M_stackOperator_117 : decode m_M_stackOperator.2.1 117 = .ok (.iconst 1, 1) := by decide +kernel
theorem d_M_stackOperator_118 : decode m_M_stackOperator.2.1 118 = .ok (.isub, 1) := by decide +kernel
theorem d_M_stackOperator_119 : decode m_M_stackOperator.2.1 119 = .ok (.putfield 247, 3) := by decide +kernel
theorem d_M_stackOperator_122 : decode m_M_stackOperator.2.1 122 = .ok (.iconst 0, 1) := by decide +kernel
theorem d_M_stackOperator_123 : decode m_M_stackOperator.2.1 123 = .ok (.ireturn, 1) := by decide +kernel
theorem d_M_stackOperator_124 : decode m_M_stackOperator.2.1 124 = .ok (.aload_n 0, 1) := by decide +kernel
theorem d_M_stackOperator_125 : decode m_M_stackOperator.2.1 125 = .ok (.bipush 41, 2) := by decide +kernel
theorem d_M_stackOperator_127 : decode m_M_stackOperator.2.1 127 = .ok (.iload_n 2, 1) := by decide +kernel
theorem d_M_stackOperator_128 : decode m_M_stackOperator.2.1 128 = .ok (.invokevirtual 254, 3) := by decide +kernel
theorem d_M_stackOperator_131 : decode m_M_stackOperator.2.1 131 = .ok (.aload_n 0, 1) := by decide +kernel
theorem d_M_stackOperator_132 : decode m_M_stackOperator.2.1 132 = .ok (.iload_n 2, 1) := by decide +kernel
theorem d_M_stackOperator_133 : decode m_M_stackOperator.2.1 133 = .ok (.iload_n 2, 1) := by decide +kernel
theorem d_M_stackOperator_134 : decode m_M_stackOperator.2.1 134 = .ok (.iconst 1, 1) := by decide +kernel
theorem d_M_stackOperator_135 : decode m_M_stackOperator.2.1 135 = .ok (.isub, 1) := by decide +kernel
theorem d_M_stackOperator_136 : decode m_M_stackOperator.2.1 136 = .ok (.invokevirtual 254, 3) := by decide +kernel
theorem d_M_stackOperator_139 : decode m_M_stackOperator.2.1 139 = .ok (.aload_n 0, 1) := by decide +kernel
theorem d_M_stackOperator_140 : decode m_M_stackOperator.2.1 140 = .ok (.iload_n 2, 1) := by decide +kernel
theorem d_M_stackOperator_141 : decode m_M_stackOperator.2.1 141 = .ok (.iconst 1, 1) := by decide +kernel
theorem d_M_stackOperator_142 : decode m_M_stackOperator.2.1 142 = .ok (.isub, 1) := by decide +kernel
theorem d_M_stackOperator_143 : decode m_M_stackOperator.2.1 143 = .ok (.bipush 41, 2) := by decide +kernel
theorem d_M_stackOperator_145 : decode m_M_stackOperator.2.1 145 = .ok (.invokevirtual 254, 3) := by decide +kernel
theorem d_M_stackOperator_148 : decode m_M_stackOperator.2.1 148 = .ok (.iconst 0, 1) := by decide +kernel
theorem d_M_stackOperator_149 : decode m_M_stackOperator.2.1 149 = .ok (.ireturn, 1) := by decide +kernel
theorem d_M_stackOperator_150 : decode m_M_stackOperator.2.1 150 = .ok (.aload_n 0, 1) := by decide +kernel
theorem d_M_stackOperator_151 : decode m_M_stackOperator.2.1 151 = .ok (.iload_n 2, 1) := by decide +kernel
theorem d_M_stackOperator_152 : decode m_M_stackOperator.2.1 152 = .ok (.invokevirtual 369, 3) := by decide +kernel
theorem d_M_stackOperator_155 : decode m_M_stackOperator.2.1 155 = .ok (.ireturn, 1) := by decide +kernel
theorem d_M_stackOperator_156 : decode m_M_stackOperator.2.1 156 = .ok (.lload_n 3, 1) := by decide +kernel
theorem d_M_stackOperator_157 : decode m_M_stackOperator.2.1 157 = .ok (.lconst 0, 1) := by decide +kernel
theorem d_M_stackOperator_158 : decode m_M_stackOperator.2.1 158 = .ok (.lcmp, 1) := by decide +kernel
theorem d_M_stackOperator_159 : decode m_M_stackOperator.2.1 159 = .ok (.ifCond .lt 10, 3) := by decide +kernel
theorem d_M_stackOperator_162 : decode m_M_stackOperator.2.1 162 = .ok (.lload_n 3, 1) := by decide +kernel
theorem d_M_stackOperator_163 : decode m_M_stackOperator.2.1 163 = .ok (.iload_n 2, 1) := by decide +kernel
theorem d_M_stackOperator_164 : decode m_M_stackOperator.2.1 164 = .ok (.i2l, 1) := by decide +kernel
theorem d_M_stackOperator_165 : decode m_M_stackOperator.2.1 165 = .ok (.lcmp, 1) := by decide +kernel
theorem d_M_stackOperator_166 : decode m_M_stackOperator.2.1 166 = .ok (.ifCond .le 5, 3) := by decide +kernel
theorem d_M_stackOperator_169 : decode m_M_stackOperator.2.1 169 = .ok (.iconst 4, 1) := by decide +kernel
theorem d_M_stackOperator_170 : decode m_M_stackOperator.2.1 170 = .ok (.ireturn, 1) := by decide +kernel
theorem d_M_stackOperator_171 : decode m_M_stackOperator.2.1 171 = .ok (.iload_n 2, 1) := by decide +kernel
theorem d_M_stackOperator_172 : decode m_M_stackOperator.2.1 172 = .ok (.i2l, 1) := by decide +kernel
theorem d_M_stackOperator_173 : decode m_M_stackOperator.2.1 173 = .ok (.lload_n 3, 1) := by decide +kernel
theorem d_M_stackOperator_174 : decode m_M_stackOperator.2.1 174 = .ok (.ladd, 1) := by decide +kernel
theorem d_M_stackOperator_175 : decode m_M_stackOperator.2.1 175 = .ok (.ldc2_w 461, 3) := by decide +kernel
theorem d_M_stackOperator_178 : decode m_M_stackOperator.2.1 178 = .ok (.lcmp, 1) := by decide +kernel
theorem d_M_stackOperator_179 : decode m_M_stackOperator.2.1 179 = .ok (.ifCond .le 5, 3) := by decide +kernel
theorem d_M_stackOperator_182 : decode m_M_stackOperator.2.1 182 = .ok (.iconst 2, 1) := by decide +kernel
theorem d_M_stackOperator_183 : decode m_M_stackOperator.2.1 183 = .ok (.ireturn, 1) := by decide +kernel
theorem d_M_stackOperator_184 : decode m_M_stackOperator.2.1 184 = .ok (.iconst 0, 1) := by decide +kernel
theorem d_M_stackOperator_185 : decode m_M_stackOperator.2.1 185 = .ok (.istore 5, 2) := by decide +kernel
theorem d_M_stackOperator_187 : decode m_M_stackOperator.2.1 187 = .ok (.iload 5, 2) := by decide +kernel
theorem d_M_stackOperator_189 : decode m_M_stackOperator.2.1 189 = .ok (.i2l, 1) := by decide +kernel
theorem d_M_stackOperator_190 : decode m_M_stackOperator.2.1 190 = .ok (.lload_n 3, 1) := by decide +kernel
theorem d_M_stackOperator_191 : decode m_M_stackOperator.2.1 191 = .ok (.lcmp, 1) := by decide +kernel
theorem d_M_stackOperator_192 : decode m_M_stackOperator.2.1 192 = .ok (.ifCond .ge 24, 3) := by decide +kernel
theorem d_M_stackOperator_195 : decode m_M_stackOperator.2.1 195 = .ok (.aload_n 0, 1) := by decide +kernel
theorem d_M_stackOperator_196 : decode m_M_stackOperator.2.1 196 = .ok (.iload_n 2, 1) := by decide +kernel
theorem d_M_stackOperator_197 : decode m_M_stackOperator.2.1 197 = .ok (.iload 5, 2) := by decide +kernel
theorem d_M_stackOperator_199 : decode m_M_stackOperator.2.1 199 = .ok (.iadd, 1) := by decide +kernel
theorem d_M_stackOperator_200 : decode m_M_stackOperator.2.1 200 = .ok (.iload_n 2, 1) := by decide +kernel
theorem d_M_stackOperator_201 : decode m_M_stackOperator.2.1 201 = .ok (.iload 5, 2) := by decide +kernel
theorem d_M_stackOperator_203 : decode m_M_stackOperator.2.1 203 = .ok (.iadd, 1) := by decide +kernel
theorem d_M_stackOperator_204 : decode m_M_stackOperator.2.1 204 = .ok (.lload_n 3, 1) := by decide +kernel
theorem d_M_stackOperator_205 : decode m_M_stackOperator.2.1 205 = .ok (.l2i, 1) := by decide +kernel
theorem d_M_stackOperator_206 : decode m_M_stackOperator.2.1 206 = .ok (.isub, 1) := by decide +kernel
theorem d_M_stackOperator_207 : decode m_M_stackOperator.2.1 207 = .ok (.invokevirtual 254, 3) := by decide +kernel
theorem d_M_stackOperator_210 : decode m_M_stackOperator.2.1 210 = .ok (.iinc 5 1, 3) := by decide +kernel
theorem d_M_stackOperator_213 : decode m_M_stackOperator.2.1 213 = .ok (.goto (-26), 3) := by decide +kernel
theorem d_M_stackOperator_216 : decode m_M_stackOperator.2.1 216 = .ok (.aload_n 0, 1) := by decide +kernel
theorem d_M_stackOperator_217 : decode m_M_stackOperator.2.1 217 = .ok (.iload_n 2, 1) := by decide +kernel
theorem d_M_stackOperator_218 : decode m_M_stackOperator.2.1 218 = .ok (.lload_n 3, 1) := by decide +kernel
theorem d_M_stackOperator_219 : decode m_M_stackOperator.2.1 219 = .ok (.l2i, 1) := by decide +kernel
theorem d_M_stackOperator_220 : decode m_M_stackOperator.2.1 220 = .ok (.iadd, 1) := by decide +kernel
theorem d_M_stackOperator_221 : decode m_M_stackOperator.2.1 221 = .ok (.putfield 247, 3) := by decide +kernel
theorem d_M_stackOperator_224 : decode m_M_stackOperator.2.1 224 = .ok (.iconst 0, 1) := by decide +kernel
theorem d_M_stackOperator_225 : decode m_M_stackOperator.2.1 225 = .ok (.ireturn, 1) := by decide +kernel
theorem d_M_stackOperator_226 : decode m_M_stackOperator.2.1 226 = .ok (.lload_n 3, 1) := by decide +kernel
theorem d_M_stackOperator_227 : decode m_M_stackOperator.2.1 227 = .ok (.lconst 0, 1) := by decide +kernel
theorem d_M_stackOperator_228 : decode m_M_stackOperator.2.1 228 = .ok (.lcmp, 1) := by decide +kernel
theorem d_M_stackOperator_229 : decode m_M_stackOperator.2.1 229 = .ok (.ifCond .lt 10, 3) := by decide +kernel
theorem d_M_stackOperator_232 : decode m_M_stackOperator.2.1 232 = .ok (.lload_n 3, 1) := by decide +kernel
theorem d_M_stackOperator_233 : decode m_M_stackOperator.2.1 233 = .ok (.iload_n 2, 1) := by decide +kernel
theorem d_M_stackOperator_234 : decode m_M_stackOperator.2.1 234 = .ok (.i2l, 1) := by decide +kernel
theorem d_M_stackOperator_235 : decode m_M_stackOperator.2.1 235 = .ok (.lcmp, 1) := by decide +kernel
theorem d_M_stackOperator_236 : decode m_M_stackOperator.2.1 236 = .ok (.ifCond .lt 5, 3) := by decide +kernel
theorem d_M_stackOperator_239 : decode m_M_stackOperator.2.1 239 = .ok (.iconst 4, 1) := by decide +kernel
theorem d_M_stackOperator_240 : decode m_M_stackOperator.2.1 240 = .ok (.ireturn, 1) := by decide +kernel
theorem d_M_stackOperator_241 : decode m_M_stackOperator.2.1 241 = .ok (.aload_n 0, 1) := by decide +kernel
theorem d_M_stackOperator_242 : decode m_M_stackOperator.2.1 242 = .ok (.iload_n 2, 1) := by decide +kernel
theorem d_M_stackOperator_243 : decode m_M_stackOperator.2.1 243 = .ok (.iload_n 2, 1) := by decide +kernel
theorem d_M_stackOperator_244 : decode m_M_stackOperator.2.1 244 = .ok (.iconst 1, 1) := by decide +kernel
theorem d_M_stackOperator_245 : decode m_M_stackOperator.2.1 245 = .ok (.isub, 1) := by decide +kernel
theorem d_M_stackOperator_246 : decode m_M_stackOperator.2.1 246 = .ok (.lload_n 3, 1) := by decide +kernel
theorem d_M_stackOperator_247 : decode m_M_stackOperator.2.1 247 = .ok (.l2i, 1) := by decide +kernel
theorem d_M_stackOperator_248 : decode m_M_stackOperator.2.1 248 = .ok (.isub, 1) := by decide +kernel
theorem d_M_stackOperator_249 : decode m_M_stackOperator.2.1 249 = .ok (.invokevirtual 254, 3) := by decide +kernel
theorem d_M_stackOperator_252 : decode m_M_stackOperator.2.1 252 = .ok (.iconst 0, 1) := by decide +kernel
theorem d_M_stackOperator_253 : decode m_M_stackOperator.2.1 253 = .ok (.ireturn, 1) := by decide +kernel
theorem d_M_stackOperator_254 : decode m_M_stackOperator.2.1 254 = .ok (.aload_n 0, 1) := by decide +kernel
theorem d_M_stackOperator_255 : decode m_M_stackOperator.2.1 255 = .ok (.aload_n 0, 1) := by decide +kernel
theorem d_M_stackOperator_256 : decode m_M_stackOperator.2.1 256 = .ok (.getfield 13, 3) := by decide +kernel
theorem d_M_stackOperator_259 : decode m_M_stackOperator.2.1 259 = .ok (.iload_n 2, 1) := by decide +kernel
theorem d_M_stackOperator_260 : decode m_M_stackOperator.2.1 260 = .ok (.iconst 1, 1) := by decide +kernel
theorem d_M_stackOperator_261 : decode m_M_stackOperator.2.1 261 = .ok (.isub, 1) := by decide +kernel
theorem d_M_stackOperator_262 : decode m_M_stackOperator.2.1 262 = .ok (.laload, 1) := by decide +kernel
theorem d_M_stackOperator_263 : decode m_M_stackOperator.2.1 263 = .ok (.lload_n 3, 1) := by decide +kernel
theorem d_M_stackOperator_264 : decode m_M_stackOperator.2.1 264 = .ok (.invokevirtual 463, 3) := by decide +kernel
theorem d_M_stackOperator_267 : decode m_M_stackOperator.2.1 267 = .ok (.ireturn, 1) := by decide +kernel
theorem d_M_stackOperator_268 : decode m_M_stackOperator.2.1 268 = .ok (.aload_n 0, 1) := by decide +kernel
theorem d_M_stackOperator_269 : decode m_M_stackOperator.2.1 269 = .ok (.iconst 0, 1) := by decide +kernel
theorem d_M_stackOperator_270 : decode m_M_stackOperator.2.1 270 = .ok (.putfield 247, 3) := by decide +kernel
theorem d_M_stackOperator_273 : decode m_M_stackOperator.2.1 273 = .ok (.iconst 0, 1) := by decide +kernel
theorem d_M_stackOperator_274 : decode m_M_stackOperator.2.1 274 = .ok (.ireturn, 1) := by decide +kernel
theorem d_M_stackOperator_275 : decode m_M_stackOperator.2.1 275 = .ok (.aload_n 0, 1) := by decide +kernel
theorem d_M_stackOperator_276 : decode m_M_stackOperator.2.1 276 = .ok (.iconst 0, 1) := by decide +kernel
theorem d_M_stackOperator_277 : decode m_M_stackOperator.2.1 277 = .ok (.aload_n 0, 1) := by decide +kernel
theorem d_M_stackOperator_278 : decode m_M_stackOperator.2.1 278 = .ok (.getfield 247, 3) := by decide +kernel
theorem d_M_stackOperator_281 : decode m_M_stackOperator.2.1 281 = .ok (.i2l, 1) := by decide +kernel
theorem d_M_stackOperator_282 : decode m_M_stackOperator.2.1 282 = .ok (.invokevirtual 388, 3) := by decide +kernel
theorem d_M_stackOperator_285 : decode m_M_stackOperator.2.1 285 = .ok (.ireturn, 1) := by decide +kernel
theorem d_M_stackOperator_286 : decode m_M_stackOperator.2.1 286 = .ok (.aload_n 0, 1) := by decide +kernel
theorem d_M_stackOperator_287 : decode m_M_stackOperator.2.1 287 = .ok (.iconst 4, 1) := by decide +kernel
theorem d_M_stackOperator_288 : decode m_M_stackOperator.2.1 288 = .ok (.lconst 0, 1) := by decide +kernel
theorem d_M_stackOperator_289 : decode m_M_stackOperator.2.1 289 = .ok (.invokevirtual 388, 3) := by decide +kernel
theorem d_M_stackOperator_292 : decode m_M_stackOperator.2.1 292 = .ok (.ireturn, 1) := by decide +kernel
theorem d_M_stackOperator_293 : decode m_M_stackOperator.2.1 293 = .ok (.aload_n 0, 1) := by decide +kernel
theorem d_M_stackOperator_294 : decode m_M_stackOperator.2.1 294 = .ok (.iload_n 1, 1) := by decide +kernel
theorem d_M_stackOperator_295 : decode m_M_stackOperator.2.1 295 = .ok (.invokevirtual 467, 3) := by decide +kernel
theorem d_M_stackOperator_298 : decode m_M_stackOperator.2.1 298 = .ok (.ireturn, 1) := by decide +kernel
theorem d_M_sum_0 : decode m_M_sum.2.1 0 = .ok (.aload_n 0, 1) := by decide +kernel
theorem d_M_sum_1 : decode m_M_sum.2.1 1 = .ok (.getfield 247, 3) := by decide +kernel
theorem d_M_sum_4 : decode m_M_sum.2.1 4 = .ok (.iconst 1, 1) := by decide +kernel
theorem d_M_sum_5 : decode m_M_sum.2.1 5 = .ok (.isub, 1) := by decide +kernel
theorem d_M_sum_6 : decode m_M_sum.2.1 6 = .ok (.istore_n 2, 1) := by decide +kernel
theorem d_M_sum_7 : decode m_M_sum.2.1 7 = .ok (.aload_n 0, 1) := by decide +kernel
theorem d_M_sum_8 : decode m_M_sum.2.1 8 = .ok (.getfield 13, 3) := by decide +kernel
theorem d_M_sum_11 : decode m_M_sum.2.1 11 = .ok (.iload_n 2, 1) := by decide +kernel
theorem d_M_sum_12 : decode m_M_sum.2.1 12 = .ok (.iconst 1, 1) := by decide +kernel
theorem d_M_sum_13 : decode m_M_sum.2.1 13 = .ok (.isub, 1) := by decide +kernel
theorem d_M_sum_14 : decode m_M_sum.2.1 14 = .ok (.laload, 1) := by decide +kernel
theorem d_M_sum_15 : decode m_M_sum.2.1 15 = .ok (.lstore_n 3, 1) := by decide +kernel
theorem d_M_sum_16 : decode m_M_sum.2.1 16 = .ok (.aload_n 0, 1) := by decide +kernel
theorem d_M_sum_17 : decode m_M_sum.2.1 17 = .ok (.getfield 13, 3) := by decide +kernel
theorem d_M_sum_20 : decode m_M_sum.2.1 20 = .ok (.iload_n 2, 1) := by decide +kernel
theorem d_M_sum_21 : decode m_M_sum.2.1 21 = .ok (.laload, 1) := by decide +kernel
theorem d_M_sum_22 : decode m_M_sum.2.1 22 = .ok (.lstore 5, 2) := by decide +kernel
theorem d_M_sum_24 : decode m_M_sum.2.1 24 = .ok (.aload_n 0, 1) := by decide +kernel
theorem d_M_sum_25 : decode m_M_sum.2.1 25 = .ok (.iload_n 2, 1) := by decide +kernel
theorem d_M_sum_26 : decode m_M_sum.2.1 26 = .ok (.iconst 1, 1) := by decide +kernel
theorem d_M_sum_27 : decode m_M_sum.2.1 27 = .ok (.isub, 1) := by decide +kernel
theorem d_M_sum_28 : decode m_M_sum.2.1 28 = .ok (.invokevirtual 473, 3) := by decide +kernel
theorem d_M_sum_31 : decode m_M_sum.2.1 31 = .ok (.dstore 7, 2) := by decide +kernel
theorem d_M_sum_33 : decode m_M_sum.2.1 33 = .ok (.aload_n 0, 1) := by decide +kernel
theorem d_M_sum_34 : decode m_M_sum.2.1 34 = .ok (.iload_n 2, 1) := by decide +kernel
theorem d_M_sum_35 : decode m_M_sum.2.1 35 = .ok (.invokevirtual 473, 3) := by decide +kernel
theorem d_M_sum_38 : decode m_M_sum.2.1 38 = .ok (.dstore 9, 2) := by decide +kernel
theorem d_M_sum_40 : decode m_M_sum.2.1 40 = .ok (.iload_n 1, 1) := by decide +kernel
theorem d_M_sum_41 : decode m_M_sum.2.1 41 = .ok (.bipush 12, 2) := by decide +kernel
theorem d_M_sum_43 : decode m_M_sum.2.1 43 = .ok (.if_icmp .le 29, 3) := by decide +kernel
theorem d_M_sum_46 : decode m_M_sum.2.1 46 = .ok (.iload_n 1, 1) := by decide +kernel
theorem d_M_sum_47 : decode m_M_sum.2.1 47 = .ok (.bipush 13, 2) := by decide +kernel
theorem d_M_sum_49 : decode m_M_sum.2.1 49 = .ok (.if_icmp .ne 13, 3) := by decide +kernel
theorem d_M_sum_52 : decode m_M_sum.2.1 52 = .ok (.dload 9, 2) := by decide +kernel
theorem d_M_sum_54 : decode m_M_sum.2.1 54 = .ok (.dconst 0, 1) := by decide +kernel
theorem d_M_sum_55 : decode m_M_sum.2.1 55 = .ok (.dcmp .l, 1) := by decide +kernel
theorem d_M_sum_56 : decode m_M_sum.2.1 56 = .ok (.ifCond .ne 16, 3) := by decide +kernel
theorem d_M_sum_59 : decode m_M_sum.2.1 59 = .ok (.goto 10, 3) := by decide +kernel
theorem d_M_sum_62 : decode m_M_sum.2.1 62 = .ok (.lload 5, 2) := by decide +kernel
theorem d_M_sum_64 : decode m_M_sum.2.1 64 = .ok (.lconst 0, 1) := by decide +kernel
theorem d_M_sum_65 : decode m_M_sum.2.1 65 = .ok (.lcmp, 1) := by decide +kernel
theorem d_M_sum_66 : decode m_M_sum.2.1 66 = .ok (.ifCond .ne 6, 3) := by decide +kernel
theorem d_M_sum_69 : decode m_M_sum.2.1 69 = .ok (.bipush 6, 2) := by decide +kernel
theorem d_M_sum_71 : decode m_M_sum.2.1 71 = .ok (.ireturn, 1) := by decide +kernel
theorem d_M_sum_72 : decode m_M_sum.2.1 72 = .ok (.iload_n 1, 1) := by decide +kernel
theorem d_M_sum_73 : decode m_M_sum.2.1 73 = .ok (.bipush 13, 2) := by decide +kernel
theorem d_M_sum_75 : decode m_M_sum.2.1 75 = .ok (.if_icmp .ne 14, 3) := by decide +kernel
theorem d_M_sum_78 : decode m_M_sum.2.1 78 = .ok (.aload_n 0, 1) := by decide +kernel
theorem d_M_sum_79 : decode m_M_sum.2.1 79 = .ok (.iconst 2, 1) := by decide +kernel
theorem d_M_sum_80 : decode m_M_sum.2.1 80 = .ok (.dload 7, 2) := by decide +kernel
theorem d_M_sum_82 : decode m_M_sum.2.1 82 = .ok (.dload 9, 2) := by decide +kernel
theorem d_M_sum_84 : decode m_M_sum.2.1 84 = .ok (.ddiv, 1) := by decide +kernel
theorem d_M_sum_85 : decode m_M_sum.2.1 85 = .ok (.invokevirtual 266, 3) := by decide +kernel
theorem d_M_sum_88 : decode m_M_sum.2.1 88 = .ok (.ireturn, 1) := by decide +kernel
theorem d_M_sum_89 : decode m_M_sum.2.1 89 = .ok (.iload_n 1, 1) := by decide +kernel
theorem d_M_sum_90 : decode m_M_sum.2.1 90 = .ok (.bipush 14, 2) := by decide +kernel
theorem d_M_sum_92 : decode m_M_sum.2.1 92 = .ok (.if_icmp .ne 13, 3) := by decide +kernel
theorem d_M_sum_95 : decode m_M_sum.2.1 95 = .ok (.aload_n 0, 1) := by decide +kernel
theorem d_M_sum_96 : decode m_M_sum.2.1 96 = .ok (.iconst 2, 1) := by decide +kernel
theorem d_M_sum_97 : decode m_M_sum.2.1 97 = .ok (.lload_n 3, 1) := by decide +kernel
theorem d_M_sum_98 : decode m_M_sum.2.1 98 = .ok (.lload 5, 2) := by decide +kernel
theorem d_M_sum_100 : decode m_M_sum.2.1 100 = .ok (.ldiv, 1) := by decide +kernel
theorem d_M_sum_101 : decode m_M_sum.2.1 101 = .ok (.invokevirtual 477, 3) := by decide +kernel
theorem d_M_sum_104 : decode m_M_sum.2.1 104 = .ok (.ireturn, 1) := by decide +kernel
theorem d_M_sum_105 : decode m_M_sum.2.1 105 = .ok (.iload_n 1, 1) := by decide +kernel
theorem d_M_sum_106 : decode m_M_sum.2.1 106 = .ok (.bipush 15, 2) := by decide +kernel
theorem d_M_sum_108 : decode m_M_sum.2.1 108 = .ok (.if_icmp .ne 13, 3) := by decide +kernel
theorem d_M_sum_111 : decode m_M_sum.2.1 111 = .ok (.aload_n 0, 1) := by decide +kernel
theorem d_M_sum_112 : decode m_M_sum.2.1 112 = .ok (.iconst 2, 1) := by decide +kernel
theorem d_M_sum_113 : decode m_M_sum.2.1 113 = .ok (.lload_n 3, 1) := by decide +kernel
theorem d_M_sum_114 : decode m_M_sum.2.1 114 = .ok (.lload 5, 2) := by decide +kernel
theorem d_M_sum_116 : decode m_M_sum.2.1 116 = .ok (.lrem, 1) := by decide +kernel
theorem d_M_sum_117 : decode m_M_sum.2.1 117 = .ok (.invokevirtual 477, 3) := by decide +kernel
theorem d_M_sum_120 : decode m_M_sum.2.1 120 = .ok (.ireturn, 1) := by decide +kernel
theorem d_M_sum_121 : decode m_M_sum.2.1 121 = .ok (.aload_n 0, 1) := by decide +kernel
theorem d_M_sum_122 : decode m_M_sum.2.1 122 = .ok (.getfield 7, 3) := by decide +kernel
theorem d_M_sum_125 : decode m_M_sum.2.1 125 = .ok (.iload_n 2, 1) := by decide +kernel
theorem d_M_sum_126 : decode m_M_sum.2.1 126 = .ok (.iaload, 1) := by decide +kernel
theorem d_M_sum_127 : decode m_M_sum.2.1 127 = .ok (.ifCond .ne 50, 3) := by decide +kernel
theorem d_M_sum_130 : decode m_M_sum.2.1 130 = .ok (.aload_n 0, 1) := by decide +kernel
theorem d_M_sum_131 : decode m_M_sum.2.1 131 = .ok (.getfield 7, 3) := by decide +kernel
theorem d_M_sum_134 : decode m_M_sum.2.1 134 = .ok (.iload_n 2, 1) := by decide +kernel
theorem d_M_sum_135 : decode m_M_sum.2.1 135 = .ok (.iconst 1, 1) := by decide +kernel
theorem d_M_sum_136 : decode m_M_sum.2.1 136 = .ok (.isub, 1) := by decide +kernel
theorem d_M_sum_137 : decode m_M_sum.2.1 137 = .ok (.iaload, 1) := by decide +kernel
theorem d_M_sum_138 : decode m_M_sum.2.1 138 = .ok (.ifCond .ne 39, 3) := by decide +kernel
theorem d_M_sum_141 : decode m_M_sum.2.1 141 = .ok (.aload_n 0, 1) := by decide +kernel
theorem d_M_sum_142 : decode m_M_sum.2.1 142 = .ok (.iconst 2, 1) := by decide +kernel
theorem d_M_sum_143 : decode m_M_sum.2.1 143 = .ok (.iload_n 1, 1) := by decide +kernel
theorem d_M_sum_144 : decode m_M_sum.2.1 144 = .ok (.bipush 10, 2) := by decide +kernel
theorem d_M_sum_146 : decode m_M_sum.2.1 146 = .ok (.if_icmp .ne 10, 3) := by decide +kernel
theorem d_M_sum_149 : decode m_M_sum.2.1 149 = .ok (.lload_n 3, 1) := by decide +kernel
theorem d_M_sum_150 : decode m_M_sum.2.1 150 = .ok (.lload 5, 2) := by decide +kernel
theorem d_M_sum_152 : decode m_M_sum.2.1 152 = .ok (.ladd, 1) := by decide +kernel
theorem d_M_sum_153 : decode m_M_sum.2.1 153 = .ok (.goto 20, 3) := by decide +kernel
theorem d_M_sum_156 : decode m_M_sum.2.1 156 = .ok (.iload_n 1, 1) := by decide +kernel
theorem d_M_sum_157 : decode m_M_sum.2.1 157 = .ok (.bipush 11, 2) := by decide +kernel
theorem d_M_sum_159 : decode m_M_sum.2.1 159 = .ok (.if_icmp .ne 10, 3) := by decide +kernel
theorem d_M_sum_162 : decode m_M_sum.2.1 162 = .ok (.lload_n 3, 1) := by decide +kernel
theorem d_M_sum_163 : decode m_M_sum.2.1 163 = .ok (.lload 5, 2) := by decide +kernel
theorem d_M_sum_165 : decode m_M_sum.2.1 165 = .ok (.lsub, 1) := by decide +kernel
theorem d_M_sum_166 : decode m_M_sum.2.1 166 = .ok (.goto 7, 3) := by decide +kernel
theorem d_M_sum_169 : decode m_M_sum.2.1 169 = .ok (.lload_n 3, 1) := by decide +kernel
theorem d_M_sum_170 : decode m_M_sum.2.1 170 = .ok (.lload 5, 2) := by decide +kernel
theorem d_M_sum_172 : decode m_M_sum.2.1 172 = .ok (.lmul, 1) := by decide +kernel
theorem d_M_sum_173 : decode m_M_sum.2.1 173 = .ok (.invokevirtual 477, 3) := by decide +kernel
theorem d_M_sum_176 : decode m_M_sum.2.1 176 = .ok (.ireturn, 1) := by decide +kernel
theorem d_M_sum_177 : decode m_M_sum.2.1 177 = .ok (.aload_n 0, 1) := by decide +kernel
theorem d_M_sum_178 : decode m_M_sum.2.1 178 = .ok (.iconst 2, 1) := by decide +kernel
theorem d_M_sum_179 : decode m_M_sum.2.1 179 = .ok (.iload_n 1, 1) := by decide +kernel
theorem d_M_sum_180 : decode m_M_sum.2.1 180 = .ok (.bipush 10, 2) := by decide +kernel
theorem d_M_sum_182 : decode m_M_sum.2.1 182 = .ok (.if_icmp .ne 11, 3) := by decide +kernel
theorem d_M_sum_185 : decode m_M_sum.2.1 185 = .ok (.dload 7, 2) := by decide +kernel
theorem d_M_sum_187 : decode m_M_sum.2.1 187 = .ok (.dload 9, 2) := by decide +kernel
theorem d_M_sum_189 : decode m_M_sum.2.1 189 = .ok (.dadd, 1) := by decide +kernel
theorem d_M_sum_190 : decode m_M_sum.2.1 190 = .ok (.goto 22, 3) := by decide +kernel
theorem d_M_sum_193 : decode m_M_sum.2.1 193 = .ok (.iload_n 1, 1) := by decide +kernel
theorem d_M_sum_194 : decode m_M_sum.2.1 194 = .ok (.bipush 11, 2) := by decide +kernel
theorem d_M_sum_196 : decode m_M_sum.2.1 196 = .ok (.if_icmp .ne 11, 3) := by decide +kernel
theorem d_M_sum_199 : decode m_M_sum.2.1 199 = .ok (.dload 7, 2) := by decide +kernel
theorem d_M_sum_201 : decode m_M_sum.2.1 201 = .ok (.dload 9, 2) := by decide +kernel
theorem d_M_sum_203 : decode m_M_sum.2.1 203 = .ok (.dsub, 1) := by decide +kernel
theorem d_M_sum_204 : decode m_M_sum.2.1 204 = .ok (.goto 8, 3) := by decide +kernel
theorem d_M_sum_207 : decode m_M_sum.2.1 207 = .ok (.dload 7, 2) := by decide +kernel
theorem d_M_sum_209 : decode m_M_sum.2.1 209 = .ok (.dload 9, 2) := by decide +kernel
theorem d_M_sum_211 : decode m_M_sum.2.1 211 = .ok (.dmul, 1) := by decide +kernel
theorem d_M_sum_212 : decode m_M_sum.2.1 212 = .ok (.invokevirtual 266, 3) := by decide +kernel
theorem d_M_sum_215 : decode m_M_sum.2.1 215 = .ok (.ireturn, 1) := by decide +kernel
theorem d_M_truth_0 : decode m_M_truth.2.1 0 = .ok (.aload_n 0, 1) := by decide +kernel
theorem d_M_truth_1 : decode m_M_truth.2.1 1 = .ok (.getfield 247, 3) := by decide +kernel
theorem d_M_truth_4 : decode m_M_truth.2.1 4 = .ok (.iconst 1, 1) := by decide +kernel
theorem d_M_truth_5 : decode m_M_truth.2.1 5 = .ok (.isub, 1) := by decide +kernel
theorem d_M_truth_6 : decode m_M_truth.2.1 6 = .ok (.istore_n 2, 1) := by decide +kernel
theorem d_M_truth_7 : decode m_M_truth.2.1 7 = .ok (.iload_n 1, 1) := by decide +kernel
theorem d_M_truth_8 : decode m_M_truth.2.1 8 = .ok (.bipush 23, 2) := by decide +kernel
theorem d_M_truth_10 : decode m_M_truth.2.1 10 = .ok (.if_icmp .ge 20, 3) := by decide +kernel
theorem d_M_truth_13 : decode m_M_truth.2.1 13 = .ok (.aload_n 0, 1) := by decide +kernel
theorem d_M_truth_14 : decode m_M_truth.2.1 14 = .ok (.iconst 2, 1) := by decide +kernel
theorem d_M_truth_15 : decode m_M_truth.2.1 15 = .ok (.iload_n 1, 1) := by decide +kernel
theorem d_M_truth_16 : decode m_M_truth.2.1 16 = .ok (.bipush 21, 2) := by decide +kernel
theorem d_M_truth_18 : decode m_M_truth.2.1 18 = .ok (.if_icmp .ne 7, 3) := by decide +kernel
theorem d_M_truth_21 : decode m_M_truth.2.1 21 = .ok (.lconst 1, 1) := by decide +kernel
theorem d_M_truth_22 : decode m_M_truth.2.1 22 = .ok (.goto 4, 3) := by decide +kernel
theorem d_M_truth_25 : decode m_M_truth.2.1 25 = .ok (.lconst 0, 1) := by decide +kernel
theorem d_M_truth_26 : decode m_M_truth.2.1 26 = .ok (.invokevirtual 388, 3) := by decide +kernel
theorem d_M_truth_29 : decode m_M_truth.2.1 29 = .ok (.ireturn, 1) := by decide +kernel
theorem d_M_truth_30 : decode m_M_truth.2.1 30 = .ok (.iload_n 1, 1) := by decide +kernel
theorem d_M_truth_31 : decode m_M_truth.2.1 31 = .ok (.bipush 28, 2) := by decide +kernel
theorem d_M_truth_33 : decode m_M_truth.2.1 33 = .ok (.if_icmp .le 10, 3) := by decide +kernel
theorem d_M_truth_36 : decode m_M_truth.2.1 36 = .ok (.aload_n 0, 1) := by decide +kernel
theorem d_M_truth_37 : decode m_M_truth.2.1 37 = .ok (.iload_n 1, 1) := by decide +kernel
theorem d_M_truth_38 : decode m_M_truth.2.1 38 = .ok (.iload_n 2, 1) := by decide +kernel
theorem d_M_truth_39 : decode m_M_truth.2.1 39 = .ok (.invokevirtual 486, 3) := by decide +kernel
theorem d_M_truth_42 : decode m_M_truth.2.1 42 = .ok (.ireturn, 1) := by decide +kernel
theorem d_M_truth_43 : decode m_M_truth.2.1 43 = .ok (.aload_n 0, 1) := by decide +kernel
theorem d_M_truth_44 : decode m_M_truth.2.1 44 = .ok (.iload_n 2, 1) := by decide +kernel
theorem d_M_truth_45 : decode m_M_truth.2.1 45 = .ok (.iconst 1, 1) := by decide +kernel
theorem d_M_truth_46 : decode m_M_truth.2.1 46 = .ok (.isub, 1) := by decide +kernel
theorem d_M_truth_47 : decode m_M_truth.2.1 47 = .ok (.invokevirtual 473, 3) := by decide +kernel
theorem d_M_truth_50 : decode m_M_truth.2.1 50 = .ok (.dstore_n 3, 1) := by decide +kernel
theorem d_M_truth_51 : decode m_M_truth.2.1 51 = .ok (.aload_n 0, 1) := by decide +kernel
theorem d_M_truth_52 : decode m_M_truth.2.1 52 = .ok (.iload_n 2, 1) := by decide +kernel
theorem d_M_truth_53 : decode m_M_truth.2.1 53 = .ok (.invokevirtual 473, 3) := by decide +kernel
theorem d_M_truth_56 : decode m_M_truth.2.1 56 = .ok (.dstore 5, 2) := by decide +kernel
theorem d_M_truth_58 : decode m_M_truth.2.1 58 = .ok (.iload_n 1, 1) := by decide +kernel
theorem d_M_truth_59 : decode m_M_truth.2.1 59 = .ok (.bipush 25, 2) := by decide +kernel
theorem d_M_truth_61 : decode m_M_truth.2.1 61 = .ok (.if_icmp .ge 33, 3) := by decide +kernel
theorem d_M_truth_64 : decode m_M_truth.2.1 64 = .ok (.aload_n 0, 1) := by decide +kernel
theorem d_M_truth_65 : decode m_M_truth.2.1 65 = .ok (.iload_n 2, 1) := by decide +kernel
theorem d_M_truth_66 : decode m_M_truth.2.1 66 = .ok (.iconst 1, 1) := by decide +kernel
theorem d_M_truth_67 : decode m_M_truth.2.1 67 = .ok (.isub, 1) := by decide +kernel
theorem d_M_truth_68 : decode m_M_truth.2.1 68 = .ok (.iload_n 2, 1) := by decide +kernel
theorem d_M_truth_69 : decode m_M_truth.2.1 69 = .ok (.invokevirtual 490, 3) := by decide +kernel
theorem d_M_truth_72 : decode m_M_truth.2.1 72 = .ok (.iload_n 1, 1) := by decide +kernel
theorem d_M_truth_73 : decode m_M_truth.2.1 73 = .ok (.bipush 23, 2) := by decide +kernel
theorem d_M_truth_75 : decode m_M_truth.2.1 75 = .ok (.if_icmp .ne 7, 3) := by decide +kernel
theorem d_M_truth_78 : decode m_M_truth.2.1 78 = .ok (.iconst 1, 1) := by decide +kernel
theorem d_M_truth_79 : decode m_M_truth.2.1 79 = .ok (.goto 4, 3) := by decide +kernel
theorem d_M_truth_82 : decode m_M_truth.2.1 82 = .ok (.iconst 0, 1) := by decide +kernel
theorem d_M_truth_83 : decode m_M_truth.2.1 83 = .ok (.if_icmp .ne 7, 3) := by decide +kernel
theorem d_M_truth_86 : decode m_M_truth.2.1 86 = .ok (.iconst 1, 1) := by decide +kernel
theorem d_M_truth_87 : decode m_M_truth.2.1 87 = .ok (.goto 82, 3) := by decide +kernel
theorem d_M_truth_90 : decode m_M_truth.2.1 90 = .ok (.iconst 0, 1) := by decide +kernel
theorem d_M_truth_91 : decode m_M_truth.2.1 91 = .ok (.goto 78, 3) := by decide +kernel
theorem d_M_truth_94 : decode m_M_truth.2.1 94 = .ok (.iload_n 1, 1) := by decide +kernel
theorem d_M_truth_95 : decode m_M_truth.2.1 95 = .ok (.bipush 25, 2) := by decide +kernel
theorem d_M_truth_97 : decode m_M_truth.2.1 97 = .ok (.if_icmp .ne 18, 3) := by decide +kernel
theorem d_M_truth_100 : decode m_M_truth.2.1 100 = .ok (.dload_n 3, 1) := by decide +kernel
theorem d_M_truth_101 : decode m_M_truth.2.1 101 = .ok (.dload 5, 2) := by decide +kernel
theorem d_M_truth_103 : decode m_M_truth.2.1 103 = .ok (.dcmp .l, 1) := by decide +kernel
theorem d_M_truth_104 : decode m_M_truth.2.1 104 = .ok (.ifCond .le 7, 3) := by decide +kernel
theorem d_M_truth_107 : decode m_M_truth.2.1 107 = .ok (.iconst 1, 1) := by decide +kernel
theorem d_M_truth_108 : decode m_M_truth.2.1 108 = .ok (.goto 61, 3) := by decide +kernel
theorem d_M_truth_111 : decode m_M_truth.2.1 111 = .ok (.iconst 0, 1) := by decide +kernel
theorem d_M_truth_112 : decode m_M_truth.2.1 112 = .ok (.goto 57, 3) := by decide +kernel
theorem d_M_truth_115 : decode m_M_truth.2.1 115 = .ok (.iload_n 1, 1) := by decide +kernel
theorem d_M_truth_116 : decode m_M_truth.2.1 116 = .ok (.bipush 26, 2) := by decide +kernel
theorem d_M_truth_118 : decode m_M_truth.2.1 118 = .ok (.if_icmp .ne 18, 3) := by decide +kernel
theorem d_M_truth_121 : decode m_M_truth.2.1 121 = .ok (.dload_n 3, 1) := by decide +kernel
theorem d_M_truth_122 : decode m_M_truth.2.1 122 = .ok (.dload 5, 2) := by decide +kernel
theorem d_M_truth_124 : decode m_M_truth.2.1 124 = .ok (.dcmp .l, 1) := by decide +kernel
theorem d_M_truth_125 : decode m_M_truth.2.1 125 = .ok (.ifCond .lt 7, 3) := by decide +kernel
theorem d_M_truth_128 : decode m_M_truth.2.1 128 = .ok (.iconst 1, 1) := by decide +kernel
theorem d_M_truth_129 : decode m_M_truth.2.1 129 = .ok (.goto 40, 3) := by decide +kernel
theorem d_M_truth_132 : decode m_M_truth.2.1 132 = .ok (.iconst 0, 1) := by decide +kernel
theorem d_M_truth_133 : decode m_M_truth.2.1 133 = .ok (.goto 36, 3) := by decide +kernel
theorem d_M_truth_136 : decode m_M_truth.2.1 136 = .ok (.iload_n 1, 1) := by decide +kernel
theorem d_M_truth_137 : decode m_M_truth.2.1 137 = .ok (.bipush 27, 2) := by decide +kernel
theorem d_M_truth_139 : decode m_M_truth.2.1 139 = .ok (.if_icmp .ne 18, 3) := by decide +kernel
theorem d_M_truth_142 : decode m_M_truth.2.1 142 = .ok (.dload_n 3, 1) := by decide +kernel
theorem d_M_truth_143 : decode m_M_truth.2.1 143 = .ok (.dload 5, 2) := by decide +kernel
theorem d_M_truth_145 : decode m_M_truth.2.1 145 = .ok (.dcmp .g, 1) := by decide +kernel
theorem d_M_truth_146 : decode m_M_truth.2.1 146 = .ok (.ifCond .ge 7, 3) := by decide +kernel
theorem d_M_truth_149 : decode m_M_truth.2.1 149 = .ok (.iconst 1, 1) := by decide +kernel
theorem d_M_truth_150 : decode m_M_truth.2.1 150 = .ok (.goto 19, 3) := by decide +kernel
theorem d_M_truth_153 : decode m_M_truth.2.1 153 = .ok (.iconst 0, 1) := by decide +kernel
theorem d_M_truth_154 : decode m_M_truth.2.1 154 = .ok (.goto 15, 3) := by decide +kernel
theorem d_M_truth_157 : decode m_M_truth.2.1 157 = .ok (.dload_n 3, 1) := by decide +kernel
theorem d_M_truth_158 : decode m_M_truth.2.1 158 = .ok (.dload 5, 2) := by decide +kernel
theorem d_M_truth_160 : decode m_M_truth.2.1 160 = .ok (.dcmp .g, 1) := by decide +kernel
theorem d_M_truth_161 : decode m_M_truth.2.1 161 = .ok (.ifCond .gt 7, 3) := by decide +kernel
theorem d_M_truth_164 : decode m_M_truth.2.1 164 = .ok (.iconst 1, 1) := by decide +kernel
theorem d_M_truth_165 : decode m_M_truth.2.1 165 = .ok (.goto 4, 3) := by decide +kernel
theorem d_M_truth_168 : decode m_M_truth.2.1 168 = .ok (.iconst 0, 1) := by decide +kernel
theorem d_M_truth_169 : decode m_M_truth.2.1 169 = .ok (.istore 7, 2) := by decide +kernel
theorem d_M_truth_171 : decode m_M_truth.2.1 171 = .ok (.aload_n 0, 1) := by decide +kernel
theorem d_M_truth_172 : decode m_M_truth.2.1 172 = .ok (.iconst 2, 1) := by decide +kernel
theorem d_M_truth_173 : decode m_M_truth.2.1 173 = .ok (.iconst 2, 1) := by decide +kernel
theorem d_M_truth_174 : decode m_M_truth.2.1 174 = .ok (.iload 7, 2) := by decide +kernel
theorem d_M_truth_176 : decode m_M_truth.2.1 176 = .ok (.ifCond .eq 7, 3) := by decide +kernel
theorem d_M_truth_179 : decode m_M_truth.2.1 179 = .ok (.lconst 1, 1) := by decide +kernel
theorem d_M_truth_180 : decode m_M_truth.2.1 180 = .ok (.goto 4, 3) := by decide +kernel
theorem d_M_truth_183 : decode m_M_truth.2.1 183 = .ok (.lconst 0, 1) := by decide +kernel
theorem d_M_truth_184 : decode m_M_truth.2.1 184 = .ok (.invokevirtual 262, 3) := by decide +kernel
theorem d_M_truth_187 : decode m_M_truth.2.1 187 = .ok (.ireturn, 1) := by decide +kernel
theorem d_M_operate_0 : decode m_M_operate.2.1 0 = .ok (.aload_n 0, 1) := by decide +kernel
theorem d_M_operate_1 : decode m_M_operate.2.1 1 = .ok (.iload_n 1, 1) := by decide +kernel
theorem d_M_operate_2 : decode m_M_operate.2.1 2 = .ok (.invokevirtual 424, 3) := by decide +kernel
theorem d_M_operate_5 : decode m_M_operate.2.1 5 = .ok (.istore_n 2, 1) := by decide +kernel
theorem d_M_operate_6 : decode m_M_operate.2.1 6 = .ok (.iload_n 2, 1) := by decide +kernel
theorem d_M_operate_7 : decode m_M_operate.2.1 7 = .ok (.ifCond .ne 7, 3) := by decide +kernel
theorem d_M_operate_10 : decode m_M_operate.2.1 10 = .ok (.iconst 0, 1) := by decide +kernel
theorem d_M_operate_11 : decode m_M_operate.2.1 11 = .ok (.goto 35, 3) := by decide +kernel
theorem d_M_operate_14 : decode m_M_operate.2.1 14 = .ok (.iload_n 2, 1) := by decide +kernel
theorem d_M_operate_15 : decode m_M_operate.2.1 15 = .ok (.bipush 10, 2) := by decide +kernel
theorem d_M_operate_17 : decode m_M_operate.2.1 17 = .ok (.if_icmp .ge 7, 3) := by decide +kernel
theorem d_M_operate_20 : decode m_M_operate.2.1 20 = .ok (.iconst 1, 1) := by decide +kernel
theorem d_M_operate_21 : decode m_M_operate.2.1 21 = .ok (.goto 25, 3) := by decide +kernel
theorem d_M_operate_24 : decode m_M_operate.2.1 24 = .ok (.iload_n 2, 1) := by decide +kernel
theorem d_M_operate_25 : decode m_M_operate.2.1 25 = .ok (.bipush 100, 2) := by decide +kernel
theorem d_M_operate_27 : decode m_M_operate.2.1 27 = .ok (.if_icmp .ge 7, 3) := by decide +kernel
theorem d_M_operate_30 : decode m_M_operate.2.1 30 = .ok (.iconst 2, 1) := by decide +kernel
theorem d_M_operate_31 : decode m_M_operate.2.1 31 = .ok (.goto 15, 3) := by decide +kernel
theorem d_M_operate_34 : decode m_M_operate.2.1 34 = .ok (.iload_n 2, 1) := by decide +kernel
theorem d_M_operate_35 : decode m_M_operate.2.1 35 = .ok (.sipush 1000, 3) := by decide +kernel
theorem d_M_operate_38 : decode m_M_operate.2.1 38 = .ok (.if_icmp .ge 7, 3) := by decide +kernel
theorem d_M_operate_41 : decode m_M_operate.2.1 41 = .ok (.iconst 3, 1) := by decide +kernel
theorem d_M_operate_42 : decode m_M_operate.2.1 42 = .ok (.goto 4, 3) := by decide +kernel
theorem d_M_operate_45 : decode m_M_operate.2.1 45 = .ok (.iconst 4, 1) := by decide +kernel
theorem d_M_operate_46 : decode m_M_operate.2.1 46 = .ok (.istore_n 3, 1) := by decide +kernel
theorem d_M_operate_47 : decode m_M_operate.2.1 47 = .ok (.aload_n 0, 1) := by decide +kernel
theorem d_M_operate_48 : decode m_M_operate.2.1 48 = .ok (.getfield 247, 3) := by decide +kernel
theorem d_M_operate_51 : decode m_M_operate.2.1 51 = .ok (.iload_n 3, 1) := by decide +kernel
theorem d_M_operate_52 : decode m_M_operate.2.1 52 = .ok (.if_icmp .ge 5, 3) := by decide +kernel
theorem d_M_operate_55 : decode m_M_operate.2.1 55 = .ok (.iconst 1, 1) := by decide +kernel
theorem d_M_operate_56 : decode m_M_operate.2.1 56 = .ok (.ireturn, 1) := by decide +kernel
theorem d_M_operate_57 : decode m_M_operate.2.1 57 = .ok (.iconst 1, 1) := by decide +kernel
theorem d_M_operate_58 : decode m_M_operate.2.1 58 = .ok (.istore 4, 2) := by decide +kernel
theorem d_M_operate_60 : decode m_M_operate.2.1 60 = .ok (.aload_n 0, 1) := by decide +kernel
theorem d_M_operate_61 : decode m_M_operate.2.1 61 = .ok (.getfield 247, 3) := by decide +kernel
theorem d_M_operate_64 : decode m_M_operate.2.1 64 = .ok (.iconst 1, 1) := by decide +kernel
theorem d_M_operate_65 : decode m_M_operate.2.1 65 = .ok (.isub, 1) := by decide +kernel
theorem d_M_operate_66 : decode m_M_operate.2.1 66 = .ok (.istore 5, 2) := by decide +kernel
theorem d_M_operate_68 : decode m_M_operate.2.1 68 = .ok (.iload_n 2, 1) := by decide +kernel
theorem d_M_operate_69 : decode m_M_operate.2.1 69 = .ok (.ifCond .le 39, 3) := by decide +kernel
theorem d_M_operate_72 : decode m_M_operate.2.1 72 = .ok (.iload 4, 2) := by decide +kernel
theorem d_M_operate_74 : decode m_M_operate.2.1 74 = .ok (.ifCond .eq 20, 3) := by decide +kernel
theorem d_M_operate_77 : decode m_M_operate.2.1 77 = .ok (.aload_n 0, 1) := by decide +kernel
theorem d_M_operate_78 : decode m_M_operate.2.1 78 = .ok (.iload 5, 2) := by decide +kernel
theorem d_M_operate_80 : decode m_M_operate.2.1 80 = .ok (.iload_n 2, 1) := by decide +kernel
theorem d_M_operate_81 : decode m_M_operate.2.1 81 = .ok (.bipush 10, 2) := by decide +kernel
theorem d_M_operate_83 : decode m_M_operate.2.1 83 = .ok (.irem, 1) := by decide +kernel
theorem d_M_operate_84 : decode m_M_operate.2.1 84 = .ok (.invokevirtual 427, 3) := by decide +kernel
theorem d_M_operate_87 : decode m_M_operate.2.1 87 = .ok (.ifCond .eq 7, 3) := by decide +kernel
theorem d_M_operate_90 : decode m_M_operate.2.1 90 = .ok (.iconst 1, 1) := by decide +kernel
theorem d_M_operate_91 : decode m_M_operate.2.1 91 = .ok (.goto 4, 3) := by decide +kernel
theorem d_M_operate_94 : decode m_M_operate.2.1 94 = .ok (.iconst 0, 1) := by decide +kernel
theorem d_M_operate_95 : decode m_M_operate.2.1 95 = .ok (.istore 4, 2) := by decide +kernel
theorem d_M_operate_97 : decode m_M_operate.2.1 97 = .ok (.iload_n 2, 1) := by decide +kernel
theorem d_M_operate_98 : decode m_M_operate.2.1 98 = .ok (.bipush 10, 2) := by decide +kernel
theorem d_M_operate_100 : decode m_M_operate.2.1 100 = .ok (.idiv, 1) := by decide +kernel
theorem d_M_operate_101 : decode m_M_operate.2.1 101 = .ok (.istore_n 2, 1) := by decide +kernel
theorem d_M_operate_102 : decode m_M_operate.2.1 102 = .ok (.iinc 5 (-1), 3) := by decide +kernel
theorem d_M_operate_105 : decode m_M_operate.2.1 105 = .ok (.goto (-37), 3) := by decide +kernel
theorem d_M_operate_108 : decode m_M_operate.2.1 108 = .ok (.iload 4, 2) := by decide +kernel
theorem d_M_operate_110 : decode m_M_operate.2.1 110 = .ok (.ifCond .eq 11, 3) := by decide +kernel
theorem d_M_operate_113 : decode m_M_operate.2.1 113 = .ok (.aload_n 0, 1) := by decide +kernel
theorem d_M_operate_114 : decode m_M_operate.2.1 114 = .ok (.iload_n 1, 1) := by decide +kernel
theorem d_M_operate_115 : decode m_M_operate.2.1 115 = .ok (.invokevirtual 431, 3) := by decide +kernel
theorem d_M_operate_118 : decode m_M_operate.2.1 118 = .ok (.ifCond .ne 5, 3) := by decide +kernel
theorem d_M_operate_121 : decode m_M_operate.2.1 121 = .ok (.iconst 3, 1) := by decide +kernel
theorem d_M_operate_122 : decode m_M_operate.2.1 122 = .ok (.ireturn, 1) := by decide +kernel
theorem d_M_operate_123 : decode m_M_operate.2.1 123 = .ok (.iload_n 1, 1) := by decide +kernel
theorem d_M_operate_124 : decode m_M_operate.2.1 124 = .ok (.bipush 10, 2) := by decide +kernel
theorem d_M_operate_126 : decode m_M_operate.2.1 126 = .ok (.if_icmp .lt 9, 3) := by decide +kernel
theorem d_M_operate_129 : decode m_M_operate.2.1 129 = .ok (.iload_n 1, 1) := by decide +kernel
theorem d_M_operate_130 : decode m_M_operate.2.1 130 = .ok (.bipush 69, 2) := by decide +kernel
theorem d_M_operate_132 : decode m_M_operate.2.1 132 = .ok (.if_icmp .le 9, 3) := by decide +kernel
theorem d_M_operate_135 : decode m_M_operate.2.1 135 = .ok (.aload_n 0, 1) := by decide +kernel
theorem d_M_operate_136 : decode m_M_operate.2.1 136 = .ok (.iload_n 1, 1) := by decide +kernel
theorem d_M_operate_137 : decode m_M_operate.2.1 137 = .ok (.invokevirtual 434, 3) := by decide +kernel
theorem d_M_operate_140 : decode m_M_operate.2.1 140 = .ok (.ireturn, 1) := by decide +kernel
theorem d_M_operate_141 : decode m_M_operate.2.1 141 = .ok (.iload_n 1, 1) := by decide +kernel
theorem d_M_operate_142 : decode m_M_operate.2.1 142 = .ok (.bipush 21, 2) := by decide +kernel
theorem d_M_operate_144 : decode m_M_operate.2.1 144 = .ok (.if_icmp .ge 23, 3) := by decide +kernel
theorem d_M_operate_147 : decode m_M_operate.2.1 147 = .ok (.iload_n 1, 1) := by decide +kernel
theorem d_M_operate_148 : decode m_M_operate.2.1 148 = .ok (.bipush 16, 2) := by decide +kernel
theorem d_M_operate_150 : decode m_M_operate.2.1 150 = .ok (.if_icmp .ge 11, 3) := by decide +kernel
theorem d_M_operate_153 : decode m_M_operate.2.1 153 = .ok (.aload_n 0, 1) := by decide +kernel
theorem d_M_operate_154 : decode m_M_operate.2.1 154 = .ok (.iload_n 1, 1) := by decide +kernel
theorem d_M_operate_155 : decode m_M_operate.2.1 155 = .ok (.invokevirtual 437, 3) := by decide +kernel
theorem d_M_operate_158 : decode m_M_operate.2.1 158 = .ok (.goto 8, 3) := by decide +kernel
theorem d_M_operate_161 : decode m_M_operate.2.1 161 = .ok (.aload_n 0, 1) := by decide +kernel
theorem d_M_operate_162 : decode m_M_operate.2.1 162 = .ok (.iload_n 1, 1) := by decide +kernel
theorem d_M_operate_163 : decode m_M_operate.2.1 163 = .ok (.invokevirtual 440, 3) := by decide +kernel
theorem d_M_operate_166 : decode m_M_operate.2.1 166 = .ok (.ireturn, 1) := by decide +kernel
theorem d_M_operate_167 : decode m_M_operate.2.1 167 = .ok (.iload_n 1, 1) := by decide +kernel
theorem d_M_operate_168 : decode m_M_operate.2.1 168 = .ok (.bipush 37, 2) := by decide +kernel
theorem d_M_operate_170 : decode m_M_operate.2.1 170 = .ok (.if_icmp .ge 9, 3) := by decide +kernel
theorem d_M_operate_173 : decode m_M_operate.2.1 173 = .ok (.aload_n 0, 1) := by decide +kernel
theorem d_M_operate_174 : decode m_M_operate.2.1 174 = .ok (.iload_n 1, 1) := by decide +kernel
theorem d_M_operate_175 : decode m_M_operate.2.1 175 = .ok (.invokevirtual 443, 3) := by decide +kernel
theorem d_M_operate_178 : decode m_M_operate.2.1 178 = .ok (.ireturn, 1) := by decide +kernel
theorem d_M_operate_179 : decode m_M_operate.2.1 179 = .ok (.iload_n 1, 1) := by decide +kernel
theorem d_M_operate_180 : decode m_M_operate.2.1 180 = .ok (.bipush 43, 2) := by decide +kernel
theorem d_M_operate_182 : decode m_M_operate.2.1 182 = .ok (.if_icmp .ge 9, 3) := by decide +kernel
theorem d_M_operate_185 : decode m_M_operate.2.1 185 = .ok (.aload_n 0, 1) := by decide +kernel
theorem d_M_operate_186 : decode m_M_operate.2.1 186 = .ok (.iload_n 1, 1) := by decide +kernel
theorem d_M_operate_187 : decode m_M_operate.2.1 187 = .ok (.invokevirtual 446, 3) := by decide +kernel
theorem d_M_operate_190 : decode m_M_operate.2.1 190 = .ok (.ireturn, 1) := by decide +kernel
theorem d_M_operate_191 : decode m_M_operate.2.1 191 = .ok (.iload_n 1, 1) := by decide +kernel
theorem d_M_operate_192 : decode m_M_operate.2.1 192 = .ok (.bipush 50, 2) := by decide +kernel
theorem d_M_operate_194 : decode m_M_operate.2.1 194 = .ok (.if_icmp .ge 9, 3) := by decide +kernel
theorem d_M_operate_197 : decode m_M_operate.2.1 197 = .ok (.aload_n 0, 1) := by decide +kernel
theorem d_M_operate_198 : decode m_M_operate.2.1 198 = .ok (.iload_n 1, 1) := by decide +kernel
theorem d_M_operate_199 : decode m_M_operate.2.1 199 = .ok (.invokevirtual 449, 3) := by decide +kernel
theorem d_M_operate_202 : decode m_M_operate.2.1 202 = .ok (.ireturn, 1) := by decide +kernel
theorem d_M_operate_203 : decode m_M_operate.2.1 203 = .ok (.iload_n 1, 1) := by decide +kernel
theorem d_M_operate_204 : decode m_M_operate.2.1 204 = .ok (.bipush 63, 2) := by decide +kernel
theorem d_M_operate_206 : decode m_M_operate.2.1 206 = .ok (.if_icmp .ge 23, 3) := by decide +kernel
theorem d_M_operate_209 : decode m_M_operate.2.1 209 = .ok (.iload_n 1, 1) := by decide +kernel
theorem d_M_operate_210 : decode m_M_operate.2.1 210 = .ok (.bipush 57, 2) := by decide +kernel
theorem d_M_operate_212 : decode m_M_operate.2.1 212 = .ok (.if_icmp .ge 11, 3) := by decide +kernel
theorem d_M_operate_215 : decode m_M_operate.2.1 215 = .ok (.aload_n 0, 1) := by decide +kernel
theorem d_M_operate_216 : decode m_M_operate.2.1 216 = .ok (.iload_n 1, 1) := by decide +kernel
theorem d_M_operate_217 : decode m_M_operate.2.1 217 = .ok (.invokevirtual 452, 3) := by decide +kernel
theorem d_M_operate_220 : decode m_M_operate.2.1 220 = .ok (.goto 8, 3) := by decide +kernel
theorem d_M_operate_223 : decode m_M_operate.2.1 223 = .ok (.aload_n 0, 1) := by decide +kernel
theorem d_M_operate_224 : decode m_M_operate.2.1 224 = .ok (.iload_n 1, 1) := by decide +kernel
theorem d_M_operate_225 : decode m_M_operate.2.1 225 = .ok (.invokevirtual 455, 3) := by decide +kernel
theorem d_M_operate_228 : decode m_M_operate.2.1 228 = .ok (.ireturn, 1) := by decide +kernel
theorem d_M_operate_229 : decode m_M_operate.2.1 229 = .ok (.aload_n 0, 1) := by decide +kernel
theorem d_M_operate_230 : decode m_M_operate.2.1 230 = .ok (.iload_n 1, 1) := by decide +kernel
theorem d_M_operate_231 : decode m_M_operate.2.1 231 = .ok (.invokevirtual 458, 3) := by decide +kernel
theorem d_M_operate_234 : decode m_M_operate.2.1 234 = .ok (.ireturn, 1) := by decide +kernel
theorem d_M_token_0 : decode m_M_token.2.1 0 = .ok (.aload_n 0, 1) := by decide +kernel
theorem d_M_token_1 : decode m_M_token.2.1 1 = .ok (.iconst 0, 1) := by decide +kernel
theorem d_M_token_2 : decode m_M_token.2.1 2 = .ok (.putfield 330, 3) := by decide +kernel
theorem d_M_token_5 : decode m_M_token.2.1 5 = .ok (.aload_n 0, 1) := by decide +kernel
theorem d_M_token_6 : decode m_M_token.2.1 6 = .ok (.iconst 0, 1) := by decide +kernel
theorem d_M_token_7 : decode m_M_token.2.1 7 = .ok (.putfield 333, 3) := by decide +kernel
theorem d_M_token_10 : decode m_M_token.2.1 10 = .ok (.iconst 0, 1) := by decide +kernel
theorem d_M_token_11 : decode m_M_token.2.1 11 = .ok (.istore_n 1, 1) := by decide +kernel
theorem d_M_token_12 : decode m_M_token.2.1 12 = .ok (.iload_n 1, 1) := by decide +kernel
theorem d_M_token_13 : decode m_M_token.2.1 13 = .ok (.sipush 300, 3) := by decide +kernel
theorem d_M_token_16 : decode m_M_token.2.1 16 = .ok (.if_icmp .ge 196, 3) := by decide +kernel
theorem d_M_token_19 : decode m_M_token.2.1 19 = .ok (.aload_n 0, 1) := by decide +kernel
theorem d_M_token_20 : decode m_M_token.2.1 20 = .ok (.getfield 281, 3) := by decide +kernel
theorem d_M_token_23 : decode m_M_token.2.1 23 = .ok (.aload_n 0, 1) := by decide +kernel
theorem d_M_token_24 : decode m_M_token.2.1 24 = .ok (.getfield 270, 3) := by decide +kernel
theorem d_M_token_27 : decode m_M_token.2.1 27 = .ok (.if_icmp .ge 30, 3) := by decide +kernel
theorem d_M_token_30 : decode m_M_token.2.1 30 = .ok (.aload_n 0, 1) := by decide +kernel
theorem d_M_token_31 : decode m_M_token.2.1 31 = .ok (.getfield 61, 3) := by decide +kernel
theorem d_M_token_34 : decode m_M_token.2.1 34 = .ok (.aload_n 0, 1) := by decide +kernel
theorem d_M_token_35 : decode m_M_token.2.1 35 = .ok (.getfield 281, 3) := by decide +kernel
theorem d_M_token_38 : decode m_M_token.2.1 38 = .ok (.caload, 1) := by decide +kernel
theorem d_M_token_39 : decode m_M_token.2.1 39 = .ok (.bipush 32, 2) := by decide +kernel
theorem d_M_token_41 : decode m_M_token.2.1 41 = .ok (.if_icmp .ne 16, 3) := by decide +kernel
theorem d_M_token_44 : decode m_M_token.2.1 44 = .ok (.aload_n 0, 1) := by decide +kernel
theorem d_M_token_45 : decode m_M_token.2.1 45 = .ok (.dup, 1) := by decide +kernel
theorem d_M_token_46 : decode m_M_token.2.1 46 = .ok (.getfield 281, 3) := by decide +kernel
theorem d_M_token_49 : decode m_M_token.2.1 49 = .ok (.iconst 1, 1) := by decide +kernel
theorem d_M_token_50 : decode m_M_token.2.1 50 = .ok (.iadd, 1) := by decide +kernel
theorem d_M_token_51 : decode m_M_token.2.1 51 = .ok (.putfield 281, 3) := by decide +kernel
theorem d_M_token_54 : decode m_M_token.2.1 54 = .ok (.goto (-35), 3) := by decide +kernel
theorem d_M_token_57 : decode m_M_token.2.1 57 = .ok (.aload_n 0, 1) := by decide +kernel
theorem d_M_token_58 : decode m_M_token.2.1 58 = .ok (.getfield 281, 3) := by decide +kernel
theorem d_M_token_61 : decode m_M_token.2.1 61 = .ok (.aload_n 0, 1) := by decide +kernel
theorem d_M_token_62 : decode m_M_token.2.1 62 = .ok (.getfield 270, 3) := by decide +kernel
theorem d_M_token_65 : decode m_M_token.2.1 65 = .ok (.if_icmp .ne 17, 3) := by decide +kernel
theorem d_M_token_68 : decode m_M_token.2.1 68 = .ok (.aload_n 0, 1) := by decide +kernel
theorem d_M_token_69 : decode m_M_token.2.1 69 = .ok (.getfield 330, 3) := by decide +kernel
theorem d_M_token_72 : decode m_M_token.2.1 72 = .ok (.ifCond .ne 7, 3) := by decide +kernel
theorem d_M_token_75 : decode m_M_token.2.1 75 = .ok (.iconst (-1), 1) := by decide +kernel
theorem d_M_token_76 : decode m_M_token.2.1 76 = .ok (.goto 5, 3) := by decide +kernel
theorem d_M_token_79 : decode m_M_token.2.1 79 = .ok (.bipush 15, 2) := by decide +kernel
theorem d_M_token_81 : decode m_M_token.2.1 81 = .ok (.ireturn, 1) := by decide +kernel
theorem d_M_token_82 : decode m_M_token.2.1 82 = .ok (.aload_n 0, 1) := by decide +kernel
theorem d_M_token_83 : decode m_M_token.2.1 83 = .ok (.getfield 61, 3) := by decide +kernel
theorem d_M_token_86 : decode m_M_token.2.1 86 = .ok (.aload_n 0, 1) := by decide +kernel
theorem d_M_token_87 : decode m_M_token.2.1 87 = .ok (.getfield 281, 3) := by decide +kernel
theorem d_M_token_90 : decode m_M_token.2.1 90 = .ok (.caload, 1) := by decide +kernel
theorem d_M_token_91 : decode m_M_token.2.1 91 = .ok (.bipush 123, 2) := by decide +kernel
theorem d_M_token_93 : decode m_M_token.2.1 93 = .ok (.if_icmp .ne 50, 3) := by decide +kernel
theorem d_M_token_96 : decode m_M_token.2.1 96 = .ok (.aload_n 0, 1) := by decide +kernel
theorem d_M_token_97 : decode m_M_token.2.1 97 = .ok (.getfield 330, 3) := by decide +kernel
theorem d_M_token_100 : decode m_M_token.2.1 100 = .ok (.iconst 4, 1) := by decide +kernel
theorem d_M_token_101 : decode m_M_token.2.1 101 = .ok (.if_icmp .ne 6, 3) := by decide +kernel
theorem d_M_token_104 : decode m_M_token.2.1 104 = .ok (.bipush 12, 2) := by decide +kernel
theorem d_M_token_106 : decode m_M_token.2.1 106 = .ok (.ireturn, 1) := by decide +kernel
theorem d_M_token_107 : decode m_M_token.2.1 107 = .ok (.aload_n 0, 1) := by decide +kernel
theorem d_M_token_108 : decode m_M_token.2.1 108 = .ok (.getfield 65, 3) := by decide +kernel
theorem d_M_token_111 : decode m_M_token.2.1 111 = .ok (.aload_n 0, 1) := by decide +kernel
theorem d_M_token_112 : decode m_M_token.2.1 112 = .ok (.getfield 330, 3) := by decide +kernel
theorem d_M_token_115 : decode m_M_token.2.1 115 = .ok (.aload_n 0, 1) := by decide +kernel
theorem d_M_token_116 : decode m_M_token.2.1 116 = .ok (.getfield 333, 3) := by decide +kernel
theorem d_M_token_119 : decode m_M_token.2.1 119 = .ok (.iastore, 1) := by decide +kernel
theorem d_M_token_120 : decode m_M_token.2.1 120 = .ok (.aload_n 0, 1) := by decide +kernel
theorem d_M_token_121 : decode m_M_token.2.1 121 = .ok (.dup, 1) := by decide +kernel
theorem d_M_token_122 : decode m_M_token.2.1 122 = .ok (.getfield 330, 3) := by decide +kernel
theorem d_M_token_125 : decode m_M_token.2.1 125 = .ok (.iconst 1, 1) := by decide +kernel
theorem d_M_token_126 : decode m_M_token.2.1 126 = .ok (.iadd, 1) := by decide +kernel
theorem d_M_token_127 : decode m_M_token.2.1 127 = .ok (.putfield 330, 3) := by decide +kernel
theorem d_M_token_130 : decode m_M_token.2.1 130 = .ok (.aload_n 0, 1) := by decide +kernel
theorem d_M_token_131 : decode m_M_token.2.1 131 = .ok (.dup, 1) := by decide +kernel
theorem d_M_token_132 : decode m_M_token.2.1 132 = .ok (.getfield 281, 3) := by decide +kernel
theorem d_M_token_135 : decode m_M_token.2.1 135 = .ok (.iconst 1, 1) := by decide +kernel
theorem d_M_token_136 : decode m_M_token.2.1 136 = .ok (.iadd, 1) := by decide +kernel
theorem d_M_token_137 : decode m_M_token.2.1 137 = .ok (.putfield 281, 3) := by decide +kernel
theorem d_M_token_140 : decode m_M_token.2.1 140 = .ok (.goto 66, 3) := by decide +kernel
theorem d_M_token_143 : decode m_M_token.2.1 143 = .ok (.aload_n 0, 1) := by decide +kernel
theorem d_M_token_144 : decode m_M_token.2.1 144 = .ok (.getfield 61, 3) := by decide +kernel
theorem d_M_token_147 : decode m_M_token.2.1 147 = .ok (.aload_n 0, 1) := by decide +kernel
theorem d_M_token_148 : decode m_M_token.2.1 148 = .ok (.getfield 281, 3) := by decide +kernel
theorem d_M_token_151 : decode m_M_token.2.1 151 = .ok (.caload, 1) := by decide +kernel
theorem d_M_token_152 : decode m_M_token.2.1 152 = .ok (.bipush 125, 2) := by decide +kernel
theorem d_M_token_154 : decode m_M_token.2.1 154 = .ok (.if_icmp .ne 10, 3) := by decide +kernel
theorem d_M_token_157 : decode m_M_token.2.1 157 = .ok (.aload_n 0, 1) := by decide +kernel
theorem d_M_token_158 : decode m_M_token.2.1 158 = .ok (.invokevirtual 340, 3) := by decide +kernel
theorem d_M_token_161 : decode m_M_token.2.1 161 = .ok (.goto 7, 3) := by decide +kernel
theorem d_M_token_164 : decode m_M_token.2.1 164 = .ok (.aload_n 0, 1) := by decide +kernel
theorem d_M_token_165 : decode m_M_token.2.1 165 = .ok (.invokevirtual 343, 3) := by decide +kernel
theorem d_M_token_168 : decode m_M_token.2.1 168 = .ok (.istore_n 2, 1) := by decide +kernel
theorem d_M_token_169 : decode m_M_token.2.1 169 = .ok (.iload_n 2, 1) := by decide +kernel
theorem d_M_token_170 : decode m_M_token.2.1 170 = .ok (.ifCond .ne 10, 3) := by decide +kernel
theorem d_M_token_173 : decode m_M_token.2.1 173 = .ok (.aload_n 0, 1) := by decide +kernel
theorem d_M_token_174 : decode m_M_token.2.1 174 = .ok (.getfield 330, 3) := by decide +kernel
theorem d_M_token_177 : decode m_M_token.2.1 177 = .ok (.ifCond .ne 5, 3) := by decide +kernel
theorem d_M_token_180 : decode m_M_token.2.1 180 = .ok (.iload_n 2, 1) := by decide +kernel
theorem d_M_token_181 : decode m_M_token.2.1 181 = .ok (.ireturn, 1) := by decide +kernel
theorem d_M_token_182 : decode m_M_token.2.1 182 = .ok (.aload_n 0, 1) := by decide +kernel
theorem d_M_token_183 : decode m_M_token.2.1 183 = .ok (.sipush 1170, 3) := by decide +kernel
theorem d_M_token_186 : decode m_M_token.2.1 186 = .ok (.aload_n 0, 1) := by decide +kernel
theorem d_M_token_187 : decode m_M_token.2.1 187 = .ok (.getfield 333, 3) := by decide +kernel
theorem d_M_token_190 : decode m_M_token.2.1 190 = .ok (.iadd, 1) := by decide +kernel
theorem d_M_token_191 : decode m_M_token.2.1 191 = .ok (.bipush 40, 2) := by decide +kernel
theorem d_M_token_193 : decode m_M_token.2.1 193 = .ok (.invokevirtual 254, 3) := by decide +kernel
theorem d_M_token_196 : decode m_M_token.2.1 196 = .ok (.aload_n 0, 1) := by decide +kernel
theorem d_M_token_197 : decode m_M_token.2.1 197 = .ok (.dup, 1) := by decide +kernel
theorem d_M_token_198 : decode m_M_token.2.1 198 = .ok (.getfield 333, 3) := by decide +kernel
theorem d_M_token_201 : decode m_M_token.2.1 201 = .ok (.iconst 1, 1) := by decide +kernel
theorem d_M_token_202 : decode m_M_token.2.1 202 = .ok (.iadd, 1) := by decide +kernel
theorem d_M_token_203 : decode m_M_token.2.1 203 = .ok (.putfield 333, 3) := by decide +kernel
theorem d_M_token_206 : decode m_M_token.2.1 206 = .ok (.iinc 1 1, 3) := by decide +kernel
theorem d_M_token_209 : decode m_M_token.2.1 209 = .ok (.goto (-197), 3) := by decide +kernel
theorem d_M_token_212 : decode m_M_token.2.1 212 = .ok (.bipush 15, 2) := by decide +kernel
theorem d_M_token_214 : decode m_M_token.2.1 214 = .ok (.ireturn, 1) := by decide +kernel
theorem d_M_doValue_0 : decode m_M_doValue.2.1 0 = .ok (.iconst (-1), 1) := by decide +kernel
theorem d_M_doValue_1 : decode m_M_doValue.2.1 1 = .ok (.istore_n 1, 1) := by decide +kernel
theorem d_M_doValue_2 : decode m_M_doValue.2.1 2 = .ok (.iconst 0, 1) := by decide +kernel
theorem d_M_doValue_3 : decode m_M_doValue.2.1 3 = .ok (.istore_n 2, 1) := by decide +kernel
theorem d_M_doValue_4 : decode m_M_doValue.2.1 4 = .ok (.iload_n 2, 1) := by decide +kernel
theorem d_M_doValue_5 : decode m_M_doValue.2.1 5 = .ok (.sipush 1200, 3) := by decide +kernel
theorem d_M_doValue_8 : decode m_M_doValue.2.1 8 = .ok (.if_icmp .ge 157, 3) := by decide +kernel
theorem d_M_doValue_11 : decode m_M_doValue.2.1 11 = .ok (.iload_n 1, 1) := by decide +kernel
theorem d_M_doValue_12 : decode m_M_doValue.2.1 12 = .ok (.iconst (-1), 1) := by decide +kernel
theorem d_M_doValue_13 : decode m_M_doValue.2.1 13 = .ok (.if_icmp .ne 152, 3) := by decide +kernel
theorem d_M_doValue_16 : decode m_M_doValue.2.1 16 = .ok (.aload_n 0, 1) := by decide +kernel
theorem d_M_doValue_17 : decode m_M_doValue.2.1 17 = .ok (.invokevirtual 366, 3) := by decide +kernel
theorem d_M_doValue_20 : decode m_M_doValue.2.1 20 = .ok (.ifCond .eq 6, 3) := by decide +kernel
theorem d_M_doValue_23 : decode m_M_doValue.2.1 23 = .ok (.bipush 16, 2) := by decide +kernel
theorem d_M_doValue_25 : decode m_M_doValue.2.1 25 = .ok (.ireturn, 1) := by decide +kernel
theorem d_M_doValue_26 : decode m_M_doValue.2.1 26 = .ok (.aload_n 0, 1) := by decide +kernel
theorem d_M_doValue_27 : decode m_M_doValue.2.1 27 = .ok (.getfield 7, 3) := by decide +kernel
theorem d_M_doValue_30 : decode m_M_doValue.2.1 30 = .ok (.bipush 40, 2) := by decide +kernel
theorem d_M_doValue_32 : decode m_M_doValue.2.1 32 = .ok (.iaload, 1) := by decide +kernel
theorem d_M_doValue_33 : decode m_M_doValue.2.1 33 = .ok (.bipush 11, 2) := by decide +kernel
theorem d_M_doValue_35 : decode m_M_doValue.2.1 35 = .ok (.if_icmp .eq 10, 3) := by decide +kernel
theorem d_M_doValue_38 : decode m_M_doValue.2.1 38 = .ok (.aload_n 0, 1) := by decide +kernel
theorem d_M_doValue_39 : decode m_M_doValue.2.1 39 = .ok (.bipush 40, 2) := by decide +kernel
theorem d_M_doValue_41 : decode m_M_doValue.2.1 41 = .ok (.invokevirtual 369, 3) := by decide +kernel
theorem d_M_doValue_44 : decode m_M_doValue.2.1 44 = .ok (.ireturn, 1) := by decide +kernel
theorem d_M_doValue_45 : decode m_M_doValue.2.1 45 = .ok (.aload_n 0, 1) := by decide +kernel
theorem d_M_doValue_46 : decode m_M_doValue.2.1 46 = .ok (.aload_n 0, 1) := by decide +kernel
theorem d_M_doValue_47 : decode m_M_doValue.2.1 47 = .ok (.getfield 13, 3) := by decide +kernel
theorem d_M_doValue_50 : decode m_M_doValue.2.1 50 = .ok (.bipush 40, 2) := by decide +kernel
theorem d_M_doValue_52 : decode m_M_doValue.2.1 52 = .ok (.laload, 1) := by decide +kernel
theorem d_M_doValue_53 : decode m_M_doValue.2.1 53 = .ok (.invokevirtual 372, 3) := by decide +kernel
theorem d_M_doValue_56 : decode m_M_doValue.2.1 56 = .ok (.istore_n 3, 1) := by decide +kernel
theorem d_M_doValue_57 : decode m_M_doValue.2.1 57 = .ok (.aload_n 0, 1) := by decide +kernel
theorem d_M_doValue_58 : decode m_M_doValue.2.1 58 = .ok (.aload_n 0, 1) := by decide +kernel
theorem d_M_doValue_59 : decode m_M_doValue.2.1 59 = .ok (.getfield 13, 3) := by decide +kernel
theorem d_M_doValue_62 : decode m_M_doValue.2.1 62 = .ok (.bipush 40, 2) := by decide +kernel
theorem d_M_doValue_64 : decode m_M_doValue.2.1 64 = .ok (.laload, 1) := by decide +kernel
theorem d_M_doValue_65 : decode m_M_doValue.2.1 65 = .ok (.invokevirtual 307, 3) := by decide +kernel
theorem d_M_doValue_68 : decode m_M_doValue.2.1 68 = .ok (.istore 4, 2) := by decide +kernel
theorem d_M_doValue_70 : decode m_M_doValue.2.1 70 = .ok (.iload_n 3, 1) := by decide +kernel
theorem d_M_doValue_71 : decode m_M_doValue.2.1 71 = .ok (.iconst (-1), 1) := by decide +kernel
theorem d_M_doValue_72 : decode m_M_doValue.2.1 72 = .ok (.if_icmp .ne 23, 3) := by decide +kernel
theorem d_M_doValue_75 : decode m_M_doValue.2.1 75 = .ok (.iload 4, 2) := by decide +kernel
theorem d_M_doValue_77 : decode m_M_doValue.2.1 77 = .ok (.iconst (-1), 1) := by decide +kernel
theorem d_M_doValue_78 : decode m_M_doValue.2.1 78 = .ok (.if_icmp .ne 7, 3) := by decide +kernel
theorem d_M_doValue_81 : decode m_M_doValue.2.1 81 = .ok (.iconst 5, 1) := by decide +kernel
theorem d_M_doValue_82 : decode m_M_doValue.2.1 82 = .ok (.goto 9, 3) := by decide +kernel
theorem d_M_doValue_85 : decode m_M_doValue.2.1 85 = .ok (.aload_n 0, 1) := by decide +kernel
theorem d_M_doValue_86 : decode m_M_doValue.2.1 86 = .ok (.iload 4, 2) := by decide +kernel
theorem d_M_doValue_88 : decode m_M_doValue.2.1 88 = .ok (.invokevirtual 375, 3) := by decide +kernel
theorem d_M_doValue_91 : decode m_M_doValue.2.1 91 = .ok (.istore_n 1, 1) := by decide +kernel
theorem d_M_doValue_92 : decode m_M_doValue.2.1 92 = .ok (.goto 67, 3) := by decide +kernel
theorem d_M_doValue_95 : decode m_M_doValue.2.1 95 = .ok (.aload_n 0, 1) := by decide +kernel
theorem d_M_doValue_96 : decode m_M_doValue.2.1 96 = .ok (.iload_n 3, 1) := by decide +kernel
theorem d_M_doValue_97 : decode m_M_doValue.2.1 97 = .ok (.invokevirtual 378, 3) := by decide +kernel
theorem d_M_doValue_100 : decode m_M_doValue.2.1 100 = .ok (.ifCond .eq 14, 3) := by decide +kernel
theorem d_M_doValue_103 : decode m_M_doValue.2.1 103 = .ok (.aload_n 0, 1) := by decide +kernel
theorem d_M_doValue_104 : decode m_M_doValue.2.1 104 = .ok (.aload_n 0, 1) := by decide +kernel
theorem d_M_doValue_105 : decode m_M_doValue.2.1 105 = .ok (.getfield 13, 3) := by decide +kernel
theorem d_M_doValue_108 : decode m_M_doValue.2.1 108 = .ok (.iload_n 3, 1) := by decide +kernel
theorem d_M_doValue_109 : decode m_M_doValue.2.1 109 = .ok (.laload, 1) := by decide +kernel
theorem d_M_doValue_110 : decode m_M_doValue.2.1 110 = .ok (.invokevirtual 382, 3) := by decide +kernel
theorem d_M_doValue_113 : decode m_M_doValue.2.1 113 = .ok (.ireturn, 1) := by decide +kernel
theorem d_M_doValue_114 : decode m_M_doValue.2.1 114 = .ok (.aload_n 0, 1) := by decide +kernel
theorem d_M_doValue_115 : decode m_M_doValue.2.1 115 = .ok (.getfield 7, 3) := by decide +kernel
theorem d_M_doValue_118 : decode m_M_doValue.2.1 118 = .ok (.iload_n 3, 1) := by decide +kernel
theorem d_M_doValue_119 : decode m_M_doValue.2.1 119 = .ok (.iaload, 1) := by decide +kernel
theorem d_M_doValue_120 : decode m_M_doValue.2.1 120 = .ok (.bipush 11, 2) := by decide +kernel
theorem d_M_doValue_122 : decode m_M_doValue.2.1 122 = .ok (.if_icmp .ne 31, 3) := by decide +kernel
theorem d_M_doValue_125 : decode m_M_doValue.2.1 125 = .ok (.aload_n 0, 1) := by decide +kernel
theorem d_M_doValue_126 : decode m_M_doValue.2.1 126 = .ok (.getfield 349, 3) := by decide +kernel
theorem d_M_doValue_129 : decode m_M_doValue.2.1 129 = .ok (.bipush 8, 2) := by decide +kernel
theorem d_M_doValue_131 : decode m_M_doValue.2.1 131 = .ok (.if_icmp .ne 6, 3) := by decide +kernel
theorem d_M_doValue_134 : decode m_M_doValue.2.1 134 = .ok (.bipush 12, 2) := by decide +kernel
theorem d_M_doValue_136 : decode m_M_doValue.2.1 136 = .ok (.ireturn, 1) := by decide +kernel
theorem d_M_doValue_137 : decode m_M_doValue.2.1 137 = .ok (.aload_n 0, 1) := by decide +kernel
theorem d_M_doValue_138 : decode m_M_doValue.2.1 138 = .ok (.iconst 2, 1) := by decide +kernel
theorem d_M_doValue_139 : decode m_M_doValue.2.1 139 = .ok (.lconst 0, 1) := by decide +kernel
theorem d_M_doValue_140 : decode m_M_doValue.2.1 140 = .ok (.invokevirtual 352, 3) := by decide +kernel
theorem d_M_doValue_143 : decode m_M_doValue.2.1 143 = .ok (.aload_n 0, 1) := by decide +kernel
theorem d_M_doValue_144 : decode m_M_doValue.2.1 144 = .ok (.bipush 40, 2) := by decide +kernel
theorem d_M_doValue_146 : decode m_M_doValue.2.1 146 = .ok (.iload_n 3, 1) := by decide +kernel
theorem d_M_doValue_147 : decode m_M_doValue.2.1 147 = .ok (.invokevirtual 254, 3) := by decide +kernel
theorem d_M_doValue_150 : decode m_M_doValue.2.1 150 = .ok (.goto 9, 3) := by decide +kernel
theorem d_M_doValue_153 : decode m_M_doValue.2.1 153 = .ok (.aload_n 0, 1) := by decide +kernel
theorem d_M_doValue_154 : decode m_M_doValue.2.1 154 = .ok (.iload_n 3, 1) := by decide +kernel
theorem d_M_doValue_155 : decode m_M_doValue.2.1 155 = .ok (.invokevirtual 369, 3) := by decide +kernel
theorem d_M_doValue_158 : decode m_M_doValue.2.1 158 = .ok (.ireturn, 1) := by decide +kernel
theorem d_M_doValue_159 : decode m_M_doValue.2.1 159 = .ok (.iinc 2 1, 3) := by decide +kernel
theorem d_M_doValue_162 : decode m_M_doValue.2.1 162 = .ok (.goto (-158), 3) := by decide +kernel
theorem d_M_doValue_165 : decode m_M_doValue.2.1 165 = .ok (.iload_n 1, 1) := by decide +kernel
theorem d_M_doValue_166 : decode m_M_doValue.2.1 166 = .ok (.ireturn, 1) := by decide +kernel
theorem d_M_advance_0 : decode m_M_advance.2.1 0 = .ok (.aload_n 0, 1) := by decide +kernel
theorem d_M_advance_1 : decode m_M_advance.2.1 1 = .ok (.getfield 346, 3) := by decide +kernel
theorem d_M_advance_4 : decode m_M_advance.2.1 4 = .ok (.iconst 1, 1) := by decide +kernel
theorem d_M_advance_5 : decode m_M_advance.2.1 5 = .ok (.isub, 1) := by decide +kernel
theorem d_M_advance_6 : decode m_M_advance.2.1 6 = .ok (.istore_n 1, 1) := by decide +kernel
theorem d_M_advance_7 : decode m_M_advance.2.1 7 = .ok (.aload_n 0, 1) := by decide +kernel
theorem d_M_advance_8 : decode m_M_advance.2.1 8 = .ok (.getfield 43, 3) := by decide +kernel
theorem d_M_advance_11 : decode m_M_advance.2.1 11 = .ok (.iload_n 1, 1) := by decide +kernel
theorem d_M_advance_12 : decode m_M_advance.2.1 12 = .ok (.iaload, 1) := by decide +kernel
theorem d_M_advance_13 : decode m_M_advance.2.1 13 = .ok (.istore_n 2, 1) := by decide +kernel
theorem d_M_advance_14 : decode m_M_advance.2.1 14 = .ok (.iload_n 2, 1) := by decide +kernel
theorem d_M_advance_15 : decode m_M_advance.2.1 15 = .ok (.bipush 7, 2) := by decide +kernel
theorem d_M_advance_17 : decode m_M_advance.2.1 17 = .ok (.if_icmp .ne 14, 3) := by decide +kernel
theorem d_M_advance_20 : decode m_M_advance.2.1 20 = .ok (.aload_n 0, 1) := by decide +kernel
theorem d_M_advance_21 : decode m_M_advance.2.1 21 = .ok (.invokevirtual 385, 3) := by decide +kernel
theorem d_M_advance_24 : decode m_M_advance.2.1 24 = .ok (.aload_n 0, 1) := by decide +kernel
theorem d_M_advance_25 : decode m_M_advance.2.1 25 = .ok (.iconst 2, 1) := by decide +kernel
theorem d_M_advance_26 : decode m_M_advance.2.1 26 = .ok (.lconst 0, 1) := by decide +kernel
theorem d_M_advance_27 : decode m_M_advance.2.1 27 = .ok (.invokevirtual 388, 3) := by decide +kernel
theorem d_M_advance_30 : decode m_M_advance.2.1 30 = .ok (.ireturn, 1) := by decide +kernel
theorem d_M_advance_31 : decode m_M_advance.2.1 31 = .ok (.iload_n 2, 1) := by decide +kernel
theorem d_M_advance_32 : decode m_M_advance.2.1 32 = .ok (.iconst 1, 1) := by decide +kernel
theorem d_M_advance_33 : decode m_M_advance.2.1 33 = .ok (.if_icmp .ne 29, 3) := by decide +kernel
theorem d_M_advance_36 : decode m_M_advance.2.1 36 = .ok (.aload_n 0, 1) := by decide +kernel
theorem d_M_advance_37 : decode m_M_advance.2.1 37 = .ok (.getfield 49, 3) := by decide +kernel
theorem d_M_advance_40 : decode m_M_advance.2.1 40 = .ok (.iload_n 1, 1) := by decide +kernel
theorem d_M_advance_41 : decode m_M_advance.2.1 41 = .ok (.iaload, 1) := by decide +kernel
theorem d_M_advance_42 : decode m_M_advance.2.1 42 = .ok (.aload_n 0, 1) := by decide +kernel
theorem d_M_advance_43 : decode m_M_advance.2.1 43 = .ok (.getfield 46, 3) := by decide +kernel
theorem d_M_advance_46 : decode m_M_advance.2.1 46 = .ok (.iload_n 1, 1) := by decide +kernel
theorem d_M_advance_47 : decode m_M_advance.2.1 47 = .ok (.laload, 1) := by decide +kernel
theorem d_M_advance_48 : decode m_M_advance.2.1 48 = .ok (.invokestatic 391, 3) := by decide +kernel
theorem d_M_advance_51 : decode m_M_advance.2.1 51 = .ok (.if_icmp .ge 7, 3) := by decide +kernel
theorem d_M_advance_54 : decode m_M_advance.2.1 54 = .ok (.iconst 1, 1) := by decide +kernel
theorem d_M_advance_55 : decode m_M_advance.2.1 55 = .ok (.goto 36, 3) := by decide +kernel
theorem d_M_advance_58 : decode m_M_advance.2.1 58 = .ok (.iconst 0, 1) := by decide +kernel
theorem d_M_advance_59 : decode m_M_advance.2.1 59 = .ok (.goto 32, 3) := by decide +kernel
theorem d_M_advance_62 : decode m_M_advance.2.1 62 = .ok (.iload_n 2, 1) := by decide +kernel
theorem d_M_advance_63 : decode m_M_advance.2.1 63 = .ok (.bipush 6, 2) := by decide +kernel
theorem d_M_advance_65 : decode m_M_advance.2.1 65 = .ok (.if_icmp .ne 25, 3) := by decide +kernel
theorem d_M_advance_68 : decode m_M_advance.2.1 68 = .ok (.aload_n 0, 1) := by decide +kernel
theorem d_M_advance_69 : decode m_M_advance.2.1 69 = .ok (.getfield 49, 3) := by decide +kernel
theorem d_M_advance_72 : decode m_M_advance.2.1 72 = .ok (.iload_n 1, 1) := by decide +kernel
theorem d_M_advance_73 : decode m_M_advance.2.1 73 = .ok (.iaload, 1) := by decide +kernel
theorem d_M_advance_74 : decode m_M_advance.2.1 74 = .ok (.aload_n 0, 1) := by decide +kernel
theorem d_M_advance_75 : decode m_M_advance.2.1 75 = .ok (.getfield 58, 3) := by decide +kernel
theorem d_M_advance_78 : decode m_M_advance.2.1 78 = .ok (.iload_n 1, 1) := by decide +kernel
theorem d_M_advance_79 : decode m_M_advance.2.1 79 = .ok (.laload, 1) := by decide +kernel
theorem d_M_advance_80 : decode m_M_advance.2.1 80 = .ok (.invokestatic 391, 3) := by decide +kernel
theorem d_M_advance_83 : decode m_M_advance.2.1 83 = .ok (.if_icmp .ge 7, 3) := by decide +kernel
theorem d_M_advance_86 : decode m_M_advance.2.1 86 = .ok (.iconst 1, 1) := by decide +kernel
theorem d_M_advance_87 : decode m_M_advance.2.1 87 = .ok (.goto 4, 3) := by decide +kernel
theorem d_M_advance_90 : decode m_M_advance.2.1 90 = .ok (.iconst 0, 1) := by decide +kernel
theorem d_M_advance_91 : decode m_M_advance.2.1 91 = .ok (.istore_n 3, 1) := by decide +kernel
theorem d_M_advance_92 : decode m_M_advance.2.1 92 = .ok (.iload_n 2, 1) := by decide +kernel
theorem d_M_advance_93 : decode m_M_advance.2.1 93 = .ok (.iconst 3, 1) := by decide +kernel
theorem d_M_advance_94 : decode m_M_advance.2.1 94 = .ok (.if_icmp .ne 62, 3) := by decide +kernel
theorem d_M_advance_97 : decode m_M_advance.2.1 97 = .ok (.aload_n 0, 1) := by decide +kernel
theorem d_M_advance_98 : decode m_M_advance.2.1 98 = .ok (.getfield 55, 3) := by decide +kernel
theorem d_M_advance_101 : decode m_M_advance.2.1 101 = .ok (.iload_n 1, 1) := by decide +kernel
theorem d_M_advance_102 : decode m_M_advance.2.1 102 = .ok (.laload, 1) := by decide +kernel
theorem d_M_advance_103 : decode m_M_advance.2.1 103 = .ok (.lconst 0, 1) := by decide +kernel
theorem d_M_advance_104 : decode m_M_advance.2.1 104 = .ok (.lcmp, 1) := by decide +kernel
theorem d_M_advance_105 : decode m_M_advance.2.1 105 = .ok (.ifCond .ge 27, 3) := by decide +kernel
theorem d_M_advance_108 : decode m_M_advance.2.1 108 = .ok (.aload_n 0, 1) := by decide +kernel
theorem d_M_advance_109 : decode m_M_advance.2.1 109 = .ok (.getfield 52, 3) := by decide +kernel
theorem d_M_advance_112 : decode m_M_advance.2.1 112 = .ok (.iload_n 1, 1) := by decide +kernel
theorem d_M_advance_113 : decode m_M_advance.2.1 113 = .ok (.laload, 1) := by decide +kernel
theorem d_M_advance_114 : decode m_M_advance.2.1 114 = .ok (.aload_n 0, 1) := by decide +kernel
theorem d_M_advance_115 : decode m_M_advance.2.1 115 = .ok (.getfield 58, 3) := by decide +kernel
theorem d_M_advance_118 : decode m_M_advance.2.1 118 = .ok (.iload_n 1, 1) := by decide +kernel
theorem d_M_advance_119 : decode m_M_advance.2.1 119 = .ok (.laload, 1) := by decide +kernel
theorem d_M_advance_120 : decode m_M_advance.2.1 120 = .ok (.lcmp, 1) := by decide +kernel
theorem d_M_advance_121 : decode m_M_advance.2.1 121 = .ok (.ifCond .lt 7, 3) := by decide +kernel
theorem d_M_advance_124 : decode m_M_advance.2.1 124 = .ok (.iconst 1, 1) := by decide +kernel
theorem d_M_advance_125 : decode m_M_advance.2.1 125 = .ok (.goto 57, 3) := by decide +kernel
theorem d_M_advance_128 : decode m_M_advance.2.1 128 = .ok (.iconst 0, 1) := by decide +kernel
theorem d_M_advance_129 : decode m_M_advance.2.1 129 = .ok (.goto 53, 3) := by decide +kernel
theorem d_M_advance_132 : decode m_M_advance.2.1 132 = .ok (.aload_n 0, 1) := by decide +kernel
theorem d_M_advance_133 : decode m_M_advance.2.1 133 = .ok (.getfield 52, 3) := by decide +kernel
theorem d_M_advance_136 : decode m_M_advance.2.1 136 = .ok (.iload_n 1, 1) := by decide +kernel
theorem d_M_advance_137 : decode m_M_advance.2.1 137 = .ok (.laload, 1) := by decide +kernel
theorem d_M_advance_138 : decode m_M_advance.2.1 138 = .ok (.aload_n 0, 1) := by decide +kernel
theorem d_M_advance_139 : decode m_M_advance.2.1 139 = .ok (.getfield 58, 3) := by decide +kernel
theorem d_M_advance_142 : decode m_M_advance.2.1 142 = .ok (.iload_n 1, 1) := by decide +kernel
theorem d_M_advance_143 : decode m_M_advance.2.1 143 = .ok (.laload, 1) := by decide +kernel
theorem d_M_advance_144 : decode m_M_advance.2.1 144 = .ok (.lcmp, 1) := by decide +kernel
theorem d_M_advance_145 : decode m_M_advance.2.1 145 = .ok (.ifCond .gt 7, 3) := by decide +kernel
theorem d_M_advance_148 : decode m_M_advance.2.1 148 = .ok (.iconst 1, 1) := by decide +kernel
theorem d_M_advance_149 : decode m_M_advance.2.1 149 = .ok (.goto 33, 3) := by decide +kernel
theorem d_M_advance_152 : decode m_M_advance.2.1 152 = .ok (.iconst 0, 1) := by decide +kernel
theorem d_M_advance_153 : decode m_M_advance.2.1 153 = .ok (.goto 29, 3) := by decide +kernel
theorem d_M_advance_156 : decode m_M_advance.2.1 156 = .ok (.iload_n 2, 1) := by decide +kernel
theorem d_M_advance_157 : decode m_M_advance.2.1 157 = .ok (.iconst 4, 1) := by decide +kernel
theorem d_M_advance_158 : decode m_M_advance.2.1 158 = .ok (.if_icmp .ne 14, 3) := by decide +kernel
theorem d_M_advance_161 : decode m_M_advance.2.1 161 = .ok (.aload_n 0, 1) := by decide +kernel
theorem d_M_advance_162 : decode m_M_advance.2.1 162 = .ok (.getfield 52, 3) := by decide +kernel
theorem d_M_advance_165 : decode m_M_advance.2.1 165 = .ok (.iload_n 1, 1) := by decide +kernel
theorem d_M_advance_166 : decode m_M_advance.2.1 166 = .ok (.laload, 1) := by decide +kernel
theorem d_M_advance_167 : decode m_M_advance.2.1 167 = .ok (.lconst 0, 1) := by decide +kernel
theorem d_M_advance_168 : decode m_M_advance.2.1 168 = .ok (.lcmp, 1) := by decide +kernel
theorem d_M_advance_169 : decode m_M_advance.2.1 169 = .ok (.ifCond .gt 8, 3) := by decide +kernel
theorem d_M_advance_172 : decode m_M_advance.2.1 172 = .ok (.iload_n 2, 1) := by decide +kernel
theorem d_M_advance_173 : decode m_M_advance.2.1 173 = .ok (.iconst 5, 1) := by decide +kernel
theorem d_M_advance_174 : decode m_M_advance.2.1 174 = .ok (.if_icmp .ne 7, 3) := by decide +kernel
theorem d_M_advance_177 : decode m_M_advance.2.1 177 = .ok (.iconst 1, 1) := by decide +kernel
theorem d_M_advance_178 : decode m_M_advance.2.1 178 = .ok (.goto 4, 3) := by decide +kernel
theorem d_M_advance_181 : decode m_M_advance.2.1 181 = .ok (.iconst 0, 1) := by decide +kernel
theorem d_M_advance_182 : decode m_M_advance.2.1 182 = .ok (.istore 4, 2) := by decide +kernel
theorem d_M_advance_184 : decode m_M_advance.2.1 184 = .ok (.iload_n 3, 1) := by decide +kernel
theorem d_M_advance_185 : decode m_M_advance.2.1 185 = .ok (.ifCond .ne 14, 3) := by decide +kernel
theorem d_M_advance_188 : decode m_M_advance.2.1 188 = .ok (.iload 4, 2) := by decide +kernel
theorem d_M_advance_190 : decode m_M_advance.2.1 190 = .ok (.ifCond .ne 9, 3) := by decide +kernel
theorem d_M_advance_193 : decode m_M_advance.2.1 193 = .ok (.aload_n 0, 1) := by decide +kernel
theorem d_M_advance_194 : decode m_M_advance.2.1 194 = .ok (.invokevirtual 385, 3) := by decide +kernel
theorem d_M_advance_197 : decode m_M_advance.2.1 197 = .ok (.iconst 0, 1) := by decide +kernel
theorem d_M_advance_198 : decode m_M_advance.2.1 198 = .ok (.ireturn, 1) := by decide +kernel
theorem d_M_advance_199 : decode m_M_advance.2.1 199 = .ok (.aload_n 0, 1) := by decide +kernel
theorem d_M_advance_200 : decode m_M_advance.2.1 200 = .ok (.getfield 49, 3) := by decide +kernel
theorem d_M_advance_203 : decode m_M_advance.2.1 203 = .ok (.iload_n 1, 1) := by decide +kernel
