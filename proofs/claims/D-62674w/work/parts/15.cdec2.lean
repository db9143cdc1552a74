theorem d_Flow_turns_189 : decode m_Flow_turns.2.1 189 = .ok (.goto (-24), 3) := by decide +kernel
theorem d_Flow_turns_192 : decode m_Flow_turns.2.1 192 = .ok (.goto 123, 3) := by decide +kernel
theorem d_Flow_turns_195 : decode m_Flow_turns.2.1 195 = .ok (.aload_n 0, 1) := by decide +kernel
theorem d_Flow_turns_196 : decode m_Flow_turns.2.1 196 = .ok (.aload_n 2, 1) := by decide +kernel
theorem d_Flow_turns_197 : decode m_Flow_turns.2.1 197 = .ok (.getstatic 118, 3) := by decide +kernel
theorem d_Flow_turns_200 : decode m_Flow_turns.2.1 200 = .ok (.invokevirtual 29, 3) := by decide +kernel
theorem d_Flow_turns_203 : decode m_Flow_turns.2.1 203 = .ok (.invokevirtual 39, 3) := by decide +kernel
theorem d_Flow_turns_206 : decode m_Flow_turns.2.1 206 = .ok (.aload_n 0, 1) := by decide +kernel
theorem d_Flow_turns_207 : decode m_Flow_turns.2.1 207 = .ok (.dup, 1) := by decide +kernel
theorem d_Flow_turns_208 : decode m_Flow_turns.2.1 208 = .ok (.getfield 15, 3) := by decide +kernel
theorem d_Flow_turns_211 : decode m_Flow_turns.2.1 211 = .ok (.iconst 2, 1) := by decide +kernel
theorem d_Flow_turns_212 : decode m_Flow_turns.2.1 212 = .ok (.isub, 1) := by decide +kernel
theorem d_Flow_turns_213 : decode m_Flow_turns.2.1 213 = .ok (.putfield 15, 3) := by decide +kernel
theorem d_Flow_turns_216 : decode m_Flow_turns.2.1 216 = .ok (.aload_n 2, 1) := by decide +kernel
theorem d_Flow_turns_217 : decode m_Flow_turns.2.1 217 = .ok (.getfield 43, 3) := by decide +kernel
theorem d_Flow_turns_220 : decode m_Flow_turns.2.1 220 = .ok (.istore 7, 2) := by decide +kernel
theorem d_Flow_turns_222 : decode m_Flow_turns.2.1 222 = .ok (.aload_n 2, 1) := by decide +kernel
theorem d_Flow_turns_223 : decode m_Flow_turns.2.1 223 = .ok (.getfield 98, 3) := by decide +kernel
theorem d_Flow_turns_226 : decode m_Flow_turns.2.1 226 = .ok (.istore 8, 2) := by decide +kernel
theorem d_Flow_turns_228 : decode m_Flow_turns.2.1 228 = .ok (.aload_n 0, 1) := by decide +kernel
theorem d_Flow_turns_229 : decode m_Flow_turns.2.1 229 = .ok (.iload 7, 2) := by decide +kernel
theorem d_Flow_turns_231 : decode m_Flow_turns.2.1 231 = .ok (.iload 8, 2) := by decide +kernel
theorem d_Flow_turns_233 : decode m_Flow_turns.2.1 233 = .ok (.invokevirtual 121, 3) := by decide +kernel
theorem d_Flow_turns_236 : decode m_Flow_turns.2.1 236 = .ok (.iconst 0, 1) := by decide +kernel
theorem d_Flow_turns_237 : decode m_Flow_turns.2.1 237 = .ok (.istore 9, 2) := by decide +kernel
theorem d_Flow_turns_239 : decode m_Flow_turns.2.1 239 = .ok (.iload 9, 2) := by decide +kernel
theorem d_Flow_turns_241 : decode m_Flow_turns.2.1 241 = .ok (.iload 8, 2) := by decide +kernel
theorem d_Flow_turns_243 : decode m_Flow_turns.2.1 243 = .ok (.if_icmp .ge 32, 3) := by decide +kernel
theorem d_Flow_turns_246 : decode m_Flow_turns.2.1 246 = .ok (.aload_n 0, 1) := by decide +kernel
theorem d_Flow_turns_247 : decode m_Flow_turns.2.1 247 = .ok (.getfield 64, 3) := by decide +kernel
theorem d_Flow_turns_250 : decode m_Flow_turns.2.1 250 = .ok (.ifCond .ne 25, 3) := by decide +kernel
theorem d_Flow_turns_253 : decode m_Flow_turns.2.1 253 = .ok (.aload 4, 2) := by decide +kernel
theorem d_Flow_turns_255 : decode m_Flow_turns.2.1 255 = .ok (.aload_n 0, 1) := by decide +kernel
theorem d_Flow_turns_256 : decode m_Flow_turns.2.1 256 = .ok (.aload_n 0, 1) := by decide +kernel
theorem d_Flow_turns_257 : decode m_Flow_turns.2.1 257 = .ok (.getfield 125, 3) := by decide +kernel
theorem d_Flow_turns_260 : decode m_Flow_turns.2.1 260 = .ok (.iload 7, 2) := by decide +kernel
theorem d_Flow_turns_262 : decode m_Flow_turns.2.1 262 = .ok (.iload 9, 2) := by decide +kernel
theorem d_Flow_turns_264 : decode m_Flow_turns.2.1 264 = .ok (.iadd, 1) := by decide +kernel
theorem d_Flow_turns_265 : decode m_Flow_turns.2.1 265 = .ok (.aaload, 1) := by decide +kernel
theorem d_Flow_turns_266 : decode m_Flow_turns.2.1 266 = .ok (.invokevirtual 114, 3) := by decide +kernel
theorem d_Flow_turns_269 : decode m_Flow_turns.2.1 269 = .ok (.iinc 9 1, 3) := by decide +kernel
theorem d_Flow_turns_272 : decode m_Flow_turns.2.1 272 = .ok (.goto (-33), 3) := by decide +kernel
theorem d_Flow_turns_275 : decode m_Flow_turns.2.1 275 = .ok (.aload_n 0, 1) := by decide +kernel
theorem d_Flow_turns_276 : decode m_Flow_turns.2.1 276 = .ok (.dup, 1) := by decide +kernel
theorem d_Flow_turns_277 : decode m_Flow_turns.2.1 277 = .ok (.getfield 128, 3) := by decide +kernel
theorem d_Flow_turns_280 : decode m_Flow_turns.2.1 280 = .ok (.iconst 1, 1) := by decide +kernel
theorem d_Flow_turns_281 : decode m_Flow_turns.2.1 281 = .ok (.isub, 1) := by decide +kernel
theorem d_Flow_turns_282 : decode m_Flow_turns.2.1 282 = .ok (.putfield 128, 3) := by decide +kernel
theorem d_Flow_turns_285 : decode m_Flow_turns.2.1 285 = .ok (.goto 30, 3) := by decide +kernel
theorem d_Flow_turns_288 : decode m_Flow_turns.2.1 288 = .ok (.aload_n 0, 1) := by decide +kernel
theorem d_Flow_turns_289 : decode m_Flow_turns.2.1 289 = .ok (.dup, 1) := by decide +kernel
theorem d_Flow_turns_290 : decode m_Flow_turns.2.1 290 = .ok (.getfield 15, 3) := by decide +kernel
theorem d_Flow_turns_293 : decode m_Flow_turns.2.1 293 = .ok (.iconst 1, 1) := by decide +kernel
theorem d_Flow_turns_294 : decode m_Flow_turns.2.1 294 = .ok (.isub, 1) := by decide +kernel
theorem d_Flow_turns_295 : decode m_Flow_turns.2.1 295 = .ok (.putfield 15, 3) := by decide +kernel
theorem d_Flow_turns_298 : decode m_Flow_turns.2.1 298 = .ok (.aload_n 0, 1) := by decide +kernel
theorem d_Flow_turns_299 : decode m_Flow_turns.2.1 299 = .ok (.getfield 64, 3) := by decide +kernel
theorem d_Flow_turns_302 : decode m_Flow_turns.2.1 302 = .ok (.ifCond .ne 13, 3) := by decide +kernel
theorem d_Flow_turns_305 : decode m_Flow_turns.2.1 305 = .ok (.aload 4, 2) := by decide +kernel
theorem d_Flow_turns_307 : decode m_Flow_turns.2.1 307 = .ok (.aload_n 0, 1) := by decide +kernel
theorem d_Flow_turns_308 : decode m_Flow_turns.2.1 308 = .ok (.aconst_null, 1) := by decide +kernel
theorem d_Flow_turns_309 : decode m_Flow_turns.2.1 309 = .ok (.invokevirtual 114, 3) := by decide +kernel
theorem d_Flow_turns_312 : decode m_Flow_turns.2.1 312 = .ok (.goto (-14), 3) := by decide +kernel
theorem d_Flow_turns_315 : decode m_Flow_turns.2.1 315 = .ok (.return_, 1) := by decide +kernel
theorem d_Flow_perform_0 : decode m_Flow_perform.2.1 0 = .ok (.aload_n 2, 1) := by decide +kernel
theorem d_Flow_perform_1 : decode m_Flow_perform.2.1 1 = .ok (.invokevirtual 9, 3) := by decide +kernel
theorem d_Flow_perform_4 : decode m_Flow_perform.2.1 4 = .ok (.tableswitch 330 52 64 #[68, 88, 144, 330, 330, 330, 330, 217, 247, 257, 286, 301, 308], 68) := by decide +kernel
theorem d_Flow_perform_72 : decode m_Flow_perform.2.1 72 = .ok (.aload_n 1, 1) := by decide +kernel
theorem d_Flow_perform_73 : decode m_Flow_perform.2.1 73 = .ok (.dup, 1) := by decide +kernel
theorem d_Flow_perform_74 : decode m_Flow_perform.2.1 74 = .ok (.getfield 15, 3) := by decide +kernel
theorem d_Flow_perform_77 : decode m_Flow_perform.2.1 77 = .ok (.iconst 1, 1) := by decide +kernel
theorem d_Flow_perform_78 : decode m_Flow_perform.2.1 78 = .ok (.isub, 1) := by decide +kernel
theorem d_Flow_perform_79 : decode m_Flow_perform.2.1 79 = .ok (.putfield 15, 3) := by decide +kernel
theorem d_Flow_perform_82 : decode m_Flow_perform.2.1 82 = .ok (.aload_n 1, 1) := by decide +kernel
theorem d_Flow_perform_83 : decode m_Flow_perform.2.1 83 = .ok (.aload_n 3, 1) := by decide +kernel
theorem d_Flow_perform_84 : decode m_Flow_perform.2.1 84 = .ok (.iload 5, 2) := by decide +kernel
theorem d_Flow_perform_86 : decode m_Flow_perform.2.1 86 = .ok (.invokevirtual 19, 3) := by decide +kernel
theorem d_Flow_perform_89 : decode m_Flow_perform.2.1 89 = .ok (.goto 316, 3) := by decide +kernel
theorem d_Flow_perform_92 : decode m_Flow_perform.2.1 92 = .ok (.aload_n 1, 1) := by decide +kernel
theorem d_Flow_perform_93 : decode m_Flow_perform.2.1 93 = .ok (.aload_n 3, 1) := by decide +kernel
theorem d_Flow_perform_94 : decode m_Flow_perform.2.1 94 = .ok (.getstatic 23, 3) := by decide +kernel
theorem d_Flow_perform_97 : decode m_Flow_perform.2.1 97 = .ok (.invokevirtual 29, 3) := by decide +kernel
theorem d_Flow_perform_100 : decode m_Flow_perform.2.1 100 = .ok (.ifCond .eq 15, 3) := by decide +kernel
theorem d_Flow_perform_103 : decode m_Flow_perform.2.1 103 = .ok (.aload 4, 2) := by decide +kernel
theorem d_Flow_perform_105 : decode m_Flow_perform.2.1 105 = .ok (.invokevirtual 35, 3) := by decide +kernel
theorem d_Flow_perform_108 : decode m_Flow_perform.2.1 108 = .ok (.ifCond .eq 7, 3) := by decide +kernel
theorem d_Flow_perform_111 : decode m_Flow_perform.2.1 111 = .ok (.iconst 1, 1) := by decide +kernel
theorem d_Flow_perform_112 : decode m_Flow_perform.2.1 112 = .ok (.goto 4, 3) := by decide +kernel
theorem d_Flow_perform_115 : decode m_Flow_perform.2.1 115 = .ok (.iconst 0, 1) := by decide +kernel
theorem d_Flow_perform_116 : decode m_Flow_perform.2.1 116 = .ok (.invokevirtual 39, 3) := by decide +kernel
theorem d_Flow_perform_119 : decode m_Flow_perform.2.1 119 = .ok (.aload_n 1, 1) := by decide +kernel
theorem d_Flow_perform_120 : decode m_Flow_perform.2.1 120 = .ok (.dup, 1) := by decide +kernel
theorem d_Flow_perform_121 : decode m_Flow_perform.2.1 121 = .ok (.getfield 15, 3) := by decide +kernel
theorem d_Flow_perform_124 : decode m_Flow_perform.2.1 124 = .ok (.iconst 2, 1) := by decide +kernel
theorem d_Flow_perform_125 : decode m_Flow_perform.2.1 125 = .ok (.isub, 1) := by decide +kernel
theorem d_Flow_perform_126 : decode m_Flow_perform.2.1 126 = .ok (.putfield 15, 3) := by decide +kernel
theorem d_Flow_perform_129 : decode m_Flow_perform.2.1 129 = .ok (.aload_n 3, 1) := by decide +kernel
theorem d_Flow_perform_130 : decode m_Flow_perform.2.1 130 = .ok (.getfield 43, 3) := by decide +kernel
theorem d_Flow_perform_133 : decode m_Flow_perform.2.1 133 = .ok (.iconst 1, 1) := by decide +kernel
theorem d_Flow_perform_134 : decode m_Flow_perform.2.1 134 = .ok (.if_icmp .ne 271, 3) := by decide +kernel
theorem d_Flow_perform_137 : decode m_Flow_perform.2.1 137 = .ok (.aload_n 1, 1) := by decide +kernel
theorem d_Flow_perform_138 : decode m_Flow_perform.2.1 138 = .ok (.aload 4, 2) := by decide +kernel
theorem d_Flow_perform_140 : decode m_Flow_perform.2.1 140 = .ok (.iload 5, 2) := by decide +kernel
theorem d_Flow_perform_142 : decode m_Flow_perform.2.1 142 = .ok (.invokevirtual 19, 3) := by decide +kernel
theorem d_Flow_perform_145 : decode m_Flow_perform.2.1 145 = .ok (.goto 260, 3) := by decide +kernel
theorem d_Flow_perform_148 : decode m_Flow_perform.2.1 148 = .ok (.aload_n 1, 1) := by decide +kernel
theorem d_Flow_perform_149 : decode m_Flow_perform.2.1 149 = .ok (.aload_n 3, 1) := by decide +kernel
theorem d_Flow_perform_150 : decode m_Flow_perform.2.1 150 = .ok (.getstatic 23, 3) := by decide +kernel
theorem d_Flow_perform_153 : decode m_Flow_perform.2.1 153 = .ok (.invokevirtual 29, 3) := by decide +kernel
theorem d_Flow_perform_156 : decode m_Flow_perform.2.1 156 = .ok (.ifCond .eq 26, 3) := by decide +kernel
theorem d_Flow_perform_159 : decode m_Flow_perform.2.1 159 = .ok (.aload 4, 2) := by decide +kernel
theorem d_Flow_perform_161 : decode m_Flow_perform.2.1 161 = .ok (.invokevirtual 35, 3) := by decide +kernel
theorem d_Flow_perform_164 : decode m_Flow_perform.2.1 164 = .ok (.ifCond .eq 18, 3) := by decide +kernel
theorem d_Flow_perform_167 : decode m_Flow_perform.2.1 167 = .ok (.aload_n 1, 1) := by decide +kernel
theorem d_Flow_perform_168 : decode m_Flow_perform.2.1 168 = .ok (.iconst 0, 1) := by decide +kernel
theorem d_Flow_perform_169 : decode m_Flow_perform.2.1 169 = .ok (.invokevirtual 46, 3) := by decide +kernel
theorem d_Flow_perform_172 : decode m_Flow_perform.2.1 172 = .ok (.invokevirtual 35, 3) := by decide +kernel
theorem d_Flow_perform_175 : decode m_Flow_perform.2.1 175 = .ok (.ifCond .eq 7, 3) := by decide +kernel
theorem d_Flow_perform_178 : decode m_Flow_perform.2.1 178 = .ok (.iconst 1, 1) := by decide +kernel
theorem d_Flow_perform_179 : decode m_Flow_perform.2.1 179 = .ok (.goto 4, 3) := by decide +kernel
theorem d_Flow_perform_182 : decode m_Flow_perform.2.1 182 = .ok (.iconst 0, 1) := by decide +kernel
theorem d_Flow_perform_183 : decode m_Flow_perform.2.1 183 = .ok (.invokevirtual 39, 3) := by decide +kernel
theorem d_Flow_perform_186 : decode m_Flow_perform.2.1 186 = .ok (.aload_n 1, 1) := by decide +kernel
theorem d_Flow_perform_187 : decode m_Flow_perform.2.1 187 = .ok (.dup, 1) := by decide +kernel
theorem d_Flow_perform_188 : decode m_Flow_perform.2.1 188 = .ok (.getfield 15, 3) := by decide +kernel
theorem d_Flow_perform_191 : decode m_Flow_perform.2.1 191 = .ok (.iconst 3, 1) := by decide +kernel
theorem d_Flow_perform_192 : decode m_Flow_perform.2.1 192 = .ok (.isub, 1) := by decide +kernel
theorem d_Flow_perform_193 : decode m_Flow_perform.2.1 193 = .ok (.putfield 15, 3) := by decide +kernel
theorem d_Flow_perform_196 : decode m_Flow_perform.2.1 196 = .ok (.aload_n 1, 1) := by decide +kernel
theorem d_Flow_perform_197 : decode m_Flow_perform.2.1 197 = .ok (.aload_n 1, 1) := by decide +kernel
theorem d_Flow_perform_198 : decode m_Flow_perform.2.1 198 = .ok (.getfield 50, 3) := by decide +kernel
theorem d_Flow_perform_201 : decode m_Flow_perform.2.1 201 = .ok (.aload_n 1, 1) := by decide +kernel
theorem d_Flow_perform_202 : decode m_Flow_perform.2.1 202 = .ok (.getfield 15, 3) := by decide +kernel
theorem d_Flow_perform_205 : decode m_Flow_perform.2.1 205 = .ok (.iconst 2, 1) := by decide +kernel
theorem d_Flow_perform_206 : decode m_Flow_perform.2.1 206 = .ok (.iadd, 1) := by decide +kernel
theorem d_Flow_perform_207 : decode m_Flow_perform.2.1 207 = .ok (.aload_n 3, 1) := by decide +kernel
theorem d_Flow_perform_208 : decode m_Flow_perform.2.1 208 = .ok (.getfield 43, 3) := by decide +kernel
theorem d_Flow_perform_211 : decode m_Flow_perform.2.1 211 = .ok (.isub, 1) := by decide +kernel
theorem d_Flow_perform_212 : decode m_Flow_perform.2.1 212 = .ok (.aaload, 1) := by decide +kernel
theorem d_Flow_perform_213 : decode m_Flow_perform.2.1 213 = .ok (.iload 5, 2) := by decide +kernel
theorem d_Flow_perform_215 : decode m_Flow_perform.2.1 215 = .ok (.invokevirtual 19, 3) := by decide +kernel
theorem d_Flow_perform_218 : decode m_Flow_perform.2.1 218 = .ok (.goto 187, 3) := by decide +kernel
theorem d_Flow_perform_221 : decode m_Flow_perform.2.1 221 = .ok (.aload_n 1, 1) := by decide +kernel
theorem d_Flow_perform_222 : decode m_Flow_perform.2.1 222 = .ok (.aload_n 1, 1) := by decide +kernel
theorem d_Flow_perform_223 : decode m_Flow_perform.2.1 223 = .ok (.getfield 54, 3) := by decide +kernel
theorem d_Flow_perform_226 : decode m_Flow_perform.2.1 226 = .ok (.aload_n 1, 1) := by decide +kernel
theorem d_Flow_perform_227 : decode m_Flow_perform.2.1 227 = .ok (.getfield 57, 3) := by decide +kernel
theorem d_Flow_perform_230 : decode m_Flow_perform.2.1 230 = .ok (.if_icmp .le 7, 3) := by decide +kernel
theorem d_Flow_perform_233 : decode m_Flow_perform.2.1 233 = .ok (.iconst 1, 1) := by decide +kernel
theorem d_Flow_perform_234 : decode m_Flow_perform.2.1 234 = .ok (.goto 4, 3) := by decide +kernel
theorem d_Flow_perform_237 : decode m_Flow_perform.2.1 237 = .ok (.iconst 0, 1) := by decide +kernel
theorem d_Flow_perform_238 : decode m_Flow_perform.2.1 238 = .ok (.bipush 11, 2) := by decide +kernel
theorem d_Flow_perform_240 : decode m_Flow_perform.2.1 240 = .ok (.invokevirtual 60, 3) := by decide +kernel
theorem d_Flow_perform_243 : decode m_Flow_perform.2.1 243 = .ok (.aload_n 1, 1) := by decide +kernel
theorem d_Flow_perform_244 : decode m_Flow_perform.2.1 244 = .ok (.iconst 1, 1) := by decide +kernel
theorem d_Flow_perform_245 : decode m_Flow_perform.2.1 245 = .ok (.putfield 64, 3) := by decide +kernel
theorem d_Flow_perform_248 : decode m_Flow_perform.2.1 248 = .ok (.goto 157, 3) := by decide +kernel
theorem d_Flow_perform_251 : decode m_Flow_perform.2.1 251 = .ok (.aload_n 1, 1) := by decide +kernel
theorem d_Flow_perform_252 : decode m_Flow_perform.2.1 252 = .ok (.iconst 0, 1) := by decide +kernel
theorem d_Flow_perform_253 : decode m_Flow_perform.2.1 253 = .ok (.bipush 14, 2) := by decide +kernel
theorem d_Flow_perform_255 : decode m_Flow_perform.2.1 255 = .ok (.invokevirtual 60, 3) := by decide +kernel
theorem d_Flow_perform_258 : decode m_Flow_perform.2.1 258 = .ok (.goto 147, 3) := by decide +kernel
theorem d_Flow_perform_261 : decode m_Flow_perform.2.1 261 = .ok (.aload_n 1, 1) := by decide +kernel
theorem d_Flow_perform_262 : decode m_Flow_perform.2.1 262 = .ok (.dup, 1) := by decide +kernel
theorem d_Flow_perform_263 : decode m_Flow_perform.2.1 263 = .ok (.getfield 15, 3) := by decide +kernel
theorem d_Flow_perform_266 : decode m_Flow_perform.2.1 266 = .ok (.iconst 1, 1) := by decide +kernel
theorem d_Flow_perform_267 : decode m_Flow_perform.2.1 267 = .ok (.isub, 1) := by decide +kernel
theorem d_Flow_perform_268 : decode m_Flow_perform.2.1 268 = .ok (.putfield 15, 3) := by decide +kernel
theorem d_Flow_perform_271 : decode m_Flow_perform.2.1 271 = .ok (.aload_n 1, 1) := by decide +kernel
theorem d_Flow_perform_272 : decode m_Flow_perform.2.1 272 = .ok (.aload_n 3, 1) := by decide +kernel
theorem d_Flow_perform_273 : decode m_Flow_perform.2.1 273 = .ok (.iload 5, 2) := by decide +kernel
theorem d_Flow_perform_275 : decode m_Flow_perform.2.1 275 = .ok (.invokevirtual 68, 3) := by decide +kernel
theorem d_Flow_perform_278 : decode m_Flow_perform.2.1 278 = .ok (.istore 6, 2) := by decide +kernel
theorem d_Flow_perform_280 : decode m_Flow_perform.2.1 280 = .ok (.aload_n 1, 1) := by decide +kernel
theorem d_Flow_perform_281 : decode m_Flow_perform.2.1 281 = .ok (.iconst 0, 1) := by decide +kernel
theorem d_Flow_perform_282 : decode m_Flow_perform.2.1 282 = .ok (.iload 6, 2) := by decide +kernel
theorem d_Flow_perform_284 : decode m_Flow_perform.2.1 284 = .ok (.invokevirtual 72, 3) := by decide +kernel
theorem d_Flow_perform_287 : decode m_Flow_perform.2.1 287 = .ok (.goto 118, 3) := by decide +kernel
theorem d_Flow_perform_290 : decode m_Flow_perform.2.1 290 = .ok (.aload_n 1, 1) := by decide +kernel
theorem d_Flow_perform_291 : decode m_Flow_perform.2.1 291 = .ok (.iconst 0, 1) := by decide +kernel
theorem d_Flow_perform_292 : decode m_Flow_perform.2.1 292 = .ok (.getstatic 76, 3) := by decide +kernel
theorem d_Flow_perform_295 : decode m_Flow_perform.2.1 295 = .ok (.aload_n 1, 1) := by decide +kernel
theorem d_Flow_perform_296 : decode m_Flow_perform.2.1 296 = .ok (.getfield 79, 3) := by decide +kernel
theorem d_Flow_perform_299 : decode m_Flow_perform.2.1 299 = .ok (.invokevirtual 82, 3) := by decide +kernel
theorem d_Flow_perform_302 : decode m_Flow_perform.2.1 302 = .ok (.goto 103, 3) := by decide +kernel
theorem d_Flow_perform_305 : decode m_Flow_perform.2.1 305 = .ok (.aload_n 1, 1) := by decide +kernel
theorem d_Flow_perform_306 : decode m_Flow_perform.2.1 306 = .ok (.invokevirtual 86, 3) := by decide +kernel
theorem d_Flow_perform_309 : decode m_Flow_perform.2.1 309 = .ok (.goto 96, 3) := by decide +kernel
theorem d_Flow_perform_312 : decode m_Flow_perform.2.1 312 = .ok (.aload_n 1, 1) := by decide +kernel
theorem d_Flow_perform_313 : decode m_Flow_perform.2.1 313 = .ok (.aload_n 3, 1) := by decide +kernel
theorem d_Flow_perform_314 : decode m_Flow_perform.2.1 314 = .ok (.getstatic 89, 3) := by decide +kernel
theorem d_Flow_perform_317 : decode m_Flow_perform.2.1 317 = .ok (.invokevirtual 29, 3) := by decide +kernel
theorem d_Flow_perform_320 : decode m_Flow_perform.2.1 320 = .ok (.invokevirtual 39, 3) := by decide +kernel
theorem d_Flow_perform_323 : decode m_Flow_perform.2.1 323 = .ok (.aload_n 1, 1) := by decide +kernel
theorem d_Flow_perform_324 : decode m_Flow_perform.2.1 324 = .ok (.aload_n 3, 1) := by decide +kernel
theorem d_Flow_perform_325 : decode m_Flow_perform.2.1 325 = .ok (.getfield 43, 3) := by decide +kernel
theorem d_Flow_perform_328 : decode m_Flow_perform.2.1 328 = .ok (.invokevirtual 92, 3) := by decide +kernel
theorem d_Flow_perform_331 : decode m_Flow_perform.2.1 331 = .ok (.goto 74, 3) := by decide +kernel
theorem d_Flow_perform_334 : decode m_Flow_perform.2.1 334 = .ok (.aload_n 1, 1) := by decide +kernel
theorem d_Flow_perform_335 : decode m_Flow_perform.2.1 335 = .ok (.aload_n 1, 1) := by decide +kernel
theorem d_Flow_perform_336 : decode m_Flow_perform.2.1 336 = .ok (.iconst 0, 1) := by decide +kernel
theorem d_Flow_perform_337 : decode m_Flow_perform.2.1 337 = .ok (.invokevirtual 46, 3) := by decide +kernel
theorem d_Flow_perform_340 : decode m_Flow_perform.2.1 340 = .ok (.invokevirtual 35, 3) := by decide +kernel
theorem d_Flow_perform_343 : decode m_Flow_perform.2.1 343 = .ok (.invokevirtual 39, 3) := by decide +kernel
theorem d_Flow_perform_346 : decode m_Flow_perform.2.1 346 = .ok (.aload_n 1, 1) := by decide +kernel
theorem d_Flow_perform_347 : decode m_Flow_perform.2.1 347 = .ok (.dup, 1) := by decide +kernel
theorem d_Flow_perform_348 : decode m_Flow_perform.2.1 348 = .ok (.getfield 54, 3) := by decide +kernel
theorem d_Flow_perform_351 : decode m_Flow_perform.2.1 351 = .ok (.dup_x1, 1) := by decide +kernel
theorem d_Flow_perform_352 : decode m_Flow_perform.2.1 352 = .ok (.iconst 1, 1) := by decide +kernel
theorem d_Flow_perform_353 : decode m_Flow_perform.2.1 353 = .ok (.iadd, 1) := by decide +kernel
theorem d_Flow_perform_354 : decode m_Flow_perform.2.1 354 = .ok (.putfield 54, 3) := by decide +kernel
theorem d_Flow_perform_357 : decode m_Flow_perform.2.1 357 = .ok (.istore 7, 2) := by decide +kernel
theorem d_Flow_perform_359 : decode m_Flow_perform.2.1 359 = .ok (.aload_n 1, 1) := by decide +kernel
theorem d_Flow_perform_360 : decode m_Flow_perform.2.1 360 = .ok (.aload_n 2, 1) := by decide +kernel
theorem d_Flow_perform_361 : decode m_Flow_perform.2.1 361 = .ok (.aload_n 3, 1) := by decide +kernel
theorem d_Flow_perform_362 : decode m_Flow_perform.2.1 362 = .ok (.aload 4, 2) := by decide +kernel
theorem d_Flow_perform_364 : decode m_Flow_perform.2.1 364 = .ok (.new 96, 3) := by decide +kernel
theorem d_Flow_perform_367 : decode m_Flow_perform.2.1 367 = .ok (.dup, 1) := by decide +kernel
theorem d_Flow_perform_368 : decode m_Flow_perform.2.1 368 = .ok (.aload_n 1, 1) := by decide +kernel
theorem d_Flow_perform_369 : decode m_Flow_perform.2.1 369 = .ok (.iconst 0, 1) := by decide +kernel
theorem d_Flow_perform_370 : decode m_Flow_perform.2.1 370 = .ok (.invokevirtual 46, 3) := by decide +kernel
theorem d_Flow_perform_373 : decode m_Flow_perform.2.1 373 = .ok (.getfield 43, 3) := by decide +kernel
theorem d_Flow_perform_376 : decode m_Flow_perform.2.1 376 = .ok (.aload_n 1, 1) := by decide +kernel
theorem d_Flow_perform_377 : decode m_Flow_perform.2.1 377 = .ok (.iconst 0, 1) := by decide +kernel
theorem d_Flow_perform_378 : decode m_Flow_perform.2.1 378 = .ok (.invokevirtual 46, 3) := by decide +kernel
theorem d_Flow_perform_381 : decode m_Flow_perform.2.1 381 = .ok (.getfield 98, 3) := by decide +kernel
theorem d_Flow_perform_384 : decode m_Flow_perform.2.1 384 = .ok (.iload 5, 2) := by decide +kernel
theorem d_Flow_perform_386 : decode m_Flow_perform.2.1 386 = .ok (.iconst 1, 1) := by decide +kernel
theorem d_Flow_perform_387 : decode m_Flow_perform.2.1 387 = .ok (.iadd, 1) := by decide +kernel
theorem d_Flow_perform_388 : decode m_Flow_perform.2.1 388 = .ok (.invokespecial 101, 3) := by decide +kernel
theorem d_Flow_perform_391 : decode m_Flow_perform.2.1 391 = .ok (.invokestatic 104, 3) := by decide +kernel
theorem d_Flow_perform_394 : decode m_Flow_perform.2.1 394 = .ok (.aload_n 1, 1) := by decide +kernel
theorem d_Flow_perform_395 : decode m_Flow_perform.2.1 395 = .ok (.iload 7, 2) := by decide +kernel
theorem d_Flow_perform_397 : decode m_Flow_perform.2.1 397 = .ok (.putfield 54, 3) := by decide +kernel
theorem d_Flow_perform_400 : decode m_Flow_perform.2.1 400 = .ok (.aload_n 1, 1) := by decide +kernel
theorem d_Flow_perform_401 : decode m_Flow_perform.2.1 401 = .ok (.iconst 0, 1) := by decide +kernel
theorem d_Flow_perform_402 : decode m_Flow_perform.2.1 402 = .ok (.putfield 64, 3) := by decide +kernel
theorem d_Flow_perform_405 : decode m_Flow_perform.2.1 405 = .ok (.return_, 1) := by decide +kernel
theorem d_P_giveDict_0 : decode m_P_giveDict.2.1 0 = .ok (.aload_n 0, 1) := by decide +kernel
theorem d_P_giveDict_1 : decode m_P_giveDict.2.1 1 = .ok (.iload_n 1, 1) := by decide +kernel
theorem d_P_giveDict_2 : decode m_P_giveDict.2.1 2 = .ok (.getstatic 190, 3) := by decide +kernel
theorem d_P_giveDict_5 : decode m_P_giveDict.2.1 5 = .ok (.aload_n 2, 1) := by decide +kernel
theorem d_P_giveDict_6 : decode m_P_giveDict.2.1 6 = .ok (.getfield 196, 3) := by decide +kernel
theorem d_P_giveDict_9 : decode m_P_giveDict.2.1 9 = .ok (.invokevirtual 199, 3) := by decide +kernel
theorem d_P_giveDict_12 : decode m_P_giveDict.2.1 12 = .ok (.aload_n 0, 1) := by decide +kernel
theorem d_P_giveDict_13 : decode m_P_giveDict.2.1 13 = .ok (.iconst 0, 1) := by decide +kernel
theorem d_P_giveDict_14 : decode m_P_giveDict.2.1 14 = .ok (.invokevirtual 203, 3) := by decide +kernel
theorem d_P_giveDict_17 : decode m_P_giveDict.2.1 17 = .ok (.aload_n 2, 1) := by decide +kernel
theorem d_P_giveDict_18 : decode m_P_giveDict.2.1 18 = .ok (.putfield 206, 3) := by decide +kernel
theorem d_P_giveDict_21 : decode m_P_giveDict.2.1 21 = .ok (.return_, 1) := by decide +kernel
theorem d_Rewritten_init_0 : decode m_Rewritten_init.2.1 0 = .ok (.aload_n 0, 1) := by decide +kernel
theorem d_Rewritten_init_1 : decode m_Rewritten_init.2.1 1 = .ok (.invokespecial 1, 3) := by decide +kernel
theorem d_Rewritten_init_4 : decode m_Rewritten_init.2.1 4 = .ok (.aload_n 0, 1) := by decide +kernel
theorem d_Rewritten_init_5 : decode m_Rewritten_init.2.1 5 = .ok (.aload_n 1, 1) := by decide +kernel
theorem d_Rewritten_init_6 : decode m_Rewritten_init.2.1 6 = .ok (.putfield 7, 3) := by decide +kernel
theorem d_Rewritten_init_9 : decode m_Rewritten_init.2.1 9 = .ok (.aload_n 0, 1) := by decide +kernel
theorem d_Rewritten_init_10 : decode m_Rewritten_init.2.1 10 = .ok (.aload_n 2, 1) := by decide +kernel
theorem d_Rewritten_init_11 : decode m_Rewritten_init.2.1 11 = .ok (.putfield 13, 3) := by decide +kernel
theorem d_Rewritten_init_14 : decode m_Rewritten_init.2.1 14 = .ok (.aload_n 0, 1) := by decide +kernel
theorem d_Rewritten_init_15 : decode m_Rewritten_init.2.1 15 = .ok (.aload_n 3, 1) := by decide +kernel
theorem d_Rewritten_init_16 : decode m_Rewritten_init.2.1 16 = .ok (.putfield 17, 3) := by decide +kernel
theorem d_Rewritten_init_19 : decode m_Rewritten_init.2.1 19 = .ok (.aload_n 0, 1) := by decide +kernel
theorem d_Rewritten_init_20 : decode m_Rewritten_init.2.1 20 = .ok (.iload 4, 2) := by decide +kernel
theorem d_Rewritten_init_22 : decode m_Rewritten_init.2.1 22 = .ok (.putfield 20, 3) := by decide +kernel
theorem d_Rewritten_init_25 : decode m_Rewritten_init.2.1 25 = .ok (.return_, 1) := by decide +kernel
theorem d_P_rewrite_0 : decode m_P_rewrite.2.1 0 = .ok (.aload_n 1, 1) := by decide +kernel
theorem d_P_rewrite_1 : decode m_P_rewrite.2.1 1 = .ok (.getfield 237, 3) := by decide +kernel
theorem d_P_rewrite_4 : decode m_P_rewrite.2.1 4 = .ok (.aload_n 0, 1) := by decide +kernel
theorem d_P_rewrite_5 : decode m_P_rewrite.2.1 5 = .ok (.getfield 234, 3) := by decide +kernel
theorem d_P_rewrite_8 : decode m_P_rewrite.2.1 8 = .ok (.if_icmp .ge 45, 3) := by decide +kernel
theorem d_P_rewrite_11 : decode m_P_rewrite.2.1 11 = .ok (.new 51, 3) := by decide +kernel
theorem d_P_rewrite_14 : decode m_P_rewrite.2.1 14 = .ok (.dup, 1) := by decide +kernel
theorem d_P_rewrite_15 : decode m_P_rewrite.2.1 15 = .ok (.invokespecial 177, 3) := by decide +kernel
theorem d_P_rewrite_18 : decode m_P_rewrite.2.1 18 = .ok (.astore_n 3, 1) := by decide +kernel
theorem d_P_rewrite_19 : decode m_P_rewrite.2.1 19 = .ok (.aload_n 3, 1) := by decide +kernel
theorem d_P_rewrite_20 : decode m_P_rewrite.2.1 20 = .ok (.aload_n 1, 1) := by decide +kernel
theorem d_P_rewrite_21 : decode m_P_rewrite.2.1 21 = .ok (.invokevirtual 182, 3) := by decide +kernel
theorem d_P_rewrite_24 : decode m_P_rewrite.2.1 24 = .ok (.aload_n 0, 1) := by decide +kernel
theorem d_P_rewrite_25 : decode m_P_rewrite.2.1 25 = .ok (.new 240, 3) := by decide +kernel
theorem d_P_rewrite_28 : decode m_P_rewrite.2.1 28 = .ok (.dup, 1) := by decide +kernel
theorem d_P_rewrite_29 : decode m_P_rewrite.2.1 29 = .ok (.aload_n 0, 1) := by decide +kernel
theorem d_P_rewrite_30 : decode m_P_rewrite.2.1 30 = .ok (.getfield 242, 3) := by decide +kernel
theorem d_P_rewrite_33 : decode m_P_rewrite.2.1 33 = .ok (.aload_n 1, 1) := by decide +kernel
theorem d_P_rewrite_34 : decode m_P_rewrite.2.1 34 = .ok (.aload_n 3, 1) := by decide +kernel
theorem d_P_rewrite_35 : decode m_P_rewrite.2.1 35 = .ok (.aload_n 1, 1) := by decide +kernel
theorem d_P_rewrite_36 : decode m_P_rewrite.2.1 36 = .ok (.getfield 237, 3) := by decide +kernel
theorem d_P_rewrite_39 : decode m_P_rewrite.2.1 39 = .ok (.invokespecial 246, 3) := by decide +kernel
theorem d_P_rewrite_42 : decode m_P_rewrite.2.1 42 = .ok (.putfield 242, 3) := by decide +kernel
theorem d_P_rewrite_45 : decode m_P_rewrite.2.1 45 = .ok (.aload_n 1, 1) := by decide +kernel
theorem d_P_rewrite_46 : decode m_P_rewrite.2.1 46 = .ok (.aload_n 0, 1) := by decide +kernel
theorem d_P_rewrite_47 : decode m_P_rewrite.2.1 47 = .ok (.getfield 234, 3) := by decide +kernel
theorem d_P_rewrite_50 : decode m_P_rewrite.2.1 50 = .ok (.putfield 237, 3) := by decide +kernel
theorem d_P_rewrite_53 : decode m_P_rewrite.2.1 53 = .ok (.aload_n 1, 1) := by decide +kernel
theorem d_P_rewrite_54 : decode m_P_rewrite.2.1 54 = .ok (.aload_n 2, 1) := by decide +kernel
theorem d_P_rewrite_55 : decode m_P_rewrite.2.1 55 = .ok (.invokevirtual 182, 3) := by decide +kernel
theorem d_P_rewrite_58 : decode m_P_rewrite.2.1 58 = .ok (.return_, 1) := by decide +kernel
theorem d_P_define_0 : decode m_P_define.2.1 0 = .ok (.aload_n 1, 1) := by decide +kernel
theorem d_P_define_1 : decode m_P_define.2.1 1 = .ok (.aload_n 2, 1) := by decide +kernel
theorem d_P_define_2 : decode m_P_define.2.1 2 = .ok (.invokevirtual 249, 3) := by decide +kernel
theorem d_P_define_5 : decode m_P_define.2.1 5 = .ok (.astore 4, 2) := by decide +kernel
theorem d_P_define_7 : decode m_P_define.2.1 7 = .ok (.aload 4, 2) := by decide +kernel
theorem d_P_define_9 : decode m_P_define.2.1 9 = .ok (.ifnonnull 64, 3) := by decide +kernel
theorem d_P_define_12 : decode m_P_define.2.1 12 = .ok (.aload_n 0, 1) := by decide +kernel
theorem d_P_define_13 : decode m_P_define.2.1 13 = .ok (.aload_n 1, 1) := by decide +kernel
theorem d_P_define_14 : decode m_P_define.2.1 14 = .ok (.getfield 253, 3) := by decide +kernel
theorem d_P_define_17 : decode m_P_define.2.1 17 = .ok (.aload_n 1, 1) := by decide +kernel
theorem d_P_define_18 : decode m_P_define.2.1 18 = .ok (.getfield 256, 3) := by decide +kernel
theorem d_P_define_21 : decode m_P_define.2.1 21 = .ok (.if_icmp .ge 7, 3) := by decide +kernel
theorem d_P_define_24 : decode m_P_define.2.1 24 = .ok (.iconst 1, 1) := by decide +kernel
theorem d_P_define_25 : decode m_P_define.2.1 25 = .ok (.goto 4, 3) := by decide +kernel
theorem d_P_define_28 : decode m_P_define.2.1 28 = .ok (.iconst 0, 1) := by decide +kernel
theorem d_P_define_29 : decode m_P_define.2.1 29 = .ok (.bipush 8, 2) := by decide +kernel
theorem d_P_define_31 : decode m_P_define.2.1 31 = .ok (.invokevirtual 170, 3) := by decide +kernel
theorem d_P_define_34 : decode m_P_define.2.1 34 = .ok (.aload_n 1, 1) := by decide +kernel
theorem d_P_define_35 : decode m_P_define.2.1 35 = .ok (.aload_n 2, 1) := by decide +kernel
theorem d_P_define_36 : decode m_P_define.2.1 36 = .ok (.invokevirtual 259, 3) := by decide +kernel
theorem d_P_define_39 : decode m_P_define.2.1 39 = .ok (.astore 4, 2) := by decide +kernel
theorem d_P_define_41 : decode m_P_define.2.1 41 = .ok (.aload 4, 2) := by decide +kernel
theorem d_P_define_43 : decode m_P_define.2.1 43 = .ok (.aload_n 0, 1) := by decide +kernel
theorem d_P_define_44 : decode m_P_define.2.1 44 = .ok (.getfield 234, 3) := by decide +kernel
theorem d_P_define_47 : decode m_P_define.2.1 47 = .ok (.putfield 237, 3) := by decide +kernel
theorem d_P_define_50 : decode m_P_define.2.1 50 = .ok (.aload_n 0, 1) := by decide +kernel
theorem d_P_define_51 : decode m_P_define.2.1 51 = .ok (.getfield 234, 3) := by decide +kernel
theorem d_P_define_54 : decode m_P_define.2.1 54 = .ok (.ifCond .le 19, 3) := by decide +kernel
theorem d_P_define_57 : decode m_P_define.2.1 57 = .ok (.aload_n 0, 1) := by decide +kernel
theorem d_P_define_58 : decode m_P_define.2.1 58 = .ok (.new 261, 3) := by decide +kernel
theorem d_P_define_61 : decode m_P_define.2.1 61 = .ok (.dup, 1) := by decide +kernel
theorem d_P_define_62 : decode m_P_define.2.1 62 = .ok (.aload_n 0, 1) := by decide +kernel
theorem d_P_define_63 : decode m_P_define.2.1 63 = .ok (.getfield 242, 3) := by decide +kernel
theorem d_P_define_66 : decode m_P_define.2.1 66 = .ok (.aload_n 1, 1) := by decide +kernel
theorem d_P_define_67 : decode m_P_define.2.1 67 = .ok (.invokespecial 263, 3) := by decide +kernel
theorem d_P_define_70 : decode m_P_define.2.1 70 = .ok (.putfield 242, 3) := by decide +kernel
theorem d_P_define_73 : decode m_P_define.2.1 73 = .ok (.aload_n 0, 1) := by decide +kernel
theorem d_P_define_74 : decode m_P_define.2.1 74 = .ok (.aload 4, 2) := by decide +kernel
theorem d_P_define_76 : decode m_P_define.2.1 76 = .ok (.aload_n 3, 1) := by decide +kernel
theorem d_P_define_77 : decode m_P_define.2.1 77 = .ok (.invokevirtual 266, 3) := by decide +kernel
theorem d_P_define_80 : decode m_P_define.2.1 80 = .ok (.return_, 1) := by decide +kernel
theorem d_P_find_0 : decode m_P_find.2.1 0 = .ok (.aconst_null, 1) := by decide +kernel
theorem d_P_find_1 : decode m_P_find.2.1 1 = .ok (.astore_n 2, 1) := by decide +kernel
theorem d_P_find_2 : decode m_P_find.2.1 2 = .ok (.aload_n 0, 1) := by decide +kernel
theorem d_P_find_3 : decode m_P_find.2.1 3 = .ok (.getfield 76, 3) := by decide +kernel
theorem d_P_find_6 : decode m_P_find.2.1 6 = .ok (.iconst 1, 1) := by decide +kernel
theorem d_P_find_7 : decode m_P_find.2.1 7 = .ok (.isub, 1) := by decide +kernel
theorem d_P_find_8 : decode m_P_find.2.1 8 = .ok (.istore_n 3, 1) := by decide +kernel
theorem d_P_find_9 : decode m_P_find.2.1 9 = .ok (.iload_n 3, 1) := by decide +kernel
theorem d_P_find_10 : decode m_P_find.2.1 10 = .ok (.ifCond .lt 24, 3) := by decide +kernel
theorem d_P_find_13 : decode m_P_find.2.1 13 = .ok (.aload_n 2, 1) := by decide +kernel
theorem d_P_find_14 : decode m_P_find.2.1 14 = .ok (.ifnonnull 20, 3) := by decide +kernel
theorem d_P_find_17 : decode m_P_find.2.1 17 = .ok (.aload_n 0, 1) := by decide +kernel
theorem d_P_find_18 : decode m_P_find.2.1 18 = .ok (.getfield 72, 3) := by decide +kernel
theorem d_P_find_21 : decode m_P_find.2.1 21 = .ok (.iload_n 3, 1) := by decide +kernel
theorem d_P_find_22 : decode m_P_find.2.1 22 = .ok (.aaload, 1) := by decide +kernel
theorem d_P_find_23 : decode m_P_find.2.1 23 = .ok (.aload_n 1, 1) := by decide +kernel
theorem d_P_find_24 : decode m_P_find.2.1 24 = .ok (.invokevirtual 249, 3) := by decide +kernel
theorem d_P_find_27 : decode m_P_find.2.1 27 = .ok (.astore_n 2, 1) := by decide +kernel
theorem d_P_find_28 : decode m_P_find.2.1 28 = .ok (.iinc 3 (-1), 3) := by decide +kernel
theorem d_P_find_31 : decode m_P_find.2.1 31 = .ok (.goto (-22), 3) := by decide +kernel
theorem d_P_find_34 : decode m_P_find.2.1 34 = .ok (.aload_n 2, 1) := by decide +kernel
theorem d_P_find_35 : decode m_P_find.2.1 35 = .ok (.areturn, 1) := by decide +kernel
theorem d_P_found_0 : decode m_P_found.2.1 0 = .ok (.aload_n 0, 1) := by decide +kernel
theorem d_P_found_1 : decode m_P_found.2.1 1 = .ok (.aload_n 2, 1) := by decide +kernel
theorem d_P_found_2 : decode m_P_found.2.1 2 = .ok (.ifnull 7, 3) := by decide +kernel
theorem d_P_found_5 : decode m_P_found.2.1 5 = .ok (.iconst 1, 1) := by decide +kernel
theorem d_P_found_6 : decode m_P_found.2.1 6 = .ok (.goto 4, 3) := by decide +kernel
theorem d_P_found_9 : decode m_P_found.2.1 9 = .ok (.iconst 0, 1) := by decide +kernel
theorem d_P_found_10 : decode m_P_found.2.1 10 = .ok (.iconst 5, 1) := by decide +kernel
theorem d_P_found_11 : decode m_P_found.2.1 11 = .ok (.invokevirtual 170, 3) := by decide +kernel
theorem d_P_found_14 : decode m_P_found.2.1 14 = .ok (.aload_n 2, 1) := by decide +kernel
theorem d_P_found_15 : decode m_P_found.2.1 15 = .ok (.ifnull 8, 3) := by decide +kernel
theorem d_P_found_18 : decode m_P_found.2.1 18 = .ok (.aload_n 1, 1) := by decide +kernel
theorem d_P_found_19 : decode m_P_found.2.1 19 = .ok (.aload_n 2, 1) := by decide +kernel
theorem d_P_found_20 : decode m_P_found.2.1 20 = .ok (.invokevirtual 182, 3) := by decide +kernel
theorem d_P_found_23 : decode m_P_found.2.1 23 = .ok (.return_, 1) := by decide +kernel
theorem d_Holders_dicts_0 : decode m_Holders_dicts.2.1 0 = .ok (.aload_n 0, 1) := by decide +kernel
theorem d_Holders_dicts_1 : decode m_Holders_dicts.2.1 1 = .ok (.getfield 131, 3) := by decide +kernel
theorem d_Holders_dicts_4 : decode m_Holders_dicts.2.1 4 = .ok (.aload_n 0, 1) := by decide +kernel
theorem d_Holders_dicts_5 : decode m_Holders_dicts.2.1 5 = .ok (.getfield 135, 3) := by decide +kernel
theorem d_Holders_dicts_8 : decode m_Holders_dicts.2.1 8 = .ok (.iconst 1, 1) := by decide +kernel
theorem d_Holders_dicts_9 : decode m_Holders_dicts.2.1 9 = .ok (.isub, 1) := by decide +kernel
theorem d_Holders_dicts_10 : decode m_Holders_dicts.2.1 10 = .ok (.aaload, 1) := by decide +kernel
theorem d_Holders_dicts_11 : decode m_Holders_dicts.2.1 11 = .ok (.astore 4, 2) := by decide +kernel
theorem d_Holders_dicts_13 : decode m_Holders_dicts.2.1 13 = .ok (.aload_n 1, 1) := by decide +kernel
theorem d_Holders_dicts_14 : decode m_Holders_dicts.2.1 14 = .ok (.invokevirtual 9, 3) := by decide +kernel
theorem d_Holders_dicts_17 : decode m_Holders_dicts.2.1 17 = .ok (.tableswitch 367 45 50 #[39, 153, 217, 249, 284, 311], 39) := by decide +kernel
theorem d_Holders_dicts_56 : decode m_Holders_dicts.2.1 56 = .ok (.aload_n 0, 1) := by decide +kernel
theorem d_Holders_dicts_57 : decode m_Holders_dicts.2.1 57 = .ok (.aload_n 2, 1) := by decide +kernel
theorem d_Holders_dicts_58 : decode m_Holders_dicts.2.1 58 = .ok (.getstatic 15, 3) := by decide +kernel
theorem d_Holders_dicts_61 : decode m_Holders_dicts.2.1 61 = .ok (.invokevirtual 21, 3) := by decide +kernel
theorem d_Holders_dicts_64 : decode m_Holders_dicts.2.1 64 = .ok (.invokevirtual 27, 3) := by decide +kernel
theorem d_Holders_dicts_67 : decode m_Holders_dicts.2.1 67 = .ok (.aload_n 0, 1) := by decide +kernel
theorem d_Holders_dicts_68 : decode m_Holders_dicts.2.1 68 = .ok (.aload_n 2, 1) := by decide +kernel
theorem d_Holders_dicts_69 : decode m_Holders_dicts.2.1 69 = .ok (.getfield 31, 3) := by decide +kernel
theorem d_Holders_dicts_72 : decode m_Holders_dicts.2.1 72 = .ok (.iconst 1, 1) := by decide +kernel
theorem d_Holders_dicts_73 : decode m_Holders_dicts.2.1 73 = .ok (.if_icmp .lt 16, 3) := by decide +kernel
theorem d_Holders_dicts_76 : decode m_Holders_dicts.2.1 76 = .ok (.aload_n 2, 1) := by decide +kernel
theorem d_Holders_dicts_77 : decode m_Holders_dicts.2.1 77 = .ok (.getfield 31, 3) := by decide +kernel
theorem d_Holders_dicts_80 : decode m_Holders_dicts.2.1 80 = .ok (.bipush 10, 2) := by decide +kernel
theorem d_Holders_dicts_82 : decode m_Holders_dicts.2.1 82 = .ok (.if_icmp .gt 7, 3) := by decide +kernel
theorem d_Holders_dicts_85 : decode m_Holders_dicts.2.1 85 = .ok (.iconst 1, 1) := by decide +kernel
theorem d_Holders_dicts_86 : decode m_Holders_dicts.2.1 86 = .ok (.goto 4, 3) := by decide +kernel
theorem d_Holders_dicts_89 : decode m_Holders_dicts.2.1 89 = .ok (.iconst 0, 1) := by decide +kernel
theorem d_Holders_dicts_90 : decode m_Holders_dicts.2.1 90 = .ok (.iconst 4, 1) := by decide +kernel
theorem d_Holders_dicts_91 : decode m_Holders_dicts.2.1 91 = .ok (.invokevirtual 35, 3) := by decide +kernel
theorem d_Holders_dicts_94 : decode m_Holders_dicts.2.1 94 = .ok (.aload_n 0, 1) := by decide +kernel
theorem d_Holders_dicts_95 : decode m_Holders_dicts.2.1 95 = .ok (.aload_n 0, 1) := by decide +kernel
theorem d_Holders_dicts_96 : decode m_Holders_dicts.2.1 96 = .ok (.getfield 138, 3) := by decide +kernel
theorem d_Holders_dicts_99 : decode m_Holders_dicts.2.1 99 = .ok (.invokevirtual 141, 3) := by decide +kernel
theorem d_Holders_dicts_102 : decode m_Holders_dicts.2.1 102 = .ok (.bipush 7, 2) := by decide +kernel
theorem d_Holders_dicts_104 : decode m_Holders_dicts.2.1 104 = .ok (.if_icmp .ge 7, 3) := by decide +kernel
theorem d_Holders_dicts_107 : decode m_Holders_dicts.2.1 107 = .ok (.iconst 1, 1) := by decide +kernel
theorem d_Holders_dicts_108 : decode m_Holders_dicts.2.1 108 = .ok (.goto 4, 3) := by decide +kernel
theorem d_Holders_dicts_111 : decode m_Holders_dicts.2.1 111 = .ok (.iconst 0, 1) := by decide +kernel
theorem d_Holders_dicts_112 : decode m_Holders_dicts.2.1 112 = .ok (.bipush 7, 2) := by decide +kernel
theorem d_Holders_dicts_114 : decode m_Holders_dicts.2.1 114 = .ok (.invokevirtual 35, 3) := by decide +kernel
theorem d_Holders_dicts_117 : decode m_Holders_dicts.2.1 117 = .ok (.aload_n 0, 1) := by decide +kernel
theorem d_Holders_dicts_118 : decode m_Holders_dicts.2.1 118 = .ok (.getfield 138, 3) := by decide +kernel
theorem d_Holders_dicts_121 : decode m_Holders_dicts.2.1 121 = .ok (.new 61, 3) := by decide +kernel
theorem d_Holders_dicts_124 : decode m_Holders_dicts.2.1 124 = .ok (.dup, 1) := by decide +kernel
theorem d_Holders_dicts_125 : decode m_Holders_dicts.2.1 125 = .ok (.aload_n 0, 1) := by decide +kernel
theorem d_Holders_dicts_126 : decode m_Holders_dicts.2.1 126 = .ok (.getfield 138, 3) := by decide +kernel
theorem d_Holders_dicts_129 : decode m_Holders_dicts.2.1 129 = .ok (.invokevirtual 141, 3) := by decide +kernel
theorem d_Holders_dicts_132 : decode m_Holders_dicts.2.1 132 = .ok (.aload_n 2, 1) := by decide +kernel
theorem d_Holders_dicts_133 : decode m_Holders_dicts.2.1 133 = .ok (.getfield 31, 3) := by decide +kernel
theorem d_Holders_dicts_136 : decode m_Holders_dicts.2.1 136 = .ok (.invokespecial 145, 3) := by decide +kernel
theorem d_Holders_dicts_139 : decode m_Holders_dicts.2.1 139 = .ok (.invokevirtual 148, 3) := by decide +kernel
theorem d_Holders_dicts_142 : decode m_Holders_dicts.2.1 142 = .ok (.pop, 1) := by decide +kernel
theorem d_Holders_dicts_143 : decode m_Holders_dicts.2.1 143 = .ok (.aload_n 0, 1) := by decide +kernel
theorem d_Holders_dicts_144 : decode m_Holders_dicts.2.1 144 = .ok (.iconst 1, 1) := by decide +kernel
theorem d_Holders_dicts_145 : decode m_Holders_dicts.2.1 145 = .ok (.aload_n 0, 1) := by decide +kernel
theorem d_Holders_dicts_146 : decode m_Holders_dicts.2.1 146 = .ok (.getfield 138, 3) := by decide +kernel
theorem d_Holders_dicts_149 : decode m_Holders_dicts.2.1 149 = .ok (.aload_n 0, 1) := by decide +kernel
theorem d_Holders_dicts_150 : decode m_Holders_dicts.2.1 150 = .ok (.getfield 138, 3) := by decide +kernel
theorem d_Holders_dicts_153 : decode m_Holders_dicts.2.1 153 = .ok (.invokevirtual 141, 3) := by decide +kernel
theorem d_Holders_dicts_156 : decode m_Holders_dicts.2.1 156 = .ok (.iconst 1, 1) := by decide +kernel
theorem d_Holders_dicts_157 : decode m_Holders_dicts.2.1 157 = .ok (.isub, 1) := by decide +kernel
theorem d_Holders_dicts_158 : decode m_Holders_dicts.2.1 158 = .ok (.invokevirtual 152, 3) := by decide +kernel
theorem d_Holders_dicts_161 : decode m_Holders_dicts.2.1 161 = .ok (.checkcast 61, 3) := by decide +kernel
theorem d_Holders_dicts_164 : decode m_Holders_dicts.2.1 164 = .ok (.invokevirtual 155, 3) := by decide +kernel
theorem d_Holders_dicts_167 : decode m_Holders_dicts.2.1 167 = .ok (.goto 224, 3) := by decide +kernel
theorem d_Holders_dicts_170 : decode m_Holders_dicts.2.1 170 = .ok (.aload_n 0, 1) := by decide +kernel
theorem d_Holders_dicts_171 : decode m_Holders_dicts.2.1 171 = .ok (.aload_n 2, 1) := by decide +kernel
theorem d_Holders_dicts_172 : decode m_Holders_dicts.2.1 172 = .ok (.getstatic 50, 3) := by decide +kernel
theorem d_Holders_dicts_175 : decode m_Holders_dicts.2.1 175 = .ok (.invokevirtual 21, 3) := by decide +kernel
theorem d_Holders_dicts_178 : decode m_Holders_dicts.2.1 178 = .ok (.invokevirtual 27, 3) := by decide +kernel
theorem d_Holders_dicts_181 : decode m_Holders_dicts.2.1 181 = .ok (.aload_n 0, 1) := by decide +kernel
theorem d_Holders_dicts_182 : decode m_Holders_dicts.2.1 182 = .ok (.aload_n 0, 1) := by decide +kernel
theorem d_Holders_dicts_183 : decode m_Holders_dicts.2.1 183 = .ok (.getfield 135, 3) := by decide +kernel
theorem d_Holders_dicts_186 : decode m_Holders_dicts.2.1 186 = .ok (.bipush 6, 2) := by decide +kernel
theorem d_Holders_dicts_188 : decode m_Holders_dicts.2.1 188 = .ok (.if_icmp .ge 7, 3) := by decide +kernel
theorem d_Holders_dicts_191 : decode m_Holders_dicts.2.1 191 = .ok (.iconst 1, 1) := by decide +kernel
theorem d_Holders_dicts_192 : decode m_Holders_dicts.2.1 192 = .ok (.goto 4, 3) := by decide +kernel
theorem d_Holders_dicts_195 : decode m_Holders_dicts.2.1 195 = .ok (.iconst 0, 1) := by decide +kernel
theorem d_Holders_dicts_196 : decode m_Holders_dicts.2.1 196 = .ok (.bipush 7, 2) := by decide +kernel
theorem d_Holders_dicts_198 : decode m_Holders_dicts.2.1 198 = .ok (.invokevirtual 35, 3) := by decide +kernel
theorem d_Holders_dicts_201 : decode m_Holders_dicts.2.1 201 = .ok (.aload_n 0, 1) := by decide +kernel
theorem d_Holders_dicts_202 : decode m_Holders_dicts.2.1 202 = .ok (.getfield 131, 3) := by decide +kernel
theorem d_Holders_dicts_205 : decode m_Holders_dicts.2.1 205 = .ok (.aload_n 0, 1) := by decide +kernel
theorem d_Holders_dicts_206 : decode m_Holders_dicts.2.1 206 = .ok (.dup, 1) := by decide +kernel
theorem d_Holders_dicts_207 : decode m_Holders_dicts.2.1 207 = .ok (.getfield 135, 3) := by decide +kernel
theorem d_Holders_dicts_210 : decode m_Holders_dicts.2.1 210 = .ok (.dup_x1, 1) := by decide +kernel
theorem d_Holders_dicts_211 : decode m_Holders_dicts.2.1 211 = .ok (.iconst 1, 1) := by decide +kernel
theorem d_Holders_dicts_212 : decode m_Holders_dicts.2.1 212 = .ok (.iadd, 1) := by decide +kernel
theorem d_Holders_dicts_213 : decode m_Holders_dicts.2.1 213 = .ok (.putfield 135, 3) := by decide +kernel
theorem d_Holders_dicts_216 : decode m_Holders_dicts.2.1 216 = .ok (.aload_n 2, 1) := by decide +kernel
theorem d_Holders_dicts_217 : decode m_Holders_dicts.2.1 217 = .ok (.getfield 56, 3) := by decide +kernel
theorem d_Holders_dicts_220 : decode m_Holders_dicts.2.1 220 = .ok (.aastore, 1) := by decide +kernel
theorem d_Holders_dicts_221 : decode m_Holders_dicts.2.1 221 = .ok (.aload_n 0, 1) := by decide +kernel
theorem d_Holders_dicts_222 : decode m_Holders_dicts.2.1 222 = .ok (.dup, 1) := by decide +kernel
theorem d_Holders_dicts_223 : decode m_Holders_dicts.2.1 223 = .ok (.getfield 83, 3) := by decide +kernel
theorem d_Holders_dicts_226 : decode m_Holders_dicts.2.1 226 = .ok (.iconst 1, 1) := by decide +kernel
theorem d_Holders_dicts_227 : decode m_Holders_dicts.2.1 227 = .ok (.isub, 1) := by decide +kernel
theorem d_Holders_dicts_228 : decode m_Holders_dicts.2.1 228 = .ok (.putfield 83, 3) := by decide +kernel
theorem d_Holders_dicts_231 : decode m_Holders_dicts.2.1 231 = .ok (.goto 160, 3) := by decide +kernel
theorem d_Holders_dicts_234 : decode m_Holders_dicts.2.1 234 = .ok (.aload_n 0, 1) := by decide +kernel
theorem d_Holders_dicts_235 : decode m_Holders_dicts.2.1 235 = .ok (.aload_n 0, 1) := by decide +kernel
theorem d_Holders_dicts_236 : decode m_Holders_dicts.2.1 236 = .ok (.getfield 135, 3) := by decide +kernel
theorem d_Holders_dicts_239 : decode m_Holders_dicts.2.1 239 = .ok (.iconst 1, 1) := by decide +kernel
theorem d_Holders_dicts_240 : decode m_Holders_dicts.2.1 240 = .ok (.if_icmp .le 7, 3) := by decide +kernel
theorem d_Holders_dicts_243 : decode m_Holders_dicts.2.1 243 = .ok (.iconst 1, 1) := by decide +kernel
theorem d_Holders_dicts_244 : decode m_Holders_dicts.2.1 244 = .ok (.goto 4, 3) := by decide +kernel
theorem d_Holders_dicts_247 : decode m_Holders_dicts.2.1 247 = .ok (.iconst 0, 1) := by decide +kernel
theorem d_Holders_dicts_248 : decode m_Holders_dicts.2.1 248 = .ok (.bipush 9, 2) := by decide +kernel
theorem d_Holders_dicts_250 : decode m_Holders_dicts.2.1 250 = .ok (.invokevirtual 35, 3) := by decide +kernel
theorem d_Holders_dicts_253 : decode m_Holders_dicts.2.1 253 = .ok (.aload_n 0, 1) := by decide +kernel
theorem d_Holders_dicts_254 : decode m_Holders_dicts.2.1 254 = .ok (.dup, 1) := by decide +kernel
theorem d_Holders_dicts_255 : decode m_Holders_dicts.2.1 255 = .ok (.getfield 135, 3) := by decide +kernel
theorem d_Holders_dicts_258 : decode m_Holders_dicts.2.1 258 = .ok (.iconst 1, 1) := by decide +kernel
theorem d_Holders_dicts_259 : decode m_Holders_dicts.2.1 259 = .ok (.isub, 1) := by decide +kernel
theorem d_Holders_dicts_260 : decode m_Holders_dicts.2.1 260 = .ok (.putfield 135, 3) := by decide +kernel
theorem d_Holders_dicts_263 : decode m_Holders_dicts.2.1 263 = .ok (.goto 128, 3) := by decide +kernel
theorem d_Holders_dicts_266 : decode m_Holders_dicts.2.1 266 = .ok (.aload_n 0, 1) := by decide +kernel
theorem d_Holders_dicts_267 : decode m_Holders_dicts.2.1 267 = .ok (.aload_n 2, 1) := by decide +kernel
theorem d_Holders_dicts_268 : decode m_Holders_dicts.2.1 268 = .ok (.getstatic 98, 3) := by decide +kernel
theorem d_Holders_dicts_271 : decode m_Holders_dicts.2.1 271 = .ok (.invokevirtual 21, 3) := by decide +kernel
theorem d_Holders_dicts_274 : decode m_Holders_dicts.2.1 274 = .ok (.invokevirtual 27, 3) := by decide +kernel
theorem d_Holders_dicts_277 : decode m_Holders_dicts.2.1 277 = .ok (.aload_n 0, 1) := by decide +kernel
theorem d_Holders_dicts_278 : decode m_Holders_dicts.2.1 278 = .ok (.aload 4, 2) := by decide +kernel
theorem d_Holders_dicts_280 : decode m_Holders_dicts.2.1 280 = .ok (.aload_n 2, 1) := by decide +kernel
theorem d_Holders_dicts_281 : decode m_Holders_dicts.2.1 281 = .ok (.getfield 105, 3) := by decide +kernel
theorem d_Holders_dicts_284 : decode m_Holders_dicts.2.1 284 = .ok (.aload_n 3, 1) := by decide +kernel
theorem d_Holders_dicts_285 : decode m_Holders_dicts.2.1 285 = .ok (.invokevirtual 120, 3) := by decide +kernel
theorem d_Holders_dicts_288 : decode m_Holders_dicts.2.1 288 = .ok (.aload_n 0, 1) := by decide +kernel
theorem d_Holders_dicts_289 : decode m_Holders_dicts.2.1 289 = .ok (.dup, 1) := by decide +kernel
theorem d_Holders_dicts_290 : decode m_Holders_dicts.2.1 290 = .ok (.getfield 83, 3) := by decide +kernel
theorem d_Holders_dicts_293 : decode m_Holders_dicts.2.1 293 = .ok (.iconst 2, 1) := by decide +kernel
theorem d_Holders_dicts_294 : decode m_Holders_dicts.2.1 294 = .ok (.isub, 1) := by decide +kernel
theorem d_Holders_dicts_295 : decode m_Holders_dicts.2.1 295 = .ok (.putfield 83, 3) := by decide +kernel
theorem d_Holders_dicts_298 : decode m_Holders_dicts.2.1 298 = .ok (.goto 93, 3) := by decide +kernel
theorem d_Holders_dicts_301 : decode m_Holders_dicts.2.1 301 = .ok (.aload_n 0, 1) := by decide +kernel
theorem d_Holders_dicts_302 : decode m_Holders_dicts.2.1 302 = .ok (.aload_n 2, 1) := by decide +kernel
theorem d_Holders_dicts_303 : decode m_Holders_dicts.2.1 303 = .ok (.getstatic 98, 3) := by decide +kernel
theorem d_Holders_dicts_306 : decode m_Holders_dicts.2.1 306 = .ok (.invokevirtual 21, 3) := by decide +kernel
theorem d_Holders_dicts_309 : decode m_Holders_dicts.2.1 309 = .ok (.invokevirtual 27, 3) := by decide +kernel
theorem d_Holders_dicts_312 : decode m_Holders_dicts.2.1 312 = .ok (.aload_n 0, 1) := by decide +kernel
theorem d_Holders_dicts_313 : decode m_Holders_dicts.2.1 313 = .ok (.aload_n 2, 1) := by decide +kernel
theorem d_Holders_dicts_314 : decode m_Holders_dicts.2.1 314 = .ok (.aload_n 0, 1) := by decide +kernel
theorem d_Holders_dicts_315 : decode m_Holders_dicts.2.1 315 = .ok (.aload_n 2, 1) := by decide +kernel
theorem d_Holders_dicts_316 : decode m_Holders_dicts.2.1 316 = .ok (.getfield 105, 3) := by decide +kernel
theorem d_Holders_dicts_319 : decode m_Holders_dicts.2.1 319 = .ok (.invokevirtual 159, 3) := by decide +kernel
theorem d_Holders_dicts_322 : decode m_Holders_dicts.2.1 322 = .ok (.invokevirtual 113, 3) := by decide +kernel
theorem d_Holders_dicts_325 : decode m_Holders_dicts.2.1 325 = .ok (.goto 66, 3) := by decide +kernel
theorem d_Holders_dicts_328 : decode m_Holders_dicts.2.1 328 = .ok (.aload_n 0, 1) := by decide +kernel
theorem d_Holders_dicts_329 : decode m_Holders_dicts.2.1 329 = .ok (.aload_n 2, 1) := by decide +kernel
theorem d_Holders_dicts_330 : decode m_Holders_dicts.2.1 330 = .ok (.getstatic 50, 3) := by decide +kernel
theorem d_Holders_dicts_333 : decode m_Holders_dicts.2.1 333 = .ok (.invokevirtual 21, 3) := by decide +kernel
theorem d_Holders_dicts_336 : decode m_Holders_dicts.2.1 336 = .ok (.ifCond .eq 17, 3) := by decide +kernel
theorem d_Holders_dicts_339 : decode m_Holders_dicts.2.1 339 = .ok (.aload_n 3, 1) := by decide +kernel
theorem d_Holders_dicts_340 : decode m_Holders_dicts.2.1 340 = .ok (.getstatic 98, 3) := by decide +kernel
theorem d_Holders_dicts_343 : decode m_Holders_dicts.2.1 343 = .ok (.invokevirtual 21, 3) := by decide +kernel
theorem d_Holders_dicts_346 : decode m_Holders_dicts.2.1 346 = .ok (.ifCond .eq 7, 3) := by decide +kernel
theorem d_Holders_dicts_349 : decode m_Holders_dicts.2.1 349 = .ok (.iconst 1, 1) := by decide +kernel
theorem d_Holders_dicts_350 : decode m_Holders_dicts.2.1 350 = .ok (.goto 4, 3) := by decide +kernel
theorem d_Holders_dicts_353 : decode m_Holders_dicts.2.1 353 = .ok (.iconst 0, 1) := by decide +kernel
theorem d_Holders_dicts_354 : decode m_Holders_dicts.2.1 354 = .ok (.invokevirtual 27, 3) := by decide +kernel
theorem d_Holders_dicts_357 : decode m_Holders_dicts.2.1 357 = .ok (.aload_n 0, 1) := by decide +kernel
theorem d_Holders_dicts_358 : decode m_Holders_dicts.2.1 358 = .ok (.iconst 2, 1) := by decide +kernel
theorem d_Holders_dicts_359 : decode m_Holders_dicts.2.1 359 = .ok (.aload_n 2, 1) := by decide +kernel
theorem d_Holders_dicts_360 : decode m_Holders_dicts.2.1 360 = .ok (.getfield 56, 3) := by decide +kernel
theorem d_Holders_dicts_363 : decode m_Holders_dicts.2.1 363 = .ok (.aload_n 3, 1) := by decide +kernel
theorem d_Holders_dicts_364 : decode m_Holders_dicts.2.1 364 = .ok (.getfield 105, 3) := by decide +kernel
theorem d_Holders_dicts_367 : decode m_Holders_dicts.2.1 367 = .ok (.invokevirtual 109, 3) := by decide +kernel
theorem d_Holders_dicts_370 : decode m_Holders_dicts.2.1 370 = .ok (.ifnull 7, 3) := by decide +kernel
theorem d_Holders_dicts_373 : decode m_Holders_dicts.2.1 373 = .ok (.iconst 1, 1) := by decide +kernel
theorem d_Holders_dicts_374 : decode m_Holders_dicts.2.1 374 = .ok (.goto 4, 3) := by decide +kernel
theorem d_Holders_dicts_377 : decode m_Holders_dicts.2.1 377 = .ok (.iconst 0, 1) := by decide +kernel
theorem d_Holders_dicts_378 : decode m_Holders_dicts.2.1 378 = .ok (.invokevirtual 160, 3) := by decide +kernel
theorem d_Holders_dicts_381 : decode m_Holders_dicts.2.1 381 = .ok (.goto 10, 3) := by decide +kernel
theorem d_Holders_dicts_384 : decode m_Holders_dicts.2.1 384 = .ok (.aload_n 0, 1) := by decide +kernel
theorem d_Holders_dicts_385 : decode m_Holders_dicts.2.1 385 = .ok (.iconst 0, 1) := by decide +kernel
theorem d_Holders_dicts_386 : decode m_Holders_dicts.2.1 386 = .ok (.aload 4, 2) := by decide +kernel
theorem d_Holders_dicts_388 : decode m_Holders_dicts.2.1 388 = .ok (.invokevirtual 155, 3) := by decide +kernel
theorem d_Holders_dicts_391 : decode m_Holders_dicts.2.1 391 = .ok (.return_, 1) := by decide +kernel
theorem d_Holders_get_0 : decode m_Holders_get.2.1 0 = .ok (.aload_n 1, 1) := by decide +kernel
theorem d_Holders_get_1 : decode m_Holders_get.2.1 1 = .ok (.getstatic 39, 3) := by decide +kernel
theorem d_Holders_get_4 : decode m_Holders_get.2.1 4 = .ok (.invokevirtual 21, 3) := by decide +kernel
theorem d_Holders_get_7 : decode m_Holders_get.2.1 7 = .ok (.ifCond .eq 17, 3) := by decide +kernel
theorem d_Holders_get_10 : decode m_Holders_get.2.1 10 = .ok (.aload_n 2, 1) := by decide +kernel
theorem d_Holders_get_11 : decode m_Holders_get.2.1 11 = .ok (.getstatic 15, 3) := by decide +kernel
theorem d_Holders_get_14 : decode m_Holders_get.2.1 14 = .ok (.invokevirtual 21, 3) := by decide +kernel
theorem d_Holders_get_17 : decode m_Holders_get.2.1 17 = .ok (.ifCond .eq 7, 3) := by decide +kernel
theorem d_Holders_get_20 : decode m_Holders_get.2.1 20 = .ok (.iconst 1, 1) := by decide +kernel
theorem d_Holders_get_21 : decode m_Holders_get.2.1 21 = .ok (.goto 4, 3) := by decide +kernel
theorem d_Holders_get_24 : decode m_Holders_get.2.1 24 = .ok (.iconst 0, 1) := by decide +kernel
theorem d_Holders_get_25 : decode m_Holders_get.2.1 25 = .ok (.istore_n 3, 1) := by decide +kernel
theorem d_Holders_get_26 : decode m_Holders_get.2.1 26 = .ok (.aload_n 0, 1) := by decide +kernel
theorem d_Holders_get_27 : decode m_Holders_get.2.1 27 = .ok (.iload_n 3, 1) := by decide +kernel
theorem d_Holders_get_28 : decode m_Holders_get.2.1 28 = .ok (.ifCond .ne 23, 3) := by decide +kernel
theorem d_Holders_get_31 : decode m_Holders_get.2.1 31 = .ok (.aload_n 1, 1) := by decide +kernel
theorem d_Holders_get_32 : decode m_Holders_get.2.1 32 = .ok (.getstatic 50, 3) := by decide +kernel
theorem d_Holders_get_35 : decode m_Holders_get.2.1 35 = .ok (.invokevirtual 21, 3) := by decide +kernel
theorem d_Holders_get_38 : decode m_Holders_get.2.1 38 = .ok (.ifCond .eq 17, 3) := by decide +kernel
theorem d_Holders_get_41 : decode m_Holders_get.2.1 41 = .ok (.aload_n 2, 1) := by decide +kernel
theorem d_Holders_get_42 : decode m_Holders_get.2.1 42 = .ok (.getstatic 98, 3) := by decide +kernel
theorem d_Holders_get_45 : decode m_Holders_get.2.1 45 = .ok (.invokevirtual 21, 3) := by decide +kernel
theorem d_Holders_get_48 : decode m_Holders_get.2.1 48 = .ok (.ifCond .eq 7, 3) := by decide +kernel
theorem d_Holders_get_51 : decode m_Holders_get.2.1 51 = .ok (.iconst 1, 1) := by decide +kernel
theorem d_Holders_get_52 : decode m_Holders_get.2.1 52 = .ok (.goto 4, 3) := by decide +kernel
theorem d_Holders_get_55 : decode m_Holders_get.2.1 55 = .ok (.iconst 0, 1) := by decide +kernel
theorem d_Holders_get_56 : decode m_Holders_get.2.1 56 = .ok (.invokevirtual 27, 3) := by decide +kernel
theorem d_Holders_get_59 : decode m_Holders_get.2.1 59 = .ok (.aload_n 0, 1) := by decide +kernel
theorem d_Holders_get_60 : decode m_Holders_get.2.1 60 = .ok (.iload_n 3, 1) := by decide +kernel
theorem d_Holders_get_61 : decode m_Holders_get.2.1 61 = .ok (.ifCond .eq 21, 3) := by decide +kernel
theorem d_Holders_get_64 : decode m_Holders_get.2.1 64 = .ok (.aload_n 2, 1) := by decide +kernel
theorem d_Holders_get_65 : decode m_Holders_get.2.1 65 = .ok (.getfield 31, 3) := by decide +kernel
theorem d_Holders_get_68 : decode m_Holders_get.2.1 68 = .ok (.ifCond .lt 18, 3) := by decide +kernel
theorem d_Holders_get_71 : decode m_Holders_get.2.1 71 = .ok (.aload_n 2, 1) := by decide +kernel
theorem d_Holders_get_72 : decode m_Holders_get.2.1 72 = .ok (.getfield 31, 3) := by decide +kernel
theorem d_Holders_get_75 : decode m_Holders_get.2.1 75 = .ok (.aload_n 1, 1) := by decide +kernel
theorem d_Holders_get_76 : decode m_Holders_get.2.1 76 = .ok (.getfield 53, 3) := by decide +kernel
theorem d_Holders_get_79 : decode m_Holders_get.2.1 79 = .ok (.if_icmp .ge 7, 3) := by decide +kernel
theorem d_Holders_get_82 : decode m_Holders_get.2.1 82 = .ok (.iconst 1, 1) := by decide +kernel
theorem d_Holders_get_83 : decode m_Holders_get.2.1 83 = .ok (.goto 4, 3) := by decide +kernel
theorem d_Holders_get_86 : decode m_Holders_get.2.1 86 = .ok (.iconst 0, 1) := by decide +kernel
theorem d_Holders_get_87 : decode m_Holders_get.2.1 87 = .ok (.iconst 4, 1) := by decide +kernel
theorem d_Holders_get_88 : decode m_Holders_get.2.1 88 = .ok (.invokevirtual 35, 3) := by decide +kernel
theorem d_Holders_get_91 : decode m_Holders_get.2.1 91 = .ok (.aload_n 0, 1) := by decide +kernel
theorem d_Holders_get_92 : decode m_Holders_get.2.1 92 = .ok (.aload_n 1, 1) := by decide +kernel
theorem d_Holders_get_93 : decode m_Holders_get.2.1 93 = .ok (.iload_n 3, 1) := by decide +kernel
theorem d_Holders_get_94 : decode m_Holders_get.2.1 94 = .ok (.ifCond .eq 20, 3) := by decide +kernel
theorem d_Holders_get_97 : decode m_Holders_get.2.1 97 = .ok (.aload_n 0, 1) := by decide +kernel
theorem d_Holders_get_98 : decode m_Holders_get.2.1 98 = .ok (.getfield 101, 3) := by decide +kernel
theorem d_Holders_get_101 : decode m_Holders_get.2.1 101 = .ok (.aload_n 1, 1) := by decide +kernel
theorem d_Holders_get_102 : decode m_Holders_get.2.1 102 = .ok (.getfield 31, 3) := by decide +kernel
theorem d_Holders_get_105 : decode m_Holders_get.2.1 105 = .ok (.aload_n 2, 1) := by decide +kernel
theorem d_Holders_get_106 : decode m_Holders_get.2.1 106 = .ok (.getfield 31, 3) := by decide +kernel
theorem d_Holders_get_109 : decode m_Holders_get.2.1 109 = .ok (.iadd, 1) := by decide +kernel
theorem d_Holders_get_110 : decode m_Holders_get.2.1 110 = .ok (.aaload, 1) := by decide +kernel
theorem d_Holders_get_111 : decode m_Holders_get.2.1 111 = .ok (.goto 14, 3) := by decide +kernel
theorem d_Holders_get_114 : decode m_Holders_get.2.1 114 = .ok (.aload_n 1, 1) := by decide +kernel
theorem d_Holders_get_115 : decode m_Holders_get.2.1 115 = .ok (.getfield 56, 3) := by decide +kernel
theorem d_Holders_get_118 : decode m_Holders_get.2.1 118 = .ok (.aload_n 2, 1) := by decide +kernel
theorem d_Holders_get_119 : decode m_Holders_get.2.1 119 = .ok (.getfield 105, 3) := by decide +kernel
theorem d_Holders_get_122 : decode m_Holders_get.2.1 122 = .ok (.invokevirtual 109, 3) := by decide +kernel
theorem d_Holders_get_125 : decode m_Holders_get.2.1 125 = .ok (.invokevirtual 113, 3) := by decide +kernel
theorem d_Holders_get_128 : decode m_Holders_get.2.1 128 = .ok (.aload_n 0, 1) := by decide +kernel
theorem d_Holders_get_129 : decode m_Holders_get.2.1 129 = .ok (.dup, 1) := by decide +kernel
theorem d_Holders_get_130 : decode m_Holders_get.2.1 130 = .ok (.getfield 83, 3) := by decide +kernel
theorem d_Holders_get_133 : decode m_Holders_get.2.1 133 = .ok (.iconst 1, 1) := by decide +kernel
theorem d_Holders_get_134 : decode m_Holders_get.2.1 134 = .ok (.isub, 1) := by decide +kernel
theorem d_Holders_get_135 : decode m_Holders_get.2.1 135 = .ok (.putfield 83, 3) := by decide +kernel
theorem d_Holders_get_138 : decode m_Holders_get.2.1 138 = .ok (.return_, 1) := by decide +kernel
theorem d_Holders_init_0 : decode m_Holders_init.2.1 0 = .ok (.aload_n 0, 1) := by decide +kernel
theorem d_Holders_init_1 : decode m_Holders_init.2.1 1 = .ok (.invokespecial 3, 3) := by decide +kernel
theorem d_Holders_init_4 : decode m_Holders_init.2.1 4 = .ok (.return_, 1) := by decide +kernel
theorem d_P_take_0 : decode m_P_take.2.1 0 = .ok (.aload_n 0, 1) := by decide +kernel
theorem d_P_take_1 : decode m_P_take.2.1 1 = .ok (.iload_n 1, 1) := by decide +kernel
theorem d_P_take_2 : decode m_P_take.2.1 2 = .ok (.sipush 160, 3) := by decide +kernel
theorem d_P_take_5 : decode m_P_take.2.1 5 = .ok (.aload_n 0, 1) := by decide +kernel
theorem d_P_take_6 : decode m_P_take.2.1 6 = .ok (.getfield 231, 3) := by decide +kernel
theorem d_P_take_9 : decode m_P_take.2.1 9 = .ok (.isub, 1) := by decide +kernel
theorem d_P_take_10 : decode m_P_take.2.1 10 = .ok (.if_icmp .gt 7, 3) := by decide +kernel
theorem d_P_take_13 : decode m_P_take.2.1 13 = .ok (.iconst 1, 1) := by decide +kernel
theorem d_P_take_14 : decode m_P_take.2.1 14 = .ok (.goto 4, 3) := by decide +kernel
theorem d_P_take_17 : decode m_P_take.2.1 17 = .ok (.iconst 0, 1) := by decide +kernel
theorem d_P_take_18 : decode m_P_take.2.1 18 = .ok (.bipush 7, 2) := by decide +kernel
theorem d_P_take_20 : decode m_P_take.2.1 20 = .ok (.invokevirtual 170, 3) := by decide +kernel
theorem d_P_take_23 : decode m_P_take.2.1 23 = .ok (.aload_n 0, 1) := by decide +kernel
theorem d_P_take_24 : decode m_P_take.2.1 24 = .ok (.getfield 231, 3) := by decide +kernel
theorem d_P_take_27 : decode m_P_take.2.1 27 = .ok (.istore_n 2, 1) := by decide +kernel
theorem d_P_take_28 : decode m_P_take.2.1 28 = .ok (.iload_n 2, 1) := by decide +kernel
theorem d_P_take_29 : decode m_P_take.2.1 29 = .ok (.aload_n 0, 1) := by decide +kernel
theorem d_P_take_30 : decode m_P_take.2.1 30 = .ok (.getfield 231, 3) := by decide +kernel
theorem d_P_take_33 : decode m_P_take.2.1 33 = .ok (.iload_n 1, 1) := by decide +kernel
theorem d_P_take_34 : decode m_P_take.2.1 34 = .ok (.iadd, 1) := by decide +kernel
theorem d_P_take_35 : decode m_P_take.2.1 35 = .ok (.if_icmp .ge 59, 3) := by decide +kernel
theorem d_P_take_38 : decode m_P_take.2.1 38 = .ok (.aload_n 0, 1) := by decide +kernel
theorem d_P_take_39 : decode m_P_take.2.1 39 = .ok (.getfield 57, 3) := by decide +kernel
theorem d_P_take_42 : decode m_P_take.2.1 42 = .ok (.iload_n 2, 1) := by decide +kernel
theorem d_P_take_43 : decode m_P_take.2.1 43 = .ok (.aaload, 1) := by decide +kernel
theorem d_P_take_44 : decode m_P_take.2.1 44 = .ok (.ifnonnull 16, 3) := by decide +kernel
theorem d_P_take_47 : decode m_P_take.2.1 47 = .ok (.aload_n 0, 1) := by decide +kernel
theorem d_P_take_48 : decode m_P_take.2.1 48 = .ok (.getfield 57, 3) := by decide +kernel
theorem d_P_take_51 : decode m_P_take.2.1 51 = .ok (.iload_n 2, 1) := by decide +kernel
theorem d_P_take_52 : decode m_P_take.2.1 52 = .ok (.new 51, 3) := by decide +kernel
theorem d_P_take_55 : decode m_P_take.2.1 55 = .ok (.dup, 1) := by decide +kernel
theorem d_P_take_56 : decode m_P_take.2.1 56 = .ok (.invokespecial 177, 3) := by decide +kernel
theorem d_P_take_59 : decode m_P_take.2.1 59 = .ok (.aastore, 1) := by decide +kernel
theorem d_P_take_60 : decode m_P_take.2.1 60 = .ok (.aload_n 0, 1) := by decide +kernel
theorem d_P_take_61 : decode m_P_take.2.1 61 = .ok (.getfield 57, 3) := by decide +kernel
theorem d_P_take_64 : decode m_P_take.2.1 64 = .ok (.iload_n 2, 1) := by decide +kernel
theorem d_P_take_65 : decode m_P_take.2.1 65 = .ok (.aaload, 1) := by decide +kernel
theorem d_P_take_66 : decode m_P_take.2.1 66 = .ok (.getstatic 221, 3) := by decide +kernel
theorem d_P_take_69 : decode m_P_take.2.1 69 = .ok (.iconst 0, 1) := by decide +kernel
theorem d_P_take_70 : decode m_P_take.2.1 70 = .ok (.iconst 0, 1) := by decide +kernel
theorem d_P_take_71 : decode m_P_take.2.1 71 = .ok (.iconst 0, 1) := by decide +kernel
theorem d_P_take_72 : decode m_P_take.2.1 72 = .ok (.invokevirtual 186, 3) := by decide +kernel
theorem d_P_take_75 : decode m_P_take.2.1 75 = .ok (.aload_n 0, 1) := by decide +kernel
theorem d_P_take_76 : decode m_P_take.2.1 76 = .ok (.getfield 57, 3) := by decide +kernel
theorem d_P_take_79 : decode m_P_take.2.1 79 = .ok (.iload_n 2, 1) := by decide +kernel
theorem d_P_take_80 : decode m_P_take.2.1 80 = .ok (.aaload, 1) := by decide +kernel
theorem d_P_take_81 : decode m_P_take.2.1 81 = .ok (.aload_n 0, 1) := by decide +kernel
theorem d_P_take_82 : decode m_P_take.2.1 82 = .ok (.getfield 234, 3) := by decide +kernel
theorem d_P_take_85 : decode m_P_take.2.1 85 = .ok (.putfield 237, 3) := by decide +kernel
theorem d_P_take_88 : decode m_P_take.2.1 88 = .ok (.iinc 2 1, 3) := by decide +kernel
theorem d_P_take_91 : decode m_P_take.2.1 91 = .ok (.goto (-63), 3) := by decide +kernel
theorem d_P_take_94 : decode m_P_take.2.1 94 = .ok (.aload_n 0, 1) := by decide +kernel
theorem d_P_take_95 : decode m_P_take.2.1 95 = .ok (.dup, 1) := by decide +kernel
theorem d_P_take_96 : decode m_P_take.2.1 96 = .ok (.getfield 231, 3) := by decide +kernel
theorem d_P_take_99 : decode m_P_take.2.1 99 = .ok (.iload_n 1, 1) := by decide +kernel
theorem d_P_take_100 : decode m_P_take.2.1 100 = .ok (.iadd, 1) := by decide +kernel
theorem d_P_take_101 : decode m_P_take.2.1 101 = .ok (.putfield 231, 3) := by decide +kernel
theorem d_P_take_104 : decode m_P_take.2.1 104 = .ok (.aload_n 0, 1) := by decide +kernel
theorem d_P_take_105 : decode m_P_take.2.1 105 = .ok (.getfield 231, 3) := by decide +kernel
theorem d_P_take_108 : decode m_P_take.2.1 108 = .ok (.iload_n 1, 1) := by decide +kernel
theorem d_P_take_109 : decode m_P_take.2.1 109 = .ok (.isub, 1) := by decide +kernel
theorem d_P_take_110 : decode m_P_take.2.1 110 = .ok (.ireturn, 1) := by decide +kernel
theorem d_Holders_put_0 : decode m_Holders_put.2.1 0 = .ok (.aload_n 1, 1) := by decide +kernel
theorem d_Holders_put_1 : decode m_Holders_put.2.1 1 = .ok (.getstatic 39, 3) := by decide +kernel
theorem d_Holders_put_4 : decode m_Holders_put.2.1 4 = .ok (.invokevirtual 21, 3) := by decide +kernel
theorem d_Holders_put_7 : decode m_Holders_put.2.1 7 = .ok (.ifCond .eq 17, 3) := by decide +kernel
theorem d_Holders_put_10 : decode m_Holders_put.2.1 10 = .ok (.aload_n 2, 1) := by decide +kernel
theorem d_Holders_put_11 : decode m_Holders_put.2.1 11 = .ok (.getstatic 15, 3) := by decide +kernel
theorem d_Holders_put_14 : decode m_Holders_put.2.1 14 = .ok (.invokevirtual 21, 3) := by decide +kernel
theorem d_Holders_put_17 : decode m_Holders_put.2.1 17 = .ok (.ifCond .eq 7, 3) := by decide +kernel
theorem d_Holders_put_20 : decode m_Holders_put.2.1 20 = .ok (.iconst 1, 1) := by decide +kernel
theorem d_Holders_put_21 : decode m_Holders_put.2.1 21 = .ok (.goto 4, 3) := by decide +kernel
theorem d_Holders_put_24 : decode m_Holders_put.2.1 24 = .ok (.iconst 0, 1) := by decide +kernel
theorem d_Holders_put_25 : decode m_Holders_put.2.1 25 = .ok (.istore 4, 2) := by decide +kernel
theorem d_Holders_put_27 : decode m_Holders_put.2.1 27 = .ok (.aload_n 0, 1) := by decide +kernel
theorem d_Holders_put_28 : decode m_Holders_put.2.1 28 = .ok (.iload 4, 2) := by decide +kernel
theorem d_Holders_put_30 : decode m_Holders_put.2.1 30 = .ok (.ifCond .ne 23, 3) := by decide +kernel
theorem d_Holders_put_33 : decode m_Holders_put.2.1 33 = .ok (.aload_n 1, 1) := by decide +kernel
theorem d_Holders_put_34 : decode m_Holders_put.2.1 34 = .ok (.getstatic 50, 3) := by decide +kernel
theorem d_Holders_put_37 : decode m_Holders_put.2.1 37 = .ok (.invokevirtual 21, 3) := by decide +kernel
theorem d_Holders_put_40 : decode m_Holders_put.2.1 40 = .ok (.ifCond .eq 17, 3) := by decide +kernel
theorem d_Holders_put_43 : decode m_Holders_put.2.1 43 = .ok (.aload_n 2, 1) := by decide +kernel
theorem d_Holders_put_44 : decode m_Holders_put.2.1 44 = .ok (.getstatic 98, 3) := by decide +kernel
theorem d_Holders_put_47 : decode m_Holders_put.2.1 47 = .ok (.invokevirtual 21, 3) := by decide +kernel
theorem d_Holders_put_50 : decode m_Holders_put.2.1 50 = .ok (.ifCond .eq 7, 3) := by decide +kernel
theorem d_Holders_put_53 : decode m_Holders_put.2.1 53 = .ok (.iconst 1, 1) := by decide +kernel
theorem d_Holders_put_54 : decode m_Holders_put.2.1 54 = .ok (.goto 4, 3) := by decide +kernel
theorem d_Holders_put_57 : decode m_Holders_put.2.1 57 = .ok (.iconst 0, 1) := by decide +kernel
theorem d_Holders_put_58 : decode m_Holders_put.2.1 58 = .ok (.invokevirtual 27, 3) := by decide +kernel
theorem d_Holders_put_61 : decode m_Holders_put.2.1 61 = .ok (.aload_n 0, 1) := by decide +kernel
theorem d_Holders_put_62 : decode m_Holders_put.2.1 62 = .ok (.iload 4, 2) := by decide +kernel
theorem d_Holders_put_64 : decode m_Holders_put.2.1 64 = .ok (.ifCond .eq 21, 3) := by decide +kernel
theorem d_Holders_put_67 : decode m_Holders_put.2.1 67 = .ok (.aload_n 2, 1) := by decide +kernel
theorem d_Holders_put_68 : decode m_Holders_put.2.1 68 = .ok (.getfield 31, 3) := by decide +kernel
theorem d_Holders_put_71 : decode m_Holders_put.2.1 71 = .ok (.ifCond .lt 18, 3) := by decide +kernel
theorem d_Holders_put_74 : decode m_Holders_put.2.1 74 = .ok (.aload_n 2, 1) := by decide +kernel
theorem d_Holders_put_75 : decode m_Holders_put.2.1 75 = .ok (.getfield 31, 3) := by decide +kernel
theorem d_Holders_put_78 : decode m_Holders_put.2.1 78 = .ok (.aload_n 1, 1) := by decide +kernel
theorem d_Holders_put_79 : decode m_Holders_put.2.1 79 = .ok (.getfield 53, 3) := by decide +kernel
theorem d_Holders_put_82 : decode m_Holders_put.2.1 82 = .ok (.if_icmp .ge 7, 3) := by decide +kernel
theorem d_Holders_put_85 : decode m_Holders_put.2.1 85 = .ok (.iconst 1, 1) := by decide +kernel
theorem d_Holders_put_86 : decode m_Holders_put.2.1 86 = .ok (.goto 4, 3) := by decide +kernel
theorem d_Holders_put_89 : decode m_Holders_put.2.1 89 = .ok (.iconst 0, 1) := by decide +kernel
theorem d_Holders_put_90 : decode m_Holders_put.2.1 90 = .ok (.iconst 4, 1) := by decide +kernel
theorem d_Holders_put_91 : decode m_Holders_put.2.1 91 = .ok (.invokevirtual 35, 3) := by decide +kernel
theorem d_Holders_put_94 : decode m_Holders_put.2.1 94 = .ok (.iload 4, 2) := by decide +kernel
theorem d_Holders_put_96 : decode m_Holders_put.2.1 96 = .ok (.ifCond .eq 25, 3) := by decide +kernel
theorem d_Holders_put_99 : decode m_Holders_put.2.1 99 = .ok (.aload_n 0, 1) := by decide +kernel
theorem d_Holders_put_100 : decode m_Holders_put.2.1 100 = .ok (.aload_n 0, 1) := by decide +kernel
theorem d_Holders_put_101 : decode m_Holders_put.2.1 101 = .ok (.getfield 101, 3) := by decide +kernel
theorem d_Holders_put_104 : decode m_Holders_put.2.1 104 = .ok (.aload_n 1, 1) := by decide +kernel
theorem d_Holders_put_105 : decode m_Holders_put.2.1 105 = .ok (.getfield 31, 3) := by decide +kernel
theorem d_Holders_put_108 : decode m_Holders_put.2.1 108 = .ok (.aload_n 2, 1) := by decide +kernel
theorem d_Holders_put_109 : decode m_Holders_put.2.1 109 = .ok (.getfield 31, 3) := by decide +kernel
theorem d_Holders_put_112 : decode m_Holders_put.2.1 112 = .ok (.iadd, 1) := by decide +kernel
theorem d_Holders_put_113 : decode m_Holders_put.2.1 113 = .ok (.aaload, 1) := by decide +kernel
theorem d_Holders_put_114 : decode m_Holders_put.2.1 114 = .ok (.aload_n 3, 1) := by decide +kernel
theorem d_Holders_put_115 : decode m_Holders_put.2.1 115 = .ok (.invokevirtual 117, 3) := by decide +kernel
theorem d_Holders_put_118 : decode m_Holders_put.2.1 118 = .ok (.goto 16, 3) := by decide +kernel
theorem d_Holders_put_121 : decode m_Holders_put.2.1 121 = .ok (.aload_n 0, 1) := by decide +kernel
theorem d_Holders_put_122 : decode m_Holders_put.2.1 122 = .ok (.aload_n 1, 1) := by decide +kernel
theorem d_Holders_put_123 : decode m_Holders_put.2.1 123 = .ok (.getfield 56, 3) := by decide +kernel
theorem d_Holders_put_126 : decode m_Holders_put.2.1 126 = .ok (.aload_n 2, 1) := by decide +kernel
theorem d_Holders_put_127 : decode m_Holders_put.2.1 127 = .ok (.getfield 105, 3) := by decide +kernel
theorem d_Holders_put_130 : decode m_Holders_put.2.1 130 = .ok (.aload_n 3, 1) := by decide +kernel
theorem d_Holders_put_131 : decode m_Holders_put.2.1 131 = .ok (.invokevirtual 120, 3) := by decide +kernel
theorem d_Holders_put_134 : decode m_Holders_put.2.1 134 = .ok (.aload_n 0, 1) := by decide +kernel
theorem d_Holders_put_135 : decode m_Holders_put.2.1 135 = .ok (.dup, 1) := by decide +kernel
theorem d_Holders_put_136 : decode m_Holders_put.2.1 136 = .ok (.getfield 83, 3) := by decide +kernel
theorem d_Holders_put_139 : decode m_Holders_put.2.1 139 = .ok (.iconst 3, 1) := by decide +kernel
theorem d_Holders_put_140 : decode m_Holders_put.2.1 140 = .ok (.isub, 1) := by decide +kernel
theorem d_Holders_put_141 : decode m_Holders_put.2.1 141 = .ok (.putfield 83, 3) := by decide +kernel
theorem d_Holders_put_144 : decode m_Holders_put.2.1 144 = .ok (.return_, 1) := by decide +kernel
theorem d_Holders_spread_0 : decode m_Holders_spread.2.1 0 = .ok (.aload_n 0, 1) := by decide +kernel
theorem d_Holders_spread_1 : decode m_Holders_spread.2.1 1 = .ok (.aload_n 1, 1) := by decide +kernel
theorem d_Holders_spread_2 : decode m_Holders_spread.2.1 2 = .ok (.getstatic 39, 3) := by decide +kernel
theorem d_Holders_spread_5 : decode m_Holders_spread.2.1 5 = .ok (.invokevirtual 21, 3) := by decide +kernel
theorem d_Holders_spread_8 : decode m_Holders_spread.2.1 8 = .ok (.invokevirtual 27, 3) := by decide +kernel
theorem d_Holders_spread_11 : decode m_Holders_spread.2.1 11 = .ok (.aload_n 0, 1) := by decide +kernel
theorem d_Holders_spread_12 : decode m_Holders_spread.2.1 12 = .ok (.aload_n 0, 1) := by decide +kernel
theorem d_Holders_spread_13 : decode m_Holders_spread.2.1 13 = .ok (.getfield 83, 3) := by decide +kernel
theorem d_Holders_spread_16 : decode m_Holders_spread.2.1 16 = .ok (.aload_n 1, 1) := by decide +kernel
theorem d_Holders_spread_17 : decode m_Holders_spread.2.1 17 = .ok (.getfield 53, 3) := by decide +kernel
theorem d_Holders_spread_20 : decode m_Holders_spread.2.1 20 = .ok (.iadd, 1) := by decide +kernel
theorem d_Holders_spread_21 : decode m_Holders_spread.2.1 21 = .ok (.bipush 40, 2) := by decide +kernel
theorem d_Holders_spread_23 : decode m_Holders_spread.2.1 23 = .ok (.if_icmp .gt 7, 3) := by decide +kernel
theorem d_Holders_spread_26 : decode m_Holders_spread.2.1 26 = .ok (.iconst 1, 1) := by decide +kernel
theorem d_Holders_spread_27 : decode m_Holders_spread.2.1 27 = .ok (.goto 4, 3) := by decide +kernel
theorem d_Holders_spread_30 : decode m_Holders_spread.2.1 30 = .ok (.iconst 0, 1) := by decide +kernel
theorem d_Holders_spread_31 : decode m_Holders_spread.2.1 31 = .ok (.iconst 2, 1) := by decide +kernel
theorem d_Holders_spread_32 : decode m_Holders_spread.2.1 32 = .ok (.invokevirtual 35, 3) := by decide +kernel
theorem d_Holders_spread_35 : decode m_Holders_spread.2.1 35 = .ok (.aload_n 1, 1) := by decide +kernel
theorem d_Holders_spread_36 : decode m_Holders_spread.2.1 36 = .ok (.getfield 31, 3) := by decide +kernel
theorem d_Holders_spread_39 : decode m_Holders_spread.2.1 39 = .ok (.istore_n 2, 1) := by decide +kernel
theorem d_Holders_spread_40 : decode m_Holders_spread.2.1 40 = .ok (.aload_n 1, 1) := by decide +kernel
theorem d_Holders_spread_41 : decode m_Holders_spread.2.1 41 = .ok (.getfield 53, 3) := by decide +kernel
theorem d_Holders_spread_44 : decode m_Holders_spread.2.1 44 = .ok (.istore_n 3, 1) := by decide +kernel
theorem d_Holders_spread_45 : decode m_Holders_spread.2.1 45 = .ok (.aload_n 1, 1) := by decide +kernel
theorem d_Holders_spread_46 : decode m_Holders_spread.2.1 46 = .ok (.getfield 86, 3) := by decide +kernel
theorem d_Holders_spread_49 : decode m_Holders_spread.2.1 49 = .ok (.istore 4, 2) := by decide +kernel
theorem d_Holders_spread_51 : decode m_Holders_spread.2.1 51 = .ok (.aload_n 0, 1) := by decide +kernel
theorem d_Holders_spread_52 : decode m_Holders_spread.2.1 52 = .ok (.dup, 1) := by decide +kernel
theorem d_Holders_spread_53 : decode m_Holders_spread.2.1 53 = .ok (.getfield 83, 3) := by decide +kernel
theorem d_Holders_spread_56 : decode m_Holders_spread.2.1 56 = .ok (.iconst 1, 1) := by decide +kernel
theorem d_Holders_spread_57 : decode m_Holders_spread.2.1 57 = .ok (.isub, 1) := by decide +kernel
theorem d_Holders_spread_58 : decode m_Holders_spread.2.1 58 = .ok (.putfield 83, 3) := by decide +kernel
theorem d_Holders_spread_61 : decode m_Holders_spread.2.1 61 = .ok (.iconst 0, 1) := by decide +kernel
theorem d_Holders_spread_62 : decode m_Holders_spread.2.1 62 = .ok (.istore 5, 2) := by decide +kernel
theorem d_Holders_spread_64 : decode m_Holders_spread.2.1 64 = .ok (.iload 5, 2) := by decide +kernel
theorem d_Holders_spread_66 : decode m_Holders_spread.2.1 66 = .ok (.iload_n 3, 1) := by decide +kernel
theorem d_Holders_spread_67 : decode m_Holders_spread.2.1 67 = .ok (.if_icmp .ge 22, 3) := by decide +kernel
theorem d_Holders_spread_70 : decode m_Holders_spread.2.1 70 = .ok (.aload_n 0, 1) := by decide +kernel
theorem d_Holders_spread_71 : decode m_Holders_spread.2.1 71 = .ok (.aload_n 0, 1) := by decide +kernel
theorem d_Holders_spread_72 : decode m_Holders_spread.2.1 72 = .ok (.getfield 101, 3) := by decide +kernel
theorem d_Holders_spread_75 : decode m_Holders_spread.2.1 75 = .ok (.iload_n 2, 1) := by decide +kernel
theorem d_Holders_spread_76 : decode m_Holders_spread.2.1 76 = .ok (.iload 5, 2) := by decide +kernel
theorem d_Holders_spread_78 : decode m_Holders_spread.2.1 78 = .ok (.iadd, 1) := by decide +kernel
theorem d_Holders_spread_79 : decode m_Holders_spread.2.1 79 = .ok (.aaload, 1) := by decide +kernel
theorem d_Holders_spread_80 : decode m_Holders_spread.2.1 80 = .ok (.invokevirtual 124, 3) := by decide +kernel
theorem d_Holders_spread_83 : decode m_Holders_spread.2.1 83 = .ok (.iinc 5 1, 3) := by decide +kernel
theorem d_Holders_spread_86 : decode m_Holders_spread.2.1 86 = .ok (.goto (-22), 3) := by decide +kernel
theorem d_Holders_spread_89 : decode m_Holders_spread.2.1 89 = .ok (.aload_n 0, 1) := by decide +kernel
theorem d_Holders_spread_90 : decode m_Holders_spread.2.1 90 = .ok (.iconst 0, 1) := by decide +kernel
theorem d_Holders_spread_91 : decode m_Holders_spread.2.1 91 = .ok (.getstatic 128, 3) := by decide +kernel
theorem d_Holders_spread_94 : decode m_Holders_spread.2.1 94 = .ok (.iconst 0, 1) := by decide +kernel
theorem d_Holders_spread_95 : decode m_Holders_spread.2.1 95 = .ok (.invokevirtual 65, 3) := by decide +kernel
theorem d_Holders_spread_98 : decode m_Holders_spread.2.1 98 = .ok (.aload_n 0, 1) := by decide +kernel
theorem d_Holders_spread_99 : decode m_Holders_spread.2.1 99 = .ok (.iconst 0, 1) := by decide +kernel
theorem d_Holders_spread_100 : decode m_Holders_spread.2.1 100 = .ok (.invokevirtual 75, 3) := by decide +kernel
theorem d_Holders_spread_103 : decode m_Holders_spread.2.1 103 = .ok (.getstatic 39, 3) := by decide +kernel
theorem d_Holders_spread_106 : decode m_Holders_spread.2.1 106 = .ok (.iload_n 2, 1) := by decide +kernel
theorem d_Holders_spread_107 : decode m_Holders_spread.2.1 107 = .ok (.iload_n 3, 1) := by decide +kernel
theorem d_Holders_spread_108 : decode m_Holders_spread.2.1 108 = .ok (.iload 4, 2) := by decide +kernel
theorem d_Holders_spread_110 : decode m_Holders_spread.2.1 110 = .ok (.invokevirtual 46, 3) := by decide +kernel
theorem d_Holders_spread_113 : decode m_Holders_spread.2.1 113 = .ok (.return_, 1) := by decide +kernel
theorem d_Holders_perform_0 : decode m_Holders_perform.2.1 0 = .ok (.aload_n 2, 1) := by decide +kernel
theorem d_Holders_perform_1 : decode m_Holders_perform.2.1 1 = .ok (.invokevirtual 9, 3) := by decide +kernel
theorem d_Holders_perform_4 : decode m_Holders_perform.2.1 4 = .ok (.tableswitch 325 39 44 #[40, 93, 157, 167, 182, 317], 40) := by decide +kernel
theorem d_Holders_perform_44 : decode m_Holders_perform.2.1 44 = .ok (.aload_n 1, 1) := by decide +kernel
theorem d_Holders_perform_45 : decode m_Holders_perform.2.1 45 = .ok (.aload_n 3, 1) := by decide +kernel
theorem d_Holders_perform_46 : decode m_Holders_perform.2.1 46 = .ok (.getstatic 15, 3) := by decide +kernel
theorem d_Holders_perform_49 : decode m_Holders_perform.2.1 49 = .ok (.invokevirtual 21, 3) := by decide +kernel
theorem d_Holders_perform_52 : decode m_Holders_perform.2.1 52 = .ok (.invokevirtual 27, 3) := by decide +kernel
theorem d_Holders_perform_55 : decode m_Holders_perform.2.1 55 = .ok (.aload_n 1, 1) := by decide +kernel
theorem d_Holders_perform_56 : decode m_Holders_perform.2.1 56 = .ok (.aload_n 3, 1) := by decide +kernel
theorem d_Holders_perform_57 : decode m_Holders_perform.2.1 57 = .ok (.getfield 31, 3) := by decide +kernel
theorem d_Holders_perform_60 : decode m_Holders_perform.2.1 60 = .ok (.ifCond .lt 7, 3) := by decide +kernel
theorem d_Holders_perform_63 : decode m_Holders_perform.2.1 63 = .ok (.iconst 1, 1) := by decide +kernel
theorem d_Holders_perform_64 : decode m_Holders_perform.2.1 64 = .ok (.goto 4, 3) := by decide +kernel
theorem d_Holders_perform_67 : decode m_Holders_perform.2.1 67 = .ok (.iconst 0, 1) := by decide +kernel
theorem d_Holders_perform_68 : decode m_Holders_perform.2.1 68 = .ok (.iconst 4, 1) := by decide +kernel
theorem d_Holders_perform_69 : decode m_Holders_perform.2.1 69 = .ok (.invokevirtual 35, 3) := by decide +kernel
theorem d_Holders_perform_72 : decode m_Holders_perform.2.1 72 = .ok (.aload_n 3, 1) := by decide +kernel
theorem d_Holders_perform_73 : decode m_Holders_perform.2.1 73 = .ok (.getfield 31, 3) := by decide +kernel
theorem d_Holders_perform_76 : decode m_Holders_perform.2.1 76 = .ok (.istore 6, 2) := by decide +kernel
theorem d_Holders_perform_78 : decode m_Holders_perform.2.1 78 = .ok (.aload_n 3, 1) := by decide +kernel
theorem d_Holders_perform_79 : decode m_Holders_perform.2.1 79 = .ok (.getstatic 39, 3) := by decide +kernel
theorem d_Holders_perform_82 : decode m_Holders_perform.2.1 82 = .ok (.aload_n 1, 1) := by decide +kernel
theorem d_Holders_perform_83 : decode m_Holders_perform.2.1 83 = .ok (.iload 6, 2) := by decide +kernel
theorem d_Holders_perform_85 : decode m_Holders_perform.2.1 85 = .ok (.invokevirtual 42, 3) := by decide +kernel
theorem d_Holders_perform_88 : decode m_Holders_perform.2.1 88 = .ok (.iload 6, 2) := by decide +kernel
theorem d_Holders_perform_90 : decode m_Holders_perform.2.1 90 = .ok (.iconst 0, 1) := by decide +kernel
theorem d_Holders_perform_91 : decode m_Holders_perform.2.1 91 = .ok (.invokevirtual 46, 3) := by decide +kernel
theorem d_Holders_perform_94 : decode m_Holders_perform.2.1 94 = .ok (.goto 243, 3) := by decide +kernel
theorem d_Holders_perform_97 : decode m_Holders_perform.2.1 97 = .ok (.aload_n 1, 1) := by decide +kernel
theorem d_Holders_perform_98 : decode m_Holders_perform.2.1 98 = .ok (.aload_n 3, 1) := by decide +kernel
theorem d_Holders_perform_99 : decode m_Holders_perform.2.1 99 = .ok (.getstatic 39, 3) := by decide +kernel
theorem d_Holders_perform_102 : decode m_Holders_perform.2.1 102 = .ok (.invokevirtual 21, 3) := by decide +kernel
theorem d_Holders_perform_105 : decode m_Holders_perform.2.1 105 = .ok (.ifCond .ne 13, 3) := by decide +kernel
theorem d_Holders_perform_108 : decode m_Holders_perform.2.1 108 = .ok (.aload_n 3, 1) := by decide +kernel
theorem d_Holders_perform_109 : decode m_Holders_perform.2.1 109 = .ok (.getstatic 50, 3) := by decide +kernel
theorem d_Holders_perform_112 : decode m_Holders_perform.2.1 112 = .ok (.invokevirtual 21, 3) := by decide +kernel
theorem d_Holders_perform_115 : decode m_Holders_perform.2.1 115 = .ok (.ifCond .eq 7, 3) := by decide +kernel
theorem d_Holders_perform_118 : decode m_Holders_perform.2.1 118 = .ok (.iconst 1, 1) := by decide +kernel
theorem d_Holders_perform_119 : decode m_Holders_perform.2.1 119 = .ok (.goto 4, 3) := by decide +kernel
theorem d_Holders_perform_122 : decode m_Holders_perform.2.1 122 = .ok (.iconst 0, 1) := by decide +kernel
theorem d_Holders_perform_123 : decode m_Holders_perform.2.1 123 = .ok (.invokevirtual 27, 3) := by decide +kernel
theorem d_Holders_perform_126 : decode m_Holders_perform.2.1 126 = .ok (.aload_n 1, 1) := by decide +kernel
theorem d_Holders_perform_127 : decode m_Holders_perform.2.1 127 = .ok (.iconst 1, 1) := by decide +kernel
theorem d_Holders_perform_128 : decode m_Holders_perform.2.1 128 = .ok (.getstatic 15, 3) := by decide +kernel
theorem d_Holders_perform_131 : decode m_Holders_perform.2.1 131 = .ok (.aload_n 3, 1) := by decide +kernel
theorem d_Holders_perform_132 : decode m_Holders_perform.2.1 132 = .ok (.getstatic 39, 3) := by decide +kernel
theorem d_Holders_perform_135 : decode m_Holders_perform.2.1 135 = .ok (.invokevirtual 21, 3) := by decide +kernel
theorem d_Holders_perform_138 : decode m_Holders_perform.2.1 138 = .ok (.ifCond .eq 10, 3) := by decide +kernel
theorem d_Holders_perform_141 : decode m_Holders_perform.2.1 141 = .ok (.aload_n 3, 1) := by decide +kernel
theorem d_Holders_perform_142 : decode m_Holders_perform.2.1 142 = .ok (.getfield 53, 3) := by decide +kernel
theorem d_Holders_perform_145 : decode m_Holders_perform.2.1 145 = .ok (.goto 10, 3) := by decide +kernel
theorem d_Holders_perform_148 : decode m_Holders_perform.2.1 148 = .ok (.aload_n 3, 1) := by decide +kernel
theorem d_Holders_perform_149 : decode m_Holders_perform.2.1 149 = .ok (.getfield 56, 3) := by decide +kernel
theorem d_Holders_perform_152 : decode m_Holders_perform.2.1 152 = .ok (.getfield 60, 3) := by decide +kernel
theorem d_Holders_perform_155 : decode m_Holders_perform.2.1 155 = .ok (.invokevirtual 65, 3) := by decide +kernel
theorem d_Holders_perform_158 : decode m_Holders_perform.2.1 158 = .ok (.goto 179, 3) := by decide +kernel
theorem d_Holders_perform_161 : decode m_Holders_perform.2.1 161 = .ok (.aload_n 1, 1) := by decide +kernel
theorem d_Holders_perform_162 : decode m_Holders_perform.2.1 162 = .ok (.aload_n 3, 1) := by decide +kernel
theorem d_Holders_perform_163 : decode m_Holders_perform.2.1 163 = .ok (.aload 4, 2) := by decide +kernel
theorem d_Holders_perform_165 : decode m_Holders_perform.2.1 165 = .ok (.invokestatic 69, 3) := by decide +kernel
theorem d_Holders_perform_168 : decode m_Holders_perform.2.1 168 = .ok (.goto 169, 3) := by decide +kernel
theorem d_Holders_perform_171 : decode m_Holders_perform.2.1 171 = .ok (.aload_n 1, 1) := by decide +kernel
theorem d_Holders_perform_172 : decode m_Holders_perform.2.1 172 = .ok (.aload_n 3, 1) := by decide +kernel
theorem d_Holders_perform_173 : decode m_Holders_perform.2.1 173 = .ok (.aload 4, 2) := by decide +kernel
theorem d_Holders_perform_175 : decode m_Holders_perform.2.1 175 = .ok (.aload_n 1, 1) := by decide +kernel
theorem d_Holders_perform_176 : decode m_Holders_perform.2.1 176 = .ok (.iconst 0, 1) := by decide +kernel
theorem d_Holders_perform_177 : decode m_Holders_perform.2.1 177 = .ok (.invokevirtual 75, 3) := by decide +kernel
theorem d_Holders_perform_180 : decode m_Holders_perform.2.1 180 = .ok (.invokestatic 79, 3) := by decide +kernel
theorem d_Holders_perform_183 : decode m_Holders_perform.2.1 183 = .ok (.goto 154, 3) := by decide +kernel
theorem d_Holders_perform_186 : decode m_Holders_perform.2.1 186 = .ok (.aload_n 1, 1) := by decide +kernel
theorem d_Holders_perform_187 : decode m_Holders_perform.2.1 187 = .ok (.iconst 0, 1) := by decide +kernel
theorem d_Holders_perform_188 : decode m_Holders_perform.2.1 188 = .ok (.invokevirtual 75, 3) := by decide +kernel
theorem d_Holders_perform_191 : decode m_Holders_perform.2.1 191 = .ok (.astore 7, 2) := by decide +kernel
theorem d_Holders_perform_193 : decode m_Holders_perform.2.1 193 = .ok (.aload_n 1, 1) := by decide +kernel
theorem d_Holders_perform_194 : decode m_Holders_perform.2.1 194 = .ok (.aload_n 3, 1) := by decide +kernel
theorem d_Holders_perform_195 : decode m_Holders_perform.2.1 195 = .ok (.getstatic 39, 3) := by decide +kernel
theorem d_Holders_perform_198 : decode m_Holders_perform.2.1 198 = .ok (.invokevirtual 21, 3) := by decide +kernel
theorem d_Holders_perform_201 : decode m_Holders_perform.2.1 201 = .ok (.ifCond .eq 29, 3) := by decide +kernel
theorem d_Holders_perform_204 : decode m_Holders_perform.2.1 204 = .ok (.aload 4, 2) := by decide +kernel
theorem d_Holders_perform_206 : decode m_Holders_perform.2.1 206 = .ok (.getstatic 15, 3) := by decide +kernel
theorem d_Holders_perform_209 : decode m_Holders_perform.2.1 209 = .ok (.invokevirtual 21, 3) := by decide +kernel
theorem d_Holders_perform_212 : decode m_Holders_perform.2.1 212 = .ok (.ifCond .eq 18, 3) := by decide +kernel
theorem d_Holders_perform_215 : decode m_Holders_perform.2.1 215 = .ok (.aload 7, 2) := by decide +kernel
theorem d_Holders_perform_217 : decode m_Holders_perform.2.1 217 = .ok (.getstatic 15, 3) := by decide +kernel
theorem d_Holders_perform_220 : decode m_Holders_perform.2.1 220 = .ok (.invokevirtual 21, 3) := by decide +kernel
theorem d_Holders_perform_223 : decode m_Holders_perform.2.1 223 = .ok (.ifCond .eq 7, 3) := by decide +kernel
theorem d_Holders_perform_226 : decode m_Holders_perform.2.1 226 = .ok (.iconst 1, 1) := by decide +kernel
theorem d_Holders_perform_227 : decode m_Holders_perform.2.1 227 = .ok (.goto 4, 3) := by decide +kernel
theorem d_Holders_perform_230 : decode m_Holders_perform.2.1 230 = .ok (.iconst 0, 1) := by decide +kernel
theorem d_Holders_perform_231 : decode m_Holders_perform.2.1 231 = .ok (.invokevirtual 27, 3) := by decide +kernel
theorem d_Holders_perform_234 : decode m_Holders_perform.2.1 234 = .ok (.aload_n 1, 1) := by decide +kernel
theorem d_Holders_perform_235 : decode m_Holders_perform.2.1 235 = .ok (.aload 4, 2) := by decide +kernel
theorem d_Holders_perform_237 : decode m_Holders_perform.2.1 237 = .ok (.getfield 31, 3) := by decide +kernel
theorem d_Holders_perform_240 : decode m_Holders_perform.2.1 240 = .ok (.ifCond .lt 37, 3) := by decide +kernel
theorem d_Holders_perform_243 : decode m_Holders_perform.2.1 243 = .ok (.aload 7, 2) := by decide +kernel
theorem d_Holders_perform_245 : decode m_Holders_perform.2.1 245 = .ok (.getfield 31, 3) := by decide +kernel
theorem d_Holders_perform_248 : decode m_Holders_perform.2.1 248 = .ok (.ifCond .lt 29, 3) := by decide +kernel
theorem d_Holders_perform_251 : decode m_Holders_perform.2.1 251 = .ok (.aload 4, 2) := by decide +kernel
theorem d_Holders_perform_253 : decode m_Holders_perform.2.1 253 = .ok (.getfield 31, 3) := by decide +kernel
theorem d_Holders_perform_256 : decode m_Holders_perform.2.1 256 = .ok (.i2l, 1) := by decide +kernel
theorem d_Holders_perform_257 : decode m_Holders_perform.2.1 257 = .ok (.aload 7, 2) := by decide +kernel
theorem d_Holders_perform_259 : decode m_Holders_perform.2.1 259 = .ok (.getfield 31, 3) := by decide +kernel
theorem d_Holders_perform_262 : decode m_Holders_perform.2.1 262 = .ok (.i2l, 1) := by decide +kernel
theorem d_Holders_perform_263 : decode m_Holders_perform.2.1 263 = .ok (.ladd, 1) := by decide +kernel
theorem d_Holders_perform_264 : decode m_Holders_perform.2.1 264 = .ok (.aload_n 3, 1) := by decide +kernel
theorem d_Holders_perform_265 : decode m_Holders_perform.2.1 265 = .ok (.getfield 53, 3) := by decide +kernel
theorem d_Holders_perform_268 : decode m_Holders_perform.2.1 268 = .ok (.i2l, 1) := by decide +kernel
theorem d_Holders_perform_269 : decode m_Holders_perform.2.1 269 = .ok (.lcmp, 1) := by decide +kernel
theorem d_Holders_perform_270 : decode m_Holders_perform.2.1 270 = .ok (.ifCond .gt 7, 3) := by decide +kernel
theorem d_Holders_perform_273 : decode m_Holders_perform.2.1 273 = .ok (.iconst 1, 1) := by decide +kernel
theorem d_Holders_perform_274 : decode m_Holders_perform.2.1 274 = .ok (.goto 4, 3) := by decide +kernel
theorem d_Holders_perform_277 : decode m_Holders_perform.2.1 277 = .ok (.iconst 0, 1) := by decide +kernel
theorem d_Holders_perform_278 : decode m_Holders_perform.2.1 278 = .ok (.iconst 4, 1) := by decide +kernel
theorem d_Holders_perform_279 : decode m_Holders_perform.2.1 279 = .ok (.invokevirtual 35, 3) := by decide +kernel
theorem d_Holders_perform_282 : decode m_Holders_perform.2.1 282 = .ok (.aload_n 1, 1) := by decide +kernel
theorem d_Holders_perform_283 : decode m_Holders_perform.2.1 283 = .ok (.dup, 1) := by decide +kernel
theorem d_Holders_perform_284 : decode m_Holders_perform.2.1 284 = .ok (.getfield 83, 3) := by decide +kernel
theorem d_Holders_perform_287 : decode m_Holders_perform.2.1 287 = .ok (.iconst 2, 1) := by decide +kernel
theorem d_Holders_perform_288 : decode m_Holders_perform.2.1 288 = .ok (.isub, 1) := by decide +kernel
theorem d_Holders_perform_289 : decode m_Holders_perform.2.1 289 = .ok (.putfield 83, 3) := by decide +kernel
theorem d_Holders_perform_292 : decode m_Holders_perform.2.1 292 = .ok (.aload_n 3, 1) := by decide +kernel
theorem d_Holders_perform_293 : decode m_Holders_perform.2.1 293 = .ok (.getstatic 39, 3) := by decide +kernel
theorem d_Holders_perform_296 : decode m_Holders_perform.2.1 296 = .ok (.aload_n 3, 1) := by decide +kernel
theorem d_Holders_perform_297 : decode m_Holders_perform.2.1 297 = .ok (.getfield 31, 3) := by decide +kernel
theorem d_Holders_perform_300 : decode m_Holders_perform.2.1 300 = .ok (.aload 4, 2) := by decide +kernel
theorem d_Holders_perform_302 : decode m_Holders_perform.2.1 302 = .ok (.getfield 31, 3) := by decide +kernel
theorem d_Holders_perform_305 : decode m_Holders_perform.2.1 305 = .ok (.iadd, 1) := by decide +kernel
theorem d_Holders_perform_306 : decode m_Holders_perform.2.1 306 = .ok (.aload 7, 2) := by decide +kernel
theorem d_Holders_perform_308 : decode m_Holders_perform.2.1 308 = .ok (.getfield 31, 3) := by decide +kernel
theorem d_Holders_perform_311 : decode m_Holders_perform.2.1 311 = .ok (.aload_n 3, 1) := by decide +kernel
theorem d_Holders_perform_312 : decode m_Holders_perform.2.1 312 = .ok (.getfield 86, 3) := by decide +kernel
theorem d_Holders_perform_315 : decode m_Holders_perform.2.1 315 = .ok (.invokevirtual 46, 3) := by decide +kernel
theorem d_Holders_perform_318 : decode m_Holders_perform.2.1 318 = .ok (.goto 19, 3) := by decide +kernel
theorem d_Holders_perform_321 : decode m_Holders_perform.2.1 321 = .ok (.aload_n 1, 1) := by decide +kernel
theorem d_Holders_perform_322 : decode m_Holders_perform.2.1 322 = .ok (.aload_n 3, 1) := by decide +kernel
theorem d_Holders_perform_323 : decode m_Holders_perform.2.1 323 = .ok (.invokestatic 90, 3) := by decide +kernel
theorem d_Holders_perform_326 : decode m_Holders_perform.2.1 326 = .ok (.goto 11, 3) := by decide +kernel
theorem d_Holders_perform_329 : decode m_Holders_perform.2.1 329 = .ok (.aload_n 1, 1) := by decide +kernel
theorem d_Holders_perform_330 : decode m_Holders_perform.2.1 330 = .ok (.aload_n 2, 1) := by decide +kernel
theorem d_Holders_perform_331 : decode m_Holders_perform.2.1 331 = .ok (.aload_n 3, 1) := by decide +kernel
theorem d_Holders_perform_332 : decode m_Holders_perform.2.1 332 = .ok (.aload 4, 2) := by decide +kernel
theorem d_Holders_perform_334 : decode m_Holders_perform.2.1 334 = .ok (.invokestatic 94, 3) := by decide +kernel
theorem d_Holders_perform_337 : decode m_Holders_perform.2.1 337 = .ok (.return_, 1) := by decide +kernel
theorem d_Math_floorMod_0 : decode m_Math_floorMod.2.1 0 = .ok (.iload_n 0, 1) := by decide +kernel
theorem d_Math_floorMod_1 : decode m_Math_floorMod.2.1 1 = .ok (.iload_n 1, 1) := by decide +kernel
theorem d_Math_floorMod_2 : decode m_Math_floorMod.2.1 2 = .ok (.irem, 1) := by decide +kernel
theorem d_Math_floorMod_3 : decode m_Math_floorMod.2.1 3 = .ok (.istore_n 2, 1) := by decide +kernel
theorem d_Math_floorMod_4 : decode m_Math_floorMod.2.1 4 = .ok (.iload_n 0, 1) := by decide +kernel
theorem d_Math_floorMod_5 : decode m_Math_floorMod.2.1 5 = .ok (.iload_n 1, 1) := by decide +kernel
theorem d_Math_floorMod_6 : decode m_Math_floorMod.2.1 6 = .ok (.ixor, 1) := by decide +kernel
theorem d_Math_floorMod_7 : decode m_Math_floorMod.2.1 7 = .ok (.ifCond .ge 11, 3) := by decide +kernel
theorem d_Math_floorMod_10 : decode m_Math_floorMod.2.1 10 = .ok (.iload_n 2, 1) := by decide +kernel
theorem d_Math_floorMod_11 : decode m_Math_floorMod.2.1 11 = .ok (.ifCond .eq 7, 3) := by decide +kernel
theorem d_Math_floorMod_14 : decode m_Math_floorMod.2.1 14 = .ok (.iload_n 2, 1) := by decide +kernel
theorem d_Math_floorMod_15 : decode m_Math_floorMod.2.1 15 = .ok (.iload_n 1, 1) := by decide +kernel
theorem d_Math_floorMod_16 : decode m_Math_floorMod.2.1 16 = .ok (.iadd, 1) := by decide +kernel
theorem d_Math_floorMod_17 : decode m_Math_floorMod.2.1 17 = .ok (.ireturn, 1) := by decide +kernel
theorem d_Math_floorMod_18 : decode m_Math_floorMod.2.1 18 = .ok (.iload_n 2, 1) := by decide +kernel
theorem d_Math_floorMod_19 : decode m_Math_floorMod.2.1 19 = .ok (.ireturn, 1) := by decide +kernel
theorem d_Name_init_0 : decode m_Name_init.2.1 0 = .ok (.aload_n 0, 1) := by decide +kernel
theorem d_Name_init_1 : decode m_Name_init.2.1 1 = .ok (.invokespecial 1, 3) := by decide +kernel
theorem d_Name_init_4 : decode m_Name_init.2.1 4 = .ok (.aload_n 0, 1) := by decide +kernel
theorem d_Name_init_5 : decode m_Name_init.2.1 5 = .ok (.aload_n 1, 1) := by decide +kernel
theorem d_Name_init_6 : decode m_Name_init.2.1 6 = .ok (.putfield 7, 3) := by decide +kernel
theorem d_Name_init_9 : decode m_Name_init.2.1 9 = .ok (.aload_n 0, 1) := by decide +kernel
theorem d_Name_init_10 : decode m_Name_init.2.1 10 = .ok (.aload_n 2, 1) := by decide +kernel
theorem d_Name_init_11 : decode m_Name_init.2.1 11 = .ok (.putfield 13, 3) := by decide +kernel
theorem d_Name_init_14 : decode m_Name_init.2.1 14 = .ok (.aload_n 0, 1) := by decide +kernel
theorem d_Name_init_15 : decode m_Name_init.2.1 15 = .ok (.aload_n 3, 1) := by decide +kernel
theorem d_Name_init_16 : decode m_Name_init.2.1 16 = .ok (.putfield 17, 3) := by decide +kernel
theorem d_Name_init_19 : decode m_Name_init.2.1 19 = .ok (.return_, 1) := by decide +kernel
theorem d_StringBuilder_length_0 : decode m_StringBuilder_length.2.1 0 = .ok (.aload_n 0, 1) := by decide +kernel
theorem d_StringBuilder_length_1 : decode m_StringBuilder_length.2.1 1 = .ok (.invokespecial 343, 3) := by decide +kernel
theorem d_StringBuilder_length_4 : decode m_StringBuilder_length.2.1 4 = .ok (.ireturn, 1) := by decide +kernel
theorem d_String_coder_0 : decode m_String_coder.2.1 0 = .ok (.getstatic 38, 3) := by decide +kernel
theorem d_String_coder_3 : decode m_String_coder.2.1 3 = .ok (.ifCond .eq 10, 3) := by decide +kernel
theorem d_String_coder_6 : decode m_String_coder.2.1 6 = .ok (.aload_n 0, 1) := by decide +kernel
theorem d_String_coder_7 : decode m_String_coder.2.1 7 = .ok (.getfield 15, 3) := by decide +kernel
theorem d_String_coder_10 : decode m_String_coder.2.1 10 = .ok (.goto 4, 3) := by decide +kernel
theorem d_String_coder_13 : decode m_String_coder.2.1 13 = .ok (.iconst 1, 1) := by decide +kernel
theorem d_String_coder_14 : decode m_String_coder.2.1 14 = .ok (.ireturn, 1) := by decide +kernel
theorem d_String_length_0 : decode m_String_length.2.1 0 = .ok (.aload_n 0, 1) := by decide +kernel
theorem d_String_length_1 : decode m_String_length.2.1 1 = .ok (.getfield 9, 3) := by decide +kernel
theorem d_String_length_4 : decode m_String_length.2.1 4 = .ok (.arraylength, 1) := by decide +kernel
theorem d_String_length_5 : decode m_String_length.2.1 5 = .ok (.aload_n 0, 1) := by decide +kernel
theorem d_String_length_6 : decode m_String_length.2.1 6 = .ok (.invokevirtual 335, 3) := by decide +kernel
theorem d_String_length_9 : decode m_String_length.2.1 9 = .ok (.ishr, 1) := by decide +kernel
theorem d_String_length_10 : decode m_String_length.2.1 10 = .ok (.ireturn, 1) := by decide +kernel
theorem d_StringBuilder_charAt_0 : decode m_StringBuilder_charAt.2.1 0 = .ok (.aload_n 0, 1) := by decide +kernel
theorem d_StringBuilder_charAt_1 : decode m_StringBuilder_charAt.2.1 1 = .ok (.iload_n 1, 1) := by decide +kernel
theorem d_StringBuilder_charAt_2 : decode m_StringBuilder_charAt.2.1 2 = .ok (.invokespecial 329, 3) := by decide +kernel
theorem d_StringBuilder_charAt_5 : decode m_StringBuilder_charAt.2.1 5 = .ok (.ireturn, 1) := by decide +kernel
theorem d_String_isLatin1_0 : decode m_String_isLatin1.2.1 0 = .ok (.getstatic 38, 3) := by decide +kernel
theorem d_String_isLatin1_3 : decode m_String_isLatin1.2.1 3 = .ok (.ifCond .eq 14, 3) := by decide +kernel
theorem d_String_isLatin1_6 : decode m_String_isLatin1.2.1 6 = .ok (.aload_n 0, 1) := by decide +kernel
theorem d_String_isLatin1_7 : decode m_String_isLatin1.2.1 7 = .ok (.getfield 15, 3) := by decide +kernel
theorem d_String_isLatin1_10 : decode m_String_isLatin1.2.1 10 = .ok (.ifCond .ne 7, 3) := by decide +kernel
theorem d_String_isLatin1_13 : decode m_String_isLatin1.2.1 13 = .ok (.iconst 1, 1) := by decide +kernel
theorem d_String_isLatin1_14 : decode m_String_isLatin1.2.1 14 = .ok (.goto 4, 3) := by decide +kernel
theorem d_String_isLatin1_17 : decode m_String_isLatin1.2.1 17 = .ok (.iconst 0, 1) := by decide +kernel
theorem d_String_isLatin1_18 : decode m_String_isLatin1.2.1 18 = .ok (.ireturn, 1) := by decide +kernel
theorem d_StringLatin1_charAt_0 : decode m_StringLatin1_charAt.2.1 0 = .ok (.iload_n 1, 1) := by decide +kernel
theorem d_StringLatin1_charAt_1 : decode m_StringLatin1_charAt.2.1 1 = .ok (.aload_n 0, 1) := by decide +kernel
theorem d_StringLatin1_charAt_2 : decode m_StringLatin1_charAt.2.1 2 = .ok (.arraylength, 1) := by decide +kernel
theorem d_StringLatin1_charAt_3 : decode m_StringLatin1_charAt.2.1 3 = .ok (.invokestatic 9, 3) := by decide +kernel
theorem d_StringLatin1_charAt_6 : decode m_StringLatin1_charAt.2.1 6 = .ok (.aload_n 0, 1) := by decide +kernel
theorem d_StringLatin1_charAt_7 : decode m_StringLatin1_charAt.2.1 7 = .ok (.iload_n 1, 1) := by decide +kernel
theorem d_StringLatin1_charAt_8 : decode m_StringLatin1_charAt.2.1 8 = .ok (.baload, 1) := by decide +kernel
theorem d_StringLatin1_charAt_9 : decode m_StringLatin1_charAt.2.1 9 = .ok (.sipush 255, 3) := by decide +kernel
theorem d_StringLatin1_charAt_12 : decode m_StringLatin1_charAt.2.1 12 = .ok (.iand, 1) := by decide +kernel
theorem d_StringLatin1_charAt_13 : decode m_StringLatin1_charAt.2.1 13 = .ok (.i2c, 1) := by decide +kernel
theorem d_StringLatin1_charAt_14 : decode m_StringLatin1_charAt.2.1 14 = .ok (.ireturn, 1) := by decide +kernel
theorem d_String_charAt_0 : decode m_String_charAt.2.1 0 = .ok (.aload_n 0, 1) := by decide +kernel
theorem d_String_charAt_1 : decode m_String_charAt.2.1 1 = .ok (.invokevirtual 492, 3) := by decide +kernel
theorem d_String_charAt_4 : decode m_String_charAt.2.1 4 = .ok (.ifCond .eq 12, 3) := by decide +kernel
theorem d_String_charAt_7 : decode m_String_charAt.2.1 7 = .ok (.aload_n 0, 1) := by decide +kernel
theorem d_String_charAt_8 : decode m_String_charAt.2.1 8 = .ok (.getfield 9, 3) := by decide +kernel
theorem d_String_charAt_11 : decode m_String_charAt.2.1 11 = .ok (.iload_n 1, 1) := by decide +kernel
theorem d_String_charAt_12 : decode m_String_charAt.2.1 12 = .ok (.invokestatic 495, 3) := by decide +kernel
theorem d_String_charAt_15 : decode m_String_charAt.2.1 15 = .ok (.ireturn, 1) := by decide +kernel
theorem d_String_charAt_16 : decode m_String_charAt.2.1 16 = .ok (.aload_n 0, 1) := by decide +kernel
theorem d_String_charAt_17 : decode m_String_charAt.2.1 17 = .ok (.getfield 9, 3) := by decide +kernel
theorem d_String_charAt_20 : decode m_String_charAt.2.1 20 = .ok (.iload_n 1, 1) := by decide +kernel
theorem d_String_charAt_21 : decode m_String_charAt.2.1 21 = .ok (.invokestatic 498, 3) := by decide +kernel
theorem d_Name_is_0 : decode m_Name_is.2.1 0 = .ok (.aload_n 1, 1) := by decide +kernel
theorem d_Name_is_1 : decode m_Name_is.2.1 1 = .ok (.invokevirtual 21, 3) := by decide +kernel
theorem d_Name_is_4 : decode m_Name_is.2.1 4 = .ok (.aload_n 0, 1) := by decide +kernel
theorem d_Name_is_5 : decode m_Name_is.2.1 5 = .ok (.getfield 7, 3) := by decide +kernel
theorem d_Name_is_8 : decode m_Name_is.2.1 8 = .ok (.invokevirtual 27, 3) := by decide +kernel
theorem d_Name_is_11 : decode m_Name_is.2.1 11 = .ok (.if_icmp .ne 7, 3) := by decide +kernel
theorem d_Name_is_14 : decode m_Name_is.2.1 14 = .ok (.iconst 1, 1) := by decide +kernel
theorem d_Name_is_15 : decode m_Name_is.2.1 15 = .ok (.goto 4, 3) := by decide +kernel
theorem d_Name_is_18 : decode m_Name_is.2.1 18 = .ok (.iconst 0, 1) := by decide +kernel
theorem d_Name_is_19 : decode m_Name_is.2.1 19 = .ok (.istore_n 2, 1) := by decide +kernel
theorem d_Name_is_20 : decode m_Name_is.2.1 20 = .ok (.iconst 0, 1) := by decide +kernel
theorem d_Name_is_21 : decode m_Name_is.2.1 21 = .ok (.istore_n 3, 1) := by decide +kernel
theorem d_Name_is_22 : decode m_Name_is.2.1 22 = .ok (.iload_n 2, 1) := by decide +kernel
theorem d_Name_is_23 : decode m_Name_is.2.1 23 = .ok (.ifCond .eq 42, 3) := by decide +kernel
theorem d_Name_is_26 : decode m_Name_is.2.1 26 = .ok (.iload_n 3, 1) := by decide +kernel
theorem d_Name_is_27 : decode m_Name_is.2.1 27 = .ok (.aload_n 0, 1) := by decide +kernel
theorem d_Name_is_28 : decode m_Name_is.2.1 28 = .ok (.getfield 7, 3) := by decide +kernel
theorem d_Name_is_31 : decode m_Name_is.2.1 31 = .ok (.invokevirtual 27, 3) := by decide +kernel
theorem d_Name_is_34 : decode m_Name_is.2.1 34 = .ok (.if_icmp .ge 31, 3) := by decide +kernel
theorem d_Name_is_37 : decode m_Name_is.2.1 37 = .ok (.aload_n 1, 1) := by decide +kernel
theorem d_Name_is_38 : decode m_Name_is.2.1 38 = .ok (.iload_n 3, 1) := by decide +kernel
theorem d_Name_is_39 : decode m_Name_is.2.1 39 = .ok (.invokevirtual 30, 3) := by decide +kernel
theorem d_Name_is_42 : decode m_Name_is.2.1 42 = .ok (.aload_n 0, 1) := by decide +kernel
theorem d_Name_is_43 : decode m_Name_is.2.1 43 = .ok (.getfield 7, 3) := by decide +kernel
theorem d_Name_is_46 : decode m_Name_is.2.1 46 = .ok (.iload_n 3, 1) := by decide +kernel
theorem d_Name_is_47 : decode m_Name_is.2.1 47 = .ok (.invokevirtual 34, 3) := by decide +kernel
theorem d_Name_is_50 : decode m_Name_is.2.1 50 = .ok (.if_icmp .ne 7, 3) := by decide +kernel
theorem d_Name_is_53 : decode m_Name_is.2.1 53 = .ok (.iconst 1, 1) := by decide +kernel
theorem d_Name_is_54 : decode m_Name_is.2.1 54 = .ok (.goto 4, 3) := by decide +kernel
theorem d_Name_is_57 : decode m_Name_is.2.1 57 = .ok (.iconst 0, 1) := by decide +kernel
theorem d_Name_is_58 : decode m_Name_is.2.1 58 = .ok (.istore_n 2, 1) := by decide +kernel
theorem d_Name_is_59 : decode m_Name_is.2.1 59 = .ok (.iinc 3 1, 3) := by decide +kernel
theorem d_Name_is_62 : decode m_Name_is.2.1 62 = .ok (.goto (-40), 3) := by decide +kernel
theorem d_Name_is_65 : decode m_Name_is.2.1 65 = .ok (.iload_n 2, 1) := by decide +kernel
theorem d_Name_is_66 : decode m_Name_is.2.1 66 = .ok (.ireturn, 1) := by decide +kernel
theorem d_Name_next_0 : decode m_Name_next.2.1 0 = .ok (.aload_n 0, 1) := by decide +kernel
theorem d_Name_next_1 : decode m_Name_next.2.1 1 = .ok (.getfield 17, 3) := by decide +kernel
theorem d_Name_next_4 : decode m_Name_next.2.1 4 = .ok (.areturn, 1) := by decide +kernel
theorem d_Name_op_0 : decode m_Name_op.2.1 0 = .ok (.aload_n 0, 1) := by decide +kernel
theorem d_Name_op_1 : decode m_Name_op.2.1 1 = .ok (.getfield 13, 3) := by decide +kernel
theorem d_Name_op_4 : decode m_Name_op.2.1 4 = .ok (.areturn, 1) := by decide +kernel
theorem d_Name_text_0 : decode m_Name_text.2.1 0 = .ok (.aload_n 0, 1) := by decide +kernel
theorem d_Name_text_1 : decode m_Name_text.2.1 1 = .ok (.getfield 7, 3) := by decide +kernel
theorem d_Name_text_4 : decode m_Name_text.2.1 4 = .ok (.areturn, 1) := by decide +kernel
theorem d_Numbers_exact_0 : decode m_Numbers_exact.2.1 0 = .ok (.aload_n 0, 1) := by decide +kernel
theorem d_Numbers_exact_1 : decode m_Numbers_exact.2.1 1 = .ok (.getstatic 86, 3) := by decide +kernel
theorem d_Numbers_exact_4 : decode m_Numbers_exact.2.1 4 = .ok (.if_acmp .ne 9, 3) := by decide +kernel
theorem d_Numbers_exact_7 : decode m_Numbers_exact.2.1 7 = .ok (.lload_n 1, 1) := by decide +kernel
theorem d_Numbers_exact_8 : decode m_Numbers_exact.2.1 8 = .ok (.lload_n 3, 1) := by decide +kernel
theorem d_Numbers_exact_9 : decode m_Numbers_exact.2.1 9 = .ok (.ladd, 1) := by decide +kernel
theorem d_Numbers_exact_10 : decode m_Numbers_exact.2.1 10 = .ok (.goto 42, 3) := by decide +kernel
theorem d_Numbers_exact_13 : decode m_Numbers_exact.2.1 13 = .ok (.aload_n 0, 1) := by decide +kernel
theorem d_Numbers_exact_14 : decode m_Numbers_exact.2.1 14 = .ok (.getstatic 89, 3) := by decide +kernel
theorem d_Numbers_exact_17 : decode m_Numbers_exact.2.1 17 = .ok (.if_acmp .ne 9, 3) := by decide +kernel
theorem d_Numbers_exact_20 : decode m_Numbers_exact.2.1 20 = .ok (.lload_n 1, 1) := by decide +kernel
theorem d_Numbers_exact_21 : decode m_Numbers_exact.2.1 21 = .ok (.lload_n 3, 1) := by decide +kernel
theorem d_Numbers_exact_22 : decode m_Numbers_exact.2.1 22 = .ok (.lsub, 1) := by decide +kernel
theorem d_Numbers_exact_23 : decode m_Numbers_exact.2.1 23 = .ok (.goto 29, 3) := by decide +kernel
theorem d_Numbers_exact_26 : decode m_Numbers_exact.2.1 26 = .ok (.aload_n 0, 1) := by decide +kernel
theorem d_Numbers_exact_27 : decode m_Numbers_exact.2.1 27 = .ok (.getstatic 92, 3) := by decide +kernel
theorem d_Numbers_exact_30 : decode m_Numbers_exact.2.1 30 = .ok (.if_acmp .ne 9, 3) := by decide +kernel
theorem d_Numbers_exact_33 : decode m_Numbers_exact.2.1 33 = .ok (.lload_n 1, 1) := by decide +kernel
theorem d_Numbers_exact_34 : decode m_Numbers_exact.2.1 34 = .ok (.lload_n 3, 1) := by decide +kernel
theorem d_Numbers_exact_35 : decode m_Numbers_exact.2.1 35 = .ok (.lmul, 1) := by decide +kernel
theorem d_Numbers_exact_36 : decode m_Numbers_exact.2.1 36 = .ok (.goto 16, 3) := by decide +kernel
theorem d_Numbers_exact_39 : decode m_Numbers_exact.2.1 39 = .ok (.aload_n 0, 1) := by decide +kernel
theorem d_Numbers_exact_40 : decode m_Numbers_exact.2.1 40 = .ok (.getstatic 95, 3) := by decide +kernel
theorem d_Numbers_exact_43 : decode m_Numbers_exact.2.1 43 = .ok (.if_acmp .ne 8, 3) := by decide +kernel
theorem d_Numbers_exact_46 : decode m_Numbers_exact.2.1 46 = .ok (.lload_n 1, 1) := by decide +kernel
theorem d_Numbers_exact_47 : decode m_Numbers_exact.2.1 47 = .ok (.lneg, 1) := by decide +kernel
theorem d_Numbers_exact_48 : decode m_Numbers_exact.2.1 48 = .ok (.goto 4, 3) := by decide +kernel
theorem d_Numbers_exact_51 : decode m_Numbers_exact.2.1 51 = .ok (.lload_n 1, 1) := by decide +kernel
theorem d_Numbers_exact_52 : decode m_Numbers_exact.2.1 52 = .ok (.lreturn, 1) := by decide +kernel
theorem d_Numbers_init_0 : decode m_Numbers_init.2.1 0 = .ok (.aload_n 0, 1) := by decide +kernel
theorem d_Numbers_init_1 : decode m_Numbers_init.2.1 1 = .ok (.invokespecial 3, 3) := by decide +kernel
theorem d_Numbers_init_4 : decode m_Numbers_init.2.1 4 = .ok (.return_, 1) := by decide +kernel
theorem d_Slot_isNumber_0 : decode m_Slot_isNumber.2.1 0 = .ok (.aload_n 0, 1) := by decide +kernel
theorem d_Slot_isNumber_1 : decode m_Slot_isNumber.2.1 1 = .ok (.getfield 13, 3) := by decide +kernel
theorem d_Slot_isNumber_4 : decode m_Slot_isNumber.2.1 4 = .ok (.getstatic 7, 3) := by decide +kernel
theorem d_Slot_isNumber_7 : decode m_Slot_isNumber.2.1 7 = .ok (.if_acmp .eq 13, 3) := by decide +kernel
theorem d_Slot_isNumber_10 : decode m_Slot_isNumber.2.1 10 = .ok (.aload_n 0, 1) := by decide +kernel
theorem d_Slot_isNumber_11 : decode m_Slot_isNumber.2.1 11 = .ok (.getfield 13, 3) := by decide +kernel
theorem d_Slot_isNumber_14 : decode m_Slot_isNumber.2.1 14 = .ok (.getstatic 29, 3) := by decide +kernel
theorem d_Slot_isNumber_17 : decode m_Slot_isNumber.2.1 17 = .ok (.if_acmp .ne 7, 3) := by decide +kernel
theorem d_Slot_isNumber_20 : decode m_Slot_isNumber.2.1 20 = .ok (.iconst 1, 1) := by decide +kernel
theorem d_Slot_isNumber_21 : decode m_Slot_isNumber.2.1 21 = .ok (.goto 4, 3) := by decide +kernel
theorem d_Slot_isNumber_24 : decode m_Slot_isNumber.2.1 24 = .ok (.iconst 0, 1) := by decide +kernel
theorem d_Slot_isNumber_25 : decode m_Slot_isNumber.2.1 25 = .ok (.ireturn, 1) := by decide +kernel
theorem d_Slot_value_0 : decode m_Slot_value.2.1 0 = .ok (.aload_n 0, 1) := by decide +kernel
theorem d_Slot_value_1 : decode m_Slot_value.2.1 1 = .ok (.getfield 13, 3) := by decide +kernel
theorem d_Slot_value_4 : decode m_Slot_value.2.1 4 = .ok (.getstatic 7, 3) := by decide +kernel
theorem d_Slot_value_7 : decode m_Slot_value.2.1 7 = .ok (.if_acmp .ne 11, 3) := by decide +kernel
theorem d_Slot_value_10 : decode m_Slot_value.2.1 10 = .ok (.aload_n 0, 1) := by decide +kernel
theorem d_Slot_value_11 : decode m_Slot_value.2.1 11 = .ok (.getfield 18, 3) := by decide +kernel
theorem d_Slot_value_14 : decode m_Slot_value.2.1 14 = .ok (.i2d, 1) := by decide +kernel
theorem d_Slot_value_15 : decode m_Slot_value.2.1 15 = .ok (.goto 7, 3) := by decide +kernel
theorem d_Slot_value_18 : decode m_Slot_value.2.1 18 = .ok (.aload_n 0, 1) := by decide +kernel
theorem d_Slot_value_19 : decode m_Slot_value.2.1 19 = .ok (.getfield 36, 3) := by decide +kernel
theorem d_Slot_value_22 : decode m_Slot_value.2.1 22 = .ok (.dreturn, 1) := by decide +kernel
theorem d_Slot_makeReal_0 : decode m_Slot_makeReal.2.1 0 = .ok (.aload_n 0, 1) := by decide +kernel
theorem d_Slot_makeReal_1 : decode m_Slot_makeReal.2.1 1 = .ok (.getstatic 29, 3) := by decide +kernel
theorem d_Slot_makeReal_4 : decode m_Slot_makeReal.2.1 4 = .ok (.iconst 0, 1) := by decide +kernel
theorem d_Slot_makeReal_5 : decode m_Slot_makeReal.2.1 5 = .ok (.iconst 0, 1) := by decide +kernel
theorem d_Slot_makeReal_6 : decode m_Slot_makeReal.2.1 6 = .ok (.iconst 0, 1) := by decide +kernel
theorem d_Slot_makeReal_7 : decode m_Slot_makeReal.2.1 7 = .ok (.invokevirtual 32, 3) := by decide +kernel
theorem d_Slot_makeReal_10 : decode m_Slot_makeReal.2.1 10 = .ok (.aload_n 0, 1) := by decide +kernel
theorem d_Slot_makeReal_11 : decode m_Slot_makeReal.2.1 11 = .ok (.dload_n 1, 1) := by decide +kernel
theorem d_Slot_makeReal_12 : decode m_Slot_makeReal.2.1 12 = .ok (.putfield 36, 3) := by decide +kernel
theorem d_Slot_makeReal_15 : decode m_Slot_makeReal.2.1 15 = .ok (.return_, 1) := by decide +kernel
theorem d_P_giveReal_0 : decode m_P_giveReal.2.1 0 = .ok (.aload_n 0, 1) := by decide +kernel
theorem d_P_giveReal_1 : decode m_P_giveReal.2.1 1 = .ok (.dload_n 2, 1) := by decide +kernel
theorem d_P_giveReal_2 : decode m_P_giveReal.2.1 2 = .ok (.ldc2_w 213, 3) := by decide +kernel
theorem d_P_giveReal_5 : decode m_P_giveReal.2.1 5 = .ok (.dcmp .g, 1) := by decide +kernel
theorem d_P_giveReal_6 : decode m_P_giveReal.2.1 6 = .ok (.ifCond .gt 15, 3) := by decide +kernel
theorem d_P_giveReal_9 : decode m_P_giveReal.2.1 9 = .ok (.dload_n 2, 1) := by decide +kernel
theorem d_P_giveReal_10 : decode m_P_giveReal.2.1 10 = .ok (.ldc2_w 215, 3) := by decide +kernel
theorem d_P_giveReal_13 : decode m_P_giveReal.2.1 13 = .ok (.dcmp .l, 1) := by decide +kernel
theorem d_P_giveReal_14 : decode m_P_giveReal.2.1 14 = .ok (.ifCond .lt 7, 3) := by decide +kernel
theorem d_P_giveReal_17 : decode m_P_giveReal.2.1 17 = .ok (.iconst 1, 1) := by decide +kernel
theorem d_P_giveReal_18 : decode m_P_giveReal.2.1 18 = .ok (.goto 4, 3) := by decide +kernel
theorem d_P_giveReal_21 : decode m_P_giveReal.2.1 21 = .ok (.iconst 0, 1) := by decide +kernel
theorem d_P_giveReal_22 : decode m_P_giveReal.2.1 22 = .ok (.iconst 4, 1) := by decide +kernel
theorem d_P_giveReal_23 : decode m_P_giveReal.2.1 23 = .ok (.invokevirtual 170, 3) := by decide +kernel
theorem d_P_giveReal_26 : decode m_P_giveReal.2.1 26 = .ok (.aload_n 0, 1) := by decide +kernel
theorem d_P_giveReal_27 : decode m_P_giveReal.2.1 27 = .ok (.iload_n 1, 1) := by decide +kernel
theorem d_P_giveReal_28 : decode m_P_giveReal.2.1 28 = .ok (.invokevirtual 178, 3) := by decide +kernel
theorem d_P_giveReal_31 : decode m_P_giveReal.2.1 31 = .ok (.dload_n 2, 1) := by decide +kernel
theorem d_P_giveReal_32 : decode m_P_giveReal.2.1 32 = .ok (.invokevirtual 217, 3) := by decide +kernel
theorem d_P_giveReal_35 : decode m_P_giveReal.2.1 35 = .ok (.return_, 1) := by decide +kernel
theorem d_P_whole_0 : decode m_P_whole.2.1 0 = .ok (.lload_n 2, 1) := by decide +kernel
theorem d_P_whole_1 : decode m_P_whole.2.1 1 = .ok (.l2i, 1) := by decide +kernel
theorem d_P_whole_2 : decode m_P_whole.2.1 2 = .ok (.i2l, 1) := by decide +kernel
theorem d_P_whole_3 : decode m_P_whole.2.1 3 = .ok (.lload_n 2, 1) := by decide +kernel
theorem d_P_whole_4 : decode m_P_whole.2.1 4 = .ok (.lcmp, 1) := by decide +kernel
theorem d_P_whole_5 : decode m_P_whole.2.1 5 = .ok (.ifCond .ne 16, 3) := by decide +kernel
theorem d_P_whole_8 : decode m_P_whole.2.1 8 = .ok (.aload_n 0, 1) := by decide +kernel
theorem d_P_whole_9 : decode m_P_whole.2.1 9 = .ok (.iload_n 1, 1) := by decide +kernel
theorem d_P_whole_10 : decode m_P_whole.2.1 10 = .ok (.getstatic 221, 3) := by decide +kernel
theorem d_P_whole_13 : decode m_P_whole.2.1 13 = .ok (.lload_n 2, 1) := by decide +kernel
theorem d_P_whole_14 : decode m_P_whole.2.1 14 = .ok (.l2i, 1) := by decide +kernel
theorem d_P_whole_15 : decode m_P_whole.2.1 15 = .ok (.invokevirtual 199, 3) := by decide +kernel
theorem d_P_whole_18 : decode m_P_whole.2.1 18 = .ok (.goto 10, 3) := by decide +kernel
theorem d_P_whole_21 : decode m_P_whole.2.1 21 = .ok (.aload_n 0, 1) := by decide +kernel
theorem d_P_whole_22 : decode m_P_whole.2.1 22 = .ok (.iload_n 1, 1) := by decide +kernel
theorem d_P_whole_23 : decode m_P_whole.2.1 23 = .ok (.lload_n 2, 1) := by decide +kernel
theorem d_P_whole_24 : decode m_P_whole.2.1 24 = .ok (.l2d, 1) := by decide +kernel
theorem d_P_whole_25 : decode m_P_whole.2.1 25 = .ok (.invokevirtual 224, 3) := by decide +kernel
theorem d_P_whole_28 : decode m_P_whole.2.1 28 = .ok (.return_, 1) := by decide +kernel
theorem d_Numbers_worked_0 : decode m_Numbers_worked.2.1 0 = .ok (.aload_n 0, 1) := by decide +kernel
theorem d_Numbers_worked_1 : decode m_Numbers_worked.2.1 1 = .ok (.getstatic 98, 3) := by decide +kernel
theorem d_Numbers_worked_4 : decode m_Numbers_worked.2.1 4 = .ok (.if_acmp .ne 11, 3) := by decide +kernel
theorem d_Numbers_worked_7 : decode m_Numbers_worked.2.1 7 = .ok (.dload_n 1, 1) := by decide +kernel
theorem d_Numbers_worked_8 : decode m_Numbers_worked.2.1 8 = .ok (.ldc2_w 101, 3) := by decide +kernel
theorem d_Numbers_worked_11 : decode m_Numbers_worked.2.1 11 = .ok (.dadd, 1) := by decide +kernel
theorem d_Numbers_worked_12 : decode m_Numbers_worked.2.1 12 = .ok (.goto 4, 3) := by decide +kernel
theorem d_Numbers_worked_15 : decode m_Numbers_worked.2.1 15 = .ok (.dload_n 1, 1) := by decide +kernel
theorem d_Numbers_worked_16 : decode m_Numbers_worked.2.1 16 = .ok (.dstore 5, 2) := by decide +kernel
theorem d_Numbers_worked_18 : decode m_Numbers_worked.2.1 18 = .ok (.dload 5, 2) := by decide +kernel
theorem d_Numbers_worked_20 : decode m_Numbers_worked.2.1 20 = .ok (.d2l, 1) := by decide +kernel
theorem d_Numbers_worked_21 : decode m_Numbers_worked.2.1 21 = .ok (.l2d, 1) := by decide +kernel
theorem d_Numbers_worked_22 : decode m_Numbers_worked.2.1 22 = .ok (.dstore 7, 2) := by decide +kernel
theorem d_Numbers_worked_24 : decode m_Numbers_worked.2.1 24 = .ok (.aload_n 0, 1) := by decide +kernel
theorem d_Numbers_worked_25 : decode m_Numbers_worked.2.1 25 = .ok (.getstatic 86, 3) := by decide +kernel
theorem d_Numbers_worked_28 : decode m_Numbers_worked.2.1 28 = .ok (.if_acmp .ne 9, 3) := by decide +kernel
theorem d_Numbers_worked_31 : decode m_Numbers_worked.2.1 31 = .ok (.dload_n 1, 1) := by decide +kernel
theorem d_Numbers_worked_32 : decode m_Numbers_worked.2.1 32 = .ok (.dload_n 3, 1) := by decide +kernel
theorem d_Numbers_worked_33 : decode m_Numbers_worked.2.1 33 = .ok (.dadd, 1) := by decide +kernel
theorem d_Numbers_worked_34 : decode m_Numbers_worked.2.1 34 = .ok (.goto 59, 3) := by decide +kernel
theorem d_Numbers_worked_37 : decode m_Numbers_worked.2.1 37 = .ok (.aload_n 0, 1) := by decide +kernel
theorem d_Numbers_worked_38 : decode m_Numbers_worked.2.1 38 = .ok (.getstatic 89, 3) := by decide +kernel
theorem d_Numbers_worked_41 : decode m_Numbers_worked.2.1 41 = .ok (.if_acmp .ne 9, 3) := by decide +kernel
theorem d_Numbers_worked_44 : decode m_Numbers_worked.2.1 44 = .ok (.dload_n 1, 1) := by decide +kernel
theorem d_Numbers_worked_45 : decode m_Numbers_worked.2.1 45 = .ok (.dload_n 3, 1) := by decide +kernel
theorem d_Numbers_worked_46 : decode m_Numbers_worked.2.1 46 = .ok (.dsub, 1) := by decide +kernel
theorem d_Numbers_worked_47 : decode m_Numbers_worked.2.1 47 = .ok (.goto 46, 3) := by decide +kernel
theorem d_Numbers_worked_50 : decode m_Numbers_worked.2.1 50 = .ok (.aload_n 0, 1) := by decide +kernel
theorem d_Numbers_worked_51 : decode m_Numbers_worked.2.1 51 = .ok (.getstatic 92, 3) := by decide +kernel
theorem d_Numbers_worked_54 : decode m_Numbers_worked.2.1 54 = .ok (.if_acmp .ne 9, 3) := by decide +kernel
theorem d_Numbers_worked_57 : decode m_Numbers_worked.2.1 57 = .ok (.dload_n 1, 1) := by decide +kernel
theorem d_Numbers_worked_58 : decode m_Numbers_worked.2.1 58 = .ok (.dload_n 3, 1) := by decide +kernel
theorem d_Numbers_worked_59 : decode m_Numbers_worked.2.1 59 = .ok (.dmul, 1) := by decide +kernel
theorem d_Numbers_worked_60 : decode m_Numbers_worked.2.1 60 = .ok (.goto 33, 3) := by decide +kernel
theorem d_Numbers_worked_63 : decode m_Numbers_worked.2.1 63 = .ok (.aload_n 0, 1) := by decide +kernel
theorem d_Numbers_worked_64 : decode m_Numbers_worked.2.1 64 = .ok (.getstatic 95, 3) := by decide +kernel
theorem d_Numbers_worked_67 : decode m_Numbers_worked.2.1 67 = .ok (.if_acmp .ne 9, 3) := by decide +kernel
theorem d_Numbers_worked_70 : decode m_Numbers_worked.2.1 70 = .ok (.dconst 0, 1) := by decide +kernel
theorem d_Numbers_worked_71 : decode m_Numbers_worked.2.1 71 = .ok (.dload_n 1, 1) := by decide +kernel
theorem d_Numbers_worked_72 : decode m_Numbers_worked.2.1 72 = .ok (.dsub, 1) := by decide +kernel
theorem d_Numbers_worked_73 : decode m_Numbers_worked.2.1 73 = .ok (.goto 20, 3) := by decide +kernel
theorem d_Numbers_worked_76 : decode m_Numbers_worked.2.1 76 = .ok (.dload 7, 2) := by decide +kernel
theorem d_Numbers_worked_78 : decode m_Numbers_worked.2.1 78 = .ok (.dload 5, 2) := by decide +kernel
theorem d_Numbers_worked_80 : decode m_Numbers_worked.2.1 80 = .ok (.dcmp .l, 1) := by decide +kernel
theorem d_Numbers_worked_81 : decode m_Numbers_worked.2.1 81 = .ok (.ifCond .le 10, 3) := by decide +kernel
theorem d_Numbers_worked_84 : decode m_Numbers_worked.2.1 84 = .ok (.dload 7, 2) := by decide +kernel
theorem d_Numbers_worked_86 : decode m_Numbers_worked.2.1 86 = .ok (.dconst 1, 1) := by decide +kernel
theorem d_Numbers_worked_87 : decode m_Numbers_worked.2.1 87 = .ok (.dsub, 1) := by decide +kernel
theorem d_Numbers_worked_88 : decode m_Numbers_worked.2.1 88 = .ok (.goto 5, 3) := by decide +kernel
theorem d_Numbers_worked_91 : decode m_Numbers_worked.2.1 91 = .ok (.dload 7, 2) := by decide +kernel
theorem d_Numbers_worked_93 : decode m_Numbers_worked.2.1 93 = .ok (.dreturn, 1) := by decide +kernel
theorem d_Numbers_perform_0 : decode m_Numbers_perform.2.1 0 = .ok (.aload_n 3, 1) := by decide +kernel
theorem d_Numbers_perform_1 : decode m_Numbers_perform.2.1 1 = .ok (.getstatic 9, 3) := by decide +kernel
theorem d_Numbers_perform_4 : decode m_Numbers_perform.2.1 4 = .ok (.invokevirtual 15, 3) := by decide +kernel
theorem d_Numbers_perform_7 : decode m_Numbers_perform.2.1 7 = .ok (.ifCond .eq 18, 3) := by decide +kernel
theorem d_Numbers_perform_10 : decode m_Numbers_perform.2.1 10 = .ok (.aload 4, 2) := by decide +kernel
theorem d_Numbers_perform_12 : decode m_Numbers_perform.2.1 12 = .ok (.getstatic 9, 3) := by decide +kernel
theorem d_Numbers_perform_15 : decode m_Numbers_perform.2.1 15 = .ok (.invokevirtual 15, 3) := by decide +kernel
theorem d_Numbers_perform_18 : decode m_Numbers_perform.2.1 18 = .ok (.ifCond .eq 7, 3) := by decide +kernel
theorem d_Numbers_perform_21 : decode m_Numbers_perform.2.1 21 = .ok (.iconst 1, 1) := by decide +kernel
theorem d_Numbers_perform_22 : decode m_Numbers_perform.2.1 22 = .ok (.goto 4, 3) := by decide +kernel
theorem d_Numbers_perform_25 : decode m_Numbers_perform.2.1 25 = .ok (.iconst 0, 1) := by decide +kernel
theorem d_Numbers_perform_26 : decode m_Numbers_perform.2.1 26 = .ok (.istore 6, 2) := by decide +kernel
theorem d_Numbers_perform_28 : decode m_Numbers_perform.2.1 28 = .ok (.aload_n 2, 1) := by decide +kernel
theorem d_Numbers_perform_29 : decode m_Numbers_perform.2.1 29 = .ok (.getstatic 21, 3) := by decide +kernel
theorem d_Numbers_perform_32 : decode m_Numbers_perform.2.1 32 = .ok (.if_acmp .eq 10, 3) := by decide +kernel
theorem d_Numbers_perform_35 : decode m_Numbers_perform.2.1 35 = .ok (.aload_n 2, 1) := by decide +kernel
theorem d_Numbers_perform_36 : decode m_Numbers_perform.2.1 36 = .ok (.getstatic 27, 3) := by decide +kernel
theorem d_Numbers_perform_39 : decode m_Numbers_perform.2.1 39 = .ok (.if_acmp .ne 7, 3) := by decide +kernel
theorem d_Numbers_perform_42 : decode m_Numbers_perform.2.1 42 = .ok (.iconst 1, 1) := by decide +kernel
theorem d_Numbers_perform_43 : decode m_Numbers_perform.2.1 43 = .ok (.goto 4, 3) := by decide +kernel
theorem d_Numbers_perform_46 : decode m_Numbers_perform.2.1 46 = .ok (.iconst 0, 1) := by decide +kernel
theorem d_Numbers_perform_47 : decode m_Numbers_perform.2.1 47 = .ok (.istore 7, 2) := by decide +kernel
theorem d_Numbers_perform_49 : decode m_Numbers_perform.2.1 49 = .ok (.aload_n 1, 1) := by decide +kernel
theorem d_Numbers_perform_50 : decode m_Numbers_perform.2.1 50 = .ok (.iload 7, 2) := by decide +kernel
theorem d_Numbers_perform_52 : decode m_Numbers_perform.2.1 52 = .ok (.ifCond .eq 8, 3) := by decide +kernel
theorem d_Numbers_perform_55 : decode m_Numbers_perform.2.1 55 = .ok (.iload 6, 2) := by decide +kernel
theorem d_Numbers_perform_57 : decode m_Numbers_perform.2.1 57 = .ok (.goto 23, 3) := by decide +kernel
theorem d_Numbers_perform_60 : decode m_Numbers_perform.2.1 60 = .ok (.aload_n 3, 1) := by decide +kernel
theorem d_Numbers_perform_61 : decode m_Numbers_perform.2.1 61 = .ok (.invokevirtual 30, 3) := by decide +kernel
theorem d_Numbers_perform_64 : decode m_Numbers_perform.2.1 64 = .ok (.ifCond .eq 15, 3) := by decide +kernel
theorem d_Numbers_perform_67 : decode m_Numbers_perform.2.1 67 = .ok (.aload 4, 2) := by decide +kernel
theorem d_Numbers_perform_69 : decode m_Numbers_perform.2.1 69 = .ok (.invokevirtual 30, 3) := by decide +kernel
theorem d_Numbers_perform_72 : decode m_Numbers_perform.2.1 72 = .ok (.ifCond .eq 7, 3) := by decide +kernel
theorem d_Numbers_perform_75 : decode m_Numbers_perform.2.1 75 = .ok (.iconst 1, 1) := by decide +kernel
theorem d_Numbers_perform_76 : decode m_Numbers_perform.2.1 76 = .ok (.goto 4, 3) := by decide +kernel
theorem d_Numbers_perform_79 : decode m_Numbers_perform.2.1 79 = .ok (.iconst 0, 1) := by decide +kernel
theorem d_Numbers_perform_80 : decode m_Numbers_perform.2.1 80 = .ok (.invokevirtual 34, 3) := by decide +kernel
theorem d_Numbers_perform_83 : decode m_Numbers_perform.2.1 83 = .ok (.aload_n 1, 1) := by decide +kernel
theorem d_Numbers_perform_84 : decode m_Numbers_perform.2.1 84 = .ok (.iload 7, 2) := by decide +kernel
theorem d_Numbers_perform_86 : decode m_Numbers_perform.2.1 86 = .ok (.ifCond .ne 10, 3) := by decide +kernel
theorem d_Numbers_perform_89 : decode m_Numbers_perform.2.1 89 = .ok (.aload_n 2, 1) := by decide +kernel
theorem d_Numbers_perform_90 : decode m_Numbers_perform.2.1 90 = .ok (.getstatic 38, 3) := by decide +kernel
theorem d_Numbers_perform_93 : decode m_Numbers_perform.2.1 93 = .ok (.if_acmp .ne 13, 3) := by decide +kernel
theorem d_Numbers_perform_96 : decode m_Numbers_perform.2.1 96 = .ok (.aload 4, 2) := by decide +kernel
theorem d_Numbers_perform_98 : decode m_Numbers_perform.2.1 98 = .ok (.invokevirtual 41, 3) := by decide +kernel
theorem d_Numbers_perform_101 : decode m_Numbers_perform.2.1 101 = .ok (.dconst 0, 1) := by decide +kernel
theorem d_Numbers_perform_102 : decode m_Numbers_perform.2.1 102 = .ok (.dcmp .l, 1) := by decide +kernel
theorem d_Numbers_perform_103 : decode m_Numbers_perform.2.1 103 = .ok (.ifCond .eq 7, 3) := by decide +kernel
theorem d_Numbers_perform_106 : decode m_Numbers_perform.2.1 106 = .ok (.iconst 1, 1) := by decide +kernel
theorem d_Numbers_perform_107 : decode m_Numbers_perform.2.1 107 = .ok (.goto 4, 3) := by decide +kernel
theorem d_Numbers_perform_110 : decode m_Numbers_perform.2.1 110 = .ok (.iconst 0, 1) := by decide +kernel
theorem d_Numbers_perform_111 : decode m_Numbers_perform.2.1 111 = .ok (.bipush 6, 2) := by decide +kernel
theorem d_Numbers_perform_113 : decode m_Numbers_perform.2.1 113 = .ok (.invokevirtual 45, 3) := by decide +kernel
theorem d_Numbers_perform_116 : decode m_Numbers_perform.2.1 116 = .ok (.aload_n 2, 1) := by decide +kernel
theorem d_Numbers_perform_117 : decode m_Numbers_perform.2.1 117 = .ok (.invokevirtual 49, 3) := by decide +kernel
theorem d_Numbers_perform_120 : decode m_Numbers_perform.2.1 120 = .ok (.tableswitch 165 15 22 #[87, 48, 68, 165, 165, 165, 117, 105], 48) := by decide +kernel
theorem d_Numbers_perform_168 : decode m_Numbers_perform.2.1 168 = .ok (.aload_n 1, 1) := by decide +kernel
