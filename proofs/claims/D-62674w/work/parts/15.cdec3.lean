theorem d_Numbers_perform_169 : decode m_Numbers_perform.2.1 169 = .ok (.iconst 2, 1) := by decide +kernel
theorem d_Numbers_perform_170 : decode m_Numbers_perform.2.1 170 = .ok (.aload_n 3, 1) := by decide +kernel
theorem d_Numbers_perform_171 : decode m_Numbers_perform.2.1 171 = .ok (.getfield 53, 3) := by decide +kernel
theorem d_Numbers_perform_174 : decode m_Numbers_perform.2.1 174 = .ok (.i2l, 1) := by decide +kernel
theorem d_Numbers_perform_175 : decode m_Numbers_perform.2.1 175 = .ok (.aload 4, 2) := by decide +kernel
theorem d_Numbers_perform_177 : decode m_Numbers_perform.2.1 177 = .ok (.getfield 53, 3) := by decide +kernel
theorem d_Numbers_perform_180 : decode m_Numbers_perform.2.1 180 = .ok (.i2l, 1) := by decide +kernel
theorem d_Numbers_perform_181 : decode m_Numbers_perform.2.1 181 = .ok (.ldiv, 1) := by decide +kernel
theorem d_Numbers_perform_182 : decode m_Numbers_perform.2.1 182 = .ok (.invokevirtual 57, 3) := by decide +kernel
theorem d_Numbers_perform_185 : decode m_Numbers_perform.2.1 185 = .ok (.goto 152, 3) := by decide +kernel
theorem d_Numbers_perform_188 : decode m_Numbers_perform.2.1 188 = .ok (.aload_n 1, 1) := by decide +kernel
theorem d_Numbers_perform_189 : decode m_Numbers_perform.2.1 189 = .ok (.iconst 2, 1) := by decide +kernel
theorem d_Numbers_perform_190 : decode m_Numbers_perform.2.1 190 = .ok (.aload_n 3, 1) := by decide +kernel
theorem d_Numbers_perform_191 : decode m_Numbers_perform.2.1 191 = .ok (.getfield 53, 3) := by decide +kernel
theorem d_Numbers_perform_194 : decode m_Numbers_perform.2.1 194 = .ok (.aload 4, 2) := by decide +kernel
theorem d_Numbers_perform_196 : decode m_Numbers_perform.2.1 196 = .ok (.getfield 53, 3) := by decide +kernel
theorem d_Numbers_perform_199 : decode m_Numbers_perform.2.1 199 = .ok (.irem, 1) := by decide +kernel
theorem d_Numbers_perform_200 : decode m_Numbers_perform.2.1 200 = .ok (.i2l, 1) := by decide +kernel
theorem d_Numbers_perform_201 : decode m_Numbers_perform.2.1 201 = .ok (.invokevirtual 57, 3) := by decide +kernel
theorem d_Numbers_perform_204 : decode m_Numbers_perform.2.1 204 = .ok (.goto 133, 3) := by decide +kernel
theorem d_Numbers_perform_207 : decode m_Numbers_perform.2.1 207 = .ok (.aload_n 1, 1) := by decide +kernel
theorem d_Numbers_perform_208 : decode m_Numbers_perform.2.1 208 = .ok (.iconst 2, 1) := by decide +kernel
theorem d_Numbers_perform_209 : decode m_Numbers_perform.2.1 209 = .ok (.aload_n 3, 1) := by decide +kernel
theorem d_Numbers_perform_210 : decode m_Numbers_perform.2.1 210 = .ok (.invokevirtual 41, 3) := by decide +kernel
theorem d_Numbers_perform_213 : decode m_Numbers_perform.2.1 213 = .ok (.aload 4, 2) := by decide +kernel
theorem d_Numbers_perform_215 : decode m_Numbers_perform.2.1 215 = .ok (.invokevirtual 41, 3) := by decide +kernel
theorem d_Numbers_perform_218 : decode m_Numbers_perform.2.1 218 = .ok (.ddiv, 1) := by decide +kernel
theorem d_Numbers_perform_219 : decode m_Numbers_perform.2.1 219 = .ok (.invokevirtual 61, 3) := by decide +kernel
theorem d_Numbers_perform_222 : decode m_Numbers_perform.2.1 222 = .ok (.goto 115, 3) := by decide +kernel
theorem d_Numbers_perform_225 : decode m_Numbers_perform.2.1 225 = .ok (.aload_n 1, 1) := by decide +kernel
theorem d_Numbers_perform_226 : decode m_Numbers_perform.2.1 226 = .ok (.iconst 1, 1) := by decide +kernel
theorem d_Numbers_perform_227 : decode m_Numbers_perform.2.1 227 = .ok (.aload_n 3, 1) := by decide +kernel
theorem d_Numbers_perform_228 : decode m_Numbers_perform.2.1 228 = .ok (.invokevirtual 41, 3) := by decide +kernel
theorem d_Numbers_perform_231 : decode m_Numbers_perform.2.1 231 = .ok (.invokevirtual 61, 3) := by decide +kernel
theorem d_Numbers_perform_234 : decode m_Numbers_perform.2.1 234 = .ok (.goto 103, 3) := by decide +kernel
theorem d_Numbers_perform_237 : decode m_Numbers_perform.2.1 237 = .ok (.aload_n 1, 1) := by decide +kernel
theorem d_Numbers_perform_238 : decode m_Numbers_perform.2.1 238 = .ok (.aload_n 3, 1) := by decide +kernel
theorem d_Numbers_perform_239 : decode m_Numbers_perform.2.1 239 = .ok (.invokevirtual 41, 3) := by decide +kernel
theorem d_Numbers_perform_242 : decode m_Numbers_perform.2.1 242 = .ok (.ldc2_w 65, 3) := by decide +kernel
theorem d_Numbers_perform_245 : decode m_Numbers_perform.2.1 245 = .ok (.dcmp .l, 1) := by decide +kernel
theorem d_Numbers_perform_246 : decode m_Numbers_perform.2.1 246 = .ok (.ifCond .le 18, 3) := by decide +kernel
theorem d_Numbers_perform_249 : decode m_Numbers_perform.2.1 249 = .ok (.aload_n 3, 1) := by decide +kernel
theorem d_Numbers_perform_250 : decode m_Numbers_perform.2.1 250 = .ok (.invokevirtual 41, 3) := by decide +kernel
theorem d_Numbers_perform_253 : decode m_Numbers_perform.2.1 253 = .ok (.ldc2_w 67, 3) := by decide +kernel
theorem d_Numbers_perform_256 : decode m_Numbers_perform.2.1 256 = .ok (.dcmp .g, 1) := by decide +kernel
theorem d_Numbers_perform_257 : decode m_Numbers_perform.2.1 257 = .ok (.ifCond .ge 7, 3) := by decide +kernel
theorem d_Numbers_perform_260 : decode m_Numbers_perform.2.1 260 = .ok (.iconst 1, 1) := by decide +kernel
theorem d_Numbers_perform_261 : decode m_Numbers_perform.2.1 261 = .ok (.goto 4, 3) := by decide +kernel
theorem d_Numbers_perform_264 : decode m_Numbers_perform.2.1 264 = .ok (.iconst 0, 1) := by decide +kernel
theorem d_Numbers_perform_265 : decode m_Numbers_perform.2.1 265 = .ok (.iconst 4, 1) := by decide +kernel
theorem d_Numbers_perform_266 : decode m_Numbers_perform.2.1 266 = .ok (.invokevirtual 45, 3) := by decide +kernel
theorem d_Numbers_perform_269 : decode m_Numbers_perform.2.1 269 = .ok (.aload_n 1, 1) := by decide +kernel
theorem d_Numbers_perform_270 : decode m_Numbers_perform.2.1 270 = .ok (.iconst 1, 1) := by decide +kernel
theorem d_Numbers_perform_271 : decode m_Numbers_perform.2.1 271 = .ok (.getstatic 9, 3) := by decide +kernel
theorem d_Numbers_perform_274 : decode m_Numbers_perform.2.1 274 = .ok (.aload_n 3, 1) := by decide +kernel
theorem d_Numbers_perform_275 : decode m_Numbers_perform.2.1 275 = .ok (.invokevirtual 41, 3) := by decide +kernel
theorem d_Numbers_perform_278 : decode m_Numbers_perform.2.1 278 = .ok (.d2i, 1) := by decide +kernel
theorem d_Numbers_perform_279 : decode m_Numbers_perform.2.1 279 = .ok (.invokevirtual 69, 3) := by decide +kernel
theorem d_Numbers_perform_282 : decode m_Numbers_perform.2.1 282 = .ok (.goto 55, 3) := by decide +kernel
theorem d_Numbers_perform_285 : decode m_Numbers_perform.2.1 285 = .ok (.iload 6, 2) := by decide +kernel
theorem d_Numbers_perform_287 : decode m_Numbers_perform.2.1 287 = .ok (.ifCond .eq 29, 3) := by decide +kernel
theorem d_Numbers_perform_290 : decode m_Numbers_perform.2.1 290 = .ok (.aload_n 1, 1) := by decide +kernel
theorem d_Numbers_perform_291 : decode m_Numbers_perform.2.1 291 = .ok (.aload_n 2, 1) := by decide +kernel
theorem d_Numbers_perform_292 : decode m_Numbers_perform.2.1 292 = .ok (.getfield 73, 3) := by decide +kernel
theorem d_Numbers_perform_295 : decode m_Numbers_perform.2.1 295 = .ok (.aload_n 2, 1) := by decide +kernel
theorem d_Numbers_perform_296 : decode m_Numbers_perform.2.1 296 = .ok (.aload_n 3, 1) := by decide +kernel
theorem d_Numbers_perform_297 : decode m_Numbers_perform.2.1 297 = .ok (.getfield 53, 3) := by decide +kernel
theorem d_Numbers_perform_300 : decode m_Numbers_perform.2.1 300 = .ok (.i2l, 1) := by decide +kernel
theorem d_Numbers_perform_301 : decode m_Numbers_perform.2.1 301 = .ok (.aload 4, 2) := by decide +kernel
theorem d_Numbers_perform_303 : decode m_Numbers_perform.2.1 303 = .ok (.getfield 53, 3) := by decide +kernel
theorem d_Numbers_perform_306 : decode m_Numbers_perform.2.1 306 = .ok (.i2l, 1) := by decide +kernel
theorem d_Numbers_perform_307 : decode m_Numbers_perform.2.1 307 = .ok (.invokestatic 76, 3) := by decide +kernel
theorem d_Numbers_perform_310 : decode m_Numbers_perform.2.1 310 = .ok (.invokevirtual 57, 3) := by decide +kernel
theorem d_Numbers_perform_313 : decode m_Numbers_perform.2.1 313 = .ok (.goto 24, 3) := by decide +kernel
theorem d_Numbers_perform_316 : decode m_Numbers_perform.2.1 316 = .ok (.aload_n 1, 1) := by decide +kernel
theorem d_Numbers_perform_317 : decode m_Numbers_perform.2.1 317 = .ok (.aload_n 2, 1) := by decide +kernel
theorem d_Numbers_perform_318 : decode m_Numbers_perform.2.1 318 = .ok (.getfield 73, 3) := by decide +kernel
theorem d_Numbers_perform_321 : decode m_Numbers_perform.2.1 321 = .ok (.aload_n 2, 1) := by decide +kernel
theorem d_Numbers_perform_322 : decode m_Numbers_perform.2.1 322 = .ok (.aload_n 3, 1) := by decide +kernel
theorem d_Numbers_perform_323 : decode m_Numbers_perform.2.1 323 = .ok (.invokevirtual 41, 3) := by decide +kernel
theorem d_Numbers_perform_326 : decode m_Numbers_perform.2.1 326 = .ok (.aload 4, 2) := by decide +kernel
theorem d_Numbers_perform_328 : decode m_Numbers_perform.2.1 328 = .ok (.invokevirtual 41, 3) := by decide +kernel
theorem d_Numbers_perform_331 : decode m_Numbers_perform.2.1 331 = .ok (.invokestatic 82, 3) := by decide +kernel
theorem d_Numbers_perform_334 : decode m_Numbers_perform.2.1 334 = .ok (.invokevirtual 61, 3) := by decide +kernel
theorem d_Numbers_perform_337 : decode m_Numbers_perform.2.1 337 = .ok (.return_, 1) := by decide +kernel
theorem d_P_swap_0 : decode m_P_swap.2.1 0 = .ok (.aload_n 0, 1) := by decide +kernel
theorem d_P_swap_1 : decode m_P_swap.2.1 1 = .ok (.getfield 53, 3) := by decide +kernel
theorem d_P_swap_4 : decode m_P_swap.2.1 4 = .ok (.iload_n 1, 1) := by decide +kernel
theorem d_P_swap_5 : decode m_P_swap.2.1 5 = .ok (.aaload, 1) := by decide +kernel
theorem d_P_swap_6 : decode m_P_swap.2.1 6 = .ok (.astore_n 3, 1) := by decide +kernel
theorem d_P_swap_7 : decode m_P_swap.2.1 7 = .ok (.aload_n 0, 1) := by decide +kernel
theorem d_P_swap_8 : decode m_P_swap.2.1 8 = .ok (.getfield 53, 3) := by decide +kernel
theorem d_P_swap_11 : decode m_P_swap.2.1 11 = .ok (.iload_n 1, 1) := by decide +kernel
theorem d_P_swap_12 : decode m_P_swap.2.1 12 = .ok (.aload_n 0, 1) := by decide +kernel
theorem d_P_swap_13 : decode m_P_swap.2.1 13 = .ok (.getfield 53, 3) := by decide +kernel
theorem d_P_swap_16 : decode m_P_swap.2.1 16 = .ok (.iload_n 2, 1) := by decide +kernel
theorem d_P_swap_17 : decode m_P_swap.2.1 17 = .ok (.aaload, 1) := by decide +kernel
theorem d_P_swap_18 : decode m_P_swap.2.1 18 = .ok (.aastore, 1) := by decide +kernel
theorem d_P_swap_19 : decode m_P_swap.2.1 19 = .ok (.aload_n 0, 1) := by decide +kernel
theorem d_P_swap_20 : decode m_P_swap.2.1 20 = .ok (.getfield 53, 3) := by decide +kernel
theorem d_P_swap_23 : decode m_P_swap.2.1 23 = .ok (.iload_n 2, 1) := by decide +kernel
theorem d_P_swap_24 : decode m_P_swap.2.1 24 = .ok (.aload_n 3, 1) := by decide +kernel
theorem d_P_swap_25 : decode m_P_swap.2.1 25 = .ok (.aastore, 1) := by decide +kernel
theorem d_P_swap_26 : decode m_P_swap.2.1 26 = .ok (.return_, 1) := by decide +kernel
theorem d_P_about_0 : decode m_P_about.2.1 0 = .ok (.iload_n 1, 1) := by decide +kernel
theorem d_P_about_1 : decode m_P_about.2.1 1 = .ok (.istore_n 3, 1) := by decide +kernel
theorem d_P_about_2 : decode m_P_about.2.1 2 = .ok (.iload_n 2, 1) := by decide +kernel
theorem d_P_about_3 : decode m_P_about.2.1 3 = .ok (.istore 4, 2) := by decide +kernel
theorem d_P_about_5 : decode m_P_about.2.1 5 = .ok (.iload_n 3, 1) := by decide +kernel
theorem d_P_about_6 : decode m_P_about.2.1 6 = .ok (.iload 4, 2) := by decide +kernel
theorem d_P_about_8 : decode m_P_about.2.1 8 = .ok (.if_icmp .ge 19, 3) := by decide +kernel
theorem d_P_about_11 : decode m_P_about.2.1 11 = .ok (.aload_n 0, 1) := by decide +kernel
theorem d_P_about_12 : decode m_P_about.2.1 12 = .ok (.iload_n 3, 1) := by decide +kernel
theorem d_P_about_13 : decode m_P_about.2.1 13 = .ok (.iload 4, 2) := by decide +kernel
theorem d_P_about_15 : decode m_P_about.2.1 15 = .ok (.invokevirtual 228, 3) := by decide +kernel
theorem d_P_about_18 : decode m_P_about.2.1 18 = .ok (.iinc 3 1, 3) := by decide +kernel
theorem d_P_about_21 : decode m_P_about.2.1 21 = .ok (.iinc 4 (-1), 3) := by decide +kernel
theorem d_P_about_24 : decode m_P_about.2.1 24 = .ok (.goto (-19), 3) := by decide +kernel
theorem d_P_about_27 : decode m_P_about.2.1 27 = .ok (.return_, 1) := by decide +kernel
theorem d_P_here_0 : decode m_P_here.2.1 0 = .ok (.aload_n 0, 1) := by decide +kernel
theorem d_P_here_1 : decode m_P_here.2.1 1 = .ok (.getfield 393, 3) := by decide +kernel
theorem d_P_here_4 : decode m_P_here.2.1 4 = .ok (.aload_n 0, 1) := by decide +kernel
theorem d_P_here_5 : decode m_P_here.2.1 5 = .ok (.getfield 44, 3) := by decide +kernel
theorem d_P_here_8 : decode m_P_here.2.1 8 = .ok (.invokevirtual 396, 3) := by decide +kernel
theorem d_P_here_11 : decode m_P_here.2.1 11 = .ok (.if_icmp .ge 17, 3) := by decide +kernel
theorem d_P_here_14 : decode m_P_here.2.1 14 = .ok (.aload_n 0, 1) := by decide +kernel
theorem d_P_here_15 : decode m_P_here.2.1 15 = .ok (.getfield 44, 3) := by decide +kernel
theorem d_P_here_18 : decode m_P_here.2.1 18 = .ok (.aload_n 0, 1) := by decide +kernel
theorem d_P_here_19 : decode m_P_here.2.1 19 = .ok (.getfield 393, 3) := by decide +kernel
theorem d_P_here_22 : decode m_P_here.2.1 22 = .ok (.invokevirtual 397, 3) := by decide +kernel
theorem d_P_here_25 : decode m_P_here.2.1 25 = .ok (.goto 4, 3) := by decide +kernel
theorem d_P_here_28 : decode m_P_here.2.1 28 = .ok (.iconst 0, 1) := by decide +kernel
theorem d_P_here_29 : decode m_P_here.2.1 29 = .ok (.ireturn, 1) := by decide +kernel
theorem d_P_blanks_0 : decode m_P_blanks.2.1 0 = .ok (.aload_n 0, 1) := by decide +kernel
theorem d_P_blanks_1 : decode m_P_blanks.2.1 1 = .ok (.invokevirtual 398, 3) := by decide +kernel
theorem d_P_blanks_4 : decode m_P_blanks.2.1 4 = .ok (.bipush 32, 2) := by decide +kernel
theorem d_P_blanks_6 : decode m_P_blanks.2.1 6 = .ok (.if_icmp .ne 16, 3) := by decide +kernel
theorem d_P_blanks_9 : decode m_P_blanks.2.1 9 = .ok (.aload_n 0, 1) := by decide +kernel
theorem d_P_blanks_10 : decode m_P_blanks.2.1 10 = .ok (.dup, 1) := by decide +kernel
theorem d_P_blanks_11 : decode m_P_blanks.2.1 11 = .ok (.getfield 393, 3) := by decide +kernel
theorem d_P_blanks_14 : decode m_P_blanks.2.1 14 = .ok (.iconst 1, 1) := by decide +kernel
theorem d_P_blanks_15 : decode m_P_blanks.2.1 15 = .ok (.iadd, 1) := by decide +kernel
theorem d_P_blanks_16 : decode m_P_blanks.2.1 16 = .ok (.putfield 393, 3) := by decide +kernel
theorem d_P_blanks_19 : decode m_P_blanks.2.1 19 = .ok (.goto (-19), 3) := by decide +kernel
theorem d_P_blanks_22 : decode m_P_blanks.2.1 22 = .ok (.return_, 1) := by decide +kernel
theorem d_P_bucket_0 : decode m_P_bucket.2.1 0 = .ok (.iload_n 0, 1) := by decide +kernel
theorem d_P_bucket_1 : decode m_P_bucket.2.1 1 = .ok (.bipush 7, 2) := by decide +kernel
theorem d_P_bucket_3 : decode m_P_bucket.2.1 3 = .ok (.imul, 1) := by decide +kernel
theorem d_P_bucket_4 : decode m_P_bucket.2.1 4 = .ok (.iload_n 1, 1) := by decide +kernel
theorem d_P_bucket_5 : decode m_P_bucket.2.1 5 = .ok (.iconst 3, 1) := by decide +kernel
theorem d_P_bucket_6 : decode m_P_bucket.2.1 6 = .ok (.imul, 1) := by decide +kernel
theorem d_P_bucket_7 : decode m_P_bucket.2.1 7 = .ok (.iadd, 1) := by decide +kernel
theorem d_P_bucket_8 : decode m_P_bucket.2.1 8 = .ok (.iload_n 2, 1) := by decide +kernel
theorem d_P_bucket_9 : decode m_P_bucket.2.1 9 = .ok (.iadd, 1) := by decide +kernel
theorem d_P_bucket_10 : decode m_P_bucket.2.1 10 = .ok (.bipush 32, 2) := by decide +kernel
theorem d_P_bucket_12 : decode m_P_bucket.2.1 12 = .ok (.irem, 1) := by decide +kernel
theorem d_P_bucket_13 : decode m_P_bucket.2.1 13 = .ok (.ireturn, 1) := by decide +kernel
theorem d_P_depth_0 : decode m_P_depth.2.1 0 = .ok (.aload_n 0, 1) := by decide +kernel
theorem d_P_depth_1 : decode m_P_depth.2.1 1 = .ok (.getfield 174, 3) := by decide +kernel
theorem d_P_depth_4 : decode m_P_depth.2.1 4 = .ok (.ireturn, 1) := by decide +kernel
theorem d_P_isDigit_0 : decode m_P_isDigit.2.1 0 = .ok (.iload_n 0, 1) := by decide +kernel
theorem d_P_isDigit_1 : decode m_P_isDigit.2.1 1 = .ok (.bipush 48, 2) := by decide +kernel
theorem d_P_isDigit_3 : decode m_P_isDigit.2.1 3 = .ok (.if_icmp .lt 13, 3) := by decide +kernel
theorem d_P_isDigit_6 : decode m_P_isDigit.2.1 6 = .ok (.iload_n 0, 1) := by decide +kernel
theorem d_P_isDigit_7 : decode m_P_isDigit.2.1 7 = .ok (.bipush 57, 2) := by decide +kernel
theorem d_P_isDigit_9 : decode m_P_isDigit.2.1 9 = .ok (.if_icmp .gt 7, 3) := by decide +kernel
theorem d_P_isDigit_12 : decode m_P_isDigit.2.1 12 = .ok (.iconst 1, 1) := by decide +kernel
theorem d_P_isDigit_13 : decode m_P_isDigit.2.1 13 = .ok (.goto 4, 3) := by decide +kernel
theorem d_P_isDigit_16 : decode m_P_isDigit.2.1 16 = .ok (.iconst 0, 1) := by decide +kernel
theorem d_P_isDigit_17 : decode m_P_isDigit.2.1 17 = .ok (.ireturn, 1) := by decide +kernel
theorem d_P_next_0 : decode m_P_next.2.1 0 = .ok (.aload_n 0, 1) := by decide +kernel
theorem d_P_next_1 : decode m_P_next.2.1 1 = .ok (.getfield 44, 3) := by decide +kernel
theorem d_P_next_4 : decode m_P_next.2.1 4 = .ok (.aload_n 0, 1) := by decide +kernel
theorem d_P_next_5 : decode m_P_next.2.1 5 = .ok (.dup, 1) := by decide +kernel
theorem d_P_next_6 : decode m_P_next.2.1 6 = .ok (.getfield 393, 3) := by decide +kernel
theorem d_P_next_9 : decode m_P_next.2.1 9 = .ok (.dup_x1, 1) := by decide +kernel
theorem d_P_next_10 : decode m_P_next.2.1 10 = .ok (.iconst 1, 1) := by decide +kernel
theorem d_P_next_11 : decode m_P_next.2.1 11 = .ok (.iadd, 1) := by decide +kernel
theorem d_P_next_12 : decode m_P_next.2.1 12 = .ok (.putfield 393, 3) := by decide +kernel
theorem d_P_next_15 : decode m_P_next.2.1 15 = .ok (.invokevirtual 397, 3) := by decide +kernel
theorem d_P_next_18 : decode m_P_next.2.1 18 = .ok (.ireturn, 1) := by decide +kernel
theorem d_P_digits_0 : decode m_P_digits.2.1 0 = .ok (.iconst 0, 1) := by decide +kernel
theorem d_P_digits_1 : decode m_P_digits.2.1 1 = .ok (.istore_n 2, 1) := by decide +kernel
theorem d_P_digits_2 : decode m_P_digits.2.1 2 = .ok (.iconst 0, 1) := by decide +kernel
theorem d_P_digits_3 : decode m_P_digits.2.1 3 = .ok (.istore_n 3, 1) := by decide +kernel
theorem d_P_digits_4 : decode m_P_digits.2.1 4 = .ok (.aload_n 0, 1) := by decide +kernel
theorem d_P_digits_5 : decode m_P_digits.2.1 5 = .ok (.invokevirtual 398, 3) := by decide +kernel
theorem d_P_digits_8 : decode m_P_digits.2.1 8 = .ok (.invokestatic 419, 3) := by decide +kernel
theorem d_P_digits_11 : decode m_P_digits.2.1 11 = .ok (.ifCond .eq 34, 3) := by decide +kernel
theorem d_P_digits_14 : decode m_P_digits.2.1 14 = .ok (.iload_n 3, 1) := by decide +kernel
theorem d_P_digits_15 : decode m_P_digits.2.1 15 = .ok (.iload_n 1, 1) := by decide +kernel
theorem d_P_digits_16 : decode m_P_digits.2.1 16 = .ok (.if_icmp .ge 18, 3) := by decide +kernel
theorem d_P_digits_19 : decode m_P_digits.2.1 19 = .ok (.bipush 10, 2) := by decide +kernel
theorem d_P_digits_21 : decode m_P_digits.2.1 21 = .ok (.iload_n 2, 1) := by decide +kernel
theorem d_P_digits_22 : decode m_P_digits.2.1 22 = .ok (.imul, 1) := by decide +kernel
theorem d_P_digits_23 : decode m_P_digits.2.1 23 = .ok (.aload_n 0, 1) := by decide +kernel
theorem d_P_digits_24 : decode m_P_digits.2.1 24 = .ok (.invokevirtual 429, 3) := by decide +kernel
theorem d_P_digits_27 : decode m_P_digits.2.1 27 = .ok (.iadd, 1) := by decide +kernel
theorem d_P_digits_28 : decode m_P_digits.2.1 28 = .ok (.bipush 48, 2) := by decide +kernel
theorem d_P_digits_30 : decode m_P_digits.2.1 30 = .ok (.isub, 1) := by decide +kernel
theorem d_P_digits_31 : decode m_P_digits.2.1 31 = .ok (.goto 7, 3) := by decide +kernel
theorem d_P_digits_34 : decode m_P_digits.2.1 34 = .ok (.aload_n 0, 1) := by decide +kernel
theorem d_P_digits_35 : decode m_P_digits.2.1 35 = .ok (.invokevirtual 429, 3) := by decide +kernel
theorem d_P_digits_38 : decode m_P_digits.2.1 38 = .ok (.istore_n 2, 1) := by decide +kernel
theorem d_P_digits_39 : decode m_P_digits.2.1 39 = .ok (.iinc 3 1, 3) := by decide +kernel
theorem d_P_digits_42 : decode m_P_digits.2.1 42 = .ok (.goto (-38), 3) := by decide +kernel
theorem d_P_digits_45 : decode m_P_digits.2.1 45 = .ok (.aload_n 0, 1) := by decide +kernel
theorem d_P_digits_46 : decode m_P_digits.2.1 46 = .ok (.iload_n 3, 1) := by decide +kernel
theorem d_P_digits_47 : decode m_P_digits.2.1 47 = .ok (.ifCond .le 12, 3) := by decide +kernel
theorem d_P_digits_50 : decode m_P_digits.2.1 50 = .ok (.iload_n 3, 1) := by decide +kernel
theorem d_P_digits_51 : decode m_P_digits.2.1 51 = .ok (.iload_n 1, 1) := by decide +kernel
theorem d_P_digits_52 : decode m_P_digits.2.1 52 = .ok (.if_icmp .gt 7, 3) := by decide +kernel
theorem d_P_digits_55 : decode m_P_digits.2.1 55 = .ok (.iconst 1, 1) := by decide +kernel
theorem d_P_digits_56 : decode m_P_digits.2.1 56 = .ok (.goto 4, 3) := by decide +kernel
theorem d_P_digits_59 : decode m_P_digits.2.1 59 = .ok (.iconst 0, 1) := by decide +kernel
theorem d_P_digits_60 : decode m_P_digits.2.1 60 = .ok (.bipush 15, 2) := by decide +kernel
theorem d_P_digits_62 : decode m_P_digits.2.1 62 = .ok (.invokevirtual 170, 3) := by decide +kernel
theorem d_P_digits_65 : decode m_P_digits.2.1 65 = .ok (.iload_n 2, 1) := by decide +kernel
theorem d_P_digits_66 : decode m_P_digits.2.1 66 = .ok (.ireturn, 1) := by decide +kernel
theorem d_P_drafts_0 : decode m_P_drafts.2.1 0 = .ok (.aload_n 0, 1) := by decide +kernel
theorem d_P_drafts_1 : decode m_P_drafts.2.1 1 = .ok (.getfield 60, 3) := by decide +kernel
theorem d_P_drafts_4 : decode m_P_drafts.2.1 4 = .ok (.aload_n 0, 1) := by decide +kernel
theorem d_P_drafts_5 : decode m_P_drafts.2.1 5 = .ok (.getfield 405, 3) := by decide +kernel
theorem d_P_drafts_8 : decode m_P_drafts.2.1 8 = .ok (.aaload, 1) := by decide +kernel
theorem d_P_drafts_9 : decode m_P_drafts.2.1 9 = .ok (.ifnonnull 19, 3) := by decide +kernel
theorem d_P_drafts_12 : decode m_P_drafts.2.1 12 = .ok (.aload_n 0, 1) := by decide +kernel
theorem d_P_drafts_13 : decode m_P_drafts.2.1 13 = .ok (.getfield 60, 3) := by decide +kernel
theorem d_P_drafts_16 : decode m_P_drafts.2.1 16 = .ok (.aload_n 0, 1) := by decide +kernel
theorem d_P_drafts_17 : decode m_P_drafts.2.1 17 = .ok (.getfield 405, 3) := by decide +kernel
theorem d_P_drafts_20 : decode m_P_drafts.2.1 20 = .ok (.new 51, 3) := by decide +kernel
theorem d_P_drafts_23 : decode m_P_drafts.2.1 23 = .ok (.dup, 1) := by decide +kernel
theorem d_P_drafts_24 : decode m_P_drafts.2.1 24 = .ok (.invokespecial 177, 3) := by decide +kernel
theorem d_P_drafts_27 : decode m_P_drafts.2.1 27 = .ok (.aastore, 1) := by decide +kernel
theorem d_P_drafts_28 : decode m_P_drafts.2.1 28 = .ok (.aload_n 0, 1) := by decide +kernel
theorem d_P_drafts_29 : decode m_P_drafts.2.1 29 = .ok (.getfield 60, 3) := by decide +kernel
theorem d_P_drafts_32 : decode m_P_drafts.2.1 32 = .ok (.aload_n 0, 1) := by decide +kernel
theorem d_P_drafts_33 : decode m_P_drafts.2.1 33 = .ok (.dup, 1) := by decide +kernel
theorem d_P_drafts_34 : decode m_P_drafts.2.1 34 = .ok (.getfield 405, 3) := by decide +kernel
theorem d_P_drafts_37 : decode m_P_drafts.2.1 37 = .ok (.dup_x1, 1) := by decide +kernel
theorem d_P_drafts_38 : decode m_P_drafts.2.1 38 = .ok (.iconst 1, 1) := by decide +kernel
theorem d_P_drafts_39 : decode m_P_drafts.2.1 39 = .ok (.iadd, 1) := by decide +kernel
theorem d_P_drafts_40 : decode m_P_drafts.2.1 40 = .ok (.putfield 405, 3) := by decide +kernel
theorem d_P_drafts_43 : decode m_P_drafts.2.1 43 = .ok (.aaload, 1) := by decide +kernel
theorem d_P_drafts_44 : decode m_P_drafts.2.1 44 = .ok (.areturn, 1) := by decide +kernel
theorem d_P_point_0 : decode m_P_point.2.1 0 = .ok (.aload_n 0, 1) := by decide +kernel
theorem d_P_point_1 : decode m_P_point.2.1 1 = .ok (.aload_n 0, 1) := by decide +kernel
theorem d_P_point_2 : decode m_P_point.2.1 2 = .ok (.getfield 471, 3) := by decide +kernel
theorem d_P_point_5 : decode m_P_point.2.1 5 = .ok (.bipush 30, 2) := by decide +kernel
theorem d_P_point_7 : decode m_P_point.2.1 7 = .ok (.if_icmp .ge 7, 3) := by decide +kernel
theorem d_P_point_10 : decode m_P_point.2.1 10 = .ok (.iconst 1, 1) := by decide +kernel
theorem d_P_point_11 : decode m_P_point.2.1 11 = .ok (.goto 4, 3) := by decide +kernel
theorem d_P_point_14 : decode m_P_point.2.1 14 = .ok (.iconst 0, 1) := by decide +kernel
theorem d_P_point_15 : decode m_P_point.2.1 15 = .ok (.bipush 7, 2) := by decide +kernel
theorem d_P_point_17 : decode m_P_point.2.1 17 = .ok (.invokevirtual 170, 3) := by decide +kernel
theorem d_P_point_20 : decode m_P_point.2.1 20 = .ok (.aload_n 0, 1) := by decide +kernel
theorem d_P_point_21 : decode m_P_point.2.1 21 = .ok (.getfield 97, 3) := by decide +kernel
theorem d_P_point_24 : decode m_P_point.2.1 24 = .ok (.aload_n 0, 1) := by decide +kernel
theorem d_P_point_25 : decode m_P_point.2.1 25 = .ok (.getfield 471, 3) := by decide +kernel
theorem d_P_point_28 : decode m_P_point.2.1 28 = .ok (.dload_n 1, 1) := by decide +kernel
theorem d_P_point_29 : decode m_P_point.2.1 29 = .ok (.dastore, 1) := by decide +kernel
theorem d_P_point_30 : decode m_P_point.2.1 30 = .ok (.aload_n 0, 1) := by decide +kernel
theorem d_P_point_31 : decode m_P_point.2.1 31 = .ok (.getfield 101, 3) := by decide +kernel
theorem d_P_point_34 : decode m_P_point.2.1 34 = .ok (.aload_n 0, 1) := by decide +kernel
theorem d_P_point_35 : decode m_P_point.2.1 35 = .ok (.getfield 471, 3) := by decide +kernel
theorem d_P_point_38 : decode m_P_point.2.1 38 = .ok (.dload_n 3, 1) := by decide +kernel
theorem d_P_point_39 : decode m_P_point.2.1 39 = .ok (.dastore, 1) := by decide +kernel
theorem d_P_point_40 : decode m_P_point.2.1 40 = .ok (.aload_n 0, 1) := by decide +kernel
theorem d_P_point_41 : decode m_P_point.2.1 41 = .ok (.getfield 104, 3) := by decide +kernel
theorem d_P_point_44 : decode m_P_point.2.1 44 = .ok (.aload_n 0, 1) := by decide +kernel
theorem d_P_point_45 : decode m_P_point.2.1 45 = .ok (.dup, 1) := by decide +kernel
theorem d_P_point_46 : decode m_P_point.2.1 46 = .ok (.getfield 471, 3) := by decide +kernel
theorem d_P_point_49 : decode m_P_point.2.1 49 = .ok (.dup_x1, 1) := by decide +kernel
theorem d_P_point_50 : decode m_P_point.2.1 50 = .ok (.iconst 1, 1) := by decide +kernel
theorem d_P_point_51 : decode m_P_point.2.1 51 = .ok (.iadd, 1) := by decide +kernel
theorem d_P_point_52 : decode m_P_point.2.1 52 = .ok (.putfield 471, 3) := by decide +kernel
theorem d_P_point_55 : decode m_P_point.2.1 55 = .ok (.iload 5, 2) := by decide +kernel
theorem d_P_point_57 : decode m_P_point.2.1 57 = .ok (.iastore, 1) := by decide +kernel
theorem d_P_point_58 : decode m_P_point.2.1 58 = .ok (.return_, 1) := by decide +kernel
theorem d_P_pass_0 : decode m_P_pass.2.1 0 = .ok (.aload_n 0, 1) := by decide +kernel
theorem d_P_pass_1 : decode m_P_pass.2.1 1 = .ok (.iconst 0, 1) := by decide +kernel
theorem d_P_pass_2 : decode m_P_pass.2.1 2 = .ok (.putfield 474, 3) := by decide +kernel
theorem d_P_pass_5 : decode m_P_pass.2.1 5 = .ok (.iconst 0, 1) := by decide +kernel
theorem d_P_pass_6 : decode m_P_pass.2.1 6 = .ok (.istore_n 3, 1) := by decide +kernel
theorem d_P_pass_7 : decode m_P_pass.2.1 7 = .ok (.iload_n 3, 1) := by decide +kernel
theorem d_P_pass_8 : decode m_P_pass.2.1 8 = .ok (.aload_n 0, 1) := by decide +kernel
theorem d_P_pass_9 : decode m_P_pass.2.1 9 = .ok (.getfield 471, 3) := by decide +kernel
theorem d_P_pass_12 : decode m_P_pass.2.1 12 = .ok (.if_icmp .ge 117, 3) := by decide +kernel
theorem d_P_pass_15 : decode m_P_pass.2.1 15 = .ok (.iload_n 3, 1) := by decide +kernel
theorem d_P_pass_16 : decode m_P_pass.2.1 16 = .ok (.iconst 1, 1) := by decide +kernel
theorem d_P_pass_17 : decode m_P_pass.2.1 17 = .ok (.iadd, 1) := by decide +kernel
theorem d_P_pass_18 : decode m_P_pass.2.1 18 = .ok (.aload_n 0, 1) := by decide +kernel
theorem d_P_pass_19 : decode m_P_pass.2.1 19 = .ok (.getfield 471, 3) := by decide +kernel
theorem d_P_pass_22 : decode m_P_pass.2.1 22 = .ok (.if_icmp .eq 20, 3) := by decide +kernel
theorem d_P_pass_25 : decode m_P_pass.2.1 25 = .ok (.aload_n 0, 1) := by decide +kernel
theorem d_P_pass_26 : decode m_P_pass.2.1 26 = .ok (.getfield 104, 3) := by decide +kernel
theorem d_P_pass_29 : decode m_P_pass.2.1 29 = .ok (.iload_n 3, 1) := by decide +kernel
theorem d_P_pass_30 : decode m_P_pass.2.1 30 = .ok (.iconst 1, 1) := by decide +kernel
theorem d_P_pass_31 : decode m_P_pass.2.1 31 = .ok (.iadd, 1) := by decide +kernel
theorem d_P_pass_32 : decode m_P_pass.2.1 32 = .ok (.iaload, 1) := by decide +kernel
theorem d_P_pass_33 : decode m_P_pass.2.1 33 = .ok (.aload_n 0, 1) := by decide +kernel
theorem d_P_pass_34 : decode m_P_pass.2.1 34 = .ok (.getfield 104, 3) := by decide +kernel
theorem d_P_pass_37 : decode m_P_pass.2.1 37 = .ok (.iload_n 3, 1) := by decide +kernel
theorem d_P_pass_38 : decode m_P_pass.2.1 38 = .ok (.iaload, 1) := by decide +kernel
theorem d_P_pass_39 : decode m_P_pass.2.1 39 = .ok (.if_icmp .eq 12, 3) := by decide +kernel
theorem d_P_pass_42 : decode m_P_pass.2.1 42 = .ok (.aload_n 0, 1) := by decide +kernel
theorem d_P_pass_43 : decode m_P_pass.2.1 43 = .ok (.getfield 104, 3) := by decide +kernel
theorem d_P_pass_46 : decode m_P_pass.2.1 46 = .ok (.iload_n 3, 1) := by decide +kernel
theorem d_P_pass_47 : decode m_P_pass.2.1 47 = .ok (.iaload, 1) := by decide +kernel
theorem d_P_pass_48 : decode m_P_pass.2.1 48 = .ok (.goto 6, 3) := by decide +kernel
theorem d_P_pass_51 : decode m_P_pass.2.1 51 = .ok (.iload_n 3, 1) := by decide +kernel
theorem d_P_pass_52 : decode m_P_pass.2.1 52 = .ok (.iconst 1, 1) := by decide +kernel
theorem d_P_pass_53 : decode m_P_pass.2.1 53 = .ok (.iadd, 1) := by decide +kernel
theorem d_P_pass_54 : decode m_P_pass.2.1 54 = .ok (.istore 4, 2) := by decide +kernel
theorem d_P_pass_56 : decode m_P_pass.2.1 56 = .ok (.aload_n 0, 1) := by decide +kernel
theorem d_P_pass_57 : decode m_P_pass.2.1 57 = .ok (.getfield 101, 3) := by decide +kernel
theorem d_P_pass_60 : decode m_P_pass.2.1 60 = .ok (.iload_n 3, 1) := by decide +kernel
theorem d_P_pass_61 : decode m_P_pass.2.1 61 = .ok (.daload, 1) := by decide +kernel
theorem d_P_pass_62 : decode m_P_pass.2.1 62 = .ok (.dload_n 1, 1) := by decide +kernel
theorem d_P_pass_63 : decode m_P_pass.2.1 63 = .ok (.dcmp .g, 1) := by decide +kernel
theorem d_P_pass_64 : decode m_P_pass.2.1 64 = .ok (.ifCond .gt 7, 3) := by decide +kernel
theorem d_P_pass_67 : decode m_P_pass.2.1 67 = .ok (.iconst 1, 1) := by decide +kernel
theorem d_P_pass_68 : decode m_P_pass.2.1 68 = .ok (.goto 4, 3) := by decide +kernel
theorem d_P_pass_71 : decode m_P_pass.2.1 71 = .ok (.iconst 0, 1) := by decide +kernel
theorem d_P_pass_72 : decode m_P_pass.2.1 72 = .ok (.aload_n 0, 1) := by decide +kernel
theorem d_P_pass_73 : decode m_P_pass.2.1 73 = .ok (.getfield 101, 3) := by decide +kernel
theorem d_P_pass_76 : decode m_P_pass.2.1 76 = .ok (.iload 4, 2) := by decide +kernel
theorem d_P_pass_78 : decode m_P_pass.2.1 78 = .ok (.daload, 1) := by decide +kernel
theorem d_P_pass_79 : decode m_P_pass.2.1 79 = .ok (.dload_n 1, 1) := by decide +kernel
theorem d_P_pass_80 : decode m_P_pass.2.1 80 = .ok (.dcmp .g, 1) := by decide +kernel
theorem d_P_pass_81 : decode m_P_pass.2.1 81 = .ok (.ifCond .gt 7, 3) := by decide +kernel
theorem d_P_pass_84 : decode m_P_pass.2.1 84 = .ok (.iconst 1, 1) := by decide +kernel
theorem d_P_pass_85 : decode m_P_pass.2.1 85 = .ok (.goto 4, 3) := by decide +kernel
theorem d_P_pass_88 : decode m_P_pass.2.1 88 = .ok (.iconst 0, 1) := by decide +kernel
theorem d_P_pass_89 : decode m_P_pass.2.1 89 = .ok (.if_icmp .ne 6, 3) := by decide +kernel
theorem d_P_pass_92 : decode m_P_pass.2.1 92 = .ok (.goto 31, 3) := by decide +kernel
theorem d_P_pass_95 : decode m_P_pass.2.1 95 = .ok (.aload_n 0, 1) := by decide +kernel
theorem d_P_pass_96 : decode m_P_pass.2.1 96 = .ok (.getfield 107, 3) := by decide +kernel
theorem d_P_pass_99 : decode m_P_pass.2.1 99 = .ok (.aload_n 0, 1) := by decide +kernel
theorem d_P_pass_100 : decode m_P_pass.2.1 100 = .ok (.getfield 474, 3) := by decide +kernel
theorem d_P_pass_103 : decode m_P_pass.2.1 103 = .ok (.iload_n 3, 1) := by decide +kernel
theorem d_P_pass_104 : decode m_P_pass.2.1 104 = .ok (.iastore, 1) := by decide +kernel
theorem d_P_pass_105 : decode m_P_pass.2.1 105 = .ok (.aload_n 0, 1) := by decide +kernel
theorem d_P_pass_106 : decode m_P_pass.2.1 106 = .ok (.getfield 110, 3) := by decide +kernel
theorem d_P_pass_109 : decode m_P_pass.2.1 109 = .ok (.aload_n 0, 1) := by decide +kernel
theorem d_P_pass_110 : decode m_P_pass.2.1 110 = .ok (.dup, 1) := by decide +kernel
theorem d_P_pass_111 : decode m_P_pass.2.1 111 = .ok (.getfield 474, 3) := by decide +kernel
theorem d_P_pass_114 : decode m_P_pass.2.1 114 = .ok (.dup_x1, 1) := by decide +kernel
theorem d_P_pass_115 : decode m_P_pass.2.1 115 = .ok (.iconst 1, 1) := by decide +kernel
theorem d_P_pass_116 : decode m_P_pass.2.1 116 = .ok (.iadd, 1) := by decide +kernel
theorem d_P_pass_117 : decode m_P_pass.2.1 117 = .ok (.putfield 474, 3) := by decide +kernel
theorem d_P_pass_120 : decode m_P_pass.2.1 120 = .ok (.iload 4, 2) := by decide +kernel
theorem d_P_pass_122 : decode m_P_pass.2.1 122 = .ok (.iastore, 1) := by decide +kernel
theorem d_P_pass_123 : decode m_P_pass.2.1 123 = .ok (.iinc 3 1, 3) := by decide +kernel
theorem d_P_pass_126 : decode m_P_pass.2.1 126 = .ok (.goto (-119), 3) := by decide +kernel
theorem d_P_pass_129 : decode m_P_pass.2.1 129 = .ok (.return_, 1) := by decide +kernel
theorem d_P_isInside_0 : decode m_P_isInside.2.1 0 = .ok (.iconst 0, 1) := by decide +kernel
theorem d_P_isInside_1 : decode m_P_isInside.2.1 1 = .ok (.istore 6, 2) := by decide +kernel
theorem d_P_isInside_3 : decode m_P_isInside.2.1 3 = .ok (.iconst 0, 1) := by decide +kernel
theorem d_P_isInside_4 : decode m_P_isInside.2.1 4 = .ok (.istore 7, 2) := by decide +kernel
theorem d_P_isInside_6 : decode m_P_isInside.2.1 6 = .ok (.iconst 0, 1) := by decide +kernel
theorem d_P_isInside_7 : decode m_P_isInside.2.1 7 = .ok (.istore 8, 2) := by decide +kernel
theorem d_P_isInside_9 : decode m_P_isInside.2.1 9 = .ok (.iload 8, 2) := by decide +kernel
theorem d_P_isInside_11 : decode m_P_isInside.2.1 11 = .ok (.aload_n 0, 1) := by decide +kernel
theorem d_P_isInside_12 : decode m_P_isInside.2.1 12 = .ok (.getfield 474, 3) := by decide +kernel
theorem d_P_isInside_15 : decode m_P_isInside.2.1 15 = .ok (.if_icmp .ge 148, 3) := by decide +kernel
theorem d_P_isInside_18 : decode m_P_isInside.2.1 18 = .ok (.aload_n 0, 1) := by decide +kernel
theorem d_P_isInside_19 : decode m_P_isInside.2.1 19 = .ok (.getfield 107, 3) := by decide +kernel
theorem d_P_isInside_22 : decode m_P_isInside.2.1 22 = .ok (.iload 8, 2) := by decide +kernel
theorem d_P_isInside_24 : decode m_P_isInside.2.1 24 = .ok (.iaload, 1) := by decide +kernel
theorem d_P_isInside_25 : decode m_P_isInside.2.1 25 = .ok (.istore 9, 2) := by decide +kernel
theorem d_P_isInside_27 : decode m_P_isInside.2.1 27 = .ok (.aload_n 0, 1) := by decide +kernel
theorem d_P_isInside_28 : decode m_P_isInside.2.1 28 = .ok (.getfield 110, 3) := by decide +kernel
theorem d_P_isInside_31 : decode m_P_isInside.2.1 31 = .ok (.iload 8, 2) := by decide +kernel
theorem d_P_isInside_33 : decode m_P_isInside.2.1 33 = .ok (.iaload, 1) := by decide +kernel
theorem d_P_isInside_34 : decode m_P_isInside.2.1 34 = .ok (.istore 10, 2) := by decide +kernel
theorem d_P_isInside_36 : decode m_P_isInside.2.1 36 = .ok (.aload_n 0, 1) := by decide +kernel
theorem d_P_isInside_37 : decode m_P_isInside.2.1 37 = .ok (.getfield 97, 3) := by decide +kernel
theorem d_P_isInside_40 : decode m_P_isInside.2.1 40 = .ok (.iload 10, 2) := by decide +kernel
theorem d_P_isInside_42 : decode m_P_isInside.2.1 42 = .ok (.daload, 1) := by decide +kernel
theorem d_P_isInside_43 : decode m_P_isInside.2.1 43 = .ok (.aload_n 0, 1) := by decide +kernel
theorem d_P_isInside_44 : decode m_P_isInside.2.1 44 = .ok (.getfield 97, 3) := by decide +kernel
theorem d_P_isInside_47 : decode m_P_isInside.2.1 47 = .ok (.iload 9, 2) := by decide +kernel
theorem d_P_isInside_49 : decode m_P_isInside.2.1 49 = .ok (.daload, 1) := by decide +kernel
theorem d_P_isInside_50 : decode m_P_isInside.2.1 50 = .ok (.dsub, 1) := by decide +kernel
theorem d_P_isInside_51 : decode m_P_isInside.2.1 51 = .ok (.dload_n 3, 1) := by decide +kernel
theorem d_P_isInside_52 : decode m_P_isInside.2.1 52 = .ok (.aload_n 0, 1) := by decide +kernel
theorem d_P_isInside_53 : decode m_P_isInside.2.1 53 = .ok (.getfield 101, 3) := by decide +kernel
theorem d_P_isInside_56 : decode m_P_isInside.2.1 56 = .ok (.iload 9, 2) := by decide +kernel
theorem d_P_isInside_58 : decode m_P_isInside.2.1 58 = .ok (.daload, 1) := by decide +kernel
theorem d_P_isInside_59 : decode m_P_isInside.2.1 59 = .ok (.dsub, 1) := by decide +kernel
theorem d_P_isInside_60 : decode m_P_isInside.2.1 60 = .ok (.dmul, 1) := by decide +kernel
theorem d_P_isInside_61 : decode m_P_isInside.2.1 61 = .ok (.dload_n 1, 1) := by decide +kernel
theorem d_P_isInside_62 : decode m_P_isInside.2.1 62 = .ok (.aload_n 0, 1) := by decide +kernel
theorem d_P_isInside_63 : decode m_P_isInside.2.1 63 = .ok (.getfield 97, 3) := by decide +kernel
theorem d_P_isInside_66 : decode m_P_isInside.2.1 66 = .ok (.iload 9, 2) := by decide +kernel
theorem d_P_isInside_68 : decode m_P_isInside.2.1 68 = .ok (.daload, 1) := by decide +kernel
theorem d_P_isInside_69 : decode m_P_isInside.2.1 69 = .ok (.dsub, 1) := by decide +kernel
theorem d_P_isInside_70 : decode m_P_isInside.2.1 70 = .ok (.aload_n 0, 1) := by decide +kernel
theorem d_P_isInside_71 : decode m_P_isInside.2.1 71 = .ok (.getfield 101, 3) := by decide +kernel
theorem d_P_isInside_74 : decode m_P_isInside.2.1 74 = .ok (.iload 10, 2) := by decide +kernel
theorem d_P_isInside_76 : decode m_P_isInside.2.1 76 = .ok (.daload, 1) := by decide +kernel
theorem d_P_isInside_77 : decode m_P_isInside.2.1 77 = .ok (.aload_n 0, 1) := by decide +kernel
theorem d_P_isInside_78 : decode m_P_isInside.2.1 78 = .ok (.getfield 101, 3) := by decide +kernel
theorem d_P_isInside_81 : decode m_P_isInside.2.1 81 = .ok (.iload 9, 2) := by decide +kernel
theorem d_P_isInside_83 : decode m_P_isInside.2.1 83 = .ok (.daload, 1) := by decide +kernel
theorem d_P_isInside_84 : decode m_P_isInside.2.1 84 = .ok (.dsub, 1) := by decide +kernel
theorem d_P_isInside_85 : decode m_P_isInside.2.1 85 = .ok (.dmul, 1) := by decide +kernel
theorem d_P_isInside_86 : decode m_P_isInside.2.1 86 = .ok (.dsub, 1) := by decide +kernel
theorem d_P_isInside_87 : decode m_P_isInside.2.1 87 = .ok (.dstore 11, 2) := by decide +kernel
theorem d_P_isInside_89 : decode m_P_isInside.2.1 89 = .ok (.aload_n 0, 1) := by decide +kernel
theorem d_P_isInside_90 : decode m_P_isInside.2.1 90 = .ok (.getfield 101, 3) := by decide +kernel
theorem d_P_isInside_93 : decode m_P_isInside.2.1 93 = .ok (.iload 9, 2) := by decide +kernel
theorem d_P_isInside_95 : decode m_P_isInside.2.1 95 = .ok (.daload, 1) := by decide +kernel
theorem d_P_isInside_96 : decode m_P_isInside.2.1 96 = .ok (.aload_n 0, 1) := by decide +kernel
theorem d_P_isInside_97 : decode m_P_isInside.2.1 97 = .ok (.getfield 101, 3) := by decide +kernel
theorem d_P_isInside_100 : decode m_P_isInside.2.1 100 = .ok (.iload 10, 2) := by decide +kernel
theorem d_P_isInside_102 : decode m_P_isInside.2.1 102 = .ok (.daload, 1) := by decide +kernel
theorem d_P_isInside_103 : decode m_P_isInside.2.1 103 = .ok (.dcmp .g, 1) := by decide +kernel
theorem d_P_isInside_104 : decode m_P_isInside.2.1 104 = .ok (.ifCond .ge 7, 3) := by decide +kernel
theorem d_P_isInside_107 : decode m_P_isInside.2.1 107 = .ok (.iconst 1, 1) := by decide +kernel
theorem d_P_isInside_108 : decode m_P_isInside.2.1 108 = .ok (.goto 4, 3) := by decide +kernel
theorem d_P_isInside_111 : decode m_P_isInside.2.1 111 = .ok (.iconst 0, 1) := by decide +kernel
theorem d_P_isInside_112 : decode m_P_isInside.2.1 112 = .ok (.istore 13, 2) := by decide +kernel
theorem d_P_isInside_114 : decode m_P_isInside.2.1 114 = .ok (.iload 13, 2) := by decide +kernel
theorem d_P_isInside_116 : decode m_P_isInside.2.1 116 = .ok (.ifCond .eq 13, 3) := by decide +kernel
theorem d_P_isInside_119 : decode m_P_isInside.2.1 119 = .ok (.dload 11, 2) := by decide +kernel
theorem d_P_isInside_121 : decode m_P_isInside.2.1 121 = .ok (.dconst 0, 1) := by decide +kernel
theorem d_P_isInside_122 : decode m_P_isInside.2.1 122 = .ok (.dcmp .g, 1) := by decide +kernel
theorem d_P_isInside_123 : decode m_P_isInside.2.1 123 = .ok (.ifCond .gt 16, 3) := by decide +kernel
theorem d_P_isInside_126 : decode m_P_isInside.2.1 126 = .ok (.goto 31, 3) := by decide +kernel
theorem d_P_isInside_129 : decode m_P_isInside.2.1 129 = .ok (.dload 11, 2) := by decide +kernel
theorem d_P_isInside_131 : decode m_P_isInside.2.1 131 = .ok (.dconst 0, 1) := by decide +kernel
theorem d_P_isInside_132 : decode m_P_isInside.2.1 132 = .ok (.dcmp .l, 1) := by decide +kernel
theorem d_P_isInside_133 : decode m_P_isInside.2.1 133 = .ok (.ifCond .lt 6, 3) := by decide +kernel
theorem d_P_isInside_136 : decode m_P_isInside.2.1 136 = .ok (.goto 21, 3) := by decide +kernel
theorem d_P_isInside_139 : decode m_P_isInside.2.1 139 = .ok (.iload 6, 2) := by decide +kernel
theorem d_P_isInside_141 : decode m_P_isInside.2.1 141 = .ok (.iload 13, 2) := by decide +kernel
theorem d_P_isInside_143 : decode m_P_isInside.2.1 143 = .ok (.ifCond .eq 7, 3) := by decide +kernel
theorem d_P_isInside_146 : decode m_P_isInside.2.1 146 = .ok (.iconst 1, 1) := by decide +kernel
theorem d_P_isInside_147 : decode m_P_isInside.2.1 147 = .ok (.goto 4, 3) := by decide +kernel
theorem d_P_isInside_150 : decode m_P_isInside.2.1 150 = .ok (.iconst (-1), 1) := by decide +kernel
theorem d_P_isInside_151 : decode m_P_isInside.2.1 151 = .ok (.iadd, 1) := by decide +kernel
theorem d_P_isInside_152 : decode m_P_isInside.2.1 152 = .ok (.istore 6, 2) := by decide +kernel
theorem d_P_isInside_154 : decode m_P_isInside.2.1 154 = .ok (.iinc 7 1, 3) := by decide +kernel
theorem d_P_isInside_157 : decode m_P_isInside.2.1 157 = .ok (.iinc 8 1, 3) := by decide +kernel
theorem d_P_isInside_160 : decode m_P_isInside.2.1 160 = .ok (.goto (-151), 3) := by decide +kernel
theorem d_P_isInside_163 : decode m_P_isInside.2.1 163 = .ok (.iload 5, 2) := by decide +kernel
theorem d_P_isInside_165 : decode m_P_isInside.2.1 165 = .ok (.ifCond .eq 16, 3) := by decide +kernel
theorem d_P_isInside_168 : decode m_P_isInside.2.1 168 = .ok (.iload 6, 2) := by decide +kernel
theorem d_P_isInside_170 : decode m_P_isInside.2.1 170 = .ok (.ifCond .eq 7, 3) := by decide +kernel
theorem d_P_isInside_173 : decode m_P_isInside.2.1 173 = .ok (.iconst 1, 1) := by decide +kernel
theorem d_P_isInside_174 : decode m_P_isInside.2.1 174 = .ok (.goto 20, 3) := by decide +kernel
theorem d_P_isInside_177 : decode m_P_isInside.2.1 177 = .ok (.iconst 0, 1) := by decide +kernel
theorem d_P_isInside_178 : decode m_P_isInside.2.1 178 = .ok (.goto 16, 3) := by decide +kernel
theorem d_P_isInside_181 : decode m_P_isInside.2.1 181 = .ok (.iload 7, 2) := by decide +kernel
theorem d_P_isInside_183 : decode m_P_isInside.2.1 183 = .ok (.iconst 2, 1) := by decide +kernel
theorem d_P_isInside_184 : decode m_P_isInside.2.1 184 = .ok (.irem, 1) := by decide +kernel
theorem d_P_isInside_185 : decode m_P_isInside.2.1 185 = .ok (.iconst 1, 1) := by decide +kernel
theorem d_P_isInside_186 : decode m_P_isInside.2.1 186 = .ok (.if_icmp .ne 7, 3) := by decide +kernel
theorem d_P_isInside_189 : decode m_P_isInside.2.1 189 = .ok (.iconst 1, 1) := by decide +kernel
theorem d_P_isInside_190 : decode m_P_isInside.2.1 190 = .ok (.goto 4, 3) := by decide +kernel
theorem d_P_isInside_193 : decode m_P_isInside.2.1 193 = .ok (.iconst 0, 1) := by decide +kernel
theorem d_P_isInside_194 : decode m_P_isInside.2.1 194 = .ok (.ireturn, 1) := by decide +kernel
theorem d_P_paint_0 : decode m_P_paint.2.1 0 = .ok (.ldc_w 477, 3) := by decide +kernel
theorem d_P_paint_3 : decode m_P_paint.2.1 3 = .ok (.aload_n 0, 1) := by decide +kernel
theorem d_P_paint_4 : decode m_P_paint.2.1 4 = .ok (.getfield 93, 3) := by decide +kernel
theorem d_P_paint_7 : decode m_P_paint.2.1 7 = .ok (.fmul, 1) := by decide +kernel
theorem d_P_paint_8 : decode m_P_paint.2.1 8 = .ok (.ldc_w 478, 3) := by decide +kernel
theorem d_P_paint_11 : decode m_P_paint.2.1 11 = .ok (.fadd, 1) := by decide +kernel
theorem d_P_paint_12 : decode m_P_paint.2.1 12 = .ok (.f2i, 1) := by decide +kernel
theorem d_P_paint_13 : decode m_P_paint.2.1 13 = .ok (.istore_n 2, 1) := by decide +kernel
theorem d_P_paint_14 : decode m_P_paint.2.1 14 = .ok (.iconst 0, 1) := by decide +kernel
theorem d_P_paint_15 : decode m_P_paint.2.1 15 = .ok (.istore_n 3, 1) := by decide +kernel
theorem d_P_paint_16 : decode m_P_paint.2.1 16 = .ok (.iload_n 3, 1) := by decide +kernel
theorem d_P_paint_17 : decode m_P_paint.2.1 17 = .ok (.aload_n 0, 1) := by decide +kernel
theorem d_P_paint_18 : decode m_P_paint.2.1 18 = .ok (.getfield 121, 3) := by decide +kernel
theorem d_P_paint_21 : decode m_P_paint.2.1 21 = .ok (.if_icmp .ge 76, 3) := by decide +kernel
theorem d_P_paint_24 : decode m_P_paint.2.1 24 = .ok (.aload_n 0, 1) := by decide +kernel
theorem d_P_paint_25 : decode m_P_paint.2.1 25 = .ok (.iload_n 3, 1) := by decide +kernel
theorem d_P_paint_26 : decode m_P_paint.2.1 26 = .ok (.i2d, 1) := by decide +kernel
theorem d_P_paint_27 : decode m_P_paint.2.1 27 = .ok (.ldc2_w 479, 3) := by decide +kernel
theorem d_P_paint_30 : decode m_P_paint.2.1 30 = .ok (.dadd, 1) := by decide +kernel
theorem d_P_paint_31 : decode m_P_paint.2.1 31 = .ok (.invokevirtual 481, 3) := by decide +kernel
theorem d_P_paint_34 : decode m_P_paint.2.1 34 = .ok (.iconst 0, 1) := by decide +kernel
theorem d_P_paint_35 : decode m_P_paint.2.1 35 = .ok (.istore 4, 2) := by decide +kernel
theorem d_P_paint_37 : decode m_P_paint.2.1 37 = .ok (.iload 4, 2) := by decide +kernel
theorem d_P_paint_39 : decode m_P_paint.2.1 39 = .ok (.aload_n 0, 1) := by decide +kernel
theorem d_P_paint_40 : decode m_P_paint.2.1 40 = .ok (.getfield 118, 3) := by decide +kernel
theorem d_P_paint_43 : decode m_P_paint.2.1 43 = .ok (.if_icmp .ge 48, 3) := by decide +kernel
theorem d_P_paint_46 : decode m_P_paint.2.1 46 = .ok (.aload_n 0, 1) := by decide +kernel
theorem d_P_paint_47 : decode m_P_paint.2.1 47 = .ok (.getfield 474, 3) := by decide +kernel
theorem d_P_paint_50 : decode m_P_paint.2.1 50 = .ok (.ifCond .le 41, 3) := by decide +kernel
theorem d_P_paint_53 : decode m_P_paint.2.1 53 = .ok (.aload_n 0, 1) := by decide +kernel
theorem d_P_paint_54 : decode m_P_paint.2.1 54 = .ok (.iload 4, 2) := by decide +kernel
theorem d_P_paint_56 : decode m_P_paint.2.1 56 = .ok (.i2d, 1) := by decide +kernel
theorem d_P_paint_57 : decode m_P_paint.2.1 57 = .ok (.ldc2_w 479, 3) := by decide +kernel
theorem d_P_paint_60 : decode m_P_paint.2.1 60 = .ok (.dadd, 1) := by decide +kernel
theorem d_P_paint_61 : decode m_P_paint.2.1 61 = .ok (.iload_n 3, 1) := by decide +kernel
theorem d_P_paint_62 : decode m_P_paint.2.1 62 = .ok (.i2d, 1) := by decide +kernel
theorem d_P_paint_63 : decode m_P_paint.2.1 63 = .ok (.ldc2_w 479, 3) := by decide +kernel
theorem d_P_paint_66 : decode m_P_paint.2.1 66 = .ok (.dadd, 1) := by decide +kernel
theorem d_P_paint_67 : decode m_P_paint.2.1 67 = .ok (.iload_n 1, 1) := by decide +kernel
theorem d_P_paint_68 : decode m_P_paint.2.1 68 = .ok (.invokevirtual 484, 3) := by decide +kernel
theorem d_P_paint_71 : decode m_P_paint.2.1 71 = .ok (.ifCond .eq 14, 3) := by decide +kernel
theorem d_P_paint_74 : decode m_P_paint.2.1 74 = .ok (.aload_n 0, 1) := by decide +kernel
theorem d_P_paint_75 : decode m_P_paint.2.1 75 = .ok (.getfield 115, 3) := by decide +kernel
theorem d_P_paint_78 : decode m_P_paint.2.1 78 = .ok (.iload_n 3, 1) := by decide +kernel
theorem d_P_paint_79 : decode m_P_paint.2.1 79 = .ok (.aaload, 1) := by decide +kernel
theorem d_P_paint_80 : decode m_P_paint.2.1 80 = .ok (.iload 4, 2) := by decide +kernel
theorem d_P_paint_82 : decode m_P_paint.2.1 82 = .ok (.iload_n 2, 1) := by decide +kernel
theorem d_P_paint_83 : decode m_P_paint.2.1 83 = .ok (.i2b, 1) := by decide +kernel
theorem d_P_paint_84 : decode m_P_paint.2.1 84 = .ok (.bastore, 1) := by decide +kernel
theorem d_P_paint_85 : decode m_P_paint.2.1 85 = .ok (.iinc 4 1, 3) := by decide +kernel
theorem d_P_paint_88 : decode m_P_paint.2.1 88 = .ok (.goto (-51), 3) := by decide +kernel
theorem d_P_paint_91 : decode m_P_paint.2.1 91 = .ok (.iinc 3 1, 3) := by decide +kernel
theorem d_P_paint_94 : decode m_P_paint.2.1 94 = .ok (.goto (-78), 3) := by decide +kernel
theorem d_P_paint_97 : decode m_P_paint.2.1 97 = .ok (.aload_n 0, 1) := by decide +kernel
theorem d_P_paint_98 : decode m_P_paint.2.1 98 = .ok (.iconst 0, 1) := by decide +kernel
theorem d_P_paint_99 : decode m_P_paint.2.1 99 = .ok (.putfield 471, 3) := by decide +kernel
theorem d_P_paint_102 : decode m_P_paint.2.1 102 = .ok (.return_, 1) := by decide +kernel
theorem d_Paint_perform_0 : decode m_Paint_perform.2.1 0 = .ok (.aload_n 1, 1) := by decide +kernel
theorem d_Paint_perform_1 : decode m_Paint_perform.2.1 1 = .ok (.aload_n 2, 1) := by decide +kernel
theorem d_Paint_perform_2 : decode m_Paint_perform.2.1 2 = .ok (.getfield 9, 3) := by decide +kernel
theorem d_Paint_perform_5 : decode m_Paint_perform.2.1 5 = .ok (.ifCond .eq 18, 3) := by decide +kernel
theorem d_Paint_perform_8 : decode m_Paint_perform.2.1 8 = .ok (.aload_n 3, 1) := by decide +kernel
theorem d_Paint_perform_9 : decode m_Paint_perform.2.1 9 = .ok (.invokevirtual 15, 3) := by decide +kernel
theorem d_Paint_perform_12 : decode m_Paint_perform.2.1 12 = .ok (.ifCond .eq 15, 3) := by decide +kernel
theorem d_Paint_perform_15 : decode m_Paint_perform.2.1 15 = .ok (.aload 4, 2) := by decide +kernel
theorem d_Paint_perform_17 : decode m_Paint_perform.2.1 17 = .ok (.invokevirtual 15, 3) := by decide +kernel
theorem d_Paint_perform_20 : decode m_Paint_perform.2.1 20 = .ok (.ifCond .eq 7, 3) := by decide +kernel
theorem d_Paint_perform_23 : decode m_Paint_perform.2.1 23 = .ok (.iconst 1, 1) := by decide +kernel
theorem d_Paint_perform_24 : decode m_Paint_perform.2.1 24 = .ok (.goto 4, 3) := by decide +kernel
theorem d_Paint_perform_27 : decode m_Paint_perform.2.1 27 = .ok (.iconst 0, 1) := by decide +kernel
theorem d_Paint_perform_28 : decode m_Paint_perform.2.1 28 = .ok (.invokevirtual 21, 3) := by decide +kernel
theorem d_Paint_perform_31 : decode m_Paint_perform.2.1 31 = .ok (.aload_n 2, 1) := by decide +kernel
theorem d_Paint_perform_32 : decode m_Paint_perform.2.1 32 = .ok (.getfield 9, 3) := by decide +kernel
theorem d_Paint_perform_35 : decode m_Paint_perform.2.1 35 = .ok (.ifCond .ne 7, 3) := by decide +kernel
theorem d_Paint_perform_38 : decode m_Paint_perform.2.1 38 = .ok (.dconst 0, 1) := by decide +kernel
theorem d_Paint_perform_39 : decode m_Paint_perform.2.1 39 = .ok (.goto 7, 3) := by decide +kernel
theorem d_Paint_perform_42 : decode m_Paint_perform.2.1 42 = .ok (.aload_n 3, 1) := by decide +kernel
theorem d_Paint_perform_43 : decode m_Paint_perform.2.1 43 = .ok (.invokevirtual 25, 3) := by decide +kernel
theorem d_Paint_perform_46 : decode m_Paint_perform.2.1 46 = .ok (.dstore 6, 2) := by decide +kernel
theorem d_Paint_perform_48 : decode m_Paint_perform.2.1 48 = .ok (.aload_n 2, 1) := by decide +kernel
theorem d_Paint_perform_49 : decode m_Paint_perform.2.1 49 = .ok (.getfield 9, 3) := by decide +kernel
theorem d_Paint_perform_52 : decode m_Paint_perform.2.1 52 = .ok (.ifCond .ne 7, 3) := by decide +kernel
theorem d_Paint_perform_55 : decode m_Paint_perform.2.1 55 = .ok (.dconst 0, 1) := by decide +kernel
theorem d_Paint_perform_56 : decode m_Paint_perform.2.1 56 = .ok (.goto 8, 3) := by decide +kernel
theorem d_Paint_perform_59 : decode m_Paint_perform.2.1 59 = .ok (.aload 4, 2) := by decide +kernel
theorem d_Paint_perform_61 : decode m_Paint_perform.2.1 61 = .ok (.invokevirtual 25, 3) := by decide +kernel
theorem d_Paint_perform_64 : decode m_Paint_perform.2.1 64 = .ok (.dstore 8, 2) := by decide +kernel
theorem d_Paint_perform_66 : decode m_Paint_perform.2.1 66 = .ok (.aload_n 1, 1) := by decide +kernel
theorem d_Paint_perform_67 : decode m_Paint_perform.2.1 67 = .ok (.dload 6, 2) := by decide +kernel
theorem d_Paint_perform_69 : decode m_Paint_perform.2.1 69 = .ok (.ldc2_w 29, 3) := by decide +kernel
theorem d_Paint_perform_72 : decode m_Paint_perform.2.1 72 = .ok (.dcmp .g, 1) := by decide +kernel
theorem d_Paint_perform_73 : decode m_Paint_perform.2.1 73 = .ok (.ifCond .gt 34, 3) := by decide +kernel
theorem d_Paint_perform_76 : decode m_Paint_perform.2.1 76 = .ok (.dload 6, 2) := by decide +kernel
theorem d_Paint_perform_78 : decode m_Paint_perform.2.1 78 = .ok (.ldc2_w 31, 3) := by decide +kernel
theorem d_Paint_perform_81 : decode m_Paint_perform.2.1 81 = .ok (.dcmp .l, 1) := by decide +kernel
theorem d_Paint_perform_82 : decode m_Paint_perform.2.1 82 = .ok (.ifCond .lt 25, 3) := by decide +kernel
theorem d_Paint_perform_85 : decode m_Paint_perform.2.1 85 = .ok (.dload 8, 2) := by decide +kernel
theorem d_Paint_perform_87 : decode m_Paint_perform.2.1 87 = .ok (.ldc2_w 29, 3) := by decide +kernel
theorem d_Paint_perform_90 : decode m_Paint_perform.2.1 90 = .ok (.dcmp .g, 1) := by decide +kernel
theorem d_Paint_perform_91 : decode m_Paint_perform.2.1 91 = .ok (.ifCond .gt 16, 3) := by decide +kernel
theorem d_Paint_perform_94 : decode m_Paint_perform.2.1 94 = .ok (.dload 8, 2) := by decide +kernel
theorem d_Paint_perform_96 : decode m_Paint_perform.2.1 96 = .ok (.ldc2_w 31, 3) := by decide +kernel
theorem d_Paint_perform_99 : decode m_Paint_perform.2.1 99 = .ok (.dcmp .l, 1) := by decide +kernel
theorem d_Paint_perform_100 : decode m_Paint_perform.2.1 100 = .ok (.ifCond .lt 7, 3) := by decide +kernel
theorem d_Paint_perform_103 : decode m_Paint_perform.2.1 103 = .ok (.iconst 1, 1) := by decide +kernel
theorem d_Paint_perform_104 : decode m_Paint_perform.2.1 104 = .ok (.goto 4, 3) := by decide +kernel
theorem d_Paint_perform_107 : decode m_Paint_perform.2.1 107 = .ok (.iconst 0, 1) := by decide +kernel
theorem d_Paint_perform_108 : decode m_Paint_perform.2.1 108 = .ok (.iconst 4, 1) := by decide +kernel
theorem d_Paint_perform_109 : decode m_Paint_perform.2.1 109 = .ok (.invokevirtual 33, 3) := by decide +kernel
theorem d_Paint_perform_112 : decode m_Paint_perform.2.1 112 = .ok (.aload_n 2, 1) := by decide +kernel
theorem d_Paint_perform_113 : decode m_Paint_perform.2.1 113 = .ok (.invokevirtual 37, 3) := by decide +kernel
theorem d_Paint_perform_116 : decode m_Paint_perform.2.1 116 = .ok (.tableswitch 120 65 71 #[44, 78, 86, 120, 120, 101, 101], 44) := by decide +kernel
theorem d_Paint_perform_160 : decode m_Paint_perform.2.1 160 = .ok (.aload_n 1, 1) := by decide +kernel
theorem d_Paint_perform_161 : decode m_Paint_perform.2.1 161 = .ok (.dload 6, 2) := by decide +kernel
theorem d_Paint_perform_163 : decode m_Paint_perform.2.1 163 = .ok (.dconst 0, 1) := by decide +kernel
theorem d_Paint_perform_164 : decode m_Paint_perform.2.1 164 = .ok (.dcmp .l, 1) := by decide +kernel
theorem d_Paint_perform_165 : decode m_Paint_perform.2.1 165 = .ok (.ifCond .lt 14, 3) := by decide +kernel
theorem d_Paint_perform_168 : decode m_Paint_perform.2.1 168 = .ok (.dload 6, 2) := by decide +kernel
theorem d_Paint_perform_170 : decode m_Paint_perform.2.1 170 = .ok (.dconst 1, 1) := by decide +kernel
theorem d_Paint_perform_171 : decode m_Paint_perform.2.1 171 = .ok (.dcmp .g, 1) := by decide +kernel
theorem d_Paint_perform_172 : decode m_Paint_perform.2.1 172 = .ok (.ifCond .gt 7, 3) := by decide +kernel
theorem d_Paint_perform_175 : decode m_Paint_perform.2.1 175 = .ok (.iconst 1, 1) := by decide +kernel
theorem d_Paint_perform_176 : decode m_Paint_perform.2.1 176 = .ok (.goto 4, 3) := by decide +kernel
theorem d_Paint_perform_179 : decode m_Paint_perform.2.1 179 = .ok (.iconst 0, 1) := by decide +kernel
theorem d_Paint_perform_180 : decode m_Paint_perform.2.1 180 = .ok (.iconst 4, 1) := by decide +kernel
theorem d_Paint_perform_181 : decode m_Paint_perform.2.1 181 = .ok (.invokevirtual 33, 3) := by decide +kernel
theorem d_Paint_perform_184 : decode m_Paint_perform.2.1 184 = .ok (.aload_n 1, 1) := by decide +kernel
theorem d_Paint_perform_185 : decode m_Paint_perform.2.1 185 = .ok (.dload 6, 2) := by decide +kernel
theorem d_Paint_perform_187 : decode m_Paint_perform.2.1 187 = .ok (.d2f, 1) := by decide +kernel
theorem d_Paint_perform_188 : decode m_Paint_perform.2.1 188 = .ok (.putfield 41, 3) := by decide +kernel
theorem d_Paint_perform_191 : decode m_Paint_perform.2.1 191 = .ok (.goto 116, 3) := by decide +kernel
theorem d_Paint_perform_194 : decode m_Paint_perform.2.1 194 = .ok (.aload_n 1, 1) := by decide +kernel
theorem d_Paint_perform_195 : decode m_Paint_perform.2.1 195 = .ok (.iconst 0, 1) := by decide +kernel
theorem d_Paint_perform_196 : decode m_Paint_perform.2.1 196 = .ok (.putfield 45, 3) := by decide +kernel
theorem d_Paint_perform_199 : decode m_Paint_perform.2.1 199 = .ok (.goto 108, 3) := by decide +kernel
theorem d_Paint_perform_202 : decode m_Paint_perform.2.1 202 = .ok (.aload_n 1, 1) := by decide +kernel
theorem d_Paint_perform_203 : decode m_Paint_perform.2.1 203 = .ok (.dload 6, 2) := by decide +kernel
theorem d_Paint_perform_205 : decode m_Paint_perform.2.1 205 = .ok (.dload 8, 2) := by decide +kernel
theorem d_Paint_perform_207 : decode m_Paint_perform.2.1 207 = .ok (.aload_n 1, 1) := by decide +kernel
theorem d_Paint_perform_208 : decode m_Paint_perform.2.1 208 = .ok (.getfield 45, 3) := by decide +kernel
theorem d_Paint_perform_211 : decode m_Paint_perform.2.1 211 = .ok (.invokevirtual 48, 3) := by decide +kernel
theorem d_Paint_perform_214 : decode m_Paint_perform.2.1 214 = .ok (.goto 93, 3) := by decide +kernel
theorem d_Paint_perform_217 : decode m_Paint_perform.2.1 217 = .ok (.aload_n 1, 1) := by decide +kernel
theorem d_Paint_perform_218 : decode m_Paint_perform.2.1 218 = .ok (.aload_n 2, 1) := by decide +kernel
theorem d_Paint_perform_219 : decode m_Paint_perform.2.1 219 = .ok (.getstatic 52, 3) := by decide +kernel
theorem d_Paint_perform_222 : decode m_Paint_perform.2.1 222 = .ok (.if_acmp .ne 7, 3) := by decide +kernel
theorem d_Paint_perform_225 : decode m_Paint_perform.2.1 225 = .ok (.iconst 1, 1) := by decide +kernel
theorem d_Paint_perform_226 : decode m_Paint_perform.2.1 226 = .ok (.goto 4, 3) := by decide +kernel
theorem d_Paint_perform_229 : decode m_Paint_perform.2.1 229 = .ok (.iconst 0, 1) := by decide +kernel
theorem d_Paint_perform_230 : decode m_Paint_perform.2.1 230 = .ok (.invokevirtual 56, 3) := by decide +kernel
theorem d_Paint_perform_233 : decode m_Paint_perform.2.1 233 = .ok (.goto 74, 3) := by decide +kernel
theorem d_Paint_perform_236 : decode m_Paint_perform.2.1 236 = .ok (.aload_n 1, 1) := by decide +kernel
theorem d_Paint_perform_237 : decode m_Paint_perform.2.1 237 = .ok (.aload_n 1, 1) := by decide +kernel
theorem d_Paint_perform_238 : decode m_Paint_perform.2.1 238 = .ok (.getfield 45, 3) := by decide +kernel
theorem d_Paint_perform_241 : decode m_Paint_perform.2.1 241 = .ok (.ifCond .le 7, 3) := by decide +kernel
theorem d_Paint_perform_244 : decode m_Paint_perform.2.1 244 = .ok (.iconst 1, 1) := by decide +kernel
theorem d_Paint_perform_245 : decode m_Paint_perform.2.1 245 = .ok (.goto 4, 3) := by decide +kernel
theorem d_Paint_perform_248 : decode m_Paint_perform.2.1 248 = .ok (.iconst 0, 1) := by decide +kernel
theorem d_Paint_perform_249 : decode m_Paint_perform.2.1 249 = .ok (.bipush 13, 2) := by decide +kernel
theorem d_Paint_perform_251 : decode m_Paint_perform.2.1 251 = .ok (.invokevirtual 33, 3) := by decide +kernel
theorem d_Paint_perform_254 : decode m_Paint_perform.2.1 254 = .ok (.aload_n 1, 1) := by decide +kernel
theorem d_Paint_perform_255 : decode m_Paint_perform.2.1 255 = .ok (.getfield 59, 3) := by decide +kernel
theorem d_Paint_perform_258 : decode m_Paint_perform.2.1 258 = .ok (.aload_n 1, 1) := by decide +kernel
theorem d_Paint_perform_259 : decode m_Paint_perform.2.1 259 = .ok (.getfield 45, 3) := by decide +kernel
theorem d_Paint_perform_262 : decode m_Paint_perform.2.1 262 = .ok (.iconst 1, 1) := by decide +kernel
theorem d_Paint_perform_263 : decode m_Paint_perform.2.1 263 = .ok (.isub, 1) := by decide +kernel
theorem d_Paint_perform_264 : decode m_Paint_perform.2.1 264 = .ok (.iaload, 1) := by decide +kernel
theorem d_Paint_perform_265 : decode m_Paint_perform.2.1 265 = .ok (.istore 10, 2) := by decide +kernel
theorem d_Paint_perform_267 : decode m_Paint_perform.2.1 267 = .ok (.aload_n 2, 1) := by decide +kernel
theorem d_Paint_perform_268 : decode m_Paint_perform.2.1 268 = .ok (.getstatic 63, 3) := by decide +kernel
theorem d_Paint_perform_271 : decode m_Paint_perform.2.1 271 = .ok (.if_acmp .ne 16, 3) := by decide +kernel
theorem d_Paint_perform_274 : decode m_Paint_perform.2.1 274 = .ok (.aload_n 1, 1) := by decide +kernel
theorem d_Paint_perform_275 : decode m_Paint_perform.2.1 275 = .ok (.dload 6, 2) := by decide +kernel
theorem d_Paint_perform_277 : decode m_Paint_perform.2.1 277 = .ok (.dload 8, 2) := by decide +kernel
theorem d_Paint_perform_279 : decode m_Paint_perform.2.1 279 = .ok (.iload 10, 2) := by decide +kernel
theorem d_Paint_perform_281 : decode m_Paint_perform.2.1 281 = .ok (.invokevirtual 48, 3) := by decide +kernel
theorem d_Paint_perform_284 : decode m_Paint_perform.2.1 284 = .ok (.goto 23, 3) := by decide +kernel
theorem d_Paint_perform_287 : decode m_Paint_perform.2.1 287 = .ok (.aload_n 1, 1) := by decide +kernel
theorem d_Paint_perform_288 : decode m_Paint_perform.2.1 288 = .ok (.aload_n 1, 1) := by decide +kernel
theorem d_Paint_perform_289 : decode m_Paint_perform.2.1 289 = .ok (.getfield 66, 3) := by decide +kernel
theorem d_Paint_perform_292 : decode m_Paint_perform.2.1 292 = .ok (.iload 10, 2) := by decide +kernel
theorem d_Paint_perform_294 : decode m_Paint_perform.2.1 294 = .ok (.daload, 1) := by decide +kernel
theorem d_Paint_perform_295 : decode m_Paint_perform.2.1 295 = .ok (.aload_n 1, 1) := by decide +kernel
theorem d_Paint_perform_296 : decode m_Paint_perform.2.1 296 = .ok (.getfield 70, 3) := by decide +kernel
theorem d_Paint_perform_299 : decode m_Paint_perform.2.1 299 = .ok (.iload 10, 2) := by decide +kernel
theorem d_Paint_perform_301 : decode m_Paint_perform.2.1 301 = .ok (.daload, 1) := by decide +kernel
theorem d_Paint_perform_302 : decode m_Paint_perform.2.1 302 = .ok (.iload 10, 2) := by decide +kernel
theorem d_Paint_perform_304 : decode m_Paint_perform.2.1 304 = .ok (.invokevirtual 48, 3) := by decide +kernel
theorem d_Paint_perform_307 : decode m_Paint_perform.2.1 307 = .ok (.aload_n 1, 1) := by decide +kernel
theorem d_Paint_perform_308 : decode m_Paint_perform.2.1 308 = .ok (.dup, 1) := by decide +kernel
theorem d_Paint_perform_309 : decode m_Paint_perform.2.1 309 = .ok (.getfield 73, 3) := by decide +kernel
theorem d_Paint_perform_312 : decode m_Paint_perform.2.1 312 = .ok (.aload_n 2, 1) := by decide +kernel
theorem d_Paint_perform_313 : decode m_Paint_perform.2.1 313 = .ok (.getfield 9, 3) := by decide +kernel
theorem d_Paint_perform_316 : decode m_Paint_perform.2.1 316 = .ok (.isub, 1) := by decide +kernel
theorem d_Paint_perform_317 : decode m_Paint_perform.2.1 317 = .ok (.putfield 73, 3) := by decide +kernel
theorem d_Paint_perform_320 : decode m_Paint_perform.2.1 320 = .ok (.return_, 1) := by decide +kernel
theorem d_Stacks_copy_0 : decode m_Stacks_copy.2.1 0 = .ok (.aload_n 0, 1) := by decide +kernel
theorem d_Stacks_copy_1 : decode m_Stacks_copy.2.1 1 = .ok (.aload_n 1, 1) := by decide +kernel
theorem d_Stacks_copy_2 : decode m_Stacks_copy.2.1 2 = .ok (.getstatic 33, 3) := by decide +kernel
theorem d_Stacks_copy_5 : decode m_Stacks_copy.2.1 5 = .ok (.invokevirtual 39, 3) := by decide +kernel
theorem d_Stacks_copy_8 : decode m_Stacks_copy.2.1 8 = .ok (.invokevirtual 45, 3) := by decide +kernel
theorem d_Stacks_copy_11 : decode m_Stacks_copy.2.1 11 = .ok (.aload_n 1, 1) := by decide +kernel
theorem d_Stacks_copy_12 : decode m_Stacks_copy.2.1 12 = .ok (.getfield 49, 3) := by decide +kernel
theorem d_Stacks_copy_15 : decode m_Stacks_copy.2.1 15 = .ok (.istore_n 2, 1) := by decide +kernel
theorem d_Stacks_copy_16 : decode m_Stacks_copy.2.1 16 = .ok (.aload_n 0, 1) := by decide +kernel
theorem d_Stacks_copy_17 : decode m_Stacks_copy.2.1 17 = .ok (.iload_n 2, 1) := by decide +kernel
theorem d_Stacks_copy_18 : decode m_Stacks_copy.2.1 18 = .ok (.ifCond .lt 15, 3) := by decide +kernel
theorem d_Stacks_copy_21 : decode m_Stacks_copy.2.1 21 = .ok (.iload_n 2, 1) := by decide +kernel
theorem d_Stacks_copy_22 : decode m_Stacks_copy.2.1 22 = .ok (.aload_n 0, 1) := by decide +kernel
theorem d_Stacks_copy_23 : decode m_Stacks_copy.2.1 23 = .ok (.getfield 15, 3) := by decide +kernel
theorem d_Stacks_copy_26 : decode m_Stacks_copy.2.1 26 = .ok (.if_icmp .ge 7, 3) := by decide +kernel
theorem d_Stacks_copy_29 : decode m_Stacks_copy.2.1 29 = .ok (.iconst 1, 1) := by decide +kernel
theorem d_Stacks_copy_30 : decode m_Stacks_copy.2.1 30 = .ok (.goto 4, 3) := by decide +kernel
theorem d_Stacks_copy_33 : decode m_Stacks_copy.2.1 33 = .ok (.iconst 0, 1) := by decide +kernel
theorem d_Stacks_copy_34 : decode m_Stacks_copy.2.1 34 = .ok (.iconst 4, 1) := by decide +kernel
theorem d_Stacks_copy_35 : decode m_Stacks_copy.2.1 35 = .ok (.invokevirtual 52, 3) := by decide +kernel
theorem d_Stacks_copy_38 : decode m_Stacks_copy.2.1 38 = .ok (.aload_n 0, 1) := by decide +kernel
theorem d_Stacks_copy_39 : decode m_Stacks_copy.2.1 39 = .ok (.aload_n 0, 1) := by decide +kernel
theorem d_Stacks_copy_40 : decode m_Stacks_copy.2.1 40 = .ok (.getfield 15, 3) := by decide +kernel
theorem d_Stacks_copy_43 : decode m_Stacks_copy.2.1 43 = .ok (.iconst 1, 1) := by decide +kernel
theorem d_Stacks_copy_44 : decode m_Stacks_copy.2.1 44 = .ok (.isub, 1) := by decide +kernel
theorem d_Stacks_copy_45 : decode m_Stacks_copy.2.1 45 = .ok (.iload_n 2, 1) := by decide +kernel
theorem d_Stacks_copy_46 : decode m_Stacks_copy.2.1 46 = .ok (.iadd, 1) := by decide +kernel
theorem d_Stacks_copy_47 : decode m_Stacks_copy.2.1 47 = .ok (.bipush 40, 2) := by decide +kernel
theorem d_Stacks_copy_49 : decode m_Stacks_copy.2.1 49 = .ok (.if_icmp .gt 7, 3) := by decide +kernel
theorem d_Stacks_copy_52 : decode m_Stacks_copy.2.1 52 = .ok (.iconst 1, 1) := by decide +kernel
theorem d_Stacks_copy_53 : decode m_Stacks_copy.2.1 53 = .ok (.goto 4, 3) := by decide +kernel
theorem d_Stacks_copy_56 : decode m_Stacks_copy.2.1 56 = .ok (.iconst 0, 1) := by decide +kernel
theorem d_Stacks_copy_57 : decode m_Stacks_copy.2.1 57 = .ok (.iconst 2, 1) := by decide +kernel
theorem d_Stacks_copy_58 : decode m_Stacks_copy.2.1 58 = .ok (.invokevirtual 52, 3) := by decide +kernel
theorem d_Stacks_copy_61 : decode m_Stacks_copy.2.1 61 = .ok (.aload_n 0, 1) := by decide +kernel
theorem d_Stacks_copy_62 : decode m_Stacks_copy.2.1 62 = .ok (.dup, 1) := by decide +kernel
theorem d_Stacks_copy_63 : decode m_Stacks_copy.2.1 63 = .ok (.getfield 15, 3) := by decide +kernel
theorem d_Stacks_copy_66 : decode m_Stacks_copy.2.1 66 = .ok (.iconst 1, 1) := by decide +kernel
theorem d_Stacks_copy_67 : decode m_Stacks_copy.2.1 67 = .ok (.isub, 1) := by decide +kernel
theorem d_Stacks_copy_68 : decode m_Stacks_copy.2.1 68 = .ok (.putfield 15, 3) := by decide +kernel
theorem d_Stacks_copy_71 : decode m_Stacks_copy.2.1 71 = .ok (.iconst 0, 1) := by decide +kernel
theorem d_Stacks_copy_72 : decode m_Stacks_copy.2.1 72 = .ok (.istore_n 3, 1) := by decide +kernel
theorem d_Stacks_copy_73 : decode m_Stacks_copy.2.1 73 = .ok (.iload_n 3, 1) := by decide +kernel
theorem d_Stacks_copy_74 : decode m_Stacks_copy.2.1 74 = .ok (.iload_n 2, 1) := by decide +kernel
theorem d_Stacks_copy_75 : decode m_Stacks_copy.2.1 75 = .ok (.if_icmp .ge 20, 3) := by decide +kernel
theorem d_Stacks_copy_78 : decode m_Stacks_copy.2.1 78 = .ok (.aload_n 0, 1) := by decide +kernel
theorem d_Stacks_copy_79 : decode m_Stacks_copy.2.1 79 = .ok (.aload_n 0, 1) := by decide +kernel
theorem d_Stacks_copy_80 : decode m_Stacks_copy.2.1 80 = .ok (.iload_n 2, 1) := by decide +kernel
theorem d_Stacks_copy_81 : decode m_Stacks_copy.2.1 81 = .ok (.iconst 1, 1) := by decide +kernel
theorem d_Stacks_copy_82 : decode m_Stacks_copy.2.1 82 = .ok (.isub, 1) := by decide +kernel
theorem d_Stacks_copy_83 : decode m_Stacks_copy.2.1 83 = .ok (.invokevirtual 56, 3) := by decide +kernel
theorem d_Stacks_copy_86 : decode m_Stacks_copy.2.1 86 = .ok (.invokevirtual 23, 3) := by decide +kernel
theorem d_Stacks_copy_89 : decode m_Stacks_copy.2.1 89 = .ok (.iinc 3 1, 3) := by decide +kernel
theorem d_Stacks_copy_92 : decode m_Stacks_copy.2.1 92 = .ok (.goto (-19), 3) := by decide +kernel
theorem d_Stacks_copy_95 : decode m_Stacks_copy.2.1 95 = .ok (.return_, 1) := by decide +kernel
theorem d_Stacks_roll_0 : decode m_Stacks_roll.2.1 0 = .ok (.aload_n 0, 1) := by decide +kernel
theorem d_Stacks_roll_1 : decode m_Stacks_roll.2.1 1 = .ok (.aload_n 1, 1) := by decide +kernel
theorem d_Stacks_roll_2 : decode m_Stacks_roll.2.1 2 = .ok (.getstatic 33, 3) := by decide +kernel
theorem d_Stacks_roll_5 : decode m_Stacks_roll.2.1 5 = .ok (.invokevirtual 39, 3) := by decide +kernel
theorem d_Stacks_roll_8 : decode m_Stacks_roll.2.1 8 = .ok (.ifCond .eq 17, 3) := by decide +kernel
theorem d_Stacks_roll_11 : decode m_Stacks_roll.2.1 11 = .ok (.aload_n 2, 1) := by decide +kernel
theorem d_Stacks_roll_12 : decode m_Stacks_roll.2.1 12 = .ok (.getstatic 33, 3) := by decide +kernel
theorem d_Stacks_roll_15 : decode m_Stacks_roll.2.1 15 = .ok (.invokevirtual 39, 3) := by decide +kernel
theorem d_Stacks_roll_18 : decode m_Stacks_roll.2.1 18 = .ok (.ifCond .eq 7, 3) := by decide +kernel
theorem d_Stacks_roll_21 : decode m_Stacks_roll.2.1 21 = .ok (.iconst 1, 1) := by decide +kernel
theorem d_Stacks_roll_22 : decode m_Stacks_roll.2.1 22 = .ok (.goto 4, 3) := by decide +kernel
theorem d_Stacks_roll_25 : decode m_Stacks_roll.2.1 25 = .ok (.iconst 0, 1) := by decide +kernel
theorem d_Stacks_roll_26 : decode m_Stacks_roll.2.1 26 = .ok (.invokevirtual 45, 3) := by decide +kernel
theorem d_Stacks_roll_29 : decode m_Stacks_roll.2.1 29 = .ok (.aload_n 0, 1) := by decide +kernel
theorem d_Stacks_roll_30 : decode m_Stacks_roll.2.1 30 = .ok (.aload_n 1, 1) := by decide +kernel
theorem d_Stacks_roll_31 : decode m_Stacks_roll.2.1 31 = .ok (.getfield 49, 3) := by decide +kernel
theorem d_Stacks_roll_34 : decode m_Stacks_roll.2.1 34 = .ok (.ifCond .lt 20, 3) := by decide +kernel
theorem d_Stacks_roll_37 : decode m_Stacks_roll.2.1 37 = .ok (.aload_n 1, 1) := by decide +kernel
theorem d_Stacks_roll_38 : decode m_Stacks_roll.2.1 38 = .ok (.getfield 49, 3) := by decide +kernel
theorem d_Stacks_roll_41 : decode m_Stacks_roll.2.1 41 = .ok (.aload_n 0, 1) := by decide +kernel
theorem d_Stacks_roll_42 : decode m_Stacks_roll.2.1 42 = .ok (.getfield 15, 3) := by decide +kernel
theorem d_Stacks_roll_45 : decode m_Stacks_roll.2.1 45 = .ok (.iconst 2, 1) := by decide +kernel
theorem d_Stacks_roll_46 : decode m_Stacks_roll.2.1 46 = .ok (.isub, 1) := by decide +kernel
theorem d_Stacks_roll_47 : decode m_Stacks_roll.2.1 47 = .ok (.if_icmp .gt 7, 3) := by decide +kernel
theorem d_Stacks_roll_50 : decode m_Stacks_roll.2.1 50 = .ok (.iconst 1, 1) := by decide +kernel
theorem d_Stacks_roll_51 : decode m_Stacks_roll.2.1 51 = .ok (.goto 4, 3) := by decide +kernel
theorem d_Stacks_roll_54 : decode m_Stacks_roll.2.1 54 = .ok (.iconst 0, 1) := by decide +kernel
theorem d_Stacks_roll_55 : decode m_Stacks_roll.2.1 55 = .ok (.iconst 4, 1) := by decide +kernel
theorem d_Stacks_roll_56 : decode m_Stacks_roll.2.1 56 = .ok (.invokevirtual 52, 3) := by decide +kernel
theorem d_Stacks_roll_59 : decode m_Stacks_roll.2.1 59 = .ok (.aload_n 0, 1) := by decide +kernel
theorem d_Stacks_roll_60 : decode m_Stacks_roll.2.1 60 = .ok (.dup, 1) := by decide +kernel
theorem d_Stacks_roll_61 : decode m_Stacks_roll.2.1 61 = .ok (.getfield 15, 3) := by decide +kernel
theorem d_Stacks_roll_64 : decode m_Stacks_roll.2.1 64 = .ok (.iconst 2, 1) := by decide +kernel
theorem d_Stacks_roll_65 : decode m_Stacks_roll.2.1 65 = .ok (.isub, 1) := by decide +kernel
theorem d_Stacks_roll_66 : decode m_Stacks_roll.2.1 66 = .ok (.putfield 15, 3) := by decide +kernel
theorem d_Stacks_roll_69 : decode m_Stacks_roll.2.1 69 = .ok (.aload_n 0, 1) := by decide +kernel
theorem d_Stacks_roll_70 : decode m_Stacks_roll.2.1 70 = .ok (.getfield 15, 3) := by decide +kernel
theorem d_Stacks_roll_73 : decode m_Stacks_roll.2.1 73 = .ok (.aload_n 1, 1) := by decide +kernel
theorem d_Stacks_roll_74 : decode m_Stacks_roll.2.1 74 = .ok (.getfield 49, 3) := by decide +kernel
theorem d_Stacks_roll_77 : decode m_Stacks_roll.2.1 77 = .ok (.isub, 1) := by decide +kernel
theorem d_Stacks_roll_78 : decode m_Stacks_roll.2.1 78 = .ok (.istore_n 3, 1) := by decide +kernel
theorem d_Stacks_roll_79 : decode m_Stacks_roll.2.1 79 = .ok (.aload_n 1, 1) := by decide +kernel
theorem d_Stacks_roll_80 : decode m_Stacks_roll.2.1 80 = .ok (.getfield 49, 3) := by decide +kernel
theorem d_Stacks_roll_83 : decode m_Stacks_roll.2.1 83 = .ok (.ifCond .ne 7, 3) := by decide +kernel
theorem d_Stacks_roll_86 : decode m_Stacks_roll.2.1 86 = .ok (.iconst 0, 1) := by decide +kernel
theorem d_Stacks_roll_87 : decode m_Stacks_roll.2.1 87 = .ok (.goto 14, 3) := by decide +kernel
theorem d_Stacks_roll_90 : decode m_Stacks_roll.2.1 90 = .ok (.aload_n 2, 1) := by decide +kernel
theorem d_Stacks_roll_91 : decode m_Stacks_roll.2.1 91 = .ok (.getfield 49, 3) := by decide +kernel
theorem d_Stacks_roll_94 : decode m_Stacks_roll.2.1 94 = .ok (.aload_n 1, 1) := by decide +kernel
theorem d_Stacks_roll_95 : decode m_Stacks_roll.2.1 95 = .ok (.getfield 49, 3) := by decide +kernel
theorem d_Stacks_roll_98 : decode m_Stacks_roll.2.1 98 = .ok (.invokestatic 81, 3) := by decide +kernel
theorem d_Stacks_roll_101 : decode m_Stacks_roll.2.1 101 = .ok (.istore 4, 2) := by decide +kernel
theorem d_Stacks_roll_103 : decode m_Stacks_roll.2.1 103 = .ok (.aload_n 0, 1) := by decide +kernel
theorem d_Stacks_roll_104 : decode m_Stacks_roll.2.1 104 = .ok (.iload_n 3, 1) := by decide +kernel
theorem d_Stacks_roll_105 : decode m_Stacks_roll.2.1 105 = .ok (.aload_n 0, 1) := by decide +kernel
theorem d_Stacks_roll_106 : decode m_Stacks_roll.2.1 106 = .ok (.getfield 15, 3) := by decide +kernel
theorem d_Stacks_roll_109 : decode m_Stacks_roll.2.1 109 = .ok (.iconst 1, 1) := by decide +kernel
theorem d_Stacks_roll_110 : decode m_Stacks_roll.2.1 110 = .ok (.isub, 1) := by decide +kernel
theorem d_Stacks_roll_111 : decode m_Stacks_roll.2.1 111 = .ok (.invokevirtual 87, 3) := by decide +kernel
theorem d_Stacks_roll_114 : decode m_Stacks_roll.2.1 114 = .ok (.aload_n 0, 1) := by decide +kernel
theorem d_Stacks_roll_115 : decode m_Stacks_roll.2.1 115 = .ok (.iload_n 3, 1) := by decide +kernel
theorem d_Stacks_roll_116 : decode m_Stacks_roll.2.1 116 = .ok (.iload_n 3, 1) := by decide +kernel
theorem d_Stacks_roll_117 : decode m_Stacks_roll.2.1 117 = .ok (.iload 4, 2) := by decide +kernel
theorem d_Stacks_roll_119 : decode m_Stacks_roll.2.1 119 = .ok (.iadd, 1) := by decide +kernel
theorem d_Stacks_roll_120 : decode m_Stacks_roll.2.1 120 = .ok (.iconst 1, 1) := by decide +kernel
theorem d_Stacks_roll_121 : decode m_Stacks_roll.2.1 121 = .ok (.isub, 1) := by decide +kernel
theorem d_Stacks_roll_122 : decode m_Stacks_roll.2.1 122 = .ok (.invokevirtual 87, 3) := by decide +kernel
theorem d_Stacks_roll_125 : decode m_Stacks_roll.2.1 125 = .ok (.aload_n 0, 1) := by decide +kernel
theorem d_Stacks_roll_126 : decode m_Stacks_roll.2.1 126 = .ok (.iload_n 3, 1) := by decide +kernel
theorem d_Stacks_roll_127 : decode m_Stacks_roll.2.1 127 = .ok (.iload 4, 2) := by decide +kernel
theorem d_Stacks_roll_129 : decode m_Stacks_roll.2.1 129 = .ok (.iadd, 1) := by decide +kernel
theorem d_Stacks_roll_130 : decode m_Stacks_roll.2.1 130 = .ok (.aload_n 0, 1) := by decide +kernel
theorem d_Stacks_roll_131 : decode m_Stacks_roll.2.1 131 = .ok (.getfield 15, 3) := by decide +kernel
theorem d_Stacks_roll_134 : decode m_Stacks_roll.2.1 134 = .ok (.iconst 1, 1) := by decide +kernel
theorem d_Stacks_roll_135 : decode m_Stacks_roll.2.1 135 = .ok (.isub, 1) := by decide +kernel
theorem d_Stacks_roll_136 : decode m_Stacks_roll.2.1 136 = .ok (.invokevirtual 87, 3) := by decide +kernel
theorem d_Stacks_roll_139 : decode m_Stacks_roll.2.1 139 = .ok (.return_, 1) := by decide +kernel
theorem d_Stacks_marked_0 : decode m_Stacks_marked.2.1 0 = .ok (.aload_n 0, 1) := by decide +kernel
theorem d_Stacks_marked_1 : decode m_Stacks_marked.2.1 1 = .ok (.getfield 15, 3) := by decide +kernel
theorem d_Stacks_marked_4 : decode m_Stacks_marked.2.1 4 = .ok (.iconst 1, 1) := by decide +kernel
theorem d_Stacks_marked_5 : decode m_Stacks_marked.2.1 5 = .ok (.isub, 1) := by decide +kernel
theorem d_Stacks_marked_6 : decode m_Stacks_marked.2.1 6 = .ok (.istore_n 1, 1) := by decide +kernel
theorem d_Stacks_marked_7 : decode m_Stacks_marked.2.1 7 = .ok (.iload_n 1, 1) := by decide +kernel
theorem d_Stacks_marked_8 : decode m_Stacks_marked.2.1 8 = .ok (.ifCond .lt 24, 3) := by decide +kernel
theorem d_Stacks_marked_11 : decode m_Stacks_marked.2.1 11 = .ok (.aload_n 0, 1) := by decide +kernel
theorem d_Stacks_marked_12 : decode m_Stacks_marked.2.1 12 = .ok (.getfield 90, 3) := by decide +kernel
theorem d_Stacks_marked_15 : decode m_Stacks_marked.2.1 15 = .ok (.iload_n 1, 1) := by decide +kernel
theorem d_Stacks_marked_16 : decode m_Stacks_marked.2.1 16 = .ok (.aaload, 1) := by decide +kernel
theorem d_Stacks_marked_17 : decode m_Stacks_marked.2.1 17 = .ok (.getstatic 78, 3) := by decide +kernel
theorem d_Stacks_marked_20 : decode m_Stacks_marked.2.1 20 = .ok (.invokevirtual 39, 3) := by decide +kernel
theorem d_Stacks_marked_23 : decode m_Stacks_marked.2.1 23 = .ok (.ifCond .ne 9, 3) := by decide +kernel
theorem d_Stacks_marked_26 : decode m_Stacks_marked.2.1 26 = .ok (.iinc 1 (-1), 3) := by decide +kernel
theorem d_Stacks_marked_29 : decode m_Stacks_marked.2.1 29 = .ok (.goto (-22), 3) := by decide +kernel
theorem d_Stacks_marked_32 : decode m_Stacks_marked.2.1 32 = .ok (.aload_n 0, 1) := by decide +kernel
theorem d_Stacks_marked_33 : decode m_Stacks_marked.2.1 33 = .ok (.iload_n 1, 1) := by decide +kernel
theorem d_Stacks_marked_34 : decode m_Stacks_marked.2.1 34 = .ok (.ifCond .lt 7, 3) := by decide +kernel
theorem d_Stacks_marked_37 : decode m_Stacks_marked.2.1 37 = .ok (.iconst 1, 1) := by decide +kernel
theorem d_Stacks_marked_38 : decode m_Stacks_marked.2.1 38 = .ok (.goto 4, 3) := by decide +kernel
theorem d_Stacks_marked_41 : decode m_Stacks_marked.2.1 41 = .ok (.iconst 0, 1) := by decide +kernel
theorem d_Stacks_marked_42 : decode m_Stacks_marked.2.1 42 = .ok (.bipush 9, 2) := by decide +kernel
theorem d_Stacks_marked_44 : decode m_Stacks_marked.2.1 44 = .ok (.invokevirtual 52, 3) := by decide +kernel
theorem d_Stacks_marked_47 : decode m_Stacks_marked.2.1 47 = .ok (.iload_n 1, 1) := by decide +kernel
theorem d_Stacks_marked_48 : decode m_Stacks_marked.2.1 48 = .ok (.ireturn, 1) := by decide +kernel
theorem d_Stacks_close_0 : decode m_Stacks_close.2.1 0 = .ok (.aload_n 0, 1) := by decide +kernel
theorem d_Stacks_close_1 : decode m_Stacks_close.2.1 1 = .ok (.getfield 15, 3) := by decide +kernel
theorem d_Stacks_close_4 : decode m_Stacks_close.2.1 4 = .ok (.iload_n 1, 1) := by decide +kernel
theorem d_Stacks_close_5 : decode m_Stacks_close.2.1 5 = .ok (.isub, 1) := by decide +kernel
theorem d_Stacks_close_6 : decode m_Stacks_close.2.1 6 = .ok (.istore_n 2, 1) := by decide +kernel
theorem d_Stacks_close_7 : decode m_Stacks_close.2.1 7 = .ok (.aload_n 0, 1) := by decide +kernel
theorem d_Stacks_close_8 : decode m_Stacks_close.2.1 8 = .ok (.iload_n 2, 1) := by decide +kernel
theorem d_Stacks_close_9 : decode m_Stacks_close.2.1 9 = .ok (.invokevirtual 94, 3) := by decide +kernel
theorem d_Stacks_close_12 : decode m_Stacks_close.2.1 12 = .ok (.istore_n 3, 1) := by decide +kernel
theorem d_Stacks_close_13 : decode m_Stacks_close.2.1 13 = .ok (.iconst 0, 1) := by decide +kernel
theorem d_Stacks_close_14 : decode m_Stacks_close.2.1 14 = .ok (.istore 4, 2) := by decide +kernel
theorem d_Stacks_close_16 : decode m_Stacks_close.2.1 16 = .ok (.iload 4, 2) := by decide +kernel
theorem d_Stacks_close_18 : decode m_Stacks_close.2.1 18 = .ok (.iload_n 2, 1) := by decide +kernel
theorem d_Stacks_close_19 : decode m_Stacks_close.2.1 19 = .ok (.if_icmp .ge 30, 3) := by decide +kernel
theorem d_Stacks_close_22 : decode m_Stacks_close.2.1 22 = .ok (.aload_n 0, 1) := by decide +kernel
theorem d_Stacks_close_23 : decode m_Stacks_close.2.1 23 = .ok (.getfield 98, 3) := by decide +kernel
theorem d_Stacks_close_26 : decode m_Stacks_close.2.1 26 = .ok (.iload_n 3, 1) := by decide +kernel
theorem d_Stacks_close_27 : decode m_Stacks_close.2.1 27 = .ok (.iload 4, 2) := by decide +kernel
theorem d_Stacks_close_29 : decode m_Stacks_close.2.1 29 = .ok (.iadd, 1) := by decide +kernel
theorem d_Stacks_close_30 : decode m_Stacks_close.2.1 30 = .ok (.aaload, 1) := by decide +kernel
theorem d_Stacks_close_31 : decode m_Stacks_close.2.1 31 = .ok (.aload_n 0, 1) := by decide +kernel
theorem d_Stacks_close_32 : decode m_Stacks_close.2.1 32 = .ok (.getfield 90, 3) := by decide +kernel
theorem d_Stacks_close_35 : decode m_Stacks_close.2.1 35 = .ok (.iload_n 1, 1) := by decide +kernel
theorem d_Stacks_close_36 : decode m_Stacks_close.2.1 36 = .ok (.iload 4, 2) := by decide +kernel
theorem d_Stacks_close_38 : decode m_Stacks_close.2.1 38 = .ok (.iadd, 1) := by decide +kernel
theorem d_Stacks_close_39 : decode m_Stacks_close.2.1 39 = .ok (.aaload, 1) := by decide +kernel
theorem d_Stacks_close_40 : decode m_Stacks_close.2.1 40 = .ok (.invokevirtual 60, 3) := by decide +kernel
theorem d_Stacks_close_43 : decode m_Stacks_close.2.1 43 = .ok (.iinc 4 1, 3) := by decide +kernel
theorem d_Stacks_close_46 : decode m_Stacks_close.2.1 46 = .ok (.goto (-30), 3) := by decide +kernel
theorem d_Stacks_close_49 : decode m_Stacks_close.2.1 49 = .ok (.aload_n 0, 1) := by decide +kernel
theorem d_Stacks_close_50 : decode m_Stacks_close.2.1 50 = .ok (.iload_n 1, 1) := by decide +kernel
theorem d_Stacks_close_51 : decode m_Stacks_close.2.1 51 = .ok (.putfield 15, 3) := by decide +kernel
theorem d_Stacks_close_54 : decode m_Stacks_close.2.1 54 = .ok (.aload_n 0, 1) := by decide +kernel
theorem d_Stacks_close_55 : decode m_Stacks_close.2.1 55 = .ok (.iconst 0, 1) := by decide +kernel
theorem d_Stacks_close_56 : decode m_Stacks_close.2.1 56 = .ok (.invokevirtual 56, 3) := by decide +kernel
theorem d_Stacks_close_59 : decode m_Stacks_close.2.1 59 = .ok (.getstatic 101, 3) := by decide +kernel
theorem d_Stacks_close_62 : decode m_Stacks_close.2.1 62 = .ok (.iload_n 3, 1) := by decide +kernel
theorem d_Stacks_close_63 : decode m_Stacks_close.2.1 63 = .ok (.iload_n 2, 1) := by decide +kernel
theorem d_Stacks_close_64 : decode m_Stacks_close.2.1 64 = .ok (.iconst 0, 1) := by decide +kernel
theorem d_Stacks_close_65 : decode m_Stacks_close.2.1 65 = .ok (.invokevirtual 104, 3) := by decide +kernel
theorem d_Stacks_close_68 : decode m_Stacks_close.2.1 68 = .ok (.return_, 1) := by decide +kernel
theorem d_Stacks_perform_0 : decode m_Stacks_perform.2.1 0 = .ok (.aload_n 2, 1) := by decide +kernel
theorem d_Stacks_perform_1 : decode m_Stacks_perform.2.1 1 = .ok (.invokevirtual 9, 3) := by decide +kernel
theorem d_Stacks_perform_4 : decode m_Stacks_perform.2.1 4 = .ok (.tableswitch 227 0 11 #[64, 77, 96, 104, 112, 170, 180, 188, 227, 227, 203, 214], 64) := by decide +kernel
theorem d_Stacks_perform_68 : decode m_Stacks_perform.2.1 68 = .ok (.aload_n 1, 1) := by decide +kernel
theorem d_Stacks_perform_69 : decode m_Stacks_perform.2.1 69 = .ok (.dup, 1) := by decide +kernel
theorem d_Stacks_perform_70 : decode m_Stacks_perform.2.1 70 = .ok (.getfield 15, 3) := by decide +kernel
theorem d_Stacks_perform_73 : decode m_Stacks_perform.2.1 73 = .ok (.iconst 1, 1) := by decide +kernel
theorem d_Stacks_perform_74 : decode m_Stacks_perform.2.1 74 = .ok (.isub, 1) := by decide +kernel
theorem d_Stacks_perform_75 : decode m_Stacks_perform.2.1 75 = .ok (.putfield 15, 3) := by decide +kernel
theorem d_Stacks_perform_78 : decode m_Stacks_perform.2.1 78 = .ok (.goto 162, 3) := by decide +kernel
theorem d_Stacks_perform_81 : decode m_Stacks_perform.2.1 81 = .ok (.aload_n 1, 1) := by decide +kernel
theorem d_Stacks_perform_82 : decode m_Stacks_perform.2.1 82 = .ok (.aload_n 1, 1) := by decide +kernel
theorem d_Stacks_perform_83 : decode m_Stacks_perform.2.1 83 = .ok (.getfield 15, 3) := by decide +kernel
theorem d_Stacks_perform_86 : decode m_Stacks_perform.2.1 86 = .ok (.iconst 2, 1) := by decide +kernel
theorem d_Stacks_perform_87 : decode m_Stacks_perform.2.1 87 = .ok (.isub, 1) := by decide +kernel
theorem d_Stacks_perform_88 : decode m_Stacks_perform.2.1 88 = .ok (.aload_n 1, 1) := by decide +kernel
theorem d_Stacks_perform_89 : decode m_Stacks_perform.2.1 89 = .ok (.getfield 15, 3) := by decide +kernel
theorem d_Stacks_perform_92 : decode m_Stacks_perform.2.1 92 = .ok (.iconst 1, 1) := by decide +kernel
theorem d_Stacks_perform_93 : decode m_Stacks_perform.2.1 93 = .ok (.isub, 1) := by decide +kernel
theorem d_Stacks_perform_94 : decode m_Stacks_perform.2.1 94 = .ok (.invokevirtual 19, 3) := by decide +kernel
theorem d_Stacks_perform_97 : decode m_Stacks_perform.2.1 97 = .ok (.goto 143, 3) := by decide +kernel
theorem d_Stacks_perform_100 : decode m_Stacks_perform.2.1 100 = .ok (.aload_n 1, 1) := by decide +kernel
theorem d_Stacks_perform_101 : decode m_Stacks_perform.2.1 101 = .ok (.aload_n 3, 1) := by decide +kernel
theorem d_Stacks_perform_102 : decode m_Stacks_perform.2.1 102 = .ok (.invokevirtual 23, 3) := by decide +kernel
theorem d_Stacks_perform_105 : decode m_Stacks_perform.2.1 105 = .ok (.goto 135, 3) := by decide +kernel
theorem d_Stacks_perform_108 : decode m_Stacks_perform.2.1 108 = .ok (.aload_n 1, 1) := by decide +kernel
theorem d_Stacks_perform_109 : decode m_Stacks_perform.2.1 109 = .ok (.aload_n 3, 1) := by decide +kernel
theorem d_Stacks_perform_110 : decode m_Stacks_perform.2.1 110 = .ok (.invokestatic 27, 3) := by decide +kernel
theorem d_Stacks_perform_113 : decode m_Stacks_perform.2.1 113 = .ok (.goto 127, 3) := by decide +kernel
theorem d_Stacks_perform_116 : decode m_Stacks_perform.2.1 116 = .ok (.aload_n 1, 1) := by decide +kernel
theorem d_Stacks_perform_117 : decode m_Stacks_perform.2.1 117 = .ok (.aload_n 3, 1) := by decide +kernel
theorem d_Stacks_perform_118 : decode m_Stacks_perform.2.1 118 = .ok (.getstatic 33, 3) := by decide +kernel
theorem d_Stacks_perform_121 : decode m_Stacks_perform.2.1 121 = .ok (.invokevirtual 39, 3) := by decide +kernel
theorem d_Stacks_perform_124 : decode m_Stacks_perform.2.1 124 = .ok (.invokevirtual 45, 3) := by decide +kernel
theorem d_Stacks_perform_127 : decode m_Stacks_perform.2.1 127 = .ok (.aload_n 1, 1) := by decide +kernel
theorem d_Stacks_perform_128 : decode m_Stacks_perform.2.1 128 = .ok (.aload_n 3, 1) := by decide +kernel
theorem d_Stacks_perform_129 : decode m_Stacks_perform.2.1 129 = .ok (.getfield 49, 3) := by decide +kernel
theorem d_Stacks_perform_132 : decode m_Stacks_perform.2.1 132 = .ok (.ifCond .lt 20, 3) := by decide +kernel
theorem d_Stacks_perform_135 : decode m_Stacks_perform.2.1 135 = .ok (.aload_n 3, 1) := by decide +kernel
theorem d_Stacks_perform_136 : decode m_Stacks_perform.2.1 136 = .ok (.getfield 49, 3) := by decide +kernel
theorem d_Stacks_perform_139 : decode m_Stacks_perform.2.1 139 = .ok (.aload_n 1, 1) := by decide +kernel
theorem d_Stacks_perform_140 : decode m_Stacks_perform.2.1 140 = .ok (.getfield 15, 3) := by decide +kernel
theorem d_Stacks_perform_143 : decode m_Stacks_perform.2.1 143 = .ok (.iconst 1, 1) := by decide +kernel
theorem d_Stacks_perform_144 : decode m_Stacks_perform.2.1 144 = .ok (.isub, 1) := by decide +kernel
theorem d_Stacks_perform_145 : decode m_Stacks_perform.2.1 145 = .ok (.if_icmp .ge 7, 3) := by decide +kernel
theorem d_Stacks_perform_148 : decode m_Stacks_perform.2.1 148 = .ok (.iconst 1, 1) := by decide +kernel
theorem d_Stacks_perform_149 : decode m_Stacks_perform.2.1 149 = .ok (.goto 4, 3) := by decide +kernel
theorem d_Stacks_perform_152 : decode m_Stacks_perform.2.1 152 = .ok (.iconst 0, 1) := by decide +kernel
theorem d_Stacks_perform_153 : decode m_Stacks_perform.2.1 153 = .ok (.iconst 4, 1) := by decide +kernel
theorem d_Stacks_perform_154 : decode m_Stacks_perform.2.1 154 = .ok (.invokevirtual 52, 3) := by decide +kernel
theorem d_Stacks_perform_157 : decode m_Stacks_perform.2.1 157 = .ok (.aload_n 3, 1) := by decide +kernel
theorem d_Stacks_perform_158 : decode m_Stacks_perform.2.1 158 = .ok (.aload_n 1, 1) := by decide +kernel
theorem d_Stacks_perform_159 : decode m_Stacks_perform.2.1 159 = .ok (.iconst 1, 1) := by decide +kernel
theorem d_Stacks_perform_160 : decode m_Stacks_perform.2.1 160 = .ok (.aload_n 3, 1) := by decide +kernel
theorem d_Stacks_perform_161 : decode m_Stacks_perform.2.1 161 = .ok (.getfield 49, 3) := by decide +kernel
theorem d_Stacks_perform_164 : decode m_Stacks_perform.2.1 164 = .ok (.iadd, 1) := by decide +kernel
theorem d_Stacks_perform_165 : decode m_Stacks_perform.2.1 165 = .ok (.invokevirtual 56, 3) := by decide +kernel
theorem d_Stacks_perform_168 : decode m_Stacks_perform.2.1 168 = .ok (.invokevirtual 60, 3) := by decide +kernel
theorem d_Stacks_perform_171 : decode m_Stacks_perform.2.1 171 = .ok (.goto 69, 3) := by decide +kernel
theorem d_Stacks_perform_174 : decode m_Stacks_perform.2.1 174 = .ok (.aload_n 1, 1) := by decide +kernel
theorem d_Stacks_perform_175 : decode m_Stacks_perform.2.1 175 = .ok (.aload_n 3, 1) := by decide +kernel
theorem d_Stacks_perform_176 : decode m_Stacks_perform.2.1 176 = .ok (.aload 4, 2) := by decide +kernel
theorem d_Stacks_perform_178 : decode m_Stacks_perform.2.1 178 = .ok (.invokestatic 62, 3) := by decide +kernel
theorem d_Stacks_perform_181 : decode m_Stacks_perform.2.1 181 = .ok (.goto 59, 3) := by decide +kernel
theorem d_Stacks_perform_184 : decode m_Stacks_perform.2.1 184 = .ok (.aload_n 1, 1) := by decide +kernel
theorem d_Stacks_perform_185 : decode m_Stacks_perform.2.1 185 = .ok (.iconst 0, 1) := by decide +kernel
theorem d_Stacks_perform_186 : decode m_Stacks_perform.2.1 186 = .ok (.putfield 15, 3) := by decide +kernel
theorem d_Stacks_perform_189 : decode m_Stacks_perform.2.1 189 = .ok (.goto 51, 3) := by decide +kernel
theorem d_Stacks_perform_192 : decode m_Stacks_perform.2.1 192 = .ok (.aload_n 1, 1) := by decide +kernel
theorem d_Stacks_perform_193 : decode m_Stacks_perform.2.1 193 = .ok (.iconst 0, 1) := by decide +kernel
theorem d_Stacks_perform_194 : decode m_Stacks_perform.2.1 194 = .ok (.getstatic 33, 3) := by decide +kernel
theorem d_Stacks_perform_197 : decode m_Stacks_perform.2.1 197 = .ok (.aload_n 1, 1) := by decide +kernel
theorem d_Stacks_perform_198 : decode m_Stacks_perform.2.1 198 = .ok (.getfield 15, 3) := by decide +kernel
theorem d_Stacks_perform_201 : decode m_Stacks_perform.2.1 201 = .ok (.invokevirtual 66, 3) := by decide +kernel
theorem d_Stacks_perform_204 : decode m_Stacks_perform.2.1 204 = .ok (.goto 36, 3) := by decide +kernel
theorem d_Stacks_perform_207 : decode m_Stacks_perform.2.1 207 = .ok (.aload_n 1, 1) := by decide +kernel
theorem d_Stacks_perform_208 : decode m_Stacks_perform.2.1 208 = .ok (.aload_n 1, 1) := by decide +kernel
theorem d_Stacks_perform_209 : decode m_Stacks_perform.2.1 209 = .ok (.invokestatic 70, 3) := by decide +kernel
theorem d_Stacks_perform_212 : decode m_Stacks_perform.2.1 212 = .ok (.putfield 15, 3) := by decide +kernel
theorem d_Stacks_perform_215 : decode m_Stacks_perform.2.1 215 = .ok (.goto 25, 3) := by decide +kernel
theorem d_Stacks_perform_218 : decode m_Stacks_perform.2.1 218 = .ok (.aload_n 1, 1) := by decide +kernel
theorem d_Stacks_perform_219 : decode m_Stacks_perform.2.1 219 = .ok (.aload_n 1, 1) := by decide +kernel
theorem d_Stacks_perform_220 : decode m_Stacks_perform.2.1 220 = .ok (.invokestatic 70, 3) := by decide +kernel
theorem d_Stacks_perform_223 : decode m_Stacks_perform.2.1 223 = .ok (.iconst 1, 1) := by decide +kernel
theorem d_Stacks_perform_224 : decode m_Stacks_perform.2.1 224 = .ok (.iadd, 1) := by decide +kernel
theorem d_Stacks_perform_225 : decode m_Stacks_perform.2.1 225 = .ok (.invokestatic 74, 3) := by decide +kernel
theorem d_Stacks_perform_228 : decode m_Stacks_perform.2.1 228 = .ok (.goto 12, 3) := by decide +kernel
theorem d_Stacks_perform_231 : decode m_Stacks_perform.2.1 231 = .ok (.aload_n 1, 1) := by decide +kernel
theorem d_Stacks_perform_232 : decode m_Stacks_perform.2.1 232 = .ok (.iconst 0, 1) := by decide +kernel
theorem d_Stacks_perform_233 : decode m_Stacks_perform.2.1 233 = .ok (.getstatic 78, 3) := by decide +kernel
theorem d_Stacks_perform_236 : decode m_Stacks_perform.2.1 236 = .ok (.iconst 0, 1) := by decide +kernel
theorem d_Stacks_perform_237 : decode m_Stacks_perform.2.1 237 = .ok (.invokevirtual 66, 3) := by decide +kernel
theorem d_Stacks_perform_240 : decode m_Stacks_perform.2.1 240 = .ok (.return_, 1) := by decide +kernel
theorem d_Slot_same_0 : decode m_Slot_same.2.1 0 = .ok (.aload_n 0, 1) := by decide +kernel
theorem d_Slot_same_1 : decode m_Slot_same.2.1 1 = .ok (.invokevirtual 54, 3) := by decide +kernel
theorem d_Slot_same_4 : decode m_Slot_same.2.1 4 = .ok (.ifCond .eq 28, 3) := by decide +kernel
theorem d_Slot_same_7 : decode m_Slot_same.2.1 7 = .ok (.aload_n 1, 1) := by decide +kernel
theorem d_Slot_same_8 : decode m_Slot_same.2.1 8 = .ok (.invokevirtual 54, 3) := by decide +kernel
theorem d_Slot_same_11 : decode m_Slot_same.2.1 11 = .ok (.ifCond .eq 21, 3) := by decide +kernel
theorem d_Slot_same_14 : decode m_Slot_same.2.1 14 = .ok (.aload_n 0, 1) := by decide +kernel
theorem d_Slot_same_15 : decode m_Slot_same.2.1 15 = .ok (.invokevirtual 58, 3) := by decide +kernel
theorem d_Slot_same_18 : decode m_Slot_same.2.1 18 = .ok (.aload_n 1, 1) := by decide +kernel
theorem d_Slot_same_19 : decode m_Slot_same.2.1 19 = .ok (.invokevirtual 58, 3) := by decide +kernel
theorem d_Slot_same_22 : decode m_Slot_same.2.1 22 = .ok (.dcmp .l, 1) := by decide +kernel
theorem d_Slot_same_23 : decode m_Slot_same.2.1 23 = .ok (.ifCond .ne 7, 3) := by decide +kernel
theorem d_Slot_same_26 : decode m_Slot_same.2.1 26 = .ok (.iconst 1, 1) := by decide +kernel
theorem d_Slot_same_27 : decode m_Slot_same.2.1 27 = .ok (.goto 4, 3) := by decide +kernel
theorem d_Slot_same_30 : decode m_Slot_same.2.1 30 = .ok (.iconst 0, 1) := by decide +kernel
theorem d_Slot_same_31 : decode m_Slot_same.2.1 31 = .ok (.ireturn, 1) := by decide +kernel
theorem d_Slot_same_32 : decode m_Slot_same.2.1 32 = .ok (.aload_n 0, 1) := by decide +kernel
theorem d_Slot_same_33 : decode m_Slot_same.2.1 33 = .ok (.getfield 13, 3) := by decide +kernel
theorem d_Slot_same_36 : decode m_Slot_same.2.1 36 = .ok (.aload_n 1, 1) := by decide +kernel
theorem d_Slot_same_37 : decode m_Slot_same.2.1 37 = .ok (.getfield 13, 3) := by decide +kernel
theorem d_Slot_same_40 : decode m_Slot_same.2.1 40 = .ok (.if_acmp .eq 5, 3) := by decide +kernel
theorem d_Slot_same_43 : decode m_Slot_same.2.1 43 = .ok (.iconst 0, 1) := by decide +kernel
theorem d_Slot_same_44 : decode m_Slot_same.2.1 44 = .ok (.ireturn, 1) := by decide +kernel
theorem d_Slot_same_45 : decode m_Slot_same.2.1 45 = .ok (.aload_n 0, 1) := by decide +kernel
theorem d_Slot_same_46 : decode m_Slot_same.2.1 46 = .ok (.getfield 13, 3) := by decide +kernel
theorem d_Slot_same_49 : decode m_Slot_same.2.1 49 = .ok (.getstatic 40, 3) := by decide +kernel
theorem d_Slot_same_52 : decode m_Slot_same.2.1 52 = .ok (.if_acmp .ne 20, 3) := by decide +kernel
theorem d_Slot_same_55 : decode m_Slot_same.2.1 55 = .ok (.aload_n 0, 1) := by decide +kernel
theorem d_Slot_same_56 : decode m_Slot_same.2.1 56 = .ok (.getfield 43, 3) := by decide +kernel
theorem d_Slot_same_59 : decode m_Slot_same.2.1 59 = .ok (.aload_n 1, 1) := by decide +kernel
theorem d_Slot_same_60 : decode m_Slot_same.2.1 60 = .ok (.getfield 43, 3) := by decide +kernel
theorem d_Slot_same_63 : decode m_Slot_same.2.1 63 = .ok (.if_acmp .ne 7, 3) := by decide +kernel
theorem d_Slot_same_66 : decode m_Slot_same.2.1 66 = .ok (.iconst 1, 1) := by decide +kernel
theorem d_Slot_same_67 : decode m_Slot_same.2.1 67 = .ok (.goto 4, 3) := by decide +kernel
theorem d_Slot_same_70 : decode m_Slot_same.2.1 70 = .ok (.iconst 0, 1) := by decide +kernel
theorem d_Slot_same_71 : decode m_Slot_same.2.1 71 = .ok (.ireturn, 1) := by decide +kernel
theorem d_Slot_same_72 : decode m_Slot_same.2.1 72 = .ok (.aload_n 0, 1) := by decide +kernel
theorem d_Slot_same_73 : decode m_Slot_same.2.1 73 = .ok (.getfield 13, 3) := by decide +kernel
theorem d_Slot_same_76 : decode m_Slot_same.2.1 76 = .ok (.getstatic 51, 3) := by decide +kernel
theorem d_Slot_same_79 : decode m_Slot_same.2.1 79 = .ok (.if_acmp .ne 40, 3) := by decide +kernel
theorem d_Slot_same_82 : decode m_Slot_same.2.1 82 = .ok (.aload_n 0, 1) := by decide +kernel
theorem d_Slot_same_83 : decode m_Slot_same.2.1 83 = .ok (.getfield 22, 3) := by decide +kernel
theorem d_Slot_same_86 : decode m_Slot_same.2.1 86 = .ok (.aload_n 1, 1) := by decide +kernel
theorem d_Slot_same_87 : decode m_Slot_same.2.1 87 = .ok (.getfield 22, 3) := by decide +kernel
theorem d_Slot_same_90 : decode m_Slot_same.2.1 90 = .ok (.if_icmp .ne 25, 3) := by decide +kernel
theorem d_Slot_same_93 : decode m_Slot_same.2.1 93 = .ok (.aload_n 0, 1) := by decide +kernel
theorem d_Slot_same_94 : decode m_Slot_same.2.1 94 = .ok (.getfield 22, 3) := by decide +kernel
theorem d_Slot_same_97 : decode m_Slot_same.2.1 97 = .ok (.ifCond .eq 14, 3) := by decide +kernel
theorem d_Slot_same_100 : decode m_Slot_same.2.1 100 = .ok (.aload_n 0, 1) := by decide +kernel
theorem d_Slot_same_101 : decode m_Slot_same.2.1 101 = .ok (.getfield 18, 3) := by decide +kernel
theorem d_Slot_same_104 : decode m_Slot_same.2.1 104 = .ok (.aload_n 1, 1) := by decide +kernel
theorem d_Slot_same_105 : decode m_Slot_same.2.1 105 = .ok (.getfield 18, 3) := by decide +kernel
theorem d_Slot_same_108 : decode m_Slot_same.2.1 108 = .ok (.if_icmp .ne 7, 3) := by decide +kernel
theorem d_Slot_same_111 : decode m_Slot_same.2.1 111 = .ok (.iconst 1, 1) := by decide +kernel
theorem d_Slot_same_112 : decode m_Slot_same.2.1 112 = .ok (.goto 23, 3) := by decide +kernel
theorem d_Slot_same_115 : decode m_Slot_same.2.1 115 = .ok (.iconst 0, 1) := by decide +kernel
theorem d_Slot_same_116 : decode m_Slot_same.2.1 116 = .ok (.goto 19, 3) := by decide +kernel
theorem d_Slot_same_119 : decode m_Slot_same.2.1 119 = .ok (.aload_n 0, 1) := by decide +kernel
theorem d_Slot_same_120 : decode m_Slot_same.2.1 120 = .ok (.getfield 18, 3) := by decide +kernel
theorem d_Slot_same_123 : decode m_Slot_same.2.1 123 = .ok (.aload_n 1, 1) := by decide +kernel
theorem d_Slot_same_124 : decode m_Slot_same.2.1 124 = .ok (.getfield 18, 3) := by decide +kernel
theorem d_Slot_same_127 : decode m_Slot_same.2.1 127 = .ok (.if_icmp .ne 7, 3) := by decide +kernel
theorem d_Slot_same_130 : decode m_Slot_same.2.1 130 = .ok (.iconst 1, 1) := by decide +kernel
theorem d_Slot_same_131 : decode m_Slot_same.2.1 131 = .ok (.goto 4, 3) := by decide +kernel
theorem d_Slot_same_134 : decode m_Slot_same.2.1 134 = .ok (.iconst 0, 1) := by decide +kernel
theorem d_Slot_same_135 : decode m_Slot_same.2.1 135 = .ok (.ireturn, 1) := by decide +kernel
theorem d_Truths_bits_0 : decode m_Truths_bits.2.1 0 = .ok (.aload_n 0, 1) := by decide +kernel
theorem d_Truths_bits_1 : decode m_Truths_bits.2.1 1 = .ok (.getstatic 56, 3) := by decide +kernel
theorem d_Truths_bits_4 : decode m_Truths_bits.2.1 4 = .ok (.invokevirtual 61, 3) := by decide +kernel
theorem d_Truths_bits_7 : decode m_Truths_bits.2.1 7 = .ok (.ifCond .ne 13, 3) := by decide +kernel
theorem d_Truths_bits_10 : decode m_Truths_bits.2.1 10 = .ok (.aload_n 0, 1) := by decide +kernel
theorem d_Truths_bits_11 : decode m_Truths_bits.2.1 11 = .ok (.getstatic 91, 3) := by decide +kernel
theorem d_Truths_bits_14 : decode m_Truths_bits.2.1 14 = .ok (.invokevirtual 61, 3) := by decide +kernel
theorem d_Truths_bits_17 : decode m_Truths_bits.2.1 17 = .ok (.ifCond .eq 7, 3) := by decide +kernel
theorem d_Truths_bits_20 : decode m_Truths_bits.2.1 20 = .ok (.iconst 1, 1) := by decide +kernel
theorem d_Truths_bits_21 : decode m_Truths_bits.2.1 21 = .ok (.goto 4, 3) := by decide +kernel
theorem d_Truths_bits_24 : decode m_Truths_bits.2.1 24 = .ok (.iconst 0, 1) := by decide +kernel
theorem d_Truths_bits_25 : decode m_Truths_bits.2.1 25 = .ok (.ireturn, 1) := by decide +kernel
theorem d_Truths_compares_0 : decode m_Truths_compares.2.1 0 = .ok (.aload_n 0, 1) := by decide +kernel
theorem d_Truths_compares_1 : decode m_Truths_compares.2.1 1 = .ok (.getstatic 94, 3) := by decide +kernel
theorem d_Truths_compares_4 : decode m_Truths_compares.2.1 4 = .ok (.if_acmp .ne 17, 3) := by decide +kernel
theorem d_Truths_compares_7 : decode m_Truths_compares.2.1 7 = .ok (.dload_n 1, 1) := by decide +kernel
theorem d_Truths_compares_8 : decode m_Truths_compares.2.1 8 = .ok (.dload_n 3, 1) := by decide +kernel
theorem d_Truths_compares_9 : decode m_Truths_compares.2.1 9 = .ok (.dcmp .l, 1) := by decide +kernel
theorem d_Truths_compares_10 : decode m_Truths_compares.2.1 10 = .ok (.ifCond .le 7, 3) := by decide +kernel
theorem d_Truths_compares_13 : decode m_Truths_compares.2.1 13 = .ok (.iconst 1, 1) := by decide +kernel
theorem d_Truths_compares_14 : decode m_Truths_compares.2.1 14 = .ok (.goto 60, 3) := by decide +kernel
theorem d_Truths_compares_17 : decode m_Truths_compares.2.1 17 = .ok (.iconst 0, 1) := by decide +kernel
theorem d_Truths_compares_18 : decode m_Truths_compares.2.1 18 = .ok (.goto 56, 3) := by decide +kernel
theorem d_Truths_compares_21 : decode m_Truths_compares.2.1 21 = .ok (.aload_n 0, 1) := by decide +kernel
theorem d_Truths_compares_22 : decode m_Truths_compares.2.1 22 = .ok (.getstatic 97, 3) := by decide +kernel
theorem d_Truths_compares_25 : decode m_Truths_compares.2.1 25 = .ok (.if_acmp .ne 17, 3) := by decide +kernel
theorem d_Truths_compares_28 : decode m_Truths_compares.2.1 28 = .ok (.dload_n 1, 1) := by decide +kernel
theorem d_Truths_compares_29 : decode m_Truths_compares.2.1 29 = .ok (.dload_n 3, 1) := by decide +kernel
theorem d_Truths_compares_30 : decode m_Truths_compares.2.1 30 = .ok (.dcmp .l, 1) := by decide +kernel
theorem d_Truths_compares_31 : decode m_Truths_compares.2.1 31 = .ok (.ifCond .lt 7, 3) := by decide +kernel
theorem d_Truths_compares_34 : decode m_Truths_compares.2.1 34 = .ok (.iconst 1, 1) := by decide +kernel
theorem d_Truths_compares_35 : decode m_Truths_compares.2.1 35 = .ok (.goto 39, 3) := by decide +kernel
theorem d_Truths_compares_38 : decode m_Truths_compares.2.1 38 = .ok (.iconst 0, 1) := by decide +kernel
theorem d_Truths_compares_39 : decode m_Truths_compares.2.1 39 = .ok (.goto 35, 3) := by decide +kernel
theorem d_Truths_compares_42 : decode m_Truths_compares.2.1 42 = .ok (.aload_n 0, 1) := by decide +kernel
theorem d_Truths_compares_43 : decode m_Truths_compares.2.1 43 = .ok (.getstatic 100, 3) := by decide +kernel
theorem d_Truths_compares_46 : decode m_Truths_compares.2.1 46 = .ok (.if_acmp .ne 17, 3) := by decide +kernel
theorem d_Truths_compares_49 : decode m_Truths_compares.2.1 49 = .ok (.dload_n 1, 1) := by decide +kernel
theorem d_Truths_compares_50 : decode m_Truths_compares.2.1 50 = .ok (.dload_n 3, 1) := by decide +kernel
theorem d_Truths_compares_51 : decode m_Truths_compares.2.1 51 = .ok (.dcmp .g, 1) := by decide +kernel
theorem d_Truths_compares_52 : decode m_Truths_compares.2.1 52 = .ok (.ifCond .ge 7, 3) := by decide +kernel
theorem d_Truths_compares_55 : decode m_Truths_compares.2.1 55 = .ok (.iconst 1, 1) := by decide +kernel
theorem d_Truths_compares_56 : decode m_Truths_compares.2.1 56 = .ok (.goto 18, 3) := by decide +kernel
theorem d_Truths_compares_59 : decode m_Truths_compares.2.1 59 = .ok (.iconst 0, 1) := by decide +kernel
theorem d_Truths_compares_60 : decode m_Truths_compares.2.1 60 = .ok (.goto 14, 3) := by decide +kernel
theorem d_Truths_compares_63 : decode m_Truths_compares.2.1 63 = .ok (.dload_n 1, 1) := by decide +kernel
theorem d_Truths_compares_64 : decode m_Truths_compares.2.1 64 = .ok (.dload_n 3, 1) := by decide +kernel
theorem d_Truths_compares_65 : decode m_Truths_compares.2.1 65 = .ok (.dcmp .g, 1) := by decide +kernel
theorem d_Truths_compares_66 : decode m_Truths_compares.2.1 66 = .ok (.ifCond .gt 7, 3) := by decide +kernel
theorem d_Truths_compares_69 : decode m_Truths_compares.2.1 69 = .ok (.iconst 1, 1) := by decide +kernel
theorem d_Truths_compares_70 : decode m_Truths_compares.2.1 70 = .ok (.goto 4, 3) := by decide +kernel
theorem d_Truths_compares_73 : decode m_Truths_compares.2.1 73 = .ok (.iconst 0, 1) := by decide +kernel
theorem d_Truths_compares_74 : decode m_Truths_compares.2.1 74 = .ok (.ireturn, 1) := by decide +kernel
theorem d_Truths_perform_0 : decode m_Truths_perform.2.1 0 = .ok (.aload_n 2, 1) := by decide +kernel
theorem d_Truths_perform_1 : decode m_Truths_perform.2.1 1 = .ok (.invokevirtual 7, 3) := by decide +kernel
theorem d_Truths_perform_4 : decode m_Truths_perform.2.1 4 = .ok (.tableswitch 410 23 38 #[80, 80, 100, 100, 410, 410, 410, 410, 134, 134, 204, 244, 341, 341, 380, 392], 80) := by decide +kernel
theorem d_Truths_perform_84 : decode m_Truths_perform.2.1 84 = .ok (.aload_n 1, 1) := by decide +kernel
theorem d_Truths_perform_85 : decode m_Truths_perform.2.1 85 = .ok (.iconst 0, 1) := by decide +kernel
theorem d_Truths_perform_86 : decode m_Truths_perform.2.1 86 = .ok (.aload_n 2, 1) := by decide +kernel
theorem d_Truths_perform_87 : decode m_Truths_perform.2.1 87 = .ok (.getstatic 13, 3) := by decide +kernel
theorem d_Truths_perform_90 : decode m_Truths_perform.2.1 90 = .ok (.if_acmp .ne 7, 3) := by decide +kernel
theorem d_Truths_perform_93 : decode m_Truths_perform.2.1 93 = .ok (.iconst 1, 1) := by decide +kernel
theorem d_Truths_perform_94 : decode m_Truths_perform.2.1 94 = .ok (.goto 4, 3) := by decide +kernel
theorem d_Truths_perform_97 : decode m_Truths_perform.2.1 97 = .ok (.iconst 0, 1) := by decide +kernel
theorem d_Truths_perform_98 : decode m_Truths_perform.2.1 98 = .ok (.invokevirtual 17, 3) := by decide +kernel
theorem d_Truths_perform_101 : decode m_Truths_perform.2.1 101 = .ok (.goto 355, 3) := by decide +kernel
theorem d_Truths_perform_104 : decode m_Truths_perform.2.1 104 = .ok (.aload_n 1, 1) := by decide +kernel
theorem d_Truths_perform_105 : decode m_Truths_perform.2.1 105 = .ok (.iconst 2, 1) := by decide +kernel
theorem d_Truths_perform_106 : decode m_Truths_perform.2.1 106 = .ok (.aload_n 3, 1) := by decide +kernel
theorem d_Truths_perform_107 : decode m_Truths_perform.2.1 107 = .ok (.aload 4, 2) := by decide +kernel
theorem d_Truths_perform_109 : decode m_Truths_perform.2.1 109 = .ok (.invokevirtual 23, 3) := by decide +kernel
theorem d_Truths_perform_112 : decode m_Truths_perform.2.1 112 = .ok (.aload_n 2, 1) := by decide +kernel
theorem d_Truths_perform_113 : decode m_Truths_perform.2.1 113 = .ok (.getstatic 29, 3) := by decide +kernel
theorem d_Truths_perform_116 : decode m_Truths_perform.2.1 116 = .ok (.if_acmp .ne 7, 3) := by decide +kernel
theorem d_Truths_perform_119 : decode m_Truths_perform.2.1 119 = .ok (.iconst 1, 1) := by decide +kernel
theorem d_Truths_perform_120 : decode m_Truths_perform.2.1 120 = .ok (.goto 4, 3) := by decide +kernel
theorem d_Truths_perform_123 : decode m_Truths_perform.2.1 123 = .ok (.iconst 0, 1) := by decide +kernel
theorem d_Truths_perform_124 : decode m_Truths_perform.2.1 124 = .ok (.if_icmp .ne 7, 3) := by decide +kernel
theorem d_Truths_perform_127 : decode m_Truths_perform.2.1 127 = .ok (.iconst 1, 1) := by decide +kernel
theorem d_Truths_perform_128 : decode m_Truths_perform.2.1 128 = .ok (.goto 4, 3) := by decide +kernel
theorem d_Truths_perform_131 : decode m_Truths_perform.2.1 131 = .ok (.iconst 0, 1) := by decide +kernel
theorem d_Truths_perform_132 : decode m_Truths_perform.2.1 132 = .ok (.invokevirtual 17, 3) := by decide +kernel
theorem d_Truths_perform_135 : decode m_Truths_perform.2.1 135 = .ok (.goto 321, 3) := by decide +kernel
theorem d_Truths_perform_138 : decode m_Truths_perform.2.1 138 = .ok (.aload_n 1, 1) := by decide +kernel
theorem d_Truths_perform_139 : decode m_Truths_perform.2.1 139 = .ok (.aload_n 3, 1) := by decide +kernel
theorem d_Truths_perform_140 : decode m_Truths_perform.2.1 140 = .ok (.getfield 32, 3) := by decide +kernel
theorem d_Truths_perform_143 : decode m_Truths_perform.2.1 143 = .ok (.aload 4, 2) := by decide +kernel
theorem d_Truths_perform_145 : decode m_Truths_perform.2.1 145 = .ok (.getfield 32, 3) := by decide +kernel
theorem d_Truths_perform_148 : decode m_Truths_perform.2.1 148 = .ok (.if_acmp .ne 14, 3) := by decide +kernel
theorem d_Truths_perform_151 : decode m_Truths_perform.2.1 151 = .ok (.aload_n 3, 1) := by decide +kernel
theorem d_Truths_perform_152 : decode m_Truths_perform.2.1 152 = .ok (.invokestatic 36, 3) := by decide +kernel
theorem d_Truths_perform_155 : decode m_Truths_perform.2.1 155 = .ok (.ifCond .eq 7, 3) := by decide +kernel
theorem d_Truths_perform_158 : decode m_Truths_perform.2.1 158 = .ok (.iconst 1, 1) := by decide +kernel
theorem d_Truths_perform_159 : decode m_Truths_perform.2.1 159 = .ok (.goto 4, 3) := by decide +kernel
theorem d_Truths_perform_162 : decode m_Truths_perform.2.1 162 = .ok (.iconst 0, 1) := by decide +kernel
theorem d_Truths_perform_163 : decode m_Truths_perform.2.1 163 = .ok (.invokevirtual 41, 3) := by decide +kernel
theorem d_Truths_perform_166 : decode m_Truths_perform.2.1 166 = .ok (.aload_n 1, 1) := by decide +kernel
theorem d_Truths_perform_167 : decode m_Truths_perform.2.1 167 = .ok (.iconst 2, 1) := by decide +kernel
theorem d_Truths_perform_168 : decode m_Truths_perform.2.1 168 = .ok (.aload_n 3, 1) := by decide +kernel
theorem d_Truths_perform_169 : decode m_Truths_perform.2.1 169 = .ok (.getfield 32, 3) := by decide +kernel
theorem d_Truths_perform_172 : decode m_Truths_perform.2.1 172 = .ok (.aload_n 2, 1) := by decide +kernel
theorem d_Truths_perform_173 : decode m_Truths_perform.2.1 173 = .ok (.getstatic 45, 3) := by decide +kernel
theorem d_Truths_perform_176 : decode m_Truths_perform.2.1 176 = .ok (.if_acmp .ne 16, 3) := by decide +kernel
theorem d_Truths_perform_179 : decode m_Truths_perform.2.1 179 = .ok (.aload_n 3, 1) := by decide +kernel
theorem d_Truths_perform_180 : decode m_Truths_perform.2.1 180 = .ok (.getfield 48, 3) := by decide +kernel
theorem d_Truths_perform_183 : decode m_Truths_perform.2.1 183 = .ok (.aload 4, 2) := by decide +kernel
theorem d_Truths_perform_185 : decode m_Truths_perform.2.1 185 = .ok (.getfield 48, 3) := by decide +kernel
theorem d_Truths_perform_188 : decode m_Truths_perform.2.1 188 = .ok (.iand, 1) := by decide +kernel
theorem d_Truths_perform_189 : decode m_Truths_perform.2.1 189 = .ok (.goto 13, 3) := by decide +kernel
theorem d_Truths_perform_192 : decode m_Truths_perform.2.1 192 = .ok (.aload_n 3, 1) := by decide +kernel
theorem d_Truths_perform_193 : decode m_Truths_perform.2.1 193 = .ok (.getfield 48, 3) := by decide +kernel
theorem d_Truths_perform_196 : decode m_Truths_perform.2.1 196 = .ok (.aload 4, 2) := by decide +kernel
theorem d_Truths_perform_198 : decode m_Truths_perform.2.1 198 = .ok (.getfield 48, 3) := by decide +kernel
theorem d_Truths_perform_201 : decode m_Truths_perform.2.1 201 = .ok (.ior, 1) := by decide +kernel
theorem d_Truths_perform_202 : decode m_Truths_perform.2.1 202 = .ok (.invokevirtual 52, 3) := by decide +kernel
theorem d_Truths_perform_205 : decode m_Truths_perform.2.1 205 = .ok (.goto 251, 3) := by decide +kernel
theorem d_Truths_perform_208 : decode m_Truths_perform.2.1 208 = .ok (.aload_n 1, 1) := by decide +kernel
theorem d_Truths_perform_209 : decode m_Truths_perform.2.1 209 = .ok (.aload_n 3, 1) := by decide +kernel
theorem d_Truths_perform_210 : decode m_Truths_perform.2.1 210 = .ok (.invokestatic 36, 3) := by decide +kernel
theorem d_Truths_perform_213 : decode m_Truths_perform.2.1 213 = .ok (.invokevirtual 41, 3) := by decide +kernel
theorem d_Truths_perform_216 : decode m_Truths_perform.2.1 216 = .ok (.aload_n 3, 1) := by decide +kernel
theorem d_Truths_perform_217 : decode m_Truths_perform.2.1 217 = .ok (.aload_n 3, 1) := by decide +kernel
theorem d_Truths_perform_218 : decode m_Truths_perform.2.1 218 = .ok (.getstatic 56, 3) := by decide +kernel
theorem d_Truths_perform_221 : decode m_Truths_perform.2.1 221 = .ok (.invokevirtual 61, 3) := by decide +kernel
theorem d_Truths_perform_224 : decode m_Truths_perform.2.1 224 = .ok (.ifCond .eq 12, 3) := by decide +kernel
theorem d_Truths_perform_227 : decode m_Truths_perform.2.1 227 = .ok (.aload_n 3, 1) := by decide +kernel
theorem d_Truths_perform_228 : decode m_Truths_perform.2.1 228 = .ok (.getfield 48, 3) := by decide +kernel
theorem d_Truths_perform_231 : decode m_Truths_perform.2.1 231 = .ok (.iconst (-1), 1) := by decide +kernel
theorem d_Truths_perform_232 : decode m_Truths_perform.2.1 232 = .ok (.ixor, 1) := by decide +kernel
theorem d_Truths_perform_233 : decode m_Truths_perform.2.1 233 = .ok (.goto 9, 3) := by decide +kernel
theorem d_Truths_perform_236 : decode m_Truths_perform.2.1 236 = .ok (.iconst 1, 1) := by decide +kernel
theorem d_Truths_perform_237 : decode m_Truths_perform.2.1 237 = .ok (.aload_n 3, 1) := by decide +kernel
theorem d_Truths_perform_238 : decode m_Truths_perform.2.1 238 = .ok (.getfield 48, 3) := by decide +kernel
theorem d_Truths_perform_241 : decode m_Truths_perform.2.1 241 = .ok (.isub, 1) := by decide +kernel
theorem d_Truths_perform_242 : decode m_Truths_perform.2.1 242 = .ok (.putfield 48, 3) := by decide +kernel
theorem d_Truths_perform_245 : decode m_Truths_perform.2.1 245 = .ok (.goto 211, 3) := by decide +kernel
theorem d_Truths_perform_248 : decode m_Truths_perform.2.1 248 = .ok (.aload_n 1, 1) := by decide +kernel
theorem d_Truths_perform_249 : decode m_Truths_perform.2.1 249 = .ok (.aload_n 3, 1) := by decide +kernel
theorem d_Truths_perform_250 : decode m_Truths_perform.2.1 250 = .ok (.getstatic 56, 3) := by decide +kernel
theorem d_Truths_perform_253 : decode m_Truths_perform.2.1 253 = .ok (.invokevirtual 61, 3) := by decide +kernel
theorem d_Truths_perform_256 : decode m_Truths_perform.2.1 256 = .ok (.ifCond .eq 18, 3) := by decide +kernel
theorem d_Truths_perform_259 : decode m_Truths_perform.2.1 259 = .ok (.aload 4, 2) := by decide +kernel
theorem d_Truths_perform_261 : decode m_Truths_perform.2.1 261 = .ok (.getstatic 56, 3) := by decide +kernel
theorem d_Truths_perform_264 : decode m_Truths_perform.2.1 264 = .ok (.invokevirtual 61, 3) := by decide +kernel
theorem d_Truths_perform_267 : decode m_Truths_perform.2.1 267 = .ok (.ifCond .eq 7, 3) := by decide +kernel
theorem d_Truths_perform_270 : decode m_Truths_perform.2.1 270 = .ok (.iconst 1, 1) := by decide +kernel
theorem d_Truths_perform_271 : decode m_Truths_perform.2.1 271 = .ok (.goto 4, 3) := by decide +kernel
theorem d_Truths_perform_274 : decode m_Truths_perform.2.1 274 = .ok (.iconst 0, 1) := by decide +kernel
theorem d_Truths_perform_275 : decode m_Truths_perform.2.1 275 = .ok (.invokevirtual 41, 3) := by decide +kernel
theorem d_Truths_perform_278 : decode m_Truths_perform.2.1 278 = .ok (.aload_n 1, 1) := by decide +kernel
theorem d_Truths_perform_279 : decode m_Truths_perform.2.1 279 = .ok (.iconst 2, 1) := by decide +kernel
theorem d_Truths_perform_280 : decode m_Truths_perform.2.1 280 = .ok (.getstatic 56, 3) := by decide +kernel
theorem d_Truths_perform_283 : decode m_Truths_perform.2.1 283 = .ok (.aload 4, 2) := by decide +kernel
theorem d_Truths_perform_285 : decode m_Truths_perform.2.1 285 = .ok (.getfield 48, 3) := by decide +kernel
theorem d_Truths_perform_288 : decode m_Truths_perform.2.1 288 = .ok (.bipush 31, 2) := by decide +kernel
theorem d_Truths_perform_290 : decode m_Truths_perform.2.1 290 = .ok (.if_icmp .gt 13, 3) := by decide +kernel
theorem d_Truths_perform_293 : decode m_Truths_perform.2.1 293 = .ok (.aload 4, 2) := by decide +kernel
theorem d_Truths_perform_295 : decode m_Truths_perform.2.1 295 = .ok (.getfield 48, 3) := by decide +kernel
theorem d_Truths_perform_298 : decode m_Truths_perform.2.1 298 = .ok (.bipush (-31), 2) := by decide +kernel
theorem d_Truths_perform_300 : decode m_Truths_perform.2.1 300 = .ok (.if_icmp .ge 7, 3) := by decide +kernel
theorem d_Truths_perform_303 : decode m_Truths_perform.2.1 303 = .ok (.iconst 0, 1) := by decide +kernel
theorem d_Truths_perform_304 : decode m_Truths_perform.2.1 304 = .ok (.goto 35, 3) := by decide +kernel
theorem d_Truths_perform_307 : decode m_Truths_perform.2.1 307 = .ok (.aload 4, 2) := by decide +kernel
theorem d_Truths_perform_309 : decode m_Truths_perform.2.1 309 = .ok (.getfield 48, 3) := by decide +kernel
theorem d_Truths_perform_312 : decode m_Truths_perform.2.1 312 = .ok (.ifCond .ge 17, 3) := by decide +kernel
theorem d_Truths_perform_315 : decode m_Truths_perform.2.1 315 = .ok (.aload_n 3, 1) := by decide +kernel
theorem d_Truths_perform_316 : decode m_Truths_perform.2.1 316 = .ok (.getfield 48, 3) := by decide +kernel
theorem d_Truths_perform_319 : decode m_Truths_perform.2.1 319 = .ok (.aload 4, 2) := by decide +kernel
theorem d_Truths_perform_321 : decode m_Truths_perform.2.1 321 = .ok (.getfield 48, 3) := by decide +kernel
theorem d_Truths_perform_324 : decode m_Truths_perform.2.1 324 = .ok (.ineg, 1) := by decide +kernel
theorem d_Truths_perform_325 : decode m_Truths_perform.2.1 325 = .ok (.iushr, 1) := by decide +kernel
theorem d_Truths_perform_326 : decode m_Truths_perform.2.1 326 = .ok (.goto 13, 3) := by decide +kernel
theorem d_Truths_perform_329 : decode m_Truths_perform.2.1 329 = .ok (.aload_n 3, 1) := by decide +kernel
theorem d_Truths_perform_330 : decode m_Truths_perform.2.1 330 = .ok (.getfield 48, 3) := by decide +kernel
theorem d_Truths_perform_333 : decode m_Truths_perform.2.1 333 = .ok (.aload 4, 2) := by decide +kernel
theorem d_Truths_perform_335 : decode m_Truths_perform.2.1 335 = .ok (.getfield 48, 3) := by decide +kernel
theorem d_Truths_perform_338 : decode m_Truths_perform.2.1 338 = .ok (.ishl, 1) := by decide +kernel
theorem d_Truths_perform_339 : decode m_Truths_perform.2.1 339 = .ok (.invokevirtual 52, 3) := by decide +kernel
theorem d_Truths_perform_342 : decode m_Truths_perform.2.1 342 = .ok (.goto 114, 3) := by decide +kernel
theorem d_Truths_perform_345 : decode m_Truths_perform.2.1 345 = .ok (.aload_n 3, 1) := by decide +kernel
theorem d_Truths_perform_346 : decode m_Truths_perform.2.1 346 = .ok (.aload_n 2, 1) := by decide +kernel
theorem d_Truths_perform_347 : decode m_Truths_perform.2.1 347 = .ok (.getstatic 65, 3) := by decide +kernel
theorem d_Truths_perform_350 : decode m_Truths_perform.2.1 350 = .ok (.if_acmp .ne 27, 3) := by decide +kernel
theorem d_Truths_perform_353 : decode m_Truths_perform.2.1 353 = .ok (.aload_n 3, 1) := by decide +kernel
theorem d_Truths_perform_354 : decode m_Truths_perform.2.1 354 = .ok (.getstatic 68, 3) := by decide +kernel
theorem d_Truths_perform_357 : decode m_Truths_perform.2.1 357 = .ok (.invokevirtual 61, 3) := by decide +kernel
theorem d_Truths_perform_360 : decode m_Truths_perform.2.1 360 = .ok (.ifCond .ne 13, 3) := by decide +kernel
theorem d_Truths_perform_363 : decode m_Truths_perform.2.1 363 = .ok (.aload_n 3, 1) := by decide +kernel
theorem d_Truths_perform_364 : decode m_Truths_perform.2.1 364 = .ok (.getstatic 71, 3) := by decide +kernel
theorem d_Truths_perform_367 : decode m_Truths_perform.2.1 367 = .ok (.invokevirtual 61, 3) := by decide +kernel
theorem d_Truths_perform_370 : decode m_Truths_perform.2.1 370 = .ok (.ifCond .eq 7, 3) := by decide +kernel
theorem d_Truths_perform_373 : decode m_Truths_perform.2.1 373 = .ok (.iconst 1, 1) := by decide +kernel
theorem d_Truths_perform_374 : decode m_Truths_perform.2.1 374 = .ok (.goto 4, 3) := by decide +kernel
theorem d_Truths_perform_377 : decode m_Truths_perform.2.1 377 = .ok (.iconst 0, 1) := by decide +kernel
theorem d_Truths_perform_378 : decode m_Truths_perform.2.1 378 = .ok (.putfield 74, 3) := by decide +kernel
theorem d_Truths_perform_381 : decode m_Truths_perform.2.1 381 = .ok (.goto 75, 3) := by decide +kernel
theorem d_Truths_perform_384 : decode m_Truths_perform.2.1 384 = .ok (.aload_n 1, 1) := by decide +kernel
theorem d_Truths_perform_385 : decode m_Truths_perform.2.1 385 = .ok (.iconst 1, 1) := by decide +kernel
theorem d_Truths_perform_386 : decode m_Truths_perform.2.1 386 = .ok (.aload_n 3, 1) := by decide +kernel
theorem d_Truths_perform_387 : decode m_Truths_perform.2.1 387 = .ok (.getfield 74, 3) := by decide +kernel
theorem d_Truths_perform_390 : decode m_Truths_perform.2.1 390 = .ok (.invokevirtual 17, 3) := by decide +kernel
theorem d_Truths_perform_393 : decode m_Truths_perform.2.1 393 = .ok (.goto 63, 3) := by decide +kernel
theorem d_Truths_perform_396 : decode m_Truths_perform.2.1 396 = .ok (.aload_n 1, 1) := by decide +kernel
theorem d_Truths_perform_397 : decode m_Truths_perform.2.1 397 = .ok (.iconst 1, 1) := by decide +kernel
theorem d_Truths_perform_398 : decode m_Truths_perform.2.1 398 = .ok (.getstatic 56, 3) := by decide +kernel
theorem d_Truths_perform_401 : decode m_Truths_perform.2.1 401 = .ok (.aload_n 3, 1) := by decide +kernel
theorem d_Truths_perform_402 : decode m_Truths_perform.2.1 402 = .ok (.getfield 32, 3) := by decide +kernel
theorem d_Truths_perform_405 : decode m_Truths_perform.2.1 405 = .ok (.invokevirtual 78, 3) := by decide +kernel
theorem d_Truths_perform_408 : decode m_Truths_perform.2.1 408 = .ok (.invokevirtual 52, 3) := by decide +kernel
theorem d_Truths_perform_411 : decode m_Truths_perform.2.1 411 = .ok (.goto 45, 3) := by decide +kernel
theorem d_Truths_perform_414 : decode m_Truths_perform.2.1 414 = .ok (.aload_n 1, 1) := by decide +kernel
theorem d_Truths_perform_415 : decode m_Truths_perform.2.1 415 = .ok (.aload_n 3, 1) := by decide +kernel
theorem d_Truths_perform_416 : decode m_Truths_perform.2.1 416 = .ok (.invokevirtual 79, 3) := by decide +kernel
theorem d_Truths_perform_419 : decode m_Truths_perform.2.1 419 = .ok (.ifCond .eq 15, 3) := by decide +kernel
theorem d_Truths_perform_422 : decode m_Truths_perform.2.1 422 = .ok (.aload 4, 2) := by decide +kernel
theorem d_Truths_perform_424 : decode m_Truths_perform.2.1 424 = .ok (.invokevirtual 79, 3) := by decide +kernel
theorem d_Truths_perform_427 : decode m_Truths_perform.2.1 427 = .ok (.ifCond .eq 7, 3) := by decide +kernel
theorem d_Truths_perform_430 : decode m_Truths_perform.2.1 430 = .ok (.iconst 1, 1) := by decide +kernel
theorem d_Truths_perform_431 : decode m_Truths_perform.2.1 431 = .ok (.goto 4, 3) := by decide +kernel
theorem d_Truths_perform_434 : decode m_Truths_perform.2.1 434 = .ok (.iconst 0, 1) := by decide +kernel
theorem d_Truths_perform_435 : decode m_Truths_perform.2.1 435 = .ok (.invokevirtual 41, 3) := by decide +kernel
theorem d_Truths_perform_438 : decode m_Truths_perform.2.1 438 = .ok (.aload_n 1, 1) := by decide +kernel
theorem d_Truths_perform_439 : decode m_Truths_perform.2.1 439 = .ok (.iconst 2, 1) := by decide +kernel
theorem d_Truths_perform_440 : decode m_Truths_perform.2.1 440 = .ok (.aload_n 2, 1) := by decide +kernel
theorem d_Truths_perform_441 : decode m_Truths_perform.2.1 441 = .ok (.aload_n 3, 1) := by decide +kernel
theorem d_Truths_perform_442 : decode m_Truths_perform.2.1 442 = .ok (.invokevirtual 83, 3) := by decide +kernel
theorem d_Truths_perform_445 : decode m_Truths_perform.2.1 445 = .ok (.aload 4, 2) := by decide +kernel
theorem d_Truths_perform_447 : decode m_Truths_perform.2.1 447 = .ok (.invokevirtual 83, 3) := by decide +kernel
theorem d_Truths_perform_450 : decode m_Truths_perform.2.1 450 = .ok (.invokestatic 87, 3) := by decide +kernel
theorem d_Truths_perform_453 : decode m_Truths_perform.2.1 453 = .ok (.invokevirtual 17, 3) := by decide +kernel
theorem d_Truths_perform_456 : decode m_Truths_perform.2.1 456 = .ok (.return_, 1) := by decide +kernel
theorem d_P_operate_0 : decode m_P_operate.2.1 0 = .ok (.aload_n 0, 1) := by decide +kernel
theorem d_P_operate_1 : decode m_P_operate.2.1 1 = .ok (.aload_n 1, 1) := by decide +kernel
theorem d_P_operate_2 : decode m_P_operate.2.1 2 = .ok (.ifnull 7, 3) := by decide +kernel
theorem d_P_operate_5 : decode m_P_operate.2.1 5 = .ok (.iconst 1, 1) := by decide +kernel
theorem d_P_operate_6 : decode m_P_operate.2.1 6 = .ok (.goto 4, 3) := by decide +kernel
theorem d_P_operate_9 : decode m_P_operate.2.1 9 = .ok (.iconst 0, 1) := by decide +kernel
theorem d_P_operate_10 : decode m_P_operate.2.1 10 = .ok (.iconst 5, 1) := by decide +kernel
theorem d_P_operate_11 : decode m_P_operate.2.1 11 = .ok (.invokevirtual 170, 3) := by decide +kernel
theorem d_P_operate_14 : decode m_P_operate.2.1 14 = .ok (.aload_n 1, 1) := by decide +kernel
theorem d_P_operate_15 : decode m_P_operate.2.1 15 = .ok (.ifnonnull 4, 3) := by decide +kernel
theorem d_P_operate_18 : decode m_P_operate.2.1 18 = .ok (.return_, 1) := by decide +kernel
theorem d_P_operate_19 : decode m_P_operate.2.1 19 = .ok (.aload_n 0, 1) := by decide +kernel
theorem d_P_operate_20 : decode m_P_operate.2.1 20 = .ok (.aload_n 0, 1) := by decide +kernel
theorem d_P_operate_21 : decode m_P_operate.2.1 21 = .ok (.getfield 174, 3) := by decide +kernel
theorem d_P_operate_24 : decode m_P_operate.2.1 24 = .ok (.aload_n 1, 1) := by decide +kernel
theorem d_P_operate_25 : decode m_P_operate.2.1 25 = .ok (.getfield 368, 3) := by decide +kernel
theorem d_P_operate_28 : decode m_P_operate.2.1 28 = .ok (.if_icmp .lt 7, 3) := by decide +kernel
theorem d_P_operate_31 : decode m_P_operate.2.1 31 = .ok (.iconst 1, 1) := by decide +kernel
theorem d_P_operate_32 : decode m_P_operate.2.1 32 = .ok (.goto 4, 3) := by decide +kernel
theorem d_P_operate_35 : decode m_P_operate.2.1 35 = .ok (.iconst 0, 1) := by decide +kernel
theorem d_P_operate_36 : decode m_P_operate.2.1 36 = .ok (.iconst 1, 1) := by decide +kernel
theorem d_P_operate_37 : decode m_P_operate.2.1 37 = .ok (.invokevirtual 170, 3) := by decide +kernel
theorem d_P_operate_40 : decode m_P_operate.2.1 40 = .ok (.aload_n 1, 1) := by decide +kernel
theorem d_P_operate_41 : decode m_P_operate.2.1 41 = .ok (.getfield 368, 3) := by decide +kernel
theorem d_P_operate_44 : decode m_P_operate.2.1 44 = .ok (.ifCond .ne 7, 3) := by decide +kernel
theorem d_P_operate_47 : decode m_P_operate.2.1 47 = .ok (.aconst_null, 1) := by decide +kernel
theorem d_P_operate_48 : decode m_P_operate.2.1 48 = .ok (.goto 13, 3) := by decide +kernel
theorem d_P_operate_51 : decode m_P_operate.2.1 51 = .ok (.aload_n 0, 1) := by decide +kernel
theorem d_P_operate_52 : decode m_P_operate.2.1 52 = .ok (.aload_n 1, 1) := by decide +kernel
theorem d_P_operate_53 : decode m_P_operate.2.1 53 = .ok (.getfield 368, 3) := by decide +kernel
theorem d_P_operate_56 : decode m_P_operate.2.1 56 = .ok (.iconst 1, 1) := by decide +kernel
theorem d_P_operate_57 : decode m_P_operate.2.1 57 = .ok (.isub, 1) := by decide +kernel
theorem d_P_operate_58 : decode m_P_operate.2.1 58 = .ok (.invokevirtual 203, 3) := by decide +kernel
theorem d_P_operate_61 : decode m_P_operate.2.1 61 = .ok (.astore_n 3, 1) := by decide +kernel
theorem d_P_operate_62 : decode m_P_operate.2.1 62 = .ok (.aload_n 0, 1) := by decide +kernel
theorem d_P_operate_63 : decode m_P_operate.2.1 63 = .ok (.getfield 27, 3) := by decide +kernel
theorem d_P_operate_66 : decode m_P_operate.2.1 66 = .ok (.aload_n 1, 1) := by decide +kernel
theorem d_P_operate_67 : decode m_P_operate.2.1 67 = .ok (.getfield 371, 3) := by decide +kernel
theorem d_P_operate_70 : decode m_P_operate.2.1 70 = .ok (.aaload, 1) := by decide +kernel
theorem d_P_operate_71 : decode m_P_operate.2.1 71 = .ok (.aload_n 0, 1) := by decide +kernel
theorem d_P_operate_72 : decode m_P_operate.2.1 72 = .ok (.aload_n 1, 1) := by decide +kernel
theorem d_P_operate_73 : decode m_P_operate.2.1 73 = .ok (.aload_n 3, 1) := by decide +kernel
theorem d_P_operate_74 : decode m_P_operate.2.1 74 = .ok (.aload_n 1, 1) := by decide +kernel
theorem d_P_operate_75 : decode m_P_operate.2.1 75 = .ok (.getfield 368, 3) := by decide +kernel
theorem d_P_operate_78 : decode m_P_operate.2.1 78 = .ok (.iconst 1, 1) := by decide +kernel
theorem d_P_operate_79 : decode m_P_operate.2.1 79 = .ok (.if_icmp .le 16, 3) := by decide +kernel
theorem d_P_operate_82 : decode m_P_operate.2.1 82 = .ok (.aload_n 0, 1) := by decide +kernel
theorem d_P_operate_83 : decode m_P_operate.2.1 83 = .ok (.aload_n 1, 1) := by decide +kernel
theorem d_P_operate_84 : decode m_P_operate.2.1 84 = .ok (.getfield 368, 3) := by decide +kernel
theorem d_P_operate_87 : decode m_P_operate.2.1 87 = .ok (.iconst 2, 1) := by decide +kernel
theorem d_P_operate_88 : decode m_P_operate.2.1 88 = .ok (.isub, 1) := by decide +kernel
theorem d_P_operate_89 : decode m_P_operate.2.1 89 = .ok (.invokevirtual 203, 3) := by decide +kernel
