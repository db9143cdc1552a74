theorem d_M_advance_204 : decode m_M_advance.2.1 204 = .ok (.dup2, 1) := by decide +kernel
theorem d_M_advance_205 : decode m_M_advance.2.1 205 = .ok (.iaload, 1) := by decide +kernel
theorem d_M_advance_206 : decode m_M_advance.2.1 206 = .ok (.iconst 1, 1) := by decide +kernel
theorem d_M_advance_207 : decode m_M_advance.2.1 207 = .ok (.iadd, 1) := by decide +kernel
theorem d_M_advance_208 : decode m_M_advance.2.1 208 = .ok (.iastore, 1) := by decide +kernel
theorem d_M_advance_209 : decode m_M_advance.2.1 209 = .ok (.iload_n 2, 1) := by decide +kernel
theorem d_M_advance_210 : decode m_M_advance.2.1 210 = .ok (.iconst 1, 1) := by decide +kernel
theorem d_M_advance_211 : decode m_M_advance.2.1 211 = .ok (.if_icmp .ne 35, 3) := by decide +kernel
theorem d_M_advance_214 : decode m_M_advance.2.1 214 = .ok (.aload_n 0, 1) := by decide +kernel
theorem d_M_advance_215 : decode m_M_advance.2.1 215 = .ok (.bipush 40, 2) := by decide +kernel
theorem d_M_advance_217 : decode m_M_advance.2.1 217 = .ok (.bipush 50, 2) := by decide +kernel
theorem d_M_advance_219 : decode m_M_advance.2.1 219 = .ok (.aload_n 0, 1) := by decide +kernel
theorem d_M_advance_220 : decode m_M_advance.2.1 220 = .ok (.getfield 46, 3) := by decide +kernel
theorem d_M_advance_223 : decode m_M_advance.2.1 223 = .ok (.iload_n 1, 1) := by decide +kernel
theorem d_M_advance_224 : decode m_M_advance.2.1 224 = .ok (.laload, 1) := by decide +kernel
theorem d_M_advance_225 : decode m_M_advance.2.1 225 = .ok (.invokestatic 394, 3) := by decide +kernel
theorem d_M_advance_228 : decode m_M_advance.2.1 228 = .ok (.iadd, 1) := by decide +kernel
theorem d_M_advance_229 : decode m_M_advance.2.1 229 = .ok (.aload_n 0, 1) := by decide +kernel
theorem d_M_advance_230 : decode m_M_advance.2.1 230 = .ok (.getfield 49, 3) := by decide +kernel
theorem d_M_advance_233 : decode m_M_advance.2.1 233 = .ok (.iload_n 1, 1) := by decide +kernel
theorem d_M_advance_234 : decode m_M_advance.2.1 234 = .ok (.iaload, 1) := by decide +kernel
theorem d_M_advance_235 : decode m_M_advance.2.1 235 = .ok (.iadd, 1) := by decide +kernel
theorem d_M_advance_236 : decode m_M_advance.2.1 236 = .ok (.iconst 1, 1) := by decide +kernel
theorem d_M_advance_237 : decode m_M_advance.2.1 237 = .ok (.isub, 1) := by decide +kernel
theorem d_M_advance_238 : decode m_M_advance.2.1 238 = .ok (.invokevirtual 254, 3) := by decide +kernel
theorem d_M_advance_241 : decode m_M_advance.2.1 241 = .ok (.aload_n 0, 1) := by decide +kernel
theorem d_M_advance_242 : decode m_M_advance.2.1 242 = .ok (.invokevirtual 397, 3) := by decide +kernel
theorem d_M_advance_245 : decode m_M_advance.2.1 245 = .ok (.ireturn, 1) := by decide +kernel
theorem d_M_advance_246 : decode m_M_advance.2.1 246 = .ok (.aload_n 0, 1) := by decide +kernel
theorem d_M_advance_247 : decode m_M_advance.2.1 247 = .ok (.invokevirtual 366, 3) := by decide +kernel
theorem d_M_advance_250 : decode m_M_advance.2.1 250 = .ok (.istore 5, 2) := by decide +kernel
theorem d_M_advance_252 : decode m_M_advance.2.1 252 = .ok (.iload 5, 2) := by decide +kernel
theorem d_M_advance_254 : decode m_M_advance.2.1 254 = .ok (.ifCond .ne 21, 3) := by decide +kernel
theorem d_M_advance_257 : decode m_M_advance.2.1 257 = .ok (.iload_n 2, 1) := by decide +kernel
theorem d_M_advance_258 : decode m_M_advance.2.1 258 = .ok (.iconst 3, 1) := by decide +kernel
theorem d_M_advance_259 : decode m_M_advance.2.1 259 = .ok (.if_icmp .ne 16, 3) := by decide +kernel
theorem d_M_advance_262 : decode m_M_advance.2.1 262 = .ok (.aload_n 0, 1) := by decide +kernel
theorem d_M_advance_263 : decode m_M_advance.2.1 263 = .ok (.iconst 0, 1) := by decide +kernel
theorem d_M_advance_264 : decode m_M_advance.2.1 264 = .ok (.aload_n 0, 1) := by decide +kernel
theorem d_M_advance_265 : decode m_M_advance.2.1 265 = .ok (.getfield 52, 3) := by decide +kernel
theorem d_M_advance_268 : decode m_M_advance.2.1 268 = .ok (.iload_n 1, 1) := by decide +kernel
theorem d_M_advance_269 : decode m_M_advance.2.1 269 = .ok (.laload, 1) := by decide +kernel
theorem d_M_advance_270 : decode m_M_advance.2.1 270 = .ok (.invokevirtual 388, 3) := by decide +kernel
theorem d_M_advance_273 : decode m_M_advance.2.1 273 = .ok (.istore 5, 2) := by decide +kernel
theorem d_M_advance_275 : decode m_M_advance.2.1 275 = .ok (.iload 5, 2) := by decide +kernel
theorem d_M_advance_277 : decode m_M_advance.2.1 277 = .ok (.ifCond .ne 36, 3) := by decide +kernel
theorem d_M_advance_280 : decode m_M_advance.2.1 280 = .ok (.iload_n 2, 1) := by decide +kernel
theorem d_M_advance_281 : decode m_M_advance.2.1 281 = .ok (.bipush 6, 2) := by decide +kernel
theorem d_M_advance_283 : decode m_M_advance.2.1 283 = .ok (.if_icmp .ne 30, 3) := by decide +kernel
theorem d_M_advance_286 : decode m_M_advance.2.1 286 = .ok (.aload_n 0, 1) := by decide +kernel
theorem d_M_advance_287 : decode m_M_advance.2.1 287 = .ok (.bipush 50, 2) := by decide +kernel
theorem d_M_advance_289 : decode m_M_advance.2.1 289 = .ok (.aload_n 0, 1) := by decide +kernel
theorem d_M_advance_290 : decode m_M_advance.2.1 290 = .ok (.getfield 58, 3) := by decide +kernel
theorem d_M_advance_293 : decode m_M_advance.2.1 293 = .ok (.iload_n 1, 1) := by decide +kernel
theorem d_M_advance_294 : decode m_M_advance.2.1 294 = .ok (.laload, 1) := by decide +kernel
theorem d_M_advance_295 : decode m_M_advance.2.1 295 = .ok (.invokestatic 394, 3) := by decide +kernel
theorem d_M_advance_298 : decode m_M_advance.2.1 298 = .ok (.iadd, 1) := by decide +kernel
theorem d_M_advance_299 : decode m_M_advance.2.1 299 = .ok (.aload_n 0, 1) := by decide +kernel
theorem d_M_advance_300 : decode m_M_advance.2.1 300 = .ok (.getfield 49, 3) := by decide +kernel
theorem d_M_advance_303 : decode m_M_advance.2.1 303 = .ok (.iload_n 1, 1) := by decide +kernel
theorem d_M_advance_304 : decode m_M_advance.2.1 304 = .ok (.iaload, 1) := by decide +kernel
theorem d_M_advance_305 : decode m_M_advance.2.1 305 = .ok (.iadd, 1) := by decide +kernel
theorem d_M_advance_306 : decode m_M_advance.2.1 306 = .ok (.iconst 1, 1) := by decide +kernel
theorem d_M_advance_307 : decode m_M_advance.2.1 307 = .ok (.isub, 1) := by decide +kernel
theorem d_M_advance_308 : decode m_M_advance.2.1 308 = .ok (.invokevirtual 369, 3) := by decide +kernel
theorem d_M_advance_311 : decode m_M_advance.2.1 311 = .ok (.istore 5, 2) := by decide +kernel
theorem d_M_advance_313 : decode m_M_advance.2.1 313 = .ok (.aload_n 0, 1) := by decide +kernel
theorem d_M_advance_314 : decode m_M_advance.2.1 314 = .ok (.getfield 52, 3) := by decide +kernel
theorem d_M_advance_317 : decode m_M_advance.2.1 317 = .ok (.iload_n 1, 1) := by decide +kernel
theorem d_M_advance_318 : decode m_M_advance.2.1 318 = .ok (.dup2, 1) := by decide +kernel
theorem d_M_advance_319 : decode m_M_advance.2.1 319 = .ok (.laload, 1) := by decide +kernel
theorem d_M_advance_320 : decode m_M_advance.2.1 320 = .ok (.iload_n 2, 1) := by decide +kernel
theorem d_M_advance_321 : decode m_M_advance.2.1 321 = .ok (.iconst 3, 1) := by decide +kernel
theorem d_M_advance_322 : decode m_M_advance.2.1 322 = .ok (.if_icmp .ne 12, 3) := by decide +kernel
theorem d_M_advance_325 : decode m_M_advance.2.1 325 = .ok (.aload_n 0, 1) := by decide +kernel
theorem d_M_advance_326 : decode m_M_advance.2.1 326 = .ok (.getfield 55, 3) := by decide +kernel
theorem d_M_advance_329 : decode m_M_advance.2.1 329 = .ok (.iload_n 1, 1) := by decide +kernel
theorem d_M_advance_330 : decode m_M_advance.2.1 330 = .ok (.laload, 1) := by decide +kernel
theorem d_M_advance_331 : decode m_M_advance.2.1 331 = .ok (.goto 6, 3) := by decide +kernel
theorem d_M_advance_334 : decode m_M_advance.2.1 334 = .ok (.ldc2_w 400, 3) := by decide +kernel
theorem d_M_advance_337 : decode m_M_advance.2.1 337 = .ok (.ladd, 1) := by decide +kernel
theorem d_M_advance_338 : decode m_M_advance.2.1 338 = .ok (.lastore, 1) := by decide +kernel
theorem d_M_advance_339 : decode m_M_advance.2.1 339 = .ok (.iload 5, 2) := by decide +kernel
theorem d_M_advance_341 : decode m_M_advance.2.1 341 = .ok (.ifCond .eq 8, 3) := by decide +kernel
theorem d_M_advance_344 : decode m_M_advance.2.1 344 = .ok (.iload 5, 2) := by decide +kernel
theorem d_M_advance_346 : decode m_M_advance.2.1 346 = .ok (.goto 13, 3) := by decide +kernel
theorem d_M_advance_349 : decode m_M_advance.2.1 349 = .ok (.aload_n 0, 1) := by decide +kernel
theorem d_M_advance_350 : decode m_M_advance.2.1 350 = .ok (.aload_n 0, 1) := by decide +kernel
theorem d_M_advance_351 : decode m_M_advance.2.1 351 = .ok (.getfield 46, 3) := by decide +kernel
theorem d_M_advance_354 : decode m_M_advance.2.1 354 = .ok (.iload_n 1, 1) := by decide +kernel
theorem d_M_advance_355 : decode m_M_advance.2.1 355 = .ok (.laload, 1) := by decide +kernel
theorem d_M_advance_356 : decode m_M_advance.2.1 356 = .ok (.invokevirtual 382, 3) := by decide +kernel
theorem d_M_advance_359 : decode m_M_advance.2.1 359 = .ok (.ireturn, 1) := by decide +kernel
theorem d_M_work_0 : decode m_M_work.2.1 0 = .ok (.aload_n 0, 1) := by decide +kernel
theorem d_M_work_1 : decode m_M_work.2.1 1 = .ok (.invokevirtual 397, 3) := by decide +kernel
theorem d_M_work_4 : decode m_M_work.2.1 4 = .ok (.istore_n 1, 1) := by decide +kernel
theorem d_M_work_5 : decode m_M_work.2.1 5 = .ok (.iconst 0, 1) := by decide +kernel
theorem d_M_work_6 : decode m_M_work.2.1 6 = .ok (.istore_n 2, 1) := by decide +kernel
theorem d_M_work_7 : decode m_M_work.2.1 7 = .ok (.iload_n 2, 1) := by decide +kernel
theorem d_M_work_8 : decode m_M_work.2.1 8 = .ok (.ldc_w 405, 3) := by decide +kernel
theorem d_M_work_11 : decode m_M_work.2.1 11 = .ok (.if_icmp .ge 33, 3) := by decide +kernel
theorem d_M_work_14 : decode m_M_work.2.1 14 = .ok (.aload_n 0, 1) := by decide +kernel
theorem d_M_work_15 : decode m_M_work.2.1 15 = .ok (.iload_n 1, 1) := by decide +kernel
theorem d_M_work_16 : decode m_M_work.2.1 16 = .ok (.invokevirtual 406, 3) := by decide +kernel
theorem d_M_work_19 : decode m_M_work.2.1 19 = .ok (.istore_n 1, 1) := by decide +kernel
theorem d_M_work_20 : decode m_M_work.2.1 20 = .ok (.iload_n 1, 1) := by decide +kernel
theorem d_M_work_21 : decode m_M_work.2.1 21 = .ok (.ifCond .ne 10, 3) := by decide +kernel
theorem d_M_work_24 : decode m_M_work.2.1 24 = .ok (.aload_n 0, 1) := by decide +kernel
theorem d_M_work_25 : decode m_M_work.2.1 25 = .ok (.getfield 346, 3) := by decide +kernel
theorem d_M_work_28 : decode m_M_work.2.1 28 = .ok (.ifCond .ne 5, 3) := by decide +kernel
theorem d_M_work_31 : decode m_M_work.2.1 31 = .ok (.iload_n 1, 1) := by decide +kernel
theorem d_M_work_32 : decode m_M_work.2.1 32 = .ok (.ireturn, 1) := by decide +kernel
theorem d_M_work_33 : decode m_M_work.2.1 33 = .ok (.aload_n 0, 1) := by decide +kernel
theorem d_M_work_34 : decode m_M_work.2.1 34 = .ok (.invokevirtual 409, 3) := by decide +kernel
theorem d_M_work_37 : decode m_M_work.2.1 37 = .ok (.istore_n 1, 1) := by decide +kernel
theorem d_M_work_38 : decode m_M_work.2.1 38 = .ok (.iinc 2 1, 3) := by decide +kernel
theorem d_M_work_41 : decode m_M_work.2.1 41 = .ok (.goto (-34), 3) := by decide +kernel
theorem d_M_work_44 : decode m_M_work.2.1 44 = .ok (.iload_n 1, 1) := by decide +kernel
theorem d_M_work_45 : decode m_M_work.2.1 45 = .ok (.ireturn, 1) := by decide +kernel
theorem d_M_run_0 : decode m_M_run.2.1 0 = .ok (.aload_n 0, 1) := by decide +kernel
theorem d_M_run_1 : decode m_M_run.2.1 1 = .ok (.iload_n 1, 1) := by decide +kernel
theorem d_M_run_2 : decode m_M_run.2.1 2 = .ok (.iconst 1, 1) := by decide +kernel
theorem d_M_run_3 : decode m_M_run.2.1 3 = .ok (.if_icmp .lt 10, 3) := by decide +kernel
theorem d_M_run_6 : decode m_M_run.2.1 6 = .ok (.iload_n 1, 1) := by decide +kernel
theorem d_M_run_7 : decode m_M_run.2.1 7 = .ok (.sipush 500, 3) := by decide +kernel
theorem d_M_run_10 : decode m_M_run.2.1 10 = .ok (.if_icmp .le 7, 3) := by decide +kernel
theorem d_M_run_13 : decode m_M_run.2.1 13 = .ok (.iconst 1, 1) := by decide +kernel
theorem d_M_run_14 : decode m_M_run.2.1 14 = .ok (.goto 4, 3) := by decide +kernel
theorem d_M_run_17 : decode m_M_run.2.1 17 = .ok (.iconst 0, 1) := by decide +kernel
theorem d_M_run_18 : decode m_M_run.2.1 18 = .ok (.putfield 242, 3) := by decide +kernel
theorem d_M_run_21 : decode m_M_run.2.1 21 = .ok (.aload_n 0, 1) := by decide +kernel
theorem d_M_run_22 : decode m_M_run.2.1 22 = .ok (.getfield 242, 3) := by decide +kernel
theorem d_M_run_25 : decode m_M_run.2.1 25 = .ok (.ifCond .le 5, 3) := by decide +kernel
theorem d_M_run_28 : decode m_M_run.2.1 28 = .ok (.iconst 0, 1) := by decide +kernel
theorem d_M_run_29 : decode m_M_run.2.1 29 = .ok (.ireturn, 1) := by decide +kernel
theorem d_M_run_30 : decode m_M_run.2.1 30 = .ok (.aload_n 0, 1) := by decide +kernel
theorem d_M_run_31 : decode m_M_run.2.1 31 = .ok (.iload_n 1, 1) := by decide +kernel
theorem d_M_run_32 : decode m_M_run.2.1 32 = .ok (.putfield 359, 3) := by decide +kernel
theorem d_M_run_35 : decode m_M_run.2.1 35 = .ok (.aload_n 0, 1) := by decide +kernel
theorem d_M_run_36 : decode m_M_run.2.1 36 = .ok (.iconst 0, 1) := by decide +kernel
theorem d_M_run_37 : decode m_M_run.2.1 37 = .ok (.putfield 356, 3) := by decide +kernel
theorem d_M_run_40 : decode m_M_run.2.1 40 = .ok (.aload_n 0, 1) := by decide +kernel
theorem d_M_run_41 : decode m_M_run.2.1 41 = .ok (.iconst 0, 1) := by decide +kernel
theorem d_M_run_42 : decode m_M_run.2.1 42 = .ok (.putfield 281, 3) := by decide +kernel
theorem d_M_run_45 : decode m_M_run.2.1 45 = .ok (.iconst 0, 1) := by decide +kernel
theorem d_M_run_46 : decode m_M_run.2.1 46 = .ok (.istore_n 2, 1) := by decide +kernel
theorem d_M_run_47 : decode m_M_run.2.1 47 = .ok (.iconst 0, 1) := by decide +kernel
theorem d_M_run_48 : decode m_M_run.2.1 48 = .ok (.istore_n 3, 1) := by decide +kernel
theorem d_M_run_49 : decode m_M_run.2.1 49 = .ok (.iload_n 3, 1) := by decide +kernel
theorem d_M_run_50 : decode m_M_run.2.1 50 = .ok (.sipush 130, 3) := by decide +kernel
theorem d_M_run_53 : decode m_M_run.2.1 53 = .ok (.if_icmp .ge 40, 3) := by decide +kernel
theorem d_M_run_56 : decode m_M_run.2.1 56 = .ok (.iload_n 2, 1) := by decide +kernel
theorem d_M_run_57 : decode m_M_run.2.1 57 = .ok (.ifCond .ne 36, 3) := by decide +kernel
theorem d_M_run_60 : decode m_M_run.2.1 60 = .ok (.aload_n 0, 1) := by decide +kernel
theorem d_M_run_61 : decode m_M_run.2.1 61 = .ok (.invokevirtual 412, 3) := by decide +kernel
theorem d_M_run_64 : decode m_M_run.2.1 64 = .ok (.istore_n 2, 1) := by decide +kernel
theorem d_M_run_65 : decode m_M_run.2.1 65 = .ok (.iload_n 2, 1) := by decide +kernel
theorem d_M_run_66 : decode m_M_run.2.1 66 = .ok (.ifCond .ne 11, 3) := by decide +kernel
theorem d_M_run_69 : decode m_M_run.2.1 69 = .ok (.aload_n 0, 1) := by decide +kernel
theorem d_M_run_70 : decode m_M_run.2.1 70 = .ok (.invokevirtual 415, 3) := by decide +kernel
theorem d_M_run_73 : decode m_M_run.2.1 73 = .ok (.istore_n 2, 1) := by decide +kernel
theorem d_M_run_74 : decode m_M_run.2.1 74 = .ok (.goto 13, 3) := by decide +kernel
theorem d_M_run_77 : decode m_M_run.2.1 77 = .ok (.iload_n 2, 1) := by decide +kernel
theorem d_M_run_78 : decode m_M_run.2.1 78 = .ok (.iconst (-1), 1) := by decide +kernel
theorem d_M_run_79 : decode m_M_run.2.1 79 = .ok (.if_icmp .eq 8, 3) := by decide +kernel
theorem d_M_run_82 : decode m_M_run.2.1 82 = .ok (.aload_n 0, 1) := by decide +kernel
theorem d_M_run_83 : decode m_M_run.2.1 83 = .ok (.iload_n 2, 1) := by decide +kernel
theorem d_M_run_84 : decode m_M_run.2.1 84 = .ok (.putfield 402, 3) := by decide +kernel
theorem d_M_run_87 : decode m_M_run.2.1 87 = .ok (.iinc 3 1, 3) := by decide +kernel
theorem d_M_run_90 : decode m_M_run.2.1 90 = .ok (.goto (-41), 3) := by decide +kernel
theorem d_M_run_93 : decode m_M_run.2.1 93 = .ok (.aload_n 0, 1) := by decide +kernel
theorem d_M_run_94 : decode m_M_run.2.1 94 = .ok (.iconst 0, 1) := by decide +kernel
theorem d_M_run_95 : decode m_M_run.2.1 95 = .ok (.putfield 270, 3) := by decide +kernel
theorem d_M_run_98 : decode m_M_run.2.1 98 = .ok (.iload_n 2, 1) := by decide +kernel
theorem d_M_run_99 : decode m_M_run.2.1 99 = .ok (.iconst (-1), 1) := by decide +kernel
theorem d_M_run_100 : decode m_M_run.2.1 100 = .ok (.if_icmp .ne 7, 3) := by decide +kernel
theorem d_M_run_103 : decode m_M_run.2.1 103 = .ok (.iconst 0, 1) := by decide +kernel
theorem d_M_run_104 : decode m_M_run.2.1 104 = .ok (.goto 4, 3) := by decide +kernel
theorem d_M_run_107 : decode m_M_run.2.1 107 = .ok (.iload_n 2, 1) := by decide +kernel
theorem d_M_run_108 : decode m_M_run.2.1 108 = .ok (.ireturn, 1) := by decide +kernel
