set_option maxRecDepth 100000
theorem dX0_plan_0 : decode cX0_plan 0 = .ok (.iload_n 1, 1) := by decide +kernel
theorem dX0_plan_1 : decode cX0_plan 1 = .ok (.i2l, 1) := by decide +kernel
theorem dX0_plan_2 : decode cX0_plan 2 = .ok (.lconst 1, 1) := by decide +kernel
theorem dX0_plan_3 : decode cX0_plan 3 = .ok (.ldc2_w 638, 3) := by decide +kernel
theorem dX0_plan_6 : decode cX0_plan 6 = .ok (.invokestatic 101, 3) := by decide +kernel
theorem dX0_plan_9 : decode cX0_plan 9 = .ok (.ifCond .eq 47, 3) := by decide +kernel
theorem dX0_plan_12 : decode cX0_plan 12 = .ok (.iload_n 2, 1) := by decide +kernel
theorem dX0_plan_13 : decode cX0_plan 13 = .ok (.i2l, 1) := by decide +kernel
theorem dX0_plan_14 : decode cX0_plan 14 = .ok (.lconst 0, 1) := by decide +kernel
theorem dX0_plan_15 : decode cX0_plan 15 = .ok (.ldc2_w 640, 3) := by decide +kernel
theorem dX0_plan_18 : decode cX0_plan 18 = .ok (.invokestatic 101, 3) := by decide +kernel
theorem dX0_plan_21 : decode cX0_plan 21 = .ok (.ifCond .eq 35, 3) := by decide +kernel
theorem dX0_plan_24 : decode cX0_plan 24 = .ok (.aload_n 0, 1) := by decide +kernel
theorem dX0_plan_25 : decode cX0_plan 25 = .ok (.getfield 351, 3) := by decide +kernel
theorem dX0_plan_28 : decode cX0_plan 28 = .ok (.iload_n 1, 1) := by decide +kernel
theorem dX0_plan_29 : decode cX0_plan 29 = .ok (.iadd, 1) := by decide +kernel
theorem dX0_plan_30 : decode cX0_plan 30 = .ok (.sipush 4999, 3) := by decide +kernel
theorem dX0_plan_33 : decode cX0_plan 33 = .ok (.if_icmp .gt 23, 3) := by decide +kernel
theorem dX0_plan_36 : decode cX0_plan 36 = .ok (.iload_n 3, 1) := by decide +kernel
theorem dX0_plan_37 : decode cX0_plan 37 = .ok (.ifCond .eq 21, 3) := by decide +kernel
theorem dX0_plan_40 : decode cX0_plan 40 = .ok (.iload_n 3, 1) := by decide +kernel
theorem dX0_plan_41 : decode cX0_plan 41 = .ok (.i2l, 1) := by decide +kernel
theorem dX0_plan_42 : decode cX0_plan 42 = .ok (.ldc2_w 409, 3) := by decide +kernel
theorem dX0_plan_45 : decode cX0_plan 45 = .ok (.bipush 9, 2) := by decide +kernel
theorem dX0_plan_47 : decode cX0_plan 47 = .ok (.iload_n 1, 1) := by decide +kernel
theorem dX0_plan_48 : decode cX0_plan 48 = .ok (.iadd, 1) := by decide +kernel
theorem dX0_plan_49 : decode cX0_plan 49 = .ok (.i2l, 1) := by decide +kernel
theorem dX0_plan_50 : decode cX0_plan 50 = .ok (.invokestatic 101, 3) := by decide +kernel
theorem dX0_plan_53 : decode cX0_plan 53 = .ok (.ifCond .ne 5, 3) := by decide +kernel
theorem dX0_plan_56 : decode cX0_plan 56 = .ok (.iconst (-1), 1) := by decide +kernel
theorem dX0_plan_57 : decode cX0_plan 57 = .ok (.ireturn, 1) := by decide +kernel
theorem dX0_plan_58 : decode cX0_plan 58 = .ok (.iconst 1, 1) := by decide +kernel
theorem dX0_plan_59 : decode cX0_plan 59 = .ok (.aload_n 0, 1) := by decide +kernel
theorem dX0_plan_60 : decode cX0_plan 60 = .ok (.getfield 64, 3) := by decide +kernel
theorem dX0_plan_63 : decode cX0_plan 63 = .ok (.invokevirtual 124, 3) := by decide +kernel
theorem dX0_plan_66 : decode cX0_plan 66 = .ok (.ishl, 1) := by decide +kernel
theorem dX0_plan_67 : decode cX0_plan 67 = .ok (.istore 4, 2) := by decide +kernel
theorem dX0_plan_69 : decode cX0_plan 69 = .ok (.aload_n 0, 1) := by decide +kernel
theorem dX0_plan_70 : decode cX0_plan 70 = .ok (.aload_n 0, 1) := by decide +kernel
theorem dX0_plan_71 : decode cX0_plan 71 = .ok (.aload_n 0, 1) := by decide +kernel
theorem dX0_plan_72 : decode cX0_plan 72 = .ok (.getfield 351, 3) := by decide +kernel
theorem dX0_plan_75 : decode cX0_plan 75 = .ok (.invokevirtual 138, 3) := by decide +kernel
theorem dX0_plan_78 : decode cX0_plan 78 = .ok (.invokevirtual 461, 3) := by decide +kernel
theorem dX0_plan_81 : decode cX0_plan 81 = .ok (.iconst 0, 1) := by decide +kernel
theorem dX0_plan_82 : decode cX0_plan 82 = .ok (.istore 5, 2) := by decide +kernel
theorem dX0_plan_84 : decode cX0_plan 84 = .ok (.iload 5, 2) := by decide +kernel
theorem dX0_plan_86 : decode cX0_plan 86 = .ok (.iload_n 1, 1) := by decide +kernel
theorem dX0_plan_87 : decode cX0_plan 87 = .ok (.if_icmp .ge 66, 3) := by decide +kernel
theorem dX0_plan_90 : decode cX0_plan 90 = .ok (.iconst 0, 1) := by decide +kernel
theorem dX0_plan_91 : decode cX0_plan 91 = .ok (.istore 6, 2) := by decide +kernel
theorem dX0_plan_93 : decode cX0_plan 93 = .ok (.iload 6, 2) := by decide +kernel
theorem dX0_plan_95 : decode cX0_plan 95 = .ok (.iload 4, 2) := by decide +kernel
theorem dX0_plan_97 : decode cX0_plan 97 = .ok (.if_icmp .ge 50, 3) := by decide +kernel
theorem dX0_plan_100 : decode cX0_plan 100 = .ok (.aload_n 0, 1) := by decide +kernel
theorem dX0_plan_101 : decode cX0_plan 101 = .ok (.getfield 96, 3) := by decide +kernel
theorem dX0_plan_104 : decode cX0_plan 104 = .ok (.bipush 16, 2) := by decide +kernel
theorem dX0_plan_106 : decode cX0_plan 106 = .ok (.iload 5, 2) := by decide +kernel
theorem dX0_plan_108 : decode cX0_plan 108 = .ok (.imul, 1) := by decide +kernel
theorem dX0_plan_109 : decode cX0_plan 109 = .ok (.iload 6, 2) := by decide +kernel
theorem dX0_plan_111 : decode cX0_plan 111 = .ok (.iadd, 1) := by decide +kernel
theorem dX0_plan_112 : decode cX0_plan 112 = .ok (.aload_n 0, 1) := by decide +kernel
theorem dX0_plan_113 : decode cX0_plan 113 = .ok (.iload 6, 2) := by decide +kernel
theorem dX0_plan_115 : decode cX0_plan 115 = .ok (.aload_n 0, 1) := by decide +kernel
theorem dX0_plan_116 : decode cX0_plan 116 = .ok (.getfield 14, 3) := by decide +kernel
theorem dX0_plan_119 : decode cX0_plan 119 = .ok (.aload_n 0, 1) := by decide +kernel
theorem dX0_plan_120 : decode cX0_plan 120 = .ok (.getfield 351, 3) := by decide +kernel
theorem dX0_plan_123 : decode cX0_plan 123 = .ok (.iload 5, 2) := by decide +kernel
theorem dX0_plan_125 : decode cX0_plan 125 = .ok (.iadd, 1) := by decide +kernel
theorem dX0_plan_126 : decode cX0_plan 126 = .ok (.invokevirtual 119, 3) := by decide +kernel
theorem dX0_plan_129 : decode cX0_plan 129 = .ok (.aload_n 0, 1) := by decide +kernel
theorem dX0_plan_130 : decode cX0_plan 130 = .ok (.aload_n 0, 1) := by decide +kernel
theorem dX0_plan_131 : decode cX0_plan 131 = .ok (.getfield 351, 3) := by decide +kernel
theorem dX0_plan_134 : decode cX0_plan 134 = .ok (.invokevirtual 138, 3) := by decide +kernel
theorem dX0_plan_137 : decode cX0_plan 137 = .ok (.invokevirtual 642, 3) := by decide +kernel
theorem dX0_plan_140 : decode cX0_plan 140 = .ok (.iastore, 1) := by decide +kernel
theorem dX0_plan_141 : decode cX0_plan 141 = .ok (.iinc 6 1, 3) := by decide +kernel
theorem dX0_plan_144 : decode cX0_plan 144 = .ok (.goto (-51), 3) := by decide +kernel
theorem dX0_plan_147 : decode cX0_plan 147 = .ok (.iinc 5 1, 3) := by decide +kernel
theorem dX0_plan_150 : decode cX0_plan 150 = .ok (.goto (-66), 3) := by decide +kernel
theorem dX0_plan_153 : decode cX0_plan 153 = .ok (.iconst 0, 1) := by decide +kernel
theorem dX0_plan_154 : decode cX0_plan 154 = .ok (.istore 5, 2) := by decide +kernel
theorem dX0_plan_156 : decode cX0_plan 156 = .ok (.iload 5, 2) := by decide +kernel
theorem dX0_plan_158 : decode cX0_plan 158 = .ok (.iload 4, 2) := by decide +kernel
theorem dX0_plan_160 : decode cX0_plan 160 = .ok (.if_icmp .ge 54, 3) := by decide +kernel
theorem dX0_plan_163 : decode cX0_plan 163 = .ok (.iconst 0, 1) := by decide +kernel
theorem dX0_plan_164 : decode cX0_plan 164 = .ok (.istore 6, 2) := by decide +kernel
theorem dX0_plan_166 : decode cX0_plan 166 = .ok (.iload 6, 2) := by decide +kernel
theorem dX0_plan_168 : decode cX0_plan 168 = .ok (.iload_n 2, 1) := by decide +kernel
theorem dX0_plan_169 : decode cX0_plan 169 = .ok (.if_icmp .gt 39, 3) := by decide +kernel
theorem dX0_plan_172 : decode cX0_plan 172 = .ok (.aload_n 0, 1) := by decide +kernel
theorem dX0_plan_173 : decode cX0_plan 173 = .ok (.getfield 93, 3) := by decide +kernel
theorem dX0_plan_176 : decode cX0_plan 176 = .ok (.bipush 16, 2) := by decide +kernel
theorem dX0_plan_178 : decode cX0_plan 178 = .ok (.iload_n 1, 1) := by decide +kernel
theorem dX0_plan_179 : decode cX0_plan 179 = .ok (.imul, 1) := by decide +kernel
theorem dX0_plan_180 : decode cX0_plan 180 = .ok (.iload 5, 2) := by decide +kernel
theorem dX0_plan_182 : decode cX0_plan 182 = .ok (.iadd, 1) := by decide +kernel
theorem dX0_plan_183 : decode cX0_plan 183 = .ok (.bipush 61, 2) := by decide +kernel
theorem dX0_plan_185 : decode cX0_plan 185 = .ok (.imul, 1) := by decide +kernel
theorem dX0_plan_186 : decode cX0_plan 186 = .ok (.iload 6, 2) := by decide +kernel
theorem dX0_plan_188 : decode cX0_plan 188 = .ok (.iadd, 1) := by decide +kernel
theorem dX0_plan_189 : decode cX0_plan 189 = .ok (.iload 6, 2) := by decide +kernel
theorem dX0_plan_191 : decode cX0_plan 191 = .ok (.ifCond .ne 7, 3) := by decide +kernel
theorem dX0_plan_194 : decode cX0_plan 194 = .ok (.iconst 0, 1) := by decide +kernel
theorem dX0_plan_195 : decode cX0_plan 195 = .ok (.goto 6, 3) := by decide +kernel
theorem dX0_plan_198 : decode cX0_plan 198 = .ok (.ldc_w 501, 3) := by decide +kernel
theorem dX0_plan_201 : decode cX0_plan 201 = .ok (.iastore, 1) := by decide +kernel
theorem dX0_plan_202 : decode cX0_plan 202 = .ok (.iinc 6 1, 3) := by decide +kernel
theorem dX0_plan_205 : decode cX0_plan 205 = .ok (.goto (-39), 3) := by decide +kernel
theorem dX0_plan_208 : decode cX0_plan 208 = .ok (.iinc 5 1, 3) := by decide +kernel
theorem dX0_plan_211 : decode cX0_plan 211 = .ok (.goto (-55), 3) := by decide +kernel
theorem dX0_plan_214 : decode cX0_plan 214 = .ok (.iload_n 1, 1) := by decide +kernel
theorem dX0_plan_215 : decode cX0_plan 215 = .ok (.iconst 1, 1) := by decide +kernel
theorem dX0_plan_216 : decode cX0_plan 216 = .ok (.isub, 1) := by decide +kernel
theorem dX0_plan_217 : decode cX0_plan 217 = .ok (.istore 5, 2) := by decide +kernel
theorem dX0_plan_219 : decode cX0_plan 219 = .ok (.iload 5, 2) := by decide +kernel
theorem dX0_plan_221 : decode cX0_plan 221 = .ok (.ifCond .lt 101, 3) := by decide +kernel
theorem dX0_plan_224 : decode cX0_plan 224 = .ok (.iconst 0, 1) := by decide +kernel
theorem dX0_plan_225 : decode cX0_plan 225 = .ok (.istore 6, 2) := by decide +kernel
theorem dX0_plan_227 : decode cX0_plan 227 = .ok (.iload 6, 2) := by decide +kernel
theorem dX0_plan_229 : decode cX0_plan 229 = .ok (.iload 4, 2) := by decide +kernel
theorem dX0_plan_231 : decode cX0_plan 231 = .ok (.if_icmp .ge 85, 3) := by decide +kernel
theorem dX0_plan_234 : decode cX0_plan 234 = .ok (.iconst 0, 1) := by decide +kernel
theorem dX0_plan_235 : decode cX0_plan 235 = .ok (.istore 7, 2) := by decide +kernel
theorem dX0_plan_237 : decode cX0_plan 237 = .ok (.iload 7, 2) := by decide +kernel
theorem dX0_plan_239 : decode cX0_plan 239 = .ok (.iload_n 2, 1) := by decide +kernel
theorem dX0_plan_240 : decode cX0_plan 240 = .ok (.if_icmp .gt 70, 3) := by decide +kernel
theorem dX0_plan_243 : decode cX0_plan 243 = .ok (.ldc_w 501, 3) := by decide +kernel
theorem dX0_plan_246 : decode cX0_plan 246 = .ok (.istore 8, 2) := by decide +kernel
theorem dX0_plan_248 : decode cX0_plan 248 = .ok (.iconst 0, 1) := by decide +kernel
theorem dX0_plan_249 : decode cX0_plan 249 = .ok (.istore 9, 2) := by decide +kernel
theorem dX0_plan_251 : decode cX0_plan 251 = .ok (.iload 9, 2) := by decide +kernel
theorem dX0_plan_253 : decode cX0_plan 253 = .ok (.iload 4, 2) := by decide +kernel
theorem dX0_plan_255 : decode cX0_plan 255 = .ok (.if_icmp .ge 28, 3) := by decide +kernel
theorem dX0_plan_258 : decode cX0_plan 258 = .ok (.iload 8, 2) := by decide +kernel
theorem dX0_plan_260 : decode cX0_plan 260 = .ok (.aload_n 0, 1) := by decide +kernel
theorem dX0_plan_261 : decode cX0_plan 261 = .ok (.iload 5, 2) := by decide +kernel
theorem dX0_plan_263 : decode cX0_plan 263 = .ok (.iload 6, 2) := by decide +kernel
theorem dX0_plan_265 : decode cX0_plan 265 = .ok (.iload 9, 2) := by decide +kernel
theorem dX0_plan_267 : decode cX0_plan 267 = .ok (.iload 7, 2) := by decide +kernel
theorem dX0_plan_269 : decode cX0_plan 269 = .ok (.invokevirtual 646, 3) := by decide +kernel
theorem dX0_plan_272 : decode cX0_plan 272 = .ok (.invokestatic 205, 3) := by decide +kernel
theorem dX0_plan_275 : decode cX0_plan 275 = .ok (.istore 8, 2) := by decide +kernel
theorem dX0_plan_277 : decode cX0_plan 277 = .ok (.iinc 9 1, 3) := by decide +kernel
theorem dX0_plan_280 : decode cX0_plan 280 = .ok (.goto (-29), 3) := by decide +kernel
theorem dX0_plan_283 : decode cX0_plan 283 = .ok (.aload_n 0, 1) := by decide +kernel
theorem dX0_plan_284 : decode cX0_plan 284 = .ok (.getfield 93, 3) := by decide +kernel
theorem dX0_plan_287 : decode cX0_plan 287 = .ok (.bipush 16, 2) := by decide +kernel
theorem dX0_plan_289 : decode cX0_plan 289 = .ok (.iload 5, 2) := by decide +kernel
theorem dX0_plan_291 : decode cX0_plan 291 = .ok (.imul, 1) := by decide +kernel
theorem dX0_plan_292 : decode cX0_plan 292 = .ok (.iload 6, 2) := by decide +kernel
theorem dX0_plan_294 : decode cX0_plan 294 = .ok (.iadd, 1) := by decide +kernel
theorem dX0_plan_295 : decode cX0_plan 295 = .ok (.bipush 61, 2) := by decide +kernel
theorem dX0_plan_297 : decode cX0_plan 297 = .ok (.imul, 1) := by decide +kernel
theorem dX0_plan_298 : decode cX0_plan 298 = .ok (.iload 7, 2) := by decide +kernel
theorem dX0_plan_300 : decode cX0_plan 300 = .ok (.iadd, 1) := by decide +kernel
theorem dX0_plan_301 : decode cX0_plan 301 = .ok (.iload 8, 2) := by decide +kernel
theorem dX0_plan_303 : decode cX0_plan 303 = .ok (.iastore, 1) := by decide +kernel
theorem dX0_plan_304 : decode cX0_plan 304 = .ok (.iinc 7 1, 3) := by decide +kernel
theorem dX0_plan_307 : decode cX0_plan 307 = .ok (.goto (-70), 3) := by decide +kernel
theorem dX0_plan_310 : decode cX0_plan 310 = .ok (.iinc 6 1, 3) := by decide +kernel
theorem dX0_plan_313 : decode cX0_plan 313 = .ok (.goto (-86), 3) := by decide +kernel
theorem dX0_plan_316 : decode cX0_plan 316 = .ok (.iinc 5 (-1), 3) := by decide +kernel
theorem dX0_plan_319 : decode cX0_plan 319 = .ok (.goto (-100), 3) := by decide +kernel
theorem dX0_plan_322 : decode cX0_plan 322 = .ok (.aload_n 0, 1) := by decide +kernel
theorem dX0_plan_323 : decode cX0_plan 323 = .ok (.invokevirtual 650, 3) := by decide +kernel
theorem dX0_plan_326 : decode cX0_plan 326 = .ok (.istore 5, 2) := by decide +kernel
theorem dX0_plan_328 : decode cX0_plan 328 = .ok (.aload_n 0, 1) := by decide +kernel
theorem dX0_plan_329 : decode cX0_plan 329 = .ok (.getfield 93, 3) := by decide +kernel
theorem dX0_plan_332 : decode cX0_plan 332 = .ok (.iload 5, 2) := by decide +kernel
theorem dX0_plan_334 : decode cX0_plan 334 = .ok (.bipush 61, 2) := by decide +kernel
theorem dX0_plan_336 : decode cX0_plan 336 = .ok (.imul, 1) := by decide +kernel
theorem dX0_plan_337 : decode cX0_plan 337 = .ok (.iload_n 2, 1) := by decide +kernel
theorem dX0_plan_338 : decode cX0_plan 338 = .ok (.iadd, 1) := by decide +kernel
theorem dX0_plan_339 : decode cX0_plan 339 = .ok (.iaload, 1) := by decide +kernel
theorem dX0_plan_340 : decode cX0_plan 340 = .ok (.istore 6, 2) := by decide +kernel
theorem dX0_plan_342 : decode cX0_plan 342 = .ok (.iload 6, 2) := by decide +kernel
theorem dX0_plan_344 : decode cX0_plan 344 = .ok (.ldc_w 501, 3) := by decide +kernel
theorem dX0_plan_347 : decode cX0_plan 347 = .ok (.if_icmp .ne 5, 3) := by decide +kernel
theorem dX0_plan_350 : decode cX0_plan 350 = .ok (.iconst (-1), 1) := by decide +kernel
theorem dX0_plan_351 : decode cX0_plan 351 = .ok (.ireturn, 1) := by decide +kernel
theorem dX0_plan_352 : decode cX0_plan 352 = .ok (.iload_n 3, 1) := by decide +kernel
theorem dX0_plan_353 : decode cX0_plan 353 = .ok (.ifCond .ne 6, 3) := by decide +kernel
theorem dX0_plan_356 : decode cX0_plan 356 = .ok (.iload 6, 2) := by decide +kernel
theorem dX0_plan_358 : decode cX0_plan 358 = .ok (.ireturn, 1) := by decide +kernel
theorem dX0_plan_359 : decode cX0_plan 359 = .ok (.iload_n 2, 1) := by decide +kernel
theorem dX0_plan_360 : decode cX0_plan 360 = .ok (.istore 7, 2) := by decide +kernel
theorem dX0_plan_362 : decode cX0_plan 362 = .ok (.iconst 0, 1) := by decide +kernel
theorem dX0_plan_363 : decode cX0_plan 363 = .ok (.istore 8, 2) := by decide +kernel
theorem dX0_plan_365 : decode cX0_plan 365 = .ok (.iload 8, 2) := by decide +kernel
theorem dX0_plan_367 : decode cX0_plan 367 = .ok (.iload_n 3, 1) := by decide +kernel
theorem dX0_plan_368 : decode cX0_plan 368 = .ok (.bipush 10, 2) := by decide +kernel
theorem dX0_plan_370 : decode cX0_plan 370 = .ok (.isub, 1) := by decide +kernel
theorem dX0_plan_371 : decode cX0_plan 371 = .ok (.if_icmp .gt 78, 3) := by decide +kernel
theorem dX0_plan_374 : decode cX0_plan 374 = .ok (.iconst 0, 1) := by decide +kernel
theorem dX0_plan_375 : decode cX0_plan 375 = .ok (.istore 9, 2) := by decide +kernel
theorem dX0_plan_377 : decode cX0_plan 377 = .ok (.aload_n 0, 1) := by decide +kernel
theorem dX0_plan_378 : decode cX0_plan 378 = .ok (.iload 8, 2) := by decide +kernel
theorem dX0_plan_380 : decode cX0_plan 380 = .ok (.iload 5, 2) := by decide +kernel
theorem dX0_plan_382 : decode cX0_plan 382 = .ok (.iload 9, 2) := by decide +kernel
theorem dX0_plan_384 : decode cX0_plan 384 = .ok (.iload 7, 2) := by decide +kernel
theorem dX0_plan_386 : decode cX0_plan 386 = .ok (.invokevirtual 646, 3) := by decide +kernel
theorem dX0_plan_389 : decode cX0_plan 389 = .ok (.aload_n 0, 1) := by decide +kernel
theorem dX0_plan_390 : decode cX0_plan 390 = .ok (.getfield 93, 3) := by decide +kernel
theorem dX0_plan_393 : decode cX0_plan 393 = .ok (.bipush 16, 2) := by decide +kernel
theorem dX0_plan_395 : decode cX0_plan 395 = .ok (.iload 8, 2) := by decide +kernel
theorem dX0_plan_397 : decode cX0_plan 397 = .ok (.imul, 1) := by decide +kernel
theorem dX0_plan_398 : decode cX0_plan 398 = .ok (.iload 5, 2) := by decide +kernel
theorem dX0_plan_400 : decode cX0_plan 400 = .ok (.iadd, 1) := by decide +kernel
theorem dX0_plan_401 : decode cX0_plan 401 = .ok (.bipush 61, 2) := by decide +kernel
theorem dX0_plan_403 : decode cX0_plan 403 = .ok (.imul, 1) := by decide +kernel
theorem dX0_plan_404 : decode cX0_plan 404 = .ok (.iload 7, 2) := by decide +kernel
theorem dX0_plan_406 : decode cX0_plan 406 = .ok (.iadd, 1) := by decide +kernel
theorem dX0_plan_407 : decode cX0_plan 407 = .ok (.iaload, 1) := by decide +kernel
theorem dX0_plan_408 : decode cX0_plan 408 = .ok (.if_icmp .eq 9, 3) := by decide +kernel
theorem dX0_plan_411 : decode cX0_plan 411 = .ok (.iinc 9 1, 3) := by decide +kernel
theorem dX0_plan_414 : decode cX0_plan 414 = .ok (.goto (-37), 3) := by decide +kernel
theorem dX0_plan_417 : decode cX0_plan 417 = .ok (.iconst 0, 1) := by decide +kernel
theorem dX0_plan_418 : decode cX0_plan 418 = .ok (.iload 7, 2) := by decide +kernel
theorem dX0_plan_420 : decode cX0_plan 420 = .ok (.aload_n 0, 1) := by decide +kernel
theorem dX0_plan_421 : decode cX0_plan 421 = .ok (.getfield 96, 3) := by decide +kernel
theorem dX0_plan_424 : decode cX0_plan 424 = .ok (.bipush 16, 2) := by decide +kernel
theorem dX0_plan_426 : decode cX0_plan 426 = .ok (.iload 8, 2) := by decide +kernel
theorem dX0_plan_428 : decode cX0_plan 428 = .ok (.imul, 1) := by decide +kernel
theorem dX0_plan_429 : decode cX0_plan 429 = .ok (.iload 9, 2) := by decide +kernel
theorem dX0_plan_431 : decode cX0_plan 431 = .ok (.iadd, 1) := by decide +kernel
theorem dX0_plan_432 : decode cX0_plan 432 = .ok (.iaload, 1) := by decide +kernel
theorem dX0_plan_433 : decode cX0_plan 433 = .ok (.isub, 1) := by decide +kernel
theorem dX0_plan_434 : decode cX0_plan 434 = .ok (.invokestatic 635, 3) := by decide +kernel
theorem dX0_plan_437 : decode cX0_plan 437 = .ok (.istore 7, 2) := by decide +kernel
theorem dX0_plan_439 : decode cX0_plan 439 = .ok (.iload 9, 2) := by decide +kernel
theorem dX0_plan_441 : decode cX0_plan 441 = .ok (.istore 5, 2) := by decide +kernel
theorem dX0_plan_443 : decode cX0_plan 443 = .ok (.iinc 8 1, 3) := by decide +kernel
theorem dX0_plan_446 : decode cX0_plan 446 = .ok (.goto (-81), 3) := by decide +kernel
theorem dX0_plan_449 : decode cX0_plan 449 = .ok (.iload 5, 2) := by decide +kernel
theorem dX0_plan_451 : decode cX0_plan 451 = .ok (.ireturn, 1) := by decide +kernel
theorem ycX0_plan : yX0_plan.cls ≠ "java/lang/invoke/MethodHandle" ∧ yX0_plan.cls ≠ "java/lang/invoke/VarHandle" ∧ (parseMethodDescriptor yX0_plan.desc).map (fun d => d.parameters.length) = some 3 := by decide +kernel
theorem yvX0_plan : yX0_plan.cls = RR 0 ∧ yX0_plan.cls ≠ "java/lang/invoke/MethodHandle" ∧ yX0_plan.cls ≠ "java/lang/invoke/VarHandle" ∧ (parseMethodDescriptor yX0_plan.desc).map (fun d => d.parameters.length) = some 3 := ⟨rfl, ycX0_plan⟩
noncomputable def lp_X0_plan_377 (p0 : Nat) (p3 : Int32) (w14 : Int32) (w15 : Int32) (w16 : Int32) (j417 : Int32 → Act Int32) (q : Nat) : Int32 → Act Int32 := match q with
  | 0 => fun _ => fail
  | q + 1 => fun w17 =>
    bnd (gd 0 p0 (nt (f_X0_costOf p0 w16 w14 w17 w15))) fun v21 =>
    bnd (getR 0 40 p0) fun v22 =>
    bnd (ldI 0 v22 ((((16 * w16) + w14) * 61) + w15)) fun v23 =>
    if v21 = v23 then
      j417 w17
    else
      (lp_X0_plan_377 p0 p3 w14 w15 w16 j417 q) (w17 + 1)
noncomputable def lp_X0_plan_365 (n : Nat) (p0 : Nat) (p3 : Int32) (q : Nat) : Int32 → Int32 → Int32 → Act Int32 := match q with
  | 0 => fun _ _ _ => fail
  | q + 1 => fun w14 w15 w16 =>
    if (p3 - 10) < w16 then
      pur w14
    else
      jn (fun (v18 : Int32) =>
        bnd (getR 0 41 p0) fun v19 =>
        bnd (ldI 0 v19 ((16 * w16) + v18)) fun v20 =>
        (lp_X0_plan_365 n p0 p3 q) v18 (mx (0 : Int32) (w15 - v20)) (w16 + 1)) fun j417 =>
      lp_X0_plan_377 p0 p3 w14 w15 w16 j417 n 0
noncomputable def lp_X0_plan_251 (p0 : Nat) (p2 : Int32) (p3 : Int32) (v5 : Int32) (w10 : Int32) (w24 : Int32) (w25 : Int32) (j283 : Int32 → Act Int32) (q : Nat) : Int32 → Int32 → Act Int32 := match q with
  | 0 => fun _ _ => fail
  | q + 1 => fun w26 w27 =>
    if (1 <<< (v5 &&& 31)) ≤ w27 then
      j283 w26
    else
      bnd (gd 0 p0 (nt (f_X0_costOf p0 w10 w24 w27 w25))) fun v30 =>
      (lp_X0_plan_251 p0 p2 p3 v5 w10 w24 w25 j283 q) (mn w26 v30) (w27 + 1)
noncomputable def lp_X0_plan_237 (n : Nat) (p0 : Nat) (p2 : Int32) (p3 : Int32) (v5 : Int32) (w10 : Int32) (w24 : Int32) (j310 : Unit → Act Int32) (q : Nat) : Int32 → Act Int32 := match q with
  | 0 => fun _ => fail
  | q + 1 => fun w25 =>
    if p2 < w25 then
      j310 ()
    else
      jn (fun (v28 : Int32) =>
        bnd (getR 0 40 p0) fun v29 =>
        bnd (stI 0 v29 ((((16 * w10) + w24) * 61) + w25) v28) fun _ =>
        (lp_X0_plan_237 n p0 p2 p3 v5 w10 w24 j310 q) (w25 + 1)) fun j283 =>
      lp_X0_plan_251 p0 p2 p3 v5 w10 w24 w25 j283 n 1000000 0
noncomputable def lp_X0_plan_227 (n : Nat) (p0 : Nat) (p2 : Int32) (p3 : Int32) (v5 : Int32) (w10 : Int32) (j316 : Unit → Act Int32) (q : Nat) : Int32 → Act Int32 := match q with
  | 0 => fun _ => fail
  | q + 1 => fun w24 =>
    if (1 <<< (v5 &&& 31)) ≤ w24 then
      j316 ()
    else
      jn (fun (_ : Unit) =>
        (lp_X0_plan_227 n p0 p2 p3 v5 w10 j316 q) (w24 + 1)) fun j310 =>
      lp_X0_plan_237 n p0 p2 p3 v5 w10 w24 j310 n 0
noncomputable def lp_X0_plan_219 (n : Nat) (p0 : Nat) (p2 : Int32) (p3 : Int32) (v5 : Int32) (j322 : Unit → Act Int32) (q : Nat) : Int32 → Act Int32 := match q with
  | 0 => fun _ => fail
  | q + 1 => fun w10 =>
    if w10 < 0 then
      j322 ()
    else
      jn (fun (_ : Unit) =>
        (lp_X0_plan_219 n p0 p2 p3 v5 j322 q) (w10 + (-1))) fun j316 =>
      lp_X0_plan_227 n p0 p2 p3 v5 w10 j316 n 0
noncomputable def lp_X0_plan_166 (p0 : Nat) (p1 : Int32) (p2 : Int32) (p3 : Int32) (v5 : Int32) (w9 : Int32) (j208 : Unit → Act Int32) (q : Nat) : Int32 → Act Int32 := match q with
  | 0 => fun _ => fail
  | q + 1 => fun w31 =>
    if p2 < w31 then
      j208 ()
    else
      bnd (getR 0 40 p0) fun v32 =>
      jn (fun (v33 : Int32) =>
        bnd (stI 0 v32 ((((16 * p1) + w9) * 61) + w31) v33) fun _ =>
        (lp_X0_plan_166 p0 p1 p2 p3 v5 w9 j208 q) (w31 + 1)) fun j201 =>
      if ¬ w31 = 0 then
        j201 1000000
      else
        j201 0
noncomputable def lp_X0_plan_156 (n : Nat) (p0 : Nat) (p1 : Int32) (p2 : Int32) (p3 : Int32) (v5 : Int32) (j214 : Unit → Act Int32) (q : Nat) : Int32 → Act Int32 := match q with
  | 0 => fun _ => fail
  | q + 1 => fun w9 =>
    if (1 <<< (v5 &&& 31)) ≤ w9 then
      j214 ()
    else
      jn (fun (_ : Unit) =>
        (lp_X0_plan_156 n p0 p1 p2 p3 v5 j214 q) (w9 + 1)) fun j208 =>
      lp_X0_plan_166 p0 p1 p2 p3 v5 w9 j208 n 0
noncomputable def lp_X0_plan_93 (n : Nat) (p0 : Nat) (p1 : Int32) (p2 : Int32) (p3 : Int32) (v5 : Int32) (w8 : Int32) (j147 : Unit → Act Int32) (q : Nat) : Int32 → Act Int32 := match q with
  | 0 => fun _ => fail
  | q + 1 => fun w34 =>
    if (1 <<< (v5 &&& 31)) ≤ w34 then
      j147 ()
    else
      bnd (getR 0 41 p0) fun v35 =>
      bnd (getR 0 1 p0) fun v36 =>
      bnd (getI 0 0 p0) fun v37 =>
      bnd (gd 1 v36 (nt (f_X1_at n v36 (v37 + w8)))) fun v38 =>
      bnd (getI 0 0 p0) fun v39 =>
      bnd (gd 0 p0 (nt (f_X0_at n p0 v39))) fun v40 =>
      bnd (gd 0 p0 (nt (f_X0_hundreds n p0 w34 v38 v40))) fun v41 =>
      bnd (stI 0 v35 ((16 * w8) + w34) v41) fun _ =>
      (lp_X0_plan_93 n p0 p1 p2 p3 v5 w8 j147 q) (w34 + 1)
noncomputable def lp_X0_plan_84 (n : Nat) (p0 : Nat) (p1 : Int32) (p2 : Int32) (p3 : Int32) (v5 : Int32) (j153 : Unit → Act Int32) (q : Nat) : Int32 → Act Int32 := match q with
  | 0 => fun _ => fail
  | q + 1 => fun w8 =>
    if p1 ≤ w8 then
      j153 ()
    else
      jn (fun (_ : Unit) =>
        (lp_X0_plan_84 n p0 p1 p2 p3 v5 j153 q) (w8 + 1)) fun j147 =>
      lp_X0_plan_93 n p0 p1 p2 p3 v5 w8 j147 n 0
noncomputable def f_X0_plan (n : Nat) (p0 : Nat) (p1 : Int32) (p2 : Int32) (p3 : Int32) : Act Int32 :=
  bnd (nt (f_X0_isIn p1.toInt64 (1 : Int64) (8 : Int64))) fun v1 =>
  jn (fun (_ : Unit) =>
    pur (-1)) fun j56 =>
  if v1 = 0 then
    j56 ()
  else
    bnd (nt (f_X0_isIn p2.toInt64 (0 : Int64) (60 : Int64))) fun v2 =>
    if v2 = 0 then
      j56 ()
    else
      bnd (getI 0 0 p0) fun v3 =>
      if 4999 < (v3 + p1) then
        j56 ()
      else
        jn (fun (_ : Unit) =>
          bnd (getR 0 18 p0) fun v4 =>
          bnd (gd 17 v4 (nt (P_size v4))) fun v5 =>
          bnd (getI 0 0 p0) fun v6 =>
          bnd (gd 0 p0 (nt (f_X0_at n p0 v6))) fun v7 =>
          bnd (gd 0 p0 (nt (f_X0_orders n p0 v7))) fun _ =>
          jn (fun (_ : Unit) =>
            jn (fun (_ : Unit) =>
              jn (fun (_ : Unit) =>
                bnd (gd 0 p0 (nt (f_X0_running n p0))) fun v11 =>
                bnd (getR 0 40 p0) fun v12 =>
                bnd (ldI 0 v12 ((v11 * 61) + p2)) fun v13 =>
                if ¬ v13 = 1000000 then
                  if ¬ p3 = 0 then
                    lp_X0_plan_365 n p0 p3 n v11 p2 0
                  else
                    pur v13
                else
                  pur (-1)) fun j322 =>
              lp_X0_plan_219 n p0 p2 p3 v5 j322 n (p1 - 1)) fun j214 =>
            lp_X0_plan_156 n p0 p1 p2 p3 v5 j214 n 0) fun j153 =>
          lp_X0_plan_84 n p0 p1 p2 p3 v5 j153 n 0) fun j58 =>
        if p3 = 0 then
          j58 ()
        else
          bnd (nt (f_X0_isIn p3.toInt64 (10 : Int64) ((9 + p1).toInt64))) fun v42 =>
          if ¬ v42 = 0 then
            j58 ()
          else
            j56 ()
set_option maxHeartbeats 4000000 in
theorem s_lp_X0_plan_377 {X : Cx} (hX : Ok X Pic cX0_plan RX0 10 (some FieldType.int) 5 108) (hnh : Noh X) (p0 : Nat) (p3 : Int32) (w14 : Int32) (w15 : Int32) (w16 : Int32) (j417 : Int32 → Act Int32) (hj417 : ∀ (v18 : Int32), Sim X cvI 417 [(0, rv p0), (3, .int p3), (7, .int w15), (8, .int w16), (9, .int v18)] [] (j417 v18)) (q : Nat) : ∀ (w17 : Int32), Sim X cvI 377 [(0, rv p0), (3, .int p3), (5, .int w14), (7, .int w15), (8, .int w16), (9, .int w17)] [] (lp_X0_plan_377 p0 p3 w14 w15 w16 j417 q w17) := by
  induction q with
  | zero => intro w17; exact s_fail
  | succ q ih377 =>
    intro w17
    rw [lp_X0_plan_377]
    refine s_aload_n hX dX0_plan_377 rfl 0 rfl ?_
    refine s_iload hX dX0_plan_378 4 rfl ?_
    refine s_iload hX dX0_plan_380 2 rfl ?_
    refine s_iload hX dX0_plan_382 5 rfl ?_
    refine s_iload hX dX0_plan_384 3 rfl ?_
    refine s_callV_I (ci := 0) (n := 4) (As := [.int w16, .int w14, .int w17, .int w15]) (st := []) hX (pcK 1) (by decide) (ct_X0_costOf X.l p0 w16 w14 w17 w15) q1495 q1497 qs38 q84 q1498 yvX0_costOf (by decide) rfl (by first | decide | simp [rv_cat, cat_i, cat_l]) dX0_plan_386 (fun v21 => ?_)
    refine s_aload_n hX dX0_plan_389 rfl 0 rfl ?_
    refine s_getR (ci := 0) (j := 40) (ref := "WindGas") hX (pcG 0) in_X0 (Or.inl q306) (by decide) (by decide) (by decide) rfl dX0_plan_390 (fun _ h9 => h9) (fun v22 => ?_)
    refine s_bipush (v := 16) hX dX0_plan_393 (by decide) ?_
    refine s_iload hX dX0_plan_395 4 rfl ?_
    refine s_imul hX dX0_plan_397 ?_
    refine s_iload hX dX0_plan_398 2 rfl ?_
    refine s_iadd hX dX0_plan_400 ?_
    refine s_bipush (v := 61) hX dX0_plan_401 (by decide) ?_
    refine s_imul hX dX0_plan_403 ?_
    refine s_iload hX dX0_plan_404 3 rfl ?_
    refine s_iadd hX dX0_plan_406 ?_
    refine s_iald hX (pcA 0) dX0_plan_407 (fun v23 => ?_)
    refine s_icmp_eq (tgt := 417) hX dX0_plan_408 (by decide) ?_ ?_
    · exact s_sub [0, 1, 3, 4, 5] rfl (hj417 w17)
    · refine s_iinc (k := 5) (v := (w17 + 1)) (L2 := [(9, .int (w17 + 1)), (0, rv p0), (3, .int p3), (5, .int w14), (7, .int w15), (8, .int w16)]) hX dX0_plan_411 rfl rfl (by decide) rfl ?_
      refine s_goto (tgt := 377) hX dX0_plan_414 (by decide) ?_
      exact s_sub [1, 2, 3, 4, 5, 0] rfl (ih377 (w17 + 1))
set_option maxHeartbeats 4000000 in
theorem s_lp_X0_plan_365 {X : Cx} (hX : Ok X Pic cX0_plan RX0 10 (some FieldType.int) 5 108) (hnh : Noh X) (n : Nat) (p0 : Nat) (p3 : Int32) (q : Nat) : ∀ (w14 : Int32) (w15 : Int32) (w16 : Int32), Sim X cvI 365 [(0, rv p0), (3, .int p3), (5, .int w14), (7, .int w15), (8, .int w16)] [] (lp_X0_plan_365 n p0 p3 q w14 w15 w16) := by
  induction q with
  | zero => intro w14 w15 w16; exact s_fail
  | succ q ih365 =>
    intro w14 w15 w16
    rw [lp_X0_plan_365]
    refine s_iload hX dX0_plan_365 4 rfl ?_
    refine s_iload_n hX dX0_plan_367 rfl 1 rfl ?_
    refine s_bipush (v := 10) hX dX0_plan_368 (by decide) ?_
    refine s_isub hX dX0_plan_370 ?_
    refine s_icmp_gt (tgt := 449) hX dX0_plan_371 (by decide) ?_ ?_
    · refine s_iload hX dX0_plan_449 2 rfl ?_
      exact s_iret hX dX0_plan_451
    · refine s_iconst (v := 0) hX dX0_plan_374 rfl ?_
      refine s_istore (i := 9) (L2 := [(9, .int 0), (0, rv p0), (3, .int p3), (5, .int w14), (7, .int w15), (8, .int w16)]) hX dX0_plan_375 (by decide) rfl ?_
      refine s_jn (P := fun j => ∀ (v18 : Int32), Sim X cvI 417 [(0, rv p0), (3, .int p3), (7, .int w15), (8, .int w16), (9, .int v18)] [] (j v18)) ?_ (fun j417 hj417 => ?_)
      · intro v18
        refine s_iconst (v := 0) hX dX0_plan_417 rfl ?_
        refine s_iload hX dX0_plan_418 2 rfl ?_
        refine s_aload_n hX dX0_plan_420 rfl 0 rfl ?_
        refine s_getR (ci := 0) (j := 41) (ref := "WindGas") hX (pcG 0) in_X0 (Or.inl q307) (by decide) (by decide) (by decide) rfl dX0_plan_421 (fun _ h9 => h9) (fun v19 => ?_)
        refine s_bipush (v := 16) hX dX0_plan_424 (by decide) ?_
        refine s_iload hX dX0_plan_426 3 rfl ?_
        refine s_imul hX dX0_plan_428 ?_
        refine s_iload hX dX0_plan_429 4 rfl ?_
        refine s_iadd hX dX0_plan_431 ?_
        refine s_iald hX (pcA 0) dX0_plan_432 (fun v20 => ?_)
        refine s_isub hX dX0_plan_433 ?_
        refine s_mmax hX q1505 q459 q95 q460 rfl (by omega) (by first | decide | (simp [rv_cat, cat_i, cat_l]; try omega)) dX0_plan_434 ?_
        refine s_istore (i := 7) (L2 := [(7, .int (mx (0 : Int32) (w15 - v20))), (0, rv p0), (3, .int p3), (8, .int w16), (9, .int v18)]) hX dX0_plan_437 (by decide) rfl ?_
        refine s_iload hX dX0_plan_439 4 rfl ?_
        refine s_istore (i := 5) (L2 := [(5, .int v18), (7, .int (mx (0 : Int32) (w15 - v20))), (0, rv p0), (3, .int p3), (8, .int w16), (9, .int v18)]) hX dX0_plan_441 (by decide) rfl ?_
        refine s_iinc (k := 4) (v := (w16 + 1)) (L2 := [(8, .int (w16 + 1)), (5, .int v18), (7, .int (mx (0 : Int32) (w15 - v20))), (0, rv p0), (3, .int p3), (9, .int v18)]) hX dX0_plan_443 rfl rfl (by decide) rfl ?_
        refine s_goto (tgt := 365) hX dX0_plan_446 (by decide) ?_
        exact s_sub [3, 4, 1, 2, 0] rfl (ih365 v18 (mx (0 : Int32) (w15 - v20)) (w16 + 1))
      · exact s_sub [1, 2, 3, 4, 5, 0] rfl (s_lp_X0_plan_377 hX hnh p0 p3 w14 w15 w16 j417 hj417 n 0)
set_option maxHeartbeats 4000000 in
theorem s_lp_X0_plan_251 {X : Cx} (hX : Ok X Pic cX0_plan RX0 10 (some FieldType.int) 5 108) (hnh : Noh X) (p0 : Nat) (p2 : Int32) (p3 : Int32) (v5 : Int32) (w10 : Int32) (w24 : Int32) (w25 : Int32) (j283 : Int32 → Act Int32) (hj283 : ∀ (v28 : Int32), Sim X cvI 283 [(0, rv p0), (2, .int p2), (3, .int p3), (4, .int (1 <<< (v5 &&& 31))), (5, .int w10), (6, .int w24), (7, .int w25), (8, .int v28)] [] (j283 v28)) (q : Nat) : ∀ (w26 : Int32) (w27 : Int32), Sim X cvI 251 [(0, rv p0), (2, .int p2), (3, .int p3), (4, .int (1 <<< (v5 &&& 31))), (5, .int w10), (6, .int w24), (7, .int w25), (8, .int w26), (9, .int w27)] [] (lp_X0_plan_251 p0 p2 p3 v5 w10 w24 w25 j283 q w26 w27) := by
  induction q with
  | zero => intro w26 w27; exact s_fail
  | succ q ih251 =>
    intro w26 w27
    rw [lp_X0_plan_251]
    refine s_iload hX dX0_plan_251 8 rfl ?_
    refine s_iload hX dX0_plan_253 3 rfl ?_
    refine s_icmp_ge (tgt := 283) hX dX0_plan_255 (by decide) ?_ ?_
    · exact s_sub [0, 1, 2, 3, 4, 5, 6, 7] rfl (hj283 w26)
    · refine s_iload hX dX0_plan_258 7 rfl ?_
      refine s_aload_n hX dX0_plan_260 rfl 0 rfl ?_
      refine s_iload hX dX0_plan_261 4 rfl ?_
      refine s_iload hX dX0_plan_263 5 rfl ?_
      refine s_iload hX dX0_plan_265 8 rfl ?_
      refine s_iload hX dX0_plan_267 6 rfl ?_
      refine s_callV_I (ci := 0) (n := 4) (As := [.int w10, .int w24, .int w27, .int w25]) (st := [.int w26]) hX (pcK 1) (by decide) (ct_X0_costOf X.l p0 w10 w24 w27 w25) q1495 q1497 qs38 q84 q1498 yvX0_costOf (by decide) rfl (by first | decide | simp [rv_cat, cat_i, cat_l]) dX0_plan_269 (fun v30 => ?_)
      refine s_mmin hX q756 q500 q95 q501 rfl (by omega) (by first | decide | (simp [rv_cat, cat_i, cat_l]; try omega)) dX0_plan_272 ?_
      refine s_istore (i := 8) (L2 := [(8, .int (mn w26 v30)), (0, rv p0), (2, .int p2), (3, .int p3), (4, .int (1 <<< (v5 &&& 31))), (5, .int w10), (6, .int w24), (7, .int w25), (9, .int w27)]) hX dX0_plan_275 (by decide) rfl ?_
      refine s_iinc (k := 8) (v := (w27 + 1)) (L2 := [(9, .int (w27 + 1)), (8, .int (mn w26 v30)), (0, rv p0), (2, .int p2), (3, .int p3), (4, .int (1 <<< (v5 &&& 31))), (5, .int w10), (6, .int w24), (7, .int w25)]) hX dX0_plan_277 rfl rfl (by decide) rfl ?_
      refine s_goto (tgt := 251) hX dX0_plan_280 (by decide) ?_
      exact s_sub [2, 3, 4, 5, 6, 7, 8, 1, 0] rfl (ih251 (mn w26 v30) (w27 + 1))
set_option maxHeartbeats 4000000 in
theorem s_lp_X0_plan_237 {X : Cx} (hX : Ok X Pic cX0_plan RX0 10 (some FieldType.int) 5 108) (hnh : Noh X) (n : Nat) (p0 : Nat) (p2 : Int32) (p3 : Int32) (v5 : Int32) (w10 : Int32) (w24 : Int32) (j310 : Unit → Act Int32) (hj310 : ∀ (u : Unit), Sim X cvI 310 [(0, rv p0), (2, .int p2), (3, .int p3), (4, .int (1 <<< (v5 &&& 31))), (5, .int w10), (6, .int w24)] [] (j310 u)) (q : Nat) : ∀ (w25 : Int32), Sim X cvI 237 [(0, rv p0), (2, .int p2), (3, .int p3), (4, .int (1 <<< (v5 &&& 31))), (5, .int w10), (6, .int w24), (7, .int w25)] [] (lp_X0_plan_237 n p0 p2 p3 v5 w10 w24 j310 q w25) := by
  induction q with
  | zero => intro w25; exact s_fail
  | succ q ih237 =>
    intro w25
    rw [lp_X0_plan_237]
    refine s_iload hX dX0_plan_237 6 rfl ?_
    refine s_iload_n hX dX0_plan_239 rfl 1 rfl ?_
    refine s_icmp_gt (tgt := 310) hX dX0_plan_240 (by decide) ?_ ?_
    · exact s_sub [0, 1, 2, 3, 4, 5] rfl (hj310 ())
    · refine s_ldcw (v := 1000000) hX dX0_plan_243 q1238 ?_
      refine s_istore (i := 8) (L2 := [(8, .int 1000000), (0, rv p0), (2, .int p2), (3, .int p3), (4, .int (1 <<< (v5 &&& 31))), (5, .int w10), (6, .int w24), (7, .int w25)]) hX dX0_plan_246 (by decide) rfl ?_
      refine s_iconst (v := 0) hX dX0_plan_248 rfl ?_
      refine s_istore (i := 9) (L2 := [(9, .int 0), (8, .int 1000000), (0, rv p0), (2, .int p2), (3, .int p3), (4, .int (1 <<< (v5 &&& 31))), (5, .int w10), (6, .int w24), (7, .int w25)]) hX dX0_plan_249 (by decide) rfl ?_
      refine s_jn (P := fun j => ∀ (v28 : Int32), Sim X cvI 283 [(0, rv p0), (2, .int p2), (3, .int p3), (4, .int (1 <<< (v5 &&& 31))), (5, .int w10), (6, .int w24), (7, .int w25), (8, .int v28)] [] (j v28)) ?_ (fun j283 hj283 => ?_)
      · intro v28
        refine s_aload_n hX dX0_plan_283 rfl 0 rfl ?_
        refine s_getR (ci := 0) (j := 40) (ref := "WindGas") hX (pcG 0) in_X0 (Or.inl q306) (by decide) (by decide) (by decide) rfl dX0_plan_284 (fun _ h9 => h9) (fun v29 => ?_)
        refine s_bipush (v := 16) hX dX0_plan_287 (by decide) ?_
        refine s_iload hX dX0_plan_289 4 rfl ?_
        refine s_imul hX dX0_plan_291 ?_
        refine s_iload hX dX0_plan_292 5 rfl ?_
        refine s_iadd hX dX0_plan_294 ?_
        refine s_bipush (v := 61) hX dX0_plan_295 (by decide) ?_
        refine s_imul hX dX0_plan_297 ?_
        refine s_iload hX dX0_plan_298 6 rfl ?_
        refine s_iadd hX dX0_plan_300 ?_
        refine s_iload hX dX0_plan_301 7 rfl ?_
        refine s_iast hX (pcA 0) (pcB 0) dX0_plan_303 ?_
        refine s_iinc (k := 6) (v := (w25 + 1)) (L2 := [(7, .int (w25 + 1)), (0, rv p0), (2, .int p2), (3, .int p3), (4, .int (1 <<< (v5 &&& 31))), (5, .int w10), (6, .int w24), (8, .int v28)]) hX dX0_plan_304 rfl rfl (by decide) rfl ?_
        refine s_goto (tgt := 237) hX dX0_plan_307 (by decide) ?_
        exact s_sub [1, 2, 3, 4, 5, 6, 0] rfl (ih237 (w25 + 1))
      · exact s_sub [2, 3, 4, 5, 6, 7, 8, 1, 0] rfl (s_lp_X0_plan_251 hX hnh p0 p2 p3 v5 w10 w24 w25 j283 hj283 n 1000000 0)
set_option maxHeartbeats 4000000 in
theorem s_lp_X0_plan_227 {X : Cx} (hX : Ok X Pic cX0_plan RX0 10 (some FieldType.int) 5 108) (hnh : Noh X) (n : Nat) (p0 : Nat) (p2 : Int32) (p3 : Int32) (v5 : Int32) (w10 : Int32) (j316 : Unit → Act Int32) (hj316 : ∀ (u : Unit), Sim X cvI 316 [(0, rv p0), (2, .int p2), (3, .int p3), (4, .int (1 <<< (v5 &&& 31))), (5, .int w10)] [] (j316 u)) (q : Nat) : ∀ (w24 : Int32), Sim X cvI 227 [(0, rv p0), (2, .int p2), (3, .int p3), (4, .int (1 <<< (v5 &&& 31))), (5, .int w10), (6, .int w24)] [] (lp_X0_plan_227 n p0 p2 p3 v5 w10 j316 q w24) := by
  induction q with
  | zero => intro w24; exact s_fail
  | succ q ih227 =>
    intro w24
    rw [lp_X0_plan_227]
    refine s_iload hX dX0_plan_227 5 rfl ?_
    refine s_iload hX dX0_plan_229 3 rfl ?_
    refine s_icmp_ge (tgt := 316) hX dX0_plan_231 (by decide) ?_ ?_
    · exact s_sub [0, 1, 2, 3, 4] rfl (hj316 ())
    · refine s_iconst (v := 0) hX dX0_plan_234 rfl ?_
      refine s_istore (i := 7) (L2 := [(7, .int 0), (0, rv p0), (2, .int p2), (3, .int p3), (4, .int (1 <<< (v5 &&& 31))), (5, .int w10), (6, .int w24)]) hX dX0_plan_235 (by decide) rfl ?_
      refine s_jn (P := fun j => ∀ (u : Unit), Sim X cvI 310 [(0, rv p0), (2, .int p2), (3, .int p3), (4, .int (1 <<< (v5 &&& 31))), (5, .int w10), (6, .int w24)] [] (j u)) ?_ (fun j310 hj310 => ?_)
      · intro u
        refine s_iinc (k := 5) (v := (w24 + 1)) (L2 := [(6, .int (w24 + 1)), (0, rv p0), (2, .int p2), (3, .int p3), (4, .int (1 <<< (v5 &&& 31))), (5, .int w10)]) hX dX0_plan_310 rfl rfl (by decide) rfl ?_
        refine s_goto (tgt := 227) hX dX0_plan_313 (by decide) ?_
        exact s_sub [1, 2, 3, 4, 5, 0] rfl (ih227 (w24 + 1))
      · exact s_sub [1, 2, 3, 4, 5, 6, 0] rfl (s_lp_X0_plan_237 hX hnh n p0 p2 p3 v5 w10 w24 j310 hj310 n 0)
set_option maxHeartbeats 4000000 in
theorem s_lp_X0_plan_219 {X : Cx} (hX : Ok X Pic cX0_plan RX0 10 (some FieldType.int) 5 108) (hnh : Noh X) (n : Nat) (p0 : Nat) (p2 : Int32) (p3 : Int32) (v5 : Int32) (j322 : Unit → Act Int32) (hj322 : ∀ (u : Unit), Sim X cvI 322 [(0, rv p0), (2, .int p2), (3, .int p3)] [] (j322 u)) (q : Nat) : ∀ (w10 : Int32), Sim X cvI 219 [(0, rv p0), (2, .int p2), (3, .int p3), (4, .int (1 <<< (v5 &&& 31))), (5, .int w10)] [] (lp_X0_plan_219 n p0 p2 p3 v5 j322 q w10) := by
  induction q with
  | zero => intro w10; exact s_fail
  | succ q ih219 =>
    intro w10
    rw [lp_X0_plan_219]
    refine s_iload hX dX0_plan_219 4 rfl ?_
    refine s_if_lt (tgt := 322) hX dX0_plan_221 (by decide) ?_ ?_
    · exact s_sub [0, 1, 2] rfl (hj322 ())
    · refine s_iconst (v := 0) hX dX0_plan_224 rfl ?_
      refine s_istore (i := 6) (L2 := [(6, .int 0), (0, rv p0), (2, .int p2), (3, .int p3), (4, .int (1 <<< (v5 &&& 31))), (5, .int w10)]) hX dX0_plan_225 (by decide) rfl ?_
      refine s_jn (P := fun j => ∀ (u : Unit), Sim X cvI 316 [(0, rv p0), (2, .int p2), (3, .int p3), (4, .int (1 <<< (v5 &&& 31))), (5, .int w10)] [] (j u)) ?_ (fun j316 hj316 => ?_)
      · intro u
        refine s_iinc (k := 4) (v := (w10 + (-1))) (L2 := [(5, .int (w10 + (-1))), (0, rv p0), (2, .int p2), (3, .int p3), (4, .int (1 <<< (v5 &&& 31)))]) hX dX0_plan_316 rfl rfl (by decide) rfl ?_
        refine s_goto (tgt := 219) hX dX0_plan_319 (by decide) ?_
        exact s_sub [1, 2, 3, 4, 0] rfl (ih219 (w10 + (-1)))
      · exact s_sub [1, 2, 3, 4, 5, 0] rfl (s_lp_X0_plan_227 hX hnh n p0 p2 p3 v5 w10 j316 hj316 n 0)
set_option maxHeartbeats 4000000 in
theorem s_lp_X0_plan_166 {X : Cx} (hX : Ok X Pic cX0_plan RX0 10 (some FieldType.int) 5 108) (hnh : Noh X) (p0 : Nat) (p1 : Int32) (p2 : Int32) (p3 : Int32) (v5 : Int32) (w9 : Int32) (j208 : Unit → Act Int32) (hj208 : ∀ (u : Unit), Sim X cvI 208 [(0, rv p0), (1, .int p1), (2, .int p2), (3, .int p3), (4, .int (1 <<< (v5 &&& 31))), (5, .int w9)] [] (j208 u)) (q : Nat) : ∀ (w31 : Int32), Sim X cvI 166 [(0, rv p0), (1, .int p1), (2, .int p2), (3, .int p3), (4, .int (1 <<< (v5 &&& 31))), (5, .int w9), (6, .int w31)] [] (lp_X0_plan_166 p0 p1 p2 p3 v5 w9 j208 q w31) := by
  induction q with
  | zero => intro w31; exact s_fail
  | succ q ih166 =>
    intro w31
    rw [lp_X0_plan_166]
    refine s_iload hX dX0_plan_166 6 rfl ?_
    refine s_iload_n hX dX0_plan_168 rfl 2 rfl ?_
    refine s_icmp_gt (tgt := 208) hX dX0_plan_169 (by decide) ?_ ?_
    · exact s_sub [0, 1, 2, 3, 4, 5] rfl (hj208 ())
    · refine s_aload_n hX dX0_plan_172 rfl 0 rfl ?_
      refine s_getR (ci := 0) (j := 40) (ref := "WindGas") hX (pcG 0) in_X0 (Or.inl q306) (by decide) (by decide) (by decide) rfl dX0_plan_173 (fun _ h9 => h9) (fun v32 => ?_)
      refine s_bipush (v := 16) hX dX0_plan_176 (by decide) ?_
      refine s_iload_n hX dX0_plan_178 rfl 1 rfl ?_
      refine s_imul hX dX0_plan_179 ?_
      refine s_iload hX dX0_plan_180 5 rfl ?_
      refine s_iadd hX dX0_plan_182 ?_
      refine s_bipush (v := 61) hX dX0_plan_183 (by decide) ?_
      refine s_imul hX dX0_plan_185 ?_
      refine s_iload hX dX0_plan_186 6 rfl ?_
      refine s_iadd hX dX0_plan_188 ?_
      refine s_iload hX dX0_plan_189 6 rfl ?_
      refine s_jn (P := fun j => ∀ (v33 : Int32), Sim X cvI 201 [(0, rv p0), (1, .int p1), (2, .int p2), (3, .int p3), (4, .int (1 <<< (v5 &&& 31))), (5, .int w9), (6, .int w31)] [.int v33, .int ((((16 * p1) + w9) * 61) + w31), rv v32] (j v33)) ?_ (fun j201 hj201 => ?_)
      · intro v33
        refine s_iast hX (pcA 0) (pcB 0) dX0_plan_201 ?_
        refine s_iinc (k := 6) (v := (w31 + 1)) (L2 := [(6, .int (w31 + 1)), (0, rv p0), (1, .int p1), (2, .int p2), (3, .int p3), (4, .int (1 <<< (v5 &&& 31))), (5, .int w9)]) hX dX0_plan_202 rfl rfl (by decide) rfl ?_
        refine s_goto (tgt := 166) hX dX0_plan_205 (by decide) ?_
        exact s_sub [1, 2, 3, 4, 5, 6, 0] rfl (ih166 (w31 + 1))
      · refine s_if_ne (tgt := 198) hX dX0_plan_191 (by decide) ?_ ?_
        · refine s_ldcw (v := 1000000) hX dX0_plan_198 q1238 ?_
          exact hj201 1000000
        · refine s_iconst (v := 0) hX dX0_plan_194 rfl ?_
          refine s_goto (tgt := 201) hX dX0_plan_195 (by decide) ?_
          exact hj201 0
set_option maxHeartbeats 4000000 in
theorem s_lp_X0_plan_156 {X : Cx} (hX : Ok X Pic cX0_plan RX0 10 (some FieldType.int) 5 108) (hnh : Noh X) (n : Nat) (p0 : Nat) (p1 : Int32) (p2 : Int32) (p3 : Int32) (v5 : Int32) (j214 : Unit → Act Int32) (hj214 : ∀ (u : Unit), Sim X cvI 214 [(0, rv p0), (1, .int p1), (2, .int p2), (3, .int p3), (4, .int (1 <<< (v5 &&& 31)))] [] (j214 u)) (q : Nat) : ∀ (w9 : Int32), Sim X cvI 156 [(0, rv p0), (1, .int p1), (2, .int p2), (3, .int p3), (4, .int (1 <<< (v5 &&& 31))), (5, .int w9)] [] (lp_X0_plan_156 n p0 p1 p2 p3 v5 j214 q w9) := by
  induction q with
  | zero => intro w9; exact s_fail
  | succ q ih156 =>
    intro w9
    rw [lp_X0_plan_156]
    refine s_iload hX dX0_plan_156 5 rfl ?_
    refine s_iload hX dX0_plan_158 4 rfl ?_
    refine s_icmp_ge (tgt := 214) hX dX0_plan_160 (by decide) ?_ ?_
    · exact s_sub [0, 1, 2, 3, 4] rfl (hj214 ())
    · refine s_iconst (v := 0) hX dX0_plan_163 rfl ?_
      refine s_istore (i := 6) (L2 := [(6, .int 0), (0, rv p0), (1, .int p1), (2, .int p2), (3, .int p3), (4, .int (1 <<< (v5 &&& 31))), (5, .int w9)]) hX dX0_plan_164 (by decide) rfl ?_
      refine s_jn (P := fun j => ∀ (u : Unit), Sim X cvI 208 [(0, rv p0), (1, .int p1), (2, .int p2), (3, .int p3), (4, .int (1 <<< (v5 &&& 31))), (5, .int w9)] [] (j u)) ?_ (fun j208 hj208 => ?_)
      · intro u
        refine s_iinc (k := 5) (v := (w9 + 1)) (L2 := [(5, .int (w9 + 1)), (0, rv p0), (1, .int p1), (2, .int p2), (3, .int p3), (4, .int (1 <<< (v5 &&& 31)))]) hX dX0_plan_208 rfl rfl (by decide) rfl ?_
        refine s_goto (tgt := 156) hX dX0_plan_211 (by decide) ?_
        exact s_sub [1, 2, 3, 4, 5, 0] rfl (ih156 (w9 + 1))
      · exact s_sub [1, 2, 3, 4, 5, 6, 0] rfl (s_lp_X0_plan_166 hX hnh p0 p1 p2 p3 v5 w9 j208 hj208 n 0)
set_option maxHeartbeats 4000000 in
theorem s_lp_X0_plan_93 {X : Cx} (hX : Ok X Pic cX0_plan RX0 10 (some FieldType.int) 5 108) (hnh : Noh X) (n : Nat) (p0 : Nat) (p1 : Int32) (p2 : Int32) (p3 : Int32) (v5 : Int32) (w8 : Int32) (j147 : Unit → Act Int32) (hj147 : ∀ (u : Unit), Sim X cvI 147 [(0, rv p0), (1, .int p1), (2, .int p2), (3, .int p3), (4, .int (1 <<< (v5 &&& 31))), (5, .int w8)] [] (j147 u)) (q : Nat) : ∀ (w34 : Int32), Sim X cvI 93 [(0, rv p0), (1, .int p1), (2, .int p2), (3, .int p3), (4, .int (1 <<< (v5 &&& 31))), (5, .int w8), (6, .int w34)] [] (lp_X0_plan_93 n p0 p1 p2 p3 v5 w8 j147 q w34) := by
  induction q with
  | zero => intro w34; exact s_fail
  | succ q ih93 =>
    intro w34
    rw [lp_X0_plan_93]
    refine s_iload hX dX0_plan_93 6 rfl ?_
    refine s_iload hX dX0_plan_95 4 rfl ?_
    refine s_icmp_ge (tgt := 147) hX dX0_plan_97 (by decide) ?_ ?_
    · exact s_sub [0, 1, 2, 3, 4, 5] rfl (hj147 ())
    · refine s_aload_n hX dX0_plan_100 rfl 0 rfl ?_
      refine s_getR (ci := 0) (j := 41) (ref := "WindGas") hX (pcG 0) in_X0 (Or.inl q307) (by decide) (by decide) (by decide) rfl dX0_plan_101 (fun _ h9 => h9) (fun v35 => ?_)
      refine s_bipush (v := 16) hX dX0_plan_104 (by decide) ?_
      refine s_iload hX dX0_plan_106 5 rfl ?_
      refine s_imul hX dX0_plan_108 ?_
      refine s_iload hX dX0_plan_109 6 rfl ?_
      refine s_iadd hX dX0_plan_111 ?_
      refine s_aload_n hX dX0_plan_112 rfl 0 rfl ?_
      refine s_iload hX dX0_plan_113 6 rfl ?_
      refine s_aload_n hX dX0_plan_115 rfl 0 rfl ?_
      refine s_getR (ci := 0) (j := 1) (ref := "WindGas") hX (pcG 0) in_X0 (Or.inl q267) (by decide) (by decide) (by decide) rfl dX0_plan_116 (fun _ h9 => h9) (fun v36 => ?_)
      refine s_aload_n hX dX0_plan_119 rfl 0 rfl ?_
      refine s_getI (ci := 0) (j := 0) (ref := "WindGas") hX (pcG 0) in_X0 (Or.inl q266) (by decide) (by decide) (by decide) rfl dX0_plan_120 (fun _ h9 => h9) (fun v37 => ?_)
      refine s_iload hX dX0_plan_123 5 rfl ?_
      refine s_iadd hX dX0_plan_125 ?_
      refine s_callV_I (ci := 1) (n := 1) (As := [.int (v37 + w8)]) (st := [.int w34, rv p0, .int ((16 * w8) + w34), rv v35]) hX (pcK 2) (by decide) (ct_X1_at X.l n v36 (v37 + w8)) q511 q512 q513 q85 q514 yvX1_at (by decide) rfl (by first | decide | simp [rv_cat, cat_i, cat_l]) dX0_plan_126 (fun v38 => ?_)
      refine s_aload_n hX dX0_plan_129 rfl 0 rfl ?_
      refine s_aload_n hX dX0_plan_130 rfl 0 rfl ?_
      refine s_getI (ci := 0) (j := 0) (ref := "WindGas") hX (pcG 0) in_X0 (Or.inl q266) (by decide) (by decide) (by decide) rfl dX0_plan_131 (fun _ h9 => h9) (fun v39 => ?_)
      refine s_callV_R (ci := 0) (n := 1) (As := [.int v39]) (st := [.int v38, .int w34, rv p0, .int ((16 * w8) + w34), rv v35]) hX (pcK 1) (by decide) (ct_X0_at X.l n p0 v39) q546 q548 qs4 q84 q549 yvX0_at (by decide) rfl (by first | decide | simp [rv_cat, cat_i, cat_l]) dX0_plan_134 (fun v40 => ?_)
      refine s_callV_I (ci := 0) (n := 3) (As := [.int w34, .int v38, rv v40]) (st := [.int ((16 * w8) + w34), rv v35]) hX (pcK 1) (by decide) (ct_X0_hundreds X.l n p0 w34 v38 v40) q1491 q1493 qs37 q84 q1494 yvX0_hundreds (by decide) rfl (by first | decide | simp [rv_cat, cat_i, cat_l]) dX0_plan_137 (fun v41 => ?_)
      refine s_iast hX (pcA 0) (pcB 0) dX0_plan_140 ?_
      refine s_iinc (k := 6) (v := (w34 + 1)) (L2 := [(6, .int (w34 + 1)), (0, rv p0), (1, .int p1), (2, .int p2), (3, .int p3), (4, .int (1 <<< (v5 &&& 31))), (5, .int w8)]) hX dX0_plan_141 rfl rfl (by decide) rfl ?_
      refine s_goto (tgt := 93) hX dX0_plan_144 (by decide) ?_
      exact s_sub [1, 2, 3, 4, 5, 6, 0] rfl (ih93 (w34 + 1))
set_option maxHeartbeats 4000000 in
theorem s_lp_X0_plan_84 {X : Cx} (hX : Ok X Pic cX0_plan RX0 10 (some FieldType.int) 5 108) (hnh : Noh X) (n : Nat) (p0 : Nat) (p1 : Int32) (p2 : Int32) (p3 : Int32) (v5 : Int32) (j153 : Unit → Act Int32) (hj153 : ∀ (u : Unit), Sim X cvI 153 [(0, rv p0), (1, .int p1), (2, .int p2), (3, .int p3), (4, .int (1 <<< (v5 &&& 31)))] [] (j153 u)) (q : Nat) : ∀ (w8 : Int32), Sim X cvI 84 [(0, rv p0), (1, .int p1), (2, .int p2), (3, .int p3), (4, .int (1 <<< (v5 &&& 31))), (5, .int w8)] [] (lp_X0_plan_84 n p0 p1 p2 p3 v5 j153 q w8) := by
  induction q with
  | zero => intro w8; exact s_fail
  | succ q ih84 =>
    intro w8
    rw [lp_X0_plan_84]
    refine s_iload hX dX0_plan_84 5 rfl ?_
    refine s_iload_n hX dX0_plan_86 rfl 1 rfl ?_
    refine s_icmp_ge (tgt := 153) hX dX0_plan_87 (by decide) ?_ ?_
    · exact s_sub [0, 1, 2, 3, 4] rfl (hj153 ())
    · refine s_iconst (v := 0) hX dX0_plan_90 rfl ?_
      refine s_istore (i := 6) (L2 := [(6, .int 0), (0, rv p0), (1, .int p1), (2, .int p2), (3, .int p3), (4, .int (1 <<< (v5 &&& 31))), (5, .int w8)]) hX dX0_plan_91 (by decide) rfl ?_
      refine s_jn (P := fun j => ∀ (u : Unit), Sim X cvI 147 [(0, rv p0), (1, .int p1), (2, .int p2), (3, .int p3), (4, .int (1 <<< (v5 &&& 31))), (5, .int w8)] [] (j u)) ?_ (fun j147 hj147 => ?_)
      · intro u
        refine s_iinc (k := 5) (v := (w8 + 1)) (L2 := [(5, .int (w8 + 1)), (0, rv p0), (1, .int p1), (2, .int p2), (3, .int p3), (4, .int (1 <<< (v5 &&& 31)))]) hX dX0_plan_147 rfl rfl (by decide) rfl ?_
        refine s_goto (tgt := 84) hX dX0_plan_150 (by decide) ?_
        exact s_sub [1, 2, 3, 4, 5, 0] rfl (ih84 (w8 + 1))
      · exact s_sub [1, 2, 3, 4, 5, 6, 0] rfl (s_lp_X0_plan_93 hX hnh n p0 p1 p2 p3 v5 w8 j147 hj147 n 0)
set_option maxHeartbeats 4000000 in
theorem ct_X0_plan (l : Launch) (n : Nat) (p0 : Nat) (p1 : Int32) (p2 : Int32) (p3 : Int32) : Ct l Pic yX0_plan (ws_ yX0_plan cX0_plan 10 (some FieldType.int)) 5 108 cvI [rv p0, .int p1, .int p2, .int p3] (f_X0_plan n p0 p1 p2 p3) := by
  refine Ct.of (own := RX0) (L := [(0, rv p0), (1, .int p1), (2, .int p2), (3, .int p3)]) (plainFor_of_name (by decide)) rfl (by first | decide | simp [lg_sl, rv_cat, cat_i, cat_l]) (by first | rfl | simp [lv_args, rv_cat, cat_i, cat_l]) pcZ (fun X hXl hX hnh hin => ?_)
  subst hXl
  unfold f_X0_plan
  refine s_iload_n hX dX0_plan_0 rfl 1 rfl ?_
  refine s_i2l hX dX0_plan_1 ?_
  refine s_lconst (v := 1) hX dX0_plan_2 (by decide) ?_
  refine s_ldc2 (v := 8) hX dX0_plan_3 q1489 ?_
  refine s_callS_I (n := 3) (As := [.long p1.toInt64, .long 1, .long 8]) (st := []) hX (ct_X0_isIn X.l p1.toInt64 (1 : Int64) (8 : Int64)) q400 q401 q84 q402 ycX0_isIn (by decide) rfl (by first | decide | simp [rv_cat, cat_i, cat_l]) dX0_plan_6 (fun v1 => ?_)
  refine s_jn (P := fun j => ∀ (u : Unit), Sim X cvI 56 [] [] (j u)) ?_ (fun j56 hj56 => ?_)
  · intro u
    refine s_iconst (v := -1) hX dX0_plan_56 (by decide) ?_
    exact s_iret hX dX0_plan_57
  · refine s_if_eq (tgt := 56) hX dX0_plan_9 (by decide) ?_ ?_
    · exact s_sub [] rfl (hj56 ())
    · refine s_iload_n hX dX0_plan_12 rfl 2 rfl ?_
      refine s_i2l hX dX0_plan_13 ?_
      refine s_lconst (v := 0) hX dX0_plan_14 (by decide) ?_
      refine s_ldc2 (v := 60) hX dX0_plan_15 q1490 ?_
      refine s_callS_I (n := 3) (As := [.long p2.toInt64, .long 0, .long 60]) (st := []) hX (ct_X0_isIn X.l p2.toInt64 (0 : Int64) (60 : Int64)) q400 q401 q84 q402 ycX0_isIn (by decide) rfl (by first | decide | simp [rv_cat, cat_i, cat_l]) dX0_plan_18 (fun v2 => ?_)
      refine s_if_eq (tgt := 56) hX dX0_plan_21 (by decide) ?_ ?_
      · exact s_sub [] rfl (hj56 ())
      · refine s_aload_n hX dX0_plan_24 rfl 0 rfl ?_
        refine s_getI (ci := 0) (j := 0) (ref := "WindGas") hX (pcG 0) in_X0 (Or.inl q266) (by decide) (by decide) (by decide) rfl dX0_plan_25 (fun _ h9 => h9) (fun v3 => ?_)
        refine s_iload_n hX dX0_plan_28 rfl 1 rfl ?_
        refine s_iadd hX dX0_plan_29 ?_
        refine s_sipush (v := 4999) hX dX0_plan_30 (by decide) ?_
        refine s_icmp_gt (tgt := 56) hX dX0_plan_33 (by decide) ?_ ?_
        · exact s_sub [] rfl (hj56 ())
        · refine s_iload_n hX dX0_plan_36 rfl 3 rfl ?_
          refine s_jn (P := fun j => ∀ (u : Unit), Sim X cvI 58 [(0, rv p0), (1, .int p1), (2, .int p2), (3, .int p3)] [] (j u)) ?_ (fun j58 hj58 => ?_)
          · intro u
            refine s_iconst (v := 1) hX dX0_plan_58 rfl ?_
            refine s_aload_n hX dX0_plan_59 rfl 0 rfl ?_
            refine s_getR (ci := 0) (j := 18) (ref := "WindGas") hX (pcG 0) in_X0 (Or.inl q284) (by decide) (by decide) (by decide) rfl dX0_plan_60 (fun _ h9 => h9) (fun v4 => ?_)
            refine s_callV_I (ci := 17) (n := 0) (As := []) (st := [.int 1]) hX (pcK 18) (by decide) (pt_size X.l v4) q554 q417 q418 q88 q419 yvJ2_size (by decide) rfl (by first | decide | simp [rv_cat, cat_i, cat_l]) dX0_plan_63 (fun v5 => ?_)
            refine s_ishl hX dX0_plan_66 ?_
            refine s_istore (i := 4) (L2 := [(4, .int (1 <<< (v5 &&& 31))), (0, rv p0), (1, .int p1), (2, .int p2), (3, .int p3)]) hX dX0_plan_67 (by decide) rfl ?_
            refine s_aload_n hX dX0_plan_69 rfl 1 rfl ?_
            refine s_aload_n hX dX0_plan_70 rfl 1 rfl ?_
            refine s_aload_n hX dX0_plan_71 rfl 1 rfl ?_
            refine s_getI (ci := 0) (j := 0) (ref := "WindGas") hX (pcG 0) in_X0 (Or.inl q266) (by decide) (by decide) (by decide) rfl dX0_plan_72 (fun _ h9 => h9) (fun v6 => ?_)
            refine s_callV_R (ci := 0) (n := 1) (As := [.int v6]) (st := [rv p0]) hX (pcK 1) (by decide) (ct_X0_at X.l n p0 v6) q546 q548 qs4 q84 q549 yvX0_at (by decide) rfl (by first | decide | simp [rv_cat, cat_i, cat_l]) dX0_plan_75 (fun v7 => ?_)
            refine s_callV_U (ci := 0) (n := 1) (As := [rv v7]) (st := []) hX (pcK 1) (by decide) (ct_X0_orders X.l n p0 v7) q1207 q1209 qs28 q84 q1210 yvX0_orders (by decide) rfl (by first | decide | simp [rv_cat, cat_i, cat_l]) dX0_plan_78 (fun _ => ?_)
            refine s_iconst (v := 0) hX dX0_plan_81 rfl ?_
            refine s_istore (i := 5) (L2 := [(5, .int 0), (4, .int (1 <<< (v5 &&& 31))), (0, rv p0), (1, .int p1), (2, .int p2), (3, .int p3)]) hX dX0_plan_82 (by decide) rfl ?_
            refine s_jn (P := fun j => ∀ (u : Unit), Sim X cvI 153 [(0, rv p0), (1, .int p1), (2, .int p2), (3, .int p3), (4, .int (1 <<< (v5 &&& 31)))] [] (j u)) ?_ (fun j153 hj153 => ?_)
            · intro u
              refine s_iconst (v := 0) hX dX0_plan_153 rfl ?_
              refine s_istore (i := 5) (L2 := [(5, .int 0), (0, rv p0), (1, .int p1), (2, .int p2), (3, .int p3), (4, .int (1 <<< (v5 &&& 31)))]) hX dX0_plan_154 (by decide) rfl ?_
              refine s_jn (P := fun j => ∀ (u : Unit), Sim X cvI 214 [(0, rv p0), (1, .int p1), (2, .int p2), (3, .int p3), (4, .int (1 <<< (v5 &&& 31)))] [] (j u)) ?_ (fun j214 hj214 => ?_)
              · intro u
                refine s_iload_n hX dX0_plan_214 rfl 1 rfl ?_
                refine s_iconst (v := 1) hX dX0_plan_215 rfl ?_
                refine s_isub hX dX0_plan_216 ?_
                refine s_istore (i := 5) (L2 := [(5, .int (p1 - 1)), (0, rv p0), (1, .int p1), (2, .int p2), (3, .int p3), (4, .int (1 <<< (v5 &&& 31)))]) hX dX0_plan_217 (by decide) rfl ?_
                refine s_jn (P := fun j => ∀ (u : Unit), Sim X cvI 322 [(0, rv p0), (2, .int p2), (3, .int p3)] [] (j u)) ?_ (fun j322 hj322 => ?_)
                · intro u
                  refine s_aload_n hX dX0_plan_322 rfl 0 rfl ?_
                  refine s_callV_I (ci := 0) (n := 0) (As := []) (st := []) hX (pcK 1) (by decide) (ct_X0_running X.l n p0) q1506 q1508 qs39 q84 q1509 yvX0_running (by decide) rfl (by first | decide | simp [rv_cat, cat_i, cat_l]) dX0_plan_323 (fun v11 => ?_)
                  refine s_istore (i := 5) (L2 := [(5, .int v11), (0, rv p0), (2, .int p2), (3, .int p3)]) hX dX0_plan_326 (by decide) rfl ?_
                  refine s_aload_n hX dX0_plan_328 rfl 1 rfl ?_
                  refine s_getR (ci := 0) (j := 40) (ref := "WindGas") hX (pcG 0) in_X0 (Or.inl q306) (by decide) (by decide) (by decide) rfl dX0_plan_329 (fun _ h9 => h9) (fun v12 => ?_)
                  refine s_iload hX dX0_plan_332 0 rfl ?_
                  refine s_bipush (v := 61) hX dX0_plan_334 (by decide) ?_
                  refine s_imul hX dX0_plan_336 ?_
                  refine s_iload_n hX dX0_plan_337 rfl 2 rfl ?_
                  refine s_iadd hX dX0_plan_338 ?_
                  refine s_iald hX (pcA 0) dX0_plan_339 (fun v13 => ?_)
                  refine s_istore (i := 6) (L2 := [(6, .int v13), (5, .int v11), (0, rv p0), (2, .int p2), (3, .int p3)]) hX dX0_plan_340 (by decide) rfl ?_
                  refine s_iload hX dX0_plan_342 0 rfl ?_
                  refine s_ldcw (v := 1000000) hX dX0_plan_344 q1238 ?_
                  refine s_icmp_ne (tgt := 352) hX dX0_plan_347 (by decide) ?_ ?_
                  · refine s_iload_n hX dX0_plan_352 rfl 4 rfl ?_
                    refine s_if_ne (tgt := 359) hX dX0_plan_353 (by decide) ?_ ?_
                    · refine s_iload_n hX dX0_plan_359 rfl 3 rfl ?_
                      refine s_istore (i := 7) (L2 := [(7, .int p2), (6, .int v13), (5, .int v11), (0, rv p0), (2, .int p2), (3, .int p3)]) hX dX0_plan_360 (by decide) rfl ?_
                      refine s_iconst (v := 0) hX dX0_plan_362 rfl ?_
                      refine s_istore (i := 8) (L2 := [(8, .int 0), (7, .int p2), (6, .int v13), (5, .int v11), (0, rv p0), (2, .int p2), (3, .int p3)]) hX dX0_plan_363 (by decide) rfl ?_
                      exact s_sub [4, 6, 3, 1, 0] rfl (s_lp_X0_plan_365 hX hnh n p0 p3 n v11 p2 0)
                    · refine s_iload hX dX0_plan_356 0 rfl ?_
                      exact s_iret hX dX0_plan_358
                  · refine s_iconst (v := -1) hX dX0_plan_350 (by decide) ?_
                    exact s_iret hX dX0_plan_351
                · exact s_sub [1, 3, 4, 5, 0] rfl (s_lp_X0_plan_219 hX hnh n p0 p2 p3 v5 j322 hj322 n (p1 - 1))
              · exact s_sub [1, 2, 3, 4, 5, 0] rfl (s_lp_X0_plan_156 hX hnh n p0 p1 p2 p3 v5 j214 hj214 n 0)
            · exact s_sub [2, 3, 4, 5, 1, 0] rfl (s_lp_X0_plan_84 hX hnh n p0 p1 p2 p3 v5 j153 hj153 n 0)
          · refine s_if_eq (tgt := 58) hX dX0_plan_37 (by decide) ?_ ?_
            · exact hj58 ()
            · refine s_iload_n hX dX0_plan_40 rfl 3 rfl ?_
              refine s_i2l hX dX0_plan_41 ?_
              refine s_ldc2 (v := 10) hX dX0_plan_42 q1106 ?_
              refine s_bipush (v := 9) hX dX0_plan_45 (by decide) ?_
              refine s_iload_n hX dX0_plan_47 rfl 1 rfl ?_
              refine s_iadd hX dX0_plan_48 ?_
              refine s_i2l hX dX0_plan_49 ?_
              refine s_callS_I (n := 3) (As := [.long p3.toInt64, .long 10, .long (9 + p1).toInt64]) (st := []) hX (ct_X0_isIn X.l p3.toInt64 (10 : Int64) ((9 + p1).toInt64)) q400 q401 q84 q402 ycX0_isIn (by decide) rfl (by first | decide | simp [rv_cat, cat_i, cat_l]) dX0_plan_50 (fun v42 => ?_)
              refine s_if_ne (tgt := 58) hX dX0_plan_53 (by decide) ?_ ?_
              · exact hj58 ()
              · exact s_sub [] rfl (hj56 ())
theorem dX0_sum_0 : decode cX0_sum 0 = .ok (.iload_n 1, 1) := by decide +kernel
theorem dX0_sum_1 : decode cX0_sum 1 = .ok (.tableswitch 168 0 12 #[67, 72, 77, 82, 87, 92, 97, 102, 118, 134, 152, 158, 163], 67) := by decide +kernel
theorem dX0_sum_68 : decode cX0_sum 68 = .ok (.aload_n 0, 1) := by decide +kernel
theorem dX0_sum_69 : decode cX0_sum 69 = .ok (.getfield 488, 3) := by decide +kernel
theorem dX0_sum_72 : decode cX0_sum 72 = .ok (.lreturn, 1) := by decide +kernel
theorem dX0_sum_73 : decode cX0_sum 73 = .ok (.aload_n 0, 1) := by decide +kernel
theorem dX0_sum_74 : decode cX0_sum 74 = .ok (.getfield 491, 3) := by decide +kernel
theorem dX0_sum_77 : decode cX0_sum 77 = .ok (.lreturn, 1) := by decide +kernel
theorem dX0_sum_78 : decode cX0_sum 78 = .ok (.aload_n 0, 1) := by decide +kernel
theorem dX0_sum_79 : decode cX0_sum 79 = .ok (.getfield 509, 3) := by decide +kernel
theorem dX0_sum_82 : decode cX0_sum 82 = .ok (.lreturn, 1) := by decide +kernel
theorem dX0_sum_83 : decode cX0_sum 83 = .ok (.aload_n 0, 1) := by decide +kernel
theorem dX0_sum_84 : decode cX0_sum 84 = .ok (.getfield 515, 3) := by decide +kernel
theorem dX0_sum_87 : decode cX0_sum 87 = .ok (.lreturn, 1) := by decide +kernel
theorem dX0_sum_88 : decode cX0_sum 88 = .ok (.aload_n 0, 1) := by decide +kernel
theorem dX0_sum_89 : decode cX0_sum 89 = .ok (.getfield 494, 3) := by decide +kernel
theorem dX0_sum_92 : decode cX0_sum 92 = .ok (.lreturn, 1) := by decide +kernel
theorem dX0_sum_93 : decode cX0_sum 93 = .ok (.aload_n 0, 1) := by decide +kernel
theorem dX0_sum_94 : decode cX0_sum 94 = .ok (.getfield 506, 3) := by decide +kernel
theorem dX0_sum_97 : decode cX0_sum 97 = .ok (.lreturn, 1) := by decide +kernel
theorem dX0_sum_98 : decode cX0_sum 98 = .ok (.aload_n 0, 1) := by decide +kernel
theorem dX0_sum_99 : decode cX0_sum 99 = .ok (.getfield 544, 3) := by decide +kernel
theorem dX0_sum_102 : decode cX0_sum 102 = .ok (.lreturn, 1) := by decide +kernel
theorem dX0_sum_103 : decode cX0_sum 103 = .ok (.aload_n 0, 1) := by decide +kernel
theorem dX0_sum_104 : decode cX0_sum 104 = .ok (.getfield 57, 3) := by decide +kernel
theorem dX0_sum_107 : decode cX0_sum 107 = .ok (.getfield 389, 3) := by decide +kernel
theorem dX0_sum_110 : decode cX0_sum 110 = .ok (.aload_n 0, 1) := by decide +kernel
theorem dX0_sum_111 : decode cX0_sum 111 = .ok (.getfield 61, 3) := by decide +kernel
theorem dX0_sum_114 : decode cX0_sum 114 = .ok (.getfield 389, 3) := by decide +kernel
theorem dX0_sum_117 : decode cX0_sum 117 = .ok (.ladd, 1) := by decide +kernel
theorem dX0_sum_118 : decode cX0_sum 118 = .ok (.lreturn, 1) := by decide +kernel
theorem dX0_sum_119 : decode cX0_sum 119 = .ok (.aload_n 0, 1) := by decide +kernel
theorem dX0_sum_120 : decode cX0_sum 120 = .ok (.getfield 57, 3) := by decide +kernel
theorem dX0_sum_123 : decode cX0_sum 123 = .ok (.getfield 393, 3) := by decide +kernel
theorem dX0_sum_126 : decode cX0_sum 126 = .ok (.aload_n 0, 1) := by decide +kernel
theorem dX0_sum_127 : decode cX0_sum 127 = .ok (.getfield 61, 3) := by decide +kernel
theorem dX0_sum_130 : decode cX0_sum 130 = .ok (.getfield 393, 3) := by decide +kernel
theorem dX0_sum_133 : decode cX0_sum 133 = .ok (.ladd, 1) := by decide +kernel
theorem dX0_sum_134 : decode cX0_sum 134 = .ok (.lreturn, 1) := by decide +kernel
theorem dX0_sum_135 : decode cX0_sum 135 = .ok (.aload_n 0, 1) := by decide +kernel
theorem dX0_sum_136 : decode cX0_sum 136 = .ok (.getfield 57, 3) := by decide +kernel
theorem dX0_sum_139 : decode cX0_sum 139 = .ok (.getfield 365, 3) := by decide +kernel
theorem dX0_sum_142 : decode cX0_sum 142 = .ok (.i2l, 1) := by decide +kernel
theorem dX0_sum_143 : decode cX0_sum 143 = .ok (.aload_n 0, 1) := by decide +kernel
theorem dX0_sum_144 : decode cX0_sum 144 = .ok (.getfield 61, 3) := by decide +kernel
theorem dX0_sum_147 : decode cX0_sum 147 = .ok (.getfield 365, 3) := by decide +kernel
theorem dX0_sum_150 : decode cX0_sum 150 = .ok (.i2l, 1) := by decide +kernel
theorem dX0_sum_151 : decode cX0_sum 151 = .ok (.ladd, 1) := by decide +kernel
theorem dX0_sum_152 : decode cX0_sum 152 = .ok (.lreturn, 1) := by decide +kernel
theorem dX0_sum_153 : decode cX0_sum 153 = .ok (.aload_n 0, 1) := by decide +kernel
theorem dX0_sum_154 : decode cX0_sum 154 = .ok (.getfield 425, 3) := by decide +kernel
theorem dX0_sum_157 : decode cX0_sum 157 = .ok (.i2l, 1) := by decide +kernel
theorem dX0_sum_158 : decode cX0_sum 158 = .ok (.lreturn, 1) := by decide +kernel
theorem dX0_sum_159 : decode cX0_sum 159 = .ok (.aload_n 0, 1) := by decide +kernel
theorem dX0_sum_160 : decode cX0_sum 160 = .ok (.getfield 481, 3) := by decide +kernel
theorem dX0_sum_163 : decode cX0_sum 163 = .ok (.lreturn, 1) := by decide +kernel
theorem dX0_sum_164 : decode cX0_sum 164 = .ok (.aload_n 0, 1) := by decide +kernel
theorem dX0_sum_165 : decode cX0_sum 165 = .ok (.getfield 512, 3) := by decide +kernel
theorem dX0_sum_168 : decode cX0_sum 168 = .ok (.lreturn, 1) := by decide +kernel
theorem dX0_sum_169 : decode cX0_sum 169 = .ok (.ldc2_w 652, 3) := by decide +kernel
theorem dX0_sum_172 : decode cX0_sum 172 = .ok (.lreturn, 1) := by decide +kernel
theorem ycX0_sum : yX0_sum.cls ≠ "java/lang/invoke/MethodHandle" ∧ yX0_sum.cls ≠ "java/lang/invoke/VarHandle" ∧ (parseMethodDescriptor yX0_sum.desc).map (fun d => d.parameters.length) = some 1 := by decide +kernel
theorem yvX0_sum : yX0_sum.cls = RR 0 ∧ yX0_sum.cls ≠ "java/lang/invoke/MethodHandle" ∧ yX0_sum.cls ≠ "java/lang/invoke/VarHandle" ∧ (parseMethodDescriptor yX0_sum.desc).map (fun d => d.parameters.length) = some 1 := ⟨rfl, ycX0_sum⟩
noncomputable def f_X0_sum (p0 : Nat) (p1 : Int32) : Act Int64 :=
  sw p1 (0) [
    bnd (getL 0 21 p0) fun v1 =>
    pur v1,
    bnd (getL 0 22 p0) fun v2 =>
    pur v2,
    bnd (getL 0 23 p0) fun v3 =>
    pur v3,
    bnd (getL 0 24 p0) fun v4 =>
    pur v4,
    bnd (getL 0 25 p0) fun v5 =>
    pur v5,
    bnd (getL 0 26 p0) fun v6 =>
    pur v6,
    bnd (getL 0 27 p0) fun v7 =>
    pur v7,
    bnd (getR 0 16 p0) fun v8 =>
    bnd (getL 3 7 v8) fun v9 =>
    bnd (getR 0 17 p0) fun v10 =>
    bnd (getL 3 7 v10) fun v11 =>
    pur (v9 + v11),
    bnd (getR 0 16 p0) fun v12 =>
    bnd (getL 3 8 v12) fun v13 =>
    bnd (getR 0 17 p0) fun v14 =>
    bnd (getL 3 8 v14) fun v15 =>
    pur (v13 + v15),
    bnd (getR 0 16 p0) fun v16 =>
    bnd (getI 3 4 v16) fun v17 =>
    bnd (getR 0 17 p0) fun v18 =>
    bnd (getI 3 4 v18) fun v19 =>
    pur (v17.toInt64 + v19.toInt64),
    bnd (getI 0 20 p0) fun v20 =>
    pur v20.toInt64,
    bnd (getL 0 28 p0) fun v21 =>
    pur v21,
    bnd (getL 0 29 p0) fun v22 =>
    pur v22] (
    pur (-1000000000000))
set_option maxHeartbeats 4000000 in
theorem ct_X0_sum (l : Launch) (p0 : Nat) (p1 : Int32) : Ct l Pic yX0_sum (ws_ yX0_sum cX0_sum 2 (some FieldType.long)) 0 0 cvL [rv p0, .int p1] (f_X0_sum p0 p1) := by
  refine Ct.of (own := RX0) (L := [(0, rv p0), (1, .int p1)]) (plainFor_of_name (by decide)) rfl (by first | decide | simp [lg_sl, rv_cat, cat_i, cat_l]) (by first | rfl | simp [lv_args, rv_cat, cat_i, cat_l]) pcZ (fun X hXl hX hnh hin => ?_)
  subst hXl
  unfold f_X0_sum
  refine s_iload_n hX dX0_sum_0 rfl 1 rfl ?_
  refine s_sw hX dX0_sum_1 (dt := 169) (by decide) (tgts := [68, 73, 78, 83, 88, 93, 98, 103, 119, 135, 153, 159, 164]) (by decide) (by decide) ?_ ?_
  · refine s_ldc2 (v := -1000000000000) hX dX0_sum_169 q1514 ?_
    exact s_lret hX dX0_sum_172
  · refine ⟨?_, ?_, ?_, ?_, ?_, ?_, ?_, ?_, ?_, ?_, ?_, ?_, ?_, trivial⟩
    · refine s_aload_n hX dX0_sum_68 rfl 0 rfl ?_
      refine s_getL (ci := 0) (j := 21) (ref := "WindGas") hX (pcG 0) in_X0 (Or.inl q287) (by decide) (by decide) (by decide) rfl dX0_sum_69 (fun _ h9 => h9) (fun v1 => ?_)
      exact s_lret hX dX0_sum_72
    · refine s_aload_n hX dX0_sum_73 rfl 0 rfl ?_
      refine s_getL (ci := 0) (j := 22) (ref := "WindGas") hX (pcG 0) in_X0 (Or.inl q288) (by decide) (by decide) (by decide) rfl dX0_sum_74 (fun _ h9 => h9) (fun v2 => ?_)
      exact s_lret hX dX0_sum_77
    · refine s_aload_n hX dX0_sum_78 rfl 0 rfl ?_
      refine s_getL (ci := 0) (j := 23) (ref := "WindGas") hX (pcG 0) in_X0 (Or.inl q289) (by decide) (by decide) (by decide) rfl dX0_sum_79 (fun _ h9 => h9) (fun v3 => ?_)
      exact s_lret hX dX0_sum_82
    · refine s_aload_n hX dX0_sum_83 rfl 0 rfl ?_
      refine s_getL (ci := 0) (j := 24) (ref := "WindGas") hX (pcG 0) in_X0 (Or.inl q290) (by decide) (by decide) (by decide) rfl dX0_sum_84 (fun _ h9 => h9) (fun v4 => ?_)
      exact s_lret hX dX0_sum_87
    · refine s_aload_n hX dX0_sum_88 rfl 0 rfl ?_
      refine s_getL (ci := 0) (j := 25) (ref := "WindGas") hX (pcG 0) in_X0 (Or.inl q291) (by decide) (by decide) (by decide) rfl dX0_sum_89 (fun _ h9 => h9) (fun v5 => ?_)
      exact s_lret hX dX0_sum_92
    · refine s_aload_n hX dX0_sum_93 rfl 0 rfl ?_
      refine s_getL (ci := 0) (j := 26) (ref := "WindGas") hX (pcG 0) in_X0 (Or.inl q292) (by decide) (by decide) (by decide) rfl dX0_sum_94 (fun _ h9 => h9) (fun v6 => ?_)
      exact s_lret hX dX0_sum_97
    · refine s_aload_n hX dX0_sum_98 rfl 0 rfl ?_
      refine s_getL (ci := 0) (j := 27) (ref := "WindGas") hX (pcG 0) in_X0 (Or.inl q293) (by decide) (by decide) (by decide) rfl dX0_sum_99 (fun _ h9 => h9) (fun v7 => ?_)
      exact s_lret hX dX0_sum_102
    · refine s_aload_n hX dX0_sum_103 rfl 0 rfl ?_
      refine s_getR (ci := 0) (j := 16) (ref := "WindGas") hX (pcG 0) in_X0 (Or.inl q282) (by decide) (by decide) (by decide) rfl dX0_sum_104 (fun _ h9 => h9) (fun v8 => ?_)
      refine s_getL (ci := 3) (j := 7) (ref := "WindGas$Store") hX (pcG 3) in_X3 (Or.inr ⟨_, q244⟩) (by decide) (by decide) (by decide) rfl dX0_sum_107 (fun _ h9 => h9) (fun v9 => ?_)
      refine s_aload_n hX dX0_sum_110 rfl 0 rfl ?_
      refine s_getR (ci := 0) (j := 17) (ref := "WindGas") hX (pcG 0) in_X0 (Or.inl q283) (by decide) (by decide) (by decide) rfl dX0_sum_111 (fun _ h9 => h9) (fun v10 => ?_)
      refine s_getL (ci := 3) (j := 7) (ref := "WindGas$Store") hX (pcG 3) in_X3 (Or.inr ⟨_, q244⟩) (by decide) (by decide) (by decide) rfl dX0_sum_114 (fun _ h9 => h9) (fun v11 => ?_)
      refine s_ladd hX dX0_sum_117 ?_
      exact s_lret hX dX0_sum_118
    · refine s_aload_n hX dX0_sum_119 rfl 0 rfl ?_
      refine s_getR (ci := 0) (j := 16) (ref := "WindGas") hX (pcG 0) in_X0 (Or.inl q282) (by decide) (by decide) (by decide) rfl dX0_sum_120 (fun _ h9 => h9) (fun v12 => ?_)
      refine s_getL (ci := 3) (j := 8) (ref := "WindGas$Store") hX (pcG 3) in_X3 (Or.inr ⟨_, q245⟩) (by decide) (by decide) (by decide) rfl dX0_sum_123 (fun _ h9 => h9) (fun v13 => ?_)
      refine s_aload_n hX dX0_sum_126 rfl 0 rfl ?_
      refine s_getR (ci := 0) (j := 17) (ref := "WindGas") hX (pcG 0) in_X0 (Or.inl q283) (by decide) (by decide) (by decide) rfl dX0_sum_127 (fun _ h9 => h9) (fun v14 => ?_)
      refine s_getL (ci := 3) (j := 8) (ref := "WindGas$Store") hX (pcG 3) in_X3 (Or.inr ⟨_, q245⟩) (by decide) (by decide) (by decide) rfl dX0_sum_130 (fun _ h9 => h9) (fun v15 => ?_)
      refine s_ladd hX dX0_sum_133 ?_
      exact s_lret hX dX0_sum_134
    · refine s_aload_n hX dX0_sum_135 rfl 0 rfl ?_
      refine s_getR (ci := 0) (j := 16) (ref := "WindGas") hX (pcG 0) in_X0 (Or.inl q282) (by decide) (by decide) (by decide) rfl dX0_sum_136 (fun _ h9 => h9) (fun v16 => ?_)
      refine s_getI (ci := 3) (j := 4) (ref := "WindGas$Store") hX (pcG 3) in_X3 (Or.inr ⟨_, q240⟩) (by decide) (by decide) (by decide) rfl dX0_sum_139 (fun _ h9 => h9) (fun v17 => ?_)
      refine s_i2l hX dX0_sum_142 ?_
      refine s_aload_n hX dX0_sum_143 rfl 0 rfl ?_
      refine s_getR (ci := 0) (j := 17) (ref := "WindGas") hX (pcG 0) in_X0 (Or.inl q283) (by decide) (by decide) (by decide) rfl dX0_sum_144 (fun _ h9 => h9) (fun v18 => ?_)
      refine s_getI (ci := 3) (j := 4) (ref := "WindGas$Store") hX (pcG 3) in_X3 (Or.inr ⟨_, q240⟩) (by decide) (by decide) (by decide) rfl dX0_sum_147 (fun _ h9 => h9) (fun v19 => ?_)
      refine s_i2l hX dX0_sum_150 ?_
      refine s_ladd hX dX0_sum_151 ?_
      exact s_lret hX dX0_sum_152
    · refine s_aload_n hX dX0_sum_153 rfl 0 rfl ?_
      refine s_getI (ci := 0) (j := 20) (ref := "WindGas") hX (pcG 0) in_X0 (Or.inl q286) (by decide) (by decide) (by decide) rfl dX0_sum_154 (fun _ h9 => h9) (fun v20 => ?_)
      refine s_i2l hX dX0_sum_157 ?_
      exact s_lret hX dX0_sum_158
    · refine s_aload_n hX dX0_sum_159 rfl 0 rfl ?_
      refine s_getL (ci := 0) (j := 28) (ref := "WindGas") hX (pcG 0) in_X0 (Or.inl q294) (by decide) (by decide) (by decide) rfl dX0_sum_160 (fun _ h9 => h9) (fun v21 => ?_)
      exact s_lret hX dX0_sum_163
    · refine s_aload_n hX dX0_sum_164 rfl 0 rfl ?_
      refine s_getL (ci := 0) (j := 29) (ref := "WindGas") hX (pcG 0) in_X0 (Or.inl q295) (by decide) (by decide) (by decide) rfl dX0_sum_165 (fun _ h9 => h9) (fun v22 => ?_)
      exact s_lret hX dX0_sum_168
theorem dX0_greenMany_0 : decode cX0_greenMany 0 = .ok (.iconst 0, 1) := by decide +kernel
theorem dX0_greenMany_1 : decode cX0_greenMany 1 = .ok (.istore_n 1, 1) := by decide +kernel
theorem dX0_greenMany_2 : decode cX0_greenMany 2 = .ok (.iconst 0, 1) := by decide +kernel
theorem dX0_greenMany_3 : decode cX0_greenMany 3 = .ok (.istore_n 2, 1) := by decide +kernel
theorem dX0_greenMany_4 : decode cX0_greenMany 4 = .ok (.aload_n 0, 1) := by decide +kernel
theorem dX0_greenMany_5 : decode cX0_greenMany 5 = .ok (.iload_n 2, 1) := by decide +kernel
theorem dX0_greenMany_6 : decode cX0_greenMany 6 = .ok (.invokevirtual 556, 3) := by decide +kernel
theorem dX0_greenMany_9 : decode cX0_greenMany 9 = .ok (.ifCond .eq 25, 3) := by decide +kernel
theorem dX0_greenMany_12 : decode cX0_greenMany 12 = .ok (.iload_n 1, 1) := by decide +kernel
theorem dX0_greenMany_13 : decode cX0_greenMany 13 = .ok (.aload_n 0, 1) := by decide +kernel
theorem dX0_greenMany_14 : decode cX0_greenMany 14 = .ok (.iload_n 2, 1) := by decide +kernel
theorem dX0_greenMany_15 : decode cX0_greenMany 15 = .ok (.invokevirtual 559, 3) := by decide +kernel
theorem dX0_greenMany_18 : decode cX0_greenMany 18 = .ok (.ifCond .eq 7, 3) := by decide +kernel
theorem dX0_greenMany_21 : decode cX0_greenMany 21 = .ok (.iconst 1, 1) := by decide +kernel
theorem dX0_greenMany_22 : decode cX0_greenMany 22 = .ok (.goto 4, 3) := by decide +kernel
theorem dX0_greenMany_25 : decode cX0_greenMany 25 = .ok (.iconst 0, 1) := by decide +kernel
theorem dX0_greenMany_26 : decode cX0_greenMany 26 = .ok (.iadd, 1) := by decide +kernel
theorem dX0_greenMany_27 : decode cX0_greenMany 27 = .ok (.istore_n 1, 1) := by decide +kernel
theorem dX0_greenMany_28 : decode cX0_greenMany 28 = .ok (.iinc 2 1, 3) := by decide +kernel
theorem dX0_greenMany_31 : decode cX0_greenMany 31 = .ok (.goto (-27), 3) := by decide +kernel
theorem dX0_greenMany_34 : decode cX0_greenMany 34 = .ok (.iload_n 1, 1) := by decide +kernel
theorem dX0_greenMany_35 : decode cX0_greenMany 35 = .ok (.ireturn, 1) := by decide +kernel
theorem ycX0_greenMany : yX0_greenMany.cls ≠ "java/lang/invoke/MethodHandle" ∧ yX0_greenMany.cls ≠ "java/lang/invoke/VarHandle" ∧ (parseMethodDescriptor yX0_greenMany.desc).map (fun d => d.parameters.length) = some 0 := by decide +kernel
theorem yvX0_greenMany : yX0_greenMany.cls = RR 0 ∧ yX0_greenMany.cls ≠ "java/lang/invoke/MethodHandle" ∧ yX0_greenMany.cls ≠ "java/lang/invoke/VarHandle" ∧ (parseMethodDescriptor yX0_greenMany.desc).map (fun d => d.parameters.length) = some 0 := ⟨rfl, ycX0_greenMany⟩
noncomputable def lp_X0_greenMany_4 (n : Nat) (p0 : Nat) (q : Nat) : Int32 → Int32 → Act Int32 := match q with
  | 0 => fun _ _ => fail
  | q + 1 => fun w1 w2 =>
    bnd (gd 0 p0 (nt (f_X0_isHour p0 w2))) fun v3 =>
    if v3 = 0 then
      pur w1
    else
      bnd (gd 0 p0 (nt (f_X0_isGreen n p0 w2))) fun v4 =>
      jn (fun (v5 : Int32) =>
        (lp_X0_greenMany_4 n p0 q) (w1 + v5) (w2 + 1)) fun j26 =>
      if v4 = 0 then
        j26 0
      else
        j26 1
noncomputable def f_X0_greenMany (n : Nat) (p0 : Nat) : Act Int32 :=
  lp_X0_greenMany_4 n p0 n 0 0
set_option maxHeartbeats 4000000 in
theorem s_lp_X0_greenMany_4 {X : Cx} (hX : Ok X Pic cX0_greenMany RX0 3 (some FieldType.int) 163 3506) (hnh : Noh X) (n : Nat) (p0 : Nat) (q : Nat) : ∀ (w1 : Int32) (w2 : Int32), Sim X cvI 4 [(0, rv p0), (1, .int w1), (2, .int w2)] [] (lp_X0_greenMany_4 n p0 q w1 w2) := by
  induction q with
  | zero => intro w1 w2; exact s_fail
  | succ q ih4 =>
    intro w1 w2
    rw [lp_X0_greenMany_4]
    refine s_aload_n hX dX0_greenMany_4 rfl 0 rfl ?_
    refine s_iload_n hX dX0_greenMany_5 rfl 2 rfl ?_
    refine s_callV_I (ci := 0) (n := 1) (As := [.int w2]) (st := []) hX (pcK 1) (by decide) (ct_X0_isHour X.l p0 w2) q1341 q1343 qs32 q84 q1344 yvX0_isHour (by decide) rfl (by first | decide | simp [rv_cat, cat_i, cat_l]) dX0_greenMany_6 (fun v3 => ?_)
    refine s_if_eq (tgt := 34) hX dX0_greenMany_9 (by decide) ?_ ?_
    · refine s_iload_n hX dX0_greenMany_34 rfl 1 rfl ?_
      exact s_iret hX dX0_greenMany_35
    · refine s_iload_n hX dX0_greenMany_12 rfl 1 rfl ?_
      refine s_aload_n hX dX0_greenMany_13 rfl 0 rfl ?_
      refine s_iload_n hX dX0_greenMany_14 rfl 2 rfl ?_
      refine s_callV_I (ci := 0) (n := 1) (As := [.int w2]) (st := [.int w1]) hX (pcK 1) (by decide) (ct_X0_isGreen X.l n p0 w2) q1346 q1348 qs33 q84 q1349 yvX0_isGreen (by decide) rfl (by first | decide | simp [rv_cat, cat_i, cat_l]) dX0_greenMany_15 (fun v4 => ?_)
      refine s_jn (P := fun j => ∀ (v5 : Int32), Sim X cvI 26 [(0, rv p0), (2, .int w2)] [.int v5, .int w1] (j v5)) ?_ (fun j26 hj26 => ?_)
      · intro v5
        refine s_iadd hX dX0_greenMany_26 ?_
        refine s_istore_n (i := 1) (L2 := [(1, .int (w1 + v5)), (0, rv p0), (2, .int w2)]) hX dX0_greenMany_27 rfl (by decide) (by first | (simp [rv_cat, cat_i, cat_l]; done) | (simp [rv_cat, cat_i, cat_l]; decide)) ?_
        refine s_iinc (k := 2) (v := (w2 + 1)) (L2 := [(2, .int (w2 + 1)), (1, .int (w1 + v5)), (0, rv p0)]) hX dX0_greenMany_28 rfl rfl (by decide) rfl ?_
        refine s_goto (tgt := 4) hX dX0_greenMany_31 (by decide) ?_
        exact s_sub [2, 1, 0] rfl (ih4 (w1 + v5) (w2 + 1))
      · refine s_if_eq (tgt := 25) hX dX0_greenMany_18 (by decide) ?_ ?_
        · refine s_iconst (v := 0) hX dX0_greenMany_25 rfl ?_
          exact s_sub [0, 2] rfl (hj26 0)
        · refine s_iconst (v := 1) hX dX0_greenMany_21 rfl ?_
          refine s_goto (tgt := 26) hX dX0_greenMany_22 (by decide) ?_
          exact s_sub [0, 2] rfl (hj26 1)
set_option maxHeartbeats 4000000 in
theorem ct_X0_greenMany (l : Launch) (n : Nat) (p0 : Nat) : Ct l Pic yX0_greenMany (ws_ yX0_greenMany cX0_greenMany 3 (some FieldType.int)) 163 3506 cvI [rv p0] (f_X0_greenMany n p0) := by
  refine Ct.of (own := RX0) (L := [(0, rv p0)]) (plainFor_of_name (by decide)) rfl (by first | decide | simp [lg_sl, rv_cat, cat_i, cat_l]) (by first | rfl | simp [lv_args, rv_cat, cat_i, cat_l]) pcZ (fun X hXl hX hnh hin => ?_)
  subst hXl
  unfold f_X0_greenMany
  refine s_iconst (v := 0) hX dX0_greenMany_0 rfl ?_
  refine s_istore_n (i := 1) (L2 := [(1, .int 0), (0, rv p0)]) hX dX0_greenMany_1 rfl (by decide) (by first | (simp [rv_cat, cat_i, cat_l]; done) | (simp [rv_cat, cat_i, cat_l]; decide)) ?_
  refine s_iconst (v := 0) hX dX0_greenMany_2 rfl ?_
  refine s_istore_n (i := 2) (L2 := [(2, .int 0), (1, .int 0), (0, rv p0)]) hX dX0_greenMany_3 rfl (by decide) rfl ?_
  exact s_sub [2, 1, 0] rfl (s_lp_X0_greenMany_4 hX hnh n p0 n 0 0)
theorem dX0_validMany_0 : decode cX0_validMany 0 = .ok (.iconst 0, 1) := by decide +kernel
theorem dX0_validMany_1 : decode cX0_validMany 1 = .ok (.istore_n 1, 1) := by decide +kernel
theorem dX0_validMany_2 : decode cX0_validMany 2 = .ok (.iconst 0, 1) := by decide +kernel
theorem dX0_validMany_3 : decode cX0_validMany 3 = .ok (.istore_n 2, 1) := by decide +kernel
theorem dX0_validMany_4 : decode cX0_validMany 4 = .ok (.iload_n 2, 1) := by decide +kernel
theorem dX0_validMany_5 : decode cX0_validMany 5 = .ok (.aload_n 0, 1) := by decide +kernel
theorem dX0_validMany_6 : decode cX0_validMany 6 = .ok (.getfield 87, 3) := by decide +kernel
theorem dX0_validMany_9 : decode cX0_validMany 9 = .ok (.invokevirtual 124, 3) := by decide +kernel
theorem dX0_validMany_12 : decode cX0_validMany 12 = .ok (.if_icmp .ge 25, 3) := by decide +kernel
theorem dX0_validMany_15 : decode cX0_validMany 15 = .ok (.iload_n 1, 1) := by decide +kernel
theorem dX0_validMany_16 : decode cX0_validMany 16 = .ok (.aload_n 0, 1) := by decide +kernel
theorem dX0_validMany_17 : decode cX0_validMany 17 = .ok (.iload_n 2, 1) := by decide +kernel
theorem dX0_validMany_18 : decode cX0_validMany 18 = .ok (.invokevirtual 599, 3) := by decide +kernel
theorem dX0_validMany_21 : decode cX0_validMany 21 = .ok (.ifCond .eq 7, 3) := by decide +kernel
theorem dX0_validMany_24 : decode cX0_validMany 24 = .ok (.iconst 1, 1) := by decide +kernel
theorem dX0_validMany_25 : decode cX0_validMany 25 = .ok (.goto 4, 3) := by decide +kernel
theorem dX0_validMany_28 : decode cX0_validMany 28 = .ok (.iconst 0, 1) := by decide +kernel
theorem dX0_validMany_29 : decode cX0_validMany 29 = .ok (.iadd, 1) := by decide +kernel
theorem dX0_validMany_30 : decode cX0_validMany 30 = .ok (.istore_n 1, 1) := by decide +kernel
theorem dX0_validMany_31 : decode cX0_validMany 31 = .ok (.iinc 2 1, 3) := by decide +kernel
theorem dX0_validMany_34 : decode cX0_validMany 34 = .ok (.goto (-30), 3) := by decide +kernel
theorem dX0_validMany_37 : decode cX0_validMany 37 = .ok (.iload_n 1, 1) := by decide +kernel
theorem dX0_validMany_38 : decode cX0_validMany 38 = .ok (.ireturn, 1) := by decide +kernel
theorem ycX0_validMany : yX0_validMany.cls ≠ "java/lang/invoke/MethodHandle" ∧ yX0_validMany.cls ≠ "java/lang/invoke/VarHandle" ∧ (parseMethodDescriptor yX0_validMany.desc).map (fun d => d.parameters.length) = some 0 := by decide +kernel
theorem yvX0_validMany : yX0_validMany.cls = RR 0 ∧ yX0_validMany.cls ≠ "java/lang/invoke/MethodHandle" ∧ yX0_validMany.cls ≠ "java/lang/invoke/VarHandle" ∧ (parseMethodDescriptor yX0_validMany.desc).map (fun d => d.parameters.length) = some 0 := ⟨rfl, ycX0_validMany⟩
noncomputable def lp_X0_validMany_4 (n : Nat) (p0 : Nat) (q : Nat) : Int32 → Int32 → Act Int32 := match q with
  | 0 => fun _ _ => fail
  | q + 1 => fun w1 w2 =>
    bnd (getR 0 38 p0) fun v3 =>
    bnd (gd 17 v3 (nt (P_size v3))) fun v4 =>
    if v4 ≤ w2 then
      pur w1
    else
      bnd (gd 0 p0 (nt (f_X0_isValid n p0 w2))) fun v5 =>
      jn (fun (v6 : Int32) =>
        (lp_X0_validMany_4 n p0 q) (w1 + v6) (w2 + 1)) fun j29 =>
      if v5 = 0 then
        j29 0
      else
        j29 1
noncomputable def f_X0_validMany (n : Nat) (p0 : Nat) : Act Int32 :=
  lp_X0_validMany_4 n p0 n 0 0
set_option maxHeartbeats 4000000 in
theorem s_lp_X0_validMany_4 {X : Cx} (hX : Ok X Pic cX0_validMany RX0 3 (some FieldType.int) 165 3555) (hnh : Noh X) (n : Nat) (p0 : Nat) (q : Nat) : ∀ (w1 : Int32) (w2 : Int32), Sim X cvI 4 [(0, rv p0), (1, .int w1), (2, .int w2)] [] (lp_X0_validMany_4 n p0 q w1 w2) := by
  induction q with
  | zero => intro w1 w2; exact s_fail
  | succ q ih4 =>
    intro w1 w2
    rw [lp_X0_validMany_4]
    refine s_iload_n hX dX0_validMany_4 rfl 2 rfl ?_
    refine s_aload_n hX dX0_validMany_5 rfl 0 rfl ?_
    refine s_getR (ci := 0) (j := 38) (ref := "WindGas") hX (pcG 0) in_X0 (Or.inl q304) (by decide) (by decide) (by decide) rfl dX0_validMany_6 (fun _ h9 => h9) (fun v3 => ?_)
    refine s_callV_I (ci := 17) (n := 0) (As := []) (st := [.int w2]) hX (pcK 18) (by decide) (pt_size X.l v3) q554 q417 q418 q88 q419 yvJ2_size (by decide) rfl (by first | decide | simp [rv_cat, cat_i, cat_l]) dX0_validMany_9 (fun v4 => ?_)
    refine s_icmp_ge (tgt := 37) hX dX0_validMany_12 (by decide) ?_ ?_
    · refine s_iload_n hX dX0_validMany_37 rfl 1 rfl ?_
      exact s_iret hX dX0_validMany_38
    · refine s_iload_n hX dX0_validMany_15 rfl 1 rfl ?_
      refine s_aload_n hX dX0_validMany_16 rfl 0 rfl ?_
      refine s_iload_n hX dX0_validMany_17 rfl 2 rfl ?_
      refine s_callV_I (ci := 0) (n := 1) (As := [.int w2]) (st := [.int w1]) hX (pcK 1) (by decide) (ct_X0_isValid X.l n p0 w2) q1424 q1426 qs36 q84 q1427 yvX0_isValid (by decide) rfl (by first | decide | simp [rv_cat, cat_i, cat_l]) dX0_validMany_18 (fun v5 => ?_)
      refine s_jn (P := fun j => ∀ (v6 : Int32), Sim X cvI 29 [(0, rv p0), (2, .int w2)] [.int v6, .int w1] (j v6)) ?_ (fun j29 hj29 => ?_)
      · intro v6
        refine s_iadd hX dX0_validMany_29 ?_
        refine s_istore_n (i := 1) (L2 := [(1, .int (w1 + v6)), (0, rv p0), (2, .int w2)]) hX dX0_validMany_30 rfl (by decide) (by first | (simp [rv_cat, cat_i, cat_l]; done) | (simp [rv_cat, cat_i, cat_l]; decide)) ?_
        refine s_iinc (k := 2) (v := (w2 + 1)) (L2 := [(2, .int (w2 + 1)), (1, .int (w1 + v6)), (0, rv p0)]) hX dX0_validMany_31 rfl rfl (by decide) rfl ?_
        refine s_goto (tgt := 4) hX dX0_validMany_34 (by decide) ?_
        exact s_sub [2, 1, 0] rfl (ih4 (w1 + v6) (w2 + 1))
      · refine s_if_eq (tgt := 28) hX dX0_validMany_21 (by decide) ?_ ?_
        · refine s_iconst (v := 0) hX dX0_validMany_28 rfl ?_
          exact s_sub [0, 2] rfl (hj29 0)
        · refine s_iconst (v := 1) hX dX0_validMany_24 rfl ?_
          refine s_goto (tgt := 29) hX dX0_validMany_25 (by decide) ?_
          exact s_sub [0, 2] rfl (hj29 1)
set_option maxHeartbeats 4000000 in
theorem ct_X0_validMany (l : Launch) (n : Nat) (p0 : Nat) : Ct l Pic yX0_validMany (ws_ yX0_validMany cX0_validMany 3 (some FieldType.int)) 165 3555 cvI [rv p0] (f_X0_validMany n p0) := by
  refine Ct.of (own := RX0) (L := [(0, rv p0)]) (plainFor_of_name (by decide)) rfl (by first | decide | simp [lg_sl, rv_cat, cat_i, cat_l]) (by first | rfl | simp [lv_args, rv_cat, cat_i, cat_l]) pcZ (fun X hXl hX hnh hin => ?_)
  subst hXl
  unfold f_X0_validMany
  refine s_iconst (v := 0) hX dX0_validMany_0 rfl ?_
  refine s_istore_n (i := 1) (L2 := [(1, .int 0), (0, rv p0)]) hX dX0_validMany_1 rfl (by decide) (by first | (simp [rv_cat, cat_i, cat_l]; done) | (simp [rv_cat, cat_i, cat_l]; decide)) ?_
  refine s_iconst (v := 0) hX dX0_validMany_2 rfl ?_
  refine s_istore_n (i := 2) (L2 := [(2, .int 0), (1, .int 0), (0, rv p0)]) hX dX0_validMany_3 rfl (by decide) rfl ?_
  exact s_sub [2, 1, 0] rfl (s_lp_X0_validMany_4 hX hnh n p0 n 0 0)
theorem dX0_leftMany_0 : decode cX0_leftMany 0 = .ok (.iconst 0, 1) := by decide +kernel
theorem dX0_leftMany_1 : decode cX0_leftMany 1 = .ok (.istore_n 1, 1) := by decide +kernel
theorem dX0_leftMany_2 : decode cX0_leftMany 2 = .ok (.iconst 0, 1) := by decide +kernel
theorem dX0_leftMany_3 : decode cX0_leftMany 3 = .ok (.istore_n 2, 1) := by decide +kernel
theorem dX0_leftMany_4 : decode cX0_leftMany 4 = .ok (.iload_n 2, 1) := by decide +kernel
theorem dX0_leftMany_5 : decode cX0_leftMany 5 = .ok (.aload_n 0, 1) := by decide +kernel
theorem dX0_leftMany_6 : decode cX0_leftMany 6 = .ok (.getfield 84, 3) := by decide +kernel
theorem dX0_leftMany_9 : decode cX0_leftMany 9 = .ok (.invokevirtual 124, 3) := by decide +kernel
theorem dX0_leftMany_12 : decode cX0_leftMany 12 = .ok (.if_icmp .ge 35, 3) := by decide +kernel
theorem dX0_leftMany_15 : decode cX0_leftMany 15 = .ok (.iload_n 1, 1) := by decide +kernel
theorem dX0_leftMany_16 : decode cX0_leftMany 16 = .ok (.aload_n 0, 1) := by decide +kernel
theorem dX0_leftMany_17 : decode cX0_leftMany 17 = .ok (.getfield 84, 3) := by decide +kernel
theorem dX0_leftMany_20 : decode cX0_leftMany 20 = .ok (.iload_n 2, 1) := by decide +kernel
theorem dX0_leftMany_21 : decode cX0_leftMany 21 = .ok (.invokevirtual 128, 3) := by decide +kernel
theorem dX0_leftMany_24 : decode cX0_leftMany 24 = .ok (.checkcast 518, 3) := by decide +kernel
theorem dX0_leftMany_27 : decode cX0_leftMany 27 = .ok (.getfield 533, 3) := by decide +kernel
theorem dX0_leftMany_30 : decode cX0_leftMany 30 = .ok (.iconst 1, 1) := by decide +kernel
theorem dX0_leftMany_31 : decode cX0_leftMany 31 = .ok (.if_icmp .ne 7, 3) := by decide +kernel
theorem dX0_leftMany_34 : decode cX0_leftMany 34 = .ok (.iconst 1, 1) := by decide +kernel
theorem dX0_leftMany_35 : decode cX0_leftMany 35 = .ok (.goto 4, 3) := by decide +kernel
theorem dX0_leftMany_38 : decode cX0_leftMany 38 = .ok (.iconst 0, 1) := by decide +kernel
theorem dX0_leftMany_39 : decode cX0_leftMany 39 = .ok (.iadd, 1) := by decide +kernel
theorem dX0_leftMany_40 : decode cX0_leftMany 40 = .ok (.istore_n 1, 1) := by decide +kernel
theorem dX0_leftMany_41 : decode cX0_leftMany 41 = .ok (.iinc 2 1, 3) := by decide +kernel
theorem dX0_leftMany_44 : decode cX0_leftMany 44 = .ok (.goto (-40), 3) := by decide +kernel
theorem dX0_leftMany_47 : decode cX0_leftMany 47 = .ok (.iload_n 1, 1) := by decide +kernel
theorem dX0_leftMany_48 : decode cX0_leftMany 48 = .ok (.ireturn, 1) := by decide +kernel
theorem ycX0_leftMany : yX0_leftMany.cls ≠ "java/lang/invoke/MethodHandle" ∧ yX0_leftMany.cls ≠ "java/lang/invoke/VarHandle" ∧ (parseMethodDescriptor yX0_leftMany.desc).map (fun d => d.parameters.length) = some 0 := by decide +kernel
theorem yvX0_leftMany : yX0_leftMany.cls = RR 0 ∧ yX0_leftMany.cls ≠ "java/lang/invoke/MethodHandle" ∧ yX0_leftMany.cls ≠ "java/lang/invoke/VarHandle" ∧ (parseMethodDescriptor yX0_leftMany.desc).map (fun d => d.parameters.length) = some 0 := ⟨rfl, ycX0_leftMany⟩
noncomputable def lp_X0_leftMany_4 (p0 : Nat) (q : Nat) : Int32 → Int32 → Act Int32 := match q with
  | 0 => fun _ _ => fail
  | q + 1 => fun w1 w2 =>
    bnd (getR 0 37 p0) fun v3 =>
    bnd (gd 17 v3 (nt (P_size v3))) fun v4 =>
    if v4 ≤ w2 then
      pur w1
    else
      bnd (getR 0 37 p0) fun v5 =>
      bnd (gd 17 v5 (nt (P_get v5 w2))) fun v6 =>
      bnd (cst [8] v6) fun _ =>
      bnd (getI 7 4 v6) fun v7 =>
      jn (fun (v8 : Int32) =>
        (lp_X0_leftMany_4 p0 q) (w1 + v8) (w2 + 1)) fun j39 =>
      if ¬ v7 = 1 then
        j39 0
      else
        j39 1
noncomputable def f_X0_leftMany (n : Nat) (p0 : Nat) : Act Int32 :=
  lp_X0_leftMany_4 p0 n 0 0
set_option maxHeartbeats 4000000 in
theorem s_lp_X0_leftMany_4 {X : Cx} (hX : Ok X Pic cX0_leftMany RX0 3 (some FieldType.int) 3 64) (hnh : Noh X) (p0 : Nat) (q : Nat) : ∀ (w1 : Int32) (w2 : Int32), Sim X cvI 4 [(0, rv p0), (1, .int w1), (2, .int w2)] [] (lp_X0_leftMany_4 p0 q w1 w2) := by
  induction q with
  | zero => intro w1 w2; exact s_fail
  | succ q ih4 =>
    intro w1 w2
    rw [lp_X0_leftMany_4]
    refine s_iload_n hX dX0_leftMany_4 rfl 2 rfl ?_
    refine s_aload_n hX dX0_leftMany_5 rfl 0 rfl ?_
    refine s_getR (ci := 0) (j := 37) (ref := "WindGas") hX (pcG 0) in_X0 (Or.inl q303) (by decide) (by decide) (by decide) rfl dX0_leftMany_6 (fun _ h9 => h9) (fun v3 => ?_)
    refine s_callV_I (ci := 17) (n := 0) (As := []) (st := [.int w2]) hX (pcK 18) (by decide) (pt_size X.l v3) q554 q417 q418 q88 q419 yvJ2_size (by decide) rfl (by first | decide | simp [rv_cat, cat_i, cat_l]) dX0_leftMany_9 (fun v4 => ?_)
    refine s_icmp_ge (tgt := 47) hX dX0_leftMany_12 (by decide) ?_ ?_
    · refine s_iload_n hX dX0_leftMany_47 rfl 1 rfl ?_
      exact s_iret hX dX0_leftMany_48
    · refine s_iload_n hX dX0_leftMany_15 rfl 1 rfl ?_
      refine s_aload_n hX dX0_leftMany_16 rfl 0 rfl ?_
      refine s_getR (ci := 0) (j := 37) (ref := "WindGas") hX (pcG 0) in_X0 (Or.inl q303) (by decide) (by decide) (by decide) rfl dX0_leftMany_17 (fun _ h9 => h9) (fun v5 => ?_)
      refine s_iload_n hX dX0_leftMany_20 rfl 2 rfl ?_
      refine s_callV_R (ci := 17) (n := 1) (As := [.int w2]) (st := [.int w1]) hX (pcK 18) (by decide) (pt_get X.l v5 w2) q555 q516 q517 q88 q518 yvJ2_get (by decide) rfl (by first | decide | simp [rv_cat, cat_i, cat_l]) dX0_leftMany_21 (fun v6 => ?_)
      refine s_cast (ks := [8]) hX (elC 7 (by decide)) q1272 dX0_leftMany_24 ?_
      refine s_getI (ci := 7) (j := 4) (ref := "WindGas$Trip") hX (pcG 7) in_X7 (Or.inr ⟨_, q1318⟩) (by decide) (by decide) (by decide) rfl dX0_leftMany_27 (fun _ h9 => h9) (fun v7 => ?_)
      refine s_iconst (v := 1) hX dX0_leftMany_30 rfl ?_
      refine s_jn (P := fun j => ∀ (v8 : Int32), Sim X cvI 39 [(0, rv p0), (2, .int w2)] [.int v8, .int w1] (j v8)) ?_ (fun j39 hj39 => ?_)
      · intro v8
        refine s_iadd hX dX0_leftMany_39 ?_
        refine s_istore_n (i := 1) (L2 := [(1, .int (w1 + v8)), (0, rv p0), (2, .int w2)]) hX dX0_leftMany_40 rfl (by decide) (by first | (simp [rv_cat, cat_i, cat_l]; done) | (simp [rv_cat, cat_i, cat_l]; decide)) ?_
        refine s_iinc (k := 2) (v := (w2 + 1)) (L2 := [(2, .int (w2 + 1)), (1, .int (w1 + v8)), (0, rv p0)]) hX dX0_leftMany_41 rfl rfl (by decide) rfl ?_
        refine s_goto (tgt := 4) hX dX0_leftMany_44 (by decide) ?_
        exact s_sub [2, 1, 0] rfl (ih4 (w1 + v8) (w2 + 1))
      · refine s_icmp_ne (tgt := 38) hX dX0_leftMany_31 (by decide) ?_ ?_
        · refine s_iconst (v := 0) hX dX0_leftMany_38 rfl ?_
          exact s_sub [0, 2] rfl (hj39 0)
        · refine s_iconst (v := 1) hX dX0_leftMany_34 rfl ?_
          refine s_goto (tgt := 39) hX dX0_leftMany_35 (by decide) ?_
          exact s_sub [0, 2] rfl (hj39 1)
set_option maxHeartbeats 4000000 in
theorem ct_X0_leftMany (l : Launch) (n : Nat) (p0 : Nat) : Ct l Pic yX0_leftMany (ws_ yX0_leftMany cX0_leftMany 3 (some FieldType.int)) 3 64 cvI [rv p0] (f_X0_leftMany n p0) := by
  refine Ct.of (own := RX0) (L := [(0, rv p0)]) (plainFor_of_name (by decide)) rfl (by first | decide | simp [lg_sl, rv_cat, cat_i, cat_l]) (by first | rfl | simp [lv_args, rv_cat, cat_i, cat_l]) pcZ (fun X hXl hX hnh hin => ?_)
  subst hXl
  unfold f_X0_leftMany
  refine s_iconst (v := 0) hX dX0_leftMany_0 rfl ?_
  refine s_istore_n (i := 1) (L2 := [(1, .int 0), (0, rv p0)]) hX dX0_leftMany_1 rfl (by decide) (by first | (simp [rv_cat, cat_i, cat_l]; done) | (simp [rv_cat, cat_i, cat_l]; decide)) ?_
  refine s_iconst (v := 0) hX dX0_leftMany_2 rfl ?_
  refine s_istore_n (i := 2) (L2 := [(2, .int 0), (1, .int 0), (0, rv p0)]) hX dX0_leftMany_3 rfl (by decide) rfl ?_
  exact s_sub [2, 1, 0] rfl (s_lp_X0_leftMany_4 hX hnh p0 n 0 0)
theorem dX0_count_0 : decode cX0_count 0 = .ok (.iload_n 1, 1) := by decide +kernel
theorem dX0_count_1 : decode cX0_count 1 = .ok (.tableswitch 129 0 10 #[59, 64, 72, 77, 85, 90, 98, 103, 111, 119, 124], 59) := by decide +kernel
theorem dX0_count_60 : decode cX0_count 60 = .ok (.aload_n 0, 1) := by decide +kernel
theorem dX0_count_61 : decode cX0_count 61 = .ok (.getfield 351, 3) := by decide +kernel
theorem dX0_count_64 : decode cX0_count 64 = .ok (.ireturn, 1) := by decide +kernel
theorem dX0_count_65 : decode cX0_count 65 = .ok (.aload_n 0, 1) := by decide +kernel
theorem dX0_count_66 : decode cX0_count 66 = .ok (.getfield 64, 3) := by decide +kernel
theorem dX0_count_69 : decode cX0_count 69 = .ok (.invokevirtual 124, 3) := by decide +kernel
theorem dX0_count_72 : decode cX0_count 72 = .ok (.ireturn, 1) := by decide +kernel
theorem dX0_count_73 : decode cX0_count 73 = .ok (.aload_n 0, 1) := by decide +kernel
theorem dX0_count_74 : decode cX0_count 74 = .ok (.invokevirtual 471, 3) := by decide +kernel
theorem dX0_count_77 : decode cX0_count 77 = .ok (.ireturn, 1) := by decide +kernel
theorem dX0_count_78 : decode cX0_count 78 = .ok (.aload_n 0, 1) := by decide +kernel
theorem dX0_count_79 : decode cX0_count 79 = .ok (.getfield 84, 3) := by decide +kernel
theorem dX0_count_82 : decode cX0_count 82 = .ok (.invokevirtual 124, 3) := by decide +kernel
theorem dX0_count_85 : decode cX0_count 85 = .ok (.ireturn, 1) := by decide +kernel
theorem dX0_count_86 : decode cX0_count 86 = .ok (.aload_n 0, 1) := by decide +kernel
theorem dX0_count_87 : decode cX0_count 87 = .ok (.invokevirtual 654, 3) := by decide +kernel
theorem dX0_count_90 : decode cX0_count 90 = .ok (.ireturn, 1) := by decide +kernel
theorem dX0_count_91 : decode cX0_count 91 = .ok (.aload_n 0, 1) := by decide +kernel
theorem dX0_count_92 : decode cX0_count 92 = .ok (.getfield 87, 3) := by decide +kernel
theorem dX0_count_95 : decode cX0_count 95 = .ok (.invokevirtual 124, 3) := by decide +kernel
theorem dX0_count_98 : decode cX0_count 98 = .ok (.ireturn, 1) := by decide +kernel
theorem dX0_count_99 : decode cX0_count 99 = .ok (.aload_n 0, 1) := by decide +kernel
theorem dX0_count_100 : decode cX0_count 100 = .ok (.invokevirtual 657, 3) := by decide +kernel
theorem dX0_count_103 : decode cX0_count 103 = .ok (.ireturn, 1) := by decide +kernel
theorem dX0_count_104 : decode cX0_count 104 = .ok (.aload_n 0, 1) := by decide +kernel
theorem dX0_count_105 : decode cX0_count 105 = .ok (.getfield 27, 3) := by decide +kernel
theorem dX0_count_108 : decode cX0_count 108 = .ok (.invokevirtual 124, 3) := by decide +kernel
theorem dX0_count_111 : decode cX0_count 111 = .ok (.ireturn, 1) := by decide +kernel
theorem dX0_count_112 : decode cX0_count 112 = .ok (.aload_n 0, 1) := by decide +kernel
theorem dX0_count_113 : decode cX0_count 113 = .ok (.getfield 90, 3) := by decide +kernel
theorem dX0_count_116 : decode cX0_count 116 = .ok (.invokevirtual 124, 3) := by decide +kernel
theorem dX0_count_119 : decode cX0_count 119 = .ok (.ireturn, 1) := by decide +kernel
theorem dX0_count_120 : decode cX0_count 120 = .ok (.aload_n 0, 1) := by decide +kernel
theorem dX0_count_121 : decode cX0_count 121 = .ok (.getfield 163, 3) := by decide +kernel
theorem dX0_count_124 : decode cX0_count 124 = .ok (.ireturn, 1) := by decide +kernel
theorem dX0_count_125 : decode cX0_count 125 = .ok (.aload_n 0, 1) := by decide +kernel
theorem dX0_count_126 : decode cX0_count 126 = .ok (.invokevirtual 660, 3) := by decide +kernel
theorem dX0_count_129 : decode cX0_count 129 = .ok (.ireturn, 1) := by decide +kernel
theorem dX0_count_130 : decode cX0_count 130 = .ok (.iconst (-1), 1) := by decide +kernel
theorem dX0_count_131 : decode cX0_count 131 = .ok (.ireturn, 1) := by decide +kernel
theorem ycX0_count : yX0_count.cls ≠ "java/lang/invoke/MethodHandle" ∧ yX0_count.cls ≠ "java/lang/invoke/VarHandle" ∧ (parseMethodDescriptor yX0_count.desc).map (fun d => d.parameters.length) = some 1 := by decide +kernel
theorem yvX0_count : yX0_count.cls = RR 0 ∧ yX0_count.cls ≠ "java/lang/invoke/MethodHandle" ∧ yX0_count.cls ≠ "java/lang/invoke/VarHandle" ∧ (parseMethodDescriptor yX0_count.desc).map (fun d => d.parameters.length) = some 1 := ⟨rfl, ycX0_count⟩
noncomputable def f_X0_count (n : Nat) (p0 : Nat) (p1 : Int32) : Act Int32 :=
  sw p1 (0) [
    bnd (getI 0 0 p0) fun v1 =>
    pur v1,
    bnd (getR 0 18 p0) fun v2 =>
    bnd (gd 17 v2 (nt (P_size v2))) fun v3 =>
    pur v3,
    bnd (gd 0 p0 (nt (f_X0_runs n p0))) fun v4 =>
    pur v4,
    bnd (getR 0 37 p0) fun v5 =>
    bnd (gd 17 v5 (nt (P_size v5))) fun v6 =>
    pur v6,
    bnd (gd 0 p0 (nt (f_X0_leftMany n p0))) fun v7 =>
    pur v7,
    bnd (getR 0 38 p0) fun v8 =>
    bnd (gd 17 v8 (nt (P_size v8))) fun v9 =>
    pur v9,
    bnd (gd 0 p0 (nt (f_X0_validMany n p0))) fun v10 =>
    pur v10,
    bnd (getR 0 4 p0) fun v11 =>
    bnd (gd 17 v11 (nt (P_size v11))) fun v12 =>
    pur v12,
    bnd (getR 0 39 p0) fun v13 =>
    bnd (gd 17 v13 (nt (P_size v13))) fun v14 =>
    pur v14,
    bnd (getI 0 7 p0) fun v15 =>
    pur v15,
    bnd (gd 0 p0 (nt (f_X0_greenMany n p0))) fun v16 =>
    pur v16] (
    pur (-1))
set_option maxHeartbeats 4000000 in
theorem ct_X0_count (l : Launch) (n : Nat) (p0 : Nat) (p1 : Int32) : Ct l Pic yX0_count (ws_ yX0_count cX0_count 2 (some FieldType.int)) 166 3577 cvI [rv p0, .int p1] (f_X0_count n p0 p1) := by
  refine Ct.of (own := RX0) (L := [(0, rv p0), (1, .int p1)]) (plainFor_of_name (by decide)) rfl (by first | decide | simp [lg_sl, rv_cat, cat_i, cat_l]) (by first | rfl | simp [lv_args, rv_cat, cat_i, cat_l]) pcZ (fun X hXl hX hnh hin => ?_)
  subst hXl
  unfold f_X0_count
  refine s_iload_n hX dX0_count_0 rfl 1 rfl ?_
  refine s_sw hX dX0_count_1 (dt := 130) (by decide) (tgts := [60, 65, 73, 78, 86, 91, 99, 104, 112, 120, 125]) (by decide) (by decide) ?_ ?_
  · refine s_iconst (v := -1) hX dX0_count_130 (by decide) ?_
    exact s_iret hX dX0_count_131
  · refine ⟨?_, ?_, ?_, ?_, ?_, ?_, ?_, ?_, ?_, ?_, ?_, trivial⟩
    · refine s_aload_n hX dX0_count_60 rfl 0 rfl ?_
      refine s_getI (ci := 0) (j := 0) (ref := "WindGas") hX (pcG 0) in_X0 (Or.inl q266) (by decide) (by decide) (by decide) rfl dX0_count_61 (fun _ h9 => h9) (fun v1 => ?_)
      exact s_iret hX dX0_count_64
    · refine s_aload_n hX dX0_count_65 rfl 0 rfl ?_
      refine s_getR (ci := 0) (j := 18) (ref := "WindGas") hX (pcG 0) in_X0 (Or.inl q284) (by decide) (by decide) (by decide) rfl dX0_count_66 (fun _ h9 => h9) (fun v2 => ?_)
      refine s_callV_I (ci := 17) (n := 0) (As := []) (st := []) hX (pcK 18) (by decide) (pt_size X.l v2) q554 q417 q418 q88 q419 yvJ2_size (by decide) rfl (by first | decide | simp [rv_cat, cat_i, cat_l]) dX0_count_69 (fun v3 => ?_)
      exact s_iret hX dX0_count_72
    · refine s_aload_n hX dX0_count_73 rfl 0 rfl ?_
      refine s_callV_I (ci := 0) (n := 0) (As := []) (st := []) hX (pcK 1) (by decide) (ct_X0_runs X.l n p0) q1160 q1162 qs25 q84 q1163 yvX0_runs (by decide) rfl (by first | decide | simp [rv_cat, cat_i, cat_l]) dX0_count_74 (fun v4 => ?_)
      exact s_iret hX dX0_count_77
    · refine s_aload_n hX dX0_count_78 rfl 0 rfl ?_
      refine s_getR (ci := 0) (j := 37) (ref := "WindGas") hX (pcG 0) in_X0 (Or.inl q303) (by decide) (by decide) (by decide) rfl dX0_count_79 (fun _ h9 => h9) (fun v5 => ?_)
      refine s_callV_I (ci := 17) (n := 0) (As := []) (st := []) hX (pcK 18) (by decide) (pt_size X.l v5) q554 q417 q418 q88 q419 yvJ2_size (by decide) rfl (by first | decide | simp [rv_cat, cat_i, cat_l]) dX0_count_82 (fun v6 => ?_)
      exact s_iret hX dX0_count_85
    · refine s_aload_n hX dX0_count_86 rfl 0 rfl ?_
      refine s_callV_I (ci := 0) (n := 0) (As := []) (st := []) hX (pcK 1) (by decide) (ct_X0_leftMany X.l n p0) q1519 q1521 qs40 q84 q1522 yvX0_leftMany (by decide) rfl (by first | decide | simp [rv_cat, cat_i, cat_l]) dX0_count_87 (fun v7 => ?_)
      exact s_iret hX dX0_count_90
    · refine s_aload_n hX dX0_count_91 rfl 0 rfl ?_
      refine s_getR (ci := 0) (j := 38) (ref := "WindGas") hX (pcG 0) in_X0 (Or.inl q304) (by decide) (by decide) (by decide) rfl dX0_count_92 (fun _ h9 => h9) (fun v8 => ?_)
      refine s_callV_I (ci := 17) (n := 0) (As := []) (st := []) hX (pcK 18) (by decide) (pt_size X.l v8) q554 q417 q418 q88 q419 yvJ2_size (by decide) rfl (by first | decide | simp [rv_cat, cat_i, cat_l]) dX0_count_95 (fun v9 => ?_)
      exact s_iret hX dX0_count_98
    · refine s_aload_n hX dX0_count_99 rfl 0 rfl ?_
      refine s_callV_I (ci := 0) (n := 0) (As := []) (st := []) hX (pcK 1) (by decide) (ct_X0_validMany X.l n p0) q1523 q1525 qs41 q84 q1526 yvX0_validMany (by decide) rfl (by first | decide | simp [rv_cat, cat_i, cat_l]) dX0_count_100 (fun v10 => ?_)
      exact s_iret hX dX0_count_103
    · refine s_aload_n hX dX0_count_104 rfl 0 rfl ?_
      refine s_getR (ci := 0) (j := 4) (ref := "WindGas") hX (pcG 0) in_X0 (Or.inl q270) (by decide) (by decide) (by decide) rfl dX0_count_105 (fun _ h9 => h9) (fun v11 => ?_)
      refine s_callV_I (ci := 17) (n := 0) (As := []) (st := []) hX (pcK 18) (by decide) (pt_size X.l v11) q554 q417 q418 q88 q419 yvJ2_size (by decide) rfl (by first | decide | simp [rv_cat, cat_i, cat_l]) dX0_count_108 (fun v12 => ?_)
      exact s_iret hX dX0_count_111
    · refine s_aload_n hX dX0_count_112 rfl 0 rfl ?_
      refine s_getR (ci := 0) (j := 39) (ref := "WindGas") hX (pcG 0) in_X0 (Or.inl q305) (by decide) (by decide) (by decide) rfl dX0_count_113 (fun _ h9 => h9) (fun v13 => ?_)
      refine s_callV_I (ci := 17) (n := 0) (As := []) (st := []) hX (pcK 18) (by decide) (pt_size X.l v13) q554 q417 q418 q88 q419 yvJ2_size (by decide) rfl (by first | decide | simp [rv_cat, cat_i, cat_l]) dX0_count_116 (fun v14 => ?_)
      exact s_iret hX dX0_count_119
    · refine s_aload_n hX dX0_count_120 rfl 0 rfl ?_
      refine s_getI (ci := 0) (j := 7) (ref := "WindGas") hX (pcG 0) in_X0 (Or.inl q273) (by decide) (by decide) (by decide) rfl dX0_count_121 (fun _ h9 => h9) (fun v15 => ?_)
      exact s_iret hX dX0_count_124
    · refine s_aload_n hX dX0_count_125 rfl 0 rfl ?_
      refine s_callV_I (ci := 0) (n := 0) (As := []) (st := []) hX (pcK 1) (by decide) (ct_X0_greenMany X.l n p0) q1527 q1529 qs42 q84 q1530 yvX0_greenMany (by decide) rfl (by first | decide | simp [rv_cat, cat_i, cat_l]) dX0_count_126 (fun v16 => ?_)
      exact s_iret hX dX0_count_129
