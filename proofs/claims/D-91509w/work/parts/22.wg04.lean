set_option maxRecDepth 100000
theorem dX0_ten_0 : decode cX0_ten 0 = .ok (.aload_n 0, 1) := by decide +kernel
theorem dX0_ten_1 : decode cX0_ten 1 = .ok (.aload_n 0, 1) := by decide +kernel
theorem dX0_ten_2 : decode cX0_ten 2 = .ok (.getfield 351, 3) := by decide +kernel
theorem dX0_ten_5 : decode cX0_ten 5 = .ok (.invokevirtual 138, 3) := by decide +kernel
theorem dX0_ten_8 : decode cX0_ten 8 = .ok (.astore_n 1, 1) := by decide +kernel
theorem dX0_ten_9 : decode cX0_ten 9 = .ok (.aload_n 0, 1) := by decide +kernel
theorem dX0_ten_10 : decode cX0_ten 10 = .ok (.aload_n 0, 1) := by decide +kernel
theorem dX0_ten_11 : decode cX0_ten 11 = .ok (.getfield 351, 3) := by decide +kernel
theorem dX0_ten_14 : decode cX0_ten 14 = .ok (.aload_n 0, 1) := by decide +kernel
theorem dX0_ten_15 : decode cX0_ten 15 = .ok (.getfield 57, 3) := by decide +kernel
theorem dX0_ten_18 : decode cX0_ten 18 = .ok (.getfield 365, 3) := by decide +kernel
theorem dX0_ten_21 : decode cX0_ten 21 = .ok (.i2l, 1) := by decide +kernel
theorem dX0_ten_22 : decode cX0_ten 22 = .ok (.aload_n 0, 1) := by decide +kernel
theorem dX0_ten_23 : decode cX0_ten 23 = .ok (.getfield 61, 3) := by decide +kernel
theorem dX0_ten_26 : decode cX0_ten 26 = .ok (.getfield 365, 3) := by decide +kernel
theorem dX0_ten_29 : decode cX0_ten 29 = .ok (.i2l, 1) := by decide +kernel
theorem dX0_ten_30 : decode cX0_ten 30 = .ok (.ladd, 1) := by decide +kernel
theorem dX0_ten_31 : decode cX0_ten 31 = .ok (.aload_n 0, 1) := by decide +kernel
theorem dX0_ten_32 : decode cX0_ten 32 = .ok (.getfield 425, 3) := by decide +kernel
theorem dX0_ten_35 : decode cX0_ten 35 = .ok (.i2l, 1) := by decide +kernel
theorem dX0_ten_36 : decode cX0_ten 36 = .ok (.aload_n 0, 1) := by decide +kernel
theorem dX0_ten_37 : decode cX0_ten 37 = .ok (.invokevirtual 471, 3) := by decide +kernel
theorem dX0_ten_40 : decode cX0_ten 40 = .ok (.i2l, 1) := by decide +kernel
theorem dX0_ten_41 : decode cX0_ten 41 = .ok (.invokevirtual 474, 3) := by decide +kernel
theorem dX0_ten_44 : decode cX0_ten 44 = .ok (.aload_n 1, 1) := by decide +kernel
theorem dX0_ten_45 : decode cX0_ten 45 = .ok (.getfield 337, 3) := by decide +kernel
theorem dX0_ten_48 : decode cX0_ten 48 = .ok (.aload_n 0, 1) := by decide +kernel
theorem dX0_ten_49 : decode cX0_ten 49 = .ok (.getfield 77, 3) := by decide +kernel
theorem dX0_ten_52 : decode cX0_ten 52 = .ok (.invokestatic 478, 3) := by decide +kernel
theorem dX0_ten_55 : decode cX0_ten 55 = .ok (.istore_n 2, 1) := by decide +kernel
theorem dX0_ten_56 : decode cX0_ten 56 = .ok (.aload_n 0, 1) := by decide +kernel
theorem dX0_ten_57 : decode cX0_ten 57 = .ok (.getfield 351, 3) := by decide +kernel
theorem dX0_ten_60 : decode cX0_ten 60 = .ok (.bipush 6, 2) := by decide +kernel
theorem dX0_ten_62 : decode cX0_ten 62 = .ok (.irem, 1) := by decide +kernel
theorem dX0_ten_63 : decode cX0_ten 63 = .ok (.iconst 5, 1) := by decide +kernel
theorem dX0_ten_64 : decode cX0_ten 64 = .ok (.if_icmp .ne 62, 3) := by decide +kernel
theorem dX0_ten_67 : decode cX0_ten 67 = .ok (.aload_n 0, 1) := by decide +kernel
theorem dX0_ten_68 : decode cX0_ten 68 = .ok (.getfield 67, 3) := by decide +kernel
theorem dX0_ten_71 : decode cX0_ten 71 = .ok (.aload_n 0, 1) := by decide +kernel
theorem dX0_ten_72 : decode cX0_ten 72 = .ok (.getfield 351, 3) := by decide +kernel
theorem dX0_ten_75 : decode cX0_ten 75 = .ok (.bipush 6, 2) := by decide +kernel
theorem dX0_ten_77 : decode cX0_ten 77 = .ok (.idiv, 1) := by decide +kernel
theorem dX0_ten_78 : decode cX0_ten 78 = .ok (.aload_n 0, 1) := by decide +kernel
theorem dX0_ten_79 : decode cX0_ten 79 = .ok (.getfield 57, 3) := by decide +kernel
theorem dX0_ten_82 : decode cX0_ten 82 = .ok (.getfield 365, 3) := by decide +kernel
theorem dX0_ten_85 : decode cX0_ten 85 = .ok (.aload_n 0, 1) := by decide +kernel
theorem dX0_ten_86 : decode cX0_ten 86 = .ok (.getfield 61, 3) := by decide +kernel
theorem dX0_ten_89 : decode cX0_ten 89 = .ok (.getfield 365, 3) := by decide +kernel
theorem dX0_ten_92 : decode cX0_ten 92 = .ok (.iadd, 1) := by decide +kernel
theorem dX0_ten_93 : decode cX0_ten 93 = .ok (.iastore, 1) := by decide +kernel
theorem dX0_ten_94 : decode cX0_ten 94 = .ok (.aload_n 0, 1) := by decide +kernel
theorem dX0_ten_95 : decode cX0_ten 95 = .ok (.getfield 71, 3) := by decide +kernel
theorem dX0_ten_98 : decode cX0_ten 98 = .ok (.aload_n 0, 1) := by decide +kernel
theorem dX0_ten_99 : decode cX0_ten 99 = .ok (.getfield 351, 3) := by decide +kernel
theorem dX0_ten_102 : decode cX0_ten 102 = .ok (.bipush 6, 2) := by decide +kernel
theorem dX0_ten_104 : decode cX0_ten 104 = .ok (.idiv, 1) := by decide +kernel
theorem dX0_ten_105 : decode cX0_ten 105 = .ok (.aload_n 0, 1) := by decide +kernel
theorem dX0_ten_106 : decode cX0_ten 106 = .ok (.getfield 425, 3) := by decide +kernel
theorem dX0_ten_109 : decode cX0_ten 109 = .ok (.iastore, 1) := by decide +kernel
theorem dX0_ten_110 : decode cX0_ten 110 = .ok (.aload_n 0, 1) := by decide +kernel
theorem dX0_ten_111 : decode cX0_ten 111 = .ok (.getfield 74, 3) := by decide +kernel
theorem dX0_ten_114 : decode cX0_ten 114 = .ok (.aload_n 0, 1) := by decide +kernel
theorem dX0_ten_115 : decode cX0_ten 115 = .ok (.getfield 351, 3) := by decide +kernel
theorem dX0_ten_118 : decode cX0_ten 118 = .ok (.bipush 6, 2) := by decide +kernel
theorem dX0_ten_120 : decode cX0_ten 120 = .ok (.idiv, 1) := by decide +kernel
theorem dX0_ten_121 : decode cX0_ten 121 = .ok (.aload_n 0, 1) := by decide +kernel
theorem dX0_ten_122 : decode cX0_ten 122 = .ok (.invokevirtual 471, 3) := by decide +kernel
theorem dX0_ten_125 : decode cX0_ten 125 = .ok (.iastore, 1) := by decide +kernel
theorem dX0_ten_126 : decode cX0_ten 126 = .ok (.aload_n 0, 1) := by decide +kernel
theorem dX0_ten_127 : decode cX0_ten 127 = .ok (.getfield 351, 3) := by decide +kernel
theorem dX0_ten_130 : decode cX0_ten 130 = .ok (.sipush 144, 3) := by decide +kernel
theorem dX0_ten_133 : decode cX0_ten 133 = .ok (.irem, 1) := by decide +kernel
theorem dX0_ten_134 : decode cX0_ten 134 = .ok (.ifCond .ne 37, 3) := by decide +kernel
theorem dX0_ten_137 : decode cX0_ten 137 = .ok (.iconst 0, 1) := by decide +kernel
theorem dX0_ten_138 : decode cX0_ten 138 = .ok (.istore_n 3, 1) := by decide +kernel
theorem dX0_ten_139 : decode cX0_ten 139 = .ok (.iload_n 3, 1) := by decide +kernel
theorem dX0_ten_140 : decode cX0_ten 140 = .ok (.aload_n 0, 1) := by decide +kernel
theorem dX0_ten_141 : decode cX0_ten 141 = .ok (.getfield 64, 3) := by decide +kernel
theorem dX0_ten_144 : decode cX0_ten 144 = .ok (.invokevirtual 124, 3) := by decide +kernel
theorem dX0_ten_147 : decode cX0_ten 147 = .ok (.if_icmp .ge 24, 3) := by decide +kernel
theorem dX0_ten_150 : decode cX0_ten 150 = .ok (.aload_n 0, 1) := by decide +kernel
theorem dX0_ten_151 : decode cX0_ten 151 = .ok (.getfield 64, 3) := by decide +kernel
theorem dX0_ten_154 : decode cX0_ten 154 = .ok (.iload_n 3, 1) := by decide +kernel
theorem dX0_ten_155 : decode cX0_ten 155 = .ok (.invokevirtual 128, 3) := by decide +kernel
theorem dX0_ten_158 : decode cX0_ten 158 = .ok (.checkcast 417, 3) := by decide +kernel
theorem dX0_ten_161 : decode cX0_ten 161 = .ok (.iconst 0, 1) := by decide +kernel
theorem dX0_ten_162 : decode cX0_ten 162 = .ok (.putfield 441, 3) := by decide +kernel
theorem dX0_ten_165 : decode cX0_ten 165 = .ok (.iinc 3 1, 3) := by decide +kernel
theorem dX0_ten_168 : decode cX0_ten 168 = .ok (.goto (-29), 3) := by decide +kernel
theorem dX0_ten_171 : decode cX0_ten 171 = .ok (.aload_n 0, 1) := by decide +kernel
theorem dX0_ten_172 : decode cX0_ten 172 = .ok (.getfield 21, 3) := by decide +kernel
theorem dX0_ten_175 : decode cX0_ten 175 = .ok (.aload_n 0, 1) := by decide +kernel
theorem dX0_ten_176 : decode cX0_ten 176 = .ok (.getfield 351, 3) := by decide +kernel
theorem dX0_ten_179 : decode cX0_ten 179 = .ok (.invokevirtual 119, 3) := by decide +kernel
theorem dX0_ten_182 : decode cX0_ten 182 = .ok (.aload_n 0, 1) := by decide +kernel
theorem dX0_ten_183 : decode cX0_ten 183 = .ok (.getfield 422, 3) := by decide +kernel
theorem dX0_ten_186 : decode cX0_ten 186 = .ok (.aload_n 0, 1) := by decide +kernel
theorem dX0_ten_187 : decode cX0_ten 187 = .ok (.getfield 425, 3) := by decide +kernel
theorem dX0_ten_190 : decode cX0_ten 190 = .ok (.isub, 1) := by decide +kernel
theorem dX0_ten_191 : decode cX0_ten 191 = .ok (.invokestatic 205, 3) := by decide +kernel
theorem dX0_ten_194 : decode cX0_ten 194 = .ok (.istore_n 3, 1) := by decide +kernel
theorem dX0_ten_195 : decode cX0_ten 195 = .ok (.aload_n 0, 1) := by decide +kernel
theorem dX0_ten_196 : decode cX0_ten 196 = .ok (.dup, 1) := by decide +kernel
theorem dX0_ten_197 : decode cX0_ten 197 = .ok (.getfield 425, 3) := by decide +kernel
theorem dX0_ten_200 : decode cX0_ten 200 = .ok (.iload_n 3, 1) := by decide +kernel
theorem dX0_ten_201 : decode cX0_ten 201 = .ok (.iadd, 1) := by decide +kernel
theorem dX0_ten_202 : decode cX0_ten 202 = .ok (.putfield 425, 3) := by decide +kernel
theorem dX0_ten_205 : decode cX0_ten 205 = .ok (.aload_n 0, 1) := by decide +kernel
theorem dX0_ten_206 : decode cX0_ten 206 = .ok (.dup, 1) := by decide +kernel
theorem dX0_ten_207 : decode cX0_ten 207 = .ok (.getfield 481, 3) := by decide +kernel
theorem dX0_ten_210 : decode cX0_ten 210 = .ok (.aload_n 0, 1) := by decide +kernel
theorem dX0_ten_211 : decode cX0_ten 211 = .ok (.getfield 21, 3) := by decide +kernel
theorem dX0_ten_214 : decode cX0_ten 214 = .ok (.aload_n 0, 1) := by decide +kernel
theorem dX0_ten_215 : decode cX0_ten 215 = .ok (.getfield 351, 3) := by decide +kernel
theorem dX0_ten_218 : decode cX0_ten 218 = .ok (.invokevirtual 119, 3) := by decide +kernel
theorem dX0_ten_221 : decode cX0_ten 221 = .ok (.iload_n 3, 1) := by decide +kernel
theorem dX0_ten_222 : decode cX0_ten 222 = .ok (.isub, 1) := by decide +kernel
theorem dX0_ten_223 : decode cX0_ten 223 = .ok (.i2l, 1) := by decide +kernel
theorem dX0_ten_224 : decode cX0_ten 224 = .ok (.ladd, 1) := by decide +kernel
theorem dX0_ten_225 : decode cX0_ten 225 = .ok (.putfield 481, 3) := by decide +kernel
theorem dX0_ten_228 : decode cX0_ten 228 = .ok (.aload_n 0, 1) := by decide +kernel
theorem dX0_ten_229 : decode cX0_ten 229 = .ok (.getfield 14, 3) := by decide +kernel
theorem dX0_ten_232 : decode cX0_ten 232 = .ok (.aload_n 0, 1) := by decide +kernel
theorem dX0_ten_233 : decode cX0_ten 233 = .ok (.getfield 351, 3) := by decide +kernel
theorem dX0_ten_236 : decode cX0_ten 236 = .ok (.invokevirtual 119, 3) := by decide +kernel
theorem dX0_ten_239 : decode cX0_ten 239 = .ok (.istore 4, 2) := by decide +kernel
theorem dX0_ten_241 : decode cX0_ten 241 = .ok (.aload_n 0, 1) := by decide +kernel
theorem dX0_ten_242 : decode cX0_ten 242 = .ok (.aload_n 1, 1) := by decide +kernel
theorem dX0_ten_243 : decode cX0_ten 243 = .ok (.iload 4, 2) := by decide +kernel
theorem dX0_ten_245 : decode cX0_ten 245 = .ok (.invokevirtual 484, 3) := by decide +kernel
theorem dX0_ten_248 : decode cX0_ten 248 = .ok (.istore 5, 2) := by decide +kernel
theorem dX0_ten_250 : decode cX0_ten 250 = .ok (.aload_n 0, 1) := by decide +kernel
theorem dX0_ten_251 : decode cX0_ten 251 = .ok (.dup, 1) := by decide +kernel
theorem dX0_ten_252 : decode cX0_ten 252 = .ok (.getfield 488, 3) := by decide +kernel
theorem dX0_ten_255 : decode cX0_ten 255 = .ok (.iload 4, 2) := by decide +kernel
theorem dX0_ten_257 : decode cX0_ten 257 = .ok (.i2l, 1) := by decide +kernel
theorem dX0_ten_258 : decode cX0_ten 258 = .ok (.ladd, 1) := by decide +kernel
theorem dX0_ten_259 : decode cX0_ten 259 = .ok (.putfield 488, 3) := by decide +kernel
theorem dX0_ten_262 : decode cX0_ten 262 = .ok (.aload_n 0, 1) := by decide +kernel
theorem dX0_ten_263 : decode cX0_ten 263 = .ok (.dup, 1) := by decide +kernel
theorem dX0_ten_264 : decode cX0_ten 264 = .ok (.getfield 491, 3) := by decide +kernel
theorem dX0_ten_267 : decode cX0_ten 267 = .ok (.iload 4, 2) := by decide +kernel
theorem dX0_ten_269 : decode cX0_ten 269 = .ok (.iload 5, 2) := by decide +kernel
theorem dX0_ten_271 : decode cX0_ten 271 = .ok (.isub, 1) := by decide +kernel
theorem dX0_ten_272 : decode cX0_ten 272 = .ok (.i2l, 1) := by decide +kernel
theorem dX0_ten_273 : decode cX0_ten 273 = .ok (.ladd, 1) := by decide +kernel
theorem dX0_ten_274 : decode cX0_ten 274 = .ok (.putfield 491, 3) := by decide +kernel
theorem dX0_ten_277 : decode cX0_ten 277 = .ok (.aload_n 0, 1) := by decide +kernel
theorem dX0_ten_278 : decode cX0_ten 278 = .ok (.dup, 1) := by decide +kernel
theorem dX0_ten_279 : decode cX0_ten 279 = .ok (.getfield 494, 3) := by decide +kernel
theorem dX0_ten_282 : decode cX0_ten 282 = .ok (.aload_n 0, 1) := by decide +kernel
theorem dX0_ten_283 : decode cX0_ten 283 = .ok (.getfield 453, 3) := by decide +kernel
theorem dX0_ten_286 : decode cX0_ten 286 = .ok (.i2l, 1) := by decide +kernel
theorem dX0_ten_287 : decode cX0_ten 287 = .ok (.ladd, 1) := by decide +kernel
theorem dX0_ten_288 : decode cX0_ten 288 = .ok (.putfield 494, 3) := by decide +kernel
theorem dX0_ten_291 : decode cX0_ten 291 = .ok (.aload_n 0, 1) := by decide +kernel
theorem dX0_ten_292 : decode cX0_ten 292 = .ok (.getfield 61, 3) := by decide +kernel
theorem dX0_ten_295 : decode cX0_ten 295 = .ok (.aload_n 0, 1) := by decide +kernel
theorem dX0_ten_296 : decode cX0_ten 296 = .ok (.getfield 61, 3) := by decide +kernel
theorem dX0_ten_299 : decode cX0_ten 299 = .ok (.getfield 378, 3) := by decide +kernel
theorem dX0_ten_302 : decode cX0_ten 302 = .ok (.putfield 495, 3) := by decide +kernel
theorem dX0_ten_305 : decode cX0_ten 305 = .ok (.aload_n 0, 1) := by decide +kernel
theorem dX0_ten_306 : decode cX0_ten 306 = .ok (.getfield 61, 3) := by decide +kernel
theorem dX0_ten_309 : decode cX0_ten 309 = .ok (.aload_n 0, 1) := by decide +kernel
theorem dX0_ten_310 : decode cX0_ten 310 = .ok (.getfield 61, 3) := by decide +kernel
theorem dX0_ten_313 : decode cX0_ten 313 = .ok (.getfield 378, 3) := by decide +kernel
theorem dX0_ten_316 : decode cX0_ten 316 = .ok (.putfield 498, 3) := by decide +kernel
theorem dX0_ten_319 : decode cX0_ten 319 = .ok (.aload_n 0, 1) := by decide +kernel
theorem dX0_ten_320 : decode cX0_ten 320 = .ok (.aload_n 0, 1) := by decide +kernel
theorem dX0_ten_321 : decode cX0_ten 321 = .ok (.getfield 57, 3) := by decide +kernel
theorem dX0_ten_324 : decode cX0_ten 324 = .ok (.ldc_w 501, 3) := by decide +kernel
theorem dX0_ten_327 : decode cX0_ten 327 = .ok (.invokevirtual 502, 3) := by decide +kernel
theorem dX0_ten_330 : decode cX0_ten 330 = .ok (.aload_n 0, 1) := by decide +kernel
theorem dX0_ten_331 : decode cX0_ten 331 = .ok (.aload_n 0, 1) := by decide +kernel
theorem dX0_ten_332 : decode cX0_ten 332 = .ok (.getfield 61, 3) := by decide +kernel
theorem dX0_ten_335 : decode cX0_ten 335 = .ok (.aload_n 0, 1) := by decide +kernel
theorem dX0_ten_336 : decode cX0_ten 336 = .ok (.getfield 61, 3) := by decide +kernel
theorem dX0_ten_339 : decode cX0_ten 339 = .ok (.getfield 495, 3) := by decide +kernel
theorem dX0_ten_342 : decode cX0_ten 342 = .ok (.invokevirtual 502, 3) := by decide +kernel
theorem dX0_ten_345 : decode cX0_ten 345 = .ok (.aload_n 0, 1) := by decide +kernel
theorem dX0_ten_346 : decode cX0_ten 346 = .ok (.dup, 1) := by decide +kernel
theorem dX0_ten_347 : decode cX0_ten 347 = .ok (.getfield 506, 3) := by decide +kernel
theorem dX0_ten_350 : decode cX0_ten 350 = .ok (.aload_n 0, 1) := by decide +kernel
theorem dX0_ten_351 : decode cX0_ten 351 = .ok (.getfield 453, 3) := by decide +kernel
theorem dX0_ten_354 : decode cX0_ten 354 = .ok (.i2l, 1) := by decide +kernel
theorem dX0_ten_355 : decode cX0_ten 355 = .ok (.ladd, 1) := by decide +kernel
theorem dX0_ten_356 : decode cX0_ten 356 = .ok (.putfield 506, 3) := by decide +kernel
theorem dX0_ten_359 : decode cX0_ten 359 = .ok (.iload_n 2, 1) := by decide +kernel
theorem dX0_ten_360 : decode cX0_ten 360 = .ok (.ifCond .eq 15, 3) := by decide +kernel
theorem dX0_ten_363 : decode cX0_ten 363 = .ok (.iload 5, 2) := by decide +kernel
theorem dX0_ten_365 : decode cX0_ten 365 = .ok (.aload_n 1, 1) := by decide +kernel
theorem dX0_ten_366 : decode cX0_ten 366 = .ok (.getfield 153, 3) := by decide +kernel
theorem dX0_ten_369 : decode cX0_ten 369 = .ok (.invokestatic 205, 3) := by decide +kernel
theorem dX0_ten_372 : decode cX0_ten 372 = .ok (.goto 4, 3) := by decide +kernel
theorem dX0_ten_375 : decode cX0_ten 375 = .ok (.iconst 0, 1) := by decide +kernel
theorem dX0_ten_376 : decode cX0_ten 376 = .ok (.istore 6, 2) := by decide +kernel
theorem dX0_ten_378 : decode cX0_ten 378 = .ok (.aload_n 0, 1) := by decide +kernel
theorem dX0_ten_379 : decode cX0_ten 379 = .ok (.dup, 1) := by decide +kernel
theorem dX0_ten_380 : decode cX0_ten 380 = .ok (.getfield 509, 3) := by decide +kernel
theorem dX0_ten_383 : decode cX0_ten 383 = .ok (.iload 6, 2) := by decide +kernel
theorem dX0_ten_385 : decode cX0_ten 385 = .ok (.i2l, 1) := by decide +kernel
theorem dX0_ten_386 : decode cX0_ten 386 = .ok (.ladd, 1) := by decide +kernel
theorem dX0_ten_387 : decode cX0_ten 387 = .ok (.putfield 509, 3) := by decide +kernel
theorem dX0_ten_390 : decode cX0_ten 390 = .ok (.aload_n 0, 1) := by decide +kernel
theorem dX0_ten_391 : decode cX0_ten 391 = .ok (.dup, 1) := by decide +kernel
theorem dX0_ten_392 : decode cX0_ten 392 = .ok (.getfield 512, 3) := by decide +kernel
theorem dX0_ten_395 : decode cX0_ten 395 = .ok (.iload 6, 2) := by decide +kernel
theorem dX0_ten_397 : decode cX0_ten 397 = .ok (.i2l, 1) := by decide +kernel
theorem dX0_ten_398 : decode cX0_ten 398 = .ok (.aload_n 0, 1) := by decide +kernel
theorem dX0_ten_399 : decode cX0_ten 399 = .ok (.getfield 18, 3) := by decide +kernel
theorem dX0_ten_402 : decode cX0_ten 402 = .ok (.aload_n 0, 1) := by decide +kernel
theorem dX0_ten_403 : decode cX0_ten 403 = .ok (.getfield 351, 3) := by decide +kernel
theorem dX0_ten_406 : decode cX0_ten 406 = .ok (.invokevirtual 119, 3) := by decide +kernel
theorem dX0_ten_409 : decode cX0_ten 409 = .ok (.i2l, 1) := by decide +kernel
theorem dX0_ten_410 : decode cX0_ten 410 = .ok (.lmul, 1) := by decide +kernel
theorem dX0_ten_411 : decode cX0_ten 411 = .ok (.ladd, 1) := by decide +kernel
theorem dX0_ten_412 : decode cX0_ten 412 = .ok (.putfield 512, 3) := by decide +kernel
theorem dX0_ten_415 : decode cX0_ten 415 = .ok (.aload_n 0, 1) := by decide +kernel
theorem dX0_ten_416 : decode cX0_ten 416 = .ok (.dup, 1) := by decide +kernel
theorem dX0_ten_417 : decode cX0_ten 417 = .ok (.getfield 515, 3) := by decide +kernel
theorem dX0_ten_420 : decode cX0_ten 420 = .ok (.iload 5, 2) := by decide +kernel
theorem dX0_ten_422 : decode cX0_ten 422 = .ok (.iload 6, 2) := by decide +kernel
theorem dX0_ten_424 : decode cX0_ten 424 = .ok (.isub, 1) := by decide +kernel
theorem dX0_ten_425 : decode cX0_ten 425 = .ok (.i2l, 1) := by decide +kernel
theorem dX0_ten_426 : decode cX0_ten 426 = .ok (.ladd, 1) := by decide +kernel
theorem dX0_ten_427 : decode cX0_ten 427 = .ok (.putfield 515, 3) := by decide +kernel
theorem dX0_ten_430 : decode cX0_ten 430 = .ok (.iconst 0, 1) := by decide +kernel
theorem dX0_ten_431 : decode cX0_ten 431 = .ok (.istore 7, 2) := by decide +kernel
theorem dX0_ten_433 : decode cX0_ten 433 = .ok (.iload 7, 2) := by decide +kernel
theorem dX0_ten_435 : decode cX0_ten 435 = .ok (.aload_n 0, 1) := by decide +kernel
theorem dX0_ten_436 : decode cX0_ten 436 = .ok (.getfield 84, 3) := by decide +kernel
theorem dX0_ten_439 : decode cX0_ten 439 = .ok (.invokevirtual 124, 3) := by decide +kernel
theorem dX0_ten_442 : decode cX0_ten 442 = .ok (.if_icmp .ge 26, 3) := by decide +kernel
theorem dX0_ten_445 : decode cX0_ten 445 = .ok (.aload_n 0, 1) := by decide +kernel
theorem dX0_ten_446 : decode cX0_ten 446 = .ok (.aload_n 0, 1) := by decide +kernel
theorem dX0_ten_447 : decode cX0_ten 447 = .ok (.getfield 84, 3) := by decide +kernel
theorem dX0_ten_450 : decode cX0_ten 450 = .ok (.iload 7, 2) := by decide +kernel
theorem dX0_ten_452 : decode cX0_ten 452 = .ok (.invokevirtual 128, 3) := by decide +kernel
theorem dX0_ten_455 : decode cX0_ten 455 = .ok (.checkcast 518, 3) := by decide +kernel
theorem dX0_ten_458 : decode cX0_ten 458 = .ok (.aload_n 1, 1) := by decide +kernel
theorem dX0_ten_459 : decode cX0_ten 459 = .ok (.invokevirtual 520, 3) := by decide +kernel
theorem dX0_ten_462 : decode cX0_ten 462 = .ok (.iinc 7 1, 3) := by decide +kernel
theorem dX0_ten_465 : decode cX0_ten 465 = .ok (.goto (-32), 3) := by decide +kernel
theorem dX0_ten_468 : decode cX0_ten 468 = .ok (.aload_n 0, 1) := by decide +kernel
theorem dX0_ten_469 : decode cX0_ten 469 = .ok (.getfield 57, 3) := by decide +kernel
theorem dX0_ten_472 : decode cX0_ten 472 = .ok (.invokevirtual 524, 3) := by decide +kernel
theorem dX0_ten_475 : decode cX0_ten 475 = .ok (.aload_n 0, 1) := by decide +kernel
theorem dX0_ten_476 : decode cX0_ten 476 = .ok (.getfield 61, 3) := by decide +kernel
theorem dX0_ten_479 : decode cX0_ten 479 = .ok (.invokevirtual 524, 3) := by decide +kernel
theorem dX0_ten_482 : decode cX0_ten 482 = .ok (.aload_n 0, 1) := by decide +kernel
theorem dX0_ten_483 : decode cX0_ten 483 = .ok (.dup, 1) := by decide +kernel
theorem dX0_ten_484 : decode cX0_ten 484 = .ok (.getfield 351, 3) := by decide +kernel
theorem dX0_ten_487 : decode cX0_ten 487 = .ok (.iconst 1, 1) := by decide +kernel
theorem dX0_ten_488 : decode cX0_ten 488 = .ok (.iadd, 1) := by decide +kernel
theorem dX0_ten_489 : decode cX0_ten 489 = .ok (.putfield 351, 3) := by decide +kernel
theorem dX0_ten_492 : decode cX0_ten 492 = .ok (.return_, 1) := by decide +kernel
theorem ycX0_ten : yX0_ten.cls ≠ "java/lang/invoke/MethodHandle" ∧ yX0_ten.cls ≠ "java/lang/invoke/VarHandle" ∧ (parseMethodDescriptor yX0_ten.desc).map (fun d => d.parameters.length) = some 0 := by decide +kernel
theorem yvX0_ten : yX0_ten.cls = RR 0 ∧ yX0_ten.cls ≠ "java/lang/invoke/MethodHandle" ∧ yX0_ten.cls ≠ "java/lang/invoke/VarHandle" ∧ (parseMethodDescriptor yX0_ten.desc).map (fun d => d.parameters.length) = some 0 := ⟨rfl, ycX0_ten⟩
noncomputable def lp_X0_ten_433 (n : Nat) (p0 : Nat) (v2 : Nat) (j468 : Unit → Act Unit) (q : Nat) : Int32 → Act Unit := match q with
  | 0 => fun _ => fail
  | q + 1 => fun w52 =>
    bnd (getR 0 37 p0) fun v56 =>
    bnd (gd 17 v56 (nt (P_size v56))) fun v57 =>
    if v57 ≤ w52 then
      j468 ()
    else
      bnd (getR 0 37 p0) fun v58 =>
      bnd (gd 17 v58 (nt (P_get v58 w52))) fun v59 =>
      bnd (cst [8] v59) fun _ =>
      bnd (gd 0 p0 (nt (f_X0_tries n p0 v59 v2))) fun _ =>
      (lp_X0_ten_433 n p0 v2 j468 q) (w52 + 1)
noncomputable def lp_X0_ten_139 (p0 : Nat) (v2 : Nat) (v12 : Int32) (j171 : Unit → Act Unit) (q : Nat) : Int32 → Act Unit := match q with
  | 0 => fun _ => fail
  | q + 1 => fun w61 =>
    bnd (getR 0 18 p0) fun v62 =>
    bnd (gd 17 v62 (nt (P_size v62))) fun v63 =>
    if v63 ≤ w61 then
      j171 ()
    else
      bnd (getR 0 18 p0) fun v64 =>
      bnd (gd 17 v64 (nt (P_get v64 w61))) fun v65 =>
      bnd (cst [7] v65) fun _ =>
      bnd (putI 6 5 v65 0) fun _ =>
      (lp_X0_ten_139 p0 v2 v12 j171 q) (w61 + 1)
noncomputable def f_X0_ten (n : Nat) (p0 : Nat) : Act Unit :=
  bnd (getI 0 0 p0) fun v1 =>
  bnd (gd 0 p0 (nt (f_X0_at n p0 v1))) fun v2 =>
  bnd (getI 0 0 p0) fun v3 =>
  bnd (getR 0 16 p0) fun v4 =>
  bnd (getI 3 4 v4) fun v5 =>
  bnd (getR 0 17 p0) fun v6 =>
  bnd (getI 3 4 v6) fun v7 =>
  bnd (getI 0 20 p0) fun v8 =>
  bnd (gd 0 p0 (nt (f_X0_runs n p0))) fun v9 =>
  bnd (gd 0 p0 (nt (f_X0_asked n p0 v3 (v5.toInt64 + v7.toInt64) v8.toInt64 v9.toInt64))) fun _ =>
  bnd (getR 2 9 v2) fun v10 =>
  bnd (getR 0 33 p0) fun v11 =>
  bnd (nt (f_X2_any n v10 v11)) fun v12 =>
  bnd (getI 0 0 p0) fun v13 =>
  jn (fun (_ : Unit) =>
    bnd (getI 0 0 p0) fun v14 =>
    jn (fun (_ : Unit) =>
      bnd (getR 0 3 p0) fun v15 =>
      bnd (getI 0 0 p0) fun v16 =>
      bnd (gd 1 v15 (nt (f_X1_at n v15 v16))) fun v17 =>
      bnd (getI 0 19 p0) fun v18 =>
      bnd (getI 0 20 p0) fun v19 =>
      bnd (getI 0 20 p0) fun v20 =>
      bnd (putI 0 20 p0 (v20 + (mn v17 (v18 - v19)))) fun _ =>
      bnd (getL 0 28 p0) fun v21 =>
      bnd (getR 0 3 p0) fun v22 =>
      bnd (getI 0 0 p0) fun v23 =>
      bnd (gd 1 v22 (nt (f_X1_at n v22 v23))) fun v24 =>
      bnd (putL 0 28 p0 (v21 + ((v24 - (mn v17 (v18 - v19))).toInt64))) fun _ =>
      bnd (getR 0 1 p0) fun v25 =>
      bnd (getI 0 0 p0) fun v26 =>
      bnd (gd 1 v25 (nt (f_X1_at n v25 v26))) fun v27 =>
      bnd (gd 0 p0 (nt (f_X0_splits n p0 v2 v27))) fun v28 =>
      bnd (getL 0 21 p0) fun v29 =>
      bnd (putL 0 21 p0 (v29 + v27.toInt64)) fun _ =>
      bnd (getL 0 22 p0) fun v30 =>
      bnd (putL 0 22 p0 (v30 + ((v27 - v28).toInt64))) fun _ =>
      bnd (getL 0 25 p0) fun v31 =>
      bnd (getI 0 35 p0) fun v32 =>
      bnd (putL 0 25 p0 (v31 + v32.toInt64)) fun _ =>
      bnd (getR 0 17 p0) fun v33 =>
      bnd (getR 0 17 p0) fun v34 =>
      bnd (getI 3 3 v34) fun v35 =>
      bnd (putI 3 5 v33 v35) fun _ =>
      bnd (getR 0 17 p0) fun v36 =>
      bnd (getR 0 17 p0) fun v37 =>
      bnd (getI 3 3 v37) fun v38 =>
      bnd (putI 3 6 v36 v38) fun _ =>
      bnd (getR 0 16 p0) fun v39 =>
      bnd (gd 0 p0 (nt (f_X0_fills p0 v39 (1000000 : Int32)))) fun _ =>
      bnd (getR 0 17 p0) fun v40 =>
      bnd (getR 0 17 p0) fun v41 =>
      bnd (getI 3 5 v41) fun v42 =>
      bnd (gd 0 p0 (nt (f_X0_fills p0 v40 v42))) fun _ =>
      bnd (getL 0 26 p0) fun v43 =>
      bnd (getI 0 35 p0) fun v44 =>
      bnd (putL 0 26 p0 (v43 + v44.toInt64)) fun _ =>
      jn (fun (v45 : Int32) =>
        bnd (getL 0 23 p0) fun v46 =>
        bnd (putL 0 23 p0 (v46 + v45.toInt64)) fun _ =>
        bnd (getL 0 29 p0) fun v47 =>
        bnd (getR 0 2 p0) fun v48 =>
        bnd (getI 0 0 p0) fun v49 =>
        bnd (gd 1 v48 (nt (f_X1_at n v48 v49))) fun v50 =>
        bnd (putL 0 29 p0 (v47 + (v45.toInt64 * v50.toInt64))) fun _ =>
        bnd (getL 0 24 p0) fun v51 =>
        bnd (putL 0 24 p0 (v51 + ((v28 - v45).toInt64))) fun _ =>
        jn (fun (_ : Unit) =>
          bnd (getR 0 16 p0) fun v53 =>
          bnd (gd 3 v53 (nt (f_X3_leaks n v53))) fun _ =>
          bnd (getR 0 17 p0) fun v54 =>
          bnd (gd 3 v54 (nt (f_X3_leaks n v54))) fun _ =>
          bnd (getI 0 0 p0) fun v55 =>
          bnd (putI 0 0 p0 (v55 + 1)) fun _ =>
          pur ()) fun j468 =>
        lp_X0_ten_433 n p0 v2 j468 n 0) fun j376 =>
      if v12 = 0 then
        j376 0
      else
        bnd (getI 2 5 v2) fun v60 =>
        j376 (mn v28 v60)) fun j171 =>
    if ¬ (v14 - v14 / 144 * 144) = 0 then
      j171 ()
    else
      lp_X0_ten_139 p0 v2 v12 j171 n 0) fun j126 =>
  if ¬ (v13 - v13 / 6 * 6) = 5 then
    j126 ()
  else
    bnd (getR 0 30 p0) fun v66 =>
    bnd (getI 0 0 p0) fun v67 =>
    bnd (getR 0 16 p0) fun v68 =>
    bnd (getI 3 4 v68) fun v69 =>
    bnd (getR 0 17 p0) fun v70 =>
    bnd (getI 3 4 v70) fun v71 =>
    bnd (stI 0 v66 (v67 / 6) (v69 + v71)) fun _ =>
    bnd (getR 0 31 p0) fun v72 =>
    bnd (getI 0 0 p0) fun v73 =>
    bnd (getI 0 20 p0) fun v74 =>
    bnd (stI 0 v72 (v73 / 6) v74) fun _ =>
    bnd (getR 0 32 p0) fun v75 =>
    bnd (getI 0 0 p0) fun v76 =>
    bnd (gd 0 p0 (nt (f_X0_runs n p0))) fun v77 =>
    bnd (stI 0 v75 (v76 / 6) v77) fun _ =>
    j126 ()
set_option maxHeartbeats 4000000 in
theorem s_lp_X0_ten_433 {X : Cx} (hX : Ok X Pic cX0_ten RX0 8 none 162 3484) (hnh : Noh X) (n : Nat) (p0 : Nat) (v2 : Nat) (j468 : Unit → Act Unit) (hj468 : ∀ (u : Unit), Sim X cvU 468 [(0, rv p0)] [] (j468 u)) (q : Nat) : ∀ (w52 : Int32), Sim X cvU 433 [(0, rv p0), (1, rv v2), (7, .int w52)] [] (lp_X0_ten_433 n p0 v2 j468 q w52) := by
  induction q with
  | zero => intro w52; exact s_fail
  | succ q ih433 =>
    intro w52
    rw [lp_X0_ten_433]
    refine s_iload hX dX0_ten_433 2 rfl ?_
    refine s_aload_n hX dX0_ten_435 rfl 0 rfl ?_
    refine s_getR (ci := 0) (j := 37) (ref := "WindGas") hX (pcG 0) in_X0 (Or.inl q303) (by decide) (by decide) (by decide) rfl dX0_ten_436 (fun _ h9 => h9) (fun v56 => ?_)
    refine s_callV_I (ci := 17) (n := 0) (As := []) (st := [.int w52]) hX (pcK 18) (by decide) (pt_size X.l v56) q554 q417 q418 q88 q419 yvJ2_size (by decide) rfl (by first | decide | simp [rv_cat, cat_i, cat_l]) dX0_ten_439 (fun v57 => ?_)
    refine s_icmp_ge (tgt := 468) hX dX0_ten_442 (by decide) ?_ ?_
    · exact s_sub [0] rfl (hj468 ())
    · refine s_aload_n hX dX0_ten_445 rfl 0 rfl ?_
      refine s_aload_n hX dX0_ten_446 rfl 0 rfl ?_
      refine s_getR (ci := 0) (j := 37) (ref := "WindGas") hX (pcG 0) in_X0 (Or.inl q303) (by decide) (by decide) (by decide) rfl dX0_ten_447 (fun _ h9 => h9) (fun v58 => ?_)
      refine s_iload hX dX0_ten_450 2 rfl ?_
      refine s_callV_R (ci := 17) (n := 1) (As := [.int w52]) (st := [rv p0]) hX (pcK 18) (by decide) (pt_get X.l v58 w52) q555 q516 q517 q88 q518 yvJ2_get (by decide) rfl (by first | decide | simp [rv_cat, cat_i, cat_l]) dX0_ten_452 (fun v59 => ?_)
      refine s_cast (ks := [8]) hX (elC 7 (by decide)) q1272 dX0_ten_455 ?_
      refine s_aload_n hX dX0_ten_458 rfl 1 rfl ?_
      refine s_callV_U (ci := 0) (n := 2) (As := [rv v59, rv v2]) (st := []) hX (pcK 1) (by decide) (ct_X0_tries X.l n p0 v59 v2) q1273 q1275 qs31 q84 q1276 yvX0_tries (by decide) rfl (by first | decide | simp [rv_cat, cat_i, cat_l]) dX0_ten_459 (fun _ => ?_)
      refine s_iinc (k := 2) (v := (w52 + 1)) (L2 := [(7, .int (w52 + 1)), (0, rv p0), (1, rv v2)]) hX dX0_ten_462 rfl rfl (by decide) rfl ?_
      refine s_goto (tgt := 433) hX dX0_ten_465 (by decide) ?_
      exact s_sub [1, 2, 0] rfl (ih433 (w52 + 1))
set_option maxHeartbeats 4000000 in
theorem s_lp_X0_ten_139 {X : Cx} (hX : Ok X Pic cX0_ten RX0 8 none 162 3484) (hnh : Noh X) (p0 : Nat) (v2 : Nat) (v12 : Int32) (j171 : Unit → Act Unit) (hj171 : ∀ (u : Unit), Sim X cvU 171 [(0, rv p0), (1, rv v2), (2, .int v12)] [] (j171 u)) (q : Nat) : ∀ (w61 : Int32), Sim X cvU 139 [(0, rv p0), (1, rv v2), (2, .int v12), (3, .int w61)] [] (lp_X0_ten_139 p0 v2 v12 j171 q w61) := by
  induction q with
  | zero => intro w61; exact s_fail
  | succ q ih139 =>
    intro w61
    rw [lp_X0_ten_139]
    refine s_iload_n hX dX0_ten_139 rfl 3 rfl ?_
    refine s_aload_n hX dX0_ten_140 rfl 0 rfl ?_
    refine s_getR (ci := 0) (j := 18) (ref := "WindGas") hX (pcG 0) in_X0 (Or.inl q284) (by decide) (by decide) (by decide) rfl dX0_ten_141 (fun _ h9 => h9) (fun v62 => ?_)
    refine s_callV_I (ci := 17) (n := 0) (As := []) (st := [.int w61]) hX (pcK 18) (by decide) (pt_size X.l v62) q554 q417 q418 q88 q419 yvJ2_size (by decide) rfl (by first | decide | simp [rv_cat, cat_i, cat_l]) dX0_ten_144 (fun v63 => ?_)
    refine s_icmp_ge (tgt := 171) hX dX0_ten_147 (by decide) ?_ ?_
    · exact s_sub [0, 1, 2] rfl (hj171 ())
    · refine s_aload_n hX dX0_ten_150 rfl 0 rfl ?_
      refine s_getR (ci := 0) (j := 18) (ref := "WindGas") hX (pcG 0) in_X0 (Or.inl q284) (by decide) (by decide) (by decide) rfl dX0_ten_151 (fun _ h9 => h9) (fun v64 => ?_)
      refine s_iload_n hX dX0_ten_154 rfl 3 rfl ?_
      refine s_callV_R (ci := 17) (n := 1) (As := [.int w61]) (st := []) hX (pcK 18) (by decide) (pt_get X.l v64 w61) q555 q516 q517 q88 q518 yvJ2_get (by decide) rfl (by first | decide | simp [rv_cat, cat_i, cat_l]) dX0_ten_155 (fun v65 => ?_)
      refine s_cast (ks := [7]) hX (elC 6 (by decide)) q1110 dX0_ten_158 ?_
      refine s_iconst (v := 0) hX dX0_ten_161 rfl ?_
      refine s_putI (ci := 6) (j := 5) (ref := "WindGas$Stack") hX (pcG 6) (pcP 6) in_X6 tyX6_ok nmX6 (Or.inr ⟨_, q1124⟩) (by decide) (by decide) (by decide) rfl rfl rfl dX0_ten_162 (fun _ h9 => h9) ?_
      refine s_iinc (k := 3) (v := (w61 + 1)) (L2 := [(3, .int (w61 + 1)), (0, rv p0), (1, rv v2), (2, .int v12)]) hX dX0_ten_165 rfl rfl (by decide) rfl ?_
      refine s_goto (tgt := 139) hX dX0_ten_168 (by decide) ?_
      exact s_sub [1, 2, 3, 0] rfl (ih139 (w61 + 1))
set_option maxHeartbeats 4000000 in
theorem ct_X0_ten (l : Launch) (n : Nat) (p0 : Nat) : Ct l Pic yX0_ten (ws_ yX0_ten cX0_ten 8 none) 162 3484 cvU [rv p0] (f_X0_ten n p0) := by
  refine Ct.of (own := RX0) (L := [(0, rv p0)]) (plainFor_of_name (by decide)) rfl (by first | decide | simp [lg_sl, rv_cat, cat_i, cat_l]) (by first | rfl | simp [lv_args, rv_cat, cat_i, cat_l]) pcZ (fun X hXl hX hnh hin => ?_)
  subst hXl
  unfold f_X0_ten
  refine s_aload_n hX dX0_ten_0 rfl 0 rfl ?_
  refine s_aload_n hX dX0_ten_1 rfl 0 rfl ?_
  refine s_getI (ci := 0) (j := 0) (ref := "WindGas") hX (pcG 0) in_X0 (Or.inl q266) (by decide) (by decide) (by decide) rfl dX0_ten_2 (fun _ h9 => h9) (fun v1 => ?_)
  refine s_callV_R (ci := 0) (n := 1) (As := [.int v1]) (st := []) hX (pcK 1) (by decide) (ct_X0_at X.l n p0 v1) q546 q548 qs4 q84 q549 yvX0_at (by decide) rfl (by first | decide | simp [rv_cat, cat_i, cat_l]) dX0_ten_5 (fun v2 => ?_)
  refine s_astore_n (i := 1) (L2 := [(1, rv v2), (0, rv p0)]) hX dX0_ten_8 rfl (by decide) (by first | (simp [rv_cat, cat_i, cat_l]; done) | (simp [rv_cat, cat_i, cat_l]; decide)) ?_
  refine s_aload_n hX dX0_ten_9 rfl 1 rfl ?_
  refine s_aload_n hX dX0_ten_10 rfl 1 rfl ?_
  refine s_getI (ci := 0) (j := 0) (ref := "WindGas") hX (pcG 0) in_X0 (Or.inl q266) (by decide) (by decide) (by decide) rfl dX0_ten_11 (fun _ h9 => h9) (fun v3 => ?_)
  refine s_aload_n hX dX0_ten_14 rfl 1 rfl ?_
  refine s_getR (ci := 0) (j := 16) (ref := "WindGas") hX (pcG 0) in_X0 (Or.inl q282) (by decide) (by decide) (by decide) rfl dX0_ten_15 (fun _ h9 => h9) (fun v4 => ?_)
  refine s_getI (ci := 3) (j := 4) (ref := "WindGas$Store") hX (pcG 3) in_X3 (Or.inr ⟨_, q240⟩) (by decide) (by decide) (by decide) rfl dX0_ten_18 (fun _ h9 => h9) (fun v5 => ?_)
  refine s_i2l hX dX0_ten_21 ?_
  refine s_aload_n hX dX0_ten_22 rfl 1 rfl ?_
  refine s_getR (ci := 0) (j := 17) (ref := "WindGas") hX (pcG 0) in_X0 (Or.inl q283) (by decide) (by decide) (by decide) rfl dX0_ten_23 (fun _ h9 => h9) (fun v6 => ?_)
  refine s_getI (ci := 3) (j := 4) (ref := "WindGas$Store") hX (pcG 3) in_X3 (Or.inr ⟨_, q240⟩) (by decide) (by decide) (by decide) rfl dX0_ten_26 (fun _ h9 => h9) (fun v7 => ?_)
  refine s_i2l hX dX0_ten_29 ?_
  refine s_ladd hX dX0_ten_30 ?_
  refine s_aload_n hX dX0_ten_31 rfl 1 rfl ?_
  refine s_getI (ci := 0) (j := 20) (ref := "WindGas") hX (pcG 0) in_X0 (Or.inl q286) (by decide) (by decide) (by decide) rfl dX0_ten_32 (fun _ h9 => h9) (fun v8 => ?_)
  refine s_i2l hX dX0_ten_35 ?_
  refine s_aload_n hX dX0_ten_36 rfl 1 rfl ?_
  refine s_callV_I (ci := 0) (n := 0) (As := []) (st := [.long v8.toInt64, .long (v5.toInt64 + v7.toInt64), .int v3, rv p0]) hX (pcK 1) (by decide) (ct_X0_runs X.l n p0) q1160 q1162 qs25 q84 q1163 yvX0_runs (by decide) rfl (by first | decide | simp [rv_cat, cat_i, cat_l]) dX0_ten_37 (fun v9 => ?_)
  refine s_i2l hX dX0_ten_40 ?_
  refine s_callV_U (ci := 0) (n := 4) (As := [.int v3, .long (v5.toInt64 + v7.toInt64), .long v8.toInt64, .long v9.toInt64]) (st := []) hX (pcK 1) (by decide) (ct_X0_asked X.l n p0 v3 (v5.toInt64 + v7.toInt64) v8.toInt64 v9.toInt64) q1164 q1166 qs26 q84 q1167 yvX0_asked (by decide) rfl (by first | decide | simp [rv_cat, cat_i, cat_l]) dX0_ten_41 (fun _ => ?_)
  refine s_aload_n hX dX0_ten_44 rfl 0 rfl ?_
  refine s_getR (ci := 2) (j := 9) (ref := "WindGas$Rules") hX (pcG 2) in_X2 (Or.inr ⟨_, q198⟩) (by decide) (by decide) (by decide) rfl dX0_ten_45 (fun _ h9 => h9) (fun v10 => ?_)
  refine s_aload_n hX dX0_ten_48 rfl 1 rfl ?_
  refine s_getR (ci := 0) (j := 33) (ref := "WindGas") hX (pcG 0) in_X0 (Or.inl q299) (by decide) (by decide) (by decide) rfl dX0_ten_49 (fun _ h9 => h9) (fun v11 => ?_)
  refine s_callS_I (n := 2) (As := [rv v10, rv v11]) (st := []) hX (ct_X2_any X.l n v10 v11) q1168 q1169 q89 q1170 ycX2_any (by decide) rfl (by first | decide | simp [rv_cat, cat_i, cat_l]) dX0_ten_52 (fun v12 => ?_)
  refine s_istore_n (i := 2) (L2 := [(2, .int v12), (1, rv v2), (0, rv p0)]) hX dX0_ten_55 rfl (by decide) (by first | (simp [rv_cat, cat_i, cat_l]; done) | (simp [rv_cat, cat_i, cat_l]; decide)) ?_
  refine s_aload_n hX dX0_ten_56 rfl 2 rfl ?_
  refine s_getI (ci := 0) (j := 0) (ref := "WindGas") hX (pcG 0) in_X0 (Or.inl q266) (by decide) (by decide) (by decide) rfl dX0_ten_57 (fun _ h9 => h9) (fun v13 => ?_)
  refine s_bipush (v := 6) hX dX0_ten_60 (by decide) ?_
  refine s_iremc hX dX0_ten_62 (by decide) ?_
  refine s_iconst (v := 5) hX dX0_ten_63 rfl ?_
  refine s_jn (P := fun j => ∀ (u : Unit), Sim X cvU 126 [(0, rv p0), (1, rv v2), (2, .int v12)] [] (j u)) ?_ (fun j126 hj126 => ?_)
  · intro u
    refine s_aload_n hX dX0_ten_126 rfl 0 rfl ?_
    refine s_getI (ci := 0) (j := 0) (ref := "WindGas") hX (pcG 0) in_X0 (Or.inl q266) (by decide) (by decide) (by decide) rfl dX0_ten_127 (fun _ h9 => h9) (fun v14 => ?_)
    refine s_sipush (v := 144) hX dX0_ten_130 (by decide) ?_
    refine s_iremc hX dX0_ten_133 (by decide) ?_
    refine s_jn (P := fun j => ∀ (u : Unit), Sim X cvU 171 [(0, rv p0), (1, rv v2), (2, .int v12)] [] (j u)) ?_ (fun j171 hj171 => ?_)
    · intro u
      refine s_aload_n hX dX0_ten_171 rfl 0 rfl ?_
      refine s_getR (ci := 0) (j := 3) (ref := "WindGas") hX (pcG 0) in_X0 (Or.inl q269) (by decide) (by decide) (by decide) rfl dX0_ten_172 (fun _ h9 => h9) (fun v15 => ?_)
      refine s_aload_n hX dX0_ten_175 rfl 0 rfl ?_
      refine s_getI (ci := 0) (j := 0) (ref := "WindGas") hX (pcG 0) in_X0 (Or.inl q266) (by decide) (by decide) (by decide) rfl dX0_ten_176 (fun _ h9 => h9) (fun v16 => ?_)
      refine s_callV_I (ci := 1) (n := 1) (As := [.int v16]) (st := []) hX (pcK 2) (by decide) (ct_X1_at X.l n v15 v16) q511 q512 q513 q85 q514 yvX1_at (by decide) rfl (by first | decide | simp [rv_cat, cat_i, cat_l]) dX0_ten_179 (fun v17 => ?_)
      refine s_aload_n hX dX0_ten_182 rfl 0 rfl ?_
      refine s_getI (ci := 0) (j := 19) (ref := "WindGas") hX (pcG 0) in_X0 (Or.inl q285) (by decide) (by decide) (by decide) rfl dX0_ten_183 (fun _ h9 => h9) (fun v18 => ?_)
      refine s_aload_n hX dX0_ten_186 rfl 0 rfl ?_
      refine s_getI (ci := 0) (j := 20) (ref := "WindGas") hX (pcG 0) in_X0 (Or.inl q286) (by decide) (by decide) (by decide) rfl dX0_ten_187 (fun _ h9 => h9) (fun v19 => ?_)
      refine s_isub hX dX0_ten_190 ?_
      refine s_mmin hX q756 q500 q95 q501 rfl (by omega) (by first | decide | (simp [rv_cat, cat_i, cat_l]; try omega)) dX0_ten_191 ?_
      refine s_istore_n (i := 3) (L2 := [(3, .int (mn v17 (v18 - v19))), (0, rv p0), (1, rv v2), (2, .int v12)]) hX dX0_ten_194 rfl (by decide) rfl ?_
      refine s_aload_n hX dX0_ten_195 rfl 1 rfl ?_
      refine s_dup hX dX0_ten_196 (rv_cat _) ?_
      refine s_getI (ci := 0) (j := 20) (ref := "WindGas") hX (pcG 0) in_X0 (Or.inl q286) (by decide) (by decide) (by decide) rfl dX0_ten_197 (fun _ h9 => h9) (fun v20 => ?_)
      refine s_iload_n hX dX0_ten_200 rfl 0 rfl ?_
      refine s_iadd hX dX0_ten_201 ?_
      refine s_putI (ci := 0) (j := 20) (ref := "WindGas") hX (pcG 0) (pcP 0) in_X0 tyX0_ok nmX0 (Or.inl q286) (by decide) (by decide) (by decide) rfl rfl rfl dX0_ten_202 (fun _ h9 => h9) ?_
      refine s_aload_n hX dX0_ten_205 rfl 1 rfl ?_
      refine s_dup hX dX0_ten_206 (rv_cat _) ?_
      refine s_getL (ci := 0) (j := 28) (ref := "WindGas") hX (pcG 0) in_X0 (Or.inl q294) (by decide) (by decide) (by decide) rfl dX0_ten_207 (fun _ h9 => h9) (fun v21 => ?_)
      refine s_aload_n hX dX0_ten_210 rfl 1 rfl ?_
      refine s_getR (ci := 0) (j := 3) (ref := "WindGas") hX (pcG 0) in_X0 (Or.inl q269) (by decide) (by decide) (by decide) rfl dX0_ten_211 (fun _ h9 => h9) (fun v22 => ?_)
      refine s_aload_n hX dX0_ten_214 rfl 1 rfl ?_
      refine s_getI (ci := 0) (j := 0) (ref := "WindGas") hX (pcG 0) in_X0 (Or.inl q266) (by decide) (by decide) (by decide) rfl dX0_ten_215 (fun _ h9 => h9) (fun v23 => ?_)
      refine s_callV_I (ci := 1) (n := 1) (As := [.int v23]) (st := [.long v21, rv p0]) hX (pcK 2) (by decide) (ct_X1_at X.l n v22 v23) q511 q512 q513 q85 q514 yvX1_at (by decide) rfl (by first | decide | simp [rv_cat, cat_i, cat_l]) dX0_ten_218 (fun v24 => ?_)
      refine s_iload_n hX dX0_ten_221 rfl 0 rfl ?_
      refine s_isub hX dX0_ten_222 ?_
      refine s_i2l hX dX0_ten_223 ?_
      refine s_ladd hX dX0_ten_224 ?_
      refine s_putL (ci := 0) (j := 28) (ref := "WindGas") hX (pcG 0) (pcP 0) in_X0 tyX0_ok nmX0 (Or.inl q294) (by decide) (by decide) (by decide) rfl rfl rfl dX0_ten_225 (fun _ h9 => h9) ?_
      refine s_aload_n hX dX0_ten_228 rfl 1 rfl ?_
      refine s_getR (ci := 0) (j := 1) (ref := "WindGas") hX (pcG 0) in_X0 (Or.inl q267) (by decide) (by decide) (by decide) rfl dX0_ten_229 (fun _ h9 => h9) (fun v25 => ?_)
      refine s_aload_n hX dX0_ten_232 rfl 1 rfl ?_
      refine s_getI (ci := 0) (j := 0) (ref := "WindGas") hX (pcG 0) in_X0 (Or.inl q266) (by decide) (by decide) (by decide) rfl dX0_ten_233 (fun _ h9 => h9) (fun v26 => ?_)
      refine s_callV_I (ci := 1) (n := 1) (As := [.int v26]) (st := []) hX (pcK 2) (by decide) (ct_X1_at X.l n v25 v26) q511 q512 q513 q85 q514 yvX1_at (by decide) rfl (by first | decide | simp [rv_cat, cat_i, cat_l]) dX0_ten_236 (fun v27 => ?_)
      refine s_istore (i := 4) (L2 := [(4, .int v27), (3, .int (mn v17 (v18 - v19))), (0, rv p0), (1, rv v2), (2, .int v12)]) hX dX0_ten_239 (by decide) rfl ?_
      refine s_aload_n hX dX0_ten_241 rfl 2 rfl ?_
      refine s_aload_n hX dX0_ten_242 rfl 3 rfl ?_
      refine s_iload hX dX0_ten_243 0 rfl ?_
      refine s_callV_I (ci := 0) (n := 2) (As := [rv v2, .int v27]) (st := []) hX (pcK 1) (by decide) (ct_X0_splits X.l n p0 v2 v27) q1203 q1205 qs27 q84 q1206 yvX0_splits (by decide) rfl (by first | decide | simp [rv_cat, cat_i, cat_l]) dX0_ten_245 (fun v28 => ?_)
      refine s_istore (i := 5) (L2 := [(5, .int v28), (4, .int v27), (3, .int (mn v17 (v18 - v19))), (0, rv p0), (1, rv v2), (2, .int v12)]) hX dX0_ten_248 (by decide) rfl ?_
      refine s_aload_n hX dX0_ten_250 rfl 3 rfl ?_
      refine s_dup hX dX0_ten_251 (rv_cat _) ?_
      refine s_getL (ci := 0) (j := 21) (ref := "WindGas") hX (pcG 0) in_X0 (Or.inl q287) (by decide) (by decide) (by decide) rfl dX0_ten_252 (fun _ h9 => h9) (fun v29 => ?_)
      refine s_iload hX dX0_ten_255 1 rfl ?_
      refine s_i2l hX dX0_ten_257 ?_
      refine s_ladd hX dX0_ten_258 ?_
      refine s_putL (ci := 0) (j := 21) (ref := "WindGas") hX (pcG 0) (pcP 0) in_X0 tyX0_ok nmX0 (Or.inl q287) (by decide) (by decide) (by decide) rfl rfl rfl dX0_ten_259 (fun _ h9 => h9) ?_
      refine s_aload_n hX dX0_ten_262 rfl 3 rfl ?_
      refine s_dup hX dX0_ten_263 (rv_cat _) ?_
      refine s_getL (ci := 0) (j := 22) (ref := "WindGas") hX (pcG 0) in_X0 (Or.inl q288) (by decide) (by decide) (by decide) rfl dX0_ten_264 (fun _ h9 => h9) (fun v30 => ?_)
      refine s_iload hX dX0_ten_267 1 rfl ?_
      refine s_iload hX dX0_ten_269 0 rfl ?_
      refine s_isub hX dX0_ten_271 ?_
      refine s_i2l hX dX0_ten_272 ?_
      refine s_ladd hX dX0_ten_273 ?_
      refine s_putL (ci := 0) (j := 22) (ref := "WindGas") hX (pcG 0) (pcP 0) in_X0 tyX0_ok nmX0 (Or.inl q288) (by decide) (by decide) (by decide) rfl rfl rfl dX0_ten_274 (fun _ h9 => h9) ?_
      refine s_aload_n hX dX0_ten_277 rfl 3 rfl ?_
      refine s_dup hX dX0_ten_278 (rv_cat _) ?_
      refine s_getL (ci := 0) (j := 25) (ref := "WindGas") hX (pcG 0) in_X0 (Or.inl q291) (by decide) (by decide) (by decide) rfl dX0_ten_279 (fun _ h9 => h9) (fun v31 => ?_)
      refine s_aload_n hX dX0_ten_282 rfl 3 rfl ?_
      refine s_getI (ci := 0) (j := 35) (ref := "WindGas") hX (pcG 0) in_X0 (Or.inl q301) (by decide) (by decide) (by decide) rfl dX0_ten_283 (fun _ h9 => h9) (fun v32 => ?_)
      refine s_i2l hX dX0_ten_286 ?_
      refine s_ladd hX dX0_ten_287 ?_
      refine s_putL (ci := 0) (j := 25) (ref := "WindGas") hX (pcG 0) (pcP 0) in_X0 tyX0_ok nmX0 (Or.inl q291) (by decide) (by decide) (by decide) rfl rfl rfl dX0_ten_288 (fun _ h9 => h9) ?_
      refine s_aload_n hX dX0_ten_291 rfl 3 rfl ?_
      refine s_getR (ci := 0) (j := 17) (ref := "WindGas") hX (pcG 0) in_X0 (Or.inl q283) (by decide) (by decide) (by decide) rfl dX0_ten_292 (fun _ h9 => h9) (fun v33 => ?_)
      refine s_aload_n hX dX0_ten_295 rfl 3 rfl ?_
      refine s_getR (ci := 0) (j := 17) (ref := "WindGas") hX (pcG 0) in_X0 (Or.inl q283) (by decide) (by decide) (by decide) rfl dX0_ten_296 (fun _ h9 => h9) (fun v34 => ?_)
      refine s_getI (ci := 3) (j := 3) (ref := "WindGas$Store") hX (pcG 3) in_X3 (Or.inr ⟨_, q238⟩) (by decide) (by decide) (by decide) rfl dX0_ten_299 (fun _ h9 => h9) (fun v35 => ?_)
      refine s_putI (ci := 3) (j := 5) (ref := "WindGas$Store") hX (pcG 3) (pcP 3) in_X3 tyX3_ok nmX3 (Or.inr ⟨_, q241⟩) (by decide) (by decide) (by decide) rfl rfl rfl dX0_ten_302 (fun _ h9 => h9) ?_
      refine s_aload_n hX dX0_ten_305 rfl 3 rfl ?_
      refine s_getR (ci := 0) (j := 17) (ref := "WindGas") hX (pcG 0) in_X0 (Or.inl q283) (by decide) (by decide) (by decide) rfl dX0_ten_306 (fun _ h9 => h9) (fun v36 => ?_)
      refine s_aload_n hX dX0_ten_309 rfl 3 rfl ?_
      refine s_getR (ci := 0) (j := 17) (ref := "WindGas") hX (pcG 0) in_X0 (Or.inl q283) (by decide) (by decide) (by decide) rfl dX0_ten_310 (fun _ h9 => h9) (fun v37 => ?_)
      refine s_getI (ci := 3) (j := 3) (ref := "WindGas$Store") hX (pcG 3) in_X3 (Or.inr ⟨_, q238⟩) (by decide) (by decide) (by decide) rfl dX0_ten_313 (fun _ h9 => h9) (fun v38 => ?_)
      refine s_putI (ci := 3) (j := 6) (ref := "WindGas$Store") hX (pcG 3) (pcP 3) in_X3 tyX3_ok nmX3 (Or.inr ⟨_, q242⟩) (by decide) (by decide) (by decide) rfl rfl rfl dX0_ten_316 (fun _ h9 => h9) ?_
      refine s_aload_n hX dX0_ten_319 rfl 3 rfl ?_
      refine s_aload_n hX dX0_ten_320 rfl 3 rfl ?_
      refine s_getR (ci := 0) (j := 16) (ref := "WindGas") hX (pcG 0) in_X0 (Or.inl q282) (by decide) (by decide) (by decide) rfl dX0_ten_321 (fun _ h9 => h9) (fun v39 => ?_)
      refine s_ldcw (v := 1000000) hX dX0_ten_324 q1238 ?_
      refine s_callV_U (ci := 0) (n := 2) (As := [rv v39, .int 1000000]) (st := []) hX (pcK 1) (by decide) (ct_X0_fills X.l p0 v39 (1000000 : Int32)) q1239 q1241 qs30 q84 q1242 yvX0_fills (by decide) rfl (by first | decide | simp [rv_cat, cat_i, cat_l]) dX0_ten_327 (fun _ => ?_)
      refine s_aload_n hX dX0_ten_330 rfl 3 rfl ?_
      refine s_aload_n hX dX0_ten_331 rfl 3 rfl ?_
      refine s_getR (ci := 0) (j := 17) (ref := "WindGas") hX (pcG 0) in_X0 (Or.inl q283) (by decide) (by decide) (by decide) rfl dX0_ten_332 (fun _ h9 => h9) (fun v40 => ?_)
      refine s_aload_n hX dX0_ten_335 rfl 3 rfl ?_
      refine s_getR (ci := 0) (j := 17) (ref := "WindGas") hX (pcG 0) in_X0 (Or.inl q283) (by decide) (by decide) (by decide) rfl dX0_ten_336 (fun _ h9 => h9) (fun v41 => ?_)
      refine s_getI (ci := 3) (j := 5) (ref := "WindGas$Store") hX (pcG 3) in_X3 (Or.inr ⟨_, q241⟩) (by decide) (by decide) (by decide) rfl dX0_ten_339 (fun _ h9 => h9) (fun v42 => ?_)
      refine s_callV_U (ci := 0) (n := 2) (As := [rv v40, .int v42]) (st := []) hX (pcK 1) (by decide) (ct_X0_fills X.l p0 v40 v42) q1239 q1241 qs30 q84 q1242 yvX0_fills (by decide) rfl (by first | decide | simp [rv_cat, cat_i, cat_l]) dX0_ten_342 (fun _ => ?_)
      refine s_aload_n hX dX0_ten_345 rfl 3 rfl ?_
      refine s_dup hX dX0_ten_346 (rv_cat _) ?_
      refine s_getL (ci := 0) (j := 26) (ref := "WindGas") hX (pcG 0) in_X0 (Or.inl q292) (by decide) (by decide) (by decide) rfl dX0_ten_347 (fun _ h9 => h9) (fun v43 => ?_)
      refine s_aload_n hX dX0_ten_350 rfl 3 rfl ?_
      refine s_getI (ci := 0) (j := 35) (ref := "WindGas") hX (pcG 0) in_X0 (Or.inl q301) (by decide) (by decide) (by decide) rfl dX0_ten_351 (fun _ h9 => h9) (fun v44 => ?_)
      refine s_i2l hX dX0_ten_354 ?_
      refine s_ladd hX dX0_ten_355 ?_
      refine s_putL (ci := 0) (j := 26) (ref := "WindGas") hX (pcG 0) (pcP 0) in_X0 tyX0_ok nmX0 (Or.inl q292) (by decide) (by decide) (by decide) rfl rfl rfl dX0_ten_356 (fun _ h9 => h9) ?_
      refine s_iload_n hX dX0_ten_359 rfl 5 rfl ?_
      refine s_jn (P := fun j => ∀ (v45 : Int32), Sim X cvU 376 [(0, rv p0), (1, rv v2), (5, .int v28)] [.int v45] (j v45)) ?_ (fun j376 hj376 => ?_)
      · intro v45
        refine s_istore (i := 6) (L2 := [(6, .int v45), (0, rv p0), (1, rv v2), (5, .int v28)]) hX dX0_ten_376 (by decide) rfl ?_
        refine s_aload_n hX dX0_ten_378 rfl 1 rfl ?_
        refine s_dup hX dX0_ten_379 (rv_cat _) ?_
        refine s_getL (ci := 0) (j := 23) (ref := "WindGas") hX (pcG 0) in_X0 (Or.inl q289) (by decide) (by decide) (by decide) rfl dX0_ten_380 (fun _ h9 => h9) (fun v46 => ?_)
        refine s_iload hX dX0_ten_383 0 rfl ?_
        refine s_i2l hX dX0_ten_385 ?_
        refine s_ladd hX dX0_ten_386 ?_
        refine s_putL (ci := 0) (j := 23) (ref := "WindGas") hX (pcG 0) (pcP 0) in_X0 tyX0_ok nmX0 (Or.inl q289) (by decide) (by decide) (by decide) rfl rfl rfl dX0_ten_387 (fun _ h9 => h9) ?_
        refine s_aload_n hX dX0_ten_390 rfl 1 rfl ?_
        refine s_dup hX dX0_ten_391 (rv_cat _) ?_
        refine s_getL (ci := 0) (j := 29) (ref := "WindGas") hX (pcG 0) in_X0 (Or.inl q295) (by decide) (by decide) (by decide) rfl dX0_ten_392 (fun _ h9 => h9) (fun v47 => ?_)
        refine s_iload hX dX0_ten_395 0 rfl ?_
        refine s_i2l hX dX0_ten_397 ?_
        refine s_aload_n hX dX0_ten_398 rfl 1 rfl ?_
        refine s_getR (ci := 0) (j := 2) (ref := "WindGas") hX (pcG 0) in_X0 (Or.inl q268) (by decide) (by decide) (by decide) rfl dX0_ten_399 (fun _ h9 => h9) (fun v48 => ?_)
        refine s_aload_n hX dX0_ten_402 rfl 1 rfl ?_
        refine s_getI (ci := 0) (j := 0) (ref := "WindGas") hX (pcG 0) in_X0 (Or.inl q266) (by decide) (by decide) (by decide) rfl dX0_ten_403 (fun _ h9 => h9) (fun v49 => ?_)
        refine s_callV_I (ci := 1) (n := 1) (As := [.int v49]) (st := [.long v45.toInt64, .long v47, rv p0]) hX (pcK 2) (by decide) (ct_X1_at X.l n v48 v49) q511 q512 q513 q85 q514 yvX1_at (by decide) rfl (by first | decide | simp [rv_cat, cat_i, cat_l]) dX0_ten_406 (fun v50 => ?_)
        refine s_i2l hX dX0_ten_409 ?_
        refine s_lmul hX dX0_ten_410 ?_
        refine s_ladd hX dX0_ten_411 ?_
        refine s_putL (ci := 0) (j := 29) (ref := "WindGas") hX (pcG 0) (pcP 0) in_X0 tyX0_ok nmX0 (Or.inl q295) (by decide) (by decide) (by decide) rfl rfl rfl dX0_ten_412 (fun _ h9 => h9) ?_
        refine s_aload_n hX dX0_ten_415 rfl 1 rfl ?_
        refine s_dup hX dX0_ten_416 (rv_cat _) ?_
        refine s_getL (ci := 0) (j := 24) (ref := "WindGas") hX (pcG 0) in_X0 (Or.inl q290) (by decide) (by decide) (by decide) rfl dX0_ten_417 (fun _ h9 => h9) (fun v51 => ?_)
        refine s_iload hX dX0_ten_420 3 rfl ?_
        refine s_iload hX dX0_ten_422 0 rfl ?_
        refine s_isub hX dX0_ten_424 ?_
        refine s_i2l hX dX0_ten_425 ?_
        refine s_ladd hX dX0_ten_426 ?_
        refine s_putL (ci := 0) (j := 24) (ref := "WindGas") hX (pcG 0) (pcP 0) in_X0 tyX0_ok nmX0 (Or.inl q290) (by decide) (by decide) (by decide) rfl rfl rfl dX0_ten_427 (fun _ h9 => h9) ?_
        refine s_iconst (v := 0) hX dX0_ten_430 rfl ?_
        refine s_istore (i := 7) (L2 := [(7, .int 0), (6, .int v45), (0, rv p0), (1, rv v2), (5, .int v28)]) hX dX0_ten_431 (by decide) rfl ?_
        refine s_jn (P := fun j => ∀ (u : Unit), Sim X cvU 468 [(0, rv p0)] [] (j u)) ?_ (fun j468 hj468 => ?_)
        · intro u
          refine s_aload_n hX dX0_ten_468 rfl 0 rfl ?_
          refine s_getR (ci := 0) (j := 16) (ref := "WindGas") hX (pcG 0) in_X0 (Or.inl q282) (by decide) (by decide) (by decide) rfl dX0_ten_469 (fun _ h9 => h9) (fun v53 => ?_)
          refine s_callV_U (ci := 3) (n := 0) (As := []) (st := []) hX (pcK 4) (by decide) (ct_X3_leaks X.l n v53) q1287 q1288 q1289 q90 q1290 yvX3_leaks (by decide) rfl (by first | decide | simp [rv_cat, cat_i, cat_l]) dX0_ten_472 (fun _ => ?_)
          refine s_aload_n hX dX0_ten_475 rfl 0 rfl ?_
          refine s_getR (ci := 0) (j := 17) (ref := "WindGas") hX (pcG 0) in_X0 (Or.inl q283) (by decide) (by decide) (by decide) rfl dX0_ten_476 (fun _ h9 => h9) (fun v54 => ?_)
          refine s_callV_U (ci := 3) (n := 0) (As := []) (st := []) hX (pcK 4) (by decide) (ct_X3_leaks X.l n v54) q1287 q1288 q1289 q90 q1290 yvX3_leaks (by decide) rfl (by first | decide | simp [rv_cat, cat_i, cat_l]) dX0_ten_479 (fun _ => ?_)
          refine s_aload_n hX dX0_ten_482 rfl 0 rfl ?_
          refine s_dup hX dX0_ten_483 (rv_cat _) ?_
          refine s_getI (ci := 0) (j := 0) (ref := "WindGas") hX (pcG 0) in_X0 (Or.inl q266) (by decide) (by decide) (by decide) rfl dX0_ten_484 (fun _ h9 => h9) (fun v55 => ?_)
          refine s_iconst (v := 1) hX dX0_ten_487 rfl ?_
          refine s_iadd hX dX0_ten_488 ?_
          refine s_putI (ci := 0) (j := 0) (ref := "WindGas") hX (pcG 0) (pcP 0) in_X0 tyX0_ok nmX0 (Or.inl q266) (by decide) (by decide) (by decide) rfl rfl rfl dX0_ten_489 (fun _ h9 => h9) ?_
          exact s_vret hX dX0_ten_492
        · exact s_sub [2, 3, 0] rfl (s_lp_X0_ten_433 hX hnh n p0 v2 j468 hj468 n 0)
      · refine s_if_eq (tgt := 375) hX dX0_ten_360 (by decide) ?_ ?_
        · refine s_iconst (v := 0) hX dX0_ten_375 rfl ?_
          exact s_sub [3, 4, 0] rfl (hj376 0)
        · refine s_iload hX dX0_ten_363 0 rfl ?_
          refine s_aload_n hX dX0_ten_365 rfl 4 rfl ?_
          refine s_getI (ci := 2) (j := 5) (ref := "WindGas$Rules") hX (pcG 2) in_X2 (Or.inr ⟨_, q192⟩) (by decide) (by decide) (by decide) rfl dX0_ten_366 (fun _ h9 => h9) (fun v60 => ?_)
          refine s_mmin hX q756 q500 q95 q501 rfl (by omega) (by first | decide | (simp [rv_cat, cat_i, cat_l]; try omega)) dX0_ten_369 ?_
          refine s_goto (tgt := 376) hX dX0_ten_372 (by decide) ?_
          exact s_sub [3, 4, 0] rfl (hj376 (mn v28 v60))
    · refine s_if_ne (tgt := 171) hX dX0_ten_134 (by decide) ?_ ?_
      · exact hj171 ()
      · refine s_iconst (v := 0) hX dX0_ten_137 rfl ?_
        refine s_istore_n (i := 3) (L2 := [(3, .int 0), (0, rv p0), (1, rv v2), (2, .int v12)]) hX dX0_ten_138 rfl (by decide) rfl ?_
        exact s_sub [1, 2, 3, 0] rfl (s_lp_X0_ten_139 hX hnh p0 v2 v12 j171 hj171 n 0)
  · refine s_icmp_ne (tgt := 126) hX dX0_ten_64 (by decide) ?_ ?_
    · exact s_sub [2, 1, 0] rfl (hj126 ())
    · refine s_aload_n hX dX0_ten_67 rfl 2 rfl ?_
      refine s_getR (ci := 0) (j := 30) (ref := "WindGas") hX (pcG 0) in_X0 (Or.inl q296) (by decide) (by decide) (by decide) rfl dX0_ten_68 (fun _ h9 => h9) (fun v66 => ?_)
      refine s_aload_n hX dX0_ten_71 rfl 2 rfl ?_
      refine s_getI (ci := 0) (j := 0) (ref := "WindGas") hX (pcG 0) in_X0 (Or.inl q266) (by decide) (by decide) (by decide) rfl dX0_ten_72 (fun _ h9 => h9) (fun v67 => ?_)
      refine s_bipush (v := 6) hX dX0_ten_75 (by decide) ?_
      refine s_idivc hX dX0_ten_77 (by decide) ?_
      refine s_aload_n hX dX0_ten_78 rfl 2 rfl ?_
      refine s_getR (ci := 0) (j := 16) (ref := "WindGas") hX (pcG 0) in_X0 (Or.inl q282) (by decide) (by decide) (by decide) rfl dX0_ten_79 (fun _ h9 => h9) (fun v68 => ?_)
      refine s_getI (ci := 3) (j := 4) (ref := "WindGas$Store") hX (pcG 3) in_X3 (Or.inr ⟨_, q240⟩) (by decide) (by decide) (by decide) rfl dX0_ten_82 (fun _ h9 => h9) (fun v69 => ?_)
      refine s_aload_n hX dX0_ten_85 rfl 2 rfl ?_
      refine s_getR (ci := 0) (j := 17) (ref := "WindGas") hX (pcG 0) in_X0 (Or.inl q283) (by decide) (by decide) (by decide) rfl dX0_ten_86 (fun _ h9 => h9) (fun v70 => ?_)
      refine s_getI (ci := 3) (j := 4) (ref := "WindGas$Store") hX (pcG 3) in_X3 (Or.inr ⟨_, q240⟩) (by decide) (by decide) (by decide) rfl dX0_ten_89 (fun _ h9 => h9) (fun v71 => ?_)
      refine s_iadd hX dX0_ten_92 ?_
      refine s_iast hX (pcA 0) (pcB 0) dX0_ten_93 ?_
      refine s_aload_n hX dX0_ten_94 rfl 2 rfl ?_
      refine s_getR (ci := 0) (j := 31) (ref := "WindGas") hX (pcG 0) in_X0 (Or.inl q297) (by decide) (by decide) (by decide) rfl dX0_ten_95 (fun _ h9 => h9) (fun v72 => ?_)
      refine s_aload_n hX dX0_ten_98 rfl 2 rfl ?_
      refine s_getI (ci := 0) (j := 0) (ref := "WindGas") hX (pcG 0) in_X0 (Or.inl q266) (by decide) (by decide) (by decide) rfl dX0_ten_99 (fun _ h9 => h9) (fun v73 => ?_)
      refine s_bipush (v := 6) hX dX0_ten_102 (by decide) ?_
      refine s_idivc hX dX0_ten_104 (by decide) ?_
      refine s_aload_n hX dX0_ten_105 rfl 2 rfl ?_
      refine s_getI (ci := 0) (j := 20) (ref := "WindGas") hX (pcG 0) in_X0 (Or.inl q286) (by decide) (by decide) (by decide) rfl dX0_ten_106 (fun _ h9 => h9) (fun v74 => ?_)
      refine s_iast hX (pcA 0) (pcB 0) dX0_ten_109 ?_
      refine s_aload_n hX dX0_ten_110 rfl 2 rfl ?_
      refine s_getR (ci := 0) (j := 32) (ref := "WindGas") hX (pcG 0) in_X0 (Or.inl q298) (by decide) (by decide) (by decide) rfl dX0_ten_111 (fun _ h9 => h9) (fun v75 => ?_)
      refine s_aload_n hX dX0_ten_114 rfl 2 rfl ?_
      refine s_getI (ci := 0) (j := 0) (ref := "WindGas") hX (pcG 0) in_X0 (Or.inl q266) (by decide) (by decide) (by decide) rfl dX0_ten_115 (fun _ h9 => h9) (fun v76 => ?_)
      refine s_bipush (v := 6) hX dX0_ten_118 (by decide) ?_
      refine s_idivc hX dX0_ten_120 (by decide) ?_
      refine s_aload_n hX dX0_ten_121 rfl 2 rfl ?_
      refine s_callV_I (ci := 0) (n := 0) (As := []) (st := [.int (v76 / 6), rv v75]) hX (pcK 1) (by decide) (ct_X0_runs X.l n p0) q1160 q1162 qs25 q84 q1163 yvX0_runs (by decide) rfl (by first | decide | simp [rv_cat, cat_i, cat_l]) dX0_ten_122 (fun v77 => ?_)
      refine s_iast hX (pcA 0) (pcB 0) dX0_ten_125 ?_
      exact s_sub [2, 1, 0] rfl (hj126 ())
theorem dX0_pass_0 : decode cX0_pass 0 = .ok (.iload_n 1, 1) := by decide +kernel
theorem dX0_pass_1 : decode cX0_pass 1 = .ok (.i2l, 1) := by decide +kernel
theorem dX0_pass_2 : decode cX0_pass 2 = .ok (.lconst 1, 1) := by decide +kernel
theorem dX0_pass_3 : decode cX0_pass 3 = .ok (.ldc2_w 415, 3) := by decide +kernel
theorem dX0_pass_6 : decode cX0_pass 6 = .ok (.invokestatic 101, 3) := by decide +kernel
theorem dX0_pass_9 : decode cX0_pass 9 = .ok (.ifCond .eq 15, 3) := by decide +kernel
theorem dX0_pass_12 : decode cX0_pass 12 = .ok (.aload_n 0, 1) := by decide +kernel
theorem dX0_pass_13 : decode cX0_pass 13 = .ok (.getfield 351, 3) := by decide +kernel
theorem dX0_pass_16 : decode cX0_pass 16 = .ok (.iload_n 1, 1) := by decide +kernel
theorem dX0_pass_17 : decode cX0_pass 17 = .ok (.iadd, 1) := by decide +kernel
theorem dX0_pass_18 : decode cX0_pass 18 = .ok (.sipush 4999, 3) := by decide +kernel
theorem dX0_pass_21 : decode cX0_pass 21 = .ok (.if_icmp .le 5, 3) := by decide +kernel
theorem dX0_pass_24 : decode cX0_pass 24 = .ok (.iconst (-1), 1) := by decide +kernel
theorem dX0_pass_25 : decode cX0_pass 25 = .ok (.ireturn, 1) := by decide +kernel
theorem dX0_pass_26 : decode cX0_pass 26 = .ok (.iconst 0, 1) := by decide +kernel
theorem dX0_pass_27 : decode cX0_pass 27 = .ok (.istore_n 2, 1) := by decide +kernel
theorem dX0_pass_28 : decode cX0_pass 28 = .ok (.iload_n 2, 1) := by decide +kernel
theorem dX0_pass_29 : decode cX0_pass 29 = .ok (.iload_n 1, 1) := by decide +kernel
theorem dX0_pass_30 : decode cX0_pass 30 = .ok (.if_icmp .ge 13, 3) := by decide +kernel
theorem dX0_pass_33 : decode cX0_pass 33 = .ok (.aload_n 0, 1) := by decide +kernel
theorem dX0_pass_34 : decode cX0_pass 34 = .ok (.invokevirtual 527, 3) := by decide +kernel
theorem dX0_pass_37 : decode cX0_pass 37 = .ok (.iinc 2 1, 3) := by decide +kernel
theorem dX0_pass_40 : decode cX0_pass 40 = .ok (.goto (-12), 3) := by decide +kernel
theorem dX0_pass_43 : decode cX0_pass 43 = .ok (.aload_n 0, 1) := by decide +kernel
theorem dX0_pass_44 : decode cX0_pass 44 = .ok (.getfield 351, 3) := by decide +kernel
theorem dX0_pass_47 : decode cX0_pass 47 = .ok (.ireturn, 1) := by decide +kernel
theorem ycX0_pass : yX0_pass.cls ≠ "java/lang/invoke/MethodHandle" ∧ yX0_pass.cls ≠ "java/lang/invoke/VarHandle" ∧ (parseMethodDescriptor yX0_pass.desc).map (fun d => d.parameters.length) = some 1 := by decide +kernel
theorem yvX0_pass : yX0_pass.cls = RR 0 ∧ yX0_pass.cls ≠ "java/lang/invoke/MethodHandle" ∧ yX0_pass.cls ≠ "java/lang/invoke/VarHandle" ∧ (parseMethodDescriptor yX0_pass.desc).map (fun d => d.parameters.length) = some 1 := ⟨rfl, ycX0_pass⟩
noncomputable def lp_X0_pass_28 (n : Nat) (p0 : Nat) (p1 : Int32) (q : Nat) : Int32 → Act Int32 := match q with
  | 0 => fun _ => fail
  | q + 1 => fun w3 =>
    if p1 ≤ w3 then
      bnd (getI 0 0 p0) fun v4 =>
      pur v4
    else
      bnd (gd 0 p0 (nt (f_X0_ten n p0))) fun _ =>
      (lp_X0_pass_28 n p0 p1 q) (w3 + 1)
noncomputable def f_X0_pass (n : Nat) (p0 : Nat) (p1 : Int32) : Act Int32 :=
  bnd (nt (f_X0_isIn p1.toInt64 (1 : Int64) (200 : Int64))) fun v1 =>
  jn (fun (_ : Unit) =>
    pur (-1)) fun j24 =>
  if v1 = 0 then
    j24 ()
  else
    bnd (getI 0 0 p0) fun v2 =>
    if (v2 + p1) ≤ 4999 then
      lp_X0_pass_28 n p0 p1 n 0
    else
      j24 ()
set_option maxHeartbeats 4000000 in
theorem s_lp_X0_pass_28 {X : Cx} (hX : Ok X Pic cX0_pass RX0 3 (some FieldType.int) 163 3511) (hnh : Noh X) (n : Nat) (p0 : Nat) (p1 : Int32) (q : Nat) : ∀ (w3 : Int32), Sim X cvI 28 [(0, rv p0), (1, .int p1), (2, .int w3)] [] (lp_X0_pass_28 n p0 p1 q w3) := by
  induction q with
  | zero => intro w3; exact s_fail
  | succ q ih28 =>
    intro w3
    rw [lp_X0_pass_28]
    refine s_iload_n hX dX0_pass_28 rfl 2 rfl ?_
    refine s_iload_n hX dX0_pass_29 rfl 1 rfl ?_
    refine s_icmp_ge (tgt := 43) hX dX0_pass_30 (by decide) ?_ ?_
    · refine s_aload_n hX dX0_pass_43 rfl 0 rfl ?_
      refine s_getI (ci := 0) (j := 0) (ref := "WindGas") hX (pcG 0) in_X0 (Or.inl q266) (by decide) (by decide) (by decide) rfl dX0_pass_44 (fun _ h9 => h9) (fun v4 => ?_)
      exact s_iret hX dX0_pass_47
    · refine s_aload_n hX dX0_pass_33 rfl 0 rfl ?_
      refine s_callV_U (ci := 0) (n := 0) (As := []) (st := []) hX (pcK 1) (by decide) (ct_X0_ten X.l n p0) q1156 q1158 qs24 q84 q1159 yvX0_ten (by decide) rfl (by first | decide | simp [rv_cat, cat_i, cat_l]) dX0_pass_34 (fun _ => ?_)
      refine s_iinc (k := 2) (v := (w3 + 1)) (L2 := [(2, .int (w3 + 1)), (0, rv p0), (1, .int p1)]) hX dX0_pass_37 rfl rfl (by decide) rfl ?_
      refine s_goto (tgt := 28) hX dX0_pass_40 (by decide) ?_
      exact s_sub [1, 2, 0] rfl (ih28 (w3 + 1))
set_option maxHeartbeats 4000000 in
theorem ct_X0_pass (l : Launch) (n : Nat) (p0 : Nat) (p1 : Int32) : Ct l Pic yX0_pass (ws_ yX0_pass cX0_pass 3 (some FieldType.int)) 163 3511 cvI [rv p0, .int p1] (f_X0_pass n p0 p1) := by
  refine Ct.of (own := RX0) (L := [(0, rv p0), (1, .int p1)]) (plainFor_of_name (by decide)) rfl (by first | decide | simp [lg_sl, rv_cat, cat_i, cat_l]) (by first | rfl | simp [lv_args, rv_cat, cat_i, cat_l]) pcZ (fun X hXl hX hnh hin => ?_)
  subst hXl
  unfold f_X0_pass
  refine s_iload_n hX dX0_pass_0 rfl 1 rfl ?_
  refine s_i2l hX dX0_pass_1 ?_
  refine s_lconst (v := 1) hX dX0_pass_2 (by decide) ?_
  refine s_ldc2 (v := 200) hX dX0_pass_3 q1109 ?_
  refine s_callS_I (n := 3) (As := [.long p1.toInt64, .long 1, .long 200]) (st := []) hX (ct_X0_isIn X.l p1.toInt64 (1 : Int64) (200 : Int64)) q400 q401 q84 q402 ycX0_isIn (by decide) rfl (by first | decide | simp [rv_cat, cat_i, cat_l]) dX0_pass_6 (fun v1 => ?_)
  refine s_jn (P := fun j => ∀ (u : Unit), Sim X cvI 24 [] [] (j u)) ?_ (fun j24 hj24 => ?_)
  · intro u
    refine s_iconst (v := -1) hX dX0_pass_24 (by decide) ?_
    exact s_iret hX dX0_pass_25
  · refine s_if_eq (tgt := 24) hX dX0_pass_9 (by decide) ?_ ?_
    · exact s_sub [] rfl (hj24 ())
    · refine s_aload_n hX dX0_pass_12 rfl 0 rfl ?_
      refine s_getI (ci := 0) (j := 0) (ref := "WindGas") hX (pcG 0) in_X0 (Or.inl q266) (by decide) (by decide) (by decide) rfl dX0_pass_13 (fun _ h9 => h9) (fun v2 => ?_)
      refine s_iload_n hX dX0_pass_16 rfl 1 rfl ?_
      refine s_iadd hX dX0_pass_17 ?_
      refine s_sipush (v := 4999) hX dX0_pass_18 (by decide) ?_
      refine s_icmp_le (tgt := 26) hX dX0_pass_21 (by decide) ?_ ?_
      · refine s_iconst (v := 0) hX dX0_pass_26 rfl ?_
        refine s_istore_n (i := 2) (L2 := [(2, .int 0), (0, rv p0), (1, .int p1)]) hX dX0_pass_27 rfl (by decide) rfl ?_
        exact s_sub [1, 2, 0] rfl (s_lp_X0_pass_28 hX hnh n p0 p1 n 0)
      · exact s_sub [] rfl (hj24 ())
theorem dX0_stackOf_0 : decode cX0_stackOf 0 = .ok (.iload_n 1, 1) := by decide +kernel
theorem dX0_stackOf_1 : decode cX0_stackOf 1 = .ok (.i2l, 1) := by decide +kernel
theorem dX0_stackOf_2 : decode cX0_stackOf 2 = .ok (.lconst 0, 1) := by decide +kernel
theorem dX0_stackOf_3 : decode cX0_stackOf 3 = .ok (.aload_n 0, 1) := by decide +kernel
theorem dX0_stackOf_4 : decode cX0_stackOf 4 = .ok (.getfield 64, 3) := by decide +kernel
theorem dX0_stackOf_7 : decode cX0_stackOf 7 = .ok (.invokevirtual 124, 3) := by decide +kernel
theorem dX0_stackOf_10 : decode cX0_stackOf 10 = .ok (.iconst 1, 1) := by decide +kernel
theorem dX0_stackOf_11 : decode cX0_stackOf 11 = .ok (.isub, 1) := by decide +kernel
theorem dX0_stackOf_12 : decode cX0_stackOf 12 = .ok (.i2l, 1) := by decide +kernel
theorem dX0_stackOf_13 : decode cX0_stackOf 13 = .ok (.invokestatic 101, 3) := by decide +kernel
theorem dX0_stackOf_16 : decode cX0_stackOf 16 = .ok (.ifCond .ne 7, 3) := by decide +kernel
theorem dX0_stackOf_19 : decode cX0_stackOf 19 = .ok (.ldc2_w 381, 3) := by decide +kernel
theorem dX0_stackOf_22 : decode cX0_stackOf 22 = .ok (.lreturn, 1) := by decide +kernel
theorem dX0_stackOf_23 : decode cX0_stackOf 23 = .ok (.aload_n 0, 1) := by decide +kernel
theorem dX0_stackOf_24 : decode cX0_stackOf 24 = .ok (.getfield 64, 3) := by decide +kernel
theorem dX0_stackOf_27 : decode cX0_stackOf 27 = .ok (.iload_n 1, 1) := by decide +kernel
theorem dX0_stackOf_28 : decode cX0_stackOf 28 = .ok (.invokevirtual 128, 3) := by decide +kernel
theorem dX0_stackOf_31 : decode cX0_stackOf 31 = .ok (.checkcast 417, 3) := by decide +kernel
theorem dX0_stackOf_34 : decode cX0_stackOf 34 = .ok (.astore_n 3, 1) := by decide +kernel
theorem dX0_stackOf_35 : decode cX0_stackOf 35 = .ok (.iload_n 2, 1) := by decide +kernel
theorem dX0_stackOf_36 : decode cX0_stackOf 36 = .ok (.tableswitch 100 0 6 #[44, 50, 56, 69, 75, 81, 86], 44) := by decide +kernel
theorem dX0_stackOf_80 : decode cX0_stackOf 80 = .ok (.aload_n 3, 1) := by decide +kernel
theorem dX0_stackOf_81 : decode cX0_stackOf 81 = .ok (.getfield 448, 3) := by decide +kernel
theorem dX0_stackOf_84 : decode cX0_stackOf 84 = .ok (.i2l, 1) := by decide +kernel
theorem dX0_stackOf_85 : decode cX0_stackOf 85 = .ok (.lreturn, 1) := by decide +kernel
theorem dX0_stackOf_86 : decode cX0_stackOf 86 = .ok (.aload_n 3, 1) := by decide +kernel
theorem dX0_stackOf_87 : decode cX0_stackOf 87 = .ok (.getfield 435, 3) := by decide +kernel
theorem dX0_stackOf_90 : decode cX0_stackOf 90 = .ok (.i2l, 1) := by decide +kernel
theorem dX0_stackOf_91 : decode cX0_stackOf 91 = .ok (.lreturn, 1) := by decide +kernel
theorem dX0_stackOf_92 : decode cX0_stackOf 92 = .ok (.aload_n 3, 1) := by decide +kernel
theorem dX0_stackOf_93 : decode cX0_stackOf 93 = .ok (.getfield 428, 3) := by decide +kernel
theorem dX0_stackOf_96 : decode cX0_stackOf 96 = .ok (.ifCond .eq 7, 3) := by decide +kernel
theorem dX0_stackOf_99 : decode cX0_stackOf 99 = .ok (.lconst 1, 1) := by decide +kernel
theorem dX0_stackOf_100 : decode cX0_stackOf 100 = .ok (.goto 4, 3) := by decide +kernel
theorem dX0_stackOf_103 : decode cX0_stackOf 103 = .ok (.lconst 0, 1) := by decide +kernel
theorem dX0_stackOf_104 : decode cX0_stackOf 104 = .ok (.lreturn, 1) := by decide +kernel
theorem dX0_stackOf_105 : decode cX0_stackOf 105 = .ok (.aload_n 3, 1) := by decide +kernel
theorem dX0_stackOf_106 : decode cX0_stackOf 106 = .ok (.getfield 441, 3) := by decide +kernel
theorem dX0_stackOf_109 : decode cX0_stackOf 109 = .ok (.i2l, 1) := by decide +kernel
theorem dX0_stackOf_110 : decode cX0_stackOf 110 = .ok (.lreturn, 1) := by decide +kernel
theorem dX0_stackOf_111 : decode cX0_stackOf 111 = .ok (.aload_n 3, 1) := by decide +kernel
theorem dX0_stackOf_112 : decode cX0_stackOf 112 = .ok (.getfield 444, 3) := by decide +kernel
theorem dX0_stackOf_115 : decode cX0_stackOf 115 = .ok (.i2l, 1) := by decide +kernel
theorem dX0_stackOf_116 : decode cX0_stackOf 116 = .ok (.lreturn, 1) := by decide +kernel
theorem dX0_stackOf_117 : decode cX0_stackOf 117 = .ok (.aload_n 3, 1) := by decide +kernel
theorem dX0_stackOf_118 : decode cX0_stackOf 118 = .ok (.getfield 458, 3) := by decide +kernel
theorem dX0_stackOf_121 : decode cX0_stackOf 121 = .ok (.lreturn, 1) := by decide +kernel
theorem dX0_stackOf_122 : decode cX0_stackOf 122 = .ok (.aload_n 3, 1) := by decide +kernel
theorem dX0_stackOf_123 : decode cX0_stackOf 123 = .ok (.aload_n 0, 1) := by decide +kernel
theorem dX0_stackOf_124 : decode cX0_stackOf 124 = .ok (.aload_n 0, 1) := by decide +kernel
theorem dX0_stackOf_125 : decode cX0_stackOf 125 = .ok (.getfield 351, 3) := by decide +kernel
theorem dX0_stackOf_128 : decode cX0_stackOf 128 = .ok (.invokevirtual 138, 3) := by decide +kernel
theorem dX0_stackOf_131 : decode cX0_stackOf 131 = .ok (.invokevirtual 438, 3) := by decide +kernel
theorem dX0_stackOf_134 : decode cX0_stackOf 134 = .ok (.i2l, 1) := by decide +kernel
theorem dX0_stackOf_135 : decode cX0_stackOf 135 = .ok (.lreturn, 1) := by decide +kernel
theorem dX0_stackOf_136 : decode cX0_stackOf 136 = .ok (.ldc2_w 381, 3) := by decide +kernel
theorem dX0_stackOf_139 : decode cX0_stackOf 139 = .ok (.lreturn, 1) := by decide +kernel
theorem ycX0_stackOf : yX0_stackOf.cls ≠ "java/lang/invoke/MethodHandle" ∧ yX0_stackOf.cls ≠ "java/lang/invoke/VarHandle" ∧ (parseMethodDescriptor yX0_stackOf.desc).map (fun d => d.parameters.length) = some 2 := by decide +kernel
theorem yvX0_stackOf : yX0_stackOf.cls = RR 0 ∧ yX0_stackOf.cls ≠ "java/lang/invoke/MethodHandle" ∧ yX0_stackOf.cls ≠ "java/lang/invoke/VarHandle" ∧ (parseMethodDescriptor yX0_stackOf.desc).map (fun d => d.parameters.length) = some 2 := ⟨rfl, ycX0_stackOf⟩
noncomputable def f_X0_stackOf (n : Nat) (p0 : Nat) (p1 : Int32) (p2 : Int32) : Act Int64 :=
  bnd (getR 0 18 p0) fun v1 =>
  bnd (gd 17 v1 (nt (P_size v1))) fun v2 =>
  bnd (nt (f_X0_isIn p1.toInt64 (0 : Int64) ((v2 - 1).toInt64))) fun v3 =>
  if ¬ v3 = 0 then
    bnd (getR 0 18 p0) fun v4 =>
    bnd (gd 17 v4 (nt (P_get v4 p1))) fun v5 =>
    bnd (cst [7] v5) fun _ =>
    sw p2 (0) [
      bnd (getI 6 1 v5) fun v6 =>
      pur v6.toInt64,
      bnd (getI 6 4 v5) fun v7 =>
      pur v7.toInt64,
      bnd (getI 6 7 v5) fun v8 =>
      jn (fun (v9 : Int64) =>
        pur v9) fun j104 =>
      if v8 = 0 then
        j104 0
      else
        j104 1,
      bnd (getI 6 5 v5) fun v10 =>
      pur v10.toInt64,
      bnd (getI 6 6 v5) fun v11 =>
      pur v11.toInt64,
      bnd (getL 6 8 v5) fun v12 =>
      pur v12,
      bnd (getI 0 0 p0) fun v13 =>
      bnd (gd 0 p0 (nt (f_X0_at n p0 v13))) fun v14 =>
      bnd (gd 6 v5 (nt (f_X6_least v5 v14))) fun v15 =>
      pur v15.toInt64] (
      pur (-1))
  else
    pur (-1)
set_option maxHeartbeats 4000000 in
theorem ct_X0_stackOf (l : Launch) (n : Nat) (p0 : Nat) (p1 : Int32) (p2 : Int32) : Ct l Pic yX0_stackOf (ws_ yX0_stackOf cX0_stackOf 4 (some FieldType.long)) 5 108 cvL [rv p0, .int p1, .int p2] (f_X0_stackOf n p0 p1 p2) := by
  refine Ct.of (own := RX0) (L := [(0, rv p0), (1, .int p1), (2, .int p2)]) (plainFor_of_name (by decide)) rfl (by first | decide | simp [lg_sl, rv_cat, cat_i, cat_l]) (by first | rfl | simp [lv_args, rv_cat, cat_i, cat_l]) pcZ (fun X hXl hX hnh hin => ?_)
  subst hXl
  unfold f_X0_stackOf
  refine s_iload_n hX dX0_stackOf_0 rfl 1 rfl ?_
  refine s_i2l hX dX0_stackOf_1 ?_
  refine s_lconst (v := 0) hX dX0_stackOf_2 (by decide) ?_
  refine s_aload_n hX dX0_stackOf_3 rfl 0 rfl ?_
  refine s_getR (ci := 0) (j := 18) (ref := "WindGas") hX (pcG 0) in_X0 (Or.inl q284) (by decide) (by decide) (by decide) rfl dX0_stackOf_4 (fun _ h9 => h9) (fun v1 => ?_)
  refine s_callV_I (ci := 17) (n := 0) (As := []) (st := [.long 0, .long p1.toInt64]) hX (pcK 18) (by decide) (pt_size X.l v1) q554 q417 q418 q88 q419 yvJ2_size (by decide) rfl (by first | decide | simp [rv_cat, cat_i, cat_l]) dX0_stackOf_7 (fun v2 => ?_)
  refine s_iconst (v := 1) hX dX0_stackOf_10 rfl ?_
  refine s_isub hX dX0_stackOf_11 ?_
  refine s_i2l hX dX0_stackOf_12 ?_
  refine s_callS_I (n := 3) (As := [.long p1.toInt64, .long 0, .long (v2 - 1).toInt64]) (st := []) hX (ct_X0_isIn X.l p1.toInt64 (0 : Int64) ((v2 - 1).toInt64)) q400 q401 q84 q402 ycX0_isIn (by decide) rfl (by first | decide | simp [rv_cat, cat_i, cat_l]) dX0_stackOf_13 (fun v3 => ?_)
  refine s_if_ne (tgt := 23) hX dX0_stackOf_16 (by decide) ?_ ?_
  · refine s_aload_n hX dX0_stackOf_23 rfl 0 rfl ?_
    refine s_getR (ci := 0) (j := 18) (ref := "WindGas") hX (pcG 0) in_X0 (Or.inl q284) (by decide) (by decide) (by decide) rfl dX0_stackOf_24 (fun _ h9 => h9) (fun v4 => ?_)
    refine s_iload_n hX dX0_stackOf_27 rfl 1 rfl ?_
    refine s_callV_R (ci := 17) (n := 1) (As := [.int p1]) (st := []) hX (pcK 18) (by decide) (pt_get X.l v4 p1) q555 q516 q517 q88 q518 yvJ2_get (by decide) rfl (by first | decide | simp [rv_cat, cat_i, cat_l]) dX0_stackOf_28 (fun v5 => ?_)
    refine s_cast (ks := [7]) hX (elC 6 (by decide)) q1110 dX0_stackOf_31 ?_
    refine s_astore_n (i := 3) (L2 := [(3, rv v5), (0, rv p0), (1, .int p1), (2, .int p2)]) hX dX0_stackOf_34 rfl (by decide) rfl ?_
    refine s_iload_n hX dX0_stackOf_35 rfl 3 rfl ?_
    refine s_sw hX dX0_stackOf_36 (dt := 136) (by decide) (tgts := [80, 86, 92, 105, 111, 117, 122]) (by decide) (by decide) ?_ ?_
    · refine s_ldc2 (v := -1) hX dX0_stackOf_136 q1048 ?_
      exact s_lret hX dX0_stackOf_139
    · refine ⟨?_, ?_, ?_, ?_, ?_, ?_, ?_, trivial⟩
      · refine s_aload_n hX dX0_stackOf_80 rfl 0 rfl ?_
        refine s_getI (ci := 6) (j := 1) (ref := "WindGas$Stack") hX (pcG 6) in_X6 (Or.inr ⟨_, q1119⟩) (by decide) (by decide) (by decide) rfl dX0_stackOf_81 (fun _ h9 => h9) (fun v6 => ?_)
        refine s_i2l hX dX0_stackOf_84 ?_
        exact s_lret hX dX0_stackOf_85
      · refine s_aload_n hX dX0_stackOf_86 rfl 0 rfl ?_
        refine s_getI (ci := 6) (j := 4) (ref := "WindGas$Stack") hX (pcG 6) in_X6 (Or.inr ⟨_, q1123⟩) (by decide) (by decide) (by decide) rfl dX0_stackOf_87 (fun _ h9 => h9) (fun v7 => ?_)
        refine s_i2l hX dX0_stackOf_90 ?_
        exact s_lret hX dX0_stackOf_91
      · refine s_aload_n hX dX0_stackOf_92 rfl 0 rfl ?_
        refine s_getI (ci := 6) (j := 7) (ref := "WindGas$Stack") hX (pcG 6) in_X6 (Or.inr ⟨_, q1126⟩) (by decide) (by decide) (by decide) rfl dX0_stackOf_93 (fun _ h9 => h9) (fun v8 => ?_)
        refine s_jn (P := fun j => ∀ (v9 : Int64), Sim X cvL 104 [] [.long v9] (j v9)) ?_ (fun j104 hj104 => ?_)
        · intro v9
          exact s_lret hX dX0_stackOf_104
        · refine s_if_eq (tgt := 103) hX dX0_stackOf_96 (by decide) ?_ ?_
          · refine s_lconst (v := 0) hX dX0_stackOf_103 (by decide) ?_
            exact s_sub [] rfl (hj104 0)
          · refine s_lconst (v := 1) hX dX0_stackOf_99 (by decide) ?_
            refine s_goto (tgt := 104) hX dX0_stackOf_100 (by decide) ?_
            exact s_sub [] rfl (hj104 1)
      · refine s_aload_n hX dX0_stackOf_105 rfl 0 rfl ?_
        refine s_getI (ci := 6) (j := 5) (ref := "WindGas$Stack") hX (pcG 6) in_X6 (Or.inr ⟨_, q1124⟩) (by decide) (by decide) (by decide) rfl dX0_stackOf_106 (fun _ h9 => h9) (fun v10 => ?_)
        refine s_i2l hX dX0_stackOf_109 ?_
        exact s_lret hX dX0_stackOf_110
      · refine s_aload_n hX dX0_stackOf_111 rfl 0 rfl ?_
        refine s_getI (ci := 6) (j := 6) (ref := "WindGas$Stack") hX (pcG 6) in_X6 (Or.inr ⟨_, q1125⟩) (by decide) (by decide) (by decide) rfl dX0_stackOf_112 (fun _ h9 => h9) (fun v11 => ?_)
        refine s_i2l hX dX0_stackOf_115 ?_
        exact s_lret hX dX0_stackOf_116
      · refine s_aload_n hX dX0_stackOf_117 rfl 0 rfl ?_
        refine s_getL (ci := 6) (j := 8) (ref := "WindGas$Stack") hX (pcG 6) in_X6 (Or.inr ⟨_, q1127⟩) (by decide) (by decide) (by decide) rfl dX0_stackOf_118 (fun _ h9 => h9) (fun v12 => ?_)
        exact s_lret hX dX0_stackOf_121
      · refine s_aload_n hX dX0_stackOf_122 rfl 0 rfl ?_
        refine s_aload_n hX dX0_stackOf_123 rfl 1 rfl ?_
        refine s_aload_n hX dX0_stackOf_124 rfl 1 rfl ?_
        refine s_getI (ci := 0) (j := 0) (ref := "WindGas") hX (pcG 0) in_X0 (Or.inl q266) (by decide) (by decide) (by decide) rfl dX0_stackOf_125 (fun _ h9 => h9) (fun v13 => ?_)
        refine s_callV_R (ci := 0) (n := 1) (As := [.int v13]) (st := [rv v5]) hX (pcK 1) (by decide) (ct_X0_at X.l n p0 v13) q546 q548 qs4 q84 q549 yvX0_at (by decide) rfl (by first | decide | simp [rv_cat, cat_i, cat_l]) dX0_stackOf_128 (fun v14 => ?_)
        refine s_callV_I (ci := 6) (n := 1) (As := [rv v14]) (st := []) hX (pcK 7) (by decide) (ct_X6_least X.l v5 v14) q1218 q1219 q1220 q100 q1221 yvX6_least (by decide) rfl (by first | decide | simp [rv_cat, cat_i, cat_l]) dX0_stackOf_131 (fun v15 => ?_)
        refine s_i2l hX dX0_stackOf_134 ?_
        exact s_lret hX dX0_stackOf_135
  · refine s_ldc2 (v := -1) hX dX0_stackOf_19 q1048 ?_
    exact s_lret hX dX0_stackOf_22
theorem dX7_init_0 : decode cX7_init 0 = .ok (.aload_n 0, 1) := by decide +kernel
theorem dX7_init_1 : decode cX7_init 1 = .ok (.invokespecial 3, 3) := by decide +kernel
theorem dX7_init_4 : decode cX7_init 4 = .ok (.aload_n 0, 1) := by decide +kernel
theorem dX7_init_5 : decode cX7_init 5 = .ok (.new 9, 3) := by decide +kernel
theorem dX7_init_8 : decode cX7_init 8 = .ok (.dup, 1) := by decide +kernel
theorem dX7_init_9 : decode cX7_init 9 = .ok (.invokespecial 11, 3) := by decide +kernel
theorem dX7_init_12 : decode cX7_init 12 = .ok (.putfield 12, 3) := by decide +kernel
theorem dX7_init_15 : decode cX7_init 15 = .ok (.aload_n 0, 1) := by decide +kernel
theorem dX7_init_16 : decode cX7_init 16 = .ok (.iconst (-1), 1) := by decide +kernel
theorem dX7_init_17 : decode cX7_init 17 = .ok (.putfield 18, 3) := by decide +kernel
theorem dX7_init_20 : decode cX7_init 20 = .ok (.aload_n 0, 1) := by decide +kernel
theorem dX7_init_21 : decode cX7_init 21 = .ok (.iload_n 1, 1) := by decide +kernel
theorem dX7_init_22 : decode cX7_init 22 = .ok (.putfield 22, 3) := by decide +kernel
theorem dX7_init_25 : decode cX7_init 25 = .ok (.aload_n 0, 1) := by decide +kernel
theorem dX7_init_26 : decode cX7_init 26 = .ok (.iload_n 2, 1) := by decide +kernel
theorem dX7_init_27 : decode cX7_init 27 = .ok (.putfield 25, 3) := by decide +kernel
theorem dX7_init_30 : decode cX7_init 30 = .ok (.aload_n 0, 1) := by decide +kernel
theorem dX7_init_31 : decode cX7_init 31 = .ok (.iload_n 3, 1) := by decide +kernel
theorem dX7_init_32 : decode cX7_init 32 = .ok (.putfield 28, 3) := by decide +kernel
theorem dX7_init_35 : decode cX7_init 35 = .ok (.return_, 1) := by decide +kernel
theorem ycX7_init : yX7_init.cls ≠ "java/lang/invoke/MethodHandle" ∧ yX7_init.cls ≠ "java/lang/invoke/VarHandle" ∧ (parseMethodDescriptor yX7_init.desc).map (fun d => d.parameters.length) = some 3 := by decide +kernel
theorem yvX7_init : yX7_init.cls = RR 7 ∧ yX7_init.cls ≠ "java/lang/invoke/MethodHandle" ∧ yX7_init.cls ≠ "java/lang/invoke/VarHandle" ∧ (parseMethodDescriptor yX7_init.desc).map (fun d => d.parameters.length) = some 3 := ⟨rfl, ycX7_init⟩
noncomputable def f_X7_init (p0 : Nat) (p1 : Int32) (p2 : Int32) (p3 : Int32) : Act Unit :=
  nn p0 <|
  bnd (newO 17 3) fun v1 =>
  bnd (gd 17 v1 (nt (P_init v1))) fun _ =>
  bnd (putR 7 3 p0 v1) fun _ =>
  bnd (putI 7 5 p0 (-1)) fun _ =>
  bnd (putI 7 0 p0 p1) fun _ =>
  bnd (putI 7 1 p0 p2) fun _ =>
  bnd (putI 7 2 p0 p3) fun _ =>
  pur ()
set_option maxHeartbeats 4000000 in
theorem ct_X7_init (l : Launch) (p0 : Nat) (p1 : Int32) (p2 : Int32) (p3 : Int32) : Ct l Pic yX7_init (ws_ yX7_init cX7_init 4 none) 4 84 cvU [rv p0, .int p1, .int p2, .int p3] (f_X7_init p0 p1 p2 p3) := by
  refine Ct.of (own := RX7) (L := [(0, rv p0), (1, .int p1), (2, .int p2), (3, .int p3)]) (plainFor_of_name (by decide)) rfl (by first | decide | simp [lg_sl, rv_cat, cat_i, cat_l]) (by first | rfl | simp [lv_args, rv_cat, cat_i, cat_l]) pcZ (fun X hXl hX hnh hin => ?_)
  subst hXl
  unfold f_X7_init
  refine s_aload_n hX dX7_init_0 rfl 0 rfl ?_
  refine s_oinit hX (by decide) q1306 q126 q127 (by decide) (by decide) dX7_init_1 ?_
  refine s_aload_n hX dX7_init_4 rfl 0 rfl ?_
  refine s_new (ci := 17) hX (pcN 17) in_J2 tyJ2_ok (by decide) (by decide) q1307 q135 q88 dX7_init_5 (fun v1 => ?_)
  refine s_dup hX dX7_init_8 (rv_cat _) ?_
  refine s_callI_U (ci := 17) (n := 0) (As := []) (st := [rv v1, rv p0]) hX (pcK 18) (by decide) (pt_init X.l v1) q1308 q137 q88 q138 rfl ycJ2_init (by decide) rfl (by first | decide | simp [rv_cat, cat_i, cat_l]) dX7_init_9 (fun _ => ?_)
  refine s_putRF (ci := 7) (j := 3) (ref := "WindGas$Trip") hX (pcG 7) (pcP 7) in_X7 tyX7_ok nmX7 q1315 (by decide) (by decide) (by decide) rfl (fun v => by cases v <;> exact ⟨rfl, rfl⟩) rfl (hin rfl) rfl dX7_init_12 (fun _ h9 => h9) ?_
  refine s_aload_n hX dX7_init_15 rfl 0 rfl ?_
  refine s_iconst (v := -1) hX dX7_init_16 (by decide) ?_
  refine s_putI (ci := 7) (j := 5) (ref := "WindGas$Trip") hX (pcG 7) (pcP 7) in_X7 tyX7_ok nmX7 (Or.inl q1319) (by decide) (by decide) (by decide) rfl rfl rfl dX7_init_17 (fun _ h9 => h9) ?_
  refine s_aload_n hX dX7_init_20 rfl 0 rfl ?_
  refine s_iload_n hX dX7_init_21 rfl 1 rfl ?_
  refine s_putIF (ci := 7) (j := 0) (ref := "WindGas$Trip") hX (pcG 7) (pcP 7) in_X7 tyX7_ok nmX7 q1309 (by decide) (by decide) (by decide) rfl rfl rfl (hin rfl) rfl dX7_init_22 (fun _ h9 => h9) ?_
  refine s_aload_n hX dX7_init_25 rfl 0 rfl ?_
  refine s_iload_n hX dX7_init_26 rfl 2 rfl ?_
  refine s_putIF (ci := 7) (j := 1) (ref := "WindGas$Trip") hX (pcG 7) (pcP 7) in_X7 tyX7_ok nmX7 q1311 (by decide) (by decide) (by decide) rfl rfl rfl (hin rfl) rfl dX7_init_27 (fun _ h9 => h9) ?_
  refine s_aload_n hX dX7_init_30 rfl 0 rfl ?_
  refine s_iload_n hX dX7_init_31 rfl 3 rfl ?_
  refine s_putIF (ci := 7) (j := 2) (ref := "WindGas$Trip") hX (pcG 7) (pcP 7) in_X7 tyX7_ok nmX7 q1313 (by decide) (by decide) (by decide) rfl rfl rfl (hin rfl) rfl dX7_init_32 (fun _ h9 => h9) ?_
  exact s_vret hX dX7_init_35
theorem dX0_trip_0 : decode cX0_trip 0 = .ok (.iload_n 1, 1) := by decide +kernel
theorem dX0_trip_1 : decode cX0_trip 1 = .ok (.i2l, 1) := by decide +kernel
theorem dX0_trip_2 : decode cX0_trip 2 = .ok (.lconst 0, 1) := by decide +kernel
theorem dX0_trip_3 : decode cX0_trip 3 = .ok (.lconst 1, 1) := by decide +kernel
theorem dX0_trip_4 : decode cX0_trip 4 = .ok (.invokestatic 101, 3) := by decide +kernel
theorem dX0_trip_7 : decode cX0_trip 7 = .ok (.ifCond .eq 43, 3) := by decide +kernel
theorem dX0_trip_10 : decode cX0_trip 10 = .ok (.iload_n 2, 1) := by decide +kernel
theorem dX0_trip_11 : decode cX0_trip 11 = .ok (.i2l, 1) := by decide +kernel
theorem dX0_trip_12 : decode cX0_trip 12 = .ok (.aload_n 0, 1) := by decide +kernel
theorem dX0_trip_13 : decode cX0_trip 13 = .ok (.getfield 351, 3) := by decide +kernel
theorem dX0_trip_16 : decode cX0_trip 16 = .ok (.i2l, 1) := by decide +kernel
theorem dX0_trip_17 : decode cX0_trip 17 = .ok (.ldc2_w 99, 3) := by decide +kernel
theorem dX0_trip_20 : decode cX0_trip 20 = .ok (.invokestatic 101, 3) := by decide +kernel
theorem dX0_trip_23 : decode cX0_trip 23 = .ok (.ifCond .eq 27, 3) := by decide +kernel
theorem dX0_trip_26 : decode cX0_trip 26 = .ok (.iload_n 3, 1) := by decide +kernel
theorem dX0_trip_27 : decode cX0_trip 27 = .ok (.i2l, 1) := by decide +kernel
theorem dX0_trip_28 : decode cX0_trip 28 = .ok (.lconst 1, 1) := by decide +kernel
theorem dX0_trip_29 : decode cX0_trip 29 = .ok (.ldc2_w 530, 3) := by decide +kernel
theorem dX0_trip_32 : decode cX0_trip 32 = .ok (.invokestatic 101, 3) := by decide +kernel
theorem dX0_trip_35 : decode cX0_trip 35 = .ok (.ifCond .eq 15, 3) := by decide +kernel
theorem dX0_trip_38 : decode cX0_trip 38 = .ok (.aload_n 0, 1) := by decide +kernel
theorem dX0_trip_39 : decode cX0_trip 39 = .ok (.getfield 84, 3) := by decide +kernel
theorem dX0_trip_42 : decode cX0_trip 42 = .ok (.invokevirtual 124, 3) := by decide +kernel
theorem dX0_trip_45 : decode cX0_trip 45 = .ok (.bipush 40, 2) := by decide +kernel
theorem dX0_trip_47 : decode cX0_trip 47 = .ok (.if_icmp .ne 5, 3) := by decide +kernel
theorem dX0_trip_50 : decode cX0_trip 50 = .ok (.iconst (-1), 1) := by decide +kernel
theorem dX0_trip_51 : decode cX0_trip 51 = .ok (.ireturn, 1) := by decide +kernel
theorem dX0_trip_52 : decode cX0_trip 52 = .ok (.aload_n 0, 1) := by decide +kernel
theorem dX0_trip_53 : decode cX0_trip 53 = .ok (.getfield 84, 3) := by decide +kernel
theorem dX0_trip_56 : decode cX0_trip 56 = .ok (.new 518, 3) := by decide +kernel
theorem dX0_trip_59 : decode cX0_trip 59 = .ok (.dup, 1) := by decide +kernel
theorem dX0_trip_60 : decode cX0_trip 60 = .ok (.iload_n 1, 1) := by decide +kernel
theorem dX0_trip_61 : decode cX0_trip 61 = .ok (.iload_n 2, 1) := by decide +kernel
theorem dX0_trip_62 : decode cX0_trip 62 = .ok (.iload_n 3, 1) := by decide +kernel
theorem dX0_trip_63 : decode cX0_trip 63 = .ok (.invokespecial 532, 3) := by decide +kernel
theorem dX0_trip_66 : decode cX0_trip 66 = .ok (.invokevirtual 302, 3) := by decide +kernel
theorem dX0_trip_69 : decode cX0_trip 69 = .ok (.pop, 1) := by decide +kernel
theorem dX0_trip_70 : decode cX0_trip 70 = .ok (.aload_n 0, 1) := by decide +kernel
theorem dX0_trip_71 : decode cX0_trip 71 = .ok (.getfield 84, 3) := by decide +kernel
theorem dX0_trip_74 : decode cX0_trip 74 = .ok (.invokevirtual 124, 3) := by decide +kernel
theorem dX0_trip_77 : decode cX0_trip 77 = .ok (.iconst 1, 1) := by decide +kernel
theorem dX0_trip_78 : decode cX0_trip 78 = .ok (.isub, 1) := by decide +kernel
theorem dX0_trip_79 : decode cX0_trip 79 = .ok (.ireturn, 1) := by decide +kernel
theorem ycX0_trip : yX0_trip.cls ≠ "java/lang/invoke/MethodHandle" ∧ yX0_trip.cls ≠ "java/lang/invoke/VarHandle" ∧ (parseMethodDescriptor yX0_trip.desc).map (fun d => d.parameters.length) = some 3 := by decide +kernel
theorem yvX0_trip : yX0_trip.cls = RR 0 ∧ yX0_trip.cls ≠ "java/lang/invoke/MethodHandle" ∧ yX0_trip.cls ≠ "java/lang/invoke/VarHandle" ∧ (parseMethodDescriptor yX0_trip.desc).map (fun d => d.parameters.length) = some 3 := ⟨rfl, ycX0_trip⟩
noncomputable def f_X0_trip (p0 : Nat) (p1 : Int32) (p2 : Int32) (p3 : Int32) : Act Int32 :=
  bnd (nt (f_X0_isIn p1.toInt64 (0 : Int64) (1 : Int64))) fun v1 =>
  jn (fun (_ : Unit) =>
    pur (-1)) fun j50 =>
  if v1 = 0 then
    j50 ()
  else
    bnd (getI 0 0 p0) fun v2 =>
    bnd (nt (f_X0_isIn p2.toInt64 v2.toInt64 (4999 : Int64))) fun v3 =>
    if v3 = 0 then
      j50 ()
    else
      bnd (nt (f_X0_isIn p3.toInt64 (1 : Int64) (50000 : Int64))) fun v4 =>
      if v4 = 0 then
        j50 ()
      else
        bnd (getR 0 37 p0) fun v5 =>
        bnd (gd 17 v5 (nt (P_size v5))) fun v6 =>
        if ¬ v6 = 40 then
          bnd (getR 0 37 p0) fun v7 =>
          bnd (newO 7 7) fun v8 =>
          bnd (gd 7 v8 (nt (f_X7_init v8 p1 p2 p3))) fun _ =>
          bnd (gd 17 v7 (nt (P_add v7 v8))) fun v9 =>
          bnd (getR 0 37 p0) fun v10 =>
          bnd (gd 17 v10 (nt (P_size v10))) fun v11 =>
          pur (v11 - 1)
        else
          j50 ()
set_option maxHeartbeats 4000000 in
theorem ct_X0_trip (l : Launch) (p0 : Nat) (p1 : Int32) (p2 : Int32) (p3 : Int32) : Ct l Pic yX0_trip (ws_ yX0_trip cX0_trip 4 (some FieldType.int)) 7 171 cvI [rv p0, .int p1, .int p2, .int p3] (f_X0_trip p0 p1 p2 p3) := by
  refine Ct.of (own := RX0) (L := [(0, rv p0), (1, .int p1), (2, .int p2), (3, .int p3)]) (plainFor_of_name (by decide)) rfl (by first | decide | simp [lg_sl, rv_cat, cat_i, cat_l]) (by first | rfl | simp [lv_args, rv_cat, cat_i, cat_l]) pcZ (fun X hXl hX hnh hin => ?_)
  subst hXl
  unfold f_X0_trip
  refine s_iload_n hX dX0_trip_0 rfl 1 rfl ?_
  refine s_i2l hX dX0_trip_1 ?_
  refine s_lconst (v := 0) hX dX0_trip_2 (by decide) ?_
  refine s_lconst (v := 1) hX dX0_trip_3 (by decide) ?_
  refine s_callS_I (n := 3) (As := [.long p1.toInt64, .long 0, .long 1]) (st := []) hX (ct_X0_isIn X.l p1.toInt64 (0 : Int64) (1 : Int64)) q400 q401 q84 q402 ycX0_isIn (by decide) rfl (by first | decide | simp [rv_cat, cat_i, cat_l]) dX0_trip_4 (fun v1 => ?_)
  refine s_jn (P := fun j => ∀ (u : Unit), Sim X cvI 50 [] [] (j u)) ?_ (fun j50 hj50 => ?_)
  · intro u
    refine s_iconst (v := -1) hX dX0_trip_50 (by decide) ?_
    exact s_iret hX dX0_trip_51
  · refine s_if_eq (tgt := 50) hX dX0_trip_7 (by decide) ?_ ?_
    · exact s_sub [] rfl (hj50 ())
    · refine s_iload_n hX dX0_trip_10 rfl 2 rfl ?_
      refine s_i2l hX dX0_trip_11 ?_
      refine s_aload_n hX dX0_trip_12 rfl 0 rfl ?_
      refine s_getI (ci := 0) (j := 0) (ref := "WindGas") hX (pcG 0) in_X0 (Or.inl q266) (by decide) (by decide) (by decide) rfl dX0_trip_13 (fun _ h9 => h9) (fun v2 => ?_)
      refine s_i2l hX dX0_trip_16 ?_
      refine s_ldc2 (v := 4999) hX dX0_trip_17 q406 ?_
      refine s_callS_I (n := 3) (As := [.long p2.toInt64, .long v2.toInt64, .long 4999]) (st := []) hX (ct_X0_isIn X.l p2.toInt64 v2.toInt64 (4999 : Int64)) q400 q401 q84 q402 ycX0_isIn (by decide) rfl (by first | decide | simp [rv_cat, cat_i, cat_l]) dX0_trip_20 (fun v3 => ?_)
      refine s_if_eq (tgt := 50) hX dX0_trip_23 (by decide) ?_ ?_
      · exact s_sub [] rfl (hj50 ())
      · refine s_iload_n hX dX0_trip_26 rfl 3 rfl ?_
        refine s_i2l hX dX0_trip_27 ?_
        refine s_lconst (v := 1) hX dX0_trip_28 (by decide) ?_
        refine s_ldc2 (v := 50000) hX dX0_trip_29 q1301 ?_
        refine s_callS_I (n := 3) (As := [.long p3.toInt64, .long 1, .long 50000]) (st := []) hX (ct_X0_isIn X.l p3.toInt64 (1 : Int64) (50000 : Int64)) q400 q401 q84 q402 ycX0_isIn (by decide) rfl (by first | decide | simp [rv_cat, cat_i, cat_l]) dX0_trip_32 (fun v4 => ?_)
        refine s_if_eq (tgt := 50) hX dX0_trip_35 (by decide) ?_ ?_
        · exact s_sub [] rfl (hj50 ())
        · refine s_aload_n hX dX0_trip_38 rfl 0 rfl ?_
          refine s_getR (ci := 0) (j := 37) (ref := "WindGas") hX (pcG 0) in_X0 (Or.inl q303) (by decide) (by decide) (by decide) rfl dX0_trip_39 (fun _ h9 => h9) (fun v5 => ?_)
          refine s_callV_I (ci := 17) (n := 0) (As := []) (st := []) hX (pcK 18) (by decide) (pt_size X.l v5) q554 q417 q418 q88 q419 yvJ2_size (by decide) rfl (by first | decide | simp [rv_cat, cat_i, cat_l]) dX0_trip_42 (fun v6 => ?_)
          refine s_bipush (v := 40) hX dX0_trip_45 (by decide) ?_
          refine s_icmp_ne (tgt := 52) hX dX0_trip_47 (by decide) ?_ ?_
          · refine s_aload_n hX dX0_trip_52 rfl 0 rfl ?_
            refine s_getR (ci := 0) (j := 37) (ref := "WindGas") hX (pcG 0) in_X0 (Or.inl q303) (by decide) (by decide) (by decide) rfl dX0_trip_53 (fun _ h9 => h9) (fun v7 => ?_)
            refine s_new (ci := 7) hX (pcN 7) in_X7 tyX7_ok (by decide) (by decide) q1272 q1302 q101 dX0_trip_56 (fun v8 => ?_)
            refine s_dup hX dX0_trip_59 (rv_cat _) ?_
            refine s_iload_n hX dX0_trip_60 rfl 1 rfl ?_
            refine s_iload_n hX dX0_trip_61 rfl 2 rfl ?_
            refine s_iload_n hX dX0_trip_62 rfl 3 rfl ?_
            refine s_callI_U (ci := 7) (n := 3) (As := [.int p1, .int p2, .int p3]) (st := [rv v8, rv v7]) hX (pcK 8) (by decide) (ct_X7_init X.l v8 p1 p2 p3) q1303 q1304 q101 q1305 rfl ycX7_init (by decide) rfl (by first | decide | simp [rv_cat, cat_i, cat_l]) dX0_trip_63 (fun _ => ?_)
            refine s_callV_I (ci := 17) (n := 1) (As := [rv v8]) (st := []) hX (pcK 18) (by decide) (pt_add X.l v7 v8) q1000 q440 q441 q88 q442 yvJ2_add (by decide) rfl (by first | decide | simp [rv_cat, cat_i, cat_l]) dX0_trip_66 (fun v9 => ?_)
            refine s_pop hX dX0_trip_69 rfl ?_
            refine s_aload_n hX dX0_trip_70 rfl 0 rfl ?_
            refine s_getR (ci := 0) (j := 37) (ref := "WindGas") hX (pcG 0) in_X0 (Or.inl q303) (by decide) (by decide) (by decide) rfl dX0_trip_71 (fun _ h9 => h9) (fun v10 => ?_)
            refine s_callV_I (ci := 17) (n := 0) (As := []) (st := []) hX (pcK 18) (by decide) (pt_size X.l v10) q554 q417 q418 q88 q419 yvJ2_size (by decide) rfl (by first | decide | simp [rv_cat, cat_i, cat_l]) dX0_trip_74 (fun v11 => ?_)
            refine s_iconst (v := 1) hX dX0_trip_77 rfl ?_
            refine s_isub hX dX0_trip_78 ?_
            exact s_iret hX dX0_trip_79
          · exact s_sub [] rfl (hj50 ())
theorem dX0_isHour_0 : decode cX0_isHour 0 = .ok (.iload_n 1, 1) := by decide +kernel
theorem dX0_isHour_1 : decode cX0_isHour 1 = .ok (.i2l, 1) := by decide +kernel
theorem dX0_isHour_2 : decode cX0_isHour 2 = .ok (.lconst 0, 1) := by decide +kernel
theorem dX0_isHour_3 : decode cX0_isHour 3 = .ok (.ldc2_w 554, 3) := by decide +kernel
theorem dX0_isHour_6 : decode cX0_isHour 6 = .ok (.invokestatic 101, 3) := by decide +kernel
theorem dX0_isHour_9 : decode cX0_isHour 9 = .ok (.ifCond .eq 23, 3) := by decide +kernel
theorem dX0_isHour_12 : decode cX0_isHour 12 = .ok (.bipush 6, 2) := by decide +kernel
theorem dX0_isHour_14 : decode cX0_isHour 14 = .ok (.iload_n 1, 1) := by decide +kernel
theorem dX0_isHour_15 : decode cX0_isHour 15 = .ok (.imul, 1) := by decide +kernel
theorem dX0_isHour_16 : decode cX0_isHour 16 = .ok (.bipush 6, 2) := by decide +kernel
theorem dX0_isHour_18 : decode cX0_isHour 18 = .ok (.iadd, 1) := by decide +kernel
theorem dX0_isHour_19 : decode cX0_isHour 19 = .ok (.iconst 1, 1) := by decide +kernel
theorem dX0_isHour_20 : decode cX0_isHour 20 = .ok (.isub, 1) := by decide +kernel
theorem dX0_isHour_21 : decode cX0_isHour 21 = .ok (.aload_n 0, 1) := by decide +kernel
theorem dX0_isHour_22 : decode cX0_isHour 22 = .ok (.getfield 351, 3) := by decide +kernel
theorem dX0_isHour_25 : decode cX0_isHour 25 = .ok (.if_icmp .ge 7, 3) := by decide +kernel
theorem dX0_isHour_28 : decode cX0_isHour 28 = .ok (.iconst 1, 1) := by decide +kernel
theorem dX0_isHour_29 : decode cX0_isHour 29 = .ok (.goto 4, 3) := by decide +kernel
theorem dX0_isHour_32 : decode cX0_isHour 32 = .ok (.iconst 0, 1) := by decide +kernel
theorem dX0_isHour_33 : decode cX0_isHour 33 = .ok (.ireturn, 1) := by decide +kernel
theorem ycX0_isHour : yX0_isHour.cls ≠ "java/lang/invoke/MethodHandle" ∧ yX0_isHour.cls ≠ "java/lang/invoke/VarHandle" ∧ (parseMethodDescriptor yX0_isHour.desc).map (fun d => d.parameters.length) = some 1 := by decide +kernel
theorem yvX0_isHour : yX0_isHour.cls = RR 0 ∧ yX0_isHour.cls ≠ "java/lang/invoke/MethodHandle" ∧ yX0_isHour.cls ≠ "java/lang/invoke/VarHandle" ∧ (parseMethodDescriptor yX0_isHour.desc).map (fun d => d.parameters.length) = some 1 := ⟨rfl, ycX0_isHour⟩
noncomputable def f_X0_isHour (p0 : Nat) (p1 : Int32) : Act Int32 :=
  bnd (nt (f_X0_isIn p1.toInt64 (0 : Int64) (833 : Int64))) fun v1 =>
  jn (fun (v2 : Int32) =>
    purS (ty := .boolean) v2) fun j33 =>
  jn (fun (_ : Unit) =>
    j33 0) fun j32 =>
  if v1 = 0 then
    j32 ()
  else
    bnd (getI 0 0 p0) fun v3 =>
    if v3 ≤ (((6 * p1) + 6) - 1) then
      j32 ()
    else
      j33 1
set_option maxHeartbeats 4000000 in
theorem ct_X0_isHour (l : Launch) (p0 : Nat) (p1 : Int32) : Ct l Pic yX0_isHour (ws_ yX0_isHour cX0_isHour 2 (some FieldType.boolean)) 1 25 cvI [rv p0, .int p1] (f_X0_isHour p0 p1) := by
  refine Ct.of (own := RX0) (L := [(0, rv p0), (1, .int p1)]) (plainFor_of_name (by decide)) rfl (by first | decide | simp [lg_sl, rv_cat, cat_i, cat_l]) (by first | rfl | simp [lv_args, rv_cat, cat_i, cat_l]) pcZ (fun X hXl hX hnh hin => ?_)
  subst hXl
  unfold f_X0_isHour
  refine s_iload_n hX dX0_isHour_0 rfl 1 rfl ?_
  refine s_i2l hX dX0_isHour_1 ?_
  refine s_lconst (v := 0) hX dX0_isHour_2 (by decide) ?_
  refine s_ldc2 (v := 833) hX dX0_isHour_3 q1345 ?_
  refine s_callS_I (n := 3) (As := [.long p1.toInt64, .long 0, .long 833]) (st := []) hX (ct_X0_isIn X.l p1.toInt64 (0 : Int64) (833 : Int64)) q400 q401 q84 q402 ycX0_isIn (by decide) rfl (by first | decide | simp [rv_cat, cat_i, cat_l]) dX0_isHour_6 (fun v1 => ?_)
  refine s_jn (P := fun j => ∀ (v2 : Int32), Sim X cvI 33 [] [.int v2] (j v2)) ?_ (fun j33 hj33 => ?_)
  · intro v2
    exact s_zret hX dX0_isHour_33
  · refine s_jn (P := fun j => ∀ (u : Unit), Sim X cvI 32 [] [] (j u)) ?_ (fun j32 hj32 => ?_)
    · intro u
      refine s_iconst (v := 0) hX dX0_isHour_32 rfl ?_
      exact hj33 0
    · refine s_if_eq (tgt := 32) hX dX0_isHour_9 (by decide) ?_ ?_
      · exact s_sub [] rfl (hj32 ())
      · refine s_bipush (v := 6) hX dX0_isHour_12 (by decide) ?_
        refine s_iload_n hX dX0_isHour_14 rfl 1 rfl ?_
        refine s_imul hX dX0_isHour_15 ?_
        refine s_bipush (v := 6) hX dX0_isHour_16 (by decide) ?_
        refine s_iadd hX dX0_isHour_18 ?_
        refine s_iconst (v := 1) hX dX0_isHour_19 rfl ?_
        refine s_isub hX dX0_isHour_20 ?_
        refine s_aload_n hX dX0_isHour_21 rfl 0 rfl ?_
        refine s_getI (ci := 0) (j := 0) (ref := "WindGas") hX (pcG 0) in_X0 (Or.inl q266) (by decide) (by decide) (by decide) rfl dX0_isHour_22 (fun _ h9 => h9) (fun v3 => ?_)
        refine s_icmp_ge (tgt := 32) hX dX0_isHour_25 (by decide) ?_ ?_
        · exact s_sub [] rfl (hj32 ())
        · refine s_iconst (v := 1) hX dX0_isHour_28 rfl ?_
          refine s_goto (tgt := 33) hX dX0_isHour_29 (by decide) ?_
          exact s_sub [] rfl (hj33 1)
theorem dX0_isGreen_0 : decode cX0_isGreen 0 = .ok (.bipush 6, 2) := by decide +kernel
theorem dX0_isGreen_2 : decode cX0_isGreen 2 = .ok (.iload_n 1, 1) := by decide +kernel
theorem dX0_isGreen_3 : decode cX0_isGreen 3 = .ok (.imul, 1) := by decide +kernel
theorem dX0_isGreen_4 : decode cX0_isGreen 4 = .ok (.bipush 6, 2) := by decide +kernel
theorem dX0_isGreen_6 : decode cX0_isGreen 6 = .ok (.iadd, 1) := by decide +kernel
theorem dX0_isGreen_7 : decode cX0_isGreen 7 = .ok (.iconst 1, 1) := by decide +kernel
theorem dX0_isGreen_8 : decode cX0_isGreen 8 = .ok (.isub, 1) := by decide +kernel
theorem dX0_isGreen_9 : decode cX0_isGreen 9 = .ok (.istore_n 2, 1) := by decide +kernel
theorem dX0_isGreen_10 : decode cX0_isGreen 10 = .ok (.aload_n 0, 1) := by decide +kernel
theorem dX0_isGreen_11 : decode cX0_isGreen 11 = .ok (.iload_n 1, 1) := by decide +kernel
theorem dX0_isGreen_12 : decode cX0_isGreen 12 = .ok (.invokevirtual 556, 3) := by decide +kernel
theorem dX0_isGreen_15 : decode cX0_isGreen 15 = .ok (.ifCond .ne 5, 3) := by decide +kernel
theorem dX0_isGreen_18 : decode cX0_isGreen 18 = .ok (.iconst 0, 1) := by decide +kernel
theorem dX0_isGreen_19 : decode cX0_isGreen 19 = .ok (.ireturn, 1) := by decide +kernel
theorem dX0_isGreen_20 : decode cX0_isGreen 20 = .ok (.aload_n 0, 1) := by decide +kernel
theorem dX0_isGreen_21 : decode cX0_isGreen 21 = .ok (.iload_n 2, 1) := by decide +kernel
theorem dX0_isGreen_22 : decode cX0_isGreen 22 = .ok (.aload_n 0, 1) := by decide +kernel
theorem dX0_isGreen_23 : decode cX0_isGreen 23 = .ok (.getfield 67, 3) := by decide +kernel
theorem dX0_isGreen_26 : decode cX0_isGreen 26 = .ok (.iload_n 1, 1) := by decide +kernel
theorem dX0_isGreen_27 : decode cX0_isGreen 27 = .ok (.iaload, 1) := by decide +kernel
theorem dX0_isGreen_28 : decode cX0_isGreen 28 = .ok (.i2l, 1) := by decide +kernel
theorem dX0_isGreen_29 : decode cX0_isGreen 29 = .ok (.aload_n 0, 1) := by decide +kernel
theorem dX0_isGreen_30 : decode cX0_isGreen 30 = .ok (.getfield 71, 3) := by decide +kernel
theorem dX0_isGreen_33 : decode cX0_isGreen 33 = .ok (.iload_n 1, 1) := by decide +kernel
theorem dX0_isGreen_34 : decode cX0_isGreen 34 = .ok (.iaload, 1) := by decide +kernel
theorem dX0_isGreen_35 : decode cX0_isGreen 35 = .ok (.i2l, 1) := by decide +kernel
theorem dX0_isGreen_36 : decode cX0_isGreen 36 = .ok (.aload_n 0, 1) := by decide +kernel
theorem dX0_isGreen_37 : decode cX0_isGreen 37 = .ok (.getfield 74, 3) := by decide +kernel
theorem dX0_isGreen_40 : decode cX0_isGreen 40 = .ok (.iload_n 1, 1) := by decide +kernel
theorem dX0_isGreen_41 : decode cX0_isGreen 41 = .ok (.iaload, 1) := by decide +kernel
theorem dX0_isGreen_42 : decode cX0_isGreen 42 = .ok (.i2l, 1) := by decide +kernel
theorem dX0_isGreen_43 : decode cX0_isGreen 43 = .ok (.invokevirtual 474, 3) := by decide +kernel
theorem dX0_isGreen_46 : decode cX0_isGreen 46 = .ok (.aload_n 0, 1) := by decide +kernel
theorem dX0_isGreen_47 : decode cX0_isGreen 47 = .ok (.iload_n 2, 1) := by decide +kernel
theorem dX0_isGreen_48 : decode cX0_isGreen 48 = .ok (.invokevirtual 138, 3) := by decide +kernel
theorem dX0_isGreen_51 : decode cX0_isGreen 51 = .ok (.getfield 331, 3) := by decide +kernel
theorem dX0_isGreen_54 : decode cX0_isGreen 54 = .ok (.aload_n 0, 1) := by decide +kernel
theorem dX0_isGreen_55 : decode cX0_isGreen 55 = .ok (.getfield 77, 3) := by decide +kernel
theorem dX0_isGreen_58 : decode cX0_isGreen 58 = .ok (.invokestatic 478, 3) := by decide +kernel
theorem dX0_isGreen_61 : decode cX0_isGreen 61 = .ok (.ireturn, 1) := by decide +kernel
theorem ycX0_isGreen : yX0_isGreen.cls ≠ "java/lang/invoke/MethodHandle" ∧ yX0_isGreen.cls ≠ "java/lang/invoke/VarHandle" ∧ (parseMethodDescriptor yX0_isGreen.desc).map (fun d => d.parameters.length) = some 1 := by decide +kernel
theorem yvX0_isGreen : yX0_isGreen.cls = RR 0 ∧ yX0_isGreen.cls ≠ "java/lang/invoke/MethodHandle" ∧ yX0_isGreen.cls ≠ "java/lang/invoke/VarHandle" ∧ (parseMethodDescriptor yX0_isGreen.desc).map (fun d => d.parameters.length) = some 1 := ⟨rfl, ycX0_isGreen⟩
noncomputable def f_X0_isGreen (n : Nat) (p0 : Nat) (p1 : Int32) : Act Int32 :=
  bnd (gd 0 p0 (nt (f_X0_isHour p0 p1))) fun v1 =>
  if ¬ v1 = 0 then
    bnd (getR 0 30 p0) fun v2 =>
    bnd (ldI 0 v2 p1) fun v3 =>
    bnd (getR 0 31 p0) fun v4 =>
    bnd (ldI 0 v4 p1) fun v5 =>
    bnd (getR 0 32 p0) fun v6 =>
    bnd (ldI 0 v6 p1) fun v7 =>
    bnd (gd 0 p0 (nt (f_X0_asked n p0 (((6 * p1) + 6) - 1) v3.toInt64 v5.toInt64 v7.toInt64))) fun _ =>
    bnd (gd 0 p0 (nt (f_X0_at n p0 (((6 * p1) + 6) - 1)))) fun v8 =>
    bnd (getR 2 8 v8) fun v9 =>
    bnd (getR 0 33 p0) fun v10 =>
    bnd (nt (f_X2_any n v9 v10)) fun v11 =>
    purS (ty := .boolean) v11
  else
    purS (ty := .boolean) 0
set_option maxHeartbeats 4000000 in
theorem ct_X0_isGreen (l : Launch) (n : Nat) (p0 : Nat) (p1 : Int32) : Ct l Pic yX0_isGreen (ws_ yX0_isGreen cX0_isGreen 3 (some FieldType.boolean)) 162 3484 cvI [rv p0, .int p1] (f_X0_isGreen n p0 p1) := by
  refine Ct.of (own := RX0) (L := [(0, rv p0), (1, .int p1)]) (plainFor_of_name (by decide)) rfl (by first | decide | simp [lg_sl, rv_cat, cat_i, cat_l]) (by first | rfl | simp [lv_args, rv_cat, cat_i, cat_l]) pcZ (fun X hXl hX hnh hin => ?_)
  subst hXl
  unfold f_X0_isGreen
  refine s_bipush (v := 6) hX dX0_isGreen_0 (by decide) ?_
  refine s_iload_n hX dX0_isGreen_2 rfl 1 rfl ?_
  refine s_imul hX dX0_isGreen_3 ?_
  refine s_bipush (v := 6) hX dX0_isGreen_4 (by decide) ?_
  refine s_iadd hX dX0_isGreen_6 ?_
  refine s_iconst (v := 1) hX dX0_isGreen_7 rfl ?_
  refine s_isub hX dX0_isGreen_8 ?_
  refine s_istore_n (i := 2) (L2 := [(2, .int (((6 * p1) + 6) - 1)), (0, rv p0), (1, .int p1)]) hX dX0_isGreen_9 rfl (by decide) rfl ?_
  refine s_aload_n hX dX0_isGreen_10 rfl 1 rfl ?_
  refine s_iload_n hX dX0_isGreen_11 rfl 2 rfl ?_
  refine s_callV_I (ci := 0) (n := 1) (As := [.int p1]) (st := []) hX (pcK 1) (by decide) (ct_X0_isHour X.l p0 p1) q1341 q1343 qs32 q84 q1344 yvX0_isHour (by decide) rfl (by first | decide | simp [rv_cat, cat_i, cat_l]) dX0_isGreen_12 (fun v1 => ?_)
  refine s_if_ne (tgt := 20) hX dX0_isGreen_15 (by decide) ?_ ?_
  · refine s_aload_n hX dX0_isGreen_20 rfl 1 rfl ?_
    refine s_iload_n hX dX0_isGreen_21 rfl 0 rfl ?_
    refine s_aload_n hX dX0_isGreen_22 rfl 1 rfl ?_
    refine s_getR (ci := 0) (j := 30) (ref := "WindGas") hX (pcG 0) in_X0 (Or.inl q296) (by decide) (by decide) (by decide) rfl dX0_isGreen_23 (fun _ h9 => h9) (fun v2 => ?_)
    refine s_iload_n hX dX0_isGreen_26 rfl 2 rfl ?_
    refine s_iald hX (pcA 0) dX0_isGreen_27 (fun v3 => ?_)
    refine s_i2l hX dX0_isGreen_28 ?_
    refine s_aload_n hX dX0_isGreen_29 rfl 1 rfl ?_
    refine s_getR (ci := 0) (j := 31) (ref := "WindGas") hX (pcG 0) in_X0 (Or.inl q297) (by decide) (by decide) (by decide) rfl dX0_isGreen_30 (fun _ h9 => h9) (fun v4 => ?_)
    refine s_iload_n hX dX0_isGreen_33 rfl 2 rfl ?_
    refine s_iald hX (pcA 0) dX0_isGreen_34 (fun v5 => ?_)
    refine s_i2l hX dX0_isGreen_35 ?_
    refine s_aload_n hX dX0_isGreen_36 rfl 1 rfl ?_
    refine s_getR (ci := 0) (j := 32) (ref := "WindGas") hX (pcG 0) in_X0 (Or.inl q298) (by decide) (by decide) (by decide) rfl dX0_isGreen_37 (fun _ h9 => h9) (fun v6 => ?_)
    refine s_iload_n hX dX0_isGreen_40 rfl 2 rfl ?_
    refine s_iald hX (pcA 0) dX0_isGreen_41 (fun v7 => ?_)
    refine s_i2l hX dX0_isGreen_42 ?_
    refine s_callV_U (ci := 0) (n := 4) (As := [.int (((6 * p1) + 6) - 1), .long v3.toInt64, .long v5.toInt64, .long v7.toInt64]) (st := []) hX (pcK 1) (by decide) (ct_X0_asked X.l n p0 (((6 * p1) + 6) - 1) v3.toInt64 v5.toInt64 v7.toInt64) q1164 q1166 qs26 q84 q1167 yvX0_asked (by decide) rfl (by first | decide | simp [rv_cat, cat_i, cat_l]) dX0_isGreen_43 (fun _ => ?_)
    refine s_aload_n hX dX0_isGreen_46 rfl 1 rfl ?_
    refine s_iload_n hX dX0_isGreen_47 rfl 0 rfl ?_
    refine s_callV_R (ci := 0) (n := 1) (As := [.int (((6 * p1) + 6) - 1)]) (st := []) hX (pcK 1) (by decide) (ct_X0_at X.l n p0 (((6 * p1) + 6) - 1)) q546 q548 qs4 q84 q549 yvX0_at (by decide) rfl (by first | decide | simp [rv_cat, cat_i, cat_l]) dX0_isGreen_48 (fun v8 => ?_)
    refine s_getR (ci := 2) (j := 8) (ref := "WindGas$Rules") hX (pcG 2) in_X2 (Or.inr ⟨_, q196⟩) (by decide) (by decide) (by decide) rfl dX0_isGreen_51 (fun _ h9 => h9) (fun v9 => ?_)
    refine s_aload_n hX dX0_isGreen_54 rfl 1 rfl ?_
    refine s_getR (ci := 0) (j := 33) (ref := "WindGas") hX (pcG 0) in_X0 (Or.inl q299) (by decide) (by decide) (by decide) rfl dX0_isGreen_55 (fun _ h9 => h9) (fun v10 => ?_)
    refine s_callS_I (n := 2) (As := [rv v9, rv v10]) (st := []) hX (ct_X2_any X.l n v9 v10) q1168 q1169 q89 q1170 ycX2_any (by decide) rfl (by first | decide | simp [rv_cat, cat_i, cat_l]) dX0_isGreen_58 (fun v11 => ?_)
    exact s_zret hX dX0_isGreen_61
  · refine s_iconst (v := 0) hX dX0_isGreen_18 rfl ?_
    exact s_zret hX dX0_isGreen_19
theorem dX0_green_0 : decode cX0_green 0 = .ok (.aload_n 0, 1) := by decide +kernel
theorem dX0_green_1 : decode cX0_green 1 = .ok (.iload_n 1, 1) := by decide +kernel
theorem dX0_green_2 : decode cX0_green 2 = .ok (.invokevirtual 556, 3) := by decide +kernel
theorem dX0_green_5 : decode cX0_green 5 = .ok (.ifCond .eq 19, 3) := by decide +kernel
theorem dX0_green_8 : decode cX0_green 8 = .ok (.aload_n 0, 1) := by decide +kernel
theorem dX0_green_9 : decode cX0_green 9 = .ok (.iload_n 1, 1) := by decide +kernel
theorem dX0_green_10 : decode cX0_green 10 = .ok (.invokevirtual 559, 3) := by decide +kernel
theorem dX0_green_13 : decode cX0_green 13 = .ok (.ifCond .eq 7, 3) := by decide +kernel
theorem dX0_green_16 : decode cX0_green 16 = .ok (.iconst 1, 1) := by decide +kernel
theorem dX0_green_17 : decode cX0_green 17 = .ok (.goto 8, 3) := by decide +kernel
theorem dX0_green_20 : decode cX0_green 20 = .ok (.iconst 0, 1) := by decide +kernel
theorem dX0_green_21 : decode cX0_green 21 = .ok (.goto 4, 3) := by decide +kernel
theorem dX0_green_24 : decode cX0_green 24 = .ok (.iconst (-1), 1) := by decide +kernel
theorem dX0_green_25 : decode cX0_green 25 = .ok (.ireturn, 1) := by decide +kernel
theorem ycX0_green : yX0_green.cls ≠ "java/lang/invoke/MethodHandle" ∧ yX0_green.cls ≠ "java/lang/invoke/VarHandle" ∧ (parseMethodDescriptor yX0_green.desc).map (fun d => d.parameters.length) = some 1 := by decide +kernel
theorem yvX0_green : yX0_green.cls = RR 0 ∧ yX0_green.cls ≠ "java/lang/invoke/MethodHandle" ∧ yX0_green.cls ≠ "java/lang/invoke/VarHandle" ∧ (parseMethodDescriptor yX0_green.desc).map (fun d => d.parameters.length) = some 1 := ⟨rfl, ycX0_green⟩
noncomputable def f_X0_green (n : Nat) (p0 : Nat) (p1 : Int32) : Act Int32 :=
  bnd (gd 0 p0 (nt (f_X0_isHour p0 p1))) fun v1 =>
  jn (fun (v2 : Int32) =>
    pur v2) fun j25 =>
  if v1 = 0 then
    j25 (-1)
  else
    bnd (gd 0 p0 (nt (f_X0_isGreen n p0 p1))) fun v3 =>
    if v3 = 0 then
      j25 0
    else
      j25 1
set_option maxHeartbeats 4000000 in
theorem ct_X0_green (l : Launch) (n : Nat) (p0 : Nat) (p1 : Int32) : Ct l Pic yX0_green (ws_ yX0_green cX0_green 2 (some FieldType.int)) 163 3506 cvI [rv p0, .int p1] (f_X0_green n p0 p1) := by
  refine Ct.of (own := RX0) (L := [(0, rv p0), (1, .int p1)]) (plainFor_of_name (by decide)) rfl (by first | decide | simp [lg_sl, rv_cat, cat_i, cat_l]) (by first | rfl | simp [lv_args, rv_cat, cat_i, cat_l]) pcZ (fun X hXl hX hnh hin => ?_)
  subst hXl
  unfold f_X0_green
  refine s_aload_n hX dX0_green_0 rfl 0 rfl ?_
  refine s_iload_n hX dX0_green_1 rfl 1 rfl ?_
  refine s_callV_I (ci := 0) (n := 1) (As := [.int p1]) (st := []) hX (pcK 1) (by decide) (ct_X0_isHour X.l p0 p1) q1341 q1343 qs32 q84 q1344 yvX0_isHour (by decide) rfl (by first | decide | simp [rv_cat, cat_i, cat_l]) dX0_green_2 (fun v1 => ?_)
  refine s_jn (P := fun j => ∀ (v2 : Int32), Sim X cvI 25 [] [.int v2] (j v2)) ?_ (fun j25 hj25 => ?_)
  · intro v2
    exact s_iret hX dX0_green_25
  · refine s_if_eq (tgt := 24) hX dX0_green_5 (by decide) ?_ ?_
    · refine s_iconst (v := -1) hX dX0_green_24 (by decide) ?_
      exact s_sub [] rfl (hj25 (-1))
    · refine s_aload_n hX dX0_green_8 rfl 0 rfl ?_
      refine s_iload_n hX dX0_green_9 rfl 1 rfl ?_
      refine s_callV_I (ci := 0) (n := 1) (As := [.int p1]) (st := []) hX (pcK 1) (by decide) (ct_X0_isGreen X.l n p0 p1) q1346 q1348 qs33 q84 q1349 yvX0_isGreen (by decide) rfl (by first | decide | simp [rv_cat, cat_i, cat_l]) dX0_green_10 (fun v3 => ?_)
      refine s_if_eq (tgt := 20) hX dX0_green_13 (by decide) ?_ ?_
      · refine s_iconst (v := 0) hX dX0_green_20 rfl ?_
        refine s_goto (tgt := 25) hX dX0_green_21 (by decide) ?_
        exact s_sub [] rfl (hj25 0)
      · refine s_iconst (v := 1) hX dX0_green_16 rfl ?_
        refine s_goto (tgt := 25) hX dX0_green_17 (by decide) ?_
        exact s_sub [] rfl (hj25 1)
theorem dX0_tripAt_0 : decode cX0_tripAt 0 = .ok (.iload_n 1, 1) := by decide +kernel
theorem dX0_tripAt_1 : decode cX0_tripAt 1 = .ok (.i2l, 1) := by decide +kernel
theorem dX0_tripAt_2 : decode cX0_tripAt 2 = .ok (.lconst 0, 1) := by decide +kernel
theorem dX0_tripAt_3 : decode cX0_tripAt 3 = .ok (.aload_n 0, 1) := by decide +kernel
theorem dX0_tripAt_4 : decode cX0_tripAt 4 = .ok (.getfield 84, 3) := by decide +kernel
theorem dX0_tripAt_7 : decode cX0_tripAt 7 = .ok (.invokevirtual 124, 3) := by decide +kernel
theorem dX0_tripAt_10 : decode cX0_tripAt 10 = .ok (.iconst 1, 1) := by decide +kernel
theorem dX0_tripAt_11 : decode cX0_tripAt 11 = .ok (.isub, 1) := by decide +kernel
theorem dX0_tripAt_12 : decode cX0_tripAt 12 = .ok (.i2l, 1) := by decide +kernel
theorem dX0_tripAt_13 : decode cX0_tripAt 13 = .ok (.invokestatic 101, 3) := by decide +kernel
theorem dX0_tripAt_16 : decode cX0_tripAt 16 = .ok (.ifCond .eq 17, 3) := by decide +kernel
theorem dX0_tripAt_19 : decode cX0_tripAt 19 = .ok (.aload_n 0, 1) := by decide +kernel
theorem dX0_tripAt_20 : decode cX0_tripAt 20 = .ok (.getfield 84, 3) := by decide +kernel
theorem dX0_tripAt_23 : decode cX0_tripAt 23 = .ok (.iload_n 1, 1) := by decide +kernel
theorem dX0_tripAt_24 : decode cX0_tripAt 24 = .ok (.invokevirtual 128, 3) := by decide +kernel
theorem dX0_tripAt_27 : decode cX0_tripAt 27 = .ok (.checkcast 518, 3) := by decide +kernel
theorem dX0_tripAt_30 : decode cX0_tripAt 30 = .ok (.goto 4, 3) := by decide +kernel
theorem dX0_tripAt_33 : decode cX0_tripAt 33 = .ok (.aconst_null, 1) := by decide +kernel
theorem dX0_tripAt_34 : decode cX0_tripAt 34 = .ok (.areturn, 1) := by decide +kernel
theorem ycX0_tripAt : yX0_tripAt.cls ≠ "java/lang/invoke/MethodHandle" ∧ yX0_tripAt.cls ≠ "java/lang/invoke/VarHandle" ∧ (parseMethodDescriptor yX0_tripAt.desc).map (fun d => d.parameters.length) = some 1 := by decide +kernel
theorem yvX0_tripAt : yX0_tripAt.cls = RR 0 ∧ yX0_tripAt.cls ≠ "java/lang/invoke/MethodHandle" ∧ yX0_tripAt.cls ≠ "java/lang/invoke/VarHandle" ∧ (parseMethodDescriptor yX0_tripAt.desc).map (fun d => d.parameters.length) = some 1 := ⟨rfl, ycX0_tripAt⟩
noncomputable def f_X0_tripAt (p0 : Nat) (p1 : Int32) : Act Nat :=
  bnd (getR 0 37 p0) fun v1 =>
  bnd (gd 17 v1 (nt (P_size v1))) fun v2 =>
  bnd (nt (f_X0_isIn p1.toInt64 (0 : Int64) ((v2 - 1).toInt64))) fun v3 =>
  jn (fun (v4 : Nat) =>
    pur v4) fun j34 =>
  if v3 = 0 then
    j34 0
  else
    bnd (getR 0 37 p0) fun v5 =>
    bnd (gd 17 v5 (nt (P_get v5 p1))) fun v6 =>
    bnd (cst [8] v6) fun _ =>
    j34 v6
set_option maxHeartbeats 4000000 in
theorem ct_X0_tripAt (l : Launch) (p0 : Nat) (p1 : Int32) : Ct l Pic yX0_tripAt (ws_ yX0_tripAt cX0_tripAt 2 (some (FieldType.object "WindGas$Trip"))) 3 64 cvR [rv p0, .int p1] (f_X0_tripAt p0 p1) := by
  refine Ct.of (own := RX0) (L := [(0, rv p0), (1, .int p1)]) (plainFor_of_name (by decide)) rfl (by first | decide | simp [lg_sl, rv_cat, cat_i, cat_l]) (by first | rfl | simp [lv_args, rv_cat, cat_i, cat_l]) pcZ (fun X hXl hX hnh hin => ?_)
  subst hXl
  unfold f_X0_tripAt
  refine s_iload_n hX dX0_tripAt_0 rfl 1 rfl ?_
  refine s_i2l hX dX0_tripAt_1 ?_
  refine s_lconst (v := 0) hX dX0_tripAt_2 (by decide) ?_
  refine s_aload_n hX dX0_tripAt_3 rfl 0 rfl ?_
  refine s_getR (ci := 0) (j := 37) (ref := "WindGas") hX (pcG 0) in_X0 (Or.inl q303) (by decide) (by decide) (by decide) rfl dX0_tripAt_4 (fun _ h9 => h9) (fun v1 => ?_)
  refine s_callV_I (ci := 17) (n := 0) (As := []) (st := [.long 0, .long p1.toInt64]) hX (pcK 18) (by decide) (pt_size X.l v1) q554 q417 q418 q88 q419 yvJ2_size (by decide) rfl (by first | decide | simp [rv_cat, cat_i, cat_l]) dX0_tripAt_7 (fun v2 => ?_)
  refine s_iconst (v := 1) hX dX0_tripAt_10 rfl ?_
  refine s_isub hX dX0_tripAt_11 ?_
  refine s_i2l hX dX0_tripAt_12 ?_
  refine s_callS_I (n := 3) (As := [.long p1.toInt64, .long 0, .long (v2 - 1).toInt64]) (st := []) hX (ct_X0_isIn X.l p1.toInt64 (0 : Int64) ((v2 - 1).toInt64)) q400 q401 q84 q402 ycX0_isIn (by decide) rfl (by first | decide | simp [rv_cat, cat_i, cat_l]) dX0_tripAt_13 (fun v3 => ?_)
  refine s_jn (P := fun j => ∀ (v4 : Nat), Sim X cvR 34 [] [rv v4] (j v4)) ?_ (fun j34 hj34 => ?_)
  · intro v4
    exact s_aret hX (Or.inl ⟨_, rfl⟩) dX0_tripAt_34
  · refine s_if_eq (tgt := 33) hX dX0_tripAt_16 (by decide) ?_ ?_
    · refine s_null hX dX0_tripAt_33 ?_
      exact s_sub [] rfl (hj34 0)
    · refine s_aload_n hX dX0_tripAt_19 rfl 0 rfl ?_
      refine s_getR (ci := 0) (j := 37) (ref := "WindGas") hX (pcG 0) in_X0 (Or.inl q303) (by decide) (by decide) (by decide) rfl dX0_tripAt_20 (fun _ h9 => h9) (fun v5 => ?_)
      refine s_iload_n hX dX0_tripAt_23 rfl 1 rfl ?_
      refine s_callV_R (ci := 17) (n := 1) (As := [.int p1]) (st := []) hX (pcK 18) (by decide) (pt_get X.l v5 p1) q555 q516 q517 q88 q518 yvJ2_get (by decide) rfl (by first | decide | simp [rv_cat, cat_i, cat_l]) dX0_tripAt_24 (fun v6 => ?_)
      refine s_cast (ks := [8]) hX (elC 7 (by decide)) q1272 dX0_tripAt_27 ?_
      refine s_goto (tgt := 34) hX dX0_tripAt_30 (by decide) ?_
      exact s_sub [] rfl (hj34 v6)
theorem dX9_hour_0 : decode cX9_hour 0 = .ok (.aload_n 0, 1) := by decide +kernel
theorem dX9_hour_1 : decode cX9_hour 1 = .ok (.getfield 7, 3) := by decide +kernel
theorem dX9_hour_4 : decode cX9_hour 4 = .ok (.ireturn, 1) := by decide +kernel
theorem ycX9_hour : yX9_hour.cls ≠ "java/lang/invoke/MethodHandle" ∧ yX9_hour.cls ≠ "java/lang/invoke/VarHandle" ∧ (parseMethodDescriptor yX9_hour.desc).map (fun d => d.parameters.length) = some 0 := by decide +kernel
theorem yvX9_hour : yX9_hour.cls = RR 9 ∧ yX9_hour.cls ≠ "java/lang/invoke/MethodHandle" ∧ yX9_hour.cls ≠ "java/lang/invoke/VarHandle" ∧ (parseMethodDescriptor yX9_hour.desc).map (fun d => d.parameters.length) = some 0 := ⟨rfl, ycX9_hour⟩
noncomputable def f_X9_hour (p0 : Nat) : Act Int32 :=
  bnd (getI 9 0 p0) fun v1 =>
  pur v1
set_option maxHeartbeats 4000000 in
theorem ct_X9_hour (l : Launch) (p0 : Nat) : Ct l Pic yX9_hour (ws_ yX9_hour cX9_hour 1 (some FieldType.int)) 0 0 cvI [rv p0] (f_X9_hour p0) := by
  refine Ct.of (own := RX9) (L := [(0, rv p0)]) (plainFor_of_name (by decide)) rfl (by first | decide | simp [lg_sl, rv_cat, cat_i, cat_l]) (by first | rfl | simp [lv_args, rv_cat, cat_i, cat_l]) pcZ (fun X hXl hX hnh hin => ?_)
  subst hXl
  unfold f_X9_hour
  refine s_aload_n hX dX9_hour_0 rfl 0 rfl ?_
  refine s_getI (ci := 9) (j := 0) (ref := "WindGas$Sip") hX (pcG 9) in_X9 (Or.inl q1077) (by decide) (by decide) (by decide) rfl dX9_hour_1 (fun _ h9 => h9) (fun v1 => ?_)
  exact s_iret hX dX9_hour_4
theorem dX0_hoursOf_0 : decode cX0_hoursOf 0 = .ok (.iconst 0, 1) := by decide +kernel
theorem dX0_hoursOf_1 : decode cX0_hoursOf 1 = .ok (.istore_n 1, 1) := by decide +kernel
theorem dX0_hoursOf_2 : decode cX0_hoursOf 2 = .ok (.iconst 0, 1) := by decide +kernel
theorem dX0_hoursOf_3 : decode cX0_hoursOf 3 = .ok (.istore_n 2, 1) := by decide +kernel
theorem dX0_hoursOf_4 : decode cX0_hoursOf 4 = .ok (.iload_n 2, 1) := by decide +kernel
theorem dX0_hoursOf_5 : decode cX0_hoursOf 5 = .ok (.aload_n 0, 1) := by decide +kernel
theorem dX0_hoursOf_6 : decode cX0_hoursOf 6 = .ok (.getfield 562, 3) := by decide +kernel
theorem dX0_hoursOf_9 : decode cX0_hoursOf 9 = .ok (.invokevirtual 124, 3) := by decide +kernel
theorem dX0_hoursOf_12 : decode cX0_hoursOf 12 = .ok (.if_icmp .ge 78, 3) := by decide +kernel
theorem dX0_hoursOf_15 : decode cX0_hoursOf 15 = .ok (.iconst 1, 1) := by decide +kernel
theorem dX0_hoursOf_16 : decode cX0_hoursOf 16 = .ok (.istore_n 3, 1) := by decide +kernel
theorem dX0_hoursOf_17 : decode cX0_hoursOf 17 = .ok (.iconst 0, 1) := by decide +kernel
theorem dX0_hoursOf_18 : decode cX0_hoursOf 18 = .ok (.istore 4, 2) := by decide +kernel
theorem dX0_hoursOf_20 : decode cX0_hoursOf 20 = .ok (.iload 4, 2) := by decide +kernel
theorem dX0_hoursOf_22 : decode cX0_hoursOf 22 = .ok (.iload_n 2, 1) := by decide +kernel
theorem dX0_hoursOf_23 : decode cX0_hoursOf 23 = .ok (.if_icmp .ge 49, 3) := by decide +kernel
theorem dX0_hoursOf_26 : decode cX0_hoursOf 26 = .ok (.iload_n 3, 1) := by decide +kernel
theorem dX0_hoursOf_27 : decode cX0_hoursOf 27 = .ok (.aload_n 0, 1) := by decide +kernel
theorem dX0_hoursOf_28 : decode cX0_hoursOf 28 = .ok (.getfield 562, 3) := by decide +kernel
theorem dX0_hoursOf_31 : decode cX0_hoursOf 31 = .ok (.iload 4, 2) := by decide +kernel
theorem dX0_hoursOf_33 : decode cX0_hoursOf 33 = .ok (.invokevirtual 128, 3) := by decide +kernel
theorem dX0_hoursOf_36 : decode cX0_hoursOf 36 = .ok (.checkcast 565, 3) := by decide +kernel
theorem dX0_hoursOf_39 : decode cX0_hoursOf 39 = .ok (.invokevirtual 567, 3) := by decide +kernel
theorem dX0_hoursOf_42 : decode cX0_hoursOf 42 = .ok (.aload_n 0, 1) := by decide +kernel
theorem dX0_hoursOf_43 : decode cX0_hoursOf 43 = .ok (.getfield 562, 3) := by decide +kernel
theorem dX0_hoursOf_46 : decode cX0_hoursOf 46 = .ok (.iload_n 2, 1) := by decide +kernel
theorem dX0_hoursOf_47 : decode cX0_hoursOf 47 = .ok (.invokevirtual 128, 3) := by decide +kernel
theorem dX0_hoursOf_50 : decode cX0_hoursOf 50 = .ok (.checkcast 565, 3) := by decide +kernel
theorem dX0_hoursOf_53 : decode cX0_hoursOf 53 = .ok (.invokevirtual 567, 3) := by decide +kernel
theorem dX0_hoursOf_56 : decode cX0_hoursOf 56 = .ok (.if_icmp .eq 7, 3) := by decide +kernel
theorem dX0_hoursOf_59 : decode cX0_hoursOf 59 = .ok (.iconst 1, 1) := by decide +kernel
theorem dX0_hoursOf_60 : decode cX0_hoursOf 60 = .ok (.goto 4, 3) := by decide +kernel
theorem dX0_hoursOf_63 : decode cX0_hoursOf 63 = .ok (.iconst 0, 1) := by decide +kernel
theorem dX0_hoursOf_64 : decode cX0_hoursOf 64 = .ok (.iand, 1) := by decide +kernel
theorem dX0_hoursOf_65 : decode cX0_hoursOf 65 = .ok (.istore_n 3, 1) := by decide +kernel
theorem dX0_hoursOf_66 : decode cX0_hoursOf 66 = .ok (.iinc 4 1, 3) := by decide +kernel
theorem dX0_hoursOf_69 : decode cX0_hoursOf 69 = .ok (.goto (-49), 3) := by decide +kernel
theorem dX0_hoursOf_72 : decode cX0_hoursOf 72 = .ok (.iload_n 1, 1) := by decide +kernel
theorem dX0_hoursOf_73 : decode cX0_hoursOf 73 = .ok (.iload_n 3, 1) := by decide +kernel
theorem dX0_hoursOf_74 : decode cX0_hoursOf 74 = .ok (.ifCond .eq 7, 3) := by decide +kernel
theorem dX0_hoursOf_77 : decode cX0_hoursOf 77 = .ok (.iconst 1, 1) := by decide +kernel
theorem dX0_hoursOf_78 : decode cX0_hoursOf 78 = .ok (.goto 4, 3) := by decide +kernel
theorem dX0_hoursOf_81 : decode cX0_hoursOf 81 = .ok (.iconst 0, 1) := by decide +kernel
theorem dX0_hoursOf_82 : decode cX0_hoursOf 82 = .ok (.iadd, 1) := by decide +kernel
theorem dX0_hoursOf_83 : decode cX0_hoursOf 83 = .ok (.istore_n 1, 1) := by decide +kernel
theorem dX0_hoursOf_84 : decode cX0_hoursOf 84 = .ok (.iinc 2 1, 3) := by decide +kernel
theorem dX0_hoursOf_87 : decode cX0_hoursOf 87 = .ok (.goto (-83), 3) := by decide +kernel
theorem dX0_hoursOf_90 : decode cX0_hoursOf 90 = .ok (.iload_n 1, 1) := by decide +kernel
theorem dX0_hoursOf_91 : decode cX0_hoursOf 91 = .ok (.ireturn, 1) := by decide +kernel
theorem ycX0_hoursOf : yX0_hoursOf.cls ≠ "java/lang/invoke/MethodHandle" ∧ yX0_hoursOf.cls ≠ "java/lang/invoke/VarHandle" ∧ (parseMethodDescriptor yX0_hoursOf.desc).map (fun d => d.parameters.length) = some 1 := by decide +kernel
noncomputable def lp_X0_hoursOf_20 (p0 : Nat) (w1 : Int32) (w2 : Int32) (j72 : Int32 → Act Int32) (q : Nat) : Int32 → Int32 → Act Int32 := match q with
  | 0 => fun _ _ => fail
  | q + 1 => fun w5 w6 =>
    if w2 ≤ w6 then
      j72 w5
    else
      bnd (getR 7 3 p0) fun v9 =>
      bnd (gd 17 v9 (nt (P_get v9 w6))) fun v10 =>
      bnd (cst [10] v10) fun _ =>
      bnd (gd 9 v10 (nt (f_X9_hour v10))) fun v11 =>
      bnd (getR 7 3 p0) fun v12 =>
      bnd (gd 17 v12 (nt (P_get v12 w2))) fun v13 =>
      bnd (cst [10] v13) fun _ =>
      bnd (gd 9 v13 (nt (f_X9_hour v13))) fun v14 =>
      jn (fun (v15 : Int32) =>
        (lp_X0_hoursOf_20 p0 w1 w2 j72 q) (w5 &&& v15) (w6 + 1)) fun j64 =>
      if v11 = v14 then
        j64 0
      else
        j64 1
noncomputable def lp_X0_hoursOf_4 (n : Nat) (p0 : Nat) (q : Nat) : Int32 → Int32 → Act Int32 := match q with
  | 0 => fun _ _ => fail
  | q + 1 => fun w1 w2 =>
    bnd (getR 7 3 p0) fun v3 =>
    bnd (gd 17 v3 (nt (P_size v3))) fun v4 =>
    if v4 ≤ w2 then
      pur w1
    else
      jn (fun (v7 : Int32) =>
        jn (fun (v8 : Int32) =>
          (lp_X0_hoursOf_4 n p0 q) (w1 + v8) (w2 + 1)) fun j82 =>
        if v7 = 0 then
          j82 0
        else
          j82 1) fun j72 =>
      lp_X0_hoursOf_20 p0 w1 w2 j72 n 1 0
noncomputable def f_X0_hoursOf (n : Nat) (p0 : Nat) : Act Int32 :=
  lp_X0_hoursOf_4 n p0 n 0 0
set_option maxHeartbeats 4000000 in
theorem s_lp_X0_hoursOf_20 {X : Cx} (hX : Ok X Pic cX0_hoursOf RX0 5 (some FieldType.int) 3 64) (hnh : Noh X) (p0 : Nat) (w1 : Int32) (w2 : Int32) (j72 : Int32 → Act Int32) (hj72 : ∀ (v7 : Int32), Sim X cvI 72 [(0, rv p0), (1, .int w1), (2, .int w2), (3, .int v7)] [] (j72 v7)) (q : Nat) : ∀ (w5 : Int32) (w6 : Int32), Sim X cvI 20 [(0, rv p0), (1, .int w1), (2, .int w2), (3, .int w5), (4, .int w6)] [] (lp_X0_hoursOf_20 p0 w1 w2 j72 q w5 w6) := by
  induction q with
  | zero => intro w5 w6; exact s_fail
  | succ q ih20 =>
    intro w5 w6
    rw [lp_X0_hoursOf_20]
    refine s_iload hX dX0_hoursOf_20 4 rfl ?_
    refine s_iload_n hX dX0_hoursOf_22 rfl 2 rfl ?_
    refine s_icmp_ge (tgt := 72) hX dX0_hoursOf_23 (by decide) ?_ ?_
    · exact s_sub [0, 1, 2, 3] rfl (hj72 w5)
    · refine s_iload_n hX dX0_hoursOf_26 rfl 3 rfl ?_
      refine s_aload_n hX dX0_hoursOf_27 rfl 0 rfl ?_
      refine s_getR (ci := 7) (j := 3) (ref := "WindGas$Trip") hX (pcG 7) in_X7 (Or.inr ⟨_, q1317⟩) (by decide) (by decide) (by decide) rfl dX0_hoursOf_28 (fun _ h9 => h9) (fun v9 => ?_)
      refine s_iload hX dX0_hoursOf_31 4 rfl ?_
      refine s_callV_R (ci := 17) (n := 1) (As := [.int w6]) (st := [.int w5]) hX (pcK 18) (by decide) (pt_get X.l v9 w6) q555 q516 q517 q88 q518 yvJ2_get (by decide) rfl (by first | decide | simp [rv_cat, cat_i, cat_l]) dX0_hoursOf_33 (fun v10 => ?_)
      refine s_cast (ks := [10]) hX (elC 9 (by decide)) q1362 dX0_hoursOf_36 ?_
      refine s_callV_I (ci := 9) (n := 0) (As := []) (st := [.int w5]) hX (pcK 10) (by decide) (ct_X9_hour X.l v10) q1363 q1364 q1365 q103 q1366 yvX9_hour (by decide) rfl (by first | decide | simp [rv_cat, cat_i, cat_l]) dX0_hoursOf_39 (fun v11 => ?_)
      refine s_aload_n hX dX0_hoursOf_42 rfl 0 rfl ?_
      refine s_getR (ci := 7) (j := 3) (ref := "WindGas$Trip") hX (pcG 7) in_X7 (Or.inr ⟨_, q1317⟩) (by decide) (by decide) (by decide) rfl dX0_hoursOf_43 (fun _ h9 => h9) (fun v12 => ?_)
      refine s_iload_n hX dX0_hoursOf_46 rfl 2 rfl ?_
      refine s_callV_R (ci := 17) (n := 1) (As := [.int w2]) (st := [.int v11, .int w5]) hX (pcK 18) (by decide) (pt_get X.l v12 w2) q555 q516 q517 q88 q518 yvJ2_get (by decide) rfl (by first | decide | simp [rv_cat, cat_i, cat_l]) dX0_hoursOf_47 (fun v13 => ?_)
      refine s_cast (ks := [10]) hX (elC 9 (by decide)) q1362 dX0_hoursOf_50 ?_
      refine s_callV_I (ci := 9) (n := 0) (As := []) (st := [.int v11, .int w5]) hX (pcK 10) (by decide) (ct_X9_hour X.l v13) q1363 q1364 q1365 q103 q1366 yvX9_hour (by decide) rfl (by first | decide | simp [rv_cat, cat_i, cat_l]) dX0_hoursOf_53 (fun v14 => ?_)
      refine s_jn (P := fun j => ∀ (v15 : Int32), Sim X cvI 64 [(0, rv p0), (1, .int w1), (2, .int w2), (4, .int w6)] [.int v15, .int w5] (j v15)) ?_ (fun j64 hj64 => ?_)
      · intro v15
        refine s_iand hX dX0_hoursOf_64 ?_
        refine s_istore_n (i := 3) (L2 := [(3, .int (w5 &&& v15)), (0, rv p0), (1, .int w1), (2, .int w2), (4, .int w6)]) hX dX0_hoursOf_65 rfl (by decide) rfl ?_
        refine s_iinc (k := 4) (v := (w6 + 1)) (L2 := [(4, .int (w6 + 1)), (3, .int (w5 &&& v15)), (0, rv p0), (1, .int w1), (2, .int w2)]) hX dX0_hoursOf_66 rfl rfl (by decide) rfl ?_
        refine s_goto (tgt := 20) hX dX0_hoursOf_69 (by decide) ?_
        exact s_sub [2, 3, 4, 1, 0] rfl (ih20 (w5 &&& v15) (w6 + 1))
      · refine s_icmp_eq (tgt := 63) hX dX0_hoursOf_56 (by decide) ?_ ?_
        · refine s_iconst (v := 0) hX dX0_hoursOf_63 rfl ?_
          exact s_sub [0, 1, 2, 4] rfl (hj64 0)
        · refine s_iconst (v := 1) hX dX0_hoursOf_59 rfl ?_
          refine s_goto (tgt := 64) hX dX0_hoursOf_60 (by decide) ?_
          exact s_sub [0, 1, 2, 4] rfl (hj64 1)
set_option maxHeartbeats 4000000 in
theorem s_lp_X0_hoursOf_4 {X : Cx} (hX : Ok X Pic cX0_hoursOf RX0 5 (some FieldType.int) 3 64) (hnh : Noh X) (n : Nat) (p0 : Nat) (q : Nat) : ∀ (w1 : Int32) (w2 : Int32), Sim X cvI 4 [(0, rv p0), (1, .int w1), (2, .int w2)] [] (lp_X0_hoursOf_4 n p0 q w1 w2) := by
  induction q with
  | zero => intro w1 w2; exact s_fail
  | succ q ih4 =>
    intro w1 w2
    rw [lp_X0_hoursOf_4]
    refine s_iload_n hX dX0_hoursOf_4 rfl 2 rfl ?_
    refine s_aload_n hX dX0_hoursOf_5 rfl 0 rfl ?_
    refine s_getR (ci := 7) (j := 3) (ref := "WindGas$Trip") hX (pcG 7) in_X7 (Or.inr ⟨_, q1317⟩) (by decide) (by decide) (by decide) rfl dX0_hoursOf_6 (fun _ h9 => h9) (fun v3 => ?_)
    refine s_callV_I (ci := 17) (n := 0) (As := []) (st := [.int w2]) hX (pcK 18) (by decide) (pt_size X.l v3) q554 q417 q418 q88 q419 yvJ2_size (by decide) rfl (by first | decide | simp [rv_cat, cat_i, cat_l]) dX0_hoursOf_9 (fun v4 => ?_)
    refine s_icmp_ge (tgt := 90) hX dX0_hoursOf_12 (by decide) ?_ ?_
    · refine s_iload_n hX dX0_hoursOf_90 rfl 1 rfl ?_
      exact s_iret hX dX0_hoursOf_91
    · refine s_iconst (v := 1) hX dX0_hoursOf_15 rfl ?_
      refine s_istore_n (i := 3) (L2 := [(3, .int 1), (0, rv p0), (1, .int w1), (2, .int w2)]) hX dX0_hoursOf_16 rfl (by decide) rfl ?_
      refine s_iconst (v := 0) hX dX0_hoursOf_17 rfl ?_
      refine s_istore (i := 4) (L2 := [(4, .int 0), (3, .int 1), (0, rv p0), (1, .int w1), (2, .int w2)]) hX dX0_hoursOf_18 (by decide) rfl ?_
      refine s_jn (P := fun j => ∀ (v7 : Int32), Sim X cvI 72 [(0, rv p0), (1, .int w1), (2, .int w2), (3, .int v7)] [] (j v7)) ?_ (fun j72 hj72 => ?_)
      · intro v7
        refine s_iload_n hX dX0_hoursOf_72 rfl 1 rfl ?_
        refine s_iload_n hX dX0_hoursOf_73 rfl 3 rfl ?_
        refine s_jn (P := fun j => ∀ (v8 : Int32), Sim X cvI 82 [(0, rv p0), (2, .int w2)] [.int v8, .int w1] (j v8)) ?_ (fun j82 hj82 => ?_)
        · intro v8
          refine s_iadd hX dX0_hoursOf_82 ?_
          refine s_istore_n (i := 1) (L2 := [(1, .int (w1 + v8)), (0, rv p0), (2, .int w2)]) hX dX0_hoursOf_83 rfl (by decide) (by first | (simp [rv_cat, cat_i, cat_l]; done) | (simp [rv_cat, cat_i, cat_l]; decide)) ?_
          refine s_iinc (k := 2) (v := (w2 + 1)) (L2 := [(2, .int (w2 + 1)), (1, .int (w1 + v8)), (0, rv p0)]) hX dX0_hoursOf_84 rfl rfl (by decide) rfl ?_
          refine s_goto (tgt := 4) hX dX0_hoursOf_87 (by decide) ?_
          exact s_sub [2, 1, 0] rfl (ih4 (w1 + v8) (w2 + 1))
        · refine s_if_eq (tgt := 81) hX dX0_hoursOf_74 (by decide) ?_ ?_
          · refine s_iconst (v := 0) hX dX0_hoursOf_81 rfl ?_
            exact s_sub [0, 2] rfl (hj82 0)
          · refine s_iconst (v := 1) hX dX0_hoursOf_77 rfl ?_
            refine s_goto (tgt := 82) hX dX0_hoursOf_78 (by decide) ?_
            exact s_sub [0, 2] rfl (hj82 1)
      · exact s_sub [2, 3, 4, 1, 0] rfl (s_lp_X0_hoursOf_20 hX hnh p0 w1 w2 j72 hj72 n 1 0)
set_option maxHeartbeats 4000000 in
theorem ct_X0_hoursOf (l : Launch) (n : Nat) (p0 : Nat) : Ct l Pic yX0_hoursOf (ws_ yX0_hoursOf cX0_hoursOf 5 (some FieldType.int)) 3 64 cvI [rv p0] (f_X0_hoursOf n p0) := by
  refine Ct.of (own := RX0) (L := [(0, rv p0)]) (plainFor_of_name (by decide)) rfl (by first | decide | simp [lg_sl, rv_cat, cat_i, cat_l]) (by first | rfl | simp [lv_args, rv_cat, cat_i, cat_l]) pcZ (fun X hXl hX hnh hin => ?_)
  subst hXl
  unfold f_X0_hoursOf
  refine s_iconst (v := 0) hX dX0_hoursOf_0 rfl ?_
  refine s_istore_n (i := 1) (L2 := [(1, .int 0), (0, rv p0)]) hX dX0_hoursOf_1 rfl (by decide) (by first | (simp [rv_cat, cat_i, cat_l]; done) | (simp [rv_cat, cat_i, cat_l]; decide)) ?_
  refine s_iconst (v := 0) hX dX0_hoursOf_2 rfl ?_
  refine s_istore_n (i := 2) (L2 := [(2, .int 0), (1, .int 0), (0, rv p0)]) hX dX0_hoursOf_3 rfl (by decide) rfl ?_
  exact s_sub [2, 1, 0] rfl (s_lp_X0_hoursOf_4 hX hnh n p0 n 0 0)
theorem dX9_grams_0 : decode cX9_grams 0 = .ok (.aload_n 0, 1) := by decide +kernel
theorem dX9_grams_1 : decode cX9_grams 1 = .ok (.getfield 13, 3) := by decide +kernel
theorem dX9_grams_4 : decode cX9_grams 4 = .ok (.ireturn, 1) := by decide +kernel
theorem ycX9_grams : yX9_grams.cls ≠ "java/lang/invoke/MethodHandle" ∧ yX9_grams.cls ≠ "java/lang/invoke/VarHandle" ∧ (parseMethodDescriptor yX9_grams.desc).map (fun d => d.parameters.length) = some 0 := by decide +kernel
theorem yvX9_grams : yX9_grams.cls = RR 9 ∧ yX9_grams.cls ≠ "java/lang/invoke/MethodHandle" ∧ yX9_grams.cls ≠ "java/lang/invoke/VarHandle" ∧ (parseMethodDescriptor yX9_grams.desc).map (fun d => d.parameters.length) = some 0 := ⟨rfl, ycX9_grams⟩
noncomputable def f_X9_grams (p0 : Nat) : Act Int32 :=
  bnd (getI 9 1 p0) fun v1 =>
  pur v1
set_option maxHeartbeats 4000000 in
theorem ct_X9_grams (l : Launch) (p0 : Nat) : Ct l Pic yX9_grams (ws_ yX9_grams cX9_grams 1 (some FieldType.int)) 0 0 cvI [rv p0] (f_X9_grams p0) := by
  refine Ct.of (own := RX9) (L := [(0, rv p0)]) (plainFor_of_name (by decide)) rfl (by first | decide | simp [lg_sl, rv_cat, cat_i, cat_l]) (by first | rfl | simp [lv_args, rv_cat, cat_i, cat_l]) pcZ (fun X hXl hX hnh hin => ?_)
  subst hXl
  unfold f_X9_grams
  refine s_aload_n hX dX9_grams_0 rfl 0 rfl ?_
  refine s_getI (ci := 9) (j := 1) (ref := "WindGas$Sip") hX (pcG 9) in_X9 (Or.inl q1078) (by decide) (by decide) (by decide) rfl dX9_grams_1 (fun _ h9 => h9) (fun v1 => ?_)
  exact s_iret hX dX9_grams_4
theorem dX0_proved_0 : decode cX0_proved 0 = .ok (.iconst 0, 1) := by decide +kernel
theorem dX0_proved_1 : decode cX0_proved 1 = .ok (.istore_n 2, 1) := by decide +kernel
theorem dX0_proved_2 : decode cX0_proved 2 = .ok (.iconst 0, 1) := by decide +kernel
theorem dX0_proved_3 : decode cX0_proved 3 = .ok (.istore_n 3, 1) := by decide +kernel
theorem dX0_proved_4 : decode cX0_proved 4 = .ok (.iload_n 3, 1) := by decide +kernel
theorem dX0_proved_5 : decode cX0_proved 5 = .ok (.aload_n 1, 1) := by decide +kernel
theorem dX0_proved_6 : decode cX0_proved 6 = .ok (.getfield 562, 3) := by decide +kernel
theorem dX0_proved_9 : decode cX0_proved 9 = .ok (.invokevirtual 124, 3) := by decide +kernel
theorem dX0_proved_12 : decode cX0_proved 12 = .ok (.if_icmp .ge 51, 3) := by decide +kernel
theorem dX0_proved_15 : decode cX0_proved 15 = .ok (.iload_n 2, 1) := by decide +kernel
theorem dX0_proved_16 : decode cX0_proved 16 = .ok (.aload_n 0, 1) := by decide +kernel
theorem dX0_proved_17 : decode cX0_proved 17 = .ok (.aload_n 1, 1) := by decide +kernel
theorem dX0_proved_18 : decode cX0_proved 18 = .ok (.getfield 562, 3) := by decide +kernel
theorem dX0_proved_21 : decode cX0_proved 21 = .ok (.iload_n 3, 1) := by decide +kernel
theorem dX0_proved_22 : decode cX0_proved 22 = .ok (.invokevirtual 128, 3) := by decide +kernel
theorem dX0_proved_25 : decode cX0_proved 25 = .ok (.checkcast 565, 3) := by decide +kernel
theorem dX0_proved_28 : decode cX0_proved 28 = .ok (.invokevirtual 567, 3) := by decide +kernel
theorem dX0_proved_31 : decode cX0_proved 31 = .ok (.invokevirtual 559, 3) := by decide +kernel
theorem dX0_proved_34 : decode cX0_proved 34 = .ok (.ifCond .eq 20, 3) := by decide +kernel
theorem dX0_proved_37 : decode cX0_proved 37 = .ok (.aload_n 1, 1) := by decide +kernel
theorem dX0_proved_38 : decode cX0_proved 38 = .ok (.getfield 562, 3) := by decide +kernel
theorem dX0_proved_41 : decode cX0_proved 41 = .ok (.iload_n 3, 1) := by decide +kernel
theorem dX0_proved_42 : decode cX0_proved 42 = .ok (.invokevirtual 128, 3) := by decide +kernel
theorem dX0_proved_45 : decode cX0_proved 45 = .ok (.checkcast 565, 3) := by decide +kernel
theorem dX0_proved_48 : decode cX0_proved 48 = .ok (.invokevirtual 569, 3) := by decide +kernel
theorem dX0_proved_51 : decode cX0_proved 51 = .ok (.goto 4, 3) := by decide +kernel
theorem dX0_proved_54 : decode cX0_proved 54 = .ok (.iconst 0, 1) := by decide +kernel
theorem dX0_proved_55 : decode cX0_proved 55 = .ok (.iadd, 1) := by decide +kernel
theorem dX0_proved_56 : decode cX0_proved 56 = .ok (.istore_n 2, 1) := by decide +kernel
theorem dX0_proved_57 : decode cX0_proved 57 = .ok (.iinc 3 1, 3) := by decide +kernel
theorem dX0_proved_60 : decode cX0_proved 60 = .ok (.goto (-56), 3) := by decide +kernel
theorem dX0_proved_63 : decode cX0_proved 63 = .ok (.iload_n 2, 1) := by decide +kernel
theorem dX0_proved_64 : decode cX0_proved 64 = .ok (.ireturn, 1) := by decide +kernel
theorem ycX0_proved : yX0_proved.cls ≠ "java/lang/invoke/MethodHandle" ∧ yX0_proved.cls ≠ "java/lang/invoke/VarHandle" ∧ (parseMethodDescriptor yX0_proved.desc).map (fun d => d.parameters.length) = some 1 := by decide +kernel
theorem yvX0_proved : yX0_proved.cls = RR 0 ∧ yX0_proved.cls ≠ "java/lang/invoke/MethodHandle" ∧ yX0_proved.cls ≠ "java/lang/invoke/VarHandle" ∧ (parseMethodDescriptor yX0_proved.desc).map (fun d => d.parameters.length) = some 1 := ⟨rfl, ycX0_proved⟩
noncomputable def lp_X0_proved_4 (n : Nat) (p0 : Nat) (p1 : Nat) (q : Nat) : Int32 → Int32 → Act Int32 := match q with
  | 0 => fun _ _ => fail
  | q + 1 => fun w1 w2 =>
    bnd (getR 7 3 p1) fun v3 =>
    bnd (gd 17 v3 (nt (P_size v3))) fun v4 =>
    if v4 ≤ w2 then
      pur w1
    else
      bnd (getR 7 3 p1) fun v5 =>
      bnd (gd 17 v5 (nt (P_get v5 w2))) fun v6 =>
      bnd (cst [10] v6) fun _ =>
      bnd (gd 9 v6 (nt (f_X9_hour v6))) fun v7 =>
      bnd (gd 0 p0 (nt (f_X0_isGreen n p0 v7))) fun v8 =>
      jn (fun (v9 : Int32) =>
        (lp_X0_proved_4 n p0 p1 q) (w1 + v9) (w2 + 1)) fun j55 =>
      if v8 = 0 then
        j55 0
      else
        bnd (getR 7 3 p1) fun v10 =>
        bnd (gd 17 v10 (nt (P_get v10 w2))) fun v11 =>
        bnd (cst [10] v11) fun _ =>
        bnd (gd 9 v11 (nt (f_X9_grams v11))) fun v12 =>
        j55 v12
noncomputable def f_X0_proved (n : Nat) (p0 : Nat) (p1 : Nat) : Act Int32 :=
  lp_X0_proved_4 n p0 p1 n 0 0
set_option maxHeartbeats 4000000 in
theorem s_lp_X0_proved_4 {X : Cx} (hX : Ok X Pic cX0_proved RX0 4 (some FieldType.int) 163 3506) (hnh : Noh X) (n : Nat) (p0 : Nat) (p1 : Nat) (q : Nat) : ∀ (w1 : Int32) (w2 : Int32), Sim X cvI 4 [(0, rv p0), (1, rv p1), (2, .int w1), (3, .int w2)] [] (lp_X0_proved_4 n p0 p1 q w1 w2) := by
  induction q with
  | zero => intro w1 w2; exact s_fail
  | succ q ih4 =>
    intro w1 w2
    rw [lp_X0_proved_4]
    refine s_iload_n hX dX0_proved_4 rfl 3 rfl ?_
    refine s_aload_n hX dX0_proved_5 rfl 1 rfl ?_
    refine s_getR (ci := 7) (j := 3) (ref := "WindGas$Trip") hX (pcG 7) in_X7 (Or.inr ⟨_, q1317⟩) (by decide) (by decide) (by decide) rfl dX0_proved_6 (fun _ h9 => h9) (fun v3 => ?_)
    refine s_callV_I (ci := 17) (n := 0) (As := []) (st := [.int w2]) hX (pcK 18) (by decide) (pt_size X.l v3) q554 q417 q418 q88 q419 yvJ2_size (by decide) rfl (by first | decide | simp [rv_cat, cat_i, cat_l]) dX0_proved_9 (fun v4 => ?_)
    refine s_icmp_ge (tgt := 63) hX dX0_proved_12 (by decide) ?_ ?_
    · refine s_iload_n hX dX0_proved_63 rfl 2 rfl ?_
      exact s_iret hX dX0_proved_64
    · refine s_iload_n hX dX0_proved_15 rfl 2 rfl ?_
      refine s_aload_n hX dX0_proved_16 rfl 0 rfl ?_
      refine s_aload_n hX dX0_proved_17 rfl 1 rfl ?_
      refine s_getR (ci := 7) (j := 3) (ref := "WindGas$Trip") hX (pcG 7) in_X7 (Or.inr ⟨_, q1317⟩) (by decide) (by decide) (by decide) rfl dX0_proved_18 (fun _ h9 => h9) (fun v5 => ?_)
      refine s_iload_n hX dX0_proved_21 rfl 3 rfl ?_
      refine s_callV_R (ci := 17) (n := 1) (As := [.int w2]) (st := [rv p0, .int w1]) hX (pcK 18) (by decide) (pt_get X.l v5 w2) q555 q516 q517 q88 q518 yvJ2_get (by decide) rfl (by first | decide | simp [rv_cat, cat_i, cat_l]) dX0_proved_22 (fun v6 => ?_)
      refine s_cast (ks := [10]) hX (elC 9 (by decide)) q1362 dX0_proved_25 ?_
      refine s_callV_I (ci := 9) (n := 0) (As := []) (st := [rv p0, .int w1]) hX (pcK 10) (by decide) (ct_X9_hour X.l v6) q1363 q1364 q1365 q103 q1366 yvX9_hour (by decide) rfl (by first | decide | simp [rv_cat, cat_i, cat_l]) dX0_proved_28 (fun v7 => ?_)
      refine s_callV_I (ci := 0) (n := 1) (As := [.int v7]) (st := [.int w1]) hX (pcK 1) (by decide) (ct_X0_isGreen X.l n p0 v7) q1346 q1348 qs33 q84 q1349 yvX0_isGreen (by decide) rfl (by first | decide | simp [rv_cat, cat_i, cat_l]) dX0_proved_31 (fun v8 => ?_)
      refine s_jn (P := fun j => ∀ (v9 : Int32), Sim X cvI 55 [(0, rv p0), (1, rv p1), (3, .int w2)] [.int v9, .int w1] (j v9)) ?_ (fun j55 hj55 => ?_)
      · intro v9
        refine s_iadd hX dX0_proved_55 ?_
        refine s_istore_n (i := 2) (L2 := [(2, .int (w1 + v9)), (0, rv p0), (1, rv p1), (3, .int w2)]) hX dX0_proved_56 rfl (by decide) (by first | (simp [rv_cat, cat_i, cat_l]; done) | (simp [rv_cat, cat_i, cat_l]; decide)) ?_
        refine s_iinc (k := 3) (v := (w2 + 1)) (L2 := [(3, .int (w2 + 1)), (2, .int (w1 + v9)), (0, rv p0), (1, rv p1)]) hX dX0_proved_57 rfl rfl (by decide) rfl ?_
        refine s_goto (tgt := 4) hX dX0_proved_60 (by decide) ?_
        exact s_sub [2, 3, 1, 0] rfl (ih4 (w1 + v9) (w2 + 1))
      · refine s_if_eq (tgt := 54) hX dX0_proved_34 (by decide) ?_ ?_
        · refine s_iconst (v := 0) hX dX0_proved_54 rfl ?_
          exact s_sub [0, 1, 3] rfl (hj55 0)
        · refine s_aload_n hX dX0_proved_37 rfl 1 rfl ?_
          refine s_getR (ci := 7) (j := 3) (ref := "WindGas$Trip") hX (pcG 7) in_X7 (Or.inr ⟨_, q1317⟩) (by decide) (by decide) (by decide) rfl dX0_proved_38 (fun _ h9 => h9) (fun v10 => ?_)
          refine s_iload_n hX dX0_proved_41 rfl 3 rfl ?_
          refine s_callV_R (ci := 17) (n := 1) (As := [.int w2]) (st := [.int w1]) hX (pcK 18) (by decide) (pt_get X.l v10 w2) q555 q516 q517 q88 q518 yvJ2_get (by decide) rfl (by first | decide | simp [rv_cat, cat_i, cat_l]) dX0_proved_42 (fun v11 => ?_)
          refine s_cast (ks := [10]) hX (elC 9 (by decide)) q1362 dX0_proved_45 ?_
          refine s_callV_I (ci := 9) (n := 0) (As := []) (st := [.int w1]) hX (pcK 10) (by decide) (ct_X9_grams X.l v11) q1367 q1368 q1369 q103 q1370 yvX9_grams (by decide) rfl (by first | decide | simp [rv_cat, cat_i, cat_l]) dX0_proved_48 (fun v12 => ?_)
          refine s_goto (tgt := 55) hX dX0_proved_51 (by decide) ?_
          exact s_sub [0, 1, 3] rfl (hj55 v12)
set_option maxHeartbeats 4000000 in
theorem ct_X0_proved (l : Launch) (n : Nat) (p0 : Nat) (p1 : Nat) : Ct l Pic yX0_proved (ws_ yX0_proved cX0_proved 4 (some FieldType.int)) 163 3506 cvI [rv p0, rv p1] (f_X0_proved n p0 p1) := by
  refine Ct.of (own := RX0) (L := [(0, rv p0), (1, rv p1)]) (plainFor_of_name (by decide)) rfl (by first | decide | simp [lg_sl, rv_cat, cat_i, cat_l]) (by first | rfl | simp [lv_args, rv_cat, cat_i, cat_l]) pcZ (fun X hXl hX hnh hin => ?_)
  subst hXl
  unfold f_X0_proved
  refine s_iconst (v := 0) hX dX0_proved_0 rfl ?_
  refine s_istore_n (i := 2) (L2 := [(2, .int 0), (0, rv p0), (1, rv p1)]) hX dX0_proved_1 rfl (by decide) (by first | (simp [rv_cat, cat_i, cat_l]; done) | (simp [rv_cat, cat_i, cat_l]; decide)) ?_
  refine s_iconst (v := 0) hX dX0_proved_2 rfl ?_
  refine s_istore_n (i := 3) (L2 := [(3, .int 0), (2, .int 0), (0, rv p0), (1, rv p1)]) hX dX0_proved_3 rfl (by decide) rfl ?_
  exact s_sub [2, 3, 1, 0] rfl (s_lp_X0_proved_4 hX hnh n p0 p1 n 0 0)
theorem dX0_tripOf_0 : decode cX0_tripOf 0 = .ok (.aload_n 0, 1) := by decide +kernel
theorem dX0_tripOf_1 : decode cX0_tripOf 1 = .ok (.iload_n 1, 1) := by decide +kernel
theorem dX0_tripOf_2 : decode cX0_tripOf 2 = .ok (.invokevirtual 571, 3) := by decide +kernel
theorem dX0_tripOf_5 : decode cX0_tripOf 5 = .ok (.astore_n 3, 1) := by decide +kernel
theorem dX0_tripOf_6 : decode cX0_tripOf 6 = .ok (.aload_n 3, 1) := by decide +kernel
theorem dX0_tripOf_7 : decode cX0_tripOf 7 = .ok (.ifnonnull 5, 3) := by decide +kernel
theorem dX0_tripOf_10 : decode cX0_tripOf 10 = .ok (.iconst (-1), 1) := by decide +kernel
theorem dX0_tripOf_11 : decode cX0_tripOf 11 = .ok (.ireturn, 1) := by decide +kernel
theorem dX0_tripOf_12 : decode cX0_tripOf 12 = .ok (.iload_n 2, 1) := by decide +kernel
theorem dX0_tripOf_13 : decode cX0_tripOf 13 = .ok (.tableswitch 88 0 7 #[47, 52, 57, 62, 67, 72, 77, 83], 47) := by decide +kernel
theorem dX0_tripOf_60 : decode cX0_tripOf 60 = .ok (.aload_n 3, 1) := by decide +kernel
theorem dX0_tripOf_61 : decode cX0_tripOf 61 = .ok (.getfield 575, 3) := by decide +kernel
theorem dX0_tripOf_64 : decode cX0_tripOf 64 = .ok (.ireturn, 1) := by decide +kernel
theorem dX0_tripOf_65 : decode cX0_tripOf 65 = .ok (.aload_n 3, 1) := by decide +kernel
theorem dX0_tripOf_66 : decode cX0_tripOf 66 = .ok (.getfield 536, 3) := by decide +kernel
theorem dX0_tripOf_69 : decode cX0_tripOf 69 = .ok (.ireturn, 1) := by decide +kernel
theorem dX0_tripOf_70 : decode cX0_tripOf 70 = .ok (.aload_n 3, 1) := by decide +kernel
theorem dX0_tripOf_71 : decode cX0_tripOf 71 = .ok (.getfield 538, 3) := by decide +kernel
theorem dX0_tripOf_74 : decode cX0_tripOf 74 = .ok (.ireturn, 1) := by decide +kernel
theorem dX0_tripOf_75 : decode cX0_tripOf 75 = .ok (.aload_n 3, 1) := by decide +kernel
theorem dX0_tripOf_76 : decode cX0_tripOf 76 = .ok (.getfield 533, 3) := by decide +kernel
theorem dX0_tripOf_79 : decode cX0_tripOf 79 = .ok (.ireturn, 1) := by decide +kernel
theorem dX0_tripOf_80 : decode cX0_tripOf 80 = .ok (.aload_n 3, 1) := by decide +kernel
theorem dX0_tripOf_81 : decode cX0_tripOf 81 = .ok (.getfield 547, 3) := by decide +kernel
theorem dX0_tripOf_84 : decode cX0_tripOf 84 = .ok (.ireturn, 1) := by decide +kernel
theorem dX0_tripOf_85 : decode cX0_tripOf 85 = .ok (.aload_n 3, 1) := by decide +kernel
theorem dX0_tripOf_86 : decode cX0_tripOf 86 = .ok (.getfield 550, 3) := by decide +kernel
theorem dX0_tripOf_89 : decode cX0_tripOf 89 = .ok (.ireturn, 1) := by decide +kernel
theorem dX0_tripOf_90 : decode cX0_tripOf 90 = .ok (.aload_n 0, 1) := by decide +kernel
theorem dX0_tripOf_91 : decode cX0_tripOf 91 = .ok (.aload_n 3, 1) := by decide +kernel
theorem dX0_tripOf_92 : decode cX0_tripOf 92 = .ok (.invokevirtual 577, 3) := by decide +kernel
theorem dX0_tripOf_95 : decode cX0_tripOf 95 = .ok (.ireturn, 1) := by decide +kernel
theorem dX0_tripOf_96 : decode cX0_tripOf 96 = .ok (.aload_n 3, 1) := by decide +kernel
theorem dX0_tripOf_97 : decode cX0_tripOf 97 = .ok (.invokestatic 581, 3) := by decide +kernel
theorem dX0_tripOf_100 : decode cX0_tripOf 100 = .ok (.ireturn, 1) := by decide +kernel
theorem dX0_tripOf_101 : decode cX0_tripOf 101 = .ok (.iconst (-1), 1) := by decide +kernel
theorem dX0_tripOf_102 : decode cX0_tripOf 102 = .ok (.ireturn, 1) := by decide +kernel
theorem ycX0_tripOf : yX0_tripOf.cls ≠ "java/lang/invoke/MethodHandle" ∧ yX0_tripOf.cls ≠ "java/lang/invoke/VarHandle" ∧ (parseMethodDescriptor yX0_tripOf.desc).map (fun d => d.parameters.length) = some 2 := by decide +kernel
theorem yvX0_tripOf : yX0_tripOf.cls = RR 0 ∧ yX0_tripOf.cls ≠ "java/lang/invoke/MethodHandle" ∧ yX0_tripOf.cls ≠ "java/lang/invoke/VarHandle" ∧ (parseMethodDescriptor yX0_tripOf.desc).map (fun d => d.parameters.length) = some 2 := ⟨rfl, ycX0_tripOf⟩
noncomputable def f_X0_tripOf (n : Nat) (p0 : Nat) (p1 : Int32) (p2 : Int32) : Act Int32 :=
  bnd (gd 0 p0 (nt (f_X0_tripAt p0 p1))) fun v1 =>
  if ¬ v1 = 0 then
    sw p2 (0) [
      bnd (getI 7 0 v1) fun v2 =>
      pur v2,
      bnd (getI 7 1 v1) fun v3 =>
      pur v3,
      bnd (getI 7 2 v1) fun v4 =>
      pur v4,
      bnd (getI 7 4 v1) fun v5 =>
      pur v5,
      bnd (getI 7 5 v1) fun v6 =>
      pur v6,
      bnd (getI 7 6 v1) fun v7 =>
      pur v7,
      bnd (gd 0 p0 (nt (f_X0_proved n p0 v1))) fun v8 =>
      pur v8,
      bnd (nt (f_X0_hoursOf n v1)) fun v9 =>
      pur v9] (
      pur (-1))
  else
    pur (-1)
set_option maxHeartbeats 4000000 in
theorem ct_X0_tripOf (l : Launch) (n : Nat) (p0 : Nat) (p1 : Int32) (p2 : Int32) : Ct l Pic yX0_tripOf (ws_ yX0_tripOf cX0_tripOf 4 (some FieldType.int)) 164 3529 cvI [rv p0, .int p1, .int p2] (f_X0_tripOf n p0 p1 p2) := by
  refine Ct.of (own := RX0) (L := [(0, rv p0), (1, .int p1), (2, .int p2)]) (plainFor_of_name (by decide)) rfl (by first | decide | simp [lg_sl, rv_cat, cat_i, cat_l]) (by first | rfl | simp [lv_args, rv_cat, cat_i, cat_l]) pcZ (fun X hXl hX hnh hin => ?_)
  subst hXl
  unfold f_X0_tripOf
  refine s_aload_n hX dX0_tripOf_0 rfl 0 rfl ?_
  refine s_iload_n hX dX0_tripOf_1 rfl 1 rfl ?_
  refine s_callV_R (ci := 0) (n := 1) (As := [.int p1]) (st := []) hX (pcK 1) (by decide) (ct_X0_tripAt X.l p0 p1) q1354 q1356 qs34 q84 q1357 yvX0_tripAt (by decide) rfl (by first | decide | simp [rv_cat, cat_i, cat_l]) dX0_tripOf_2 (fun v1 => ?_)
  refine s_astore_n (i := 3) (L2 := [(3, rv v1), (0, rv p0), (1, .int p1), (2, .int p2)]) hX dX0_tripOf_5 rfl (by decide) rfl ?_
  refine s_aload_n hX dX0_tripOf_6 rfl 0 rfl ?_
  refine s_ifnonnull (tgt := 12) hX dX0_tripOf_7 (by decide) ?_ ?_
  · refine s_iload_n hX dX0_tripOf_12 rfl 3 rfl ?_
    refine s_sw hX dX0_tripOf_13 (dt := 101) (by decide) (tgts := [60, 65, 70, 75, 80, 85, 90, 96]) (by decide) (by decide) ?_ ?_
    · refine s_iconst (v := -1) hX dX0_tripOf_101 (by decide) ?_
      exact s_iret hX dX0_tripOf_102
    · refine ⟨?_, ?_, ?_, ?_, ?_, ?_, ?_, ?_, trivial⟩
      · refine s_aload_n hX dX0_tripOf_60 rfl 0 rfl ?_
        refine s_getI (ci := 7) (j := 0) (ref := "WindGas$Trip") hX (pcG 7) in_X7 (Or.inr ⟨_, q1310⟩) (by decide) (by decide) (by decide) rfl dX0_tripOf_61 (fun _ h9 => h9) (fun v2 => ?_)
        exact s_iret hX dX0_tripOf_64
      · refine s_aload_n hX dX0_tripOf_65 rfl 0 rfl ?_
        refine s_getI (ci := 7) (j := 1) (ref := "WindGas$Trip") hX (pcG 7) in_X7 (Or.inr ⟨_, q1312⟩) (by decide) (by decide) (by decide) rfl dX0_tripOf_66 (fun _ h9 => h9) (fun v3 => ?_)
        exact s_iret hX dX0_tripOf_69
      · refine s_aload_n hX dX0_tripOf_70 rfl 0 rfl ?_
        refine s_getI (ci := 7) (j := 2) (ref := "WindGas$Trip") hX (pcG 7) in_X7 (Or.inr ⟨_, q1314⟩) (by decide) (by decide) (by decide) rfl dX0_tripOf_71 (fun _ h9 => h9) (fun v4 => ?_)
        exact s_iret hX dX0_tripOf_74
      · refine s_aload_n hX dX0_tripOf_75 rfl 0 rfl ?_
        refine s_getI (ci := 7) (j := 4) (ref := "WindGas$Trip") hX (pcG 7) in_X7 (Or.inr ⟨_, q1318⟩) (by decide) (by decide) (by decide) rfl dX0_tripOf_76 (fun _ h9 => h9) (fun v5 => ?_)
        exact s_iret hX dX0_tripOf_79
      · refine s_aload_n hX dX0_tripOf_80 rfl 0 rfl ?_
        refine s_getI (ci := 7) (j := 5) (ref := "WindGas$Trip") hX (pcG 7) in_X7 (Or.inr ⟨_, q1320⟩) (by decide) (by decide) (by decide) rfl dX0_tripOf_81 (fun _ h9 => h9) (fun v6 => ?_)
        exact s_iret hX dX0_tripOf_84
      · refine s_aload_n hX dX0_tripOf_85 rfl 0 rfl ?_
        refine s_getI (ci := 7) (j := 6) (ref := "WindGas$Trip") hX (pcG 7) in_X7 (Or.inr ⟨_, q1321⟩) (by decide) (by decide) (by decide) rfl dX0_tripOf_86 (fun _ h9 => h9) (fun v7 => ?_)
        exact s_iret hX dX0_tripOf_89
      · refine s_aload_n hX dX0_tripOf_90 rfl 1 rfl ?_
        refine s_aload_n hX dX0_tripOf_91 rfl 0 rfl ?_
        refine s_callV_I (ci := 0) (n := 1) (As := [rv v1]) (st := []) hX (pcK 1) (by decide) (ct_X0_proved X.l n p0 v1) q1358 q1360 qs35 q84 q1361 yvX0_proved (by decide) rfl (by first | decide | simp [rv_cat, cat_i, cat_l]) dX0_tripOf_92 (fun v8 => ?_)
        exact s_iret hX dX0_tripOf_95
      · refine s_aload_n hX dX0_tripOf_96 rfl 0 rfl ?_
        refine s_callS_I (n := 1) (As := [rv v1]) (st := []) hX (ct_X0_hoursOf X.l n v1) q1371 q1372 q84 q1373 ycX0_hoursOf (by decide) rfl (by first | decide | simp [rv_cat, cat_i, cat_l]) dX0_tripOf_97 (fun v9 => ?_)
        exact s_iret hX dX0_tripOf_100
  · refine s_iconst (v := -1) hX dX0_tripOf_10 (by decide) ?_
    exact s_iret hX dX0_tripOf_11
theorem dX7_of_0 : decode cX7_of 0 = .ok (.iconst 0, 1) := by decide +kernel
theorem dX7_of_1 : decode cX7_of 1 = .ok (.istore_n 2, 1) := by decide +kernel
theorem dX7_of_2 : decode cX7_of 2 = .ok (.iconst 0, 1) := by decide +kernel
theorem dX7_of_3 : decode cX7_of 3 = .ok (.istore_n 3, 1) := by decide +kernel
theorem dX7_of_4 : decode cX7_of 4 = .ok (.iload_n 3, 1) := by decide +kernel
theorem dX7_of_5 : decode cX7_of 5 = .ok (.aload_n 0, 1) := by decide +kernel
theorem dX7_of_6 : decode cX7_of 6 = .ok (.getfield 12, 3) := by decide +kernel
theorem dX7_of_9 : decode cX7_of 9 = .ok (.invokevirtual 31, 3) := by decide +kernel
theorem dX7_of_12 : decode cX7_of 12 = .ok (.if_icmp .ge 48, 3) := by decide +kernel
theorem dX7_of_15 : decode cX7_of 15 = .ok (.iload_n 2, 1) := by decide +kernel
theorem dX7_of_16 : decode cX7_of 16 = .ok (.aload_n 0, 1) := by decide +kernel
theorem dX7_of_17 : decode cX7_of 17 = .ok (.getfield 12, 3) := by decide +kernel
theorem dX7_of_20 : decode cX7_of 20 = .ok (.iload_n 3, 1) := by decide +kernel
theorem dX7_of_21 : decode cX7_of 21 = .ok (.invokevirtual 35, 3) := by decide +kernel
theorem dX7_of_24 : decode cX7_of 24 = .ok (.checkcast 39, 3) := by decide +kernel
theorem dX7_of_27 : decode cX7_of 27 = .ok (.invokevirtual 41, 3) := by decide +kernel
theorem dX7_of_30 : decode cX7_of 30 = .ok (.iload_n 1, 1) := by decide +kernel
theorem dX7_of_31 : decode cX7_of 31 = .ok (.if_icmp .ne 20, 3) := by decide +kernel
theorem dX7_of_34 : decode cX7_of 34 = .ok (.aload_n 0, 1) := by decide +kernel
theorem dX7_of_35 : decode cX7_of 35 = .ok (.getfield 12, 3) := by decide +kernel
theorem dX7_of_38 : decode cX7_of 38 = .ok (.iload_n 3, 1) := by decide +kernel
theorem dX7_of_39 : decode cX7_of 39 = .ok (.invokevirtual 35, 3) := by decide +kernel
theorem dX7_of_42 : decode cX7_of 42 = .ok (.checkcast 39, 3) := by decide +kernel
theorem dX7_of_45 : decode cX7_of 45 = .ok (.invokevirtual 44, 3) := by decide +kernel
theorem dX7_of_48 : decode cX7_of 48 = .ok (.goto 4, 3) := by decide +kernel
theorem dX7_of_51 : decode cX7_of 51 = .ok (.iconst 0, 1) := by decide +kernel
theorem dX7_of_52 : decode cX7_of 52 = .ok (.iadd, 1) := by decide +kernel
theorem dX7_of_53 : decode cX7_of 53 = .ok (.istore_n 2, 1) := by decide +kernel
theorem dX7_of_54 : decode cX7_of 54 = .ok (.iinc 3 1, 3) := by decide +kernel
theorem dX7_of_57 : decode cX7_of 57 = .ok (.goto (-53), 3) := by decide +kernel
theorem dX7_of_60 : decode cX7_of 60 = .ok (.iload_n 2, 1) := by decide +kernel
theorem dX7_of_61 : decode cX7_of 61 = .ok (.ireturn, 1) := by decide +kernel
theorem ycX7_of : yX7_of.cls ≠ "java/lang/invoke/MethodHandle" ∧ yX7_of.cls ≠ "java/lang/invoke/VarHandle" ∧ (parseMethodDescriptor yX7_of.desc).map (fun d => d.parameters.length) = some 1 := by decide +kernel
theorem yvX7_of : yX7_of.cls = RR 7 ∧ yX7_of.cls ≠ "java/lang/invoke/MethodHandle" ∧ yX7_of.cls ≠ "java/lang/invoke/VarHandle" ∧ (parseMethodDescriptor yX7_of.desc).map (fun d => d.parameters.length) = some 1 := ⟨rfl, ycX7_of⟩
noncomputable def lp_X7_of_4 (p0 : Nat) (p1 : Int32) (q : Nat) : Int32 → Int32 → Act Int32 := match q with
  | 0 => fun _ _ => fail
  | q + 1 => fun w1 w2 =>
    bnd (getR 7 3 p0) fun v3 =>
    bnd (gd 17 v3 (nt (P_size v3))) fun v4 =>
    if v4 ≤ w2 then
      pur w1
    else
      bnd (getR 7 3 p0) fun v5 =>
      bnd (gd 17 v5 (nt (P_get v5 w2))) fun v6 =>
      bnd (cst [10] v6) fun _ =>
      bnd (gd 9 v6 (nt (f_X9_hour v6))) fun v7 =>
      jn (fun (v8 : Int32) =>
        (lp_X7_of_4 p0 p1 q) (w1 + v8) (w2 + 1)) fun j52 =>
      if ¬ v7 = p1 then
        j52 0
      else
        bnd (getR 7 3 p0) fun v9 =>
        bnd (gd 17 v9 (nt (P_get v9 w2))) fun v10 =>
        bnd (cst [10] v10) fun _ =>
        bnd (gd 9 v10 (nt (f_X9_grams v10))) fun v11 =>
        j52 v11
noncomputable def f_X7_of (n : Nat) (p0 : Nat) (p1 : Int32) : Act Int32 :=
  lp_X7_of_4 p0 p1 n 0 0
set_option maxHeartbeats 4000000 in
theorem s_lp_X7_of_4 {X : Cx} (hX : Ok X Pic cX7_of RX7 4 (some FieldType.int) 3 64) (hnh : Noh X) (p0 : Nat) (p1 : Int32) (q : Nat) : ∀ (w1 : Int32) (w2 : Int32), Sim X cvI 4 [(0, rv p0), (1, .int p1), (2, .int w1), (3, .int w2)] [] (lp_X7_of_4 p0 p1 q w1 w2) := by
  induction q with
  | zero => intro w1 w2; exact s_fail
  | succ q ih4 =>
    intro w1 w2
    rw [lp_X7_of_4]
    refine s_iload_n hX dX7_of_4 rfl 3 rfl ?_
    refine s_aload_n hX dX7_of_5 rfl 0 rfl ?_
    refine s_getR (ci := 7) (j := 3) (ref := "WindGas$Trip") hX (pcG 7) in_X7 (Or.inl q1315) (by decide) (by decide) (by decide) rfl dX7_of_6 (fun _ h9 => h9) (fun v3 => ?_)
    refine s_callV_I (ci := 17) (n := 0) (As := []) (st := [.int w2]) hX (pcK 18) (by decide) (pt_size X.l v3) q1382 q417 q418 q88 q419 yvJ2_size (by decide) rfl (by first | decide | simp [rv_cat, cat_i, cat_l]) dX7_of_9 (fun v4 => ?_)
    refine s_icmp_ge (tgt := 60) hX dX7_of_12 (by decide) ?_ ?_
    · refine s_iload_n hX dX7_of_60 rfl 2 rfl ?_
      exact s_iret hX dX7_of_61
    · refine s_iload_n hX dX7_of_15 rfl 2 rfl ?_
      refine s_aload_n hX dX7_of_16 rfl 0 rfl ?_
      refine s_getR (ci := 7) (j := 3) (ref := "WindGas$Trip") hX (pcG 7) in_X7 (Or.inl q1315) (by decide) (by decide) (by decide) rfl dX7_of_17 (fun _ h9 => h9) (fun v5 => ?_)
      refine s_iload_n hX dX7_of_20 rfl 3 rfl ?_
      refine s_callV_R (ci := 17) (n := 1) (As := [.int w2]) (st := [.int w1]) hX (pcK 18) (by decide) (pt_get X.l v5 w2) q1383 q516 q517 q88 q518 yvJ2_get (by decide) rfl (by first | decide | simp [rv_cat, cat_i, cat_l]) dX7_of_21 (fun v6 => ?_)
      refine s_cast (ks := [10]) hX (elC 9 (by decide)) q1384 dX7_of_24 ?_
      refine s_callV_I (ci := 9) (n := 0) (As := []) (st := [.int w1]) hX (pcK 10) (by decide) (ct_X9_hour X.l v6) q1385 q1364 q1365 q103 q1366 yvX9_hour (by decide) rfl (by first | decide | simp [rv_cat, cat_i, cat_l]) dX7_of_27 (fun v7 => ?_)
      refine s_iload_n hX dX7_of_30 rfl 1 rfl ?_
      refine s_jn (P := fun j => ∀ (v8 : Int32), Sim X cvI 52 [(0, rv p0), (1, .int p1), (3, .int w2)] [.int v8, .int w1] (j v8)) ?_ (fun j52 hj52 => ?_)
      · intro v8
        refine s_iadd hX dX7_of_52 ?_
        refine s_istore_n (i := 2) (L2 := [(2, .int (w1 + v8)), (0, rv p0), (1, .int p1), (3, .int w2)]) hX dX7_of_53 rfl (by decide) rfl ?_
        refine s_iinc (k := 3) (v := (w2 + 1)) (L2 := [(3, .int (w2 + 1)), (2, .int (w1 + v8)), (0, rv p0), (1, .int p1)]) hX dX7_of_54 rfl rfl (by decide) rfl ?_
        refine s_goto (tgt := 4) hX dX7_of_57 (by decide) ?_
        exact s_sub [2, 3, 1, 0] rfl (ih4 (w1 + v8) (w2 + 1))
      · refine s_icmp_ne (tgt := 51) hX dX7_of_31 (by decide) ?_ ?_
        · refine s_iconst (v := 0) hX dX7_of_51 rfl ?_
          exact s_sub [0, 1, 3] rfl (hj52 0)
        · refine s_aload_n hX dX7_of_34 rfl 0 rfl ?_
          refine s_getR (ci := 7) (j := 3) (ref := "WindGas$Trip") hX (pcG 7) in_X7 (Or.inl q1315) (by decide) (by decide) (by decide) rfl dX7_of_35 (fun _ h9 => h9) (fun v9 => ?_)
          refine s_iload_n hX dX7_of_38 rfl 3 rfl ?_
          refine s_callV_R (ci := 17) (n := 1) (As := [.int w2]) (st := [.int w1]) hX (pcK 18) (by decide) (pt_get X.l v9 w2) q1383 q516 q517 q88 q518 yvJ2_get (by decide) rfl (by first | decide | simp [rv_cat, cat_i, cat_l]) dX7_of_39 (fun v10 => ?_)
          refine s_cast (ks := [10]) hX (elC 9 (by decide)) q1384 dX7_of_42 ?_
          refine s_callV_I (ci := 9) (n := 0) (As := []) (st := [.int w1]) hX (pcK 10) (by decide) (ct_X9_grams X.l v10) q1386 q1368 q1369 q103 q1370 yvX9_grams (by decide) rfl (by first | decide | simp [rv_cat, cat_i, cat_l]) dX7_of_45 (fun v11 => ?_)
          refine s_goto (tgt := 52) hX dX7_of_48 (by decide) ?_
          exact s_sub [0, 1, 3] rfl (hj52 v11)
set_option maxHeartbeats 4000000 in
theorem ct_X7_of (l : Launch) (n : Nat) (p0 : Nat) (p1 : Int32) : Ct l Pic yX7_of (ws_ yX7_of cX7_of 4 (some FieldType.int)) 3 64 cvI [rv p0, .int p1] (f_X7_of n p0 p1) := by
  refine Ct.of (own := RX7) (L := [(0, rv p0), (1, .int p1)]) (plainFor_of_name (by decide)) rfl (by first | decide | simp [lg_sl, rv_cat, cat_i, cat_l]) (by first | rfl | simp [lv_args, rv_cat, cat_i, cat_l]) pcZ (fun X hXl hX hnh hin => ?_)
  subst hXl
  unfold f_X7_of
  refine s_iconst (v := 0) hX dX7_of_0 rfl ?_
  refine s_istore_n (i := 2) (L2 := [(2, .int 0), (0, rv p0), (1, .int p1)]) hX dX7_of_1 rfl (by decide) rfl ?_
  refine s_iconst (v := 0) hX dX7_of_2 rfl ?_
  refine s_istore_n (i := 3) (L2 := [(3, .int 0), (2, .int 0), (0, rv p0), (1, .int p1)]) hX dX7_of_3 rfl (by decide) rfl ?_
  exact s_sub [2, 3, 1, 0] rfl (s_lp_X7_of_4 hX hnh p0 p1 n 0 0)
theorem dX0_drank_0 : decode cX0_drank 0 = .ok (.aload_n 0, 1) := by decide +kernel
theorem dX0_drank_1 : decode cX0_drank 1 = .ok (.iload_n 1, 1) := by decide +kernel
theorem dX0_drank_2 : decode cX0_drank 2 = .ok (.invokevirtual 571, 3) := by decide +kernel
theorem dX0_drank_5 : decode cX0_drank 5 = .ok (.ifnull 15, 3) := by decide +kernel
theorem dX0_drank_8 : decode cX0_drank 8 = .ok (.iload_n 2, 1) := by decide +kernel
theorem dX0_drank_9 : decode cX0_drank 9 = .ok (.i2l, 1) := by decide +kernel
theorem dX0_drank_10 : decode cX0_drank 10 = .ok (.lconst 0, 1) := by decide +kernel
theorem dX0_drank_11 : decode cX0_drank 11 = .ok (.ldc2_w 554, 3) := by decide +kernel
theorem dX0_drank_14 : decode cX0_drank 14 = .ok (.invokestatic 101, 3) := by decide +kernel
theorem dX0_drank_17 : decode cX0_drank 17 = .ok (.ifCond .ne 7, 3) := by decide +kernel
theorem dX0_drank_20 : decode cX0_drank 20 = .ok (.iconst (-1), 1) := by decide +kernel
theorem dX0_drank_21 : decode cX0_drank 21 = .ok (.goto 18, 3) := by decide +kernel
theorem dX0_drank_24 : decode cX0_drank 24 = .ok (.aload_n 0, 1) := by decide +kernel
theorem dX0_drank_25 : decode cX0_drank 25 = .ok (.getfield 84, 3) := by decide +kernel
theorem dX0_drank_28 : decode cX0_drank 28 = .ok (.iload_n 1, 1) := by decide +kernel
theorem dX0_drank_29 : decode cX0_drank 29 = .ok (.invokevirtual 128, 3) := by decide +kernel
theorem dX0_drank_32 : decode cX0_drank 32 = .ok (.checkcast 518, 3) := by decide +kernel
theorem dX0_drank_35 : decode cX0_drank 35 = .ok (.iload_n 2, 1) := by decide +kernel
theorem dX0_drank_36 : decode cX0_drank 36 = .ok (.invokevirtual 584, 3) := by decide +kernel
theorem dX0_drank_39 : decode cX0_drank 39 = .ok (.ireturn, 1) := by decide +kernel
theorem ycX0_drank : yX0_drank.cls ≠ "java/lang/invoke/MethodHandle" ∧ yX0_drank.cls ≠ "java/lang/invoke/VarHandle" ∧ (parseMethodDescriptor yX0_drank.desc).map (fun d => d.parameters.length) = some 2 := by decide +kernel
theorem yvX0_drank : yX0_drank.cls = RR 0 ∧ yX0_drank.cls ≠ "java/lang/invoke/MethodHandle" ∧ yX0_drank.cls ≠ "java/lang/invoke/VarHandle" ∧ (parseMethodDescriptor yX0_drank.desc).map (fun d => d.parameters.length) = some 2 := ⟨rfl, ycX0_drank⟩
noncomputable def f_X0_drank (n : Nat) (p0 : Nat) (p1 : Int32) (p2 : Int32) : Act Int32 :=
  bnd (gd 0 p0 (nt (f_X0_tripAt p0 p1))) fun v1 =>
  jn (fun (v2 : Int32) =>
    pur v2) fun j39 =>
  jn (fun (_ : Unit) =>
    j39 (-1)) fun j20 =>
  if v1 = 0 then
    j20 ()
  else
    bnd (nt (f_X0_isIn p2.toInt64 (0 : Int64) (833 : Int64))) fun v3 =>
    if ¬ v3 = 0 then
      bnd (getR 0 37 p0) fun v4 =>
      bnd (gd 17 v4 (nt (P_get v4 p1))) fun v5 =>
      bnd (cst [8] v5) fun _ =>
      bnd (gd 7 v5 (nt (f_X7_of n v5 p2))) fun v6 =>
      j39 v6
    else
      j20 ()
set_option maxHeartbeats 4000000 in
theorem ct_X0_drank (l : Launch) (n : Nat) (p0 : Nat) (p1 : Int32) (p2 : Int32) : Ct l Pic yX0_drank (ws_ yX0_drank cX0_drank 3 (some FieldType.int)) 4 87 cvI [rv p0, .int p1, .int p2] (f_X0_drank n p0 p1 p2) := by
  refine Ct.of (own := RX0) (L := [(0, rv p0), (1, .int p1), (2, .int p2)]) (plainFor_of_name (by decide)) rfl (by first | decide | simp [lg_sl, rv_cat, cat_i, cat_l]) (by first | rfl | simp [lv_args, rv_cat, cat_i, cat_l]) pcZ (fun X hXl hX hnh hin => ?_)
  subst hXl
  unfold f_X0_drank
  refine s_aload_n hX dX0_drank_0 rfl 0 rfl ?_
  refine s_iload_n hX dX0_drank_1 rfl 1 rfl ?_
  refine s_callV_R (ci := 0) (n := 1) (As := [.int p1]) (st := []) hX (pcK 1) (by decide) (ct_X0_tripAt X.l p0 p1) q1354 q1356 qs34 q84 q1357 yvX0_tripAt (by decide) rfl (by first | decide | simp [rv_cat, cat_i, cat_l]) dX0_drank_2 (fun v1 => ?_)
  refine s_jn (P := fun j => ∀ (v2 : Int32), Sim X cvI 39 [] [.int v2] (j v2)) ?_ (fun j39 hj39 => ?_)
  · intro v2
    exact s_iret hX dX0_drank_39
  · refine s_jn (P := fun j => ∀ (u : Unit), Sim X cvI 20 [] [] (j u)) ?_ (fun j20 hj20 => ?_)
    · intro u
      refine s_iconst (v := -1) hX dX0_drank_20 (by decide) ?_
      refine s_goto (tgt := 39) hX dX0_drank_21 (by decide) ?_
      exact hj39 (-1)
    · refine s_ifnull (tgt := 20) hX dX0_drank_5 (by decide) ?_ ?_
      · exact s_sub [] rfl (hj20 ())
      · refine s_iload_n hX dX0_drank_8 rfl 2 rfl ?_
        refine s_i2l hX dX0_drank_9 ?_
        refine s_lconst (v := 0) hX dX0_drank_10 (by decide) ?_
        refine s_ldc2 (v := 833) hX dX0_drank_11 q1345 ?_
        refine s_callS_I (n := 3) (As := [.long p2.toInt64, .long 0, .long 833]) (st := []) hX (ct_X0_isIn X.l p2.toInt64 (0 : Int64) (833 : Int64)) q400 q401 q84 q402 ycX0_isIn (by decide) rfl (by first | decide | simp [rv_cat, cat_i, cat_l]) dX0_drank_14 (fun v3 => ?_)
        refine s_if_ne (tgt := 24) hX dX0_drank_17 (by decide) ?_ ?_
        · refine s_aload_n hX dX0_drank_24 rfl 0 rfl ?_
          refine s_getR (ci := 0) (j := 37) (ref := "WindGas") hX (pcG 0) in_X0 (Or.inl q303) (by decide) (by decide) (by decide) rfl dX0_drank_25 (fun _ h9 => h9) (fun v4 => ?_)
          refine s_iload_n hX dX0_drank_28 rfl 1 rfl ?_
          refine s_callV_R (ci := 17) (n := 1) (As := [.int p1]) (st := []) hX (pcK 18) (by decide) (pt_get X.l v4 p1) q555 q516 q517 q88 q518 yvJ2_get (by decide) rfl (by first | decide | simp [rv_cat, cat_i, cat_l]) dX0_drank_29 (fun v5 => ?_)
          refine s_cast (ks := [8]) hX (elC 7 (by decide)) q1272 dX0_drank_32 ?_
          refine s_iload_n hX dX0_drank_35 rfl 2 rfl ?_
          refine s_callV_I (ci := 7) (n := 1) (As := [.int p2]) (st := []) hX (pcK 8) (by decide) (ct_X7_of X.l n v5 p2) q1378 q1379 q1380 q101 q1381 yvX7_of (by decide) rfl (by first | decide | simp [rv_cat, cat_i, cat_l]) dX0_drank_36 (fun v6 => ?_)
          exact s_sub [] rfl (hj39 v6)
        · exact s_sub [] rfl (hj20 ())
theorem dX10_init_0 : decode cX10_init 0 = .ok (.aload_n 0, 1) := by decide +kernel
theorem dX10_init_1 : decode cX10_init 1 = .ok (.invokespecial 1, 3) := by decide +kernel
theorem dX10_init_4 : decode cX10_init 4 = .ok (.aload_n 0, 1) := by decide +kernel
theorem dX10_init_5 : decode cX10_init 5 = .ok (.iload_n 1, 1) := by decide +kernel
theorem dX10_init_6 : decode cX10_init 6 = .ok (.putfield 7, 3) := by decide +kernel
theorem dX10_init_9 : decode cX10_init 9 = .ok (.aload_n 0, 1) := by decide +kernel
theorem dX10_init_10 : decode cX10_init 10 = .ok (.iload_n 2, 1) := by decide +kernel
theorem dX10_init_11 : decode cX10_init 11 = .ok (.putfield 13, 3) := by decide +kernel
theorem dX10_init_14 : decode cX10_init 14 = .ok (.aload_n 0, 1) := by decide +kernel
theorem dX10_init_15 : decode cX10_init 15 = .ok (.iload_n 3, 1) := by decide +kernel
theorem dX10_init_16 : decode cX10_init 16 = .ok (.putfield 16, 3) := by decide +kernel
theorem dX10_init_19 : decode cX10_init 19 = .ok (.return_, 1) := by decide +kernel
theorem ycX10_init : yX10_init.cls ≠ "java/lang/invoke/MethodHandle" ∧ yX10_init.cls ≠ "java/lang/invoke/VarHandle" ∧ (parseMethodDescriptor yX10_init.desc).map (fun d => d.parameters.length) = some 3 := by decide +kernel
theorem yvX10_init : yX10_init.cls = RR 10 ∧ yX10_init.cls ≠ "java/lang/invoke/MethodHandle" ∧ yX10_init.cls ≠ "java/lang/invoke/VarHandle" ∧ (parseMethodDescriptor yX10_init.desc).map (fun d => d.parameters.length) = some 3 := ⟨rfl, ycX10_init⟩
noncomputable def f_X10_init (p0 : Nat) (p1 : Int32) (p2 : Int32) (p3 : Int32) : Act Unit :=
  bnd (gd 10 p0 (nt (f_J3_init p0))) fun _ =>
  bnd (putI 10 0 p0 p1) fun _ =>
  bnd (putI 10 1 p0 p2) fun _ =>
  bnd (putI 10 2 p0 p3) fun _ =>
  pur ()
set_option maxHeartbeats 4000000 in
theorem ct_X10_init (l : Launch) (p0 : Nat) (p1 : Int32) (p2 : Int32) (p3 : Int32) : Ct l Pic yX10_init (ws_ yX10_init cX10_init 4 none) 2 44 cvU [rv p0, .int p1, .int p2, .int p3] (f_X10_init p0 p1 p2 p3) := by
  refine Ct.of (own := RX10) (L := [(0, rv p0), (1, .int p1), (2, .int p2), (3, .int p3)]) (plainFor_of_name (by decide)) rfl (by first | decide | simp [lg_sl, rv_cat, cat_i, cat_l]) (by first | rfl | simp [lv_args, rv_cat, cat_i, cat_l]) pcZ (fun X hXl hX hnh hin => ?_)
  subst hXl
  unfold f_X10_init
  refine s_aload_n hX dX10_init_0 rfl 0 rfl ?_
  refine s_callI_U (ci := 10) (n := 0) (As := []) (st := []) hX (pcK 11) (by decide) (ct_J3_init X.l p0) q1397 q426 q92 q427 rfl ycJ3_init (by decide) rfl (by first | decide | simp [rv_cat, cat_i, cat_l]) dX10_init_1 (fun _ => ?_)
  refine s_aload_n hX dX10_init_4 rfl 0 rfl ?_
  refine s_iload_n hX dX10_init_5 rfl 1 rfl ?_
  refine s_putIF (ci := 10) (j := 0) (ref := "WindGas$Paper") hX (pcG 10) (pcP 10) in_X10 tyX10_ok nmX10 q1398 (by decide) (by decide) (by decide) rfl rfl rfl (hin rfl) rfl dX10_init_6 (fun _ h9 => h9) ?_
  refine s_aload_n hX dX10_init_9 rfl 0 rfl ?_
  refine s_iload_n hX dX10_init_10 rfl 2 rfl ?_
  refine s_putIF (ci := 10) (j := 1) (ref := "WindGas$Paper") hX (pcG 10) (pcP 10) in_X10 tyX10_ok nmX10 q1399 (by decide) (by decide) (by decide) rfl rfl rfl (hin rfl) rfl dX10_init_11 (fun _ h9 => h9) ?_
  refine s_aload_n hX dX10_init_14 rfl 0 rfl ?_
  refine s_iload_n hX dX10_init_15 rfl 3 rfl ?_
  refine s_putIF (ci := 10) (j := 2) (ref := "WindGas$Paper") hX (pcG 10) (pcP 10) in_X10 tyX10_ok nmX10 q1400 (by decide) (by decide) (by decide) rfl rfl rfl (hin rfl) rfl dX10_init_16 (fun _ h9 => h9) ?_
  exact s_vret hX dX10_init_19
