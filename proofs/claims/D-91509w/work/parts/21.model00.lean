set_option maxRecDepth 100000
theorem dX4_init_0 : decode cX4_init 0 = .ok (.aload_n 0, 1) := by decide +kernel
theorem dX4_init_1 : decode cX4_init 1 = .ok (.invokespecial 1, 3) := by decide +kernel
theorem dX4_init_4 : decode cX4_init 4 = .ok (.aload_n 0, 1) := by decide +kernel
theorem dX4_init_5 : decode cX4_init 5 = .ok (.iconst 3, 1) := by decide +kernel
theorem dX4_init_6 : decode cX4_init 6 = .ok (.newarray .int, 2) := by decide +kernel
theorem dX4_init_8 : decode cX4_init 8 = .ok (.putfield 7, 3) := by decide +kernel
theorem dX4_init_11 : decode cX4_init 11 = .ok (.aload_n 0, 1) := by decide +kernel
theorem dX4_init_12 : decode cX4_init 12 = .ok (.sipush 240, 3) := by decide +kernel
theorem dX4_init_15 : decode cX4_init 15 = .ok (.newarray .int, 2) := by decide +kernel
theorem dX4_init_17 : decode cX4_init 17 = .ok (.putfield 13, 3) := by decide +kernel
theorem dX4_init_20 : decode cX4_init 20 = .ok (.aload_n 0, 1) := by decide +kernel
theorem dX4_init_21 : decode cX4_init 21 = .ok (.sipush 240, 3) := by decide +kernel
theorem dX4_init_24 : decode cX4_init 24 = .ok (.newarray .int, 2) := by decide +kernel
theorem dX4_init_26 : decode cX4_init 26 = .ok (.putfield 16, 3) := by decide +kernel
theorem dX4_init_29 : decode cX4_init 29 = .ok (.aload_n 0, 1) := by decide +kernel
theorem dX4_init_30 : decode cX4_init 30 = .ok (.sipush 240, 3) := by decide +kernel
theorem dX4_init_33 : decode cX4_init 33 = .ok (.newarray .int, 2) := by decide +kernel
theorem dX4_init_35 : decode cX4_init 35 = .ok (.putfield 19, 3) := by decide +kernel
theorem dX4_init_38 : decode cX4_init 38 = .ok (.aload_n 0, 1) := by decide +kernel
theorem dX4_init_39 : decode cX4_init 39 = .ok (.iconst 4, 1) := by decide +kernel
theorem dX4_init_40 : decode cX4_init 40 = .ok (.newarray .int, 2) := by decide +kernel
theorem dX4_init_42 : decode cX4_init 42 = .ok (.putfield 22, 3) := by decide +kernel
theorem dX4_init_45 : decode cX4_init 45 = .ok (.aload_n 0, 1) := by decide +kernel
theorem dX4_init_46 : decode cX4_init 46 = .ok (.iconst 4, 1) := by decide +kernel
theorem dX4_init_47 : decode cX4_init 47 = .ok (.newarray .int, 2) := by decide +kernel
theorem dX4_init_49 : decode cX4_init 49 = .ok (.putfield 25, 3) := by decide +kernel
theorem dX4_init_52 : decode cX4_init 52 = .ok (.aload_n 0, 1) := by decide +kernel
theorem dX4_init_53 : decode cX4_init 53 = .ok (.iconst 4, 1) := by decide +kernel
theorem dX4_init_54 : decode cX4_init 54 = .ok (.newarray .int, 2) := by decide +kernel
theorem dX4_init_56 : decode cX4_init 56 = .ok (.putfield 28, 3) := by decide +kernel
theorem dX4_init_59 : decode cX4_init 59 = .ok (.aload_n 0, 1) := by decide +kernel
theorem dX4_init_60 : decode cX4_init 60 = .ok (.iconst 4, 1) := by decide +kernel
theorem dX4_init_61 : decode cX4_init 61 = .ok (.newarray .int, 2) := by decide +kernel
theorem dX4_init_63 : decode cX4_init 63 = .ok (.putfield 31, 3) := by decide +kernel
theorem dX4_init_66 : decode cX4_init 66 = .ok (.aload_n 0, 1) := by decide +kernel
theorem dX4_init_67 : decode cX4_init 67 = .ok (.iconst 4, 1) := by decide +kernel
theorem dX4_init_68 : decode cX4_init 68 = .ok (.newarray .int, 2) := by decide +kernel
theorem dX4_init_70 : decode cX4_init 70 = .ok (.putfield 34, 3) := by decide +kernel
theorem dX4_init_73 : decode cX4_init 73 = .ok (.aload_n 0, 1) := by decide +kernel
theorem dX4_init_74 : decode cX4_init 74 = .ok (.iconst 4, 1) := by decide +kernel
theorem dX4_init_75 : decode cX4_init 75 = .ok (.newarray .int, 2) := by decide +kernel
theorem dX4_init_77 : decode cX4_init 77 = .ok (.putfield 37, 3) := by decide +kernel
theorem dX4_init_80 : decode cX4_init 80 = .ok (.aload_n 0, 1) := by decide +kernel
theorem dX4_init_81 : decode cX4_init 81 = .ok (.iconst 4, 1) := by decide +kernel
theorem dX4_init_82 : decode cX4_init 82 = .ok (.newarray .int, 2) := by decide +kernel
theorem dX4_init_84 : decode cX4_init 84 = .ok (.putfield 40, 3) := by decide +kernel
theorem dX4_init_87 : decode cX4_init 87 = .ok (.aload_n 0, 1) := by decide +kernel
theorem dX4_init_88 : decode cX4_init 88 = .ok (.iconst 4, 1) := by decide +kernel
theorem dX4_init_89 : decode cX4_init 89 = .ok (.newarray .boolean, 2) := by decide +kernel
theorem dX4_init_91 : decode cX4_init 91 = .ok (.putfield 43, 3) := by decide +kernel
theorem dX4_init_94 : decode cX4_init 94 = .ok (.aload_n 0, 1) := by decide +kernel
theorem dX4_init_95 : decode cX4_init 95 = .ok (.iconst 4, 1) := by decide +kernel
theorem dX4_init_96 : decode cX4_init 96 = .ok (.newarray .long, 2) := by decide +kernel
theorem dX4_init_98 : decode cX4_init 98 = .ok (.putfield 47, 3) := by decide +kernel
theorem dX4_init_101 : decode cX4_init 101 = .ok (.aload_n 0, 1) := by decide +kernel
theorem dX4_init_102 : decode cX4_init 102 = .ok (.bipush 13, 2) := by decide +kernel
theorem dX4_init_104 : decode cX4_init 104 = .ok (.newarray .long, 2) := by decide +kernel
theorem dX4_init_106 : decode cX4_init 106 = .ok (.putfield 51, 3) := by decide +kernel
theorem dX4_init_109 : decode cX4_init 109 = .ok (.aload_n 0, 1) := by decide +kernel
theorem dX4_init_110 : decode cX4_init 110 = .ok (.iconst 2, 1) := by decide +kernel
theorem dX4_init_111 : decode cX4_init 111 = .ok (.newarray .int, 2) := by decide +kernel
theorem dX4_init_113 : decode cX4_init 113 = .ok (.putfield 54, 3) := by decide +kernel
theorem dX4_init_116 : decode cX4_init 116 = .ok (.aload_n 0, 1) := by decide +kernel
theorem dX4_init_117 : decode cX4_init 117 = .ok (.iconst 2, 1) := by decide +kernel
theorem dX4_init_118 : decode cX4_init 118 = .ok (.newarray .int, 2) := by decide +kernel
theorem dX4_init_120 : decode cX4_init 120 = .ok (.putfield 57, 3) := by decide +kernel
theorem dX4_init_123 : decode cX4_init 123 = .ok (.aload_n 0, 1) := by decide +kernel
theorem dX4_init_124 : decode cX4_init 124 = .ok (.iconst 2, 1) := by decide +kernel
theorem dX4_init_125 : decode cX4_init 125 = .ok (.newarray .int, 2) := by decide +kernel
theorem dX4_init_127 : decode cX4_init 127 = .ok (.putfield 60, 3) := by decide +kernel
theorem dX4_init_130 : decode cX4_init 130 = .ok (.aload_n 0, 1) := by decide +kernel
theorem dX4_init_131 : decode cX4_init 131 = .ok (.iconst 2, 1) := by decide +kernel
theorem dX4_init_132 : decode cX4_init 132 = .ok (.newarray .int, 2) := by decide +kernel
theorem dX4_init_134 : decode cX4_init 134 = .ok (.putfield 63, 3) := by decide +kernel
theorem dX4_init_137 : decode cX4_init 137 = .ok (.aload_n 0, 1) := by decide +kernel
theorem dX4_init_138 : decode cX4_init 138 = .ok (.iconst 2, 1) := by decide +kernel
theorem dX4_init_139 : decode cX4_init 139 = .ok (.newarray .int, 2) := by decide +kernel
theorem dX4_init_141 : decode cX4_init 141 = .ok (.putfield 66, 3) := by decide +kernel
theorem dX4_init_144 : decode cX4_init 144 = .ok (.aload_n 0, 1) := by decide +kernel
theorem dX4_init_145 : decode cX4_init 145 = .ok (.iconst 2, 1) := by decide +kernel
theorem dX4_init_146 : decode cX4_init 146 = .ok (.newarray .int, 2) := by decide +kernel
theorem dX4_init_148 : decode cX4_init 148 = .ok (.putfield 69, 3) := by decide +kernel
theorem dX4_init_151 : decode cX4_init 151 = .ok (.aload_n 0, 1) := by decide +kernel
theorem dX4_init_152 : decode cX4_init 152 = .ok (.iconst 2, 1) := by decide +kernel
theorem dX4_init_153 : decode cX4_init 153 = .ok (.newarray .int, 2) := by decide +kernel
theorem dX4_init_155 : decode cX4_init 155 = .ok (.putfield 72, 3) := by decide +kernel
theorem dX4_init_158 : decode cX4_init 158 = .ok (.aload_n 0, 1) := by decide +kernel
theorem dX4_init_159 : decode cX4_init 159 = .ok (.iconst 2, 1) := by decide +kernel
theorem dX4_init_160 : decode cX4_init 160 = .ok (.newarray .long, 2) := by decide +kernel
theorem dX4_init_162 : decode cX4_init 162 = .ok (.putfield 75, 3) := by decide +kernel
theorem dX4_init_165 : decode cX4_init 165 = .ok (.aload_n 0, 1) := by decide +kernel
theorem dX4_init_166 : decode cX4_init 166 = .ok (.iconst 2, 1) := by decide +kernel
theorem dX4_init_167 : decode cX4_init 167 = .ok (.newarray .long, 2) := by decide +kernel
theorem dX4_init_169 : decode cX4_init 169 = .ok (.putfield 78, 3) := by decide +kernel
theorem dX4_init_172 : decode cX4_init 172 = .ok (.aload_n 0, 1) := by decide +kernel
theorem dX4_init_173 : decode cX4_init 173 = .ok (.sipush 1680, 3) := by decide +kernel
theorem dX4_init_176 : decode cX4_init 176 = .ok (.newarray .int, 2) := by decide +kernel
theorem dX4_init_178 : decode cX4_init 178 = .ok (.putfield 81, 3) := by decide +kernel
theorem dX4_init_181 : decode cX4_init 181 = .ok (.aload_n 0, 1) := by decide +kernel
theorem dX4_init_182 : decode cX4_init 182 = .ok (.sipush 1680, 3) := by decide +kernel
theorem dX4_init_185 : decode cX4_init 185 = .ok (.newarray .int, 2) := by decide +kernel
theorem dX4_init_187 : decode cX4_init 187 = .ok (.putfield 84, 3) := by decide +kernel
theorem dX4_init_190 : decode cX4_init 190 = .ok (.aload_n 0, 1) := by decide +kernel
theorem dX4_init_191 : decode cX4_init 191 = .ok (.sipush 1680, 3) := by decide +kernel
theorem dX4_init_194 : decode cX4_init 194 = .ok (.newarray .int, 2) := by decide +kernel
theorem dX4_init_196 : decode cX4_init 196 = .ok (.putfield 87, 3) := by decide +kernel
theorem dX4_init_199 : decode cX4_init 199 = .ok (.aload_n 0, 1) := by decide +kernel
theorem dX4_init_200 : decode cX4_init 200 = .ok (.bipush 40, 2) := by decide +kernel
theorem dX4_init_202 : decode cX4_init 202 = .ok (.newarray .int, 2) := by decide +kernel
theorem dX4_init_204 : decode cX4_init 204 = .ok (.putfield 90, 3) := by decide +kernel
theorem dX4_init_207 : decode cX4_init 207 = .ok (.aload_n 0, 1) := by decide +kernel
theorem dX4_init_208 : decode cX4_init 208 = .ok (.bipush 40, 2) := by decide +kernel
theorem dX4_init_210 : decode cX4_init 210 = .ok (.newarray .int, 2) := by decide +kernel
theorem dX4_init_212 : decode cX4_init 212 = .ok (.putfield 93, 3) := by decide +kernel
theorem dX4_init_215 : decode cX4_init 215 = .ok (.aload_n 0, 1) := by decide +kernel
theorem dX4_init_216 : decode cX4_init 216 = .ok (.bipush 40, 2) := by decide +kernel
theorem dX4_init_218 : decode cX4_init 218 = .ok (.newarray .int, 2) := by decide +kernel
theorem dX4_init_220 : decode cX4_init 220 = .ok (.putfield 96, 3) := by decide +kernel
theorem dX4_init_223 : decode cX4_init 223 = .ok (.aload_n 0, 1) := by decide +kernel
theorem dX4_init_224 : decode cX4_init 224 = .ok (.bipush 40, 2) := by decide +kernel
theorem dX4_init_226 : decode cX4_init 226 = .ok (.newarray .int, 2) := by decide +kernel
theorem dX4_init_228 : decode cX4_init 228 = .ok (.putfield 99, 3) := by decide +kernel
theorem dX4_init_231 : decode cX4_init 231 = .ok (.aload_n 0, 1) := by decide +kernel
theorem dX4_init_232 : decode cX4_init 232 = .ok (.bipush 40, 2) := by decide +kernel
theorem dX4_init_234 : decode cX4_init 234 = .ok (.newarray .int, 2) := by decide +kernel
theorem dX4_init_236 : decode cX4_init 236 = .ok (.putfield 102, 3) := by decide +kernel
theorem dX4_init_239 : decode cX4_init 239 = .ok (.aload_n 0, 1) := by decide +kernel
theorem dX4_init_240 : decode cX4_init 240 = .ok (.bipush 40, 2) := by decide +kernel
theorem dX4_init_242 : decode cX4_init 242 = .ok (.newarray .int, 2) := by decide +kernel
theorem dX4_init_244 : decode cX4_init 244 = .ok (.putfield 105, 3) := by decide +kernel
theorem dX4_init_247 : decode cX4_init 247 = .ok (.aload_n 0, 1) := by decide +kernel
theorem dX4_init_248 : decode cX4_init 248 = .ok (.ldc 108, 2) := by decide +kernel
theorem dX4_init_250 : decode cX4_init 250 = .ok (.newarray .int, 2) := by decide +kernel
theorem dX4_init_252 : decode cX4_init 252 = .ok (.putfield 109, 3) := by decide +kernel
theorem dX4_init_255 : decode cX4_init 255 = .ok (.aload_n 0, 1) := by decide +kernel
theorem dX4_init_256 : decode cX4_init 256 = .ok (.iconst 4, 1) := by decide +kernel
theorem dX4_init_257 : decode cX4_init 257 = .ok (.newarray .int, 2) := by decide +kernel
theorem dX4_init_259 : decode cX4_init 259 = .ok (.putfield 112, 3) := by decide +kernel
theorem dX4_init_262 : decode cX4_init 262 = .ok (.aload_n 0, 1) := by decide +kernel
theorem dX4_init_263 : decode cX4_init 263 = .ok (.sipush 834, 3) := by decide +kernel
theorem dX4_init_266 : decode cX4_init 266 = .ok (.newarray .int, 2) := by decide +kernel
theorem dX4_init_268 : decode cX4_init 268 = .ok (.putfield 115, 3) := by decide +kernel
theorem dX4_init_271 : decode cX4_init 271 = .ok (.aload_n 0, 1) := by decide +kernel
theorem dX4_init_272 : decode cX4_init 272 = .ok (.sipush 834, 3) := by decide +kernel
theorem dX4_init_275 : decode cX4_init 275 = .ok (.newarray .int, 2) := by decide +kernel
theorem dX4_init_277 : decode cX4_init 277 = .ok (.putfield 118, 3) := by decide +kernel
theorem dX4_init_280 : decode cX4_init 280 = .ok (.aload_n 0, 1) := by decide +kernel
theorem dX4_init_281 : decode cX4_init 281 = .ok (.sipush 834, 3) := by decide +kernel
theorem dX4_init_284 : decode cX4_init 284 = .ok (.newarray .int, 2) := by decide +kernel
theorem dX4_init_286 : decode cX4_init 286 = .ok (.putfield 121, 3) := by decide +kernel
theorem dX4_init_289 : decode cX4_init 289 = .ok (.aload_n 0, 1) := by decide +kernel
theorem dX4_init_290 : decode cX4_init 290 = .ok (.bipush 60, 2) := by decide +kernel
theorem dX4_init_292 : decode cX4_init 292 = .ok (.newarray .int, 2) := by decide +kernel
theorem dX4_init_294 : decode cX4_init 294 = .ok (.putfield 124, 3) := by decide +kernel
theorem dX4_init_297 : decode cX4_init 297 = .ok (.aload_n 0, 1) := by decide +kernel
theorem dX4_init_298 : decode cX4_init 298 = .ok (.bipush 60, 2) := by decide +kernel
theorem dX4_init_300 : decode cX4_init 300 = .ok (.newarray .int, 2) := by decide +kernel
theorem dX4_init_302 : decode cX4_init 302 = .ok (.putfield 127, 3) := by decide +kernel
theorem dX4_init_305 : decode cX4_init 305 = .ok (.aload_n 0, 1) := by decide +kernel
theorem dX4_init_306 : decode cX4_init 306 = .ok (.bipush 60, 2) := by decide +kernel
theorem dX4_init_308 : decode cX4_init 308 = .ok (.newarray .int, 2) := by decide +kernel
theorem dX4_init_310 : decode cX4_init 310 = .ok (.putfield 130, 3) := by decide +kernel
theorem dX4_init_313 : decode cX4_init 313 = .ok (.aload_n 0, 1) := by decide +kernel
theorem dX4_init_314 : decode cX4_init 314 = .ok (.iconst (-1), 1) := by decide +kernel
theorem dX4_init_315 : decode cX4_init 315 = .ok (.putfield 133, 3) := by decide +kernel
theorem dX4_init_318 : decode cX4_init 318 = .ok (.aload_n 0, 1) := by decide +kernel
theorem dX4_init_319 : decode cX4_init 319 = .ok (.bipush 9, 2) := by decide +kernel
theorem dX4_init_321 : decode cX4_init 321 = .ok (.newarray .int, 2) := by decide +kernel
theorem dX4_init_323 : decode cX4_init 323 = .ok (.putfield 137, 3) := by decide +kernel
theorem dX4_init_326 : decode cX4_init 326 = .ok (.aload_n 0, 1) := by decide +kernel
theorem dX4_init_327 : decode cX4_init 327 = .ok (.bipush 9, 2) := by decide +kernel
theorem dX4_init_329 : decode cX4_init 329 = .ok (.newarray .int, 2) := by decide +kernel
theorem dX4_init_331 : decode cX4_init 331 = .ok (.putfield 140, 3) := by decide +kernel
theorem dX4_init_334 : decode cX4_init 334 = .ok (.aload_n 0, 1) := by decide +kernel
theorem dX4_init_335 : decode cX4_init 335 = .ok (.sipush 216, 3) := by decide +kernel
theorem dX4_init_338 : decode cX4_init 338 = .ok (.newarray .int, 2) := by decide +kernel
theorem dX4_init_340 : decode cX4_init 340 = .ok (.putfield 143, 3) := by decide +kernel
theorem dX4_init_343 : decode cX4_init 343 = .ok (.aload_n 0, 1) := by decide +kernel
theorem dX4_init_344 : decode cX4_init 344 = .ok (.sipush 216, 3) := by decide +kernel
theorem dX4_init_347 : decode cX4_init 347 = .ok (.newarray .int, 2) := by decide +kernel
theorem dX4_init_349 : decode cX4_init 349 = .ok (.putfield 146, 3) := by decide +kernel
theorem dX4_init_352 : decode cX4_init 352 = .ok (.aload_n 0, 1) := by decide +kernel
theorem dX4_init_353 : decode cX4_init 353 = .ok (.sipush 216, 3) := by decide +kernel
theorem dX4_init_356 : decode cX4_init 356 = .ok (.newarray .int, 2) := by decide +kernel
theorem dX4_init_358 : decode cX4_init 358 = .ok (.putfield 149, 3) := by decide +kernel
theorem dX4_init_361 : decode cX4_init 361 = .ok (.aload_n 0, 1) := by decide +kernel
theorem dX4_init_362 : decode cX4_init 362 = .ok (.sipush 216, 3) := by decide +kernel
theorem dX4_init_365 : decode cX4_init 365 = .ok (.newarray .int, 2) := by decide +kernel
theorem dX4_init_367 : decode cX4_init 367 = .ok (.putfield 152, 3) := by decide +kernel
theorem dX4_init_370 : decode cX4_init 370 = .ok (.aload_n 0, 1) := by decide +kernel
theorem dX4_init_371 : decode cX4_init 371 = .ok (.sipush 5000, 3) := by decide +kernel
theorem dX4_init_374 : decode cX4_init 374 = .ok (.newarray .int, 2) := by decide +kernel
theorem dX4_init_376 : decode cX4_init 376 = .ok (.putfield 155, 3) := by decide +kernel
theorem dX4_init_379 : decode cX4_init 379 = .ok (.aload_n 0, 1) := by decide +kernel
theorem dX4_init_380 : decode cX4_init 380 = .ok (.sipush 5000, 3) := by decide +kernel
theorem dX4_init_383 : decode cX4_init 383 = .ok (.newarray .int, 2) := by decide +kernel
theorem dX4_init_385 : decode cX4_init 385 = .ok (.putfield 158, 3) := by decide +kernel
theorem dX4_init_388 : decode cX4_init 388 = .ok (.aload_n 0, 1) := by decide +kernel
theorem dX4_init_389 : decode cX4_init 389 = .ok (.sipush 5000, 3) := by decide +kernel
theorem dX4_init_392 : decode cX4_init 392 = .ok (.newarray .int, 2) := by decide +kernel
theorem dX4_init_394 : decode cX4_init 394 = .ok (.putfield 161, 3) := by decide +kernel
theorem dX4_init_397 : decode cX4_init 397 = .ok (.aload_n 0, 1) := by decide +kernel
theorem dX4_init_398 : decode cX4_init 398 = .ok (.sipush 5000, 3) := by decide +kernel
theorem dX4_init_401 : decode cX4_init 401 = .ok (.newarray .int, 2) := by decide +kernel
theorem dX4_init_403 : decode cX4_init 403 = .ok (.putfield 164, 3) := by decide +kernel
theorem dX4_init_406 : decode cX4_init 406 = .ok (.aload_n 0, 1) := by decide +kernel
theorem dX4_init_407 : decode cX4_init 407 = .ok (.sipush 5000, 3) := by decide +kernel
theorem dX4_init_410 : decode cX4_init 410 = .ok (.newarray .int, 2) := by decide +kernel
theorem dX4_init_412 : decode cX4_init 412 = .ok (.putfield 167, 3) := by decide +kernel
theorem dX4_init_415 : decode cX4_init 415 = .ok (.aload_n 0, 1) := by decide +kernel
theorem dX4_init_416 : decode cX4_init 416 = .ok (.sipush 5000, 3) := by decide +kernel
theorem dX4_init_419 : decode cX4_init 419 = .ok (.newarray .int, 2) := by decide +kernel
theorem dX4_init_421 : decode cX4_init 421 = .ok (.putfield 170, 3) := by decide +kernel
theorem dX4_init_424 : decode cX4_init 424 = .ok (.aload_n 0, 1) := by decide +kernel
theorem dX4_init_425 : decode cX4_init 425 = .ok (.sipush 600, 3) := by decide +kernel
theorem dX4_init_428 : decode cX4_init 428 = .ok (.newarray .byte, 2) := by decide +kernel
theorem dX4_init_430 : decode cX4_init 430 = .ok (.putfield 173, 3) := by decide +kernel
theorem dX4_init_433 : decode cX4_init 433 = .ok (.aload_n 0, 1) := by decide +kernel
theorem dX4_init_434 : decode cX4_init 434 = .ok (.sipush 600, 3) := by decide +kernel
theorem dX4_init_437 : decode cX4_init 437 = .ok (.newarray .byte, 2) := by decide +kernel
theorem dX4_init_439 : decode cX4_init 439 = .ok (.putfield 177, 3) := by decide +kernel
theorem dX4_init_442 : decode cX4_init 442 = .ok (.aload_n 0, 1) := by decide +kernel
theorem dX4_init_443 : decode cX4_init 443 = .ok (.bipush 8, 2) := by decide +kernel
theorem dX4_init_445 : decode cX4_init 445 = .ok (.newarray .long, 2) := by decide +kernel
theorem dX4_init_447 : decode cX4_init 447 = .ok (.putfield 180, 3) := by decide +kernel
theorem dX4_init_450 : decode cX4_init 450 = .ok (.aload_n 0, 1) := by decide +kernel
theorem dX4_init_451 : decode cX4_init 451 = .ok (.bipush 20, 2) := by decide +kernel
theorem dX4_init_453 : decode cX4_init 453 = .ok (.newarray .int, 2) := by decide +kernel
theorem dX4_init_455 : decode cX4_init 455 = .ok (.putfield 183, 3) := by decide +kernel
theorem dX4_init_458 : decode cX4_init 458 = .ok (.aload_n 0, 1) := by decide +kernel
theorem dX4_init_459 : decode cX4_init 459 = .ok (.bipush 20, 2) := by decide +kernel
theorem dX4_init_461 : decode cX4_init 461 = .ok (.newarray .int, 2) := by decide +kernel
theorem dX4_init_463 : decode cX4_init 463 = .ok (.putfield 186, 3) := by decide +kernel
theorem dX4_init_466 : decode cX4_init 466 = .ok (.aload_n 0, 1) := by decide +kernel
theorem dX4_init_467 : decode cX4_init 467 = .ok (.bipush 20, 2) := by decide +kernel
theorem dX4_init_469 : decode cX4_init 469 = .ok (.newarray .int, 2) := by decide +kernel
theorem dX4_init_471 : decode cX4_init 471 = .ok (.putfield 189, 3) := by decide +kernel
theorem dX4_init_474 : decode cX4_init 474 = .ok (.aload_n 0, 1) := by decide +kernel
theorem dX4_init_475 : decode cX4_init 475 = .ok (.sipush 8784, 3) := by decide +kernel
theorem dX4_init_478 : decode cX4_init 478 = .ok (.newarray .int, 2) := by decide +kernel
theorem dX4_init_480 : decode cX4_init 480 = .ok (.putfield 192, 3) := by decide +kernel
theorem dX4_init_483 : decode cX4_init 483 = .ok (.aload_n 0, 1) := by decide +kernel
theorem dX4_init_484 : decode cX4_init 484 = .ok (.sipush 128, 3) := by decide +kernel
theorem dX4_init_487 : decode cX4_init 487 = .ok (.newarray .int, 2) := by decide +kernel
theorem dX4_init_489 : decode cX4_init 489 = .ok (.putfield 195, 3) := by decide +kernel
theorem dX4_init_492 : decode cX4_init 492 = .ok (.return_, 1) := by decide +kernel
theorem ycX4_init : yX4_init.cls ≠ "java/lang/invoke/MethodHandle" ∧ yX4_init.cls ≠ "java/lang/invoke/VarHandle" ∧ (parseMethodDescriptor yX4_init.desc).map (fun d => d.parameters.length) = some 0 := by decide +kernel
theorem yvX4_init : yX4_init.cls = RR 4 ∧ yX4_init.cls ≠ "java/lang/invoke/MethodHandle" ∧ yX4_init.cls ≠ "java/lang/invoke/VarHandle" ∧ (parseMethodDescriptor yX4_init.desc).map (fun d => d.parameters.length) = some 0 := ⟨rfl, ycX4_init⟩
def f_X4_init (p0 : Nat) : Act Unit :=
  nn p0 <|
  bnd (newA 0 3) fun v1 =>
  bnd (putR 4 4 p0 v1) fun _ =>
  bnd (newA 0 240) fun v2 =>
  bnd (putR 4 5 p0 v2) fun _ =>
  bnd (newA 0 240) fun v3 =>
  bnd (putR 4 6 p0 v3) fun _ =>
  bnd (newA 0 240) fun v4 =>
  bnd (putR 4 7 p0 v4) fun _ =>
  bnd (newA 0 4) fun v5 =>
  bnd (putR 4 8 p0 v5) fun _ =>
  bnd (newA 0 4) fun v6 =>
  bnd (putR 4 9 p0 v6) fun _ =>
  bnd (newA 0 4) fun v7 =>
  bnd (putR 4 10 p0 v7) fun _ =>
  bnd (newA 0 4) fun v8 =>
  bnd (putR 4 11 p0 v8) fun _ =>
  bnd (newA 0 4) fun v9 =>
  bnd (putR 4 12 p0 v9) fun _ =>
  bnd (newA 0 4) fun v10 =>
  bnd (putR 4 13 p0 v10) fun _ =>
  bnd (newA 0 4) fun v11 =>
  bnd (putR 4 14 p0 v11) fun _ =>
  bnd (newA 3 4) fun v12 =>
  bnd (putR 4 15 p0 v12) fun _ =>
  bnd (newA 1 4) fun v13 =>
  bnd (putR 4 16 p0 v13) fun _ =>
  bnd (newA 1 13) fun v14 =>
  bnd (putR 4 17 p0 v14) fun _ =>
  bnd (newA 0 2) fun v15 =>
  bnd (putR 4 20 p0 v15) fun _ =>
  bnd (newA 0 2) fun v16 =>
  bnd (putR 4 21 p0 v16) fun _ =>
  bnd (newA 0 2) fun v17 =>
  bnd (putR 4 22 p0 v17) fun _ =>
  bnd (newA 0 2) fun v18 =>
  bnd (putR 4 23 p0 v18) fun _ =>
  bnd (newA 0 2) fun v19 =>
  bnd (putR 4 24 p0 v19) fun _ =>
  bnd (newA 0 2) fun v20 =>
  bnd (putR 4 25 p0 v20) fun _ =>
  bnd (newA 0 2) fun v21 =>
  bnd (putR 4 26 p0 v21) fun _ =>
  bnd (newA 1 2) fun v22 =>
  bnd (putR 4 27 p0 v22) fun _ =>
  bnd (newA 1 2) fun v23 =>
  bnd (putR 4 28 p0 v23) fun _ =>
  bnd (newA 0 1680) fun v24 =>
  bnd (putR 4 29 p0 v24) fun _ =>
  bnd (newA 0 1680) fun v25 =>
  bnd (putR 4 30 p0 v25) fun _ =>
  bnd (newA 0 1680) fun v26 =>
  bnd (putR 4 31 p0 v26) fun _ =>
  bnd (newA 0 40) fun v27 =>
  bnd (putR 4 32 p0 v27) fun _ =>
  bnd (newA 0 40) fun v28 =>
  bnd (putR 4 33 p0 v28) fun _ =>
  bnd (newA 0 40) fun v29 =>
  bnd (putR 4 34 p0 v29) fun _ =>
  bnd (newA 0 40) fun v30 =>
  bnd (putR 4 35 p0 v30) fun _ =>
  bnd (newA 0 40) fun v31 =>
  bnd (putR 4 36 p0 v31) fun _ =>
  bnd (newA 0 40) fun v32 =>
  bnd (putR 4 37 p0 v32) fun _ =>
  bnd (newA 0 33360) fun v33 =>
  bnd (putR 4 38 p0 v33) fun _ =>
  bnd (newA 0 4) fun v34 =>
  bnd (putR 4 40 p0 v34) fun _ =>
  bnd (newA 0 834) fun v35 =>
  bnd (putR 4 41 p0 v35) fun _ =>
  bnd (newA 0 834) fun v36 =>
  bnd (putR 4 42 p0 v36) fun _ =>
  bnd (newA 0 834) fun v37 =>
  bnd (putR 4 43 p0 v37) fun _ =>
  bnd (newA 0 60) fun v38 =>
  bnd (putR 4 46 p0 v38) fun _ =>
  bnd (newA 0 60) fun v39 =>
  bnd (putR 4 47 p0 v39) fun _ =>
  bnd (newA 0 60) fun v40 =>
  bnd (putR 4 48 p0 v40) fun _ =>
  bnd (putI 4 55 p0 (-1)) fun _ =>
  bnd (newA 0 9) fun v41 =>
  bnd (putR 4 56 p0 v41) fun _ =>
  bnd (newA 0 9) fun v42 =>
  bnd (putR 4 57 p0 v42) fun _ =>
  bnd (newA 0 216) fun v43 =>
  bnd (putR 4 58 p0 v43) fun _ =>
  bnd (newA 0 216) fun v44 =>
  bnd (putR 4 59 p0 v44) fun _ =>
  bnd (newA 0 216) fun v45 =>
  bnd (putR 4 60 p0 v45) fun _ =>
  bnd (newA 0 216) fun v46 =>
  bnd (putR 4 61 p0 v46) fun _ =>
  bnd (newA 0 5000) fun v47 =>
  bnd (putR 4 62 p0 v47) fun _ =>
  bnd (newA 0 5000) fun v48 =>
  bnd (putR 4 63 p0 v48) fun _ =>
  bnd (newA 0 5000) fun v49 =>
  bnd (putR 4 64 p0 v49) fun _ =>
  bnd (newA 0 5000) fun v50 =>
  bnd (putR 4 65 p0 v50) fun _ =>
  bnd (newA 0 5000) fun v51 =>
  bnd (putR 4 66 p0 v51) fun _ =>
  bnd (newA 0 5000) fun v52 =>
  bnd (putR 4 67 p0 v52) fun _ =>
  bnd (newA 2 600) fun v53 =>
  bnd (putR 4 68 p0 v53) fun _ =>
  bnd (newA 2 600) fun v54 =>
  bnd (putR 4 69 p0 v54) fun _ =>
  bnd (newA 1 8) fun v55 =>
  bnd (putR 4 70 p0 v55) fun _ =>
  bnd (newA 0 20) fun v56 =>
  bnd (putR 4 74 p0 v56) fun _ =>
  bnd (newA 0 20) fun v57 =>
  bnd (putR 4 75 p0 v57) fun _ =>
  bnd (newA 0 20) fun v58 =>
  bnd (putR 4 76 p0 v58) fun _ =>
  bnd (newA 0 8784) fun v59 =>
  bnd (putR 4 77 p0 v59) fun _ =>
  bnd (newA 0 128) fun v60 =>
  bnd (putR 4 78 p0 v60) fun _ =>
  pur ()
set_option maxHeartbeats 4000000 in
theorem ct_X4_init (l : Launch) (p0 : Nat) : Ct l Pic yX4_init (ws_ yX4_init cX4_init 1 none) 1 24 cvU [rv p0] (f_X4_init p0) := by
  refine Ct.of (own := RX4) (L := [(0, rv p0)]) (plainFor_of_name (by decide)) rfl (by first | decide | simp [lg_sl, rv_cat, cat_i, cat_l]) (by first | rfl | simp [lv_args, rv_cat, cat_i, cat_l]) pcZ (fun X hXl hX hnh hin => ?_)
  subst hXl
  unfold f_X4_init
  refine s_aload_n hX dX4_init_0 rfl 0 rfl ?_
  refine s_oinit hX (by decide) q1536 q126 q127 (by decide) (by decide) dX4_init_1 ?_
  refine s_aload_n hX dX4_init_4 rfl 0 rfl ?_
  refine s_iconst (v := 3) hX dX4_init_5 rfl ?_
  refine s_newI hX (pcM 0) q393 dX4_init_6 (fun v1 => ?_)
  refine s_putRF (ci := 4) (j := 4) (ref := "WindGasModel") hX (pcG 4) (pcP 4) in_X4 tyX4_ok nmX4 q1542 (by decide) (by decide) (by decide) rfl (fun v => by cases v <;> exact ⟨rfl, rfl⟩) rfl (hin rfl) rfl dX4_init_8 (fun _ h9 => h9) ?_
  refine s_aload_n hX dX4_init_11 rfl 0 rfl ?_
  refine s_sipush (v := 240) hX dX4_init_12 (by decide) ?_
  refine s_newI hX (pcM 0) q393 dX4_init_15 (fun v2 => ?_)
  refine s_putRF (ci := 4) (j := 5) (ref := "WindGasModel") hX (pcG 4) (pcP 4) in_X4 tyX4_ok nmX4 q1543 (by decide) (by decide) (by decide) rfl (fun v => by cases v <;> exact ⟨rfl, rfl⟩) rfl (hin rfl) rfl dX4_init_17 (fun _ h9 => h9) ?_
  refine s_aload_n hX dX4_init_20 rfl 0 rfl ?_
  refine s_sipush (v := 240) hX dX4_init_21 (by decide) ?_
  refine s_newI hX (pcM 0) q393 dX4_init_24 (fun v3 => ?_)
  refine s_putRF (ci := 4) (j := 6) (ref := "WindGasModel") hX (pcG 4) (pcP 4) in_X4 tyX4_ok nmX4 q1544 (by decide) (by decide) (by decide) rfl (fun v => by cases v <;> exact ⟨rfl, rfl⟩) rfl (hin rfl) rfl dX4_init_26 (fun _ h9 => h9) ?_
  refine s_aload_n hX dX4_init_29 rfl 0 rfl ?_
  refine s_sipush (v := 240) hX dX4_init_30 (by decide) ?_
  refine s_newI hX (pcM 0) q393 dX4_init_33 (fun v4 => ?_)
  refine s_putRF (ci := 4) (j := 7) (ref := "WindGasModel") hX (pcG 4) (pcP 4) in_X4 tyX4_ok nmX4 q1545 (by decide) (by decide) (by decide) rfl (fun v => by cases v <;> exact ⟨rfl, rfl⟩) rfl (hin rfl) rfl dX4_init_35 (fun _ h9 => h9) ?_
  refine s_aload_n hX dX4_init_38 rfl 0 rfl ?_
  refine s_iconst (v := 4) hX dX4_init_39 rfl ?_
  refine s_newI hX (pcM 0) q393 dX4_init_40 (fun v5 => ?_)
  refine s_putRF (ci := 4) (j := 8) (ref := "WindGasModel") hX (pcG 4) (pcP 4) in_X4 tyX4_ok nmX4 q1546 (by decide) (by decide) (by decide) rfl (fun v => by cases v <;> exact ⟨rfl, rfl⟩) rfl (hin rfl) rfl dX4_init_42 (fun _ h9 => h9) ?_
  refine s_aload_n hX dX4_init_45 rfl 0 rfl ?_
  refine s_iconst (v := 4) hX dX4_init_46 rfl ?_
  refine s_newI hX (pcM 0) q393 dX4_init_47 (fun v6 => ?_)
  refine s_putRF (ci := 4) (j := 9) (ref := "WindGasModel") hX (pcG 4) (pcP 4) in_X4 tyX4_ok nmX4 q1547 (by decide) (by decide) (by decide) rfl (fun v => by cases v <;> exact ⟨rfl, rfl⟩) rfl (hin rfl) rfl dX4_init_49 (fun _ h9 => h9) ?_
  refine s_aload_n hX dX4_init_52 rfl 0 rfl ?_
  refine s_iconst (v := 4) hX dX4_init_53 rfl ?_
  refine s_newI hX (pcM 0) q393 dX4_init_54 (fun v7 => ?_)
  refine s_putRF (ci := 4) (j := 10) (ref := "WindGasModel") hX (pcG 4) (pcP 4) in_X4 tyX4_ok nmX4 q1548 (by decide) (by decide) (by decide) rfl (fun v => by cases v <;> exact ⟨rfl, rfl⟩) rfl (hin rfl) rfl dX4_init_56 (fun _ h9 => h9) ?_
  refine s_aload_n hX dX4_init_59 rfl 0 rfl ?_
  refine s_iconst (v := 4) hX dX4_init_60 rfl ?_
  refine s_newI hX (pcM 0) q393 dX4_init_61 (fun v8 => ?_)
  refine s_putRF (ci := 4) (j := 11) (ref := "WindGasModel") hX (pcG 4) (pcP 4) in_X4 tyX4_ok nmX4 q1549 (by decide) (by decide) (by decide) rfl (fun v => by cases v <;> exact ⟨rfl, rfl⟩) rfl (hin rfl) rfl dX4_init_63 (fun _ h9 => h9) ?_
  refine s_aload_n hX dX4_init_66 rfl 0 rfl ?_
  refine s_iconst (v := 4) hX dX4_init_67 rfl ?_
  refine s_newI hX (pcM 0) q393 dX4_init_68 (fun v9 => ?_)
  refine s_putRF (ci := 4) (j := 12) (ref := "WindGasModel") hX (pcG 4) (pcP 4) in_X4 tyX4_ok nmX4 q1550 (by decide) (by decide) (by decide) rfl (fun v => by cases v <;> exact ⟨rfl, rfl⟩) rfl (hin rfl) rfl dX4_init_70 (fun _ h9 => h9) ?_
  refine s_aload_n hX dX4_init_73 rfl 0 rfl ?_
  refine s_iconst (v := 4) hX dX4_init_74 rfl ?_
  refine s_newI hX (pcM 0) q393 dX4_init_75 (fun v10 => ?_)
  refine s_putRF (ci := 4) (j := 13) (ref := "WindGasModel") hX (pcG 4) (pcP 4) in_X4 tyX4_ok nmX4 q1551 (by decide) (by decide) (by decide) rfl (fun v => by cases v <;> exact ⟨rfl, rfl⟩) rfl (hin rfl) rfl dX4_init_77 (fun _ h9 => h9) ?_
  refine s_aload_n hX dX4_init_80 rfl 0 rfl ?_
  refine s_iconst (v := 4) hX dX4_init_81 rfl ?_
  refine s_newI hX (pcM 0) q393 dX4_init_82 (fun v11 => ?_)
  refine s_putRF (ci := 4) (j := 14) (ref := "WindGasModel") hX (pcG 4) (pcP 4) in_X4 tyX4_ok nmX4 q1552 (by decide) (by decide) (by decide) rfl (fun v => by cases v <;> exact ⟨rfl, rfl⟩) rfl (hin rfl) rfl dX4_init_84 (fun _ h9 => h9) ?_
  refine s_aload_n hX dX4_init_87 rfl 0 rfl ?_
  refine s_iconst (v := 4) hX dX4_init_88 rfl ?_
  refine s_newZ hX (pcM 3) q1776 dX4_init_89 (fun v12 => ?_)
  refine s_putRF (ci := 4) (j := 15) (ref := "WindGasModel") hX (pcG 4) (pcP 4) in_X4 tyX4_ok nmX4 q1553 (by decide) (by decide) (by decide) rfl (fun v => by cases v <;> exact ⟨rfl, rfl⟩) rfl (hin rfl) rfl dX4_init_91 (fun _ h9 => h9) ?_
  refine s_aload_n hX dX4_init_94 rfl 0 rfl ?_
  refine s_iconst (v := 4) hX dX4_init_95 rfl ?_
  refine s_newL hX (pcM 1) q394 dX4_init_96 (fun v13 => ?_)
  refine s_putRF (ci := 4) (j := 16) (ref := "WindGasModel") hX (pcG 4) (pcP 4) in_X4 tyX4_ok nmX4 q1554 (by decide) (by decide) (by decide) rfl (fun v => by cases v <;> exact ⟨rfl, rfl⟩) rfl (hin rfl) rfl dX4_init_98 (fun _ h9 => h9) ?_
  refine s_aload_n hX dX4_init_101 rfl 0 rfl ?_
  refine s_bipush (v := 13) hX dX4_init_102 (by decide) ?_
  refine s_newL hX (pcM 1) q394 dX4_init_104 (fun v14 => ?_)
  refine s_putRF (ci := 4) (j := 17) (ref := "WindGasModel") hX (pcG 4) (pcP 4) in_X4 tyX4_ok nmX4 q1555 (by decide) (by decide) (by decide) rfl (fun v => by cases v <;> exact ⟨rfl, rfl⟩) rfl (hin rfl) rfl dX4_init_106 (fun _ h9 => h9) ?_
  refine s_aload_n hX dX4_init_109 rfl 0 rfl ?_
  refine s_iconst (v := 2) hX dX4_init_110 rfl ?_
  refine s_newI hX (pcM 0) q393 dX4_init_111 (fun v15 => ?_)
  refine s_putRF (ci := 4) (j := 20) (ref := "WindGasModel") hX (pcG 4) (pcP 4) in_X4 tyX4_ok nmX4 q1558 (by decide) (by decide) (by decide) rfl (fun v => by cases v <;> exact ⟨rfl, rfl⟩) rfl (hin rfl) rfl dX4_init_113 (fun _ h9 => h9) ?_
  refine s_aload_n hX dX4_init_116 rfl 0 rfl ?_
  refine s_iconst (v := 2) hX dX4_init_117 rfl ?_
  refine s_newI hX (pcM 0) q393 dX4_init_118 (fun v16 => ?_)
  refine s_putRF (ci := 4) (j := 21) (ref := "WindGasModel") hX (pcG 4) (pcP 4) in_X4 tyX4_ok nmX4 q1559 (by decide) (by decide) (by decide) rfl (fun v => by cases v <;> exact ⟨rfl, rfl⟩) rfl (hin rfl) rfl dX4_init_120 (fun _ h9 => h9) ?_
  refine s_aload_n hX dX4_init_123 rfl 0 rfl ?_
  refine s_iconst (v := 2) hX dX4_init_124 rfl ?_
  refine s_newI hX (pcM 0) q393 dX4_init_125 (fun v17 => ?_)
  refine s_putRF (ci := 4) (j := 22) (ref := "WindGasModel") hX (pcG 4) (pcP 4) in_X4 tyX4_ok nmX4 q1560 (by decide) (by decide) (by decide) rfl (fun v => by cases v <;> exact ⟨rfl, rfl⟩) rfl (hin rfl) rfl dX4_init_127 (fun _ h9 => h9) ?_
  refine s_aload_n hX dX4_init_130 rfl 0 rfl ?_
  refine s_iconst (v := 2) hX dX4_init_131 rfl ?_
  refine s_newI hX (pcM 0) q393 dX4_init_132 (fun v18 => ?_)
  refine s_putRF (ci := 4) (j := 23) (ref := "WindGasModel") hX (pcG 4) (pcP 4) in_X4 tyX4_ok nmX4 q1561 (by decide) (by decide) (by decide) rfl (fun v => by cases v <;> exact ⟨rfl, rfl⟩) rfl (hin rfl) rfl dX4_init_134 (fun _ h9 => h9) ?_
  refine s_aload_n hX dX4_init_137 rfl 0 rfl ?_
  refine s_iconst (v := 2) hX dX4_init_138 rfl ?_
  refine s_newI hX (pcM 0) q393 dX4_init_139 (fun v19 => ?_)
  refine s_putRF (ci := 4) (j := 24) (ref := "WindGasModel") hX (pcG 4) (pcP 4) in_X4 tyX4_ok nmX4 q1562 (by decide) (by decide) (by decide) rfl (fun v => by cases v <;> exact ⟨rfl, rfl⟩) rfl (hin rfl) rfl dX4_init_141 (fun _ h9 => h9) ?_
  refine s_aload_n hX dX4_init_144 rfl 0 rfl ?_
  refine s_iconst (v := 2) hX dX4_init_145 rfl ?_
  refine s_newI hX (pcM 0) q393 dX4_init_146 (fun v20 => ?_)
  refine s_putRF (ci := 4) (j := 25) (ref := "WindGasModel") hX (pcG 4) (pcP 4) in_X4 tyX4_ok nmX4 q1563 (by decide) (by decide) (by decide) rfl (fun v => by cases v <;> exact ⟨rfl, rfl⟩) rfl (hin rfl) rfl dX4_init_148 (fun _ h9 => h9) ?_
  refine s_aload_n hX dX4_init_151 rfl 0 rfl ?_
  refine s_iconst (v := 2) hX dX4_init_152 rfl ?_
  refine s_newI hX (pcM 0) q393 dX4_init_153 (fun v21 => ?_)
  refine s_putRF (ci := 4) (j := 26) (ref := "WindGasModel") hX (pcG 4) (pcP 4) in_X4 tyX4_ok nmX4 q1564 (by decide) (by decide) (by decide) rfl (fun v => by cases v <;> exact ⟨rfl, rfl⟩) rfl (hin rfl) rfl dX4_init_155 (fun _ h9 => h9) ?_
  refine s_aload_n hX dX4_init_158 rfl 0 rfl ?_
  refine s_iconst (v := 2) hX dX4_init_159 rfl ?_
  refine s_newL hX (pcM 1) q394 dX4_init_160 (fun v22 => ?_)
  refine s_putRF (ci := 4) (j := 27) (ref := "WindGasModel") hX (pcG 4) (pcP 4) in_X4 tyX4_ok nmX4 q1565 (by decide) (by decide) (by decide) rfl (fun v => by cases v <;> exact ⟨rfl, rfl⟩) rfl (hin rfl) rfl dX4_init_162 (fun _ h9 => h9) ?_
  refine s_aload_n hX dX4_init_165 rfl 0 rfl ?_
  refine s_iconst (v := 2) hX dX4_init_166 rfl ?_
  refine s_newL hX (pcM 1) q394 dX4_init_167 (fun v23 => ?_)
  refine s_putRF (ci := 4) (j := 28) (ref := "WindGasModel") hX (pcG 4) (pcP 4) in_X4 tyX4_ok nmX4 q1566 (by decide) (by decide) (by decide) rfl (fun v => by cases v <;> exact ⟨rfl, rfl⟩) rfl (hin rfl) rfl dX4_init_169 (fun _ h9 => h9) ?_
  refine s_aload_n hX dX4_init_172 rfl 0 rfl ?_
  refine s_sipush (v := 1680) hX dX4_init_173 (by decide) ?_
  refine s_newI hX (pcM 0) q393 dX4_init_176 (fun v24 => ?_)
  refine s_putRF (ci := 4) (j := 29) (ref := "WindGasModel") hX (pcG 4) (pcP 4) in_X4 tyX4_ok nmX4 q1567 (by decide) (by decide) (by decide) rfl (fun v => by cases v <;> exact ⟨rfl, rfl⟩) rfl (hin rfl) rfl dX4_init_178 (fun _ h9 => h9) ?_
  refine s_aload_n hX dX4_init_181 rfl 0 rfl ?_
  refine s_sipush (v := 1680) hX dX4_init_182 (by decide) ?_
  refine s_newI hX (pcM 0) q393 dX4_init_185 (fun v25 => ?_)
  refine s_putRF (ci := 4) (j := 30) (ref := "WindGasModel") hX (pcG 4) (pcP 4) in_X4 tyX4_ok nmX4 q1568 (by decide) (by decide) (by decide) rfl (fun v => by cases v <;> exact ⟨rfl, rfl⟩) rfl (hin rfl) rfl dX4_init_187 (fun _ h9 => h9) ?_
  refine s_aload_n hX dX4_init_190 rfl 0 rfl ?_
  refine s_sipush (v := 1680) hX dX4_init_191 (by decide) ?_
  refine s_newI hX (pcM 0) q393 dX4_init_194 (fun v26 => ?_)
  refine s_putRF (ci := 4) (j := 31) (ref := "WindGasModel") hX (pcG 4) (pcP 4) in_X4 tyX4_ok nmX4 q1569 (by decide) (by decide) (by decide) rfl (fun v => by cases v <;> exact ⟨rfl, rfl⟩) rfl (hin rfl) rfl dX4_init_196 (fun _ h9 => h9) ?_
  refine s_aload_n hX dX4_init_199 rfl 0 rfl ?_
  refine s_bipush (v := 40) hX dX4_init_200 (by decide) ?_
  refine s_newI hX (pcM 0) q393 dX4_init_202 (fun v27 => ?_)
  refine s_putRF (ci := 4) (j := 32) (ref := "WindGasModel") hX (pcG 4) (pcP 4) in_X4 tyX4_ok nmX4 q1570 (by decide) (by decide) (by decide) rfl (fun v => by cases v <;> exact ⟨rfl, rfl⟩) rfl (hin rfl) rfl dX4_init_204 (fun _ h9 => h9) ?_
  refine s_aload_n hX dX4_init_207 rfl 0 rfl ?_
  refine s_bipush (v := 40) hX dX4_init_208 (by decide) ?_
  refine s_newI hX (pcM 0) q393 dX4_init_210 (fun v28 => ?_)
  refine s_putRF (ci := 4) (j := 33) (ref := "WindGasModel") hX (pcG 4) (pcP 4) in_X4 tyX4_ok nmX4 q1571 (by decide) (by decide) (by decide) rfl (fun v => by cases v <;> exact ⟨rfl, rfl⟩) rfl (hin rfl) rfl dX4_init_212 (fun _ h9 => h9) ?_
  refine s_aload_n hX dX4_init_215 rfl 0 rfl ?_
  refine s_bipush (v := 40) hX dX4_init_216 (by decide) ?_
  refine s_newI hX (pcM 0) q393 dX4_init_218 (fun v29 => ?_)
  refine s_putRF (ci := 4) (j := 34) (ref := "WindGasModel") hX (pcG 4) (pcP 4) in_X4 tyX4_ok nmX4 q1572 (by decide) (by decide) (by decide) rfl (fun v => by cases v <;> exact ⟨rfl, rfl⟩) rfl (hin rfl) rfl dX4_init_220 (fun _ h9 => h9) ?_
  refine s_aload_n hX dX4_init_223 rfl 0 rfl ?_
  refine s_bipush (v := 40) hX dX4_init_224 (by decide) ?_
  refine s_newI hX (pcM 0) q393 dX4_init_226 (fun v30 => ?_)
  refine s_putRF (ci := 4) (j := 35) (ref := "WindGasModel") hX (pcG 4) (pcP 4) in_X4 tyX4_ok nmX4 q1573 (by decide) (by decide) (by decide) rfl (fun v => by cases v <;> exact ⟨rfl, rfl⟩) rfl (hin rfl) rfl dX4_init_228 (fun _ h9 => h9) ?_
  refine s_aload_n hX dX4_init_231 rfl 0 rfl ?_
  refine s_bipush (v := 40) hX dX4_init_232 (by decide) ?_
  refine s_newI hX (pcM 0) q393 dX4_init_234 (fun v31 => ?_)
  refine s_putRF (ci := 4) (j := 36) (ref := "WindGasModel") hX (pcG 4) (pcP 4) in_X4 tyX4_ok nmX4 q1574 (by decide) (by decide) (by decide) rfl (fun v => by cases v <;> exact ⟨rfl, rfl⟩) rfl (hin rfl) rfl dX4_init_236 (fun _ h9 => h9) ?_
  refine s_aload_n hX dX4_init_239 rfl 0 rfl ?_
  refine s_bipush (v := 40) hX dX4_init_240 (by decide) ?_
  refine s_newI hX (pcM 0) q393 dX4_init_242 (fun v32 => ?_)
  refine s_putRF (ci := 4) (j := 37) (ref := "WindGasModel") hX (pcG 4) (pcP 4) in_X4 tyX4_ok nmX4 q1575 (by decide) (by decide) (by decide) rfl (fun v => by cases v <;> exact ⟨rfl, rfl⟩) rfl (hin rfl) rfl dX4_init_244 (fun _ h9 => h9) ?_
  refine s_aload_n hX dX4_init_247 rfl 0 rfl ?_
  refine s_ldc (v := 33360) hX dX4_init_248 q1537 ?_
  refine s_newI hX (pcM 0) q393 dX4_init_250 (fun v33 => ?_)
  refine s_putRF (ci := 4) (j := 38) (ref := "WindGasModel") hX (pcG 4) (pcP 4) in_X4 tyX4_ok nmX4 q1576 (by decide) (by decide) (by decide) rfl (fun v => by cases v <;> exact ⟨rfl, rfl⟩) rfl (hin rfl) rfl dX4_init_252 (fun _ h9 => h9) ?_
  refine s_aload_n hX dX4_init_255 rfl 0 rfl ?_
  refine s_iconst (v := 4) hX dX4_init_256 rfl ?_
  refine s_newI hX (pcM 0) q393 dX4_init_257 (fun v34 => ?_)
  refine s_putRF (ci := 4) (j := 40) (ref := "WindGasModel") hX (pcG 4) (pcP 4) in_X4 tyX4_ok nmX4 q1578 (by decide) (by decide) (by decide) rfl (fun v => by cases v <;> exact ⟨rfl, rfl⟩) rfl (hin rfl) rfl dX4_init_259 (fun _ h9 => h9) ?_
  refine s_aload_n hX dX4_init_262 rfl 0 rfl ?_
  refine s_sipush (v := 834) hX dX4_init_263 (by decide) ?_
  refine s_newI hX (pcM 0) q393 dX4_init_266 (fun v35 => ?_)
  refine s_putRF (ci := 4) (j := 41) (ref := "WindGasModel") hX (pcG 4) (pcP 4) in_X4 tyX4_ok nmX4 q1579 (by decide) (by decide) (by decide) rfl (fun v => by cases v <;> exact ⟨rfl, rfl⟩) rfl (hin rfl) rfl dX4_init_268 (fun _ h9 => h9) ?_
  refine s_aload_n hX dX4_init_271 rfl 0 rfl ?_
  refine s_sipush (v := 834) hX dX4_init_272 (by decide) ?_
  refine s_newI hX (pcM 0) q393 dX4_init_275 (fun v36 => ?_)
  refine s_putRF (ci := 4) (j := 42) (ref := "WindGasModel") hX (pcG 4) (pcP 4) in_X4 tyX4_ok nmX4 q1580 (by decide) (by decide) (by decide) rfl (fun v => by cases v <;> exact ⟨rfl, rfl⟩) rfl (hin rfl) rfl dX4_init_277 (fun _ h9 => h9) ?_
  refine s_aload_n hX dX4_init_280 rfl 0 rfl ?_
  refine s_sipush (v := 834) hX dX4_init_281 (by decide) ?_
  refine s_newI hX (pcM 0) q393 dX4_init_284 (fun v37 => ?_)
  refine s_putRF (ci := 4) (j := 43) (ref := "WindGasModel") hX (pcG 4) (pcP 4) in_X4 tyX4_ok nmX4 q1581 (by decide) (by decide) (by decide) rfl (fun v => by cases v <;> exact ⟨rfl, rfl⟩) rfl (hin rfl) rfl dX4_init_286 (fun _ h9 => h9) ?_
  refine s_aload_n hX dX4_init_289 rfl 0 rfl ?_
  refine s_bipush (v := 60) hX dX4_init_290 (by decide) ?_
  refine s_newI hX (pcM 0) q393 dX4_init_292 (fun v38 => ?_)
  refine s_putRF (ci := 4) (j := 46) (ref := "WindGasModel") hX (pcG 4) (pcP 4) in_X4 tyX4_ok nmX4 q1584 (by decide) (by decide) (by decide) rfl (fun v => by cases v <;> exact ⟨rfl, rfl⟩) rfl (hin rfl) rfl dX4_init_294 (fun _ h9 => h9) ?_
  refine s_aload_n hX dX4_init_297 rfl 0 rfl ?_
  refine s_bipush (v := 60) hX dX4_init_298 (by decide) ?_
  refine s_newI hX (pcM 0) q393 dX4_init_300 (fun v39 => ?_)
  refine s_putRF (ci := 4) (j := 47) (ref := "WindGasModel") hX (pcG 4) (pcP 4) in_X4 tyX4_ok nmX4 q1585 (by decide) (by decide) (by decide) rfl (fun v => by cases v <;> exact ⟨rfl, rfl⟩) rfl (hin rfl) rfl dX4_init_302 (fun _ h9 => h9) ?_
  refine s_aload_n hX dX4_init_305 rfl 0 rfl ?_
  refine s_bipush (v := 60) hX dX4_init_306 (by decide) ?_
  refine s_newI hX (pcM 0) q393 dX4_init_308 (fun v40 => ?_)
  refine s_putRF (ci := 4) (j := 48) (ref := "WindGasModel") hX (pcG 4) (pcP 4) in_X4 tyX4_ok nmX4 q1586 (by decide) (by decide) (by decide) rfl (fun v => by cases v <;> exact ⟨rfl, rfl⟩) rfl (hin rfl) rfl dX4_init_310 (fun _ h9 => h9) ?_
  refine s_aload_n hX dX4_init_313 rfl 0 rfl ?_
  refine s_iconst (v := -1) hX dX4_init_314 (by decide) ?_
  refine s_putI (ci := 4) (j := 55) (ref := "WindGasModel") hX (pcG 4) (pcP 4) in_X4 tyX4_ok nmX4 (Or.inl q1593) (by decide) (by decide) (by decide) rfl rfl rfl dX4_init_315 (fun _ h9 => h9) ?_
  refine s_aload_n hX dX4_init_318 rfl 0 rfl ?_
  refine s_bipush (v := 9) hX dX4_init_319 (by decide) ?_
  refine s_newI hX (pcM 0) q393 dX4_init_321 (fun v41 => ?_)
  refine s_putRF (ci := 4) (j := 56) (ref := "WindGasModel") hX (pcG 4) (pcP 4) in_X4 tyX4_ok nmX4 q1594 (by decide) (by decide) (by decide) rfl (fun v => by cases v <;> exact ⟨rfl, rfl⟩) rfl (hin rfl) rfl dX4_init_323 (fun _ h9 => h9) ?_
  refine s_aload_n hX dX4_init_326 rfl 0 rfl ?_
  refine s_bipush (v := 9) hX dX4_init_327 (by decide) ?_
  refine s_newI hX (pcM 0) q393 dX4_init_329 (fun v42 => ?_)
  refine s_putRF (ci := 4) (j := 57) (ref := "WindGasModel") hX (pcG 4) (pcP 4) in_X4 tyX4_ok nmX4 q1595 (by decide) (by decide) (by decide) rfl (fun v => by cases v <;> exact ⟨rfl, rfl⟩) rfl (hin rfl) rfl dX4_init_331 (fun _ h9 => h9) ?_
  refine s_aload_n hX dX4_init_334 rfl 0 rfl ?_
  refine s_sipush (v := 216) hX dX4_init_335 (by decide) ?_
  refine s_newI hX (pcM 0) q393 dX4_init_338 (fun v43 => ?_)
  refine s_putRF (ci := 4) (j := 58) (ref := "WindGasModel") hX (pcG 4) (pcP 4) in_X4 tyX4_ok nmX4 q1596 (by decide) (by decide) (by decide) rfl (fun v => by cases v <;> exact ⟨rfl, rfl⟩) rfl (hin rfl) rfl dX4_init_340 (fun _ h9 => h9) ?_
  refine s_aload_n hX dX4_init_343 rfl 0 rfl ?_
  refine s_sipush (v := 216) hX dX4_init_344 (by decide) ?_
  refine s_newI hX (pcM 0) q393 dX4_init_347 (fun v44 => ?_)
  refine s_putRF (ci := 4) (j := 59) (ref := "WindGasModel") hX (pcG 4) (pcP 4) in_X4 tyX4_ok nmX4 q1597 (by decide) (by decide) (by decide) rfl (fun v => by cases v <;> exact ⟨rfl, rfl⟩) rfl (hin rfl) rfl dX4_init_349 (fun _ h9 => h9) ?_
  refine s_aload_n hX dX4_init_352 rfl 0 rfl ?_
  refine s_sipush (v := 216) hX dX4_init_353 (by decide) ?_
  refine s_newI hX (pcM 0) q393 dX4_init_356 (fun v45 => ?_)
  refine s_putRF (ci := 4) (j := 60) (ref := "WindGasModel") hX (pcG 4) (pcP 4) in_X4 tyX4_ok nmX4 q1598 (by decide) (by decide) (by decide) rfl (fun v => by cases v <;> exact ⟨rfl, rfl⟩) rfl (hin rfl) rfl dX4_init_358 (fun _ h9 => h9) ?_
  refine s_aload_n hX dX4_init_361 rfl 0 rfl ?_
  refine s_sipush (v := 216) hX dX4_init_362 (by decide) ?_
  refine s_newI hX (pcM 0) q393 dX4_init_365 (fun v46 => ?_)
  refine s_putRF (ci := 4) (j := 61) (ref := "WindGasModel") hX (pcG 4) (pcP 4) in_X4 tyX4_ok nmX4 q1599 (by decide) (by decide) (by decide) rfl (fun v => by cases v <;> exact ⟨rfl, rfl⟩) rfl (hin rfl) rfl dX4_init_367 (fun _ h9 => h9) ?_
  refine s_aload_n hX dX4_init_370 rfl 0 rfl ?_
  refine s_sipush (v := 5000) hX dX4_init_371 (by decide) ?_
  refine s_newI hX (pcM 0) q393 dX4_init_374 (fun v47 => ?_)
  refine s_putRF (ci := 4) (j := 62) (ref := "WindGasModel") hX (pcG 4) (pcP 4) in_X4 tyX4_ok nmX4 q1600 (by decide) (by decide) (by decide) rfl (fun v => by cases v <;> exact ⟨rfl, rfl⟩) rfl (hin rfl) rfl dX4_init_376 (fun _ h9 => h9) ?_
  refine s_aload_n hX dX4_init_379 rfl 0 rfl ?_
  refine s_sipush (v := 5000) hX dX4_init_380 (by decide) ?_
  refine s_newI hX (pcM 0) q393 dX4_init_383 (fun v48 => ?_)
  refine s_putRF (ci := 4) (j := 63) (ref := "WindGasModel") hX (pcG 4) (pcP 4) in_X4 tyX4_ok nmX4 q1601 (by decide) (by decide) (by decide) rfl (fun v => by cases v <;> exact ⟨rfl, rfl⟩) rfl (hin rfl) rfl dX4_init_385 (fun _ h9 => h9) ?_
  refine s_aload_n hX dX4_init_388 rfl 0 rfl ?_
  refine s_sipush (v := 5000) hX dX4_init_389 (by decide) ?_
  refine s_newI hX (pcM 0) q393 dX4_init_392 (fun v49 => ?_)
  refine s_putRF (ci := 4) (j := 64) (ref := "WindGasModel") hX (pcG 4) (pcP 4) in_X4 tyX4_ok nmX4 q1602 (by decide) (by decide) (by decide) rfl (fun v => by cases v <;> exact ⟨rfl, rfl⟩) rfl (hin rfl) rfl dX4_init_394 (fun _ h9 => h9) ?_
  refine s_aload_n hX dX4_init_397 rfl 0 rfl ?_
  refine s_sipush (v := 5000) hX dX4_init_398 (by decide) ?_
  refine s_newI hX (pcM 0) q393 dX4_init_401 (fun v50 => ?_)
  refine s_putRF (ci := 4) (j := 65) (ref := "WindGasModel") hX (pcG 4) (pcP 4) in_X4 tyX4_ok nmX4 q1603 (by decide) (by decide) (by decide) rfl (fun v => by cases v <;> exact ⟨rfl, rfl⟩) rfl (hin rfl) rfl dX4_init_403 (fun _ h9 => h9) ?_
  refine s_aload_n hX dX4_init_406 rfl 0 rfl ?_
  refine s_sipush (v := 5000) hX dX4_init_407 (by decide) ?_
  refine s_newI hX (pcM 0) q393 dX4_init_410 (fun v51 => ?_)
  refine s_putRF (ci := 4) (j := 66) (ref := "WindGasModel") hX (pcG 4) (pcP 4) in_X4 tyX4_ok nmX4 q1604 (by decide) (by decide) (by decide) rfl (fun v => by cases v <;> exact ⟨rfl, rfl⟩) rfl (hin rfl) rfl dX4_init_412 (fun _ h9 => h9) ?_
  refine s_aload_n hX dX4_init_415 rfl 0 rfl ?_
  refine s_sipush (v := 5000) hX dX4_init_416 (by decide) ?_
  refine s_newI hX (pcM 0) q393 dX4_init_419 (fun v52 => ?_)
  refine s_putRF (ci := 4) (j := 67) (ref := "WindGasModel") hX (pcG 4) (pcP 4) in_X4 tyX4_ok nmX4 q1605 (by decide) (by decide) (by decide) rfl (fun v => by cases v <;> exact ⟨rfl, rfl⟩) rfl (hin rfl) rfl dX4_init_421 (fun _ h9 => h9) ?_
  refine s_aload_n hX dX4_init_424 rfl 0 rfl ?_
  refine s_sipush (v := 600) hX dX4_init_425 (by decide) ?_
  refine s_newB hX (pcM 2) q265 dX4_init_428 (fun v53 => ?_)
  refine s_putRF (ci := 4) (j := 68) (ref := "WindGasModel") hX (pcG 4) (pcP 4) in_X4 tyX4_ok nmX4 q1606 (by decide) (by decide) (by decide) rfl (fun v => by cases v <;> exact ⟨rfl, rfl⟩) rfl (hin rfl) rfl dX4_init_430 (fun _ h9 => h9) ?_
  refine s_aload_n hX dX4_init_433 rfl 0 rfl ?_
  refine s_sipush (v := 600) hX dX4_init_434 (by decide) ?_
  refine s_newB hX (pcM 2) q265 dX4_init_437 (fun v54 => ?_)
  refine s_putRF (ci := 4) (j := 69) (ref := "WindGasModel") hX (pcG 4) (pcP 4) in_X4 tyX4_ok nmX4 q1607 (by decide) (by decide) (by decide) rfl (fun v => by cases v <;> exact ⟨rfl, rfl⟩) rfl (hin rfl) rfl dX4_init_439 (fun _ h9 => h9) ?_
  refine s_aload_n hX dX4_init_442 rfl 0 rfl ?_
  refine s_bipush (v := 8) hX dX4_init_443 (by decide) ?_
  refine s_newL hX (pcM 1) q394 dX4_init_445 (fun v55 => ?_)
  refine s_putRF (ci := 4) (j := 70) (ref := "WindGasModel") hX (pcG 4) (pcP 4) in_X4 tyX4_ok nmX4 q1608 (by decide) (by decide) (by decide) rfl (fun v => by cases v <;> exact ⟨rfl, rfl⟩) rfl (hin rfl) rfl dX4_init_447 (fun _ h9 => h9) ?_
  refine s_aload_n hX dX4_init_450 rfl 0 rfl ?_
  refine s_bipush (v := 20) hX dX4_init_451 (by decide) ?_
  refine s_newI hX (pcM 0) q393 dX4_init_453 (fun v56 => ?_)
  refine s_putRF (ci := 4) (j := 74) (ref := "WindGasModel") hX (pcG 4) (pcP 4) in_X4 tyX4_ok nmX4 q1612 (by decide) (by decide) (by decide) rfl (fun v => by cases v <;> exact ⟨rfl, rfl⟩) rfl (hin rfl) rfl dX4_init_455 (fun _ h9 => h9) ?_
  refine s_aload_n hX dX4_init_458 rfl 0 rfl ?_
  refine s_bipush (v := 20) hX dX4_init_459 (by decide) ?_
  refine s_newI hX (pcM 0) q393 dX4_init_461 (fun v57 => ?_)
  refine s_putRF (ci := 4) (j := 75) (ref := "WindGasModel") hX (pcG 4) (pcP 4) in_X4 tyX4_ok nmX4 q1613 (by decide) (by decide) (by decide) rfl (fun v => by cases v <;> exact ⟨rfl, rfl⟩) rfl (hin rfl) rfl dX4_init_463 (fun _ h9 => h9) ?_
  refine s_aload_n hX dX4_init_466 rfl 0 rfl ?_
  refine s_bipush (v := 20) hX dX4_init_467 (by decide) ?_
  refine s_newI hX (pcM 0) q393 dX4_init_469 (fun v58 => ?_)
  refine s_putRF (ci := 4) (j := 76) (ref := "WindGasModel") hX (pcG 4) (pcP 4) in_X4 tyX4_ok nmX4 q1614 (by decide) (by decide) (by decide) rfl (fun v => by cases v <;> exact ⟨rfl, rfl⟩) rfl (hin rfl) rfl dX4_init_471 (fun _ h9 => h9) ?_
  refine s_aload_n hX dX4_init_474 rfl 0 rfl ?_
  refine s_sipush (v := 8784) hX dX4_init_475 (by decide) ?_
  refine s_newI hX (pcM 0) q393 dX4_init_478 (fun v59 => ?_)
  refine s_putRF (ci := 4) (j := 77) (ref := "WindGasModel") hX (pcG 4) (pcP 4) in_X4 tyX4_ok nmX4 q1615 (by decide) (by decide) (by decide) rfl (fun v => by cases v <;> exact ⟨rfl, rfl⟩) rfl (hin rfl) rfl dX4_init_480 (fun _ h9 => h9) ?_
  refine s_aload_n hX dX4_init_483 rfl 0 rfl ?_
  refine s_sipush (v := 128) hX dX4_init_484 (by decide) ?_
  refine s_newI hX (pcM 0) q393 dX4_init_487 (fun v60 => ?_)
  refine s_putRF (ci := 4) (j := 78) (ref := "WindGasModel") hX (pcG 4) (pcP 4) in_X4 tyX4_ok nmX4 q1616 (by decide) (by decide) (by decide) rfl (fun v => by cases v <;> exact ⟨rfl, rfl⟩) rfl (hin rfl) rfl dX4_init_489 (fun _ h9 => h9) ?_
  exact s_vret hX dX4_init_492
theorem dX4_isIn_0 : decode cX4_isIn 0 = .ok (.iload_n 0, 1) := by decide +kernel
theorem dX4_isIn_1 : decode cX4_isIn 1 = .ok (.iload_n 1, 1) := by decide +kernel
theorem dX4_isIn_2 : decode cX4_isIn 2 = .ok (.if_icmp .lt 12, 3) := by decide +kernel
theorem dX4_isIn_5 : decode cX4_isIn 5 = .ok (.iload_n 0, 1) := by decide +kernel
theorem dX4_isIn_6 : decode cX4_isIn 6 = .ok (.iload_n 2, 1) := by decide +kernel
theorem dX4_isIn_7 : decode cX4_isIn 7 = .ok (.if_icmp .gt 7, 3) := by decide +kernel
theorem dX4_isIn_10 : decode cX4_isIn 10 = .ok (.iconst 1, 1) := by decide +kernel
theorem dX4_isIn_11 : decode cX4_isIn 11 = .ok (.goto 4, 3) := by decide +kernel
theorem dX4_isIn_14 : decode cX4_isIn 14 = .ok (.iconst 0, 1) := by decide +kernel
theorem dX4_isIn_15 : decode cX4_isIn 15 = .ok (.ireturn, 1) := by decide +kernel
theorem ycX4_isIn : yX4_isIn.cls ≠ "java/lang/invoke/MethodHandle" ∧ yX4_isIn.cls ≠ "java/lang/invoke/VarHandle" ∧ (parseMethodDescriptor yX4_isIn.desc).map (fun d => d.parameters.length) = some 3 := by decide +kernel
def f_X4_isIn (p0 : Int32) (p1 : Int32) (p2 : Int32) : Act Int32 :=
  jn (fun (v1 : Int32) =>
    purS (ty := .boolean) v1) fun j15 =>
  jn (fun (_ : Unit) =>
    j15 0) fun j14 =>
  if p0 < p1 then
    j14 ()
  else
    if p2 < p0 then
      j14 ()
    else
      j15 1
set_option maxHeartbeats 4000000 in
theorem ct_X4_isIn (l : Launch) (p0 : Int32) (p1 : Int32) (p2 : Int32) : Ct l Pic yX4_isIn (ws_ yX4_isIn cX4_isIn 3 (some FieldType.boolean)) 0 0 cvI [.int p0, .int p1, .int p2] (f_X4_isIn p0 p1 p2) := by
  refine Ct.of (own := RX4) (L := [(0, .int p0), (1, .int p1), (2, .int p2)]) (plainFor_of_name (by decide)) rfl (by first | decide | simp [lg_sl, rv_cat, cat_i, cat_l]) (by first | rfl | simp [lv_args, rv_cat, cat_i, cat_l]) pcZ (fun X hXl hX hnh hin => ?_)
  subst hXl
  unfold f_X4_isIn
  refine s_iload_n hX dX4_isIn_0 rfl 0 rfl ?_
  refine s_iload_n hX dX4_isIn_1 rfl 1 rfl ?_
  refine s_jn (P := fun j => ∀ (v1 : Int32), Sim X cvI 15 [] [.int v1] (j v1)) ?_ (fun j15 hj15 => ?_)
  · intro v1
    exact s_zret hX dX4_isIn_15
  · refine s_jn (P := fun j => ∀ (u : Unit), Sim X cvI 14 [] [] (j u)) ?_ (fun j14 hj14 => ?_)
    · intro u
      refine s_iconst (v := 0) hX dX4_isIn_14 rfl ?_
      exact hj15 0
    · refine s_icmp_lt (tgt := 14) hX dX4_isIn_2 (by decide) ?_ ?_
      · exact s_sub [] rfl (hj14 ())
      · refine s_iload_n hX dX4_isIn_5 rfl 0 rfl ?_
        refine s_iload_n hX dX4_isIn_6 rfl 2 rfl ?_
        refine s_icmp_gt (tgt := 14) hX dX4_isIn_7 (by decide) ?_ ?_
        · exact s_sub [] rfl (hj14 ())
        · refine s_iconst (v := 1) hX dX4_isIn_10 rfl ?_
          refine s_goto (tgt := 15) hX dX4_isIn_11 (by decide) ?_
          exact s_sub [] rfl (hj15 1)
theorem dX4_isTen_0 : decode cX4_isTen 0 = .ok (.iload_n 0, 1) := by decide +kernel
theorem dX4_isTen_1 : decode cX4_isTen 1 = .ok (.iconst 0, 1) := by decide +kernel
theorem dX4_isTen_2 : decode cX4_isTen 2 = .ok (.sipush 4999, 3) := by decide +kernel
theorem dX4_isTen_5 : decode cX4_isTen 5 = .ok (.invokestatic 198, 3) := by decide +kernel
theorem dX4_isTen_8 : decode cX4_isTen 8 = .ok (.ireturn, 1) := by decide +kernel
theorem ycX4_isTen : yX4_isTen.cls ≠ "java/lang/invoke/MethodHandle" ∧ yX4_isTen.cls ≠ "java/lang/invoke/VarHandle" ∧ (parseMethodDescriptor yX4_isTen.desc).map (fun d => d.parameters.length) = some 1 := by decide +kernel
def f_X4_isTen (p0 : Int32) : Act Int32 :=
  bnd (nt (f_X4_isIn p0 (0 : Int32) (4999 : Int32))) fun v1 =>
  purS (ty := .boolean) v1
set_option maxHeartbeats 4000000 in
theorem ct_X4_isTen (l : Launch) (p0 : Int32) : Ct l Pic yX4_isTen (ws_ yX4_isTen cX4_isTen 1 (some FieldType.boolean)) 1 22 cvI [.int p0] (f_X4_isTen p0) := by
  refine Ct.of (own := RX4) (L := [(0, .int p0)]) (plainFor_of_name (by decide)) rfl (by first | decide | simp [lg_sl, rv_cat, cat_i, cat_l]) (by first | rfl | simp [lv_args, rv_cat, cat_i, cat_l]) pcZ (fun X hXl hX hnh hin => ?_)
  subst hXl
  unfold f_X4_isTen
  refine s_iload_n hX dX4_isTen_0 rfl 0 rfl ?_
  refine s_iconst (v := 0) hX dX4_isTen_1 rfl ?_
  refine s_sipush (v := 4999) hX dX4_isTen_2 (by decide) ?_
  refine s_callS_I (n := 3) (As := [.int p0, .int 0, .int 4999]) (st := []) hX (ct_X4_isIn X.l p0 (0 : Int32) (4999 : Int32)) q1781 q1782 q91 q1783 ycX4_isIn (by decide) rfl (by first | decide | simp [rv_cat, cat_i, cat_l]) dX4_isTen_5 (fun v1 => ?_)
  exact s_zret hX dX4_isTen_8
theorem dX4_isTold_0 : decode cX4_isTold 0 = .ok (.iload_n 0, 1) := by decide +kernel
theorem dX4_isTold_1 : decode cX4_isTold 1 = .ok (.ifCond .ne 14, 3) := by decide +kernel
theorem dX4_isTold_4 : decode cX4_isTold 4 = .ok (.iload_n 1, 1) := by decide +kernel
theorem dX4_isTold_5 : decode cX4_isTold 5 = .ok (.iconst 0, 1) := by decide +kernel
theorem dX4_isTold_6 : decode cX4_isTold 6 = .ok (.sipush 2000, 3) := by decide +kernel
theorem dX4_isTold_9 : decode cX4_isTold 9 = .ok (.invokestatic 198, 3) := by decide +kernel
theorem dX4_isTold_12 : decode cX4_isTold 12 = .ok (.goto 28, 3) := by decide +kernel
theorem dX4_isTold_15 : decode cX4_isTold 15 = .ok (.iload_n 0, 1) := by decide +kernel
theorem dX4_isTold_16 : decode cX4_isTold 16 = .ok (.iconst 1, 1) := by decide +kernel
theorem dX4_isTold_17 : decode cX4_isTold 17 = .ok (.if_icmp .ne 16, 3) := by decide +kernel
theorem dX4_isTold_20 : decode cX4_isTold 20 = .ok (.iload_n 1, 1) := by decide +kernel
theorem dX4_isTold_21 : decode cX4_isTold 21 = .ok (.sipush (-500), 3) := by decide +kernel
theorem dX4_isTold_24 : decode cX4_isTold 24 = .ok (.sipush 500, 3) := by decide +kernel
theorem dX4_isTold_27 : decode cX4_isTold 27 = .ok (.invokestatic 198, 3) := by decide +kernel
theorem dX4_isTold_30 : decode cX4_isTold 30 = .ok (.goto 10, 3) := by decide +kernel
theorem dX4_isTold_33 : decode cX4_isTold 33 = .ok (.iload_n 1, 1) := by decide +kernel
theorem dX4_isTold_34 : decode cX4_isTold 34 = .ok (.iconst 0, 1) := by decide +kernel
theorem dX4_isTold_35 : decode cX4_isTold 35 = .ok (.bipush 100, 2) := by decide +kernel
theorem dX4_isTold_37 : decode cX4_isTold 37 = .ok (.invokestatic 198, 3) := by decide +kernel
theorem dX4_isTold_40 : decode cX4_isTold 40 = .ok (.ireturn, 1) := by decide +kernel
theorem ycX4_isTold : yX4_isTold.cls ≠ "java/lang/invoke/MethodHandle" ∧ yX4_isTold.cls ≠ "java/lang/invoke/VarHandle" ∧ (parseMethodDescriptor yX4_isTold.desc).map (fun d => d.parameters.length) = some 2 := by decide +kernel
def f_X4_isTold (p0 : Int32) (p1 : Int32) : Act Int32 :=
  jn (fun (v1 : Int32) =>
    purS (ty := .boolean) v1) fun j40 =>
  if ¬ p0 = 0 then
    if ¬ p0 = 1 then
      bnd (nt (f_X4_isIn p1 (0 : Int32) (100 : Int32))) fun v2 =>
      j40 v2
    else
      bnd (nt (f_X4_isIn p1 (-500 : Int32) (500 : Int32))) fun v3 =>
      j40 v3
  else
    bnd (nt (f_X4_isIn p1 (0 : Int32) (2000 : Int32))) fun v4 =>
    j40 v4
set_option maxHeartbeats 4000000 in
theorem ct_X4_isTold (l : Launch) (p0 : Int32) (p1 : Int32) : Ct l Pic yX4_isTold (ws_ yX4_isTold cX4_isTold 2 (some FieldType.boolean)) 1 22 cvI [.int p0, .int p1] (f_X4_isTold p0 p1) := by
  refine Ct.of (own := RX4) (L := [(0, .int p0), (1, .int p1)]) (plainFor_of_name (by decide)) rfl (by first | decide | simp [lg_sl, rv_cat, cat_i, cat_l]) (by first | rfl | simp [lv_args, rv_cat, cat_i, cat_l]) pcZ (fun X hXl hX hnh hin => ?_)
  subst hXl
  unfold f_X4_isTold
  refine s_iload_n hX dX4_isTold_0 rfl 0 rfl ?_
  refine s_jn (P := fun j => ∀ (v1 : Int32), Sim X cvI 40 [] [.int v1] (j v1)) ?_ (fun j40 hj40 => ?_)
  · intro v1
    exact s_zret hX dX4_isTold_40
  · refine s_if_ne (tgt := 15) hX dX4_isTold_1 (by decide) ?_ ?_
    · refine s_iload_n hX dX4_isTold_15 rfl 0 rfl ?_
      refine s_iconst (v := 1) hX dX4_isTold_16 rfl ?_
      refine s_icmp_ne (tgt := 33) hX dX4_isTold_17 (by decide) ?_ ?_
      · refine s_iload_n hX dX4_isTold_33 rfl 1 rfl ?_
        refine s_iconst (v := 0) hX dX4_isTold_34 rfl ?_
        refine s_bipush (v := 100) hX dX4_isTold_35 (by decide) ?_
        refine s_callS_I (n := 3) (As := [.int p1, .int 0, .int 100]) (st := []) hX (ct_X4_isIn X.l p1 (0 : Int32) (100 : Int32)) q1781 q1782 q91 q1783 ycX4_isIn (by decide) rfl (by first | decide | simp [rv_cat, cat_i, cat_l]) dX4_isTold_37 (fun v2 => ?_)
        exact s_sub [] rfl (hj40 v2)
      · refine s_iload_n hX dX4_isTold_20 rfl 1 rfl ?_
        refine s_sipush (v := -500) hX dX4_isTold_21 (by decide) ?_
        refine s_sipush (v := 500) hX dX4_isTold_24 (by decide) ?_
        refine s_callS_I (n := 3) (As := [.int p1, .int (-500), .int 500]) (st := []) hX (ct_X4_isIn X.l p1 (-500 : Int32) (500 : Int32)) q1781 q1782 q91 q1783 ycX4_isIn (by decide) rfl (by first | decide | simp [rv_cat, cat_i, cat_l]) dX4_isTold_27 (fun v3 => ?_)
        refine s_goto (tgt := 40) hX dX4_isTold_30 (by decide) ?_
        exact s_sub [] rfl (hj40 v3)
    · refine s_iload_n hX dX4_isTold_4 rfl 1 rfl ?_
      refine s_iconst (v := 0) hX dX4_isTold_5 rfl ?_
      refine s_sipush (v := 2000) hX dX4_isTold_6 (by decide) ?_
      refine s_callS_I (n := 3) (As := [.int p1, .int 0, .int 2000]) (st := []) hX (ct_X4_isIn X.l p1 (0 : Int32) (2000 : Int32)) q1781 q1782 q91 q1783 ycX4_isIn (by decide) rfl (by first | decide | simp [rv_cat, cat_i, cat_l]) dX4_isTold_9 (fun v4 => ?_)
      refine s_goto (tgt := 40) hX dX4_isTold_12 (by decide) ?_
      exact s_sub [] rfl (hj40 v4)
theorem dX4_tell_0 : decode cX4_tell 0 = .ok (.iload_n 1, 1) := by decide +kernel
theorem dX4_tell_1 : decode cX4_tell 1 = .ok (.iconst 0, 1) := by decide +kernel
theorem dX4_tell_2 : decode cX4_tell 2 = .ok (.iconst 2, 1) := by decide +kernel
theorem dX4_tell_3 : decode cX4_tell 3 = .ok (.invokestatic 198, 3) := by decide +kernel
theorem dX4_tell_6 : decode cX4_tell 6 = .ok (.ifCond .eq 42, 3) := by decide +kernel
theorem dX4_tell_9 : decode cX4_tell 9 = .ok (.iload_n 2, 1) := by decide +kernel
theorem dX4_tell_10 : decode cX4_tell 10 = .ok (.invokestatic 202, 3) := by decide +kernel
theorem dX4_tell_13 : decode cX4_tell 13 = .ok (.ifCond .eq 35, 3) := by decide +kernel
theorem dX4_tell_16 : decode cX4_tell 16 = .ok (.iload_n 3, 1) := by decide +kernel
theorem dX4_tell_17 : decode cX4_tell 17 = .ok (.invokestatic 202, 3) := by decide +kernel
theorem dX4_tell_20 : decode cX4_tell 20 = .ok (.ifCond .eq 28, 3) := by decide +kernel
theorem dX4_tell_23 : decode cX4_tell 23 = .ok (.iload_n 2, 1) := by decide +kernel
theorem dX4_tell_24 : decode cX4_tell 24 = .ok (.iload_n 3, 1) := by decide +kernel
theorem dX4_tell_25 : decode cX4_tell 25 = .ok (.if_icmp .gt 23, 3) := by decide +kernel
theorem dX4_tell_28 : decode cX4_tell 28 = .ok (.iload_n 1, 1) := by decide +kernel
theorem dX4_tell_29 : decode cX4_tell 29 = .ok (.iload 4, 2) := by decide +kernel
theorem dX4_tell_31 : decode cX4_tell 31 = .ok (.invokestatic 206, 3) := by decide +kernel
theorem dX4_tell_34 : decode cX4_tell 34 = .ok (.ifCond .eq 14, 3) := by decide +kernel
theorem dX4_tell_37 : decode cX4_tell 37 = .ok (.aload_n 0, 1) := by decide +kernel
theorem dX4_tell_38 : decode cX4_tell 38 = .ok (.getfield 7, 3) := by decide +kernel
theorem dX4_tell_41 : decode cX4_tell 41 = .ok (.iload_n 1, 1) := by decide +kernel
theorem dX4_tell_42 : decode cX4_tell 42 = .ok (.iaload, 1) := by decide +kernel
theorem dX4_tell_43 : decode cX4_tell 43 = .ok (.bipush 80, 2) := by decide +kernel
theorem dX4_tell_45 : decode cX4_tell 45 = .ok (.if_icmp .ne 5, 3) := by decide +kernel
theorem dX4_tell_48 : decode cX4_tell 48 = .ok (.iconst 0, 1) := by decide +kernel
theorem dX4_tell_49 : decode cX4_tell 49 = .ok (.ireturn, 1) := by decide +kernel
theorem dX4_tell_50 : decode cX4_tell 50 = .ok (.bipush 80, 2) := by decide +kernel
theorem dX4_tell_52 : decode cX4_tell 52 = .ok (.iload_n 1, 1) := by decide +kernel
theorem dX4_tell_53 : decode cX4_tell 53 = .ok (.imul, 1) := by decide +kernel
theorem dX4_tell_54 : decode cX4_tell 54 = .ok (.aload_n 0, 1) := by decide +kernel
theorem dX4_tell_55 : decode cX4_tell 55 = .ok (.getfield 7, 3) := by decide +kernel
theorem dX4_tell_58 : decode cX4_tell 58 = .ok (.iload_n 1, 1) := by decide +kernel
theorem dX4_tell_59 : decode cX4_tell 59 = .ok (.iaload, 1) := by decide +kernel
theorem dX4_tell_60 : decode cX4_tell 60 = .ok (.iadd, 1) := by decide +kernel
theorem dX4_tell_61 : decode cX4_tell 61 = .ok (.istore 5, 2) := by decide +kernel
theorem dX4_tell_63 : decode cX4_tell 63 = .ok (.aload_n 0, 1) := by decide +kernel
theorem dX4_tell_64 : decode cX4_tell 64 = .ok (.getfield 13, 3) := by decide +kernel
theorem dX4_tell_67 : decode cX4_tell 67 = .ok (.iload 5, 2) := by decide +kernel
theorem dX4_tell_69 : decode cX4_tell 69 = .ok (.iload_n 2, 1) := by decide +kernel
theorem dX4_tell_70 : decode cX4_tell 70 = .ok (.iastore, 1) := by decide +kernel
theorem dX4_tell_71 : decode cX4_tell 71 = .ok (.aload_n 0, 1) := by decide +kernel
theorem dX4_tell_72 : decode cX4_tell 72 = .ok (.getfield 16, 3) := by decide +kernel
theorem dX4_tell_75 : decode cX4_tell 75 = .ok (.iload 5, 2) := by decide +kernel
theorem dX4_tell_77 : decode cX4_tell 77 = .ok (.iload_n 3, 1) := by decide +kernel
theorem dX4_tell_78 : decode cX4_tell 78 = .ok (.iastore, 1) := by decide +kernel
theorem dX4_tell_79 : decode cX4_tell 79 = .ok (.aload_n 0, 1) := by decide +kernel
theorem dX4_tell_80 : decode cX4_tell 80 = .ok (.getfield 19, 3) := by decide +kernel
theorem dX4_tell_83 : decode cX4_tell 83 = .ok (.iload 5, 2) := by decide +kernel
theorem dX4_tell_85 : decode cX4_tell 85 = .ok (.iload 4, 2) := by decide +kernel
theorem dX4_tell_87 : decode cX4_tell 87 = .ok (.iastore, 1) := by decide +kernel
theorem dX4_tell_88 : decode cX4_tell 88 = .ok (.aload_n 0, 1) := by decide +kernel
theorem dX4_tell_89 : decode cX4_tell 89 = .ok (.getfield 7, 3) := by decide +kernel
theorem dX4_tell_92 : decode cX4_tell 92 = .ok (.iload_n 1, 1) := by decide +kernel
theorem dX4_tell_93 : decode cX4_tell 93 = .ok (.dup2, 1) := by decide +kernel
theorem dX4_tell_94 : decode cX4_tell 94 = .ok (.iaload, 1) := by decide +kernel
theorem dX4_tell_95 : decode cX4_tell 95 = .ok (.iconst 1, 1) := by decide +kernel
theorem dX4_tell_96 : decode cX4_tell 96 = .ok (.iadd, 1) := by decide +kernel
theorem dX4_tell_97 : decode cX4_tell 97 = .ok (.iastore, 1) := by decide +kernel
theorem dX4_tell_98 : decode cX4_tell 98 = .ok (.iconst 1, 1) := by decide +kernel
theorem dX4_tell_99 : decode cX4_tell 99 = .ok (.ireturn, 1) := by decide +kernel
theorem ycX4_tell : yX4_tell.cls ≠ "java/lang/invoke/MethodHandle" ∧ yX4_tell.cls ≠ "java/lang/invoke/VarHandle" ∧ (parseMethodDescriptor yX4_tell.desc).map (fun d => d.parameters.length) = some 4 := by decide +kernel
theorem yvX4_tell : yX4_tell.cls = RR 4 ∧ yX4_tell.cls ≠ "java/lang/invoke/MethodHandle" ∧ yX4_tell.cls ≠ "java/lang/invoke/VarHandle" ∧ (parseMethodDescriptor yX4_tell.desc).map (fun d => d.parameters.length) = some 4 := ⟨rfl, ycX4_tell⟩
def f_X4_tell (p0 : Nat) (p1 : Int32) (p2 : Int32) (p3 : Int32) (p4 : Int32) : Act Int32 :=
  bnd (nt (f_X4_isIn p1 (0 : Int32) (2 : Int32))) fun v1 =>
  jn (fun (_ : Unit) =>
    purS (ty := .boolean) 0) fun j48 =>
  if v1 = 0 then
    j48 ()
  else
    bnd (nt (f_X4_isTen p2)) fun v2 =>
    if v2 = 0 then
      j48 ()
    else
      bnd (nt (f_X4_isTen p3)) fun v3 =>
      if v3 = 0 then
        j48 ()
      else
        if p3 < p2 then
          j48 ()
        else
          bnd (nt (f_X4_isTold p1 p4)) fun v4 =>
          if v4 = 0 then
            j48 ()
          else
            bnd (getR 4 4 p0) fun v5 =>
            bnd (ldI 0 v5 p1) fun v6 =>
            if ¬ v6 = 80 then
              bnd (getR 4 4 p0) fun v7 =>
              bnd (ldI 0 v7 p1) fun v8 =>
              bnd (getR 4 5 p0) fun v9 =>
              bnd (stI 0 v9 ((80 * p1) + v8) p2) fun _ =>
              bnd (getR 4 6 p0) fun v10 =>
              bnd (stI 0 v10 ((80 * p1) + v8) p3) fun _ =>
              bnd (getR 4 7 p0) fun v11 =>
              bnd (stI 0 v11 ((80 * p1) + v8) p4) fun _ =>
              bnd (getR 4 4 p0) fun v12 =>
              bnd (ldI 0 v12 p1) fun v13 =>
              bnd (stI 0 v12 p1 (v13 + 1)) fun _ =>
              purS (ty := .boolean) 1
            else
              j48 ()
set_option maxHeartbeats 4000000 in
theorem ct_X4_tell (l : Launch) (p0 : Nat) (p1 : Int32) (p2 : Int32) (p3 : Int32) (p4 : Int32) : Ct l Pic yX4_tell (ws_ yX4_tell cX4_tell 6 (some FieldType.boolean)) 2 43 cvI [rv p0, .int p1, .int p2, .int p3, .int p4] (f_X4_tell p0 p1 p2 p3 p4) := by
  refine Ct.of (own := RX4) (L := [(0, rv p0), (1, .int p1), (2, .int p2), (3, .int p3), (4, .int p4)]) (plainFor_of_name (by decide)) rfl (by first | decide | simp [lg_sl, rv_cat, cat_i, cat_l]) (by first | rfl | simp [lv_args, rv_cat, cat_i, cat_l]) pcZ (fun X hXl hX hnh hin => ?_)
  subst hXl
  unfold f_X4_tell
  refine s_iload_n hX dX4_tell_0 rfl 1 rfl ?_
  refine s_iconst (v := 0) hX dX4_tell_1 rfl ?_
  refine s_iconst (v := 2) hX dX4_tell_2 rfl ?_
  refine s_callS_I (n := 3) (As := [.int p1, .int 0, .int 2]) (st := []) hX (ct_X4_isIn X.l p1 (0 : Int32) (2 : Int32)) q1781 q1782 q91 q1783 ycX4_isIn (by decide) rfl (by first | decide | simp [rv_cat, cat_i, cat_l]) dX4_tell_3 (fun v1 => ?_)
  refine s_jn (P := fun j => ∀ (u : Unit), Sim X cvI 48 [] [] (j u)) ?_ (fun j48 hj48 => ?_)
  · intro u
    refine s_iconst (v := 0) hX dX4_tell_48 rfl ?_
    exact s_zret hX dX4_tell_49
  · refine s_if_eq (tgt := 48) hX dX4_tell_6 (by decide) ?_ ?_
    · exact s_sub [] rfl (hj48 ())
    · refine s_iload_n hX dX4_tell_9 rfl 2 rfl ?_
      refine s_callS_I (n := 1) (As := [.int p2]) (st := []) hX (ct_X4_isTen X.l p2) q1784 q1785 q91 q1786 ycX4_isTen (by decide) rfl (by first | decide | simp [rv_cat, cat_i, cat_l]) dX4_tell_10 (fun v2 => ?_)
      refine s_if_eq (tgt := 48) hX dX4_tell_13 (by decide) ?_ ?_
      · exact s_sub [] rfl (hj48 ())
      · refine s_iload_n hX dX4_tell_16 rfl 3 rfl ?_
        refine s_callS_I (n := 1) (As := [.int p3]) (st := []) hX (ct_X4_isTen X.l p3) q1784 q1785 q91 q1786 ycX4_isTen (by decide) rfl (by first | decide | simp [rv_cat, cat_i, cat_l]) dX4_tell_17 (fun v3 => ?_)
        refine s_if_eq (tgt := 48) hX dX4_tell_20 (by decide) ?_ ?_
        · exact s_sub [] rfl (hj48 ())
        · refine s_iload_n hX dX4_tell_23 rfl 2 rfl ?_
          refine s_iload_n hX dX4_tell_24 rfl 3 rfl ?_
          refine s_icmp_gt (tgt := 48) hX dX4_tell_25 (by decide) ?_ ?_
          · exact s_sub [] rfl (hj48 ())
          · refine s_iload_n hX dX4_tell_28 rfl 1 rfl ?_
            refine s_iload hX dX4_tell_29 4 rfl ?_
            refine s_callS_I (n := 2) (As := [.int p1, .int p4]) (st := []) hX (ct_X4_isTold X.l p1 p4) q1787 q1788 q91 q1789 ycX4_isTold (by decide) rfl (by first | decide | simp [rv_cat, cat_i, cat_l]) dX4_tell_31 (fun v4 => ?_)
            refine s_if_eq (tgt := 48) hX dX4_tell_34 (by decide) ?_ ?_
            · exact s_sub [] rfl (hj48 ())
            · refine s_aload_n hX dX4_tell_37 rfl 0 rfl ?_
              refine s_getR (ci := 4) (j := 4) (ref := "WindGasModel") hX (pcG 4) in_X4 (Or.inl q1542) (by decide) (by decide) (by decide) rfl dX4_tell_38 (fun _ h9 => h9) (fun v5 => ?_)
              refine s_iload_n hX dX4_tell_41 rfl 1 rfl ?_
              refine s_iald hX (pcA 0) dX4_tell_42 (fun v6 => ?_)
              refine s_bipush (v := 80) hX dX4_tell_43 (by decide) ?_
              refine s_icmp_ne (tgt := 50) hX dX4_tell_45 (by decide) ?_ ?_
              · refine s_bipush (v := 80) hX dX4_tell_50 (by decide) ?_
                refine s_iload_n hX dX4_tell_52 rfl 1 rfl ?_
                refine s_imul hX dX4_tell_53 ?_
                refine s_aload_n hX dX4_tell_54 rfl 0 rfl ?_
                refine s_getR (ci := 4) (j := 4) (ref := "WindGasModel") hX (pcG 4) in_X4 (Or.inl q1542) (by decide) (by decide) (by decide) rfl dX4_tell_55 (fun _ h9 => h9) (fun v7 => ?_)
                refine s_iload_n hX dX4_tell_58 rfl 1 rfl ?_
                refine s_iald hX (pcA 0) dX4_tell_59 (fun v8 => ?_)
                refine s_iadd hX dX4_tell_60 ?_
                refine s_istore (i := 5) (L2 := [(5, .int ((80 * p1) + v8)), (0, rv p0), (1, .int p1), (2, .int p2), (3, .int p3), (4, .int p4)]) hX dX4_tell_61 (by decide) rfl ?_
                refine s_aload_n hX dX4_tell_63 rfl 1 rfl ?_
                refine s_getR (ci := 4) (j := 5) (ref := "WindGasModel") hX (pcG 4) in_X4 (Or.inl q1543) (by decide) (by decide) (by decide) rfl dX4_tell_64 (fun _ h9 => h9) (fun v9 => ?_)
                refine s_iload hX dX4_tell_67 0 rfl ?_
                refine s_iload_n hX dX4_tell_69 rfl 3 rfl ?_
                refine s_iast hX (pcA 0) (pcB 0) dX4_tell_70 ?_
                refine s_aload_n hX dX4_tell_71 rfl 1 rfl ?_
                refine s_getR (ci := 4) (j := 6) (ref := "WindGasModel") hX (pcG 4) in_X4 (Or.inl q1544) (by decide) (by decide) (by decide) rfl dX4_tell_72 (fun _ h9 => h9) (fun v10 => ?_)
                refine s_iload hX dX4_tell_75 0 rfl ?_
                refine s_iload_n hX dX4_tell_77 rfl 4 rfl ?_
                refine s_iast hX (pcA 0) (pcB 0) dX4_tell_78 ?_
                refine s_aload_n hX dX4_tell_79 rfl 1 rfl ?_
                refine s_getR (ci := 4) (j := 7) (ref := "WindGasModel") hX (pcG 4) in_X4 (Or.inl q1545) (by decide) (by decide) (by decide) rfl dX4_tell_80 (fun _ h9 => h9) (fun v11 => ?_)
                refine s_iload hX dX4_tell_83 0 rfl ?_
                refine s_iload hX dX4_tell_85 5 rfl ?_
                refine s_iast hX (pcA 0) (pcB 0) dX4_tell_87 ?_
                refine s_aload_n hX dX4_tell_88 rfl 1 rfl ?_
                refine s_getR (ci := 4) (j := 4) (ref := "WindGasModel") hX (pcG 4) in_X4 (Or.inl q1542) (by decide) (by decide) (by decide) rfl dX4_tell_89 (fun _ h9 => h9) (fun v12 => ?_)
                refine s_iload_n hX dX4_tell_92 rfl 2 rfl ?_
                refine s_dup2 hX dX4_tell_93 rfl (rv_cat _) ?_
                refine s_iald hX (pcA 0) dX4_tell_94 (fun v13 => ?_)
                refine s_iconst (v := 1) hX dX4_tell_95 rfl ?_
                refine s_iadd hX dX4_tell_96 ?_
                refine s_iast hX (pcA 0) (pcB 0) dX4_tell_97 ?_
                refine s_iconst (v := 1) hX dX4_tell_98 rfl ?_
                exact s_zret hX dX4_tell_99
              · exact s_sub [] rfl (hj48 ())
theorem dX4_saidOf_0 : decode cX4_saidOf 0 = .ok (.iconst 0, 1) := by decide +kernel
theorem dX4_saidOf_1 : decode cX4_saidOf 1 = .ok (.istore_n 3, 1) := by decide +kernel
theorem dX4_saidOf_2 : decode cX4_saidOf 2 = .ok (.bipush 80, 2) := by decide +kernel
theorem dX4_saidOf_4 : decode cX4_saidOf 4 = .ok (.iload_n 1, 1) := by decide +kernel
theorem dX4_saidOf_5 : decode cX4_saidOf 5 = .ok (.imul, 1) := by decide +kernel
theorem dX4_saidOf_6 : decode cX4_saidOf 6 = .ok (.istore 4, 2) := by decide +kernel
theorem dX4_saidOf_8 : decode cX4_saidOf 8 = .ok (.iload 4, 2) := by decide +kernel
theorem dX4_saidOf_10 : decode cX4_saidOf 10 = .ok (.bipush 80, 2) := by decide +kernel
theorem dX4_saidOf_12 : decode cX4_saidOf 12 = .ok (.iload_n 1, 1) := by decide +kernel
theorem dX4_saidOf_13 : decode cX4_saidOf 13 = .ok (.imul, 1) := by decide +kernel
theorem dX4_saidOf_14 : decode cX4_saidOf 14 = .ok (.aload_n 0, 1) := by decide +kernel
theorem dX4_saidOf_15 : decode cX4_saidOf 15 = .ok (.getfield 7, 3) := by decide +kernel
theorem dX4_saidOf_18 : decode cX4_saidOf 18 = .ok (.iload_n 1, 1) := by decide +kernel
theorem dX4_saidOf_19 : decode cX4_saidOf 19 = .ok (.iaload, 1) := by decide +kernel
theorem dX4_saidOf_20 : decode cX4_saidOf 20 = .ok (.iadd, 1) := by decide +kernel
theorem dX4_saidOf_21 : decode cX4_saidOf 21 = .ok (.if_icmp .ge 38, 3) := by decide +kernel
theorem dX4_saidOf_24 : decode cX4_saidOf 24 = .ok (.iload_n 2, 1) := by decide +kernel
theorem dX4_saidOf_25 : decode cX4_saidOf 25 = .ok (.aload_n 0, 1) := by decide +kernel
theorem dX4_saidOf_26 : decode cX4_saidOf 26 = .ok (.getfield 13, 3) := by decide +kernel
theorem dX4_saidOf_29 : decode cX4_saidOf 29 = .ok (.iload 4, 2) := by decide +kernel
theorem dX4_saidOf_31 : decode cX4_saidOf 31 = .ok (.iaload, 1) := by decide +kernel
theorem dX4_saidOf_32 : decode cX4_saidOf 32 = .ok (.aload_n 0, 1) := by decide +kernel
theorem dX4_saidOf_33 : decode cX4_saidOf 33 = .ok (.getfield 16, 3) := by decide +kernel
theorem dX4_saidOf_36 : decode cX4_saidOf 36 = .ok (.iload 4, 2) := by decide +kernel
theorem dX4_saidOf_38 : decode cX4_saidOf 38 = .ok (.iaload, 1) := by decide +kernel
theorem dX4_saidOf_39 : decode cX4_saidOf 39 = .ok (.invokestatic 198, 3) := by decide +kernel
theorem dX4_saidOf_42 : decode cX4_saidOf 42 = .ok (.ifCond .eq 11, 3) := by decide +kernel
theorem dX4_saidOf_45 : decode cX4_saidOf 45 = .ok (.aload_n 0, 1) := by decide +kernel
theorem dX4_saidOf_46 : decode cX4_saidOf 46 = .ok (.getfield 19, 3) := by decide +kernel
theorem dX4_saidOf_49 : decode cX4_saidOf 49 = .ok (.iload 4, 2) := by decide +kernel
theorem dX4_saidOf_51 : decode cX4_saidOf 51 = .ok (.iaload, 1) := by decide +kernel
theorem dX4_saidOf_52 : decode cX4_saidOf 52 = .ok (.istore_n 3, 1) := by decide +kernel
theorem dX4_saidOf_53 : decode cX4_saidOf 53 = .ok (.iinc 4 1, 3) := by decide +kernel
theorem dX4_saidOf_56 : decode cX4_saidOf 56 = .ok (.goto (-48), 3) := by decide +kernel
theorem dX4_saidOf_59 : decode cX4_saidOf 59 = .ok (.iload_n 3, 1) := by decide +kernel
theorem dX4_saidOf_60 : decode cX4_saidOf 60 = .ok (.ireturn, 1) := by decide +kernel
theorem ycX4_saidOf : yX4_saidOf.cls ≠ "java/lang/invoke/MethodHandle" ∧ yX4_saidOf.cls ≠ "java/lang/invoke/VarHandle" ∧ (parseMethodDescriptor yX4_saidOf.desc).map (fun d => d.parameters.length) = some 2 := by decide +kernel
theorem yvX4_saidOf : yX4_saidOf.cls = RR 4 ∧ yX4_saidOf.cls ≠ "java/lang/invoke/MethodHandle" ∧ yX4_saidOf.cls ≠ "java/lang/invoke/VarHandle" ∧ (parseMethodDescriptor yX4_saidOf.desc).map (fun d => d.parameters.length) = some 2 := ⟨rfl, ycX4_saidOf⟩
def lp_X4_saidOf_8 (p0 : Nat) (p1 : Int32) (p2 : Int32) (q : Nat) : Int32 → Int32 → Act Int32 := match q with
  | 0 => fun _ _ => fail
  | q + 1 => fun w1 w2 =>
    bnd (getR 4 4 p0) fun v3 =>
    bnd (ldI 0 v3 p1) fun v4 =>
    if ((80 * p1) + v4) ≤ w2 then
      pur w1
    else
      bnd (getR 4 5 p0) fun v5 =>
      bnd (ldI 0 v5 w2) fun v6 =>
      bnd (getR 4 6 p0) fun v7 =>
      bnd (ldI 0 v7 w2) fun v8 =>
      bnd (nt (f_X4_isIn p2 v6 v8)) fun v9 =>
      jn (fun (v10 : Int32) =>
        (lp_X4_saidOf_8 p0 p1 p2 q) v10 (w2 + 1)) fun j53 =>
      if v9 = 0 then
        j53 w1
      else
        bnd (getR 4 7 p0) fun v11 =>
        bnd (ldI 0 v11 w2) fun v12 =>
        j53 v12
def f_X4_saidOf (n : Nat) (p0 : Nat) (p1 : Int32) (p2 : Int32) : Act Int32 :=
  lp_X4_saidOf_8 p0 p1 p2 n 0 (80 * p1)
set_option maxHeartbeats 4000000 in
theorem s_lp_X4_saidOf_8 {X : Cx} (hX : Ok X Pic cX4_saidOf RX4 5 (some FieldType.int) 1 22) (hnh : Noh X) (p0 : Nat) (p1 : Int32) (p2 : Int32) (q : Nat) : ∀ (w1 : Int32) (w2 : Int32), Sim X cvI 8 [(0, rv p0), (1, .int p1), (2, .int p2), (3, .int w1), (4, .int w2)] [] (lp_X4_saidOf_8 p0 p1 p2 q w1 w2) := by
  induction q with
  | zero => intro w1 w2; exact s_fail
  | succ q ih8 =>
    intro w1 w2
    rw [lp_X4_saidOf_8]
    refine s_iload hX dX4_saidOf_8 4 rfl ?_
    refine s_bipush (v := 80) hX dX4_saidOf_10 (by decide) ?_
    refine s_iload_n hX dX4_saidOf_12 rfl 1 rfl ?_
    refine s_imul hX dX4_saidOf_13 ?_
    refine s_aload_n hX dX4_saidOf_14 rfl 0 rfl ?_
    refine s_getR (ci := 4) (j := 4) (ref := "WindGasModel") hX (pcG 4) in_X4 (Or.inl q1542) (by decide) (by decide) (by decide) rfl dX4_saidOf_15 (fun _ h9 => h9) (fun v3 => ?_)
    refine s_iload_n hX dX4_saidOf_18 rfl 1 rfl ?_
    refine s_iald hX (pcA 0) dX4_saidOf_19 (fun v4 => ?_)
    refine s_iadd hX dX4_saidOf_20 ?_
    refine s_icmp_ge (tgt := 59) hX dX4_saidOf_21 (by decide) ?_ ?_
    · refine s_iload_n hX dX4_saidOf_59 rfl 3 rfl ?_
      exact s_iret hX dX4_saidOf_60
    · refine s_iload_n hX dX4_saidOf_24 rfl 2 rfl ?_
      refine s_aload_n hX dX4_saidOf_25 rfl 0 rfl ?_
      refine s_getR (ci := 4) (j := 5) (ref := "WindGasModel") hX (pcG 4) in_X4 (Or.inl q1543) (by decide) (by decide) (by decide) rfl dX4_saidOf_26 (fun _ h9 => h9) (fun v5 => ?_)
      refine s_iload hX dX4_saidOf_29 4 rfl ?_
      refine s_iald hX (pcA 0) dX4_saidOf_31 (fun v6 => ?_)
      refine s_aload_n hX dX4_saidOf_32 rfl 0 rfl ?_
      refine s_getR (ci := 4) (j := 6) (ref := "WindGasModel") hX (pcG 4) in_X4 (Or.inl q1544) (by decide) (by decide) (by decide) rfl dX4_saidOf_33 (fun _ h9 => h9) (fun v7 => ?_)
      refine s_iload hX dX4_saidOf_36 4 rfl ?_
      refine s_iald hX (pcA 0) dX4_saidOf_38 (fun v8 => ?_)
      refine s_callS_I (n := 3) (As := [.int p2, .int v6, .int v8]) (st := []) hX (ct_X4_isIn X.l p2 v6 v8) q1781 q1782 q91 q1783 ycX4_isIn (by decide) rfl (by first | decide | simp [rv_cat, cat_i, cat_l]) dX4_saidOf_39 (fun v9 => ?_)
      refine s_jn (P := fun j => ∀ (v10 : Int32), Sim X cvI 53 [(0, rv p0), (1, .int p1), (2, .int p2), (3, .int v10), (4, .int w2)] [] (j v10)) ?_ (fun j53 hj53 => ?_)
      · intro v10
        refine s_iinc (k := 4) (v := (w2 + 1)) (L2 := [(4, .int (w2 + 1)), (0, rv p0), (1, .int p1), (2, .int p2), (3, .int v10)]) hX dX4_saidOf_53 rfl rfl (by decide) rfl ?_
        refine s_goto (tgt := 8) hX dX4_saidOf_56 (by decide) ?_
        exact s_sub [1, 2, 3, 4, 0] rfl (ih8 v10 (w2 + 1))
      · refine s_if_eq (tgt := 53) hX dX4_saidOf_42 (by decide) ?_ ?_
        · exact hj53 w1
        · refine s_aload_n hX dX4_saidOf_45 rfl 0 rfl ?_
          refine s_getR (ci := 4) (j := 7) (ref := "WindGasModel") hX (pcG 4) in_X4 (Or.inl q1545) (by decide) (by decide) (by decide) rfl dX4_saidOf_46 (fun _ h9 => h9) (fun v11 => ?_)
          refine s_iload hX dX4_saidOf_49 4 rfl ?_
          refine s_iald hX (pcA 0) dX4_saidOf_51 (fun v12 => ?_)
          refine s_istore_n (i := 3) (L2 := [(3, .int v12), (0, rv p0), (1, .int p1), (2, .int p2), (4, .int w2)]) hX dX4_saidOf_52 rfl (by decide) rfl ?_
          exact s_sub [1, 2, 3, 0, 4] rfl (hj53 v12)
set_option maxHeartbeats 4000000 in
theorem ct_X4_saidOf (l : Launch) (n : Nat) (p0 : Nat) (p1 : Int32) (p2 : Int32) : Ct l Pic yX4_saidOf (ws_ yX4_saidOf cX4_saidOf 5 (some FieldType.int)) 1 22 cvI [rv p0, .int p1, .int p2] (f_X4_saidOf n p0 p1 p2) := by
  refine Ct.of (own := RX4) (L := [(0, rv p0), (1, .int p1), (2, .int p2)]) (plainFor_of_name (by decide)) rfl (by first | decide | simp [lg_sl, rv_cat, cat_i, cat_l]) (by first | rfl | simp [lv_args, rv_cat, cat_i, cat_l]) pcZ (fun X hXl hX hnh hin => ?_)
  subst hXl
  unfold f_X4_saidOf
  refine s_iconst (v := 0) hX dX4_saidOf_0 rfl ?_
  refine s_istore_n (i := 3) (L2 := [(3, .int 0), (0, rv p0), (1, .int p1), (2, .int p2)]) hX dX4_saidOf_1 rfl (by decide) rfl ?_
  refine s_bipush (v := 80) hX dX4_saidOf_2 (by decide) ?_
  refine s_iload_n hX dX4_saidOf_4 rfl 2 rfl ?_
  refine s_imul hX dX4_saidOf_5 ?_
  refine s_istore (i := 4) (L2 := [(4, .int (80 * p1)), (3, .int 0), (0, rv p0), (1, .int p1), (2, .int p2)]) hX dX4_saidOf_6 (by decide) rfl ?_
  exact s_sub [2, 3, 4, 1, 0] rfl (s_lp_X4_saidOf_8 hX hnh p0 p1 p2 n 0 (80 * p1))
theorem dX4_said_0 : decode cX4_said 0 = .ok (.iload_n 1, 1) := by decide +kernel
theorem dX4_said_1 : decode cX4_said 1 = .ok (.iconst 0, 1) := by decide +kernel
theorem dX4_said_2 : decode cX4_said 2 = .ok (.iconst 2, 1) := by decide +kernel
theorem dX4_said_3 : decode cX4_said 3 = .ok (.invokestatic 198, 3) := by decide +kernel
theorem dX4_said_6 : decode cX4_said 6 = .ok (.ifCond .eq 19, 3) := by decide +kernel
theorem dX4_said_9 : decode cX4_said 9 = .ok (.iload_n 2, 1) := by decide +kernel
theorem dX4_said_10 : decode cX4_said 10 = .ok (.invokestatic 202, 3) := by decide +kernel
theorem dX4_said_13 : decode cX4_said 13 = .ok (.ifCond .eq 12, 3) := by decide +kernel
theorem dX4_said_16 : decode cX4_said 16 = .ok (.aload_n 0, 1) := by decide +kernel
theorem dX4_said_17 : decode cX4_said 17 = .ok (.iload_n 1, 1) := by decide +kernel
theorem dX4_said_18 : decode cX4_said 18 = .ok (.iload_n 2, 1) := by decide +kernel
theorem dX4_said_19 : decode cX4_said 19 = .ok (.invokevirtual 210, 3) := by decide +kernel
theorem dX4_said_22 : decode cX4_said 22 = .ok (.goto 5, 3) := by decide +kernel
theorem dX4_said_25 : decode cX4_said 25 = .ok (.ldc 214, 2) := by decide +kernel
theorem dX4_said_27 : decode cX4_said 27 = .ok (.ireturn, 1) := by decide +kernel
theorem ycX4_said : yX4_said.cls ≠ "java/lang/invoke/MethodHandle" ∧ yX4_said.cls ≠ "java/lang/invoke/VarHandle" ∧ (parseMethodDescriptor yX4_said.desc).map (fun d => d.parameters.length) = some 2 := by decide +kernel
theorem yvX4_said : yX4_said.cls = RR 4 ∧ yX4_said.cls ≠ "java/lang/invoke/MethodHandle" ∧ yX4_said.cls ≠ "java/lang/invoke/VarHandle" ∧ (parseMethodDescriptor yX4_said.desc).map (fun d => d.parameters.length) = some 2 := ⟨rfl, ycX4_said⟩
def f_X4_said (n : Nat) (p0 : Nat) (p1 : Int32) (p2 : Int32) : Act Int32 :=
  bnd (nt (f_X4_isIn p1 (0 : Int32) (2 : Int32))) fun v1 =>
  jn (fun (v2 : Int32) =>
    pur v2) fun j27 =>
  jn (fun (_ : Unit) =>
    j27 (-100000)) fun j25 =>
  if v1 = 0 then
    j25 ()
  else
    bnd (nt (f_X4_isTen p2)) fun v3 =>
    if v3 = 0 then
      j25 ()
    else
      bnd (gd 4 p0 (nt (f_X4_saidOf n p0 p1 p2))) fun v4 =>
      j27 v4
set_option maxHeartbeats 4000000 in
theorem ct_X4_said (l : Launch) (n : Nat) (p0 : Nat) (p1 : Int32) (p2 : Int32) : Ct l Pic yX4_said (ws_ yX4_said cX4_said 3 (some FieldType.int)) 2 46 cvI [rv p0, .int p1, .int p2] (f_X4_said n p0 p1 p2) := by
  refine Ct.of (own := RX4) (L := [(0, rv p0), (1, .int p1), (2, .int p2)]) (plainFor_of_name (by decide)) rfl (by first | decide | simp [lg_sl, rv_cat, cat_i, cat_l]) (by first | rfl | simp [lv_args, rv_cat, cat_i, cat_l]) pcZ (fun X hXl hX hnh hin => ?_)
  subst hXl
  unfold f_X4_said
  refine s_iload_n hX dX4_said_0 rfl 1 rfl ?_
  refine s_iconst (v := 0) hX dX4_said_1 rfl ?_
  refine s_iconst (v := 2) hX dX4_said_2 rfl ?_
  refine s_callS_I (n := 3) (As := [.int p1, .int 0, .int 2]) (st := []) hX (ct_X4_isIn X.l p1 (0 : Int32) (2 : Int32)) q1781 q1782 q91 q1783 ycX4_isIn (by decide) rfl (by first | decide | simp [rv_cat, cat_i, cat_l]) dX4_said_3 (fun v1 => ?_)
  refine s_jn (P := fun j => ∀ (v2 : Int32), Sim X cvI 27 [] [.int v2] (j v2)) ?_ (fun j27 hj27 => ?_)
  · intro v2
    exact s_iret hX dX4_said_27
  · refine s_jn (P := fun j => ∀ (u : Unit), Sim X cvI 25 [] [] (j u)) ?_ (fun j25 hj25 => ?_)
    · intro u
      refine s_ldc (v := -100000) hX dX4_said_25 q1798 ?_
      exact hj27 (-100000)
    · refine s_if_eq (tgt := 25) hX dX4_said_6 (by decide) ?_ ?_
      · exact s_sub [] rfl (hj25 ())
      · refine s_iload_n hX dX4_said_9 rfl 2 rfl ?_
        refine s_callS_I (n := 1) (As := [.int p2]) (st := []) hX (ct_X4_isTen X.l p2) q1784 q1785 q91 q1786 ycX4_isTen (by decide) rfl (by first | decide | simp [rv_cat, cat_i, cat_l]) dX4_said_10 (fun v3 => ?_)
        refine s_if_eq (tgt := 25) hX dX4_said_13 (by decide) ?_ ?_
        · exact s_sub [] rfl (hj25 ())
        · refine s_aload_n hX dX4_said_16 rfl 0 rfl ?_
          refine s_iload_n hX dX4_said_17 rfl 1 rfl ?_
          refine s_iload_n hX dX4_said_18 rfl 2 rfl ?_
          refine s_callV_I (ci := 4) (n := 2) (As := [.int p1, .int p2]) (st := []) hX (pcK 5) (by decide) (ct_X4_saidOf X.l n p0 p1 p2) q1794 q1796 qs43 q91 q1797 yvX4_saidOf (by decide) rfl (by first | decide | simp [rv_cat, cat_i, cat_l]) dX4_said_19 (fun v4 => ?_)
          refine s_goto (tgt := 27) hX dX4_said_22 (by decide) ?_
          exact s_sub [] rfl (hj27 v4)
theorem dX4_stack_0 : decode cX4_stack 0 = .ok (.iload_n 1, 1) := by decide +kernel
theorem dX4_stack_1 : decode cX4_stack 1 = .ok (.bipush 10, 2) := by decide +kernel
theorem dX4_stack_3 : decode cX4_stack 3 = .ok (.sipush 500, 3) := by decide +kernel
theorem dX4_stack_6 : decode cX4_stack 6 = .ok (.invokestatic 198, 3) := by decide +kernel
theorem dX4_stack_9 : decode cX4_stack 9 = .ok (.ifCond .eq 32, 3) := by decide +kernel
theorem dX4_stack_12 : decode cX4_stack 12 = .ok (.iload_n 2, 1) := by decide +kernel
theorem dX4_stack_13 : decode cX4_stack 13 = .ok (.iconst 1, 1) := by decide +kernel
theorem dX4_stack_14 : decode cX4_stack 14 = .ok (.bipush 20, 2) := by decide +kernel
theorem dX4_stack_16 : decode cX4_stack 16 = .ok (.invokestatic 198, 3) := by decide +kernel
theorem dX4_stack_19 : decode cX4_stack 19 = .ok (.ifCond .eq 22, 3) := by decide +kernel
theorem dX4_stack_22 : decode cX4_stack 22 = .ok (.iload_n 3, 1) := by decide +kernel
theorem dX4_stack_23 : decode cX4_stack 23 = .ok (.iconst 0, 1) := by decide +kernel
theorem dX4_stack_24 : decode cX4_stack 24 = .ok (.sipush 200, 3) := by decide +kernel
theorem dX4_stack_27 : decode cX4_stack 27 = .ok (.invokestatic 198, 3) := by decide +kernel
theorem dX4_stack_30 : decode cX4_stack 30 = .ok (.ifCond .eq 11, 3) := by decide +kernel
theorem dX4_stack_33 : decode cX4_stack 33 = .ok (.aload_n 0, 1) := by decide +kernel
theorem dX4_stack_34 : decode cX4_stack 34 = .ok (.getfield 215, 3) := by decide +kernel
theorem dX4_stack_37 : decode cX4_stack 37 = .ok (.iconst 4, 1) := by decide +kernel
theorem dX4_stack_38 : decode cX4_stack 38 = .ok (.if_icmp .ne 5, 3) := by decide +kernel
theorem dX4_stack_41 : decode cX4_stack 41 = .ok (.iconst (-1), 1) := by decide +kernel
theorem dX4_stack_42 : decode cX4_stack 42 = .ok (.ireturn, 1) := by decide +kernel
theorem dX4_stack_43 : decode cX4_stack 43 = .ok (.aload_n 0, 1) := by decide +kernel
theorem dX4_stack_44 : decode cX4_stack 44 = .ok (.getfield 22, 3) := by decide +kernel
theorem dX4_stack_47 : decode cX4_stack 47 = .ok (.aload_n 0, 1) := by decide +kernel
theorem dX4_stack_48 : decode cX4_stack 48 = .ok (.getfield 215, 3) := by decide +kernel
theorem dX4_stack_51 : decode cX4_stack 51 = .ok (.iload_n 1, 1) := by decide +kernel
theorem dX4_stack_52 : decode cX4_stack 52 = .ok (.iastore, 1) := by decide +kernel
theorem dX4_stack_53 : decode cX4_stack 53 = .ok (.aload_n 0, 1) := by decide +kernel
theorem dX4_stack_54 : decode cX4_stack 54 = .ok (.getfield 25, 3) := by decide +kernel
theorem dX4_stack_57 : decode cX4_stack 57 = .ok (.aload_n 0, 1) := by decide +kernel
theorem dX4_stack_58 : decode cX4_stack 58 = .ok (.getfield 215, 3) := by decide +kernel
theorem dX4_stack_61 : decode cX4_stack 61 = .ok (.iload_n 2, 1) := by decide +kernel
theorem dX4_stack_62 : decode cX4_stack 62 = .ok (.iastore, 1) := by decide +kernel
theorem dX4_stack_63 : decode cX4_stack 63 = .ok (.aload_n 0, 1) := by decide +kernel
theorem dX4_stack_64 : decode cX4_stack 64 = .ok (.getfield 28, 3) := by decide +kernel
theorem dX4_stack_67 : decode cX4_stack 67 = .ok (.aload_n 0, 1) := by decide +kernel
theorem dX4_stack_68 : decode cX4_stack 68 = .ok (.getfield 215, 3) := by decide +kernel
theorem dX4_stack_71 : decode cX4_stack 71 = .ok (.iload_n 3, 1) := by decide +kernel
theorem dX4_stack_72 : decode cX4_stack 72 = .ok (.iastore, 1) := by decide +kernel
theorem dX4_stack_73 : decode cX4_stack 73 = .ok (.aload_n 0, 1) := by decide +kernel
theorem dX4_stack_74 : decode cX4_stack 74 = .ok (.getfield 34, 3) := by decide +kernel
theorem dX4_stack_77 : decode cX4_stack 77 = .ok (.aload_n 0, 1) := by decide +kernel
theorem dX4_stack_78 : decode cX4_stack 78 = .ok (.getfield 215, 3) := by decide +kernel
theorem dX4_stack_81 : decode cX4_stack 81 = .ok (.iconst (-1), 1) := by decide +kernel
theorem dX4_stack_82 : decode cX4_stack 82 = .ok (.iastore, 1) := by decide +kernel
theorem dX4_stack_83 : decode cX4_stack 83 = .ok (.aload_n 0, 1) := by decide +kernel
theorem dX4_stack_84 : decode cX4_stack 84 = .ok (.dup, 1) := by decide +kernel
theorem dX4_stack_85 : decode cX4_stack 85 = .ok (.getfield 215, 3) := by decide +kernel
theorem dX4_stack_88 : decode cX4_stack 88 = .ok (.iconst 1, 1) := by decide +kernel
theorem dX4_stack_89 : decode cX4_stack 89 = .ok (.iadd, 1) := by decide +kernel
theorem dX4_stack_90 : decode cX4_stack 90 = .ok (.putfield 215, 3) := by decide +kernel
theorem dX4_stack_93 : decode cX4_stack 93 = .ok (.aload_n 0, 1) := by decide +kernel
theorem dX4_stack_94 : decode cX4_stack 94 = .ok (.getfield 215, 3) := by decide +kernel
theorem dX4_stack_97 : decode cX4_stack 97 = .ok (.iconst 1, 1) := by decide +kernel
theorem dX4_stack_98 : decode cX4_stack 98 = .ok (.isub, 1) := by decide +kernel
theorem dX4_stack_99 : decode cX4_stack 99 = .ok (.ireturn, 1) := by decide +kernel
theorem ycX4_stack : yX4_stack.cls ≠ "java/lang/invoke/MethodHandle" ∧ yX4_stack.cls ≠ "java/lang/invoke/VarHandle" ∧ (parseMethodDescriptor yX4_stack.desc).map (fun d => d.parameters.length) = some 3 := by decide +kernel
theorem yvX4_stack : yX4_stack.cls = RR 4 ∧ yX4_stack.cls ≠ "java/lang/invoke/MethodHandle" ∧ yX4_stack.cls ≠ "java/lang/invoke/VarHandle" ∧ (parseMethodDescriptor yX4_stack.desc).map (fun d => d.parameters.length) = some 3 := ⟨rfl, ycX4_stack⟩
def f_X4_stack (p0 : Nat) (p1 : Int32) (p2 : Int32) (p3 : Int32) : Act Int32 :=
  bnd (nt (f_X4_isIn p1 (10 : Int32) (500 : Int32))) fun v1 =>
  jn (fun (_ : Unit) =>
    pur (-1)) fun j41 =>
  if v1 = 0 then
    j41 ()
  else
    bnd (nt (f_X4_isIn p2 (1 : Int32) (20 : Int32))) fun v2 =>
    if v2 = 0 then
      j41 ()
    else
      bnd (nt (f_X4_isIn p3 (0 : Int32) (200 : Int32))) fun v3 =>
      if v3 = 0 then
        j41 ()
      else
        bnd (getI 4 1 p0) fun v4 =>
        if ¬ v4 = 4 then
          bnd (getR 4 8 p0) fun v5 =>
          bnd (getI 4 1 p0) fun v6 =>
          bnd (stI 0 v5 v6 p1) fun _ =>
          bnd (getR 4 9 p0) fun v7 =>
          bnd (getI 4 1 p0) fun v8 =>
          bnd (stI 0 v7 v8 p2) fun _ =>
          bnd (getR 4 10 p0) fun v9 =>
          bnd (getI 4 1 p0) fun v10 =>
          bnd (stI 0 v9 v10 p3) fun _ =>
          bnd (getR 4 12 p0) fun v11 =>
          bnd (getI 4 1 p0) fun v12 =>
          bnd (stI 0 v11 v12 (-1)) fun _ =>
          bnd (getI 4 1 p0) fun v13 =>
          bnd (putI 4 1 p0 (v13 + 1)) fun _ =>
          bnd (getI 4 1 p0) fun v14 =>
          pur (v14 - 1)
        else
          j41 ()
set_option maxHeartbeats 4000000 in
theorem ct_X4_stack (l : Launch) (p0 : Nat) (p1 : Int32) (p2 : Int32) (p3 : Int32) : Ct l Pic yX4_stack (ws_ yX4_stack cX4_stack 4 (some FieldType.int)) 1 22 cvI [rv p0, .int p1, .int p2, .int p3] (f_X4_stack p0 p1 p2 p3) := by
  refine Ct.of (own := RX4) (L := [(0, rv p0), (1, .int p1), (2, .int p2), (3, .int p3)]) (plainFor_of_name (by decide)) rfl (by first | decide | simp [lg_sl, rv_cat, cat_i, cat_l]) (by first | rfl | simp [lv_args, rv_cat, cat_i, cat_l]) pcZ (fun X hXl hX hnh hin => ?_)
  subst hXl
  unfold f_X4_stack
  refine s_iload_n hX dX4_stack_0 rfl 1 rfl ?_
  refine s_bipush (v := 10) hX dX4_stack_1 (by decide) ?_
  refine s_sipush (v := 500) hX dX4_stack_3 (by decide) ?_
  refine s_callS_I (n := 3) (As := [.int p1, .int 10, .int 500]) (st := []) hX (ct_X4_isIn X.l p1 (10 : Int32) (500 : Int32)) q1781 q1782 q91 q1783 ycX4_isIn (by decide) rfl (by first | decide | simp [rv_cat, cat_i, cat_l]) dX4_stack_6 (fun v1 => ?_)
  refine s_jn (P := fun j => ∀ (u : Unit), Sim X cvI 41 [] [] (j u)) ?_ (fun j41 hj41 => ?_)
  · intro u
    refine s_iconst (v := -1) hX dX4_stack_41 (by decide) ?_
    exact s_iret hX dX4_stack_42
  · refine s_if_eq (tgt := 41) hX dX4_stack_9 (by decide) ?_ ?_
    · exact s_sub [] rfl (hj41 ())
    · refine s_iload_n hX dX4_stack_12 rfl 2 rfl ?_
      refine s_iconst (v := 1) hX dX4_stack_13 rfl ?_
      refine s_bipush (v := 20) hX dX4_stack_14 (by decide) ?_
      refine s_callS_I (n := 3) (As := [.int p2, .int 1, .int 20]) (st := []) hX (ct_X4_isIn X.l p2 (1 : Int32) (20 : Int32)) q1781 q1782 q91 q1783 ycX4_isIn (by decide) rfl (by first | decide | simp [rv_cat, cat_i, cat_l]) dX4_stack_16 (fun v2 => ?_)
      refine s_if_eq (tgt := 41) hX dX4_stack_19 (by decide) ?_ ?_
      · exact s_sub [] rfl (hj41 ())
      · refine s_iload_n hX dX4_stack_22 rfl 3 rfl ?_
        refine s_iconst (v := 0) hX dX4_stack_23 rfl ?_
        refine s_sipush (v := 200) hX dX4_stack_24 (by decide) ?_
        refine s_callS_I (n := 3) (As := [.int p3, .int 0, .int 200]) (st := []) hX (ct_X4_isIn X.l p3 (0 : Int32) (200 : Int32)) q1781 q1782 q91 q1783 ycX4_isIn (by decide) rfl (by first | decide | simp [rv_cat, cat_i, cat_l]) dX4_stack_27 (fun v3 => ?_)
        refine s_if_eq (tgt := 41) hX dX4_stack_30 (by decide) ?_ ?_
        · exact s_sub [] rfl (hj41 ())
        · refine s_aload_n hX dX4_stack_33 rfl 0 rfl ?_
          refine s_getI (ci := 4) (j := 1) (ref := "WindGasModel") hX (pcG 4) in_X4 (Or.inl q1539) (by decide) (by decide) (by decide) rfl dX4_stack_34 (fun _ h9 => h9) (fun v4 => ?_)
          refine s_iconst (v := 4) hX dX4_stack_37 rfl ?_
          refine s_icmp_ne (tgt := 43) hX dX4_stack_38 (by decide) ?_ ?_
          · refine s_aload_n hX dX4_stack_43 rfl 0 rfl ?_
            refine s_getR (ci := 4) (j := 8) (ref := "WindGasModel") hX (pcG 4) in_X4 (Or.inl q1546) (by decide) (by decide) (by decide) rfl dX4_stack_44 (fun _ h9 => h9) (fun v5 => ?_)
            refine s_aload_n hX dX4_stack_47 rfl 0 rfl ?_
            refine s_getI (ci := 4) (j := 1) (ref := "WindGasModel") hX (pcG 4) in_X4 (Or.inl q1539) (by decide) (by decide) (by decide) rfl dX4_stack_48 (fun _ h9 => h9) (fun v6 => ?_)
            refine s_iload_n hX dX4_stack_51 rfl 1 rfl ?_
            refine s_iast hX (pcA 0) (pcB 0) dX4_stack_52 ?_
            refine s_aload_n hX dX4_stack_53 rfl 0 rfl ?_
            refine s_getR (ci := 4) (j := 9) (ref := "WindGasModel") hX (pcG 4) in_X4 (Or.inl q1547) (by decide) (by decide) (by decide) rfl dX4_stack_54 (fun _ h9 => h9) (fun v7 => ?_)
            refine s_aload_n hX dX4_stack_57 rfl 0 rfl ?_
            refine s_getI (ci := 4) (j := 1) (ref := "WindGasModel") hX (pcG 4) in_X4 (Or.inl q1539) (by decide) (by decide) (by decide) rfl dX4_stack_58 (fun _ h9 => h9) (fun v8 => ?_)
            refine s_iload_n hX dX4_stack_61 rfl 2 rfl ?_
            refine s_iast hX (pcA 0) (pcB 0) dX4_stack_62 ?_
            refine s_aload_n hX dX4_stack_63 rfl 0 rfl ?_
            refine s_getR (ci := 4) (j := 10) (ref := "WindGasModel") hX (pcG 4) in_X4 (Or.inl q1548) (by decide) (by decide) (by decide) rfl dX4_stack_64 (fun _ h9 => h9) (fun v9 => ?_)
            refine s_aload_n hX dX4_stack_67 rfl 0 rfl ?_
            refine s_getI (ci := 4) (j := 1) (ref := "WindGasModel") hX (pcG 4) in_X4 (Or.inl q1539) (by decide) (by decide) (by decide) rfl dX4_stack_68 (fun _ h9 => h9) (fun v10 => ?_)
            refine s_iload_n hX dX4_stack_71 rfl 3 rfl ?_
            refine s_iast hX (pcA 0) (pcB 0) dX4_stack_72 ?_
            refine s_aload_n hX dX4_stack_73 rfl 0 rfl ?_
            refine s_getR (ci := 4) (j := 12) (ref := "WindGasModel") hX (pcG 4) in_X4 (Or.inl q1550) (by decide) (by decide) (by decide) rfl dX4_stack_74 (fun _ h9 => h9) (fun v11 => ?_)
            refine s_aload_n hX dX4_stack_77 rfl 0 rfl ?_
            refine s_getI (ci := 4) (j := 1) (ref := "WindGasModel") hX (pcG 4) in_X4 (Or.inl q1539) (by decide) (by decide) (by decide) rfl dX4_stack_78 (fun _ h9 => h9) (fun v12 => ?_)
            refine s_iconst (v := -1) hX dX4_stack_81 (by decide) ?_
            refine s_iast hX (pcA 0) (pcB 0) dX4_stack_82 ?_
            refine s_aload_n hX dX4_stack_83 rfl 0 rfl ?_
            refine s_dup hX dX4_stack_84 (rv_cat _) ?_
            refine s_getI (ci := 4) (j := 1) (ref := "WindGasModel") hX (pcG 4) in_X4 (Or.inl q1539) (by decide) (by decide) (by decide) rfl dX4_stack_85 (fun _ h9 => h9) (fun v13 => ?_)
            refine s_iconst (v := 1) hX dX4_stack_88 rfl ?_
            refine s_iadd hX dX4_stack_89 ?_
            refine s_putI (ci := 4) (j := 1) (ref := "WindGasModel") hX (pcG 4) (pcP 4) in_X4 tyX4_ok nmX4 (Or.inl q1539) (by decide) (by decide) (by decide) rfl rfl rfl dX4_stack_90 (fun _ h9 => h9) ?_
            refine s_aload_n hX dX4_stack_93 rfl 0 rfl ?_
            refine s_getI (ci := 4) (j := 1) (ref := "WindGasModel") hX (pcG 4) in_X4 (Or.inl q1539) (by decide) (by decide) (by decide) rfl dX4_stack_94 (fun _ h9 => h9) (fun v14 => ?_)
            refine s_iconst (v := 1) hX dX4_stack_97 rfl ?_
            refine s_isub hX dX4_stack_98 ?_
            exact s_iret hX dX4_stack_99
          · exact s_sub [] rfl (hj41 ())
theorem dX4_isStore_0 : decode cX4_isStore 0 = .ok (.iload_n 0, 1) := by decide +kernel
theorem dX4_isStore_1 : decode cX4_isStore 1 = .ok (.iconst 0, 1) := by decide +kernel
theorem dX4_isStore_2 : decode cX4_isStore 2 = .ok (.iconst 1, 1) := by decide +kernel
theorem dX4_isStore_3 : decode cX4_isStore 3 = .ok (.invokestatic 198, 3) := by decide +kernel
theorem dX4_isStore_6 : decode cX4_isStore 6 = .ok (.ireturn, 1) := by decide +kernel
theorem ycX4_isStore : yX4_isStore.cls ≠ "java/lang/invoke/MethodHandle" ∧ yX4_isStore.cls ≠ "java/lang/invoke/VarHandle" ∧ (parseMethodDescriptor yX4_isStore.desc).map (fun d => d.parameters.length) = some 1 := by decide +kernel
def f_X4_isStore (p0 : Int32) : Act Int32 :=
  bnd (nt (f_X4_isIn p0 (0 : Int32) (1 : Int32))) fun v1 =>
  purS (ty := .boolean) v1
set_option maxHeartbeats 4000000 in
theorem ct_X4_isStore (l : Launch) (p0 : Int32) : Ct l Pic yX4_isStore (ws_ yX4_isStore cX4_isStore 1 (some FieldType.boolean)) 1 22 cvI [.int p0] (f_X4_isStore p0) := by
  refine Ct.of (own := RX4) (L := [(0, .int p0)]) (plainFor_of_name (by decide)) rfl (by first | decide | simp [lg_sl, rv_cat, cat_i, cat_l]) (by first | rfl | simp [lv_args, rv_cat, cat_i, cat_l]) pcZ (fun X hXl hX hnh hin => ?_)
  subst hXl
  unfold f_X4_isStore
  refine s_iload_n hX dX4_isStore_0 rfl 0 rfl ?_
  refine s_iconst (v := 0) hX dX4_isStore_1 rfl ?_
  refine s_iconst (v := 1) hX dX4_isStore_2 rfl ?_
  refine s_callS_I (n := 3) (As := [.int p0, .int 0, .int 1]) (st := []) hX (ct_X4_isIn X.l p0 (0 : Int32) (1 : Int32)) q1781 q1782 q91 q1783 ycX4_isIn (by decide) rfl (by first | decide | simp [rv_cat, cat_i, cat_l]) dX4_isStore_3 (fun v1 => ?_)
  exact s_zret hX dX4_isStore_6
theorem dX4_store_0 : decode cX4_store 0 = .ok (.iload_n 1, 1) := by decide +kernel
theorem dX4_store_1 : decode cX4_store 1 = .ok (.invokestatic 218, 3) := by decide +kernel
theorem dX4_store_4 : decode cX4_store 4 = .ok (.ifCond .eq 44, 3) := by decide +kernel
theorem dX4_store_7 : decode cX4_store 7 = .ok (.iload_n 2, 1) := by decide +kernel
theorem dX4_store_8 : decode cX4_store 8 = .ok (.iconst 0, 1) := by decide +kernel
theorem dX4_store_9 : decode cX4_store 9 = .ok (.ldc 221, 2) := by decide +kernel
theorem dX4_store_11 : decode cX4_store 11 = .ok (.invokestatic 198, 3) := by decide +kernel
theorem dX4_store_14 : decode cX4_store 14 = .ok (.ifCond .eq 34, 3) := by decide +kernel
theorem dX4_store_17 : decode cX4_store 17 = .ok (.iload_n 3, 1) := by decide +kernel
theorem dX4_store_18 : decode cX4_store 18 = .ok (.iconst 0, 1) := by decide +kernel
theorem dX4_store_19 : decode cX4_store 19 = .ok (.bipush 100, 2) := by decide +kernel
theorem dX4_store_21 : decode cX4_store 21 = .ok (.invokestatic 198, 3) := by decide +kernel
theorem dX4_store_24 : decode cX4_store 24 = .ok (.ifCond .eq 24, 3) := by decide +kernel
theorem dX4_store_27 : decode cX4_store 27 = .ok (.iload 4, 2) := by decide +kernel
theorem dX4_store_29 : decode cX4_store 29 = .ok (.iconst 0, 1) := by decide +kernel
theorem dX4_store_30 : decode cX4_store 30 = .ok (.ldc 221, 2) := by decide +kernel
theorem dX4_store_32 : decode cX4_store 32 = .ok (.invokestatic 198, 3) := by decide +kernel
theorem dX4_store_35 : decode cX4_store 35 = .ok (.ifCond .eq 13, 3) := by decide +kernel
theorem dX4_store_38 : decode cX4_store 38 = .ok (.iload_n 2, 1) := by decide +kernel
theorem dX4_store_39 : decode cX4_store 39 = .ok (.aload_n 0, 1) := by decide +kernel
theorem dX4_store_40 : decode cX4_store 40 = .ok (.getfield 63, 3) := by decide +kernel
theorem dX4_store_43 : decode cX4_store 43 = .ok (.iload_n 1, 1) := by decide +kernel
theorem dX4_store_44 : decode cX4_store 44 = .ok (.iaload, 1) := by decide +kernel
theorem dX4_store_45 : decode cX4_store 45 = .ok (.if_icmp .ge 5, 3) := by decide +kernel
theorem dX4_store_48 : decode cX4_store 48 = .ok (.iconst 0, 1) := by decide +kernel
theorem dX4_store_49 : decode cX4_store 49 = .ok (.ireturn, 1) := by decide +kernel
theorem dX4_store_50 : decode cX4_store 50 = .ok (.aload_n 0, 1) := by decide +kernel
theorem dX4_store_51 : decode cX4_store 51 = .ok (.getfield 54, 3) := by decide +kernel
theorem dX4_store_54 : decode cX4_store 54 = .ok (.iload_n 1, 1) := by decide +kernel
theorem dX4_store_55 : decode cX4_store 55 = .ok (.iload_n 2, 1) := by decide +kernel
theorem dX4_store_56 : decode cX4_store 56 = .ok (.iastore, 1) := by decide +kernel
theorem dX4_store_57 : decode cX4_store 57 = .ok (.aload_n 0, 1) := by decide +kernel
theorem dX4_store_58 : decode cX4_store 58 = .ok (.getfield 57, 3) := by decide +kernel
theorem dX4_store_61 : decode cX4_store 61 = .ok (.iload_n 1, 1) := by decide +kernel
theorem dX4_store_62 : decode cX4_store 62 = .ok (.iload_n 3, 1) := by decide +kernel
theorem dX4_store_63 : decode cX4_store 63 = .ok (.iastore, 1) := by decide +kernel
theorem dX4_store_64 : decode cX4_store 64 = .ok (.aload_n 0, 1) := by decide +kernel
theorem dX4_store_65 : decode cX4_store 65 = .ok (.getfield 60, 3) := by decide +kernel
theorem dX4_store_68 : decode cX4_store 68 = .ok (.iload_n 1, 1) := by decide +kernel
theorem dX4_store_69 : decode cX4_store 69 = .ok (.iload 4, 2) := by decide +kernel
theorem dX4_store_71 : decode cX4_store 71 = .ok (.iastore, 1) := by decide +kernel
theorem dX4_store_72 : decode cX4_store 72 = .ok (.iconst 1, 1) := by decide +kernel
theorem dX4_store_73 : decode cX4_store 73 = .ok (.ireturn, 1) := by decide +kernel
theorem ycX4_store : yX4_store.cls ≠ "java/lang/invoke/MethodHandle" ∧ yX4_store.cls ≠ "java/lang/invoke/VarHandle" ∧ (parseMethodDescriptor yX4_store.desc).map (fun d => d.parameters.length) = some 4 := by decide +kernel
theorem yvX4_store : yX4_store.cls = RR 4 ∧ yX4_store.cls ≠ "java/lang/invoke/MethodHandle" ∧ yX4_store.cls ≠ "java/lang/invoke/VarHandle" ∧ (parseMethodDescriptor yX4_store.desc).map (fun d => d.parameters.length) = some 4 := ⟨rfl, ycX4_store⟩
def f_X4_store (p0 : Nat) (p1 : Int32) (p2 : Int32) (p3 : Int32) (p4 : Int32) : Act Int32 :=
  bnd (nt (f_X4_isStore p1)) fun v1 =>
  jn (fun (_ : Unit) =>
    purS (ty := .boolean) 0) fun j48 =>
  if v1 = 0 then
    j48 ()
  else
    bnd (nt (f_X4_isIn p2 (0 : Int32) (1000000 : Int32))) fun v2 =>
    if v2 = 0 then
      j48 ()
    else
      bnd (nt (f_X4_isIn p3 (0 : Int32) (100 : Int32))) fun v3 =>
      if v3 = 0 then
        j48 ()
      else
        bnd (nt (f_X4_isIn p4 (0 : Int32) (1000000 : Int32))) fun v4 =>
        if v4 = 0 then
          j48 ()
        else
          bnd (getR 4 23 p0) fun v5 =>
          bnd (ldI 0 v5 p1) fun v6 =>
          if v6 ≤ p2 then
            bnd (getR 4 20 p0) fun v7 =>
            bnd (stI 0 v7 p1 p2) fun _ =>
            bnd (getR 4 21 p0) fun v8 =>
            bnd (stI 0 v8 p1 p3) fun _ =>
            bnd (getR 4 22 p0) fun v9 =>
            bnd (stI 0 v9 p1 p4) fun _ =>
            purS (ty := .boolean) 1
          else
            j48 ()
set_option maxHeartbeats 4000000 in
theorem ct_X4_store (l : Launch) (p0 : Nat) (p1 : Int32) (p2 : Int32) (p3 : Int32) (p4 : Int32) : Ct l Pic yX4_store (ws_ yX4_store cX4_store 5 (some FieldType.boolean)) 2 42 cvI [rv p0, .int p1, .int p2, .int p3, .int p4] (f_X4_store p0 p1 p2 p3 p4) := by
  refine Ct.of (own := RX4) (L := [(0, rv p0), (1, .int p1), (2, .int p2), (3, .int p3), (4, .int p4)]) (plainFor_of_name (by decide)) rfl (by first | decide | simp [lg_sl, rv_cat, cat_i, cat_l]) (by first | rfl | simp [lv_args, rv_cat, cat_i, cat_l]) pcZ (fun X hXl hX hnh hin => ?_)
  subst hXl
  unfold f_X4_store
  refine s_iload_n hX dX4_store_0 rfl 1 rfl ?_
  refine s_callS_I (n := 1) (As := [.int p1]) (st := []) hX (ct_X4_isStore X.l p1) q1807 q1808 q91 q1809 ycX4_isStore (by decide) rfl (by first | decide | simp [rv_cat, cat_i, cat_l]) dX4_store_1 (fun v1 => ?_)
  refine s_jn (P := fun j => ∀ (u : Unit), Sim X cvI 48 [] [] (j u)) ?_ (fun j48 hj48 => ?_)
  · intro u
    refine s_iconst (v := 0) hX dX4_store_48 rfl ?_
    exact s_zret hX dX4_store_49
  · refine s_if_eq (tgt := 48) hX dX4_store_4 (by decide) ?_ ?_
    · exact s_sub [] rfl (hj48 ())
    · refine s_iload_n hX dX4_store_7 rfl 2 rfl ?_
      refine s_iconst (v := 0) hX dX4_store_8 rfl ?_
      refine s_ldc (v := 1000000) hX dX4_store_9 q1810 ?_
      refine s_callS_I (n := 3) (As := [.int p2, .int 0, .int 1000000]) (st := []) hX (ct_X4_isIn X.l p2 (0 : Int32) (1000000 : Int32)) q1781 q1782 q91 q1783 ycX4_isIn (by decide) rfl (by first | decide | simp [rv_cat, cat_i, cat_l]) dX4_store_11 (fun v2 => ?_)
      refine s_if_eq (tgt := 48) hX dX4_store_14 (by decide) ?_ ?_
      · exact s_sub [] rfl (hj48 ())
      · refine s_iload_n hX dX4_store_17 rfl 3 rfl ?_
        refine s_iconst (v := 0) hX dX4_store_18 rfl ?_
        refine s_bipush (v := 100) hX dX4_store_19 (by decide) ?_
        refine s_callS_I (n := 3) (As := [.int p3, .int 0, .int 100]) (st := []) hX (ct_X4_isIn X.l p3 (0 : Int32) (100 : Int32)) q1781 q1782 q91 q1783 ycX4_isIn (by decide) rfl (by first | decide | simp [rv_cat, cat_i, cat_l]) dX4_store_21 (fun v3 => ?_)
        refine s_if_eq (tgt := 48) hX dX4_store_24 (by decide) ?_ ?_
        · exact s_sub [] rfl (hj48 ())
        · refine s_iload hX dX4_store_27 4 rfl ?_
          refine s_iconst (v := 0) hX dX4_store_29 rfl ?_
          refine s_ldc (v := 1000000) hX dX4_store_30 q1810 ?_
          refine s_callS_I (n := 3) (As := [.int p4, .int 0, .int 1000000]) (st := []) hX (ct_X4_isIn X.l p4 (0 : Int32) (1000000 : Int32)) q1781 q1782 q91 q1783 ycX4_isIn (by decide) rfl (by first | decide | simp [rv_cat, cat_i, cat_l]) dX4_store_32 (fun v4 => ?_)
          refine s_if_eq (tgt := 48) hX dX4_store_35 (by decide) ?_ ?_
          · exact s_sub [] rfl (hj48 ())
          · refine s_iload_n hX dX4_store_38 rfl 2 rfl ?_
            refine s_aload_n hX dX4_store_39 rfl 0 rfl ?_
            refine s_getR (ci := 4) (j := 23) (ref := "WindGasModel") hX (pcG 4) in_X4 (Or.inl q1561) (by decide) (by decide) (by decide) rfl dX4_store_40 (fun _ h9 => h9) (fun v5 => ?_)
            refine s_iload_n hX dX4_store_43 rfl 1 rfl ?_
            refine s_iald hX (pcA 0) dX4_store_44 (fun v6 => ?_)
            refine s_icmp_ge (tgt := 50) hX dX4_store_45 (by decide) ?_ ?_
            · refine s_aload_n hX dX4_store_50 rfl 0 rfl ?_
              refine s_getR (ci := 4) (j := 20) (ref := "WindGasModel") hX (pcG 4) in_X4 (Or.inl q1558) (by decide) (by decide) (by decide) rfl dX4_store_51 (fun _ h9 => h9) (fun v7 => ?_)
              refine s_iload_n hX dX4_store_54 rfl 1 rfl ?_
              refine s_iload_n hX dX4_store_55 rfl 2 rfl ?_
              refine s_iast hX (pcA 0) (pcB 0) dX4_store_56 ?_
              refine s_aload_n hX dX4_store_57 rfl 0 rfl ?_
              refine s_getR (ci := 4) (j := 21) (ref := "WindGasModel") hX (pcG 4) in_X4 (Or.inl q1559) (by decide) (by decide) (by decide) rfl dX4_store_58 (fun _ h9 => h9) (fun v8 => ?_)
              refine s_iload_n hX dX4_store_61 rfl 1 rfl ?_
              refine s_iload_n hX dX4_store_62 rfl 3 rfl ?_
              refine s_iast hX (pcA 0) (pcB 0) dX4_store_63 ?_
              refine s_aload_n hX dX4_store_64 rfl 0 rfl ?_
              refine s_getR (ci := 4) (j := 22) (ref := "WindGasModel") hX (pcG 4) in_X4 (Or.inl q1560) (by decide) (by decide) (by decide) rfl dX4_store_65 (fun _ h9 => h9) (fun v9 => ?_)
              refine s_iload_n hX dX4_store_68 rfl 1 rfl ?_
              refine s_iload hX dX4_store_69 4 rfl ?_
              refine s_iast hX (pcA 0) (pcB 0) dX4_store_71 ?_
              refine s_iconst (v := 1) hX dX4_store_72 rfl ?_
              exact s_zret hX dX4_store_73
            · exact s_sub [] rfl (hj48 ())
theorem dX4_tank_0 : decode cX4_tank 0 = .ok (.iload_n 1, 1) := by decide +kernel
theorem dX4_tank_1 : decode cX4_tank 1 = .ok (.iconst 0, 1) := by decide +kernel
theorem dX4_tank_2 : decode cX4_tank 2 = .ok (.ldc 222, 2) := by decide +kernel
theorem dX4_tank_4 : decode cX4_tank 4 = .ok (.invokestatic 198, 3) := by decide +kernel
theorem dX4_tank_7 : decode cX4_tank 7 = .ok (.ifCond .eq 12, 3) := by decide +kernel
theorem dX4_tank_10 : decode cX4_tank 10 = .ok (.iload_n 2, 1) := by decide +kernel
theorem dX4_tank_11 : decode cX4_tank 11 = .ok (.iconst 0, 1) := by decide +kernel
theorem dX4_tank_12 : decode cX4_tank 12 = .ok (.iload_n 1, 1) := by decide +kernel
theorem dX4_tank_13 : decode cX4_tank 13 = .ok (.invokestatic 198, 3) := by decide +kernel
theorem dX4_tank_16 : decode cX4_tank 16 = .ok (.ifCond .ne 5, 3) := by decide +kernel
theorem dX4_tank_19 : decode cX4_tank 19 = .ok (.iconst 0, 1) := by decide +kernel
theorem dX4_tank_20 : decode cX4_tank 20 = .ok (.ireturn, 1) := by decide +kernel
theorem dX4_tank_21 : decode cX4_tank 21 = .ok (.aload_n 0, 1) := by decide +kernel
theorem dX4_tank_22 : decode cX4_tank 22 = .ok (.iload_n 1, 1) := by decide +kernel
theorem dX4_tank_23 : decode cX4_tank 23 = .ok (.putfield 223, 3) := by decide +kernel
theorem dX4_tank_26 : decode cX4_tank 26 = .ok (.aload_n 0, 1) := by decide +kernel
theorem dX4_tank_27 : decode cX4_tank 27 = .ok (.iload_n 2, 1) := by decide +kernel
theorem dX4_tank_28 : decode cX4_tank 28 = .ok (.putfield 226, 3) := by decide +kernel
theorem dX4_tank_31 : decode cX4_tank 31 = .ok (.iconst 1, 1) := by decide +kernel
theorem dX4_tank_32 : decode cX4_tank 32 = .ok (.ireturn, 1) := by decide +kernel
theorem ycX4_tank : yX4_tank.cls ≠ "java/lang/invoke/MethodHandle" ∧ yX4_tank.cls ≠ "java/lang/invoke/VarHandle" ∧ (parseMethodDescriptor yX4_tank.desc).map (fun d => d.parameters.length) = some 2 := by decide +kernel
theorem yvX4_tank : yX4_tank.cls = RR 4 ∧ yX4_tank.cls ≠ "java/lang/invoke/MethodHandle" ∧ yX4_tank.cls ≠ "java/lang/invoke/VarHandle" ∧ (parseMethodDescriptor yX4_tank.desc).map (fun d => d.parameters.length) = some 2 := ⟨rfl, ycX4_tank⟩
def f_X4_tank (p0 : Nat) (p1 : Int32) (p2 : Int32) : Act Int32 :=
  bnd (nt (f_X4_isIn p1 (0 : Int32) (100000 : Int32))) fun v1 =>
  jn (fun (_ : Unit) =>
    purS (ty := .boolean) 0) fun j19 =>
  if v1 = 0 then
    j19 ()
  else
    bnd (nt (f_X4_isIn p2 (0 : Int32) p1)) fun v2 =>
    if ¬ v2 = 0 then
      bnd (putI 4 18 p0 p1) fun _ =>
      bnd (putI 4 19 p0 p2) fun _ =>
      purS (ty := .boolean) 1
    else
      j19 ()
set_option maxHeartbeats 4000000 in
theorem ct_X4_tank (l : Launch) (p0 : Nat) (p1 : Int32) (p2 : Int32) : Ct l Pic yX4_tank (ws_ yX4_tank cX4_tank 3 (some FieldType.boolean)) 1 22 cvI [rv p0, .int p1, .int p2] (f_X4_tank p0 p1 p2) := by
  refine Ct.of (own := RX4) (L := [(0, rv p0), (1, .int p1), (2, .int p2)]) (plainFor_of_name (by decide)) rfl (by first | decide | simp [lg_sl, rv_cat, cat_i, cat_l]) (by first | rfl | simp [lv_args, rv_cat, cat_i, cat_l]) pcZ (fun X hXl hX hnh hin => ?_)
  subst hXl
  unfold f_X4_tank
  refine s_iload_n hX dX4_tank_0 rfl 1 rfl ?_
  refine s_iconst (v := 0) hX dX4_tank_1 rfl ?_
  refine s_ldc (v := 100000) hX dX4_tank_2 q1815 ?_
  refine s_callS_I (n := 3) (As := [.int p1, .int 0, .int 100000]) (st := []) hX (ct_X4_isIn X.l p1 (0 : Int32) (100000 : Int32)) q1781 q1782 q91 q1783 ycX4_isIn (by decide) rfl (by first | decide | simp [rv_cat, cat_i, cat_l]) dX4_tank_4 (fun v1 => ?_)
  refine s_jn (P := fun j => ∀ (u : Unit), Sim X cvI 19 [] [] (j u)) ?_ (fun j19 hj19 => ?_)
  · intro u
    refine s_iconst (v := 0) hX dX4_tank_19 rfl ?_
    exact s_zret hX dX4_tank_20
  · refine s_if_eq (tgt := 19) hX dX4_tank_7 (by decide) ?_ ?_
    · exact s_sub [] rfl (hj19 ())
    · refine s_iload_n hX dX4_tank_10 rfl 2 rfl ?_
      refine s_iconst (v := 0) hX dX4_tank_11 rfl ?_
      refine s_iload_n hX dX4_tank_12 rfl 1 rfl ?_
      refine s_callS_I (n := 3) (As := [.int p2, .int 0, .int p1]) (st := []) hX (ct_X4_isIn X.l p2 (0 : Int32) p1) q1781 q1782 q91 q1783 ycX4_isIn (by decide) rfl (by first | decide | simp [rv_cat, cat_i, cat_l]) dX4_tank_13 (fun v2 => ?_)
      refine s_if_ne (tgt := 21) hX dX4_tank_16 (by decide) ?_ ?_
      · refine s_aload_n hX dX4_tank_21 rfl 0 rfl ?_
        refine s_iload_n hX dX4_tank_22 rfl 1 rfl ?_
        refine s_putI (ci := 4) (j := 18) (ref := "WindGasModel") hX (pcG 4) (pcP 4) in_X4 tyX4_ok nmX4 (Or.inl q1556) (by decide) (by decide) (by decide) rfl rfl rfl dX4_tank_23 (fun _ h9 => h9) ?_
        refine s_aload_n hX dX4_tank_26 rfl 0 rfl ?_
        refine s_iload_n hX dX4_tank_27 rfl 2 rfl ?_
        refine s_putI (ci := 4) (j := 19) (ref := "WindGasModel") hX (pcG 4) (pcP 4) in_X4 tyX4_ok nmX4 (Or.inl q1557) (by decide) (by decide) (by decide) rfl rfl rfl dX4_tank_28 (fun _ h9 => h9) ?_
        refine s_iconst (v := 1) hX dX4_tank_31 rfl ?_
        exact s_zret hX dX4_tank_32
      · exact s_sub [] rfl (hj19 ())
theorem dX4_trip_0 : decode cX4_trip 0 = .ok (.iload_n 1, 1) := by decide +kernel
theorem dX4_trip_1 : decode cX4_trip 1 = .ok (.iconst 0, 1) := by decide +kernel
theorem dX4_trip_2 : decode cX4_trip 2 = .ok (.iconst 1, 1) := by decide +kernel
theorem dX4_trip_3 : decode cX4_trip 3 = .ok (.invokestatic 198, 3) := by decide +kernel
theorem dX4_trip_6 : decode cX4_trip 6 = .ok (.ifCond .eq 36, 3) := by decide +kernel
theorem dX4_trip_9 : decode cX4_trip 9 = .ok (.iload_n 2, 1) := by decide +kernel
theorem dX4_trip_10 : decode cX4_trip 10 = .ok (.aload_n 0, 1) := by decide +kernel
theorem dX4_trip_11 : decode cX4_trip 11 = .ok (.getfield 229, 3) := by decide +kernel
theorem dX4_trip_14 : decode cX4_trip 14 = .ok (.sipush 4999, 3) := by decide +kernel
theorem dX4_trip_17 : decode cX4_trip 17 = .ok (.invokestatic 198, 3) := by decide +kernel
theorem dX4_trip_20 : decode cX4_trip 20 = .ok (.ifCond .eq 22, 3) := by decide +kernel
theorem dX4_trip_23 : decode cX4_trip 23 = .ok (.iload_n 3, 1) := by decide +kernel
theorem dX4_trip_24 : decode cX4_trip 24 = .ok (.iconst 1, 1) := by decide +kernel
theorem dX4_trip_25 : decode cX4_trip 25 = .ok (.ldc 244, 2) := by decide +kernel
theorem dX4_trip_27 : decode cX4_trip 27 = .ok (.invokestatic 198, 3) := by decide +kernel
theorem dX4_trip_30 : decode cX4_trip 30 = .ok (.ifCond .eq 12, 3) := by decide +kernel
theorem dX4_trip_33 : decode cX4_trip 33 = .ok (.aload_n 0, 1) := by decide +kernel
theorem dX4_trip_34 : decode cX4_trip 34 = .ok (.getfield 245, 3) := by decide +kernel
theorem dX4_trip_37 : decode cX4_trip 37 = .ok (.bipush 40, 2) := by decide +kernel
theorem dX4_trip_39 : decode cX4_trip 39 = .ok (.if_icmp .ne 5, 3) := by decide +kernel
theorem dX4_trip_42 : decode cX4_trip 42 = .ok (.iconst (-1), 1) := by decide +kernel
theorem dX4_trip_43 : decode cX4_trip 43 = .ok (.ireturn, 1) := by decide +kernel
theorem dX4_trip_44 : decode cX4_trip 44 = .ok (.aload_n 0, 1) := by decide +kernel
theorem dX4_trip_45 : decode cX4_trip 45 = .ok (.getfield 90, 3) := by decide +kernel
theorem dX4_trip_48 : decode cX4_trip 48 = .ok (.aload_n 0, 1) := by decide +kernel
theorem dX4_trip_49 : decode cX4_trip 49 = .ok (.getfield 245, 3) := by decide +kernel
theorem dX4_trip_52 : decode cX4_trip 52 = .ok (.iload_n 1, 1) := by decide +kernel
theorem dX4_trip_53 : decode cX4_trip 53 = .ok (.iastore, 1) := by decide +kernel
theorem dX4_trip_54 : decode cX4_trip 54 = .ok (.aload_n 0, 1) := by decide +kernel
theorem dX4_trip_55 : decode cX4_trip 55 = .ok (.getfield 93, 3) := by decide +kernel
theorem dX4_trip_58 : decode cX4_trip 58 = .ok (.aload_n 0, 1) := by decide +kernel
theorem dX4_trip_59 : decode cX4_trip 59 = .ok (.getfield 245, 3) := by decide +kernel
theorem dX4_trip_62 : decode cX4_trip 62 = .ok (.iload_n 2, 1) := by decide +kernel
theorem dX4_trip_63 : decode cX4_trip 63 = .ok (.iastore, 1) := by decide +kernel
theorem dX4_trip_64 : decode cX4_trip 64 = .ok (.aload_n 0, 1) := by decide +kernel
theorem dX4_trip_65 : decode cX4_trip 65 = .ok (.getfield 96, 3) := by decide +kernel
theorem dX4_trip_68 : decode cX4_trip 68 = .ok (.aload_n 0, 1) := by decide +kernel
theorem dX4_trip_69 : decode cX4_trip 69 = .ok (.getfield 245, 3) := by decide +kernel
theorem dX4_trip_72 : decode cX4_trip 72 = .ok (.iload_n 3, 1) := by decide +kernel
theorem dX4_trip_73 : decode cX4_trip 73 = .ok (.iastore, 1) := by decide +kernel
theorem dX4_trip_74 : decode cX4_trip 74 = .ok (.aload_n 0, 1) := by decide +kernel
theorem dX4_trip_75 : decode cX4_trip 75 = .ok (.getfield 102, 3) := by decide +kernel
theorem dX4_trip_78 : decode cX4_trip 78 = .ok (.aload_n 0, 1) := by decide +kernel
theorem dX4_trip_79 : decode cX4_trip 79 = .ok (.getfield 245, 3) := by decide +kernel
theorem dX4_trip_82 : decode cX4_trip 82 = .ok (.iconst (-1), 1) := by decide +kernel
theorem dX4_trip_83 : decode cX4_trip 83 = .ok (.iastore, 1) := by decide +kernel
theorem dX4_trip_84 : decode cX4_trip 84 = .ok (.aload_n 0, 1) := by decide +kernel
theorem dX4_trip_85 : decode cX4_trip 85 = .ok (.dup, 1) := by decide +kernel
theorem dX4_trip_86 : decode cX4_trip 86 = .ok (.getfield 245, 3) := by decide +kernel
theorem dX4_trip_89 : decode cX4_trip 89 = .ok (.iconst 1, 1) := by decide +kernel
theorem dX4_trip_90 : decode cX4_trip 90 = .ok (.iadd, 1) := by decide +kernel
theorem dX4_trip_91 : decode cX4_trip 91 = .ok (.putfield 245, 3) := by decide +kernel
theorem dX4_trip_94 : decode cX4_trip 94 = .ok (.aload_n 0, 1) := by decide +kernel
theorem dX4_trip_95 : decode cX4_trip 95 = .ok (.getfield 245, 3) := by decide +kernel
theorem dX4_trip_98 : decode cX4_trip 98 = .ok (.iconst 1, 1) := by decide +kernel
theorem dX4_trip_99 : decode cX4_trip 99 = .ok (.isub, 1) := by decide +kernel
theorem dX4_trip_100 : decode cX4_trip 100 = .ok (.ireturn, 1) := by decide +kernel
theorem ycX4_trip : yX4_trip.cls ≠ "java/lang/invoke/MethodHandle" ∧ yX4_trip.cls ≠ "java/lang/invoke/VarHandle" ∧ (parseMethodDescriptor yX4_trip.desc).map (fun d => d.parameters.length) = some 3 := by decide +kernel
theorem yvX4_trip : yX4_trip.cls = RR 4 ∧ yX4_trip.cls ≠ "java/lang/invoke/MethodHandle" ∧ yX4_trip.cls ≠ "java/lang/invoke/VarHandle" ∧ (parseMethodDescriptor yX4_trip.desc).map (fun d => d.parameters.length) = some 3 := ⟨rfl, ycX4_trip⟩
def f_X4_trip (p0 : Nat) (p1 : Int32) (p2 : Int32) (p3 : Int32) : Act Int32 :=
  bnd (nt (f_X4_isIn p1 (0 : Int32) (1 : Int32))) fun v1 =>
  jn (fun (_ : Unit) =>
    pur (-1)) fun j42 =>
  if v1 = 0 then
    j42 ()
  else
    bnd (getI 4 0 p0) fun v2 =>
    bnd (nt (f_X4_isIn p2 v2 (4999 : Int32))) fun v3 =>
    if v3 = 0 then
      j42 ()
    else
      bnd (nt (f_X4_isIn p3 (1 : Int32) (50000 : Int32))) fun v4 =>
      if v4 = 0 then
        j42 ()
      else
        bnd (getI 4 2 p0) fun v5 =>
        if ¬ v5 = 40 then
          bnd (getR 4 32 p0) fun v6 =>
          bnd (getI 4 2 p0) fun v7 =>
          bnd (stI 0 v6 v7 p1) fun _ =>
          bnd (getR 4 33 p0) fun v8 =>
          bnd (getI 4 2 p0) fun v9 =>
          bnd (stI 0 v8 v9 p2) fun _ =>
          bnd (getR 4 34 p0) fun v10 =>
          bnd (getI 4 2 p0) fun v11 =>
          bnd (stI 0 v10 v11 p3) fun _ =>
          bnd (getR 4 36 p0) fun v12 =>
          bnd (getI 4 2 p0) fun v13 =>
          bnd (stI 0 v12 v13 (-1)) fun _ =>
          bnd (getI 4 2 p0) fun v14 =>
          bnd (putI 4 2 p0 (v14 + 1)) fun _ =>
          bnd (getI 4 2 p0) fun v15 =>
          pur (v15 - 1)
        else
          j42 ()
set_option maxHeartbeats 4000000 in
theorem ct_X4_trip (l : Launch) (p0 : Nat) (p1 : Int32) (p2 : Int32) (p3 : Int32) : Ct l Pic yX4_trip (ws_ yX4_trip cX4_trip 4 (some FieldType.int)) 1 22 cvI [rv p0, .int p1, .int p2, .int p3] (f_X4_trip p0 p1 p2 p3) := by
  refine Ct.of (own := RX4) (L := [(0, rv p0), (1, .int p1), (2, .int p2), (3, .int p3)]) (plainFor_of_name (by decide)) rfl (by first | decide | simp [lg_sl, rv_cat, cat_i, cat_l]) (by first | rfl | simp [lv_args, rv_cat, cat_i, cat_l]) pcZ (fun X hXl hX hnh hin => ?_)
  subst hXl
  unfold f_X4_trip
  refine s_iload_n hX dX4_trip_0 rfl 1 rfl ?_
  refine s_iconst (v := 0) hX dX4_trip_1 rfl ?_
  refine s_iconst (v := 1) hX dX4_trip_2 rfl ?_
  refine s_callS_I (n := 3) (As := [.int p1, .int 0, .int 1]) (st := []) hX (ct_X4_isIn X.l p1 (0 : Int32) (1 : Int32)) q1781 q1782 q91 q1783 ycX4_isIn (by decide) rfl (by first | decide | simp [rv_cat, cat_i, cat_l]) dX4_trip_3 (fun v1 => ?_)
  refine s_jn (P := fun j => ∀ (u : Unit), Sim X cvI 42 [] [] (j u)) ?_ (fun j42 hj42 => ?_)
  · intro u
    refine s_iconst (v := -1) hX dX4_trip_42 (by decide) ?_
    exact s_iret hX dX4_trip_43
  · refine s_if_eq (tgt := 42) hX dX4_trip_6 (by decide) ?_ ?_
    · exact s_sub [] rfl (hj42 ())
    · refine s_iload_n hX dX4_trip_9 rfl 2 rfl ?_
      refine s_aload_n hX dX4_trip_10 rfl 0 rfl ?_
      refine s_getI (ci := 4) (j := 0) (ref := "WindGasModel") hX (pcG 4) in_X4 (Or.inl q1538) (by decide) (by decide) (by decide) rfl dX4_trip_11 (fun _ h9 => h9) (fun v2 => ?_)
      refine s_sipush (v := 4999) hX dX4_trip_14 (by decide) ?_
      refine s_callS_I (n := 3) (As := [.int p2, .int v2, .int 4999]) (st := []) hX (ct_X4_isIn X.l p2 v2 (4999 : Int32)) q1781 q1782 q91 q1783 ycX4_isIn (by decide) rfl (by first | decide | simp [rv_cat, cat_i, cat_l]) dX4_trip_17 (fun v3 => ?_)
      refine s_if_eq (tgt := 42) hX dX4_trip_20 (by decide) ?_ ?_
      · exact s_sub [] rfl (hj42 ())
      · refine s_iload_n hX dX4_trip_23 rfl 3 rfl ?_
        refine s_iconst (v := 1) hX dX4_trip_24 rfl ?_
        refine s_ldc (v := 50000) hX dX4_trip_25 q1820 ?_
        refine s_callS_I (n := 3) (As := [.int p3, .int 1, .int 50000]) (st := []) hX (ct_X4_isIn X.l p3 (1 : Int32) (50000 : Int32)) q1781 q1782 q91 q1783 ycX4_isIn (by decide) rfl (by first | decide | simp [rv_cat, cat_i, cat_l]) dX4_trip_27 (fun v4 => ?_)
        refine s_if_eq (tgt := 42) hX dX4_trip_30 (by decide) ?_ ?_
        · exact s_sub [] rfl (hj42 ())
        · refine s_aload_n hX dX4_trip_33 rfl 0 rfl ?_
          refine s_getI (ci := 4) (j := 2) (ref := "WindGasModel") hX (pcG 4) in_X4 (Or.inl q1540) (by decide) (by decide) (by decide) rfl dX4_trip_34 (fun _ h9 => h9) (fun v5 => ?_)
          refine s_bipush (v := 40) hX dX4_trip_37 (by decide) ?_
          refine s_icmp_ne (tgt := 44) hX dX4_trip_39 (by decide) ?_ ?_
          · refine s_aload_n hX dX4_trip_44 rfl 0 rfl ?_
            refine s_getR (ci := 4) (j := 32) (ref := "WindGasModel") hX (pcG 4) in_X4 (Or.inl q1570) (by decide) (by decide) (by decide) rfl dX4_trip_45 (fun _ h9 => h9) (fun v6 => ?_)
            refine s_aload_n hX dX4_trip_48 rfl 0 rfl ?_
            refine s_getI (ci := 4) (j := 2) (ref := "WindGasModel") hX (pcG 4) in_X4 (Or.inl q1540) (by decide) (by decide) (by decide) rfl dX4_trip_49 (fun _ h9 => h9) (fun v7 => ?_)
            refine s_iload_n hX dX4_trip_52 rfl 1 rfl ?_
            refine s_iast hX (pcA 0) (pcB 0) dX4_trip_53 ?_
            refine s_aload_n hX dX4_trip_54 rfl 0 rfl ?_
            refine s_getR (ci := 4) (j := 33) (ref := "WindGasModel") hX (pcG 4) in_X4 (Or.inl q1571) (by decide) (by decide) (by decide) rfl dX4_trip_55 (fun _ h9 => h9) (fun v8 => ?_)
            refine s_aload_n hX dX4_trip_58 rfl 0 rfl ?_
            refine s_getI (ci := 4) (j := 2) (ref := "WindGasModel") hX (pcG 4) in_X4 (Or.inl q1540) (by decide) (by decide) (by decide) rfl dX4_trip_59 (fun _ h9 => h9) (fun v9 => ?_)
            refine s_iload_n hX dX4_trip_62 rfl 2 rfl ?_
            refine s_iast hX (pcA 0) (pcB 0) dX4_trip_63 ?_
            refine s_aload_n hX dX4_trip_64 rfl 0 rfl ?_
            refine s_getR (ci := 4) (j := 34) (ref := "WindGasModel") hX (pcG 4) in_X4 (Or.inl q1572) (by decide) (by decide) (by decide) rfl dX4_trip_65 (fun _ h9 => h9) (fun v10 => ?_)
            refine s_aload_n hX dX4_trip_68 rfl 0 rfl ?_
            refine s_getI (ci := 4) (j := 2) (ref := "WindGasModel") hX (pcG 4) in_X4 (Or.inl q1540) (by decide) (by decide) (by decide) rfl dX4_trip_69 (fun _ h9 => h9) (fun v11 => ?_)
            refine s_iload_n hX dX4_trip_72 rfl 3 rfl ?_
            refine s_iast hX (pcA 0) (pcB 0) dX4_trip_73 ?_
            refine s_aload_n hX dX4_trip_74 rfl 0 rfl ?_
            refine s_getR (ci := 4) (j := 36) (ref := "WindGasModel") hX (pcG 4) in_X4 (Or.inl q1574) (by decide) (by decide) (by decide) rfl dX4_trip_75 (fun _ h9 => h9) (fun v12 => ?_)
            refine s_aload_n hX dX4_trip_78 rfl 0 rfl ?_
            refine s_getI (ci := 4) (j := 2) (ref := "WindGasModel") hX (pcG 4) in_X4 (Or.inl q1540) (by decide) (by decide) (by decide) rfl dX4_trip_79 (fun _ h9 => h9) (fun v13 => ?_)
            refine s_iconst (v := -1) hX dX4_trip_82 (by decide) ?_
            refine s_iast hX (pcA 0) (pcB 0) dX4_trip_83 ?_
            refine s_aload_n hX dX4_trip_84 rfl 0 rfl ?_
            refine s_dup hX dX4_trip_85 (rv_cat _) ?_
            refine s_getI (ci := 4) (j := 2) (ref := "WindGasModel") hX (pcG 4) in_X4 (Or.inl q1540) (by decide) (by decide) (by decide) rfl dX4_trip_86 (fun _ h9 => h9) (fun v14 => ?_)
            refine s_iconst (v := 1) hX dX4_trip_89 rfl ?_
            refine s_iadd hX dX4_trip_90 ?_
            refine s_putI (ci := 4) (j := 2) (ref := "WindGasModel") hX (pcG 4) (pcP 4) in_X4 tyX4_ok nmX4 (Or.inl q1540) (by decide) (by decide) (by decide) rfl rfl rfl dX4_trip_91 (fun _ h9 => h9) ?_
            refine s_aload_n hX dX4_trip_94 rfl 0 rfl ?_
            refine s_getI (ci := 4) (j := 2) (ref := "WindGasModel") hX (pcG 4) in_X4 (Or.inl q1540) (by decide) (by decide) (by decide) rfl dX4_trip_95 (fun _ h9 => h9) (fun v15 => ?_)
            refine s_iconst (v := 1) hX dX4_trip_98 rfl ?_
            refine s_isub hX dX4_trip_99 ?_
            exact s_iret hX dX4_trip_100
          · exact s_sub [] rfl (hj42 ())
theorem dX4_inForce_0 : decode cX4_inForce 0 = .ok (.iconst (-1), 1) := by decide +kernel
theorem dX4_inForce_1 : decode cX4_inForce 1 = .ok (.istore_n 2, 1) := by decide +kernel
theorem dX4_inForce_2 : decode cX4_inForce 2 = .ok (.iconst 0, 1) := by decide +kernel
theorem dX4_inForce_3 : decode cX4_inForce 3 = .ok (.istore_n 3, 1) := by decide +kernel
theorem dX4_inForce_4 : decode cX4_inForce 4 = .ok (.iload_n 3, 1) := by decide +kernel
theorem dX4_inForce_5 : decode cX4_inForce 5 = .ok (.aload_n 0, 1) := by decide +kernel
theorem dX4_inForce_6 : decode cX4_inForce 6 = .ok (.getfield 466, 3) := by decide +kernel
theorem dX4_inForce_9 : decode cX4_inForce 9 = .ok (.if_icmp .ge 21, 3) := by decide +kernel
theorem dX4_inForce_12 : decode cX4_inForce 12 = .ok (.aload_n 0, 1) := by decide +kernel
theorem dX4_inForce_13 : decode cX4_inForce 13 = .ok (.getfield 140, 3) := by decide +kernel
theorem dX4_inForce_16 : decode cX4_inForce 16 = .ok (.iload_n 3, 1) := by decide +kernel
theorem dX4_inForce_17 : decode cX4_inForce 17 = .ok (.iaload, 1) := by decide +kernel
theorem dX4_inForce_18 : decode cX4_inForce 18 = .ok (.iload_n 1, 1) := by decide +kernel
theorem dX4_inForce_19 : decode cX4_inForce 19 = .ok (.if_icmp .gt 5, 3) := by decide +kernel
theorem dX4_inForce_22 : decode cX4_inForce 22 = .ok (.iload_n 3, 1) := by decide +kernel
theorem dX4_inForce_23 : decode cX4_inForce 23 = .ok (.istore_n 2, 1) := by decide +kernel
theorem dX4_inForce_24 : decode cX4_inForce 24 = .ok (.iinc 3 1, 3) := by decide +kernel
theorem dX4_inForce_27 : decode cX4_inForce 27 = .ok (.goto (-23), 3) := by decide +kernel
theorem dX4_inForce_30 : decode cX4_inForce 30 = .ok (.iload_n 2, 1) := by decide +kernel
theorem dX4_inForce_31 : decode cX4_inForce 31 = .ok (.ireturn, 1) := by decide +kernel
theorem ycX4_inForce : yX4_inForce.cls ≠ "java/lang/invoke/MethodHandle" ∧ yX4_inForce.cls ≠ "java/lang/invoke/VarHandle" ∧ (parseMethodDescriptor yX4_inForce.desc).map (fun d => d.parameters.length) = some 1 := by decide +kernel
theorem yvX4_inForce : yX4_inForce.cls = RR 4 ∧ yX4_inForce.cls ≠ "java/lang/invoke/MethodHandle" ∧ yX4_inForce.cls ≠ "java/lang/invoke/VarHandle" ∧ (parseMethodDescriptor yX4_inForce.desc).map (fun d => d.parameters.length) = some 1 := ⟨rfl, ycX4_inForce⟩
def lp_X4_inForce_4 (p0 : Nat) (p1 : Int32) (q : Nat) : Int32 → Int32 → Act Int32 := match q with
  | 0 => fun _ _ => fail
  | q + 1 => fun w1 w2 =>
    bnd (getI 4 49 p0) fun v3 =>
    if v3 ≤ w2 then
      pur w1
    else
      bnd (getR 4 57 p0) fun v4 =>
      bnd (ldI 0 v4 w2) fun v5 =>
      jn (fun (v6 : Int32) =>
        (lp_X4_inForce_4 p0 p1 q) v6 (w2 + 1)) fun j24 =>
      if p1 < v5 then
        j24 w1
      else
        j24 w2
def f_X4_inForce (n : Nat) (p0 : Nat) (p1 : Int32) : Act Int32 :=
  lp_X4_inForce_4 p0 p1 n (-1) 0
set_option maxHeartbeats 4000000 in
theorem s_lp_X4_inForce_4 {X : Cx} (hX : Ok X Pic cX4_inForce RX4 4 (some FieldType.int) 0 0) (hnh : Noh X) (p0 : Nat) (p1 : Int32) (q : Nat) : ∀ (w1 : Int32) (w2 : Int32), Sim X cvI 4 [(0, rv p0), (1, .int p1), (2, .int w1), (3, .int w2)] [] (lp_X4_inForce_4 p0 p1 q w1 w2) := by
  induction q with
  | zero => intro w1 w2; exact s_fail
  | succ q ih4 =>
    intro w1 w2
    rw [lp_X4_inForce_4]
    refine s_iload_n hX dX4_inForce_4 rfl 3 rfl ?_
    refine s_aload_n hX dX4_inForce_5 rfl 0 rfl ?_
    refine s_getI (ci := 4) (j := 49) (ref := "WindGasModel") hX (pcG 4) in_X4 (Or.inl q1587) (by decide) (by decide) (by decide) rfl dX4_inForce_6 (fun _ h9 => h9) (fun v3 => ?_)
    refine s_icmp_ge (tgt := 30) hX dX4_inForce_9 (by decide) ?_ ?_
    · refine s_iload_n hX dX4_inForce_30 rfl 2 rfl ?_
      exact s_iret hX dX4_inForce_31
    · refine s_aload_n hX dX4_inForce_12 rfl 0 rfl ?_
      refine s_getR (ci := 4) (j := 57) (ref := "WindGasModel") hX (pcG 4) in_X4 (Or.inl q1595) (by decide) (by decide) (by decide) rfl dX4_inForce_13 (fun _ h9 => h9) (fun v4 => ?_)
      refine s_iload_n hX dX4_inForce_16 rfl 3 rfl ?_
      refine s_iald hX (pcA 0) dX4_inForce_17 (fun v5 => ?_)
      refine s_iload_n hX dX4_inForce_18 rfl 1 rfl ?_
      refine s_jn (P := fun j => ∀ (v6 : Int32), Sim X cvI 24 [(0, rv p0), (1, .int p1), (2, .int v6), (3, .int w2)] [] (j v6)) ?_ (fun j24 hj24 => ?_)
      · intro v6
        refine s_iinc (k := 3) (v := (w2 + 1)) (L2 := [(3, .int (w2 + 1)), (0, rv p0), (1, .int p1), (2, .int v6)]) hX dX4_inForce_24 rfl rfl (by decide) rfl ?_
        refine s_goto (tgt := 4) hX dX4_inForce_27 (by decide) ?_
        exact s_sub [1, 2, 3, 0] rfl (ih4 v6 (w2 + 1))
      · refine s_icmp_gt (tgt := 24) hX dX4_inForce_19 (by decide) ?_ ?_
        · exact hj24 w1
        · refine s_iload_n hX dX4_inForce_22 rfl 3 rfl ?_
          refine s_istore_n (i := 2) (L2 := [(2, .int w2), (0, rv p0), (1, .int p1), (3, .int w2)]) hX dX4_inForce_23 rfl (by decide) rfl ?_
          exact s_sub [1, 2, 0, 3] rfl (hj24 w2)
set_option maxHeartbeats 4000000 in
theorem ct_X4_inForce (l : Launch) (n : Nat) (p0 : Nat) (p1 : Int32) : Ct l Pic yX4_inForce (ws_ yX4_inForce cX4_inForce 4 (some FieldType.int)) 0 0 cvI [rv p0, .int p1] (f_X4_inForce n p0 p1) := by
  refine Ct.of (own := RX4) (L := [(0, rv p0), (1, .int p1)]) (plainFor_of_name (by decide)) rfl (by first | decide | simp [lg_sl, rv_cat, cat_i, cat_l]) (by first | rfl | simp [lv_args, rv_cat, cat_i, cat_l]) pcZ (fun X hXl hX hnh hin => ?_)
  subst hXl
  unfold f_X4_inForce
  refine s_iconst (v := -1) hX dX4_inForce_0 (by decide) ?_
  refine s_istore_n (i := 2) (L2 := [(2, .int (-1)), (0, rv p0), (1, .int p1)]) hX dX4_inForce_1 rfl (by decide) rfl ?_
  refine s_iconst (v := 0) hX dX4_inForce_2 rfl ?_
  refine s_istore_n (i := 3) (L2 := [(3, .int 0), (2, .int (-1)), (0, rv p0), (1, .int p1)]) hX dX4_inForce_3 rfl (by decide) rfl ?_
  exact s_sub [2, 3, 1, 0] rfl (s_lp_X4_inForce_4 hX hnh p0 p1 n (-1) 0)
theorem dX4_one_0 : decode cX4_one 0 = .ok (.iload_n 0, 1) := by decide +kernel
theorem dX4_one_1 : decode cX4_one 1 = .ok (.ifCond .eq 7, 3) := by decide +kernel
theorem dX4_one_4 : decode cX4_one 4 = .ok (.iconst 1, 1) := by decide +kernel
theorem dX4_one_5 : decode cX4_one 5 = .ok (.goto 4, 3) := by decide +kernel
theorem dX4_one_8 : decode cX4_one 8 = .ok (.iconst 0, 1) := by decide +kernel
theorem dX4_one_9 : decode cX4_one 9 = .ok (.ireturn, 1) := by decide +kernel
theorem ycX4_one : yX4_one.cls ≠ "java/lang/invoke/MethodHandle" ∧ yX4_one.cls ≠ "java/lang/invoke/VarHandle" ∧ (parseMethodDescriptor yX4_one.desc).map (fun d => d.parameters.length) = some 1 := by decide +kernel
def f_X4_one (p0 : Int32) : Act Int32 :=
  jn (fun (v1 : Int32) =>
    pur v1) fun j9 =>
  if p0 = 0 then
    j9 0
  else
    j9 1
set_option maxHeartbeats 4000000 in
theorem ct_X4_one (l : Launch) (p0 : Int32) : Ct l Pic yX4_one (ws_ yX4_one cX4_one 1 (some FieldType.int)) 0 0 cvI [.int p0] (f_X4_one p0) := by
  refine Ct.of (own := RX4) (L := [(0, .int p0)]) (plainFor_of_name (by decide)) rfl (by first | decide | simp [lg_sl, rv_cat, cat_i, cat_l]) (by first | rfl | simp [lv_args, rv_cat, cat_i, cat_l]) pcZ (fun X hXl hX hnh hin => ?_)
  subst hXl
  unfold f_X4_one
  refine s_iload_n hX dX4_one_0 rfl 0 rfl ?_
  refine s_jn (P := fun j => ∀ (v1 : Int32), Sim X cvI 9 [] [.int v1] (j v1)) ?_ (fun j9 hj9 => ?_)
  · intro v1
    exact s_iret hX dX4_one_9
  · refine s_if_eq (tgt := 8) hX dX4_one_1 (by decide) ?_ ?_
    · refine s_iconst (v := 0) hX dX4_one_8 rfl ?_
      exact s_sub [] rfl (hj9 0)
    · refine s_iconst (v := 1) hX dX4_one_4 rfl ?_
      refine s_goto (tgt := 9) hX dX4_one_5 (by decide) ?_
      exact s_sub [] rfl (hj9 1)
theorem dX4_runningNow_0 : decode cX4_runningNow 0 = .ok (.iconst 0, 1) := by decide +kernel
theorem dX4_runningNow_1 : decode cX4_runningNow 1 = .ok (.istore_n 1, 1) := by decide +kernel
theorem dX4_runningNow_2 : decode cX4_runningNow 2 = .ok (.iconst 0, 1) := by decide +kernel
theorem dX4_runningNow_3 : decode cX4_runningNow 3 = .ok (.istore_n 2, 1) := by decide +kernel
theorem dX4_runningNow_4 : decode cX4_runningNow 4 = .ok (.iload_n 2, 1) := by decide +kernel
theorem dX4_runningNow_5 : decode cX4_runningNow 5 = .ok (.aload_n 0, 1) := by decide +kernel
theorem dX4_runningNow_6 : decode cX4_runningNow 6 = .ok (.getfield 215, 3) := by decide +kernel
theorem dX4_runningNow_9 : decode cX4_runningNow 9 = .ok (.if_icmp .ge 21, 3) := by decide +kernel
theorem dX4_runningNow_12 : decode cX4_runningNow 12 = .ok (.iload_n 1, 1) := by decide +kernel
theorem dX4_runningNow_13 : decode cX4_runningNow 13 = .ok (.aload_n 0, 1) := by decide +kernel
theorem dX4_runningNow_14 : decode cX4_runningNow 14 = .ok (.getfield 43, 3) := by decide +kernel
theorem dX4_runningNow_17 : decode cX4_runningNow 17 = .ok (.iload_n 2, 1) := by decide +kernel
theorem dX4_runningNow_18 : decode cX4_runningNow 18 = .ok (.baload, 1) := by decide +kernel
theorem dX4_runningNow_19 : decode cX4_runningNow 19 = .ok (.invokestatic 266, 3) := by decide +kernel
theorem dX4_runningNow_22 : decode cX4_runningNow 22 = .ok (.iadd, 1) := by decide +kernel
theorem dX4_runningNow_23 : decode cX4_runningNow 23 = .ok (.istore_n 1, 1) := by decide +kernel
theorem dX4_runningNow_24 : decode cX4_runningNow 24 = .ok (.iinc 2 1, 3) := by decide +kernel
theorem dX4_runningNow_27 : decode cX4_runningNow 27 = .ok (.goto (-23), 3) := by decide +kernel
theorem dX4_runningNow_30 : decode cX4_runningNow 30 = .ok (.iload_n 1, 1) := by decide +kernel
theorem dX4_runningNow_31 : decode cX4_runningNow 31 = .ok (.ireturn, 1) := by decide +kernel
theorem ycX4_runningNow : yX4_runningNow.cls ≠ "java/lang/invoke/MethodHandle" ∧ yX4_runningNow.cls ≠ "java/lang/invoke/VarHandle" ∧ (parseMethodDescriptor yX4_runningNow.desc).map (fun d => d.parameters.length) = some 0 := by decide +kernel
theorem yvX4_runningNow : yX4_runningNow.cls = RR 4 ∧ yX4_runningNow.cls ≠ "java/lang/invoke/MethodHandle" ∧ yX4_runningNow.cls ≠ "java/lang/invoke/VarHandle" ∧ (parseMethodDescriptor yX4_runningNow.desc).map (fun d => d.parameters.length) = some 0 := ⟨rfl, ycX4_runningNow⟩
def lp_X4_runningNow_4 (p0 : Nat) (q : Nat) : Int32 → Int32 → Act Int32 := match q with
  | 0 => fun _ _ => fail
  | q + 1 => fun w1 w2 =>
    bnd (getI 4 1 p0) fun v3 =>
    if v3 ≤ w2 then
      pur w1
    else
      bnd (getR 4 15 p0) fun v4 =>
      bnd (ldI 3 v4 w2) fun v5 =>
      bnd (nt (f_X4_one v5)) fun v6 =>
      (lp_X4_runningNow_4 p0 q) (w1 + v6) (w2 + 1)
def f_X4_runningNow (n : Nat) (p0 : Nat) : Act Int32 :=
  lp_X4_runningNow_4 p0 n 0 0
set_option maxHeartbeats 4000000 in
theorem s_lp_X4_runningNow_4 {X : Cx} (hX : Ok X Pic cX4_runningNow RX4 3 (some FieldType.int) 1 20) (hnh : Noh X) (p0 : Nat) (q : Nat) : ∀ (w1 : Int32) (w2 : Int32), Sim X cvI 4 [(0, rv p0), (1, .int w1), (2, .int w2)] [] (lp_X4_runningNow_4 p0 q w1 w2) := by
  induction q with
  | zero => intro w1 w2; exact s_fail
  | succ q ih4 =>
    intro w1 w2
    rw [lp_X4_runningNow_4]
    refine s_iload_n hX dX4_runningNow_4 rfl 2 rfl ?_
    refine s_aload_n hX dX4_runningNow_5 rfl 0 rfl ?_
    refine s_getI (ci := 4) (j := 1) (ref := "WindGasModel") hX (pcG 4) in_X4 (Or.inl q1539) (by decide) (by decide) (by decide) rfl dX4_runningNow_6 (fun _ h9 => h9) (fun v3 => ?_)
    refine s_icmp_ge (tgt := 30) hX dX4_runningNow_9 (by decide) ?_ ?_
    · refine s_iload_n hX dX4_runningNow_30 rfl 1 rfl ?_
      exact s_iret hX dX4_runningNow_31
    · refine s_iload_n hX dX4_runningNow_12 rfl 1 rfl ?_
      refine s_aload_n hX dX4_runningNow_13 rfl 0 rfl ?_
      refine s_getR (ci := 4) (j := 15) (ref := "WindGasModel") hX (pcG 4) in_X4 (Or.inl q1553) (by decide) (by decide) (by decide) rfl dX4_runningNow_14 (fun _ h9 => h9) (fun v4 => ?_)
      refine s_iload_n hX dX4_runningNow_17 rfl 2 rfl ?_
      refine s_zald hX (pcA 3) dX4_runningNow_18 (fun v5 => ?_)
      refine s_callS_I (n := 1) (As := [.int v5]) (st := [.int w1]) hX (ct_X4_one X.l v5) q1837 q1838 q91 q1839 ycX4_one (by decide) rfl (by first | decide | simp [rv_cat, cat_i, cat_l]) dX4_runningNow_19 (fun v6 => ?_)
      refine s_iadd hX dX4_runningNow_22 ?_
      refine s_istore_n (i := 1) (L2 := [(1, .int (w1 + v6)), (0, rv p0), (2, .int w2)]) hX dX4_runningNow_23 rfl (by decide) (by first | (simp [rv_cat, cat_i, cat_l]; done) | (simp [rv_cat, cat_i, cat_l]; decide)) ?_
      refine s_iinc (k := 2) (v := (w2 + 1)) (L2 := [(2, .int (w2 + 1)), (1, .int (w1 + v6)), (0, rv p0)]) hX dX4_runningNow_24 rfl rfl (by decide) rfl ?_
      refine s_goto (tgt := 4) hX dX4_runningNow_27 (by decide) ?_
      exact s_sub [2, 1, 0] rfl (ih4 (w1 + v6) (w2 + 1))
set_option maxHeartbeats 4000000 in
theorem ct_X4_runningNow (l : Launch) (n : Nat) (p0 : Nat) : Ct l Pic yX4_runningNow (ws_ yX4_runningNow cX4_runningNow 3 (some FieldType.int)) 1 20 cvI [rv p0] (f_X4_runningNow n p0) := by
  refine Ct.of (own := RX4) (L := [(0, rv p0)]) (plainFor_of_name (by decide)) rfl (by first | decide | simp [lg_sl, rv_cat, cat_i, cat_l]) (by first | rfl | simp [lv_args, rv_cat, cat_i, cat_l]) pcZ (fun X hXl hX hnh hin => ?_)
  subst hXl
  unfold f_X4_runningNow
  refine s_iconst (v := 0) hX dX4_runningNow_0 rfl ?_
  refine s_istore_n (i := 1) (L2 := [(1, .int 0), (0, rv p0)]) hX dX4_runningNow_1 rfl (by decide) (by first | (simp [rv_cat, cat_i, cat_l]; done) | (simp [rv_cat, cat_i, cat_l]; decide)) ?_
  refine s_iconst (v := 0) hX dX4_runningNow_2 rfl ?_
  refine s_istore_n (i := 2) (L2 := [(2, .int 0), (1, .int 0), (0, rv p0)]) hX dX4_runningNow_3 rfl (by decide) rfl ?_
  exact s_sub [2, 1, 0] rfl (s_lp_X4_runningNow_4 hX hnh p0 n 0 0)
theorem ycX4_holds : yX4_holds.cls ≠ "java/lang/invoke/MethodHandle" ∧ yX4_holds.cls ≠ "java/lang/invoke/VarHandle" ∧ (parseMethodDescriptor yX4_holds.desc).map (fun d => d.parameters.length) = some 1 := by decide +kernel
theorem yvX4_holds : yX4_holds.cls = RR 4 ∧ yX4_holds.cls ≠ "java/lang/invoke/MethodHandle" ∧ yX4_holds.cls ≠ "java/lang/invoke/VarHandle" ∧ (parseMethodDescriptor yX4_holds.desc).map (fun d => d.parameters.length) = some 1 := ⟨rfl, ycX4_holds⟩
theorem dX4_holds_0 : decode cX4_holds 0 = .ok (.aload_n 0, 1) := by decide +kernel
theorem dX4_holds_1 : decode cX4_holds 1 = .ok (.getfield 155, 3) := by decide +kernel
theorem dX4_holds_4 : decode cX4_holds 4 = .ok (.iload_n 1, 1) := by decide +kernel
theorem dX4_holds_5 : decode cX4_holds 5 = .ok (.iaload, 1) := by decide +kernel
theorem dX4_holds_6 : decode cX4_holds 6 = .ok (.tableswitch 113 0 2 #[26, 60, 94], 26) := by decide +kernel
theorem dX4_holds_32 : decode cX4_holds 32 = .ok (.aload_n 0, 1) := by decide +kernel
theorem dX4_holds_33 : decode cX4_holds 33 = .ok (.getfield 158, 3) := by decide +kernel
theorem dX4_holds_36 : decode cX4_holds 36 = .ok (.iload_n 1, 1) := by decide +kernel
theorem dX4_holds_37 : decode cX4_holds 37 = .ok (.iaload, 1) := by decide +kernel
theorem dX4_holds_38 : decode cX4_holds 38 = .ok (.istore_n 2, 1) := by decide +kernel
theorem dX4_holds_39 : decode cX4_holds 39 = .ok (.iload_n 2, 1) := by decide +kernel
theorem dX4_holds_40 : decode cX4_holds 40 = .ok (.iconst (-1), 1) := by decide +kernel
theorem dX4_holds_41 : decode cX4_holds 41 = .ok (.if_icmp .eq 23, 3) := by decide +kernel
theorem dX4_holds_44 : decode cX4_holds 44 = .ok (.aload_n 0, 1) := by decide +kernel
theorem dX4_holds_45 : decode cX4_holds 45 = .ok (.iload_n 2, 1) := by decide +kernel
theorem dX4_holds_46 : decode cX4_holds 46 = .ok (.invokevirtual 475, 3) := by decide +kernel
theorem dX4_holds_49 : decode cX4_holds 49 = .ok (.ifCond .eq 5, 3) := by decide +kernel
theorem dX4_holds_52 : decode cX4_holds 52 = .ok (.iconst 1, 1) := by decide +kernel
theorem dX4_holds_53 : decode cX4_holds 53 = .ok (.ireturn, 1) := by decide +kernel
theorem dX4_holds_54 : decode cX4_holds 54 = .ok (.aload_n 0, 1) := by decide +kernel
theorem dX4_holds_55 : decode cX4_holds 55 = .ok (.getfield 161, 3) := by decide +kernel
theorem dX4_holds_58 : decode cX4_holds 58 = .ok (.iload_n 2, 1) := by decide +kernel
theorem dX4_holds_59 : decode cX4_holds 59 = .ok (.iaload, 1) := by decide +kernel
theorem dX4_holds_60 : decode cX4_holds 60 = .ok (.istore_n 2, 1) := by decide +kernel
theorem dX4_holds_61 : decode cX4_holds 61 = .ok (.goto (-22), 3) := by decide +kernel
theorem dX4_holds_64 : decode cX4_holds 64 = .ok (.iconst 0, 1) := by decide +kernel
theorem dX4_holds_65 : decode cX4_holds 65 = .ok (.ireturn, 1) := by decide +kernel
theorem dX4_holds_66 : decode cX4_holds 66 = .ok (.aload_n 0, 1) := by decide +kernel
theorem dX4_holds_67 : decode cX4_holds 67 = .ok (.getfield 158, 3) := by decide +kernel
theorem dX4_holds_70 : decode cX4_holds 70 = .ok (.iload_n 1, 1) := by decide +kernel
theorem dX4_holds_71 : decode cX4_holds 71 = .ok (.iaload, 1) := by decide +kernel
theorem dX4_holds_72 : decode cX4_holds 72 = .ok (.istore_n 2, 1) := by decide +kernel
theorem dX4_holds_73 : decode cX4_holds 73 = .ok (.iload_n 2, 1) := by decide +kernel
theorem dX4_holds_74 : decode cX4_holds 74 = .ok (.iconst (-1), 1) := by decide +kernel
theorem dX4_holds_75 : decode cX4_holds 75 = .ok (.if_icmp .eq 23, 3) := by decide +kernel
theorem dX4_holds_78 : decode cX4_holds 78 = .ok (.aload_n 0, 1) := by decide +kernel
theorem dX4_holds_79 : decode cX4_holds 79 = .ok (.iload_n 2, 1) := by decide +kernel
theorem dX4_holds_80 : decode cX4_holds 80 = .ok (.invokevirtual 475, 3) := by decide +kernel
theorem dX4_holds_83 : decode cX4_holds 83 = .ok (.ifCond .ne 5, 3) := by decide +kernel
theorem dX4_holds_86 : decode cX4_holds 86 = .ok (.iconst 0, 1) := by decide +kernel
theorem dX4_holds_87 : decode cX4_holds 87 = .ok (.ireturn, 1) := by decide +kernel
theorem dX4_holds_88 : decode cX4_holds 88 = .ok (.aload_n 0, 1) := by decide +kernel
theorem dX4_holds_89 : decode cX4_holds 89 = .ok (.getfield 161, 3) := by decide +kernel
theorem dX4_holds_92 : decode cX4_holds 92 = .ok (.iload_n 2, 1) := by decide +kernel
theorem dX4_holds_93 : decode cX4_holds 93 = .ok (.iaload, 1) := by decide +kernel
theorem dX4_holds_94 : decode cX4_holds 94 = .ok (.istore_n 2, 1) := by decide +kernel
theorem dX4_holds_95 : decode cX4_holds 95 = .ok (.goto (-22), 3) := by decide +kernel
theorem dX4_holds_98 : decode cX4_holds 98 = .ok (.iconst 1, 1) := by decide +kernel
theorem dX4_holds_99 : decode cX4_holds 99 = .ok (.ireturn, 1) := by decide +kernel
theorem dX4_holds_100 : decode cX4_holds 100 = .ok (.aload_n 0, 1) := by decide +kernel
theorem dX4_holds_101 : decode cX4_holds 101 = .ok (.aload_n 0, 1) := by decide +kernel
theorem dX4_holds_102 : decode cX4_holds 102 = .ok (.getfield 158, 3) := by decide +kernel
theorem dX4_holds_105 : decode cX4_holds 105 = .ok (.iload_n 1, 1) := by decide +kernel
theorem dX4_holds_106 : decode cX4_holds 106 = .ok (.iaload, 1) := by decide +kernel
theorem dX4_holds_107 : decode cX4_holds 107 = .ok (.invokevirtual 475, 3) := by decide +kernel
theorem dX4_holds_110 : decode cX4_holds 110 = .ok (.ifCond .ne 7, 3) := by decide +kernel
theorem dX4_holds_113 : decode cX4_holds 113 = .ok (.iconst 1, 1) := by decide +kernel
theorem dX4_holds_114 : decode cX4_holds 114 = .ok (.goto 4, 3) := by decide +kernel
theorem dX4_holds_117 : decode cX4_holds 117 = .ok (.iconst 0, 1) := by decide +kernel
theorem dX4_holds_118 : decode cX4_holds 118 = .ok (.ireturn, 1) := by decide +kernel
theorem dX4_holds_119 : decode cX4_holds 119 = .ok (.aload_n 0, 1) := by decide +kernel
theorem dX4_holds_120 : decode cX4_holds 120 = .ok (.getfield 180, 3) := by decide +kernel
theorem dX4_holds_123 : decode cX4_holds 123 = .ok (.aload_n 0, 1) := by decide +kernel
theorem dX4_holds_124 : decode cX4_holds 124 = .ok (.getfield 164, 3) := by decide +kernel
theorem dX4_holds_127 : decode cX4_holds 127 = .ok (.iload_n 1, 1) := by decide +kernel
theorem dX4_holds_128 : decode cX4_holds 128 = .ok (.iaload, 1) := by decide +kernel
theorem dX4_holds_129 : decode cX4_holds 129 = .ok (.laload, 1) := by decide +kernel
theorem dX4_holds_130 : decode cX4_holds 130 = .ok (.lstore_n 2, 1) := by decide +kernel
theorem dX4_holds_131 : decode cX4_holds 131 = .ok (.aload_n 0, 1) := by decide +kernel
theorem dX4_holds_132 : decode cX4_holds 132 = .ok (.getfield 167, 3) := by decide +kernel
theorem dX4_holds_135 : decode cX4_holds 135 = .ok (.iload_n 1, 1) := by decide +kernel
theorem dX4_holds_136 : decode cX4_holds 136 = .ok (.iaload, 1) := by decide +kernel
theorem dX4_holds_137 : decode cX4_holds 137 = .ok (.bipush 60, 2) := by decide +kernel
theorem dX4_holds_139 : decode cX4_holds 139 = .ok (.if_icmp .ne 23, 3) := by decide +kernel
theorem dX4_holds_142 : decode cX4_holds 142 = .ok (.lload_n 2, 1) := by decide +kernel
theorem dX4_holds_143 : decode cX4_holds 143 = .ok (.aload_n 0, 1) := by decide +kernel
theorem dX4_holds_144 : decode cX4_holds 144 = .ok (.getfield 170, 3) := by decide +kernel
theorem dX4_holds_147 : decode cX4_holds 147 = .ok (.iload_n 1, 1) := by decide +kernel
theorem dX4_holds_148 : decode cX4_holds 148 = .ok (.iaload, 1) := by decide +kernel
theorem dX4_holds_149 : decode cX4_holds 149 = .ok (.i2l, 1) := by decide +kernel
theorem dX4_holds_150 : decode cX4_holds 150 = .ok (.lcmp, 1) := by decide +kernel
theorem dX4_holds_151 : decode cX4_holds 151 = .ok (.ifCond .ge 7, 3) := by decide +kernel
theorem dX4_holds_154 : decode cX4_holds 154 = .ok (.iconst 1, 1) := by decide +kernel
theorem dX4_holds_155 : decode cX4_holds 155 = .ok (.goto 55, 3) := by decide +kernel
theorem dX4_holds_158 : decode cX4_holds 158 = .ok (.iconst 0, 1) := by decide +kernel
theorem dX4_holds_159 : decode cX4_holds 159 = .ok (.goto 51, 3) := by decide +kernel
theorem dX4_holds_162 : decode cX4_holds 162 = .ok (.aload_n 0, 1) := by decide +kernel
theorem dX4_holds_163 : decode cX4_holds 163 = .ok (.getfield 167, 3) := by decide +kernel
theorem dX4_holds_166 : decode cX4_holds 166 = .ok (.iload_n 1, 1) := by decide +kernel
theorem dX4_holds_167 : decode cX4_holds 167 = .ok (.iaload, 1) := by decide +kernel
theorem dX4_holds_168 : decode cX4_holds 168 = .ok (.bipush 62, 2) := by decide +kernel
theorem dX4_holds_170 : decode cX4_holds 170 = .ok (.if_icmp .ne 23, 3) := by decide +kernel
theorem dX4_holds_173 : decode cX4_holds 173 = .ok (.lload_n 2, 1) := by decide +kernel
theorem dX4_holds_174 : decode cX4_holds 174 = .ok (.aload_n 0, 1) := by decide +kernel
theorem dX4_holds_175 : decode cX4_holds 175 = .ok (.getfield 170, 3) := by decide +kernel
theorem dX4_holds_178 : decode cX4_holds 178 = .ok (.iload_n 1, 1) := by decide +kernel
theorem dX4_holds_179 : decode cX4_holds 179 = .ok (.iaload, 1) := by decide +kernel
theorem dX4_holds_180 : decode cX4_holds 180 = .ok (.i2l, 1) := by decide +kernel
theorem dX4_holds_181 : decode cX4_holds 181 = .ok (.lcmp, 1) := by decide +kernel
theorem dX4_holds_182 : decode cX4_holds 182 = .ok (.ifCond .le 7, 3) := by decide +kernel
theorem dX4_holds_185 : decode cX4_holds 185 = .ok (.iconst 1, 1) := by decide +kernel
theorem dX4_holds_186 : decode cX4_holds 186 = .ok (.goto 24, 3) := by decide +kernel
theorem dX4_holds_189 : decode cX4_holds 189 = .ok (.iconst 0, 1) := by decide +kernel
theorem dX4_holds_190 : decode cX4_holds 190 = .ok (.goto 20, 3) := by decide +kernel
theorem dX4_holds_193 : decode cX4_holds 193 = .ok (.lload_n 2, 1) := by decide +kernel
theorem dX4_holds_194 : decode cX4_holds 194 = .ok (.aload_n 0, 1) := by decide +kernel
theorem dX4_holds_195 : decode cX4_holds 195 = .ok (.getfield 170, 3) := by decide +kernel
theorem dX4_holds_198 : decode cX4_holds 198 = .ok (.iload_n 1, 1) := by decide +kernel
theorem dX4_holds_199 : decode cX4_holds 199 = .ok (.iaload, 1) := by decide +kernel
theorem dX4_holds_200 : decode cX4_holds 200 = .ok (.i2l, 1) := by decide +kernel
theorem dX4_holds_201 : decode cX4_holds 201 = .ok (.lcmp, 1) := by decide +kernel
theorem dX4_holds_202 : decode cX4_holds 202 = .ok (.ifCond .ne 7, 3) := by decide +kernel
theorem dX4_holds_205 : decode cX4_holds 205 = .ok (.iconst 1, 1) := by decide +kernel
theorem dX4_holds_206 : decode cX4_holds 206 = .ok (.goto 4, 3) := by decide +kernel
theorem dX4_holds_209 : decode cX4_holds 209 = .ok (.iconst 0, 1) := by decide +kernel
theorem dX4_holds_210 : decode cX4_holds 210 = .ok (.ireturn, 1) := by decide +kernel
def lp_X4_holds_39 (G : Nat → Nat → Int32 → Act Int32) (p0 : Nat) (q : Nat) : Int32 → Act Int32 := match q with
  | 0 => fun _ => fail
  | q + 1 => fun w5 =>
    if w5 = (-1) then
      purS (ty := .boolean) 0
    else
      bnd (gd 4 p0 (nt (G 0 p0 w5))) fun v6 =>
      if v6 = 0 then
        bnd (getR 4 64 p0) fun v7 =>
        bnd (ldI 0 v7 w5) fun v8 =>
        (lp_X4_holds_39 G p0 q) v8
      else
        purS (ty := .boolean) 1
def lp_X4_holds_73 (G : Nat → Nat → Int32 → Act Int32) (p0 : Nat) (q : Nat) : Int32 → Act Int32 := match q with
  | 0 => fun _ => fail
  | q + 1 => fun w11 =>
    if w11 = (-1) then
      purS (ty := .boolean) 1
    else
      bnd (gd 4 p0 (nt (G 0 p0 w11))) fun v12 =>
      if ¬ v12 = 0 then
        bnd (getR 4 64 p0) fun v13 =>
        bnd (ldI 0 v13 w11) fun v14 =>
        (lp_X4_holds_73 G p0 q) v14
      else
        purS (ty := .boolean) 0
def f_X4_holds (n : Nat) (G : Nat → Nat → Int32 → Act Int32) (p0 : Nat) (p1 : Int32) : Act Int32 :=
  bnd (getR 4 62 p0) fun v1 =>
  bnd (ldI 0 v1 p1) fun v2 =>
  sw v2 (0) [
    bnd (getR 4 63 p0) fun v3 =>
    bnd (ldI 0 v3 p1) fun v4 =>
    lp_X4_holds_39 G p0 n v4,
    bnd (getR 4 63 p0) fun v9 =>
    bnd (ldI 0 v9 p1) fun v10 =>
    lp_X4_holds_73 G p0 n v10,
    bnd (getR 4 63 p0) fun v15 =>
    bnd (ldI 0 v15 p1) fun v16 =>
    bnd (gd 4 p0 (nt (G 0 p0 v16))) fun v17 =>
    jn (fun (v18 : Int32) =>
      purS (ty := .boolean) v18) fun j118 =>
    if ¬ v17 = 0 then
      j118 0
    else
      j118 1] (
    bnd (getR 4 70 p0) fun v19 =>
    bnd (getR 4 65 p0) fun v20 =>
    bnd (ldI 0 v20 p1) fun v21 =>
    bnd (ldL 1 v19 v21) fun v22 =>
    bnd (getR 4 66 p0) fun v23 =>
    bnd (ldI 0 v23 p1) fun v24 =>
    jn (fun (v25 : Int32) =>
      purS (ty := .boolean) v25) fun j210 =>
    if ¬ v24 = 60 then
      bnd (getR 4 66 p0) fun v26 =>
      bnd (ldI 0 v26 p1) fun v27 =>
      if ¬ v27 = 62 then
        bnd (getR 4 67 p0) fun v28 =>
        bnd (ldI 0 v28 p1) fun v29 =>
        if ¬ (lg_cmp v22 v29.toInt64) = 0 then
          j210 0
        else
          j210 1
      else
        bnd (getR 4 67 p0) fun v30 =>
        bnd (ldI 0 v30 p1) fun v31 =>
        if (lg_cmp v22 v31.toInt64) ≤ 0 then
          j210 0
        else
          j210 1
    else
      bnd (getR 4 67 p0) fun v32 =>
      bnd (ldI 0 v32 p1) fun v33 =>
      if 0 ≤ (lg_cmp v22 v33.toInt64) then
        j210 0
      else
        j210 1)
set_option maxHeartbeats 4000000 in
theorem s_lp_X4_holds_39 {X : Cx} {frG loG : Nat} (hX : Ok X Pic cX4_holds RX4 4 (some FieldType.boolean) (frG + 1) (loG + 23)) (hnh : Noh X) (G : Nat → Nat → Int32 → Act Int32) (hfr : True) (hG : (∀ p0 p1, Ct X.l Pic yX4_holds (ws_ yX4_holds cX4_holds 4 (some FieldType.boolean)) frG loG cvI [rv p0, .int p1] (G 0 p0 p1))) (p0 : Nat) (q : Nat) : ∀ (w5 : Int32), Sim X cvI 39 [(0, rv p0), (2, .int w5)] [] (lp_X4_holds_39 G p0 q w5) := by
  induction q with
  | zero => intro w5; exact s_fail
  | succ q ih39 =>
    intro w5
    rw [lp_X4_holds_39]
    refine s_iload_n hX dX4_holds_39 rfl 1 rfl ?_
    refine s_iconst (v := -1) hX dX4_holds_40 (by decide) ?_
    refine s_icmp_eq (tgt := 64) hX dX4_holds_41 (by decide) ?_ ?_
    · refine s_iconst (v := 0) hX dX4_holds_64 rfl ?_
      exact s_zret hX dX4_holds_65
    · refine s_aload_n hX dX4_holds_44 rfl 0 rfl ?_
      refine s_iload_n hX dX4_holds_45 rfl 1 rfl ?_
      refine s_callV_I (ci := 4) (n := 1) (As := [.int w5]) (st := []) hX (pcK 5) (by decide) ((hG p0 w5)) q1844 q1846 qs48 q91 q1847 yvX4_holds ⟨by omega, by omega⟩ rfl (by first | decide | simp [rv_cat, cat_i, cat_l]) dX4_holds_46 (fun v6 => ?_)
      refine s_if_eq (tgt := 54) hX dX4_holds_49 (by decide) ?_ ?_
      · refine s_aload_n hX dX4_holds_54 rfl 0 rfl ?_
        refine s_getR (ci := 4) (j := 64) (ref := "WindGasModel") hX (pcG 4) in_X4 (Or.inl q1602) (by decide) (by decide) (by decide) rfl dX4_holds_55 (fun _ h9 => h9) (fun v7 => ?_)
        refine s_iload_n hX dX4_holds_58 rfl 1 rfl ?_
        refine s_iald hX (pcA 0) dX4_holds_59 (fun v8 => ?_)
        refine s_istore_n (i := 2) (L2 := [(2, .int v8), (0, rv p0)]) hX dX4_holds_60 rfl (by decide) rfl ?_
        refine s_goto (tgt := 39) hX dX4_holds_61 (by decide) ?_
        exact s_sub [1, 0] rfl (ih39 v8)
      · refine s_iconst (v := 1) hX dX4_holds_52 rfl ?_
        exact s_zret hX dX4_holds_53
set_option maxHeartbeats 4000000 in
theorem s_lp_X4_holds_73 {X : Cx} {frG loG : Nat} (hX : Ok X Pic cX4_holds RX4 4 (some FieldType.boolean) (frG + 1) (loG + 23)) (hnh : Noh X) (G : Nat → Nat → Int32 → Act Int32) (hfr : True) (hG : (∀ p0 p1, Ct X.l Pic yX4_holds (ws_ yX4_holds cX4_holds 4 (some FieldType.boolean)) frG loG cvI [rv p0, .int p1] (G 0 p0 p1))) (p0 : Nat) (q : Nat) : ∀ (w11 : Int32), Sim X cvI 73 [(0, rv p0), (2, .int w11)] [] (lp_X4_holds_73 G p0 q w11) := by
  induction q with
  | zero => intro w11; exact s_fail
  | succ q ih73 =>
    intro w11
    rw [lp_X4_holds_73]
    refine s_iload_n hX dX4_holds_73 rfl 1 rfl ?_
    refine s_iconst (v := -1) hX dX4_holds_74 (by decide) ?_
    refine s_icmp_eq (tgt := 98) hX dX4_holds_75 (by decide) ?_ ?_
    · refine s_iconst (v := 1) hX dX4_holds_98 rfl ?_
      exact s_zret hX dX4_holds_99
    · refine s_aload_n hX dX4_holds_78 rfl 0 rfl ?_
      refine s_iload_n hX dX4_holds_79 rfl 1 rfl ?_
      refine s_callV_I (ci := 4) (n := 1) (As := [.int w11]) (st := []) hX (pcK 5) (by decide) ((hG p0 w11)) q1844 q1846 qs48 q91 q1847 yvX4_holds ⟨by omega, by omega⟩ rfl (by first | decide | simp [rv_cat, cat_i, cat_l]) dX4_holds_80 (fun v12 => ?_)
      refine s_if_ne (tgt := 88) hX dX4_holds_83 (by decide) ?_ ?_
      · refine s_aload_n hX dX4_holds_88 rfl 0 rfl ?_
        refine s_getR (ci := 4) (j := 64) (ref := "WindGasModel") hX (pcG 4) in_X4 (Or.inl q1602) (by decide) (by decide) (by decide) rfl dX4_holds_89 (fun _ h9 => h9) (fun v13 => ?_)
        refine s_iload_n hX dX4_holds_92 rfl 1 rfl ?_
        refine s_iald hX (pcA 0) dX4_holds_93 (fun v14 => ?_)
        refine s_istore_n (i := 2) (L2 := [(2, .int v14), (0, rv p0)]) hX dX4_holds_94 rfl (by decide) rfl ?_
        refine s_goto (tgt := 73) hX dX4_holds_95 (by decide) ?_
        exact s_sub [1, 0] rfl (ih73 v14)
      · refine s_iconst (v := 0) hX dX4_holds_86 rfl ?_
        exact s_zret hX dX4_holds_87
set_option maxHeartbeats 4000000 in
theorem ct_X4_holds {frG loG : Nat} (l : Launch) (n : Nat) (G : Nat → Nat → Int32 → Act Int32) (hfr : True) (hG : (∀ p0 p1, Ct l Pic yX4_holds (ws_ yX4_holds cX4_holds 4 (some FieldType.boolean)) frG loG cvI [rv p0, .int p1] (G 0 p0 p1))) (p0 : Nat) (p1 : Int32) : Ct l Pic yX4_holds (ws_ yX4_holds cX4_holds 4 (some FieldType.boolean)) (frG + 1) (loG + 23) cvI [rv p0, .int p1] (f_X4_holds n G p0 p1) := by
  refine Ct.of (own := RX4) (L := [(0, rv p0), (1, .int p1)]) (plainFor_of_name (by decide)) rfl (by first | decide | simp [lg_sl, rv_cat, cat_i, cat_l]) (by first | rfl | simp [lv_args, rv_cat, cat_i, cat_l]) pcZ (fun X hXl hX hnh hin => ?_)
  subst hXl
  unfold f_X4_holds
  refine s_aload_n hX dX4_holds_0 rfl 0 rfl ?_
  refine s_getR (ci := 4) (j := 62) (ref := "WindGasModel") hX (pcG 4) in_X4 (Or.inl q1600) (by decide) (by decide) (by decide) rfl dX4_holds_1 (fun _ h9 => h9) (fun v1 => ?_)
  refine s_iload_n hX dX4_holds_4 rfl 1 rfl ?_
  refine s_iald hX (pcA 0) dX4_holds_5 (fun v2 => ?_)
  refine s_sw hX dX4_holds_6 (dt := 119) (by decide) (tgts := [32, 66, 100]) (by decide) (by decide) ?_ ?_
  · refine s_aload_n hX dX4_holds_119 rfl 0 rfl ?_
    refine s_getR (ci := 4) (j := 70) (ref := "WindGasModel") hX (pcG 4) in_X4 (Or.inl q1608) (by decide) (by decide) (by decide) rfl dX4_holds_120 (fun _ h9 => h9) (fun v19 => ?_)
    refine s_aload_n hX dX4_holds_123 rfl 0 rfl ?_
    refine s_getR (ci := 4) (j := 65) (ref := "WindGasModel") hX (pcG 4) in_X4 (Or.inl q1603) (by decide) (by decide) (by decide) rfl dX4_holds_124 (fun _ h9 => h9) (fun v20 => ?_)
    refine s_iload_n hX dX4_holds_127 rfl 1 rfl ?_
    refine s_iald hX (pcA 0) dX4_holds_128 (fun v21 => ?_)
    refine s_lald hX (pcA 1) dX4_holds_129 (fun v22 => ?_)
    refine s_lstore_n (i := 2) (L2 := [(2, .long v22), (0, rv p0), (1, .int p1)]) hX dX4_holds_130 rfl (by decide) rfl ?_
    refine s_aload_n hX dX4_holds_131 rfl 1 rfl ?_
    refine s_getR (ci := 4) (j := 66) (ref := "WindGasModel") hX (pcG 4) in_X4 (Or.inl q1604) (by decide) (by decide) (by decide) rfl dX4_holds_132 (fun _ h9 => h9) (fun v23 => ?_)
    refine s_iload_n hX dX4_holds_135 rfl 2 rfl ?_
    refine s_iald hX (pcA 0) dX4_holds_136 (fun v24 => ?_)
    refine s_bipush (v := 60) hX dX4_holds_137 (by decide) ?_
    refine s_jn (P := fun j => ∀ (v25 : Int32), Sim X cvI 210 [] [.int v25] (j v25)) ?_ (fun j210 hj210 => ?_)
    · intro v25
      exact s_zret hX dX4_holds_210
    · refine s_icmp_ne (tgt := 162) hX dX4_holds_139 (by decide) ?_ ?_
      · refine s_aload_n hX dX4_holds_162 rfl 1 rfl ?_
        refine s_getR (ci := 4) (j := 66) (ref := "WindGasModel") hX (pcG 4) in_X4 (Or.inl q1604) (by decide) (by decide) (by decide) rfl dX4_holds_163 (fun _ h9 => h9) (fun v26 => ?_)
        refine s_iload_n hX dX4_holds_166 rfl 2 rfl ?_
        refine s_iald hX (pcA 0) dX4_holds_167 (fun v27 => ?_)
        refine s_bipush (v := 62) hX dX4_holds_168 (by decide) ?_
        refine s_icmp_ne (tgt := 193) hX dX4_holds_170 (by decide) ?_ ?_
        · refine s_lload_n hX dX4_holds_193 rfl 0 rfl ?_
          refine s_aload_n hX dX4_holds_194 rfl 1 rfl ?_
          refine s_getR (ci := 4) (j := 67) (ref := "WindGasModel") hX (pcG 4) in_X4 (Or.inl q1605) (by decide) (by decide) (by decide) rfl dX4_holds_195 (fun _ h9 => h9) (fun v28 => ?_)
          refine s_iload_n hX dX4_holds_198 rfl 2 rfl ?_
          refine s_iald hX (pcA 0) dX4_holds_199 (fun v29 => ?_)
          refine s_i2l hX dX4_holds_200 ?_
          refine s_lcmp hX dX4_holds_201 ?_
          refine s_if_ne (tgt := 209) hX dX4_holds_202 (by decide) ?_ ?_
          · refine s_iconst (v := 0) hX dX4_holds_209 rfl ?_
            exact s_sub [] rfl (hj210 0)
          · refine s_iconst (v := 1) hX dX4_holds_205 rfl ?_
            refine s_goto (tgt := 210) hX dX4_holds_206 (by decide) ?_
            exact s_sub [] rfl (hj210 1)
        · refine s_lload_n hX dX4_holds_173 rfl 0 rfl ?_
          refine s_aload_n hX dX4_holds_174 rfl 1 rfl ?_
          refine s_getR (ci := 4) (j := 67) (ref := "WindGasModel") hX (pcG 4) in_X4 (Or.inl q1605) (by decide) (by decide) (by decide) rfl dX4_holds_175 (fun _ h9 => h9) (fun v30 => ?_)
          refine s_iload_n hX dX4_holds_178 rfl 2 rfl ?_
          refine s_iald hX (pcA 0) dX4_holds_179 (fun v31 => ?_)
          refine s_i2l hX dX4_holds_180 ?_
          refine s_lcmp hX dX4_holds_181 ?_
          refine s_if_le (tgt := 189) hX dX4_holds_182 (by decide) ?_ ?_
          · refine s_iconst (v := 0) hX dX4_holds_189 rfl ?_
            refine s_goto (tgt := 210) hX dX4_holds_190 (by decide) ?_
            exact s_sub [] rfl (hj210 0)
          · refine s_iconst (v := 1) hX dX4_holds_185 rfl ?_
            refine s_goto (tgt := 210) hX dX4_holds_186 (by decide) ?_
            exact s_sub [] rfl (hj210 1)
      · refine s_lload_n hX dX4_holds_142 rfl 0 rfl ?_
        refine s_aload_n hX dX4_holds_143 rfl 1 rfl ?_
        refine s_getR (ci := 4) (j := 67) (ref := "WindGasModel") hX (pcG 4) in_X4 (Or.inl q1605) (by decide) (by decide) (by decide) rfl dX4_holds_144 (fun _ h9 => h9) (fun v32 => ?_)
        refine s_iload_n hX dX4_holds_147 rfl 2 rfl ?_
        refine s_iald hX (pcA 0) dX4_holds_148 (fun v33 => ?_)
        refine s_i2l hX dX4_holds_149 ?_
        refine s_lcmp hX dX4_holds_150 ?_
        refine s_if_ge (tgt := 158) hX dX4_holds_151 (by decide) ?_ ?_
        · refine s_iconst (v := 0) hX dX4_holds_158 rfl ?_
          refine s_goto (tgt := 210) hX dX4_holds_159 (by decide) ?_
          exact s_sub [] rfl (hj210 0)
        · refine s_iconst (v := 1) hX dX4_holds_154 rfl ?_
          refine s_goto (tgt := 210) hX dX4_holds_155 (by decide) ?_
          exact s_sub [] rfl (hj210 1)
  · refine ⟨?_, ?_, ?_, trivial⟩
    · refine s_aload_n hX dX4_holds_32 rfl 0 rfl ?_
      refine s_getR (ci := 4) (j := 63) (ref := "WindGasModel") hX (pcG 4) in_X4 (Or.inl q1601) (by decide) (by decide) (by decide) rfl dX4_holds_33 (fun _ h9 => h9) (fun v3 => ?_)
      refine s_iload_n hX dX4_holds_36 rfl 1 rfl ?_
      refine s_iald hX (pcA 0) dX4_holds_37 (fun v4 => ?_)
      refine s_istore_n (i := 2) (L2 := [(2, .int v4), (0, rv p0), (1, .int p1)]) hX dX4_holds_38 rfl (by decide) rfl ?_
      exact s_sub [1, 0] rfl (s_lp_X4_holds_39 hX hnh G trivial hG p0 n v4)
    · refine s_aload_n hX dX4_holds_66 rfl 0 rfl ?_
      refine s_getR (ci := 4) (j := 63) (ref := "WindGasModel") hX (pcG 4) in_X4 (Or.inl q1601) (by decide) (by decide) (by decide) rfl dX4_holds_67 (fun _ h9 => h9) (fun v9 => ?_)
      refine s_iload_n hX dX4_holds_70 rfl 1 rfl ?_
      refine s_iald hX (pcA 0) dX4_holds_71 (fun v10 => ?_)
      refine s_istore_n (i := 2) (L2 := [(2, .int v10), (0, rv p0), (1, .int p1)]) hX dX4_holds_72 rfl (by decide) rfl ?_
      exact s_sub [1, 0] rfl (s_lp_X4_holds_73 hX hnh G trivial hG p0 n v10)
    · refine s_aload_n hX dX4_holds_100 rfl 0 rfl ?_
      refine s_aload_n hX dX4_holds_101 rfl 0 rfl ?_
      refine s_getR (ci := 4) (j := 63) (ref := "WindGasModel") hX (pcG 4) in_X4 (Or.inl q1601) (by decide) (by decide) (by decide) rfl dX4_holds_102 (fun _ h9 => h9) (fun v15 => ?_)
      refine s_iload_n hX dX4_holds_105 rfl 1 rfl ?_
      refine s_iald hX (pcA 0) dX4_holds_106 (fun v16 => ?_)
      refine s_callV_I (ci := 4) (n := 1) (As := [.int v16]) (st := []) hX (pcK 5) (by decide) ((hG p0 v16)) q1844 q1846 qs48 q91 q1847 yvX4_holds ⟨by omega, by omega⟩ rfl (by first | decide | simp [rv_cat, cat_i, cat_l]) dX4_holds_107 (fun v17 => ?_)
      refine s_jn (P := fun j => ∀ (v18 : Int32), Sim X cvI 118 [] [.int v18] (j v18)) ?_ (fun j118 hj118 => ?_)
      · intro v18
        exact s_zret hX dX4_holds_118
      · refine s_if_ne (tgt := 117) hX dX4_holds_110 (by decide) ?_ ?_
        · refine s_iconst (v := 0) hX dX4_holds_117 rfl ?_
          exact s_sub [] rfl (hj118 0)
        · refine s_iconst (v := 1) hX dX4_holds_113 rfl ?_
          refine s_goto (tgt := 118) hX dX4_holds_114 (by decide) ?_
          exact s_sub [] rfl (hj118 1)
def g_holds (n d : Nat) : Nat → Nat → Int32 → Act Int32 := match d with
  | 0 => fun _ _ _ => fail
  | d + 1 => fun i x0 x1 => f_X4_holds n (g_holds n d) x0 x1
theorem g_holds_ct (l : Launch) (n d : Nat) : (∀ x0 x1, Ct l Pic yX4_holds (ws_ yX4_holds cX4_holds 4 (some FieldType.boolean)) (1 * d) (23 * d) cvI [rv x0, .int x1] (g_holds n d 0 x0 x1)) := by
  induction d with
  | zero => exact (fun x0 x1 => Ct.fail)
  | succ d ih =>
    exact (fun x0 x1 => ct_X4_holds l n (g_holds n d) trivial ih x0 x1)
theorem dX4_asks_0 : decode cX4_asks 0 = .ok (.aload_n 0, 1) := by decide +kernel
theorem dX4_asks_1 : decode cX4_asks 1 = .ok (.getfield 180, 3) := by decide +kernel
theorem dX4_asks_4 : decode cX4_asks 4 = .ok (.iconst 0, 1) := by decide +kernel
theorem dX4_asks_5 : decode cX4_asks 5 = .ok (.aload_n 0, 1) := by decide +kernel
theorem dX4_asks_6 : decode cX4_asks 6 = .ok (.iconst 0, 1) := by decide +kernel
theorem dX4_asks_7 : decode cX4_asks 7 = .ok (.iload_n 3, 1) := by decide +kernel
theorem dX4_asks_8 : decode cX4_asks 8 = .ok (.invokevirtual 210, 3) := by decide +kernel
theorem dX4_asks_11 : decode cX4_asks 11 = .ok (.i2l, 1) := by decide +kernel
theorem dX4_asks_12 : decode cX4_asks 12 = .ok (.lastore, 1) := by decide +kernel
theorem dX4_asks_13 : decode cX4_asks 13 = .ok (.aload_n 0, 1) := by decide +kernel
theorem dX4_asks_14 : decode cX4_asks 14 = .ok (.getfield 180, 3) := by decide +kernel
theorem dX4_asks_17 : decode cX4_asks 17 = .ok (.iconst 1, 1) := by decide +kernel
theorem dX4_asks_18 : decode cX4_asks 18 = .ok (.aload_n 0, 1) := by decide +kernel
theorem dX4_asks_19 : decode cX4_asks 19 = .ok (.iconst 1, 1) := by decide +kernel
theorem dX4_asks_20 : decode cX4_asks 20 = .ok (.iload_n 3, 1) := by decide +kernel
theorem dX4_asks_21 : decode cX4_asks 21 = .ok (.invokevirtual 210, 3) := by decide +kernel
theorem dX4_asks_24 : decode cX4_asks 24 = .ok (.i2l, 1) := by decide +kernel
theorem dX4_asks_25 : decode cX4_asks 25 = .ok (.lastore, 1) := by decide +kernel
theorem dX4_asks_26 : decode cX4_asks 26 = .ok (.aload_n 0, 1) := by decide +kernel
theorem dX4_asks_27 : decode cX4_asks 27 = .ok (.getfield 180, 3) := by decide +kernel
theorem dX4_asks_30 : decode cX4_asks 30 = .ok (.iconst 2, 1) := by decide +kernel
theorem dX4_asks_31 : decode cX4_asks 31 = .ok (.aload_n 0, 1) := by decide +kernel
theorem dX4_asks_32 : decode cX4_asks 32 = .ok (.iconst 2, 1) := by decide +kernel
theorem dX4_asks_33 : decode cX4_asks 33 = .ok (.iload_n 3, 1) := by decide +kernel
theorem dX4_asks_34 : decode cX4_asks 34 = .ok (.invokevirtual 210, 3) := by decide +kernel
theorem dX4_asks_37 : decode cX4_asks 37 = .ok (.i2l, 1) := by decide +kernel
theorem dX4_asks_38 : decode cX4_asks 38 = .ok (.lastore, 1) := by decide +kernel
theorem dX4_asks_39 : decode cX4_asks 39 = .ok (.aload_n 0, 1) := by decide +kernel
theorem dX4_asks_40 : decode cX4_asks 40 = .ok (.getfield 180, 3) := by decide +kernel
theorem dX4_asks_43 : decode cX4_asks 43 = .ok (.iconst 3, 1) := by decide +kernel
theorem dX4_asks_44 : decode cX4_asks 44 = .ok (.iload_n 3, 1) := by decide +kernel
theorem dX4_asks_45 : decode cX4_asks 45 = .ok (.bipush 6, 2) := by decide +kernel
theorem dX4_asks_47 : decode cX4_asks 47 = .ok (.idiv, 1) := by decide +kernel
theorem dX4_asks_48 : decode cX4_asks 48 = .ok (.bipush 24, 2) := by decide +kernel
theorem dX4_asks_50 : decode cX4_asks 50 = .ok (.irem, 1) := by decide +kernel
theorem dX4_asks_51 : decode cX4_asks 51 = .ok (.i2l, 1) := by decide +kernel
theorem dX4_asks_52 : decode cX4_asks 52 = .ok (.lastore, 1) := by decide +kernel
theorem dX4_asks_53 : decode cX4_asks 53 = .ok (.aload_n 0, 1) := by decide +kernel
theorem dX4_asks_54 : decode cX4_asks 54 = .ok (.getfield 180, 3) := by decide +kernel
theorem dX4_asks_57 : decode cX4_asks 57 = .ok (.iconst 4, 1) := by decide +kernel
theorem dX4_asks_58 : decode cX4_asks 58 = .ok (.iload_n 3, 1) := by decide +kernel
theorem dX4_asks_59 : decode cX4_asks 59 = .ok (.sipush 144, 3) := by decide +kernel
theorem dX4_asks_62 : decode cX4_asks 62 = .ok (.idiv, 1) := by decide +kernel
theorem dX4_asks_63 : decode cX4_asks 63 = .ok (.i2l, 1) := by decide +kernel
theorem dX4_asks_64 : decode cX4_asks 64 = .ok (.lastore, 1) := by decide +kernel
theorem dX4_asks_65 : decode cX4_asks 65 = .ok (.aload_n 0, 1) := by decide +kernel
theorem dX4_asks_66 : decode cX4_asks 66 = .ok (.getfield 180, 3) := by decide +kernel
theorem dX4_asks_69 : decode cX4_asks 69 = .ok (.iconst 5, 1) := by decide +kernel
theorem dX4_asks_70 : decode cX4_asks 70 = .ok (.iload 4, 2) := by decide +kernel
theorem dX4_asks_72 : decode cX4_asks 72 = .ok (.i2l, 1) := by decide +kernel
theorem dX4_asks_73 : decode cX4_asks 73 = .ok (.lastore, 1) := by decide +kernel
theorem dX4_asks_74 : decode cX4_asks 74 = .ok (.aload_n 0, 1) := by decide +kernel
theorem dX4_asks_75 : decode cX4_asks 75 = .ok (.getfield 180, 3) := by decide +kernel
theorem dX4_asks_78 : decode cX4_asks 78 = .ok (.bipush 6, 2) := by decide +kernel
theorem dX4_asks_80 : decode cX4_asks 80 = .ok (.iload 5, 2) := by decide +kernel
theorem dX4_asks_82 : decode cX4_asks 82 = .ok (.i2l, 1) := by decide +kernel
theorem dX4_asks_83 : decode cX4_asks 83 = .ok (.lastore, 1) := by decide +kernel
theorem dX4_asks_84 : decode cX4_asks 84 = .ok (.aload_n 0, 1) := by decide +kernel
theorem dX4_asks_85 : decode cX4_asks 85 = .ok (.getfield 180, 3) := by decide +kernel
theorem dX4_asks_88 : decode cX4_asks 88 = .ok (.bipush 7, 2) := by decide +kernel
theorem dX4_asks_90 : decode cX4_asks 90 = .ok (.iload 6, 2) := by decide +kernel
theorem dX4_asks_92 : decode cX4_asks 92 = .ok (.i2l, 1) := by decide +kernel
theorem dX4_asks_93 : decode cX4_asks 93 = .ok (.lastore, 1) := by decide +kernel
theorem dX4_asks_94 : decode cX4_asks 94 = .ok (.iconst 0, 1) := by decide +kernel
theorem dX4_asks_95 : decode cX4_asks 95 = .ok (.istore 7, 2) := by decide +kernel
theorem dX4_asks_97 : decode cX4_asks 97 = .ok (.bipush 24, 2) := by decide +kernel
theorem dX4_asks_99 : decode cX4_asks 99 = .ok (.iload_n 1, 1) := by decide +kernel
theorem dX4_asks_100 : decode cX4_asks 100 = .ok (.imul, 1) := by decide +kernel
theorem dX4_asks_101 : decode cX4_asks 101 = .ok (.istore 8, 2) := by decide +kernel
theorem dX4_asks_103 : decode cX4_asks 103 = .ok (.iload_n 1, 1) := by decide +kernel
theorem dX4_asks_104 : decode cX4_asks 104 = .ok (.iconst (-1), 1) := by decide +kernel
theorem dX4_asks_105 : decode cX4_asks 105 = .ok (.if_icmp .eq 62, 3) := by decide +kernel
theorem dX4_asks_108 : decode cX4_asks 108 = .ok (.iload 8, 2) := by decide +kernel
theorem dX4_asks_110 : decode cX4_asks 110 = .ok (.bipush 24, 2) := by decide +kernel
theorem dX4_asks_112 : decode cX4_asks 112 = .ok (.iload_n 1, 1) := by decide +kernel
theorem dX4_asks_113 : decode cX4_asks 113 = .ok (.imul, 1) := by decide +kernel
theorem dX4_asks_114 : decode cX4_asks 114 = .ok (.aload_n 0, 1) := by decide +kernel
theorem dX4_asks_115 : decode cX4_asks 115 = .ok (.getfield 137, 3) := by decide +kernel
theorem dX4_asks_118 : decode cX4_asks 118 = .ok (.iload_n 1, 1) := by decide +kernel
theorem dX4_asks_119 : decode cX4_asks 119 = .ok (.iaload, 1) := by decide +kernel
theorem dX4_asks_120 : decode cX4_asks 120 = .ok (.iadd, 1) := by decide +kernel
theorem dX4_asks_121 : decode cX4_asks 121 = .ok (.if_icmp .ge 46, 3) := by decide +kernel
theorem dX4_asks_124 : decode cX4_asks 124 = .ok (.iload 7, 2) := by decide +kernel
theorem dX4_asks_126 : decode cX4_asks 126 = .ok (.ifCond .ne 28, 3) := by decide +kernel
theorem dX4_asks_129 : decode cX4_asks 129 = .ok (.aload_n 0, 1) := by decide +kernel
theorem dX4_asks_130 : decode cX4_asks 130 = .ok (.getfield 143, 3) := by decide +kernel
theorem dX4_asks_133 : decode cX4_asks 133 = .ok (.iload 8, 2) := by decide +kernel
theorem dX4_asks_135 : decode cX4_asks 135 = .ok (.iaload, 1) := by decide +kernel
theorem dX4_asks_136 : decode cX4_asks 136 = .ok (.iload_n 2, 1) := by decide +kernel
theorem dX4_asks_137 : decode cX4_asks 137 = .ok (.if_icmp .ne 21, 3) := by decide +kernel
theorem dX4_asks_140 : decode cX4_asks 140 = .ok (.aload_n 0, 1) := by decide +kernel
theorem dX4_asks_141 : decode cX4_asks 141 = .ok (.aload_n 0, 1) := by decide +kernel
theorem dX4_asks_142 : decode cX4_asks 142 = .ok (.getfield 146, 3) := by decide +kernel
theorem dX4_asks_145 : decode cX4_asks 145 = .ok (.iload 8, 2) := by decide +kernel
theorem dX4_asks_147 : decode cX4_asks 147 = .ok (.iaload, 1) := by decide +kernel
theorem dX4_asks_148 : decode cX4_asks 148 = .ok (.invokevirtual 475, 3) := by decide +kernel
theorem dX4_asks_151 : decode cX4_asks 151 = .ok (.ifCond .eq 7, 3) := by decide +kernel
theorem dX4_asks_154 : decode cX4_asks 154 = .ok (.iconst 1, 1) := by decide +kernel
theorem dX4_asks_155 : decode cX4_asks 155 = .ok (.goto 4, 3) := by decide +kernel
theorem dX4_asks_158 : decode cX4_asks 158 = .ok (.iconst 0, 1) := by decide +kernel
theorem dX4_asks_159 : decode cX4_asks 159 = .ok (.istore 7, 2) := by decide +kernel
theorem dX4_asks_161 : decode cX4_asks 161 = .ok (.iinc 8 1, 3) := by decide +kernel
theorem dX4_asks_164 : decode cX4_asks 164 = .ok (.goto (-61), 3) := by decide +kernel
theorem dX4_asks_167 : decode cX4_asks 167 = .ok (.iload 7, 2) := by decide +kernel
theorem dX4_asks_169 : decode cX4_asks 169 = .ok (.ireturn, 1) := by decide +kernel
theorem ycX4_asks : yX4_asks.cls ≠ "java/lang/invoke/MethodHandle" ∧ yX4_asks.cls ≠ "java/lang/invoke/VarHandle" ∧ (parseMethodDescriptor yX4_asks.desc).map (fun d => d.parameters.length) = some 6 := by decide +kernel
theorem yvX4_asks : yX4_asks.cls = RR 4 ∧ yX4_asks.cls ≠ "java/lang/invoke/MethodHandle" ∧ yX4_asks.cls ≠ "java/lang/invoke/VarHandle" ∧ (parseMethodDescriptor yX4_asks.desc).map (fun d => d.parameters.length) = some 6 := ⟨rfl, ycX4_asks⟩
def lp_X4_asks_103 (n : Nat) (p0 : Nat) (p1 : Int32) (p2 : Int32) (q : Nat) : Int32 → Int32 → Act Int32 := match q with
  | 0 => fun _ _ => fail
  | q + 1 => fun w12 w13 =>
    jn (fun (_ : Unit) =>
      purS (ty := .boolean) w12) fun j167 =>
    if p1 = (-1) then
      j167 ()
    else
      bnd (getR 4 56 p0) fun v14 =>
      bnd (ldI 0 v14 p1) fun v15 =>
      if ((24 * p1) + v15) ≤ w13 then
        j167 ()
      else
        jn (fun (v16 : Int32) =>
          (lp_X4_asks_103 n p0 p1 p2 q) v16 (w13 + 1)) fun j159 =>
        jn (fun (_ : Unit) =>
          j159 1) fun j154 =>
        if ¬ w12 = 0 then
          j154 ()
        else
          bnd (getR 4 58 p0) fun v17 =>
          bnd (ldI 0 v17 w13) fun v18 =>
          jn (fun (_ : Unit) =>
            j159 0) fun j158 =>
          if ¬ v18 = p2 then
            j158 ()
          else
            bnd (getR 4 59 p0) fun v19 =>
            bnd (ldI 0 v19 w13) fun v20 =>
            bnd (gd 4 p0 (nt (g_holds n 40 0 p0 v20))) fun v21 =>
            if v21 = 0 then
              j158 ()
            else
              j154 ()
def f_X4_asks (n : Nat) (p0 : Nat) (p1 : Int32) (p2 : Int32) (p3 : Int32) (p4 : Int32) (p5 : Int32) (p6 : Int32) : Act Int32 :=
  bnd (getR 4 70 p0) fun v1 =>
  bnd (gd 4 p0 (nt (f_X4_saidOf n p0 (0 : Int32) p3))) fun v2 =>
  bnd (stL 1 v1 0 v2.toInt64) fun _ =>
  bnd (getR 4 70 p0) fun v3 =>
  bnd (gd 4 p0 (nt (f_X4_saidOf n p0 (1 : Int32) p3))) fun v4 =>
  bnd (stL 1 v3 1 v4.toInt64) fun _ =>
  bnd (getR 4 70 p0) fun v5 =>
  bnd (gd 4 p0 (nt (f_X4_saidOf n p0 (2 : Int32) p3))) fun v6 =>
  bnd (stL 1 v5 2 v6.toInt64) fun _ =>
  bnd (getR 4 70 p0) fun v7 =>
  bnd (stL 1 v7 3 (((p3 / 6) - (p3 / 6) / 24 * 24).toInt64)) fun _ =>
  bnd (getR 4 70 p0) fun v8 =>
  bnd (stL 1 v8 4 ((p3 / 144).toInt64)) fun _ =>
  bnd (getR 4 70 p0) fun v9 =>
  bnd (stL 1 v9 5 p4.toInt64) fun _ =>
  bnd (getR 4 70 p0) fun v10 =>
  bnd (stL 1 v10 6 p5.toInt64) fun _ =>
  bnd (getR 4 70 p0) fun v11 =>
  bnd (stL 1 v11 7 p6.toInt64) fun _ =>
  lp_X4_asks_103 n p0 p1 p2 n 0 (24 * p1)
set_option maxHeartbeats 4000000 in
theorem s_lp_X4_asks_103 {X : Cx} (hX : Ok X Pic cX4_asks RX4 9 (some FieldType.boolean) 41 943) (hnh : Noh X) (n : Nat) (p0 : Nat) (p1 : Int32) (p2 : Int32) (q : Nat) : ∀ (w12 : Int32) (w13 : Int32), Sim X cvI 103 [(0, rv p0), (1, .int p1), (2, .int p2), (7, .int w12), (8, .int w13)] [] (lp_X4_asks_103 n p0 p1 p2 q w12 w13) := by
  induction q with
  | zero => intro w12 w13; exact s_fail
  | succ q ih103 =>
    intro w12 w13
    rw [lp_X4_asks_103]
    refine s_iload_n hX dX4_asks_103 rfl 1 rfl ?_
    refine s_iconst (v := -1) hX dX4_asks_104 (by decide) ?_
    refine s_jn (P := fun j => ∀ (u : Unit), Sim X cvI 167 [(7, .int w12)] [] (j u)) ?_ (fun j167 hj167 => ?_)
    · intro u
      refine s_iload hX dX4_asks_167 0 rfl ?_
      exact s_zret hX dX4_asks_169
    · refine s_icmp_eq (tgt := 167) hX dX4_asks_105 (by decide) ?_ ?_
      · exact s_sub [3] rfl (hj167 ())
      · refine s_iload hX dX4_asks_108 4 rfl ?_
        refine s_bipush (v := 24) hX dX4_asks_110 (by decide) ?_
        refine s_iload_n hX dX4_asks_112 rfl 1 rfl ?_
        refine s_imul hX dX4_asks_113 ?_
        refine s_aload_n hX dX4_asks_114 rfl 0 rfl ?_
        refine s_getR (ci := 4) (j := 56) (ref := "WindGasModel") hX (pcG 4) in_X4 (Or.inl q1594) (by decide) (by decide) (by decide) rfl dX4_asks_115 (fun _ h9 => h9) (fun v14 => ?_)
        refine s_iload_n hX dX4_asks_118 rfl 1 rfl ?_
        refine s_iald hX (pcA 0) dX4_asks_119 (fun v15 => ?_)
        refine s_iadd hX dX4_asks_120 ?_
        refine s_icmp_ge (tgt := 167) hX dX4_asks_121 (by decide) ?_ ?_
        · exact s_sub [3] rfl (hj167 ())
        · refine s_iload hX dX4_asks_124 3 rfl ?_
          refine s_jn (P := fun j => ∀ (v16 : Int32), Sim X cvI 159 [(0, rv p0), (1, .int p1), (2, .int p2), (8, .int w13)] [.int v16] (j v16)) ?_ (fun j159 hj159 => ?_)
          · intro v16
            refine s_istore (i := 7) (L2 := [(7, .int v16), (0, rv p0), (1, .int p1), (2, .int p2), (8, .int w13)]) hX dX4_asks_159 (by decide) rfl ?_
            refine s_iinc (k := 4) (v := (w13 + 1)) (L2 := [(8, .int (w13 + 1)), (7, .int v16), (0, rv p0), (1, .int p1), (2, .int p2)]) hX dX4_asks_161 rfl rfl (by decide) rfl ?_
            refine s_goto (tgt := 103) hX dX4_asks_164 (by decide) ?_
            exact s_sub [2, 3, 4, 1, 0] rfl (ih103 v16 (w13 + 1))
          · refine s_jn (P := fun j => ∀ (u : Unit), Sim X cvI 154 [(0, rv p0), (1, .int p1), (2, .int p2), (8, .int w13)] [] (j u)) ?_ (fun j154 hj154 => ?_)
            · intro u
              refine s_iconst (v := 1) hX dX4_asks_154 rfl ?_
              refine s_goto (tgt := 159) hX dX4_asks_155 (by decide) ?_
              exact hj159 1
            · refine s_if_ne (tgt := 154) hX dX4_asks_126 (by decide) ?_ ?_
              · exact s_sub [0, 1, 2, 4] rfl (hj154 ())
              · refine s_aload_n hX dX4_asks_129 rfl 0 rfl ?_
                refine s_getR (ci := 4) (j := 58) (ref := "WindGasModel") hX (pcG 4) in_X4 (Or.inl q1596) (by decide) (by decide) (by decide) rfl dX4_asks_130 (fun _ h9 => h9) (fun v17 => ?_)
                refine s_iload hX dX4_asks_133 4 rfl ?_
                refine s_iald hX (pcA 0) dX4_asks_135 (fun v18 => ?_)
                refine s_iload_n hX dX4_asks_136 rfl 2 rfl ?_
                refine s_jn (P := fun j => ∀ (u : Unit), Sim X cvI 158 [(0, rv p0), (1, .int p1), (2, .int p2), (8, .int w13)] [] (j u)) ?_ (fun j158 hj158 => ?_)
                · intro u
                  refine s_iconst (v := 0) hX dX4_asks_158 rfl ?_
                  exact hj159 0
                · refine s_icmp_ne (tgt := 158) hX dX4_asks_137 (by decide) ?_ ?_
                  · exact s_sub [0, 1, 2, 4] rfl (hj158 ())
                  · refine s_aload_n hX dX4_asks_140 rfl 0 rfl ?_
                    refine s_aload_n hX dX4_asks_141 rfl 0 rfl ?_
                    refine s_getR (ci := 4) (j := 59) (ref := "WindGasModel") hX (pcG 4) in_X4 (Or.inl q1597) (by decide) (by decide) (by decide) rfl dX4_asks_142 (fun _ h9 => h9) (fun v19 => ?_)
                    refine s_iload hX dX4_asks_145 4 rfl ?_
                    refine s_iald hX (pcA 0) dX4_asks_147 (fun v20 => ?_)
                    refine s_callV_I (ci := 4) (n := 1) (As := [.int v20]) (st := []) hX (pcK 5) (by decide) ((g_holds_ct X.l n 40) p0 v20) q1844 q1846 qs48 q91 q1847 yvX4_holds (by decide) rfl (by first | decide | simp [rv_cat, cat_i, cat_l]) dX4_asks_148 (fun v21 => ?_)
                    refine s_if_eq (tgt := 158) hX dX4_asks_151 (by decide) ?_ ?_
                    · exact s_sub [0, 1, 2, 4] rfl (hj158 ())
                    · exact s_sub [0, 1, 2, 4] rfl (hj154 ())
set_option maxHeartbeats 4000000 in
theorem ct_X4_asks (l : Launch) (n : Nat) (p0 : Nat) (p1 : Int32) (p2 : Int32) (p3 : Int32) (p4 : Int32) (p5 : Int32) (p6 : Int32) : Ct l Pic yX4_asks (ws_ yX4_asks cX4_asks 9 (some FieldType.boolean)) 41 943 cvI [rv p0, .int p1, .int p2, .int p3, .int p4, .int p5, .int p6] (f_X4_asks n p0 p1 p2 p3 p4 p5 p6) := by
  refine Ct.of (own := RX4) (L := [(0, rv p0), (1, .int p1), (2, .int p2), (3, .int p3), (4, .int p4), (5, .int p5), (6, .int p6)]) (plainFor_of_name (by decide)) rfl (by first | decide | simp [lg_sl, rv_cat, cat_i, cat_l]) (by first | rfl | simp [lv_args, rv_cat, cat_i, cat_l]) pcZ (fun X hXl hX hnh hin => ?_)
  subst hXl
  unfold f_X4_asks
  refine s_aload_n hX dX4_asks_0 rfl 0 rfl ?_
  refine s_getR (ci := 4) (j := 70) (ref := "WindGasModel") hX (pcG 4) in_X4 (Or.inl q1608) (by decide) (by decide) (by decide) rfl dX4_asks_1 (fun _ h9 => h9) (fun v1 => ?_)
  refine s_iconst (v := 0) hX dX4_asks_4 rfl ?_
  refine s_aload_n hX dX4_asks_5 rfl 0 rfl ?_
  refine s_iconst (v := 0) hX dX4_asks_6 rfl ?_
  refine s_iload_n hX dX4_asks_7 rfl 3 rfl ?_
  refine s_callV_I (ci := 4) (n := 2) (As := [.int 0, .int p3]) (st := [.int 0, rv v1]) hX (pcK 5) (by decide) (ct_X4_saidOf X.l n p0 (0 : Int32) p3) q1794 q1796 qs43 q91 q1797 yvX4_saidOf (by decide) rfl (by first | decide | simp [rv_cat, cat_i, cat_l]) dX4_asks_8 (fun v2 => ?_)
  refine s_i2l hX dX4_asks_11 ?_
  refine s_last hX (pcA 1) (pcB 1) dX4_asks_12 ?_
  refine s_aload_n hX dX4_asks_13 rfl 0 rfl ?_
  refine s_getR (ci := 4) (j := 70) (ref := "WindGasModel") hX (pcG 4) in_X4 (Or.inl q1608) (by decide) (by decide) (by decide) rfl dX4_asks_14 (fun _ h9 => h9) (fun v3 => ?_)
  refine s_iconst (v := 1) hX dX4_asks_17 rfl ?_
  refine s_aload_n hX dX4_asks_18 rfl 0 rfl ?_
  refine s_iconst (v := 1) hX dX4_asks_19 rfl ?_
  refine s_iload_n hX dX4_asks_20 rfl 3 rfl ?_
  refine s_callV_I (ci := 4) (n := 2) (As := [.int 1, .int p3]) (st := [.int 1, rv v3]) hX (pcK 5) (by decide) (ct_X4_saidOf X.l n p0 (1 : Int32) p3) q1794 q1796 qs43 q91 q1797 yvX4_saidOf (by decide) rfl (by first | decide | simp [rv_cat, cat_i, cat_l]) dX4_asks_21 (fun v4 => ?_)
  refine s_i2l hX dX4_asks_24 ?_
  refine s_last hX (pcA 1) (pcB 1) dX4_asks_25 ?_
  refine s_aload_n hX dX4_asks_26 rfl 0 rfl ?_
  refine s_getR (ci := 4) (j := 70) (ref := "WindGasModel") hX (pcG 4) in_X4 (Or.inl q1608) (by decide) (by decide) (by decide) rfl dX4_asks_27 (fun _ h9 => h9) (fun v5 => ?_)
  refine s_iconst (v := 2) hX dX4_asks_30 rfl ?_
  refine s_aload_n hX dX4_asks_31 rfl 0 rfl ?_
  refine s_iconst (v := 2) hX dX4_asks_32 rfl ?_
  refine s_iload_n hX dX4_asks_33 rfl 3 rfl ?_
  refine s_callV_I (ci := 4) (n := 2) (As := [.int 2, .int p3]) (st := [.int 2, rv v5]) hX (pcK 5) (by decide) (ct_X4_saidOf X.l n p0 (2 : Int32) p3) q1794 q1796 qs43 q91 q1797 yvX4_saidOf (by decide) rfl (by first | decide | simp [rv_cat, cat_i, cat_l]) dX4_asks_34 (fun v6 => ?_)
  refine s_i2l hX dX4_asks_37 ?_
  refine s_last hX (pcA 1) (pcB 1) dX4_asks_38 ?_
  refine s_aload_n hX dX4_asks_39 rfl 0 rfl ?_
  refine s_getR (ci := 4) (j := 70) (ref := "WindGasModel") hX (pcG 4) in_X4 (Or.inl q1608) (by decide) (by decide) (by decide) rfl dX4_asks_40 (fun _ h9 => h9) (fun v7 => ?_)
  refine s_iconst (v := 3) hX dX4_asks_43 rfl ?_
  refine s_iload_n hX dX4_asks_44 rfl 3 rfl ?_
  refine s_bipush (v := 6) hX dX4_asks_45 (by decide) ?_
  refine s_idivc hX dX4_asks_47 (by decide) ?_
  refine s_bipush (v := 24) hX dX4_asks_48 (by decide) ?_
  refine s_iremc hX dX4_asks_50 (by decide) ?_
  refine s_i2l hX dX4_asks_51 ?_
  refine s_last hX (pcA 1) (pcB 1) dX4_asks_52 ?_
  refine s_aload_n hX dX4_asks_53 rfl 0 rfl ?_
  refine s_getR (ci := 4) (j := 70) (ref := "WindGasModel") hX (pcG 4) in_X4 (Or.inl q1608) (by decide) (by decide) (by decide) rfl dX4_asks_54 (fun _ h9 => h9) (fun v8 => ?_)
  refine s_iconst (v := 4) hX dX4_asks_57 rfl ?_
  refine s_iload_n hX dX4_asks_58 rfl 3 rfl ?_
  refine s_sipush (v := 144) hX dX4_asks_59 (by decide) ?_
  refine s_idivc hX dX4_asks_62 (by decide) ?_
  refine s_i2l hX dX4_asks_63 ?_
  refine s_last hX (pcA 1) (pcB 1) dX4_asks_64 ?_
  refine s_aload_n hX dX4_asks_65 rfl 0 rfl ?_
  refine s_getR (ci := 4) (j := 70) (ref := "WindGasModel") hX (pcG 4) in_X4 (Or.inl q1608) (by decide) (by decide) (by decide) rfl dX4_asks_66 (fun _ h9 => h9) (fun v9 => ?_)
  refine s_iconst (v := 5) hX dX4_asks_69 rfl ?_
  refine s_iload hX dX4_asks_70 4 rfl ?_
  refine s_i2l hX dX4_asks_72 ?_
  refine s_last hX (pcA 1) (pcB 1) dX4_asks_73 ?_
  refine s_aload_n hX dX4_asks_74 rfl 0 rfl ?_
  refine s_getR (ci := 4) (j := 70) (ref := "WindGasModel") hX (pcG 4) in_X4 (Or.inl q1608) (by decide) (by decide) (by decide) rfl dX4_asks_75 (fun _ h9 => h9) (fun v10 => ?_)
  refine s_bipush (v := 6) hX dX4_asks_78 (by decide) ?_
  refine s_iload hX dX4_asks_80 5 rfl ?_
  refine s_i2l hX dX4_asks_82 ?_
  refine s_last hX (pcA 1) (pcB 1) dX4_asks_83 ?_
  refine s_aload_n hX dX4_asks_84 rfl 0 rfl ?_
  refine s_getR (ci := 4) (j := 70) (ref := "WindGasModel") hX (pcG 4) in_X4 (Or.inl q1608) (by decide) (by decide) (by decide) rfl dX4_asks_85 (fun _ h9 => h9) (fun v11 => ?_)
  refine s_bipush (v := 7) hX dX4_asks_88 (by decide) ?_
  refine s_iload hX dX4_asks_90 6 rfl ?_
  refine s_i2l hX dX4_asks_92 ?_
  refine s_last hX (pcA 1) (pcB 1) dX4_asks_93 ?_
  refine s_iconst (v := 0) hX dX4_asks_94 rfl ?_
  refine s_istore (i := 7) (L2 := [(7, .int 0), (0, rv p0), (1, .int p1), (2, .int p2), (3, .int p3), (4, .int p4), (5, .int p5), (6, .int p6)]) hX dX4_asks_95 (by decide) rfl ?_
  refine s_bipush (v := 24) hX dX4_asks_97 (by decide) ?_
  refine s_iload_n hX dX4_asks_99 rfl 2 rfl ?_
  refine s_imul hX dX4_asks_100 ?_
  refine s_istore (i := 8) (L2 := [(8, .int (24 * p1)), (7, .int 0), (0, rv p0), (1, .int p1), (2, .int p2), (3, .int p3), (4, .int p4), (5, .int p5), (6, .int p6)]) hX dX4_asks_101 (by decide) rfl ?_
  exact s_sub [2, 3, 4, 1, 0] rfl (s_lp_X4_asks_103 hX hnh n p0 p1 p2 n 0 (24 * p1))
theorem dX4_bare_0 : decode cX4_bare 0 = .ok (.iload_n 0, 1) := by decide +kernel
theorem dX4_bare_1 : decode cX4_bare 1 = .ok (.ifCond .ne 9, 3) := by decide +kernel
theorem dX4_bare_4 : decode cX4_bare 4 = .ok (.sipush 1000, 3) := by decide +kernel
theorem dX4_bare_7 : decode cX4_bare 7 = .ok (.goto 44, 3) := by decide +kernel
theorem dX4_bare_10 : decode cX4_bare 10 = .ok (.iload_n 0, 1) := by decide +kernel
theorem dX4_bare_11 : decode cX4_bare 11 = .ok (.iconst 1, 1) := by decide +kernel
theorem dX4_bare_12 : decode cX4_bare 12 = .ok (.if_icmp .ne 9, 3) := by decide +kernel
theorem dX4_bare_15 : decode cX4_bare 15 = .ok (.sipush 1500, 3) := by decide +kernel
theorem dX4_bare_18 : decode cX4_bare 18 = .ok (.goto 33, 3) := by decide +kernel
theorem dX4_bare_21 : decode cX4_bare 21 = .ok (.iload_n 0, 1) := by decide +kernel
theorem dX4_bare_22 : decode cX4_bare 22 = .ok (.iconst 2, 1) := by decide +kernel
theorem dX4_bare_23 : decode cX4_bare 23 = .ok (.if_icmp .ne 8, 3) := by decide +kernel
theorem dX4_bare_26 : decode cX4_bare 26 = .ok (.bipush 20, 2) := by decide +kernel
theorem dX4_bare_28 : decode cX4_bare 28 = .ok (.goto 23, 3) := by decide +kernel
theorem dX4_bare_31 : decode cX4_bare 31 = .ok (.iload_n 0, 1) := by decide +kernel
theorem dX4_bare_32 : decode cX4_bare 32 = .ok (.iconst 3, 1) := by decide +kernel
theorem dX4_bare_33 : decode cX4_bare 33 = .ok (.if_icmp .ne 7, 3) := by decide +kernel
theorem dX4_bare_36 : decode cX4_bare 36 = .ok (.iconst 4, 1) := by decide +kernel
theorem dX4_bare_37 : decode cX4_bare 37 = .ok (.goto 14, 3) := by decide +kernel
theorem dX4_bare_40 : decode cX4_bare 40 = .ok (.iload_n 0, 1) := by decide +kernel
theorem dX4_bare_41 : decode cX4_bare 41 = .ok (.iconst 4, 1) := by decide +kernel
theorem dX4_bare_42 : decode cX4_bare 42 = .ok (.if_icmp .ne 8, 3) := by decide +kernel
theorem dX4_bare_45 : decode cX4_bare 45 = .ok (.bipush 100, 2) := by decide +kernel
theorem dX4_bare_47 : decode cX4_bare 47 = .ok (.goto 4, 3) := by decide +kernel
theorem dX4_bare_50 : decode cX4_bare 50 = .ok (.iconst 0, 1) := by decide +kernel
theorem dX4_bare_51 : decode cX4_bare 51 = .ok (.ireturn, 1) := by decide +kernel
theorem ycX4_bare : yX4_bare.cls ≠ "java/lang/invoke/MethodHandle" ∧ yX4_bare.cls ≠ "java/lang/invoke/VarHandle" ∧ (parseMethodDescriptor yX4_bare.desc).map (fun d => d.parameters.length) = some 1 := by decide +kernel
def f_X4_bare (p0 : Int32) : Act Int32 :=
  jn (fun (v1 : Int32) =>
    pur v1) fun j51 =>
  if ¬ p0 = 0 then
    if ¬ p0 = 1 then
      if ¬ p0 = 2 then
        if ¬ p0 = 3 then
          if ¬ p0 = 4 then
            j51 0
          else
            j51 100
        else
          j51 4
      else
        j51 20
    else
      j51 1500
  else
    j51 1000
set_option maxHeartbeats 4000000 in
theorem ct_X4_bare (l : Launch) (p0 : Int32) : Ct l Pic yX4_bare (ws_ yX4_bare cX4_bare 1 (some FieldType.int)) 0 0 cvI [.int p0] (f_X4_bare p0) := by
  refine Ct.of (own := RX4) (L := [(0, .int p0)]) (plainFor_of_name (by decide)) rfl (by first | decide | simp [lg_sl, rv_cat, cat_i, cat_l]) (by first | rfl | simp [lv_args, rv_cat, cat_i, cat_l]) pcZ (fun X hXl hX hnh hin => ?_)
  subst hXl
  unfold f_X4_bare
  refine s_iload_n hX dX4_bare_0 rfl 0 rfl ?_
  refine s_jn (P := fun j => ∀ (v1 : Int32), Sim X cvI 51 [] [.int v1] (j v1)) ?_ (fun j51 hj51 => ?_)
  · intro v1
    exact s_iret hX dX4_bare_51
  · refine s_if_ne (tgt := 10) hX dX4_bare_1 (by decide) ?_ ?_
    · refine s_iload_n hX dX4_bare_10 rfl 0 rfl ?_
      refine s_iconst (v := 1) hX dX4_bare_11 rfl ?_
      refine s_icmp_ne (tgt := 21) hX dX4_bare_12 (by decide) ?_ ?_
      · refine s_iload_n hX dX4_bare_21 rfl 0 rfl ?_
        refine s_iconst (v := 2) hX dX4_bare_22 rfl ?_
        refine s_icmp_ne (tgt := 31) hX dX4_bare_23 (by decide) ?_ ?_
        · refine s_iload_n hX dX4_bare_31 rfl 0 rfl ?_
          refine s_iconst (v := 3) hX dX4_bare_32 rfl ?_
          refine s_icmp_ne (tgt := 40) hX dX4_bare_33 (by decide) ?_ ?_
          · refine s_iload_n hX dX4_bare_40 rfl 0 rfl ?_
            refine s_iconst (v := 4) hX dX4_bare_41 rfl ?_
            refine s_icmp_ne (tgt := 50) hX dX4_bare_42 (by decide) ?_ ?_
            · refine s_iconst (v := 0) hX dX4_bare_50 rfl ?_
              exact s_sub [] rfl (hj51 0)
            · refine s_bipush (v := 100) hX dX4_bare_45 (by decide) ?_
              refine s_goto (tgt := 51) hX dX4_bare_47 (by decide) ?_
              exact s_sub [] rfl (hj51 100)
          · refine s_iconst (v := 4) hX dX4_bare_36 rfl ?_
            refine s_goto (tgt := 51) hX dX4_bare_37 (by decide) ?_
            exact s_sub [] rfl (hj51 4)
        · refine s_bipush (v := 20) hX dX4_bare_26 (by decide) ?_
          refine s_goto (tgt := 51) hX dX4_bare_28 (by decide) ?_
          exact s_sub [] rfl (hj51 20)
      · refine s_sipush (v := 1500) hX dX4_bare_15 (by decide) ?_
        refine s_goto (tgt := 51) hX dX4_bare_18 (by decide) ?_
        exact s_sub [] rfl (hj51 1500)
    · refine s_sipush (v := 1000) hX dX4_bare_4 (by decide) ?_
      refine s_goto (tgt := 51) hX dX4_bare_7 (by decide) ?_
      exact s_sub [] rfl (hj51 1000)
