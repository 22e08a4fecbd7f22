set_option maxRecDepth 100000
theorem dX4_ten_0 : decode cX4_ten 0 = .ok (.aload_n 0, 1) := by decide +kernel
theorem dX4_ten_1 : decode cX4_ten 1 = .ok (.aload_n 0, 1) := by decide +kernel
theorem dX4_ten_2 : decode cX4_ten 2 = .ok (.getfield 229, 3) := by decide +kernel
theorem dX4_ten_5 : decode cX4_ten 5 = .ok (.invokevirtual 282, 3) := by decide +kernel
theorem dX4_ten_8 : decode cX4_ten 8 = .ok (.istore_n 1, 1) := by decide +kernel
theorem dX4_ten_9 : decode cX4_ten 9 = .ok (.aload_n 0, 1) := by decide +kernel
theorem dX4_ten_10 : decode cX4_ten 10 = .ok (.getfield 229, 3) := by decide +kernel
theorem dX4_ten_13 : decode cX4_ten 13 = .ok (.bipush 6, 2) := by decide +kernel
theorem dX4_ten_15 : decode cX4_ten 15 = .ok (.idiv, 1) := by decide +kernel
theorem dX4_ten_16 : decode cX4_ten 16 = .ok (.istore_n 2, 1) := by decide +kernel
theorem dX4_ten_17 : decode cX4_ten 17 = .ok (.aload_n 0, 1) := by decide +kernel
theorem dX4_ten_18 : decode cX4_ten 18 = .ok (.iload_n 1, 1) := by decide +kernel
theorem dX4_ten_19 : decode cX4_ten 19 = .ok (.bipush 7, 2) := by decide +kernel
theorem dX4_ten_21 : decode cX4_ten 21 = .ok (.aload_n 0, 1) := by decide +kernel
theorem dX4_ten_22 : decode cX4_ten 22 = .ok (.getfield 229, 3) := by decide +kernel
theorem dX4_ten_25 : decode cX4_ten 25 = .ok (.aload_n 0, 1) := by decide +kernel
theorem dX4_ten_26 : decode cX4_ten 26 = .ok (.getfield 63, 3) := by decide +kernel
theorem dX4_ten_29 : decode cX4_ten 29 = .ok (.iconst 0, 1) := by decide +kernel
theorem dX4_ten_30 : decode cX4_ten 30 = .ok (.iaload, 1) := by decide +kernel
theorem dX4_ten_31 : decode cX4_ten 31 = .ok (.aload_n 0, 1) := by decide +kernel
theorem dX4_ten_32 : decode cX4_ten 32 = .ok (.getfield 63, 3) := by decide +kernel
theorem dX4_ten_35 : decode cX4_ten 35 = .ok (.iconst 1, 1) := by decide +kernel
theorem dX4_ten_36 : decode cX4_ten 36 = .ok (.iaload, 1) := by decide +kernel
theorem dX4_ten_37 : decode cX4_ten 37 = .ok (.iadd, 1) := by decide +kernel
theorem dX4_ten_38 : decode cX4_ten 38 = .ok (.aload_n 0, 1) := by decide +kernel
theorem dX4_ten_39 : decode cX4_ten 39 = .ok (.getfield 226, 3) := by decide +kernel
theorem dX4_ten_42 : decode cX4_ten 42 = .ok (.aload_n 0, 1) := by decide +kernel
theorem dX4_ten_43 : decode cX4_ten 43 = .ok (.invokevirtual 286, 3) := by decide +kernel
theorem dX4_ten_46 : decode cX4_ten 46 = .ok (.invokevirtual 290, 3) := by decide +kernel
theorem dX4_ten_49 : decode cX4_ten 49 = .ok (.istore_n 3, 1) := by decide +kernel
theorem dX4_ten_50 : decode cX4_ten 50 = .ok (.aload_n 0, 1) := by decide +kernel
theorem dX4_ten_51 : decode cX4_ten 51 = .ok (.getfield 229, 3) := by decide +kernel
theorem dX4_ten_54 : decode cX4_ten 54 = .ok (.bipush 6, 2) := by decide +kernel
theorem dX4_ten_56 : decode cX4_ten 56 = .ok (.irem, 1) := by decide +kernel
theorem dX4_ten_57 : decode cX4_ten 57 = .ok (.iconst 5, 1) := by decide +kernel
theorem dX4_ten_58 : decode cX4_ten 58 = .ok (.if_icmp .ne 42, 3) := by decide +kernel
theorem dX4_ten_61 : decode cX4_ten 61 = .ok (.aload_n 0, 1) := by decide +kernel
theorem dX4_ten_62 : decode cX4_ten 62 = .ok (.getfield 115, 3) := by decide +kernel
theorem dX4_ten_65 : decode cX4_ten 65 = .ok (.iload_n 2, 1) := by decide +kernel
theorem dX4_ten_66 : decode cX4_ten 66 = .ok (.aload_n 0, 1) := by decide +kernel
theorem dX4_ten_67 : decode cX4_ten 67 = .ok (.getfield 63, 3) := by decide +kernel
theorem dX4_ten_70 : decode cX4_ten 70 = .ok (.iconst 0, 1) := by decide +kernel
theorem dX4_ten_71 : decode cX4_ten 71 = .ok (.iaload, 1) := by decide +kernel
theorem dX4_ten_72 : decode cX4_ten 72 = .ok (.aload_n 0, 1) := by decide +kernel
theorem dX4_ten_73 : decode cX4_ten 73 = .ok (.getfield 63, 3) := by decide +kernel
theorem dX4_ten_76 : decode cX4_ten 76 = .ok (.iconst 1, 1) := by decide +kernel
theorem dX4_ten_77 : decode cX4_ten 77 = .ok (.iaload, 1) := by decide +kernel
theorem dX4_ten_78 : decode cX4_ten 78 = .ok (.iadd, 1) := by decide +kernel
theorem dX4_ten_79 : decode cX4_ten 79 = .ok (.iastore, 1) := by decide +kernel
theorem dX4_ten_80 : decode cX4_ten 80 = .ok (.aload_n 0, 1) := by decide +kernel
theorem dX4_ten_81 : decode cX4_ten 81 = .ok (.getfield 118, 3) := by decide +kernel
theorem dX4_ten_84 : decode cX4_ten 84 = .ok (.iload_n 2, 1) := by decide +kernel
theorem dX4_ten_85 : decode cX4_ten 85 = .ok (.aload_n 0, 1) := by decide +kernel
theorem dX4_ten_86 : decode cX4_ten 86 = .ok (.getfield 226, 3) := by decide +kernel
theorem dX4_ten_89 : decode cX4_ten 89 = .ok (.iastore, 1) := by decide +kernel
theorem dX4_ten_90 : decode cX4_ten 90 = .ok (.aload_n 0, 1) := by decide +kernel
theorem dX4_ten_91 : decode cX4_ten 91 = .ok (.getfield 121, 3) := by decide +kernel
theorem dX4_ten_94 : decode cX4_ten 94 = .ok (.iload_n 2, 1) := by decide +kernel
theorem dX4_ten_95 : decode cX4_ten 95 = .ok (.aload_n 0, 1) := by decide +kernel
theorem dX4_ten_96 : decode cX4_ten 96 = .ok (.invokevirtual 286, 3) := by decide +kernel
theorem dX4_ten_99 : decode cX4_ten 99 = .ok (.iastore, 1) := by decide +kernel
theorem dX4_ten_100 : decode cX4_ten 100 = .ok (.aload_n 0, 1) := by decide +kernel
theorem dX4_ten_101 : decode cX4_ten 101 = .ok (.iconst 2, 1) := by decide +kernel
theorem dX4_ten_102 : decode cX4_ten 102 = .ok (.aload_n 0, 1) := by decide +kernel
theorem dX4_ten_103 : decode cX4_ten 103 = .ok (.getfield 229, 3) := by decide +kernel
theorem dX4_ten_106 : decode cX4_ten 106 = .ok (.invokevirtual 210, 3) := by decide +kernel
theorem dX4_ten_109 : decode cX4_ten 109 = .ok (.istore 4, 2) := by decide +kernel
theorem dX4_ten_111 : decode cX4_ten 111 = .ok (.iload 4, 2) := by decide +kernel
theorem dX4_ten_113 : decode cX4_ten 113 = .ok (.aload_n 0, 1) := by decide +kernel
theorem dX4_ten_114 : decode cX4_ten 114 = .ok (.getfield 223, 3) := by decide +kernel
theorem dX4_ten_117 : decode cX4_ten 117 = .ok (.aload_n 0, 1) := by decide +kernel
theorem dX4_ten_118 : decode cX4_ten 118 = .ok (.getfield 226, 3) := by decide +kernel
theorem dX4_ten_121 : decode cX4_ten 121 = .ok (.isub, 1) := by decide +kernel
theorem dX4_ten_122 : decode cX4_ten 122 = .ok (.invokestatic 235, 3) := by decide +kernel
theorem dX4_ten_125 : decode cX4_ten 125 = .ok (.istore 5, 2) := by decide +kernel
theorem dX4_ten_127 : decode cX4_ten 127 = .ok (.aload_n 0, 1) := by decide +kernel
theorem dX4_ten_128 : decode cX4_ten 128 = .ok (.dup, 1) := by decide +kernel
theorem dX4_ten_129 : decode cX4_ten 129 = .ok (.getfield 226, 3) := by decide +kernel
theorem dX4_ten_132 : decode cX4_ten 132 = .ok (.iload 5, 2) := by decide +kernel
theorem dX4_ten_134 : decode cX4_ten 134 = .ok (.iadd, 1) := by decide +kernel
theorem dX4_ten_135 : decode cX4_ten 135 = .ok (.putfield 226, 3) := by decide +kernel
theorem dX4_ten_138 : decode cX4_ten 138 = .ok (.aload_n 0, 1) := by decide +kernel
theorem dX4_ten_139 : decode cX4_ten 139 = .ok (.getfield 51, 3) := by decide +kernel
theorem dX4_ten_142 : decode cX4_ten 142 = .ok (.bipush 11, 2) := by decide +kernel
theorem dX4_ten_144 : decode cX4_ten 144 = .ok (.dup2, 1) := by decide +kernel
theorem dX4_ten_145 : decode cX4_ten 145 = .ok (.laload, 1) := by decide +kernel
theorem dX4_ten_146 : decode cX4_ten 146 = .ok (.iload 4, 2) := by decide +kernel
theorem dX4_ten_148 : decode cX4_ten 148 = .ok (.iload 5, 2) := by decide +kernel
theorem dX4_ten_150 : decode cX4_ten 150 = .ok (.isub, 1) := by decide +kernel
theorem dX4_ten_151 : decode cX4_ten 151 = .ok (.i2l, 1) := by decide +kernel
theorem dX4_ten_152 : decode cX4_ten 152 = .ok (.ladd, 1) := by decide +kernel
theorem dX4_ten_153 : decode cX4_ten 153 = .ok (.lastore, 1) := by decide +kernel
theorem dX4_ten_154 : decode cX4_ten 154 = .ok (.aload_n 0, 1) := by decide +kernel
theorem dX4_ten_155 : decode cX4_ten 155 = .ok (.iconst 0, 1) := by decide +kernel
theorem dX4_ten_156 : decode cX4_ten 156 = .ok (.aload_n 0, 1) := by decide +kernel
theorem dX4_ten_157 : decode cX4_ten 157 = .ok (.getfield 229, 3) := by decide +kernel
theorem dX4_ten_160 : decode cX4_ten 160 = .ok (.invokevirtual 210, 3) := by decide +kernel
theorem dX4_ten_163 : decode cX4_ten 163 = .ok (.istore 6, 2) := by decide +kernel
theorem dX4_ten_165 : decode cX4_ten 165 = .ok (.iload 6, 2) := by decide +kernel
theorem dX4_ten_167 : decode cX4_ten 167 = .ok (.istore 7, 2) := by decide +kernel
theorem dX4_ten_169 : decode cX4_ten 169 = .ok (.aload_n 0, 1) := by decide +kernel
theorem dX4_ten_170 : decode cX4_ten 170 = .ok (.getfield 51, 3) := by decide +kernel
theorem dX4_ten_173 : decode cX4_ten 173 = .ok (.iconst 0, 1) := by decide +kernel
theorem dX4_ten_174 : decode cX4_ten 174 = .ok (.dup2, 1) := by decide +kernel
theorem dX4_ten_175 : decode cX4_ten 175 = .ok (.laload, 1) := by decide +kernel
theorem dX4_ten_176 : decode cX4_ten 176 = .ok (.iload 6, 2) := by decide +kernel
theorem dX4_ten_178 : decode cX4_ten 178 = .ok (.i2l, 1) := by decide +kernel
theorem dX4_ten_179 : decode cX4_ten 179 = .ok (.ladd, 1) := by decide +kernel
theorem dX4_ten_180 : decode cX4_ten 180 = .ok (.lastore, 1) := by decide +kernel
theorem dX4_ten_181 : decode cX4_ten 181 = .ok (.aload_n 0, 1) := by decide +kernel
theorem dX4_ten_182 : decode cX4_ten 182 = .ok (.iconst 0, 1) := by decide +kernel
theorem dX4_ten_183 : decode cX4_ten 183 = .ok (.putfield 276, 3) := by decide +kernel
theorem dX4_ten_186 : decode cX4_ten 186 = .ok (.aload_n 0, 1) := by decide +kernel
theorem dX4_ten_187 : decode cX4_ten 187 = .ok (.iconst 0, 1) := by decide +kernel
theorem dX4_ten_188 : decode cX4_ten 188 = .ok (.putfield 279, 3) := by decide +kernel
theorem dX4_ten_191 : decode cX4_ten 191 = .ok (.aload_n 0, 1) := by decide +kernel
theorem dX4_ten_192 : decode cX4_ten 192 = .ok (.iload_n 1, 1) := by decide +kernel
theorem dX4_ten_193 : decode cX4_ten 193 = .ok (.invokevirtual 294, 3) := by decide +kernel
theorem dX4_ten_196 : decode cX4_ten 196 = .ok (.iconst 0, 1) := by decide +kernel
theorem dX4_ten_197 : decode cX4_ten 197 = .ok (.istore 8, 2) := by decide +kernel
theorem dX4_ten_199 : decode cX4_ten 199 = .ok (.iload 8, 2) := by decide +kernel
theorem dX4_ten_201 : decode cX4_ten 201 = .ok (.aload_n 0, 1) := by decide +kernel
theorem dX4_ten_202 : decode cX4_ten 202 = .ok (.getfield 215, 3) := by decide +kernel
theorem dX4_ten_205 : decode cX4_ten 205 = .ok (.if_icmp .ge 50, 3) := by decide +kernel
theorem dX4_ten_208 : decode cX4_ten 208 = .ok (.iload 6, 2) := by decide +kernel
theorem dX4_ten_210 : decode cX4_ten 210 = .ok (.aload_n 0, 1) := by decide +kernel
theorem dX4_ten_211 : decode cX4_ten 211 = .ok (.iload_n 1, 1) := by decide +kernel
theorem dX4_ten_212 : decode cX4_ten 212 = .ok (.iconst 1, 1) := by decide +kernel
theorem dX4_ten_213 : decode cX4_ten 213 = .ok (.invokevirtual 260, 3) := by decide +kernel
theorem dX4_ten_216 : decode cX4_ten 216 = .ok (.if_icmp .lt 14, 3) := by decide +kernel
theorem dX4_ten_219 : decode cX4_ten 219 = .ok (.aload_n 0, 1) := by decide +kernel
theorem dX4_ten_220 : decode cX4_ten 220 = .ok (.getfield 43, 3) := by decide +kernel
theorem dX4_ten_223 : decode cX4_ten 223 = .ok (.iload 8, 2) := by decide +kernel
theorem dX4_ten_225 : decode cX4_ten 225 = .ok (.iconst 0, 1) := by decide +kernel
theorem dX4_ten_226 : decode cX4_ten 226 = .ok (.bastore, 1) := by decide +kernel
theorem dX4_ten_227 : decode cX4_ten 227 = .ok (.goto 22, 3) := by decide +kernel
theorem dX4_ten_230 : decode cX4_ten 230 = .ok (.iload 7, 2) := by decide +kernel
theorem dX4_ten_232 : decode cX4_ten 232 = .ok (.aload_n 0, 1) := by decide +kernel
theorem dX4_ten_233 : decode cX4_ten 233 = .ok (.aload_n 0, 1) := by decide +kernel
theorem dX4_ten_234 : decode cX4_ten 234 = .ok (.getfield 112, 3) := by decide +kernel
theorem dX4_ten_237 : decode cX4_ten 237 = .ok (.iload 8, 2) := by decide +kernel
theorem dX4_ten_239 : decode cX4_ten 239 = .ok (.iaload, 1) := by decide +kernel
theorem dX4_ten_240 : decode cX4_ten 240 = .ok (.iload 7, 2) := by decide +kernel
theorem dX4_ten_242 : decode cX4_ten 242 = .ok (.iload_n 1, 1) := by decide +kernel
theorem dX4_ten_243 : decode cX4_ten 243 = .ok (.invokevirtual 298, 3) := by decide +kernel
theorem dX4_ten_246 : decode cX4_ten 246 = .ok (.isub, 1) := by decide +kernel
theorem dX4_ten_247 : decode cX4_ten 247 = .ok (.istore 7, 2) := by decide +kernel
theorem dX4_ten_249 : decode cX4_ten 249 = .ok (.iinc 8 1, 3) := by decide +kernel
theorem dX4_ten_252 : decode cX4_ten 252 = .ok (.goto (-53), 3) := by decide +kernel
theorem dX4_ten_255 : decode cX4_ten 255 = .ok (.aload_n 0, 1) := by decide +kernel
theorem dX4_ten_256 : decode cX4_ten 256 = .ok (.getfield 51, 3) := by decide +kernel
theorem dX4_ten_259 : decode cX4_ten 259 = .ok (.iconst 1, 1) := by decide +kernel
theorem dX4_ten_260 : decode cX4_ten 260 = .ok (.dup2, 1) := by decide +kernel
theorem dX4_ten_261 : decode cX4_ten 261 = .ok (.laload, 1) := by decide +kernel
theorem dX4_ten_262 : decode cX4_ten 262 = .ok (.iload 6, 2) := by decide +kernel
theorem dX4_ten_264 : decode cX4_ten 264 = .ok (.iload 7, 2) := by decide +kernel
theorem dX4_ten_266 : decode cX4_ten 266 = .ok (.isub, 1) := by decide +kernel
theorem dX4_ten_267 : decode cX4_ten 267 = .ok (.i2l, 1) := by decide +kernel
theorem dX4_ten_268 : decode cX4_ten 268 = .ok (.ladd, 1) := by decide +kernel
theorem dX4_ten_269 : decode cX4_ten 269 = .ok (.lastore, 1) := by decide +kernel
theorem dX4_ten_270 : decode cX4_ten 270 = .ok (.aload_n 0, 1) := by decide +kernel
theorem dX4_ten_271 : decode cX4_ten 271 = .ok (.invokevirtual 301, 3) := by decide +kernel
theorem dX4_ten_274 : decode cX4_ten 274 = .ok (.iload_n 3, 1) := by decide +kernel
theorem dX4_ten_275 : decode cX4_ten 275 = .ok (.ifCond .eq 17, 3) := by decide +kernel
theorem dX4_ten_278 : decode cX4_ten 278 = .ok (.iload 7, 2) := by decide +kernel
theorem dX4_ten_280 : decode cX4_ten 280 = .ok (.aload_n 0, 1) := by decide +kernel
theorem dX4_ten_281 : decode cX4_ten 281 = .ok (.iload_n 1, 1) := by decide +kernel
theorem dX4_ten_282 : decode cX4_ten 282 = .ok (.iconst 4, 1) := by decide +kernel
theorem dX4_ten_283 : decode cX4_ten 283 = .ok (.invokevirtual 260, 3) := by decide +kernel
theorem dX4_ten_286 : decode cX4_ten 286 = .ok (.invokestatic 235, 3) := by decide +kernel
theorem dX4_ten_289 : decode cX4_ten 289 = .ok (.goto 4, 3) := by decide +kernel
theorem dX4_ten_292 : decode cX4_ten 292 = .ok (.iconst 0, 1) := by decide +kernel
theorem dX4_ten_293 : decode cX4_ten 293 = .ok (.istore 8, 2) := by decide +kernel
theorem dX4_ten_295 : decode cX4_ten 295 = .ok (.aload_n 0, 1) := by decide +kernel
theorem dX4_ten_296 : decode cX4_ten 296 = .ok (.getfield 51, 3) := by decide +kernel
theorem dX4_ten_299 : decode cX4_ten 299 = .ok (.iconst 2, 1) := by decide +kernel
theorem dX4_ten_300 : decode cX4_ten 300 = .ok (.dup2, 1) := by decide +kernel
theorem dX4_ten_301 : decode cX4_ten 301 = .ok (.laload, 1) := by decide +kernel
theorem dX4_ten_302 : decode cX4_ten 302 = .ok (.iload 8, 2) := by decide +kernel
theorem dX4_ten_304 : decode cX4_ten 304 = .ok (.i2l, 1) := by decide +kernel
theorem dX4_ten_305 : decode cX4_ten 305 = .ok (.ladd, 1) := by decide +kernel
theorem dX4_ten_306 : decode cX4_ten 306 = .ok (.lastore, 1) := by decide +kernel
theorem dX4_ten_307 : decode cX4_ten 307 = .ok (.aload_n 0, 1) := by decide +kernel
theorem dX4_ten_308 : decode cX4_ten 308 = .ok (.getfield 51, 3) := by decide +kernel
theorem dX4_ten_311 : decode cX4_ten 311 = .ok (.iconst 3, 1) := by decide +kernel
theorem dX4_ten_312 : decode cX4_ten 312 = .ok (.dup2, 1) := by decide +kernel
theorem dX4_ten_313 : decode cX4_ten 313 = .ok (.laload, 1) := by decide +kernel
theorem dX4_ten_314 : decode cX4_ten 314 = .ok (.iload 7, 2) := by decide +kernel
theorem dX4_ten_316 : decode cX4_ten 316 = .ok (.iload 8, 2) := by decide +kernel
theorem dX4_ten_318 : decode cX4_ten 318 = .ok (.isub, 1) := by decide +kernel
theorem dX4_ten_319 : decode cX4_ten 319 = .ok (.i2l, 1) := by decide +kernel
theorem dX4_ten_320 : decode cX4_ten 320 = .ok (.ladd, 1) := by decide +kernel
theorem dX4_ten_321 : decode cX4_ten 321 = .ok (.lastore, 1) := by decide +kernel
theorem dX4_ten_322 : decode cX4_ten 322 = .ok (.aload_n 0, 1) := by decide +kernel
theorem dX4_ten_323 : decode cX4_ten 323 = .ok (.getfield 51, 3) := by decide +kernel
theorem dX4_ten_326 : decode cX4_ten 326 = .ok (.bipush 12, 2) := by decide +kernel
theorem dX4_ten_328 : decode cX4_ten 328 = .ok (.dup2, 1) := by decide +kernel
theorem dX4_ten_329 : decode cX4_ten 329 = .ok (.laload, 1) := by decide +kernel
theorem dX4_ten_330 : decode cX4_ten 330 = .ok (.iload 8, 2) := by decide +kernel
theorem dX4_ten_332 : decode cX4_ten 332 = .ok (.i2l, 1) := by decide +kernel
theorem dX4_ten_333 : decode cX4_ten 333 = .ok (.aload_n 0, 1) := by decide +kernel
theorem dX4_ten_334 : decode cX4_ten 334 = .ok (.iconst 1, 1) := by decide +kernel
theorem dX4_ten_335 : decode cX4_ten 335 = .ok (.aload_n 0, 1) := by decide +kernel
theorem dX4_ten_336 : decode cX4_ten 336 = .ok (.getfield 229, 3) := by decide +kernel
theorem dX4_ten_339 : decode cX4_ten 339 = .ok (.invokevirtual 210, 3) := by decide +kernel
theorem dX4_ten_342 : decode cX4_ten 342 = .ok (.i2l, 1) := by decide +kernel
theorem dX4_ten_343 : decode cX4_ten 343 = .ok (.lmul, 1) := by decide +kernel
theorem dX4_ten_344 : decode cX4_ten 344 = .ok (.ladd, 1) := by decide +kernel
theorem dX4_ten_345 : decode cX4_ten 345 = .ok (.lastore, 1) := by decide +kernel
theorem dX4_ten_346 : decode cX4_ten 346 = .ok (.aload_n 0, 1) := by decide +kernel
theorem dX4_ten_347 : decode cX4_ten 347 = .ok (.aload_n 0, 1) := by decide +kernel
theorem dX4_ten_348 : decode cX4_ten 348 = .ok (.getfield 60, 3) := by decide +kernel
theorem dX4_ten_351 : decode cX4_ten 351 = .ok (.iconst 1, 1) := by decide +kernel
theorem dX4_ten_352 : decode cX4_ten 352 = .ok (.iaload, 1) := by decide +kernel
theorem dX4_ten_353 : decode cX4_ten 353 = .ok (.putfield 248, 3) := by decide +kernel
theorem dX4_ten_356 : decode cX4_ten 356 = .ok (.iconst 0, 1) := by decide +kernel
theorem dX4_ten_357 : decode cX4_ten 357 = .ok (.istore 9, 2) := by decide +kernel
theorem dX4_ten_359 : decode cX4_ten 359 = .ok (.iload 9, 2) := by decide +kernel
theorem dX4_ten_361 : decode cX4_ten 361 = .ok (.aload_n 0, 1) := by decide +kernel
theorem dX4_ten_362 : decode cX4_ten 362 = .ok (.getfield 245, 3) := by decide +kernel
theorem dX4_ten_365 : decode cX4_ten 365 = .ok (.if_icmp .ge 21, 3) := by decide +kernel
theorem dX4_ten_368 : decode cX4_ten 368 = .ok (.aload_n 0, 1) := by decide +kernel
theorem dX4_ten_369 : decode cX4_ten 369 = .ok (.iload 9, 2) := by decide +kernel
theorem dX4_ten_371 : decode cX4_ten 371 = .ok (.aload_n 0, 1) := by decide +kernel
theorem dX4_ten_372 : decode cX4_ten 372 = .ok (.iload_n 1, 1) := by decide +kernel
theorem dX4_ten_373 : decode cX4_ten 373 = .ok (.iconst 0, 1) := by decide +kernel
theorem dX4_ten_374 : decode cX4_ten 374 = .ok (.invokevirtual 260, 3) := by decide +kernel
theorem dX4_ten_377 : decode cX4_ten 377 = .ok (.invokevirtual 304, 3) := by decide +kernel
theorem dX4_ten_380 : decode cX4_ten 380 = .ok (.iinc 9 1, 3) := by decide +kernel
theorem dX4_ten_383 : decode cX4_ten 383 = .ok (.goto (-24), 3) := by decide +kernel
theorem dX4_ten_386 : decode cX4_ten 386 = .ok (.iconst 0, 1) := by decide +kernel
theorem dX4_ten_387 : decode cX4_ten 387 = .ok (.istore 9, 2) := by decide +kernel
theorem dX4_ten_389 : decode cX4_ten 389 = .ok (.iload 9, 2) := by decide +kernel
theorem dX4_ten_391 : decode cX4_ten 391 = .ok (.iconst 2, 1) := by decide +kernel
theorem dX4_ten_392 : decode cX4_ten 392 = .ok (.if_icmp .ge 68, 3) := by decide +kernel
theorem dX4_ten_395 : decode cX4_ten 395 = .ok (.aload_n 0, 1) := by decide +kernel
theorem dX4_ten_396 : decode cX4_ten 396 = .ok (.getfield 63, 3) := by decide +kernel
theorem dX4_ten_399 : decode cX4_ten 399 = .ok (.iload 9, 2) := by decide +kernel
theorem dX4_ten_401 : decode cX4_ten 401 = .ok (.iaload, 1) := by decide +kernel
theorem dX4_ten_402 : decode cX4_ten 402 = .ok (.i2l, 1) := by decide +kernel
theorem dX4_ten_403 : decode cX4_ten 403 = .ok (.aload_n 0, 1) := by decide +kernel
theorem dX4_ten_404 : decode cX4_ten 404 = .ok (.getfield 57, 3) := by decide +kernel
theorem dX4_ten_407 : decode cX4_ten 407 = .ok (.iload 9, 2) := by decide +kernel
theorem dX4_ten_409 : decode cX4_ten 409 = .ok (.iaload, 1) := by decide +kernel
theorem dX4_ten_410 : decode cX4_ten 410 = .ok (.i2l, 1) := by decide +kernel
theorem dX4_ten_411 : decode cX4_ten 411 = .ok (.lmul, 1) := by decide +kernel
theorem dX4_ten_412 : decode cX4_ten 412 = .ok (.ldc2_w 254, 3) := by decide +kernel
theorem dX4_ten_415 : decode cX4_ten 415 = .ok (.ldiv, 1) := by decide +kernel
theorem dX4_ten_416 : decode cX4_ten 416 = .ok (.l2i, 1) := by decide +kernel
theorem dX4_ten_417 : decode cX4_ten 417 = .ok (.istore 10, 2) := by decide +kernel
theorem dX4_ten_419 : decode cX4_ten 419 = .ok (.aload_n 0, 1) := by decide +kernel
theorem dX4_ten_420 : decode cX4_ten 420 = .ok (.iload 9, 2) := by decide +kernel
theorem dX4_ten_422 : decode cX4_ten 422 = .ok (.iload 10, 2) := by decide +kernel
theorem dX4_ten_424 : decode cX4_ten 424 = .ok (.iconst (-1), 1) := by decide +kernel
theorem dX4_ten_425 : decode cX4_ten 425 = .ok (.invokevirtual 256, 3) := by decide +kernel
theorem dX4_ten_428 : decode cX4_ten 428 = .ok (.aload_n 0, 1) := by decide +kernel
theorem dX4_ten_429 : decode cX4_ten 429 = .ok (.getfield 75, 3) := by decide +kernel
theorem dX4_ten_432 : decode cX4_ten 432 = .ok (.iload 9, 2) := by decide +kernel
theorem dX4_ten_434 : decode cX4_ten 434 = .ok (.dup2, 1) := by decide +kernel
theorem dX4_ten_435 : decode cX4_ten 435 = .ok (.laload, 1) := by decide +kernel
theorem dX4_ten_436 : decode cX4_ten 436 = .ok (.iload 10, 2) := by decide +kernel
theorem dX4_ten_438 : decode cX4_ten 438 = .ok (.i2l, 1) := by decide +kernel
theorem dX4_ten_439 : decode cX4_ten 439 = .ok (.ladd, 1) := by decide +kernel
theorem dX4_ten_440 : decode cX4_ten 440 = .ok (.lastore, 1) := by decide +kernel
theorem dX4_ten_441 : decode cX4_ten 441 = .ok (.aload_n 0, 1) := by decide +kernel
theorem dX4_ten_442 : decode cX4_ten 442 = .ok (.getfield 51, 3) := by decide +kernel
theorem dX4_ten_445 : decode cX4_ten 445 = .ok (.bipush 7, 2) := by decide +kernel
theorem dX4_ten_447 : decode cX4_ten 447 = .ok (.dup2, 1) := by decide +kernel
theorem dX4_ten_448 : decode cX4_ten 448 = .ok (.laload, 1) := by decide +kernel
theorem dX4_ten_449 : decode cX4_ten 449 = .ok (.iload 10, 2) := by decide +kernel
theorem dX4_ten_451 : decode cX4_ten 451 = .ok (.i2l, 1) := by decide +kernel
theorem dX4_ten_452 : decode cX4_ten 452 = .ok (.ladd, 1) := by decide +kernel
theorem dX4_ten_453 : decode cX4_ten 453 = .ok (.lastore, 1) := by decide +kernel
theorem dX4_ten_454 : decode cX4_ten 454 = .ok (.iinc 9 1, 3) := by decide +kernel
theorem dX4_ten_457 : decode cX4_ten 457 = .ok (.goto (-68), 3) := by decide +kernel
theorem dX4_ten_460 : decode cX4_ten 460 = .ok (.aload_n 0, 1) := by decide +kernel
theorem dX4_ten_461 : decode cX4_ten 461 = .ok (.dup, 1) := by decide +kernel
theorem dX4_ten_462 : decode cX4_ten 462 = .ok (.getfield 229, 3) := by decide +kernel
theorem dX4_ten_465 : decode cX4_ten 465 = .ok (.iconst 1, 1) := by decide +kernel
theorem dX4_ten_466 : decode cX4_ten 466 = .ok (.iadd, 1) := by decide +kernel
theorem dX4_ten_467 : decode cX4_ten 467 = .ok (.putfield 229, 3) := by decide +kernel
theorem dX4_ten_470 : decode cX4_ten 470 = .ok (.return_, 1) := by decide +kernel
theorem ycX4_ten : yX4_ten.cls ≠ "java/lang/invoke/MethodHandle" ∧ yX4_ten.cls ≠ "java/lang/invoke/VarHandle" ∧ (parseMethodDescriptor yX4_ten.desc).map (fun d => d.parameters.length) = some 0 := by decide +kernel
theorem yvX4_ten : yX4_ten.cls = RR 4 ∧ yX4_ten.cls ≠ "java/lang/invoke/MethodHandle" ∧ yX4_ten.cls ≠ "java/lang/invoke/VarHandle" ∧ (parseMethodDescriptor yX4_ten.desc).map (fun d => d.parameters.length) = some 0 := ⟨rfl, ycX4_ten⟩
def lp_X4_ten_389 (n : Nat) (p0 : Nat) (j460 : Unit → Act Unit) (q : Nat) : Int32 → Act Unit := match q with
  | 0 => fun _ => fail
  | q + 1 => fun w41 =>
    if 2 ≤ w41 then
      j460 ()
    else
      bnd (getR 4 23 p0) fun v43 =>
      bnd (ldI 0 v43 w41) fun v44 =>
      bnd (getR 4 21 p0) fun v45 =>
      bnd (ldI 0 v45 w41) fun v46 =>
      bnd (gd 4 p0 (nt (f_X4_goesOut n p0 w41 (((v44.toInt64 * v46.toInt64) / 10000).toInt32) (-1 : Int32)))) fun _ =>
      bnd (getR 4 27 p0) fun v47 =>
      bnd (ldL 1 v47 w41) fun v48 =>
      bnd (stL 1 v47 w41 (v48 + ((((v44.toInt64 * v46.toInt64) / 10000).toInt32).toInt64))) fun _ =>
      bnd (getR 4 17 p0) fun v49 =>
      bnd (ldL 1 v49 7) fun v50 =>
      bnd (stL 1 v49 7 (v50 + ((((v44.toInt64 * v46.toInt64) / 10000).toInt32).toInt64))) fun _ =>
      (lp_X4_ten_389 n p0 j460 q) (w41 + 1)
def lp_X4_ten_359 (n : Nat) (p0 : Nat) (v2 : Int32) (j386 : Unit → Act Unit) (q : Nat) : Int32 → Act Unit := match q with
  | 0 => fun _ => fail
  | q + 1 => fun w40 =>
    bnd (getI 4 2 p0) fun v51 =>
    if v51 ≤ w40 then
      j386 ()
    else
      bnd (gd 4 p0 (nt (f_X4_tells n p0 v2 (0 : Int32)))) fun v52 =>
      bnd (gd 4 p0 (nt (f_X4_tries n p0 w40 v52))) fun _ =>
      (lp_X4_ten_359 n p0 v2 j386 q) (w40 + 1)
def lp_X4_ten_199 (n : Nat) (p0 : Nat) (v2 : Int32) (v11 : Int32) (v21 : Int32) (j255 : Int32 → Act Unit) (q : Nat) : Int32 → Int32 → Act Unit := match q with
  | 0 => fun _ _ => fail
  | q + 1 => fun w24 w25 =>
    bnd (getI 4 1 p0) fun v54 =>
    if v54 ≤ w25 then
      j255 w24
    else
      bnd (gd 4 p0 (nt (f_X4_tells n p0 v2 (1 : Int32)))) fun v55 =>
      jn (fun (v56 : Int32) =>
        (lp_X4_ten_199 n p0 v2 v11 v21 j255 q) v56 (w25 + 1)) fun j249 =>
      if v21 < v55 then
        bnd (getR 4 40 p0) fun v57 =>
        bnd (ldI 0 v57 w25) fun v58 =>
        bnd (gd 4 p0 (nt (f_X4_turns n p0 v58 w24 v2))) fun v59 =>
        j249 (w24 - v59)
      else
        bnd (getR 4 15 p0) fun v60 =>
        bnd (stI 3 v60 w25 0) fun _ =>
        j249 w24
def f_X4_ten (n : Nat) (p0 : Nat) : Act Unit :=
  bnd (getI 4 0 p0) fun v1 =>
  bnd (gd 4 p0 (nt (f_X4_inForce n p0 v1))) fun v2 =>
  bnd (getI 4 0 p0) fun v3 =>
  bnd (getI 4 0 p0) fun v4 =>
  bnd (getR 4 23 p0) fun v5 =>
  bnd (ldI 0 v5 0) fun v6 =>
  bnd (getR 4 23 p0) fun v7 =>
  bnd (ldI 0 v7 1) fun v8 =>
  bnd (getI 4 19 p0) fun v9 =>
  bnd (gd 4 p0 (nt (f_X4_runningNow n p0))) fun v10 =>
  bnd (gd 4 p0 (nt (f_X4_asks n p0 v2 (7 : Int32) v4 (v6 + v8) v9 v10))) fun v11 =>
  bnd (getI 4 0 p0) fun v12 =>
  jn (fun (_ : Unit) =>
    bnd (getI 4 0 p0) fun v13 =>
    bnd (gd 4 p0 (nt (f_X4_saidOf n p0 (2 : Int32) v13))) fun v14 =>
    bnd (getI 4 18 p0) fun v15 =>
    bnd (getI 4 19 p0) fun v16 =>
    bnd (getI 4 19 p0) fun v17 =>
    bnd (putI 4 19 p0 (v17 + (mn v14 (v15 - v16)))) fun _ =>
    bnd (getR 4 17 p0) fun v18 =>
    bnd (ldL 1 v18 11) fun v19 =>
    bnd (stL 1 v18 11 (v19 + ((v14 - (mn v14 (v15 - v16))).toInt64))) fun _ =>
    bnd (getI 4 0 p0) fun v20 =>
    bnd (gd 4 p0 (nt (f_X4_saidOf n p0 (0 : Int32) v20))) fun v21 =>
    bnd (getR 4 17 p0) fun v22 =>
    bnd (ldL 1 v22 0) fun v23 =>
    bnd (stL 1 v22 0 (v23 + v21.toInt64)) fun _ =>
    bnd (putI 4 44 p0 0) fun _ =>
    bnd (putI 4 45 p0 0) fun _ =>
    bnd (gd 4 p0 (nt (f_X4_orders n p0 v2))) fun _ =>
    jn (fun (v26 : Int32) =>
      bnd (getR 4 17 p0) fun v27 =>
      bnd (ldL 1 v27 1) fun v28 =>
      bnd (stL 1 v27 1 (v28 + ((v21 - v26).toInt64))) fun _ =>
      bnd (gd 4 p0 (nt (f_X4_stores p0))) fun _ =>
      jn (fun (v29 : Int32) =>
        bnd (getR 4 17 p0) fun v30 =>
        bnd (ldL 1 v30 2) fun v31 =>
        bnd (stL 1 v30 2 (v31 + v29.toInt64)) fun _ =>
        bnd (getR 4 17 p0) fun v32 =>
        bnd (ldL 1 v32 3) fun v33 =>
        bnd (stL 1 v32 3 (v33 + ((v26 - v29).toInt64))) fun _ =>
        bnd (getR 4 17 p0) fun v34 =>
        bnd (ldL 1 v34 12) fun v35 =>
        bnd (getI 4 0 p0) fun v36 =>
        bnd (gd 4 p0 (nt (f_X4_saidOf n p0 (1 : Int32) v36))) fun v37 =>
        bnd (stL 1 v34 12 (v35 + (v29.toInt64 * v37.toInt64))) fun _ =>
        bnd (getR 4 22 p0) fun v38 =>
        bnd (ldI 0 v38 1) fun v39 =>
        bnd (putI 4 39 p0 v39) fun _ =>
        jn (fun (_ : Unit) =>
          jn (fun (_ : Unit) =>
            bnd (getI 4 0 p0) fun v42 =>
            bnd (putI 4 0 p0 (v42 + 1)) fun _ =>
            pur ()) fun j460 =>
          lp_X4_ten_389 n p0 j460 n 0) fun j386 =>
        lp_X4_ten_359 n p0 v2 j386 n 0) fun j293 =>
      if v11 = 0 then
        j293 0
      else
        bnd (gd 4 p0 (nt (f_X4_tells n p0 v2 (4 : Int32)))) fun v53 =>
        j293 (mn v26 v53)) fun j255 =>
    lp_X4_ten_199 n p0 v2 v11 v21 j255 n v21 0) fun j100 =>
  if ¬ (v12 - v12 / 6 * 6) = 5 then
    j100 ()
  else
    bnd (getR 4 41 p0) fun v61 =>
    bnd (getR 4 23 p0) fun v62 =>
    bnd (ldI 0 v62 0) fun v63 =>
    bnd (getR 4 23 p0) fun v64 =>
    bnd (ldI 0 v64 1) fun v65 =>
    bnd (stI 0 v61 (v3 / 6) (v63 + v65)) fun _ =>
    bnd (getR 4 42 p0) fun v66 =>
    bnd (getI 4 19 p0) fun v67 =>
    bnd (stI 0 v66 (v3 / 6) v67) fun _ =>
    bnd (getR 4 43 p0) fun v68 =>
    bnd (gd 4 p0 (nt (f_X4_runningNow n p0))) fun v69 =>
    bnd (stI 0 v68 (v3 / 6) v69) fun _ =>
    j100 ()
set_option maxHeartbeats 4000000 in
theorem s_lp_X4_ten_389 {X : Cx} (hX : Ok X Pic cX4_ten RX4 11 none 42 971) (hnh : Noh X) (n : Nat) (p0 : Nat) (j460 : Unit → Act Unit) (hj460 : ∀ (u : Unit), Sim X cvU 460 [(0, rv p0)] [] (j460 u)) (q : Nat) : ∀ (w41 : Int32), Sim X cvU 389 [(0, rv p0), (9, .int w41)] [] (lp_X4_ten_389 n p0 j460 q w41) := by
  induction q with
  | zero => intro w41; exact s_fail
  | succ q ih389 =>
    intro w41
    rw [lp_X4_ten_389]
    refine s_iload hX dX4_ten_389 1 rfl ?_
    refine s_iconst (v := 2) hX dX4_ten_391 rfl ?_
    refine s_icmp_ge (tgt := 460) hX dX4_ten_392 (by decide) ?_ ?_
    · exact s_sub [0] rfl (hj460 ())
    · refine s_aload_n hX dX4_ten_395 rfl 0 rfl ?_
      refine s_getR (ci := 4) (j := 23) (ref := "WindGasModel") hX (pcG 4) in_X4 (Or.inl q1561) (by decide) (by decide) (by decide) rfl dX4_ten_396 (fun _ h9 => h9) (fun v43 => ?_)
      refine s_iload hX dX4_ten_399 1 rfl ?_
      refine s_iald hX (pcA 0) dX4_ten_401 (fun v44 => ?_)
      refine s_i2l hX dX4_ten_402 ?_
      refine s_aload_n hX dX4_ten_403 rfl 0 rfl ?_
      refine s_getR (ci := 4) (j := 21) (ref := "WindGasModel") hX (pcG 4) in_X4 (Or.inl q1559) (by decide) (by decide) (by decide) rfl dX4_ten_404 (fun _ h9 => h9) (fun v45 => ?_)
      refine s_iload hX dX4_ten_407 1 rfl ?_
      refine s_iald hX (pcA 0) dX4_ten_409 (fun v46 => ?_)
      refine s_i2l hX dX4_ten_410 ?_
      refine s_lmul hX dX4_ten_411 ?_
      refine s_ldc2 (v := 10000) hX dX4_ten_412 q1895 ?_
      refine s_ldivc hX dX4_ten_415 (by decide) ?_
      refine s_l2i hX dX4_ten_416 ?_
      refine s_istore (i := 10) (L2 := [(10, .int ((v44.toInt64 * v46.toInt64) / 10000).toInt32), (0, rv p0), (9, .int w41)]) hX dX4_ten_417 (by decide) rfl ?_
      refine s_aload_n hX dX4_ten_419 rfl 1 rfl ?_
      refine s_iload hX dX4_ten_420 2 rfl ?_
      refine s_iload hX dX4_ten_422 0 rfl ?_
      refine s_iconst (v := -1) hX dX4_ten_424 (by decide) ?_
      refine s_callV_U (ci := 4) (n := 3) (As := [.int w41, .int ((v44.toInt64 * v46.toInt64) / 10000).toInt32, .int (-1)]) (st := []) hX (pcK 5) (by decide) (ct_X4_goesOut X.l n p0 w41 (((v44.toInt64 * v46.toInt64) / 10000).toInt32) (-1 : Int32)) q1896 q1898 qs58 q91 q1899 yvX4_goesOut (by decide) rfl (by first | decide | simp [rv_cat, cat_i, cat_l]) dX4_ten_425 (fun _ => ?_)
      refine s_aload_n hX dX4_ten_428 rfl 1 rfl ?_
      refine s_getR (ci := 4) (j := 27) (ref := "WindGasModel") hX (pcG 4) in_X4 (Or.inl q1565) (by decide) (by decide) (by decide) rfl dX4_ten_429 (fun _ h9 => h9) (fun v47 => ?_)
      refine s_iload hX dX4_ten_432 2 rfl ?_
      refine s_dup2 hX dX4_ten_434 rfl (rv_cat _) ?_
      refine s_lald hX (pcA 1) dX4_ten_435 (fun v48 => ?_)
      refine s_iload hX dX4_ten_436 0 rfl ?_
      refine s_i2l hX dX4_ten_438 ?_
      refine s_ladd hX dX4_ten_439 ?_
      refine s_last hX (pcA 1) (pcB 1) dX4_ten_440 ?_
      refine s_aload_n hX dX4_ten_441 rfl 1 rfl ?_
      refine s_getR (ci := 4) (j := 17) (ref := "WindGasModel") hX (pcG 4) in_X4 (Or.inl q1555) (by decide) (by decide) (by decide) rfl dX4_ten_442 (fun _ h9 => h9) (fun v49 => ?_)
      refine s_bipush (v := 7) hX dX4_ten_445 (by decide) ?_
      refine s_dup2 hX dX4_ten_447 rfl (rv_cat _) ?_
      refine s_lald hX (pcA 1) dX4_ten_448 (fun v50 => ?_)
      refine s_iload hX dX4_ten_449 0 rfl ?_
      refine s_i2l hX dX4_ten_451 ?_
      refine s_ladd hX dX4_ten_452 ?_
      refine s_last hX (pcA 1) (pcB 1) dX4_ten_453 ?_
      refine s_iinc (k := 2) (v := (w41 + 1)) (L2 := [(9, .int (w41 + 1)), (10, .int ((v44.toInt64 * v46.toInt64) / 10000).toInt32), (0, rv p0)]) hX dX4_ten_454 rfl rfl (by decide) rfl ?_
      refine s_goto (tgt := 389) hX dX4_ten_457 (by decide) ?_
      exact s_sub [2, 0] rfl (ih389 (w41 + 1))
set_option maxHeartbeats 4000000 in
theorem s_lp_X4_ten_359 {X : Cx} (hX : Ok X Pic cX4_ten RX4 11 none 42 971) (hnh : Noh X) (n : Nat) (p0 : Nat) (v2 : Int32) (j386 : Unit → Act Unit) (hj386 : ∀ (u : Unit), Sim X cvU 386 [(0, rv p0)] [] (j386 u)) (q : Nat) : ∀ (w40 : Int32), Sim X cvU 359 [(0, rv p0), (1, .int v2), (9, .int w40)] [] (lp_X4_ten_359 n p0 v2 j386 q w40) := by
  induction q with
  | zero => intro w40; exact s_fail
  | succ q ih359 =>
    intro w40
    rw [lp_X4_ten_359]
    refine s_iload hX dX4_ten_359 2 rfl ?_
    refine s_aload_n hX dX4_ten_361 rfl 0 rfl ?_
    refine s_getI (ci := 4) (j := 2) (ref := "WindGasModel") hX (pcG 4) in_X4 (Or.inl q1540) (by decide) (by decide) (by decide) rfl dX4_ten_362 (fun _ h9 => h9) (fun v51 => ?_)
    refine s_icmp_ge (tgt := 386) hX dX4_ten_365 (by decide) ?_ ?_
    · exact s_sub [0] rfl (hj386 ())
    · refine s_aload_n hX dX4_ten_368 rfl 0 rfl ?_
      refine s_iload hX dX4_ten_369 2 rfl ?_
      refine s_aload_n hX dX4_ten_371 rfl 0 rfl ?_
      refine s_iload_n hX dX4_ten_372 rfl 1 rfl ?_
      refine s_iconst (v := 0) hX dX4_ten_373 rfl ?_
      refine s_callV_I (ci := 4) (n := 2) (As := [.int v2, .int 0]) (st := [.int w40, rv p0]) hX (pcK 5) (by decide) (ct_X4_tells X.l n p0 v2 (0 : Int32)) q1853 q1855 qs50 q91 q1856 yvX4_tells (by decide) rfl (by first | decide | simp [rv_cat, cat_i, cat_l]) dX4_ten_374 (fun v52 => ?_)
      refine s_callV_U (ci := 4) (n := 2) (As := [.int w40, .int v52]) (st := []) hX (pcK 5) (by decide) (ct_X4_tries X.l n p0 w40 v52) q1884 q1886 qs56 q91 q1887 yvX4_tries (by decide) rfl (by first | decide | simp [rv_cat, cat_i, cat_l]) dX4_ten_377 (fun _ => ?_)
      refine s_iinc (k := 2) (v := (w40 + 1)) (L2 := [(9, .int (w40 + 1)), (0, rv p0), (1, .int v2)]) hX dX4_ten_380 rfl rfl (by decide) rfl ?_
      refine s_goto (tgt := 359) hX dX4_ten_383 (by decide) ?_
      exact s_sub [1, 2, 0] rfl (ih359 (w40 + 1))
set_option maxHeartbeats 4000000 in
theorem s_lp_X4_ten_199 {X : Cx} (hX : Ok X Pic cX4_ten RX4 11 none 42 971) (hnh : Noh X) (n : Nat) (p0 : Nat) (v2 : Int32) (v11 : Int32) (v21 : Int32) (j255 : Int32 → Act Unit) (hj255 : ∀ (v26 : Int32), Sim X cvU 255 [(0, rv p0), (1, .int v2), (3, .int v11), (6, .int v21), (7, .int v26)] [] (j255 v26)) (q : Nat) : ∀ (w24 : Int32) (w25 : Int32), Sim X cvU 199 [(0, rv p0), (1, .int v2), (3, .int v11), (6, .int v21), (7, .int w24), (8, .int w25)] [] (lp_X4_ten_199 n p0 v2 v11 v21 j255 q w24 w25) := by
  induction q with
  | zero => intro w24 w25; exact s_fail
  | succ q ih199 =>
    intro w24 w25
    rw [lp_X4_ten_199]
    refine s_iload hX dX4_ten_199 5 rfl ?_
    refine s_aload_n hX dX4_ten_201 rfl 0 rfl ?_
    refine s_getI (ci := 4) (j := 1) (ref := "WindGasModel") hX (pcG 4) in_X4 (Or.inl q1539) (by decide) (by decide) (by decide) rfl dX4_ten_202 (fun _ h9 => h9) (fun v54 => ?_)
    refine s_icmp_ge (tgt := 255) hX dX4_ten_205 (by decide) ?_ ?_
    · exact s_sub [0, 1, 2, 3, 4] rfl (hj255 w24)
    · refine s_iload hX dX4_ten_208 3 rfl ?_
      refine s_aload_n hX dX4_ten_210 rfl 0 rfl ?_
      refine s_iload_n hX dX4_ten_211 rfl 1 rfl ?_
      refine s_iconst (v := 1) hX dX4_ten_212 rfl ?_
      refine s_callV_I (ci := 4) (n := 2) (As := [.int v2, .int 1]) (st := [.int v21]) hX (pcK 5) (by decide) (ct_X4_tells X.l n p0 v2 (1 : Int32)) q1853 q1855 qs50 q91 q1856 yvX4_tells (by decide) rfl (by first | decide | simp [rv_cat, cat_i, cat_l]) dX4_ten_213 (fun v55 => ?_)
      refine s_jn (P := fun j => ∀ (v56 : Int32), Sim X cvU 249 [(0, rv p0), (1, .int v2), (3, .int v11), (6, .int v21), (7, .int v56), (8, .int w25)] [] (j v56)) ?_ (fun j249 hj249 => ?_)
      · intro v56
        refine s_iinc (k := 5) (v := (w25 + 1)) (L2 := [(8, .int (w25 + 1)), (0, rv p0), (1, .int v2), (3, .int v11), (6, .int v21), (7, .int v56)]) hX dX4_ten_249 rfl rfl (by decide) rfl ?_
        refine s_goto (tgt := 199) hX dX4_ten_252 (by decide) ?_
        exact s_sub [1, 2, 3, 4, 5, 0] rfl (ih199 v56 (w25 + 1))
      · refine s_icmp_lt (tgt := 230) hX dX4_ten_216 (by decide) ?_ ?_
        · refine s_iload hX dX4_ten_230 4 rfl ?_
          refine s_aload_n hX dX4_ten_232 rfl 0 rfl ?_
          refine s_aload_n hX dX4_ten_233 rfl 0 rfl ?_
          refine s_getR (ci := 4) (j := 40) (ref := "WindGasModel") hX (pcG 4) in_X4 (Or.inl q1578) (by decide) (by decide) (by decide) rfl dX4_ten_234 (fun _ h9 => h9) (fun v57 => ?_)
          refine s_iload hX dX4_ten_237 5 rfl ?_
          refine s_iald hX (pcA 0) dX4_ten_239 (fun v58 => ?_)
          refine s_iload hX dX4_ten_240 4 rfl ?_
          refine s_iload_n hX dX4_ten_242 rfl 1 rfl ?_
          refine s_callV_I (ci := 4) (n := 3) (As := [.int v58, .int w24, .int v2]) (st := [.int w24]) hX (pcK 5) (by decide) (ct_X4_turns X.l n p0 v58 w24 v2) q1860 q1862 qs51 q91 q1863 yvX4_turns (by decide) rfl (by first | decide | simp [rv_cat, cat_i, cat_l]) dX4_ten_243 (fun v59 => ?_)
          refine s_isub hX dX4_ten_246 ?_
          refine s_istore (i := 7) (L2 := [(7, .int (w24 - v59)), (0, rv p0), (1, .int v2), (3, .int v11), (6, .int v21), (8, .int w25)]) hX dX4_ten_247 (by decide) rfl ?_
          exact s_sub [1, 2, 3, 4, 0, 5] rfl (hj249 (w24 - v59))
        · refine s_aload_n hX dX4_ten_219 rfl 0 rfl ?_
          refine s_getR (ci := 4) (j := 15) (ref := "WindGasModel") hX (pcG 4) in_X4 (Or.inl q1553) (by decide) (by decide) (by decide) rfl dX4_ten_220 (fun _ h9 => h9) (fun v60 => ?_)
          refine s_iload hX dX4_ten_223 5 rfl ?_
          refine s_iconst (v := 0) hX dX4_ten_225 rfl ?_
          refine s_zast hX (pcA 3) (pcB 3) dX4_ten_226 ?_
          refine s_goto (tgt := 249) hX dX4_ten_227 (by decide) ?_
          exact hj249 w24
set_option maxHeartbeats 4000000 in
theorem ct_X4_ten (l : Launch) (n : Nat) (p0 : Nat) : Ct l Pic yX4_ten (ws_ yX4_ten cX4_ten 11 none) 42 971 cvU [rv p0] (f_X4_ten n p0) := by
  refine Ct.of (own := RX4) (L := [(0, rv p0)]) (plainFor_of_name (by decide)) rfl (by first | decide | simp [lg_sl, rv_cat, cat_i, cat_l]) (by first | rfl | simp [lv_args, rv_cat, cat_i, cat_l]) pcZ (fun X hXl hX hnh hin => ?_)
  subst hXl
  unfold f_X4_ten
  refine s_aload_n hX dX4_ten_0 rfl 0 rfl ?_
  refine s_aload_n hX dX4_ten_1 rfl 0 rfl ?_
  refine s_getI (ci := 4) (j := 0) (ref := "WindGasModel") hX (pcG 4) in_X4 (Or.inl q1538) (by decide) (by decide) (by decide) rfl dX4_ten_2 (fun _ h9 => h9) (fun v1 => ?_)
  refine s_callV_I (ci := 4) (n := 1) (As := [.int v1]) (st := []) hX (pcK 5) (by decide) (ct_X4_inForce X.l n p0 v1) q1829 q1831 qs45 q91 q1832 yvX4_inForce (by decide) rfl (by first | decide | simp [rv_cat, cat_i, cat_l]) dX4_ten_5 (fun v2 => ?_)
  refine s_istore_n (i := 1) (L2 := [(1, .int v2), (0, rv p0)]) hX dX4_ten_8 rfl (by decide) (by first | (simp [rv_cat, cat_i, cat_l]; done) | (simp [rv_cat, cat_i, cat_l]; decide)) ?_
  refine s_aload_n hX dX4_ten_9 rfl 1 rfl ?_
  refine s_getI (ci := 4) (j := 0) (ref := "WindGasModel") hX (pcG 4) in_X4 (Or.inl q1538) (by decide) (by decide) (by decide) rfl dX4_ten_10 (fun _ h9 => h9) (fun v3 => ?_)
  refine s_bipush (v := 6) hX dX4_ten_13 (by decide) ?_
  refine s_idivc hX dX4_ten_15 (by decide) ?_
  refine s_istore_n (i := 2) (L2 := [(2, .int (v3 / 6)), (1, .int v2), (0, rv p0)]) hX dX4_ten_16 rfl (by decide) rfl ?_
  refine s_aload_n hX dX4_ten_17 rfl 2 rfl ?_
  refine s_iload_n hX dX4_ten_18 rfl 1 rfl ?_
  refine s_bipush (v := 7) hX dX4_ten_19 (by decide) ?_
  refine s_aload_n hX dX4_ten_21 rfl 2 rfl ?_
  refine s_getI (ci := 4) (j := 0) (ref := "WindGasModel") hX (pcG 4) in_X4 (Or.inl q1538) (by decide) (by decide) (by decide) rfl dX4_ten_22 (fun _ h9 => h9) (fun v4 => ?_)
  refine s_aload_n hX dX4_ten_25 rfl 2 rfl ?_
  refine s_getR (ci := 4) (j := 23) (ref := "WindGasModel") hX (pcG 4) in_X4 (Or.inl q1561) (by decide) (by decide) (by decide) rfl dX4_ten_26 (fun _ h9 => h9) (fun v5 => ?_)
  refine s_iconst (v := 0) hX dX4_ten_29 rfl ?_
  refine s_iald hX (pcA 0) dX4_ten_30 (fun v6 => ?_)
  refine s_aload_n hX dX4_ten_31 rfl 2 rfl ?_
  refine s_getR (ci := 4) (j := 23) (ref := "WindGasModel") hX (pcG 4) in_X4 (Or.inl q1561) (by decide) (by decide) (by decide) rfl dX4_ten_32 (fun _ h9 => h9) (fun v7 => ?_)
  refine s_iconst (v := 1) hX dX4_ten_35 rfl ?_
  refine s_iald hX (pcA 0) dX4_ten_36 (fun v8 => ?_)
  refine s_iadd hX dX4_ten_37 ?_
  refine s_aload_n hX dX4_ten_38 rfl 2 rfl ?_
  refine s_getI (ci := 4) (j := 19) (ref := "WindGasModel") hX (pcG 4) in_X4 (Or.inl q1557) (by decide) (by decide) (by decide) rfl dX4_ten_39 (fun _ h9 => h9) (fun v9 => ?_)
  refine s_aload_n hX dX4_ten_42 rfl 2 rfl ?_
  refine s_callV_I (ci := 4) (n := 0) (As := []) (st := [.int v9, .int (v6 + v8), .int v4, .int 7, .int v2, rv p0]) hX (pcK 5) (by decide) (ct_X4_runningNow X.l n p0) q1833 q1835 qs46 q91 q1836 yvX4_runningNow (by decide) rfl (by first | decide | simp [rv_cat, cat_i, cat_l]) dX4_ten_43 (fun v10 => ?_)
  refine s_callV_I (ci := 4) (n := 6) (As := [.int v2, .int 7, .int v4, .int (v6 + v8), .int v9, .int v10]) (st := []) hX (pcK 5) (by decide) (ct_X4_asks X.l n p0 v2 (7 : Int32) v4 (v6 + v8) v9 v10) q1840 q1842 qs47 q91 q1843 yvX4_asks (by decide) rfl (by first | decide | simp [rv_cat, cat_i, cat_l]) dX4_ten_46 (fun v11 => ?_)
  refine s_istore_n (i := 3) (L2 := [(3, .int v11), (2, .int (v3 / 6)), (1, .int v2), (0, rv p0)]) hX dX4_ten_49 rfl (by decide) rfl ?_
  refine s_aload_n hX dX4_ten_50 rfl 3 rfl ?_
  refine s_getI (ci := 4) (j := 0) (ref := "WindGasModel") hX (pcG 4) in_X4 (Or.inl q1538) (by decide) (by decide) (by decide) rfl dX4_ten_51 (fun _ h9 => h9) (fun v12 => ?_)
  refine s_bipush (v := 6) hX dX4_ten_54 (by decide) ?_
  refine s_iremc hX dX4_ten_56 (by decide) ?_
  refine s_iconst (v := 5) hX dX4_ten_57 rfl ?_
  refine s_jn (P := fun j => ∀ (u : Unit), Sim X cvU 100 [(0, rv p0), (1, .int v2), (3, .int v11)] [] (j u)) ?_ (fun j100 hj100 => ?_)
  · intro u
    refine s_aload_n hX dX4_ten_100 rfl 0 rfl ?_
    refine s_iconst (v := 2) hX dX4_ten_101 rfl ?_
    refine s_aload_n hX dX4_ten_102 rfl 0 rfl ?_
    refine s_getI (ci := 4) (j := 0) (ref := "WindGasModel") hX (pcG 4) in_X4 (Or.inl q1538) (by decide) (by decide) (by decide) rfl dX4_ten_103 (fun _ h9 => h9) (fun v13 => ?_)
    refine s_callV_I (ci := 4) (n := 2) (As := [.int 2, .int v13]) (st := []) hX (pcK 5) (by decide) (ct_X4_saidOf X.l n p0 (2 : Int32) v13) q1794 q1796 qs43 q91 q1797 yvX4_saidOf (by decide) rfl (by first | decide | simp [rv_cat, cat_i, cat_l]) dX4_ten_106 (fun v14 => ?_)
    refine s_istore (i := 4) (L2 := [(4, .int v14), (0, rv p0), (1, .int v2), (3, .int v11)]) hX dX4_ten_109 (by decide) rfl ?_
    refine s_iload hX dX4_ten_111 0 rfl ?_
    refine s_aload_n hX dX4_ten_113 rfl 1 rfl ?_
    refine s_getI (ci := 4) (j := 18) (ref := "WindGasModel") hX (pcG 4) in_X4 (Or.inl q1556) (by decide) (by decide) (by decide) rfl dX4_ten_114 (fun _ h9 => h9) (fun v15 => ?_)
    refine s_aload_n hX dX4_ten_117 rfl 1 rfl ?_
    refine s_getI (ci := 4) (j := 19) (ref := "WindGasModel") hX (pcG 4) in_X4 (Or.inl q1557) (by decide) (by decide) (by decide) rfl dX4_ten_118 (fun _ h9 => h9) (fun v16 => ?_)
    refine s_isub hX dX4_ten_121 ?_
    refine s_mmin hX q1848 q500 q95 q501 rfl (by omega) (by first | decide | (simp [rv_cat, cat_i, cat_l]; try omega)) dX4_ten_122 ?_
    refine s_istore (i := 5) (L2 := [(5, .int (mn v14 (v15 - v16))), (4, .int v14), (0, rv p0), (1, .int v2), (3, .int v11)]) hX dX4_ten_125 (by decide) rfl ?_
    refine s_aload_n hX dX4_ten_127 rfl 2 rfl ?_
    refine s_dup hX dX4_ten_128 (rv_cat _) ?_
    refine s_getI (ci := 4) (j := 19) (ref := "WindGasModel") hX (pcG 4) in_X4 (Or.inl q1557) (by decide) (by decide) (by decide) rfl dX4_ten_129 (fun _ h9 => h9) (fun v17 => ?_)
    refine s_iload hX dX4_ten_132 0 rfl ?_
    refine s_iadd hX dX4_ten_134 ?_
    refine s_putI (ci := 4) (j := 19) (ref := "WindGasModel") hX (pcG 4) (pcP 4) in_X4 tyX4_ok nmX4 (Or.inl q1557) (by decide) (by decide) (by decide) rfl rfl rfl dX4_ten_135 (fun _ h9 => h9) ?_
    refine s_aload_n hX dX4_ten_138 rfl 2 rfl ?_
    refine s_getR (ci := 4) (j := 17) (ref := "WindGasModel") hX (pcG 4) in_X4 (Or.inl q1555) (by decide) (by decide) (by decide) rfl dX4_ten_139 (fun _ h9 => h9) (fun v18 => ?_)
    refine s_bipush (v := 11) hX dX4_ten_142 (by decide) ?_
    refine s_dup2 hX dX4_ten_144 rfl (rv_cat _) ?_
    refine s_lald hX (pcA 1) dX4_ten_145 (fun v19 => ?_)
    refine s_iload hX dX4_ten_146 1 rfl ?_
    refine s_iload hX dX4_ten_148 0 rfl ?_
    refine s_isub hX dX4_ten_150 ?_
    refine s_i2l hX dX4_ten_151 ?_
    refine s_ladd hX dX4_ten_152 ?_
    refine s_last hX (pcA 1) (pcB 1) dX4_ten_153 ?_
    refine s_aload_n hX dX4_ten_154 rfl 2 rfl ?_
    refine s_iconst (v := 0) hX dX4_ten_155 rfl ?_
    refine s_aload_n hX dX4_ten_156 rfl 2 rfl ?_
    refine s_getI (ci := 4) (j := 0) (ref := "WindGasModel") hX (pcG 4) in_X4 (Or.inl q1538) (by decide) (by decide) (by decide) rfl dX4_ten_157 (fun _ h9 => h9) (fun v20 => ?_)
    refine s_callV_I (ci := 4) (n := 2) (As := [.int 0, .int v20]) (st := []) hX (pcK 5) (by decide) (ct_X4_saidOf X.l n p0 (0 : Int32) v20) q1794 q1796 qs43 q91 q1797 yvX4_saidOf (by decide) rfl (by first | decide | simp [rv_cat, cat_i, cat_l]) dX4_ten_160 (fun v21 => ?_)
    refine s_istore (i := 6) (L2 := [(6, .int v21), (5, .int (mn v14 (v15 - v16))), (4, .int v14), (0, rv p0), (1, .int v2), (3, .int v11)]) hX dX4_ten_163 (by decide) rfl ?_
    refine s_iload hX dX4_ten_165 0 rfl ?_
    refine s_istore (i := 7) (L2 := [(7, .int v21), (6, .int v21), (5, .int (mn v14 (v15 - v16))), (4, .int v14), (0, rv p0), (1, .int v2), (3, .int v11)]) hX dX4_ten_167 (by decide) rfl ?_
    refine s_aload_n hX dX4_ten_169 rfl 4 rfl ?_
    refine s_getR (ci := 4) (j := 17) (ref := "WindGasModel") hX (pcG 4) in_X4 (Or.inl q1555) (by decide) (by decide) (by decide) rfl dX4_ten_170 (fun _ h9 => h9) (fun v22 => ?_)
    refine s_iconst (v := 0) hX dX4_ten_173 rfl ?_
    refine s_dup2 hX dX4_ten_174 rfl (rv_cat _) ?_
    refine s_lald hX (pcA 1) dX4_ten_175 (fun v23 => ?_)
    refine s_iload hX dX4_ten_176 1 rfl ?_
    refine s_i2l hX dX4_ten_178 ?_
    refine s_ladd hX dX4_ten_179 ?_
    refine s_last hX (pcA 1) (pcB 1) dX4_ten_180 ?_
    refine s_aload_n hX dX4_ten_181 rfl 4 rfl ?_
    refine s_iconst (v := 0) hX dX4_ten_182 rfl ?_
    refine s_putI (ci := 4) (j := 44) (ref := "WindGasModel") hX (pcG 4) (pcP 4) in_X4 tyX4_ok nmX4 (Or.inl q1582) (by decide) (by decide) (by decide) rfl rfl rfl dX4_ten_183 (fun _ h9 => h9) ?_
    refine s_aload_n hX dX4_ten_186 rfl 4 rfl ?_
    refine s_iconst (v := 0) hX dX4_ten_187 rfl ?_
    refine s_putI (ci := 4) (j := 45) (ref := "WindGasModel") hX (pcG 4) (pcP 4) in_X4 tyX4_ok nmX4 (Or.inl q1583) (by decide) (by decide) (by decide) rfl rfl rfl dX4_ten_188 (fun _ h9 => h9) ?_
    refine s_aload_n hX dX4_ten_191 rfl 4 rfl ?_
    refine s_iload_n hX dX4_ten_192 rfl 5 rfl ?_
    refine s_callV_U (ci := 4) (n := 1) (As := [.int v2]) (st := []) hX (pcK 5) (by decide) (ct_X4_orders X.l n p0 v2) q1849 q1851 qs49 q91 q1852 yvX4_orders (by decide) rfl (by first | decide | simp [rv_cat, cat_i, cat_l]) dX4_ten_193 (fun _ => ?_)
    refine s_iconst (v := 0) hX dX4_ten_196 rfl ?_
    refine s_istore (i := 8) (L2 := [(8, .int 0), (7, .int v21), (6, .int v21), (5, .int (mn v14 (v15 - v16))), (4, .int v14), (0, rv p0), (1, .int v2), (3, .int v11)]) hX dX4_ten_197 (by decide) rfl ?_
    refine s_jn (P := fun j => ∀ (v26 : Int32), Sim X cvU 255 [(0, rv p0), (1, .int v2), (3, .int v11), (6, .int v21), (7, .int v26)] [] (j v26)) ?_ (fun j255 hj255 => ?_)
    · intro v26
      refine s_aload_n hX dX4_ten_255 rfl 0 rfl ?_
      refine s_getR (ci := 4) (j := 17) (ref := "WindGasModel") hX (pcG 4) in_X4 (Or.inl q1555) (by decide) (by decide) (by decide) rfl dX4_ten_256 (fun _ h9 => h9) (fun v27 => ?_)
      refine s_iconst (v := 1) hX dX4_ten_259 rfl ?_
      refine s_dup2 hX dX4_ten_260 rfl (rv_cat _) ?_
      refine s_lald hX (pcA 1) dX4_ten_261 (fun v28 => ?_)
      refine s_iload hX dX4_ten_262 3 rfl ?_
      refine s_iload hX dX4_ten_264 4 rfl ?_
      refine s_isub hX dX4_ten_266 ?_
      refine s_i2l hX dX4_ten_267 ?_
      refine s_ladd hX dX4_ten_268 ?_
      refine s_last hX (pcA 1) (pcB 1) dX4_ten_269 ?_
      refine s_aload_n hX dX4_ten_270 rfl 0 rfl ?_
      refine s_callV_U (ci := 4) (n := 0) (As := []) (st := []) hX (pcK 5) (by decide) (ct_X4_stores X.l p0) q1873 q1875 qs54 q91 q1876 yvX4_stores (by decide) rfl (by first | decide | simp [rv_cat, cat_i, cat_l]) dX4_ten_271 (fun _ => ?_)
      refine s_iload_n hX dX4_ten_274 rfl 2 rfl ?_
      refine s_jn (P := fun j => ∀ (v29 : Int32), Sim X cvU 293 [(0, rv p0), (1, .int v2), (7, .int v26)] [.int v29] (j v29)) ?_ (fun j293 hj293 => ?_)
      · intro v29
        refine s_istore (i := 8) (L2 := [(8, .int v29), (0, rv p0), (1, .int v2), (7, .int v26)]) hX dX4_ten_293 (by decide) rfl ?_
        refine s_aload_n hX dX4_ten_295 rfl 1 rfl ?_
        refine s_getR (ci := 4) (j := 17) (ref := "WindGasModel") hX (pcG 4) in_X4 (Or.inl q1555) (by decide) (by decide) (by decide) rfl dX4_ten_296 (fun _ h9 => h9) (fun v30 => ?_)
        refine s_iconst (v := 2) hX dX4_ten_299 rfl ?_
        refine s_dup2 hX dX4_ten_300 rfl (rv_cat _) ?_
        refine s_lald hX (pcA 1) dX4_ten_301 (fun v31 => ?_)
        refine s_iload hX dX4_ten_302 0 rfl ?_
        refine s_i2l hX dX4_ten_304 ?_
        refine s_ladd hX dX4_ten_305 ?_
        refine s_last hX (pcA 1) (pcB 1) dX4_ten_306 ?_
        refine s_aload_n hX dX4_ten_307 rfl 1 rfl ?_
        refine s_getR (ci := 4) (j := 17) (ref := "WindGasModel") hX (pcG 4) in_X4 (Or.inl q1555) (by decide) (by decide) (by decide) rfl dX4_ten_308 (fun _ h9 => h9) (fun v32 => ?_)
        refine s_iconst (v := 3) hX dX4_ten_311 rfl ?_
        refine s_dup2 hX dX4_ten_312 rfl (rv_cat _) ?_
        refine s_lald hX (pcA 1) dX4_ten_313 (fun v33 => ?_)
        refine s_iload hX dX4_ten_314 3 rfl ?_
        refine s_iload hX dX4_ten_316 0 rfl ?_
        refine s_isub hX dX4_ten_318 ?_
        refine s_i2l hX dX4_ten_319 ?_
        refine s_ladd hX dX4_ten_320 ?_
        refine s_last hX (pcA 1) (pcB 1) dX4_ten_321 ?_
        refine s_aload_n hX dX4_ten_322 rfl 1 rfl ?_
        refine s_getR (ci := 4) (j := 17) (ref := "WindGasModel") hX (pcG 4) in_X4 (Or.inl q1555) (by decide) (by decide) (by decide) rfl dX4_ten_323 (fun _ h9 => h9) (fun v34 => ?_)
        refine s_bipush (v := 12) hX dX4_ten_326 (by decide) ?_
        refine s_dup2 hX dX4_ten_328 rfl (rv_cat _) ?_
        refine s_lald hX (pcA 1) dX4_ten_329 (fun v35 => ?_)
        refine s_iload hX dX4_ten_330 0 rfl ?_
        refine s_i2l hX dX4_ten_332 ?_
        refine s_aload_n hX dX4_ten_333 rfl 1 rfl ?_
        refine s_iconst (v := 1) hX dX4_ten_334 rfl ?_
        refine s_aload_n hX dX4_ten_335 rfl 1 rfl ?_
        refine s_getI (ci := 4) (j := 0) (ref := "WindGasModel") hX (pcG 4) in_X4 (Or.inl q1538) (by decide) (by decide) (by decide) rfl dX4_ten_336 (fun _ h9 => h9) (fun v36 => ?_)
        refine s_callV_I (ci := 4) (n := 2) (As := [.int 1, .int v36]) (st := [.long v29.toInt64, .long v35, .int 12, rv v34]) hX (pcK 5) (by decide) (ct_X4_saidOf X.l n p0 (1 : Int32) v36) q1794 q1796 qs43 q91 q1797 yvX4_saidOf (by decide) rfl (by first | decide | simp [rv_cat, cat_i, cat_l]) dX4_ten_339 (fun v37 => ?_)
        refine s_i2l hX dX4_ten_342 ?_
        refine s_lmul hX dX4_ten_343 ?_
        refine s_ladd hX dX4_ten_344 ?_
        refine s_last hX (pcA 1) (pcB 1) dX4_ten_345 ?_
        refine s_aload_n hX dX4_ten_346 rfl 1 rfl ?_
        refine s_aload_n hX dX4_ten_347 rfl 1 rfl ?_
        refine s_getR (ci := 4) (j := 22) (ref := "WindGasModel") hX (pcG 4) in_X4 (Or.inl q1560) (by decide) (by decide) (by decide) rfl dX4_ten_348 (fun _ h9 => h9) (fun v38 => ?_)
        refine s_iconst (v := 1) hX dX4_ten_351 rfl ?_
        refine s_iald hX (pcA 0) dX4_ten_352 (fun v39 => ?_)
        refine s_putI (ci := 4) (j := 39) (ref := "WindGasModel") hX (pcG 4) (pcP 4) in_X4 tyX4_ok nmX4 (Or.inl q1577) (by decide) (by decide) (by decide) rfl rfl rfl dX4_ten_353 (fun _ h9 => h9) ?_
        refine s_iconst (v := 0) hX dX4_ten_356 rfl ?_
        refine s_istore (i := 9) (L2 := [(9, .int 0), (8, .int v29), (0, rv p0), (1, .int v2), (7, .int v26)]) hX dX4_ten_357 (by decide) rfl ?_
        refine s_jn (P := fun j => ∀ (u : Unit), Sim X cvU 386 [(0, rv p0)] [] (j u)) ?_ (fun j386 hj386 => ?_)
        · intro u
          refine s_iconst (v := 0) hX dX4_ten_386 rfl ?_
          refine s_istore (i := 9) (L2 := [(9, .int 0), (0, rv p0)]) hX dX4_ten_387 (by decide) rfl ?_
          refine s_jn (P := fun j => ∀ (u : Unit), Sim X cvU 460 [(0, rv p0)] [] (j u)) ?_ (fun j460 hj460 => ?_)
          · intro u
            refine s_aload_n hX dX4_ten_460 rfl 0 rfl ?_
            refine s_dup hX dX4_ten_461 (rv_cat _) ?_
            refine s_getI (ci := 4) (j := 0) (ref := "WindGasModel") hX (pcG 4) in_X4 (Or.inl q1538) (by decide) (by decide) (by decide) rfl dX4_ten_462 (fun _ h9 => h9) (fun v42 => ?_)
            refine s_iconst (v := 1) hX dX4_ten_465 rfl ?_
            refine s_iadd hX dX4_ten_466 ?_
            refine s_putI (ci := 4) (j := 0) (ref := "WindGasModel") hX (pcG 4) (pcP 4) in_X4 tyX4_ok nmX4 (Or.inl q1538) (by decide) (by decide) (by decide) rfl rfl rfl dX4_ten_467 (fun _ h9 => h9) ?_
            exact s_vret hX dX4_ten_470
          · exact s_sub [1, 0] rfl (s_lp_X4_ten_389 hX hnh n p0 j460 hj460 n 0)
        · exact s_sub [2, 3, 0] rfl (s_lp_X4_ten_359 hX hnh n p0 v2 j386 hj386 n 0)
      · refine s_if_eq (tgt := 292) hX dX4_ten_275 (by decide) ?_ ?_
        · refine s_iconst (v := 0) hX dX4_ten_292 rfl ?_
          exact s_sub [0, 1, 4] rfl (hj293 0)
        · refine s_iload hX dX4_ten_278 4 rfl ?_
          refine s_aload_n hX dX4_ten_280 rfl 0 rfl ?_
          refine s_iload_n hX dX4_ten_281 rfl 1 rfl ?_
          refine s_iconst (v := 4) hX dX4_ten_282 rfl ?_
          refine s_callV_I (ci := 4) (n := 2) (As := [.int v2, .int 4]) (st := [.int v26]) hX (pcK 5) (by decide) (ct_X4_tells X.l n p0 v2 (4 : Int32)) q1853 q1855 qs50 q91 q1856 yvX4_tells (by decide) rfl (by first | decide | simp [rv_cat, cat_i, cat_l]) dX4_ten_283 (fun v53 => ?_)
          refine s_mmin hX q1848 q500 q95 q501 rfl (by omega) (by first | decide | (simp [rv_cat, cat_i, cat_l]; try omega)) dX4_ten_286 ?_
          refine s_goto (tgt := 293) hX dX4_ten_289 (by decide) ?_
          exact s_sub [0, 1, 4] rfl (hj293 (mn v26 v53))
    · exact s_sub [5, 6, 7, 2, 1, 0] rfl (s_lp_X4_ten_199 hX hnh n p0 v2 v11 v21 j255 hj255 n v21 0)
  · refine s_icmp_ne (tgt := 100) hX dX4_ten_58 (by decide) ?_ ?_
    · exact s_sub [3, 2, 0] rfl (hj100 ())
    · refine s_aload_n hX dX4_ten_61 rfl 3 rfl ?_
      refine s_getR (ci := 4) (j := 41) (ref := "WindGasModel") hX (pcG 4) in_X4 (Or.inl q1579) (by decide) (by decide) (by decide) rfl dX4_ten_62 (fun _ h9 => h9) (fun v61 => ?_)
      refine s_iload_n hX dX4_ten_65 rfl 1 rfl ?_
      refine s_aload_n hX dX4_ten_66 rfl 3 rfl ?_
      refine s_getR (ci := 4) (j := 23) (ref := "WindGasModel") hX (pcG 4) in_X4 (Or.inl q1561) (by decide) (by decide) (by decide) rfl dX4_ten_67 (fun _ h9 => h9) (fun v62 => ?_)
      refine s_iconst (v := 0) hX dX4_ten_70 rfl ?_
      refine s_iald hX (pcA 0) dX4_ten_71 (fun v63 => ?_)
      refine s_aload_n hX dX4_ten_72 rfl 3 rfl ?_
      refine s_getR (ci := 4) (j := 23) (ref := "WindGasModel") hX (pcG 4) in_X4 (Or.inl q1561) (by decide) (by decide) (by decide) rfl dX4_ten_73 (fun _ h9 => h9) (fun v64 => ?_)
      refine s_iconst (v := 1) hX dX4_ten_76 rfl ?_
      refine s_iald hX (pcA 0) dX4_ten_77 (fun v65 => ?_)
      refine s_iadd hX dX4_ten_78 ?_
      refine s_iast hX (pcA 0) (pcB 0) dX4_ten_79 ?_
      refine s_aload_n hX dX4_ten_80 rfl 3 rfl ?_
      refine s_getR (ci := 4) (j := 42) (ref := "WindGasModel") hX (pcG 4) in_X4 (Or.inl q1580) (by decide) (by decide) (by decide) rfl dX4_ten_81 (fun _ h9 => h9) (fun v66 => ?_)
      refine s_iload_n hX dX4_ten_84 rfl 1 rfl ?_
      refine s_aload_n hX dX4_ten_85 rfl 3 rfl ?_
      refine s_getI (ci := 4) (j := 19) (ref := "WindGasModel") hX (pcG 4) in_X4 (Or.inl q1557) (by decide) (by decide) (by decide) rfl dX4_ten_86 (fun _ h9 => h9) (fun v67 => ?_)
      refine s_iast hX (pcA 0) (pcB 0) dX4_ten_89 ?_
      refine s_aload_n hX dX4_ten_90 rfl 3 rfl ?_
      refine s_getR (ci := 4) (j := 43) (ref := "WindGasModel") hX (pcG 4) in_X4 (Or.inl q1581) (by decide) (by decide) (by decide) rfl dX4_ten_91 (fun _ h9 => h9) (fun v68 => ?_)
      refine s_iload_n hX dX4_ten_94 rfl 1 rfl ?_
      refine s_aload_n hX dX4_ten_95 rfl 3 rfl ?_
      refine s_callV_I (ci := 4) (n := 0) (As := []) (st := [.int (v3 / 6), rv v68]) hX (pcK 5) (by decide) (ct_X4_runningNow X.l n p0) q1833 q1835 qs46 q91 q1836 yvX4_runningNow (by decide) rfl (by first | decide | simp [rv_cat, cat_i, cat_l]) dX4_ten_96 (fun v69 => ?_)
      refine s_iast hX (pcA 0) (pcB 0) dX4_ten_99 ?_
      exact s_sub [3, 2, 0] rfl (hj100 ())
theorem dX4_pass_0 : decode cX4_pass 0 = .ok (.iload_n 1, 1) := by decide +kernel
theorem dX4_pass_1 : decode cX4_pass 1 = .ok (.iconst 1, 1) := by decide +kernel
theorem dX4_pass_2 : decode cX4_pass 2 = .ok (.sipush 200, 3) := by decide +kernel
theorem dX4_pass_5 : decode cX4_pass 5 = .ok (.invokestatic 198, 3) := by decide +kernel
theorem dX4_pass_8 : decode cX4_pass 8 = .ok (.ifCond .eq 15, 3) := by decide +kernel
theorem dX4_pass_11 : decode cX4_pass 11 = .ok (.aload_n 0, 1) := by decide +kernel
theorem dX4_pass_12 : decode cX4_pass 12 = .ok (.getfield 229, 3) := by decide +kernel
theorem dX4_pass_15 : decode cX4_pass 15 = .ok (.sipush 4999, 3) := by decide +kernel
theorem dX4_pass_18 : decode cX4_pass 18 = .ok (.iload_n 1, 1) := by decide +kernel
theorem dX4_pass_19 : decode cX4_pass 19 = .ok (.isub, 1) := by decide +kernel
theorem dX4_pass_20 : decode cX4_pass 20 = .ok (.if_icmp .le 5, 3) := by decide +kernel
theorem dX4_pass_23 : decode cX4_pass 23 = .ok (.iconst (-1), 1) := by decide +kernel
theorem dX4_pass_24 : decode cX4_pass 24 = .ok (.ireturn, 1) := by decide +kernel
theorem dX4_pass_25 : decode cX4_pass 25 = .ok (.iconst 0, 1) := by decide +kernel
theorem dX4_pass_26 : decode cX4_pass 26 = .ok (.istore_n 2, 1) := by decide +kernel
theorem dX4_pass_27 : decode cX4_pass 27 = .ok (.iload_n 2, 1) := by decide +kernel
theorem dX4_pass_28 : decode cX4_pass 28 = .ok (.iload_n 1, 1) := by decide +kernel
theorem dX4_pass_29 : decode cX4_pass 29 = .ok (.if_icmp .ge 13, 3) := by decide +kernel
theorem dX4_pass_32 : decode cX4_pass 32 = .ok (.aload_n 0, 1) := by decide +kernel
theorem dX4_pass_33 : decode cX4_pass 33 = .ok (.invokevirtual 311, 3) := by decide +kernel
theorem dX4_pass_36 : decode cX4_pass 36 = .ok (.iinc 2 1, 3) := by decide +kernel
theorem dX4_pass_39 : decode cX4_pass 39 = .ok (.goto (-12), 3) := by decide +kernel
theorem dX4_pass_42 : decode cX4_pass 42 = .ok (.aload_n 0, 1) := by decide +kernel
theorem dX4_pass_43 : decode cX4_pass 43 = .ok (.getfield 229, 3) := by decide +kernel
theorem dX4_pass_46 : decode cX4_pass 46 = .ok (.ireturn, 1) := by decide +kernel
theorem ycX4_pass : yX4_pass.cls ≠ "java/lang/invoke/MethodHandle" ∧ yX4_pass.cls ≠ "java/lang/invoke/VarHandle" ∧ (parseMethodDescriptor yX4_pass.desc).map (fun d => d.parameters.length) = some 1 := by decide +kernel
theorem yvX4_pass : yX4_pass.cls = RR 4 ∧ yX4_pass.cls ≠ "java/lang/invoke/MethodHandle" ∧ yX4_pass.cls ≠ "java/lang/invoke/VarHandle" ∧ (parseMethodDescriptor yX4_pass.desc).map (fun d => d.parameters.length) = some 1 := ⟨rfl, ycX4_pass⟩
def lp_X4_pass_27 (n : Nat) (p0 : Nat) (p1 : Int32) (q : Nat) : Int32 → Act Int32 := match q with
  | 0 => fun _ => fail
  | q + 1 => fun w3 =>
    if p1 ≤ w3 then
      bnd (getI 4 0 p0) fun v4 =>
      pur v4
    else
      bnd (gd 4 p0 (nt (f_X4_ten n p0))) fun _ =>
      (lp_X4_pass_27 n p0 p1 q) (w3 + 1)
def f_X4_pass (n : Nat) (p0 : Nat) (p1 : Int32) : Act Int32 :=
  bnd (nt (f_X4_isIn p1 (1 : Int32) (200 : Int32))) fun v1 =>
  jn (fun (_ : Unit) =>
    pur (-1)) fun j23 =>
  if v1 = 0 then
    j23 ()
  else
    bnd (getI 4 0 p0) fun v2 =>
    if v2 ≤ (4999 - p1) then
      lp_X4_pass_27 n p0 p1 n 0
    else
      j23 ()
set_option maxHeartbeats 4000000 in
theorem s_lp_X4_pass_27 {X : Cx} (hX : Ok X Pic cX4_pass RX4 3 (some FieldType.int) 43 1001) (hnh : Noh X) (n : Nat) (p0 : Nat) (p1 : Int32) (q : Nat) : ∀ (w3 : Int32), Sim X cvI 27 [(0, rv p0), (1, .int p1), (2, .int w3)] [] (lp_X4_pass_27 n p0 p1 q w3) := by
  induction q with
  | zero => intro w3; exact s_fail
  | succ q ih27 =>
    intro w3
    rw [lp_X4_pass_27]
    refine s_iload_n hX dX4_pass_27 rfl 2 rfl ?_
    refine s_iload_n hX dX4_pass_28 rfl 1 rfl ?_
    refine s_icmp_ge (tgt := 42) hX dX4_pass_29 (by decide) ?_ ?_
    · refine s_aload_n hX dX4_pass_42 rfl 0 rfl ?_
      refine s_getI (ci := 4) (j := 0) (ref := "WindGasModel") hX (pcG 4) in_X4 (Or.inl q1538) (by decide) (by decide) (by decide) rfl dX4_pass_43 (fun _ h9 => h9) (fun v4 => ?_)
      exact s_iret hX dX4_pass_46
    · refine s_aload_n hX dX4_pass_32 rfl 0 rfl ?_
      refine s_callV_U (ci := 4) (n := 0) (As := []) (st := []) hX (pcK 5) (by decide) (ct_X4_ten X.l n p0) q1825 q1827 qs44 q91 q1828 yvX4_ten (by decide) rfl (by first | decide | simp [rv_cat, cat_i, cat_l]) dX4_pass_33 (fun _ => ?_)
      refine s_iinc (k := 2) (v := (w3 + 1)) (L2 := [(2, .int (w3 + 1)), (0, rv p0), (1, .int p1)]) hX dX4_pass_36 rfl rfl (by decide) rfl ?_
      refine s_goto (tgt := 27) hX dX4_pass_39 (by decide) ?_
      exact s_sub [1, 2, 0] rfl (ih27 (w3 + 1))
set_option maxHeartbeats 4000000 in
theorem ct_X4_pass (l : Launch) (n : Nat) (p0 : Nat) (p1 : Int32) : Ct l Pic yX4_pass (ws_ yX4_pass cX4_pass 3 (some FieldType.int)) 43 1001 cvI [rv p0, .int p1] (f_X4_pass n p0 p1) := by
  refine Ct.of (own := RX4) (L := [(0, rv p0), (1, .int p1)]) (plainFor_of_name (by decide)) rfl (by first | decide | simp [lg_sl, rv_cat, cat_i, cat_l]) (by first | rfl | simp [lv_args, rv_cat, cat_i, cat_l]) pcZ (fun X hXl hX hnh hin => ?_)
  subst hXl
  unfold f_X4_pass
  refine s_iload_n hX dX4_pass_0 rfl 1 rfl ?_
  refine s_iconst (v := 1) hX dX4_pass_1 rfl ?_
  refine s_sipush (v := 200) hX dX4_pass_2 (by decide) ?_
  refine s_callS_I (n := 3) (As := [.int p1, .int 1, .int 200]) (st := []) hX (ct_X4_isIn X.l p1 (1 : Int32) (200 : Int32)) q1781 q1782 q91 q1783 ycX4_isIn (by decide) rfl (by first | decide | simp [rv_cat, cat_i, cat_l]) dX4_pass_5 (fun v1 => ?_)
  refine s_jn (P := fun j => ∀ (u : Unit), Sim X cvI 23 [] [] (j u)) ?_ (fun j23 hj23 => ?_)
  · intro u
    refine s_iconst (v := -1) hX dX4_pass_23 (by decide) ?_
    exact s_iret hX dX4_pass_24
  · refine s_if_eq (tgt := 23) hX dX4_pass_8 (by decide) ?_ ?_
    · exact s_sub [] rfl (hj23 ())
    · refine s_aload_n hX dX4_pass_11 rfl 0 rfl ?_
      refine s_getI (ci := 4) (j := 0) (ref := "WindGasModel") hX (pcG 4) in_X4 (Or.inl q1538) (by decide) (by decide) (by decide) rfl dX4_pass_12 (fun _ h9 => h9) (fun v2 => ?_)
      refine s_sipush (v := 4999) hX dX4_pass_15 (by decide) ?_
      refine s_iload_n hX dX4_pass_18 rfl 1 rfl ?_
      refine s_isub hX dX4_pass_19 ?_
      refine s_icmp_le (tgt := 25) hX dX4_pass_20 (by decide) ?_ ?_
      · refine s_iconst (v := 0) hX dX4_pass_25 rfl ?_
        refine s_istore_n (i := 2) (L2 := [(2, .int 0), (0, rv p0), (1, .int p1)]) hX dX4_pass_26 rfl (by decide) rfl ?_
        exact s_sub [1, 2, 0] rfl (s_lp_X4_pass_27 hX hnh n p0 p1 n 0)
      · exact s_sub [] rfl (hj23 ())
theorem dX4_isStack_0 : decode cX4_isStack 0 = .ok (.iload_n 1, 1) := by decide +kernel
theorem dX4_isStack_1 : decode cX4_isStack 1 = .ok (.iconst 0, 1) := by decide +kernel
theorem dX4_isStack_2 : decode cX4_isStack 2 = .ok (.aload_n 0, 1) := by decide +kernel
theorem dX4_isStack_3 : decode cX4_isStack 3 = .ok (.getfield 215, 3) := by decide +kernel
theorem dX4_isStack_6 : decode cX4_isStack 6 = .ok (.iconst 1, 1) := by decide +kernel
theorem dX4_isStack_7 : decode cX4_isStack 7 = .ok (.isub, 1) := by decide +kernel
theorem dX4_isStack_8 : decode cX4_isStack 8 = .ok (.invokestatic 198, 3) := by decide +kernel
theorem dX4_isStack_11 : decode cX4_isStack 11 = .ok (.ireturn, 1) := by decide +kernel
theorem ycX4_isStack : yX4_isStack.cls ≠ "java/lang/invoke/MethodHandle" ∧ yX4_isStack.cls ≠ "java/lang/invoke/VarHandle" ∧ (parseMethodDescriptor yX4_isStack.desc).map (fun d => d.parameters.length) = some 1 := by decide +kernel
theorem yvX4_isStack : yX4_isStack.cls = RR 4 ∧ yX4_isStack.cls ≠ "java/lang/invoke/MethodHandle" ∧ yX4_isStack.cls ≠ "java/lang/invoke/VarHandle" ∧ (parseMethodDescriptor yX4_isStack.desc).map (fun d => d.parameters.length) = some 1 := ⟨rfl, ycX4_isStack⟩
def f_X4_isStack (p0 : Nat) (p1 : Int32) : Act Int32 :=
  bnd (getI 4 1 p0) fun v1 =>
  bnd (nt (f_X4_isIn p1 (0 : Int32) (v1 - 1))) fun v2 =>
  purS (ty := .boolean) v2
set_option maxHeartbeats 4000000 in
theorem ct_X4_isStack (l : Launch) (p0 : Nat) (p1 : Int32) : Ct l Pic yX4_isStack (ws_ yX4_isStack cX4_isStack 2 (some FieldType.boolean)) 1 22 cvI [rv p0, .int p1] (f_X4_isStack p0 p1) := by
  refine Ct.of (own := RX4) (L := [(0, rv p0), (1, .int p1)]) (plainFor_of_name (by decide)) rfl (by first | decide | simp [lg_sl, rv_cat, cat_i, cat_l]) (by first | rfl | simp [lv_args, rv_cat, cat_i, cat_l]) pcZ (fun X hXl hX hnh hin => ?_)
  subst hXl
  unfold f_X4_isStack
  refine s_iload_n hX dX4_isStack_0 rfl 1 rfl ?_
  refine s_iconst (v := 0) hX dX4_isStack_1 rfl ?_
  refine s_aload_n hX dX4_isStack_2 rfl 0 rfl ?_
  refine s_getI (ci := 4) (j := 1) (ref := "WindGasModel") hX (pcG 4) in_X4 (Or.inl q1539) (by decide) (by decide) (by decide) rfl dX4_isStack_3 (fun _ h9 => h9) (fun v1 => ?_)
  refine s_iconst (v := 1) hX dX4_isStack_6 rfl ?_
  refine s_isub hX dX4_isStack_7 ?_
  refine s_callS_I (n := 3) (As := [.int p1, .int 0, .int (v1 - 1)]) (st := []) hX (ct_X4_isIn X.l p1 (0 : Int32) (v1 - 1)) q1781 q1782 q91 q1783 ycX4_isIn (by decide) rfl (by first | decide | simp [rv_cat, cat_i, cat_l]) dX4_isStack_8 (fun v2 => ?_)
  exact s_zret hX dX4_isStack_11
theorem dX4_stackOf_0 : decode cX4_stackOf 0 = .ok (.aload_n 0, 1) := by decide +kernel
theorem dX4_stackOf_1 : decode cX4_stackOf 1 = .ok (.iload_n 1, 1) := by decide +kernel
theorem dX4_stackOf_2 : decode cX4_stackOf 2 = .ok (.invokevirtual 314, 3) := by decide +kernel
theorem dX4_stackOf_5 : decode cX4_stackOf 5 = .ok (.ifCond .ne 7, 3) := by decide +kernel
theorem dX4_stackOf_8 : decode cX4_stackOf 8 = .ok (.ldc2_w 317, 3) := by decide +kernel
theorem dX4_stackOf_11 : decode cX4_stackOf 11 = .ok (.lreturn, 1) := by decide +kernel
theorem dX4_stackOf_12 : decode cX4_stackOf 12 = .ok (.iload_n 2, 1) := by decide +kernel
theorem dX4_stackOf_13 : decode cX4_stackOf 13 = .ok (.tableswitch 138 0 6 #[43, 51, 59, 70, 108, 116, 123], 43) := by decide +kernel
theorem dX4_stackOf_56 : decode cX4_stackOf 56 = .ok (.aload_n 0, 1) := by decide +kernel
theorem dX4_stackOf_57 : decode cX4_stackOf 57 = .ok (.getfield 22, 3) := by decide +kernel
theorem dX4_stackOf_60 : decode cX4_stackOf 60 = .ok (.iload_n 1, 1) := by decide +kernel
theorem dX4_stackOf_61 : decode cX4_stackOf 61 = .ok (.iaload, 1) := by decide +kernel
theorem dX4_stackOf_62 : decode cX4_stackOf 62 = .ok (.i2l, 1) := by decide +kernel
theorem dX4_stackOf_63 : decode cX4_stackOf 63 = .ok (.lreturn, 1) := by decide +kernel
theorem dX4_stackOf_64 : decode cX4_stackOf 64 = .ok (.aload_n 0, 1) := by decide +kernel
theorem dX4_stackOf_65 : decode cX4_stackOf 65 = .ok (.getfield 31, 3) := by decide +kernel
theorem dX4_stackOf_68 : decode cX4_stackOf 68 = .ok (.iload_n 1, 1) := by decide +kernel
theorem dX4_stackOf_69 : decode cX4_stackOf 69 = .ok (.iaload, 1) := by decide +kernel
theorem dX4_stackOf_70 : decode cX4_stackOf 70 = .ok (.i2l, 1) := by decide +kernel
theorem dX4_stackOf_71 : decode cX4_stackOf 71 = .ok (.lreturn, 1) := by decide +kernel
theorem dX4_stackOf_72 : decode cX4_stackOf 72 = .ok (.aload_n 0, 1) := by decide +kernel
theorem dX4_stackOf_73 : decode cX4_stackOf 73 = .ok (.getfield 43, 3) := by decide +kernel
theorem dX4_stackOf_76 : decode cX4_stackOf 76 = .ok (.iload_n 1, 1) := by decide +kernel
theorem dX4_stackOf_77 : decode cX4_stackOf 77 = .ok (.baload, 1) := by decide +kernel
theorem dX4_stackOf_78 : decode cX4_stackOf 78 = .ok (.invokestatic 266, 3) := by decide +kernel
theorem dX4_stackOf_81 : decode cX4_stackOf 81 = .ok (.i2l, 1) := by decide +kernel
theorem dX4_stackOf_82 : decode cX4_stackOf 82 = .ok (.lreturn, 1) := by decide +kernel
theorem dX4_stackOf_83 : decode cX4_stackOf 83 = .ok (.aload_n 0, 1) := by decide +kernel
theorem dX4_stackOf_84 : decode cX4_stackOf 84 = .ok (.getfield 229, 3) := by decide +kernel
theorem dX4_stackOf_87 : decode cX4_stackOf 87 = .ok (.ifCond .le 32, 3) := by decide +kernel
theorem dX4_stackOf_90 : decode cX4_stackOf 90 = .ok (.aload_n 0, 1) := by decide +kernel
theorem dX4_stackOf_91 : decode cX4_stackOf 91 = .ok (.getfield 34, 3) := by decide +kernel
theorem dX4_stackOf_94 : decode cX4_stackOf 94 = .ok (.iload_n 1, 1) := by decide +kernel
theorem dX4_stackOf_95 : decode cX4_stackOf 95 = .ok (.iaload, 1) := by decide +kernel
theorem dX4_stackOf_96 : decode cX4_stackOf 96 = .ok (.aload_n 0, 1) := by decide +kernel
theorem dX4_stackOf_97 : decode cX4_stackOf 97 = .ok (.getfield 229, 3) := by decide +kernel
theorem dX4_stackOf_100 : decode cX4_stackOf 100 = .ok (.iconst 1, 1) := by decide +kernel
theorem dX4_stackOf_101 : decode cX4_stackOf 101 = .ok (.isub, 1) := by decide +kernel
theorem dX4_stackOf_102 : decode cX4_stackOf 102 = .ok (.sipush 144, 3) := by decide +kernel
theorem dX4_stackOf_105 : decode cX4_stackOf 105 = .ok (.idiv, 1) := by decide +kernel
theorem dX4_stackOf_106 : decode cX4_stackOf 106 = .ok (.if_icmp .ne 13, 3) := by decide +kernel
theorem dX4_stackOf_109 : decode cX4_stackOf 109 = .ok (.aload_n 0, 1) := by decide +kernel
theorem dX4_stackOf_110 : decode cX4_stackOf 110 = .ok (.getfield 37, 3) := by decide +kernel
theorem dX4_stackOf_113 : decode cX4_stackOf 113 = .ok (.iload_n 1, 1) := by decide +kernel
theorem dX4_stackOf_114 : decode cX4_stackOf 114 = .ok (.iaload, 1) := by decide +kernel
theorem dX4_stackOf_115 : decode cX4_stackOf 115 = .ok (.i2l, 1) := by decide +kernel
theorem dX4_stackOf_116 : decode cX4_stackOf 116 = .ok (.goto 4, 3) := by decide +kernel
theorem dX4_stackOf_119 : decode cX4_stackOf 119 = .ok (.lconst 0, 1) := by decide +kernel
theorem dX4_stackOf_120 : decode cX4_stackOf 120 = .ok (.lreturn, 1) := by decide +kernel
theorem dX4_stackOf_121 : decode cX4_stackOf 121 = .ok (.aload_n 0, 1) := by decide +kernel
theorem dX4_stackOf_122 : decode cX4_stackOf 122 = .ok (.getfield 40, 3) := by decide +kernel
theorem dX4_stackOf_125 : decode cX4_stackOf 125 = .ok (.iload_n 1, 1) := by decide +kernel
theorem dX4_stackOf_126 : decode cX4_stackOf 126 = .ok (.iaload, 1) := by decide +kernel
theorem dX4_stackOf_127 : decode cX4_stackOf 127 = .ok (.i2l, 1) := by decide +kernel
theorem dX4_stackOf_128 : decode cX4_stackOf 128 = .ok (.lreturn, 1) := by decide +kernel
theorem dX4_stackOf_129 : decode cX4_stackOf 129 = .ok (.aload_n 0, 1) := by decide +kernel
theorem dX4_stackOf_130 : decode cX4_stackOf 130 = .ok (.getfield 47, 3) := by decide +kernel
theorem dX4_stackOf_133 : decode cX4_stackOf 133 = .ok (.iload_n 1, 1) := by decide +kernel
theorem dX4_stackOf_134 : decode cX4_stackOf 134 = .ok (.laload, 1) := by decide +kernel
theorem dX4_stackOf_135 : decode cX4_stackOf 135 = .ok (.lreturn, 1) := by decide +kernel
theorem dX4_stackOf_136 : decode cX4_stackOf 136 = .ok (.aload_n 0, 1) := by decide +kernel
theorem dX4_stackOf_137 : decode cX4_stackOf 137 = .ok (.iload_n 1, 1) := by decide +kernel
theorem dX4_stackOf_138 : decode cX4_stackOf 138 = .ok (.aload_n 0, 1) := by decide +kernel
theorem dX4_stackOf_139 : decode cX4_stackOf 139 = .ok (.aload_n 0, 1) := by decide +kernel
theorem dX4_stackOf_140 : decode cX4_stackOf 140 = .ok (.getfield 229, 3) := by decide +kernel
theorem dX4_stackOf_143 : decode cX4_stackOf 143 = .ok (.invokevirtual 282, 3) := by decide +kernel
theorem dX4_stackOf_146 : decode cX4_stackOf 146 = .ok (.invokevirtual 270, 3) := by decide +kernel
theorem dX4_stackOf_149 : decode cX4_stackOf 149 = .ok (.i2l, 1) := by decide +kernel
theorem dX4_stackOf_150 : decode cX4_stackOf 150 = .ok (.lreturn, 1) := by decide +kernel
theorem dX4_stackOf_151 : decode cX4_stackOf 151 = .ok (.ldc2_w 317, 3) := by decide +kernel
theorem dX4_stackOf_154 : decode cX4_stackOf 154 = .ok (.lreturn, 1) := by decide +kernel
theorem ycX4_stackOf : yX4_stackOf.cls ≠ "java/lang/invoke/MethodHandle" ∧ yX4_stackOf.cls ≠ "java/lang/invoke/VarHandle" ∧ (parseMethodDescriptor yX4_stackOf.desc).map (fun d => d.parameters.length) = some 2 := by decide +kernel
theorem yvX4_stackOf : yX4_stackOf.cls = RR 4 ∧ yX4_stackOf.cls ≠ "java/lang/invoke/MethodHandle" ∧ yX4_stackOf.cls ≠ "java/lang/invoke/VarHandle" ∧ (parseMethodDescriptor yX4_stackOf.desc).map (fun d => d.parameters.length) = some 2 := ⟨rfl, ycX4_stackOf⟩
def f_X4_stackOf (n : Nat) (p0 : Nat) (p1 : Int32) (p2 : Int32) : Act Int64 :=
  bnd (gd 4 p0 (nt (f_X4_isStack p0 p1))) fun v1 =>
  if ¬ v1 = 0 then
    sw p2 (0) [
      bnd (getR 4 8 p0) fun v2 =>
      bnd (ldI 0 v2 p1) fun v3 =>
      pur v3.toInt64,
      bnd (getR 4 11 p0) fun v4 =>
      bnd (ldI 0 v4 p1) fun v5 =>
      pur v5.toInt64,
      bnd (getR 4 15 p0) fun v6 =>
      bnd (ldI 3 v6 p1) fun v7 =>
      bnd (nt (f_X4_one v7)) fun v8 =>
      pur v8.toInt64,
      bnd (getI 4 0 p0) fun v9 =>
      jn (fun (v10 : Int64) =>
        pur v10) fun j120 =>
      jn (fun (_ : Unit) =>
        j120 0) fun j119 =>
      if v9 ≤ 0 then
        j119 ()
      else
        bnd (getR 4 12 p0) fun v11 =>
        bnd (ldI 0 v11 p1) fun v12 =>
        bnd (getI 4 0 p0) fun v13 =>
        if ¬ v12 = ((v13 - 1) / 144) then
          j119 ()
        else
          bnd (getR 4 13 p0) fun v14 =>
          bnd (ldI 0 v14 p1) fun v15 =>
          j120 v15.toInt64,
      bnd (getR 4 14 p0) fun v16 =>
      bnd (ldI 0 v16 p1) fun v17 =>
      pur v17.toInt64,
      bnd (getR 4 16 p0) fun v18 =>
      bnd (ldL 1 v18 p1) fun v19 =>
      pur v19,
      bnd (getI 4 0 p0) fun v20 =>
      bnd (gd 4 p0 (nt (f_X4_inForce n p0 v20))) fun v21 =>
      bnd (gd 4 p0 (nt (f_X4_leastOf n p0 p1 v21))) fun v22 =>
      pur v22.toInt64] (
      pur (-1))
  else
    pur (-1)
set_option maxHeartbeats 4000000 in
theorem ct_X4_stackOf (l : Launch) (n : Nat) (p0 : Nat) (p1 : Int32) (p2 : Int32) : Ct l Pic yX4_stackOf (ws_ yX4_stackOf cX4_stackOf 3 (some FieldType.long)) 3 66 cvL [rv p0, .int p1, .int p2] (f_X4_stackOf n p0 p1 p2) := by
  refine Ct.of (own := RX4) (L := [(0, rv p0), (1, .int p1), (2, .int p2)]) (plainFor_of_name (by decide)) rfl (by first | decide | simp [lg_sl, rv_cat, cat_i, cat_l]) (by first | rfl | simp [lv_args, rv_cat, cat_i, cat_l]) pcZ (fun X hXl hX hnh hin => ?_)
  subst hXl
  unfold f_X4_stackOf
  refine s_aload_n hX dX4_stackOf_0 rfl 0 rfl ?_
  refine s_iload_n hX dX4_stackOf_1 rfl 1 rfl ?_
  refine s_callV_I (ci := 4) (n := 1) (As := [.int p1]) (st := []) hX (pcK 5) (by decide) (ct_X4_isStack X.l p0 p1) q1904 q1906 qs59 q91 q1907 yvX4_isStack (by decide) rfl (by first | decide | simp [rv_cat, cat_i, cat_l]) dX4_stackOf_2 (fun v1 => ?_)
  refine s_if_ne (tgt := 12) hX dX4_stackOf_5 (by decide) ?_ ?_
  · refine s_iload_n hX dX4_stackOf_12 rfl 2 rfl ?_
    refine s_sw hX dX4_stackOf_13 (dt := 151) (by decide) (tgts := [56, 64, 72, 83, 121, 129, 136]) (by decide) (by decide) ?_ ?_
    · refine s_ldc2 (v := -1) hX dX4_stackOf_151 q1908 ?_
      exact s_lret hX dX4_stackOf_154
    · refine ⟨?_, ?_, ?_, ?_, ?_, ?_, ?_, trivial⟩
      · refine s_aload_n hX dX4_stackOf_56 rfl 0 rfl ?_
        refine s_getR (ci := 4) (j := 8) (ref := "WindGasModel") hX (pcG 4) in_X4 (Or.inl q1546) (by decide) (by decide) (by decide) rfl dX4_stackOf_57 (fun _ h9 => h9) (fun v2 => ?_)
        refine s_iload_n hX dX4_stackOf_60 rfl 1 rfl ?_
        refine s_iald hX (pcA 0) dX4_stackOf_61 (fun v3 => ?_)
        refine s_i2l hX dX4_stackOf_62 ?_
        exact s_lret hX dX4_stackOf_63
      · refine s_aload_n hX dX4_stackOf_64 rfl 0 rfl ?_
        refine s_getR (ci := 4) (j := 11) (ref := "WindGasModel") hX (pcG 4) in_X4 (Or.inl q1549) (by decide) (by decide) (by decide) rfl dX4_stackOf_65 (fun _ h9 => h9) (fun v4 => ?_)
        refine s_iload_n hX dX4_stackOf_68 rfl 1 rfl ?_
        refine s_iald hX (pcA 0) dX4_stackOf_69 (fun v5 => ?_)
        refine s_i2l hX dX4_stackOf_70 ?_
        exact s_lret hX dX4_stackOf_71
      · refine s_aload_n hX dX4_stackOf_72 rfl 0 rfl ?_
        refine s_getR (ci := 4) (j := 15) (ref := "WindGasModel") hX (pcG 4) in_X4 (Or.inl q1553) (by decide) (by decide) (by decide) rfl dX4_stackOf_73 (fun _ h9 => h9) (fun v6 => ?_)
        refine s_iload_n hX dX4_stackOf_76 rfl 1 rfl ?_
        refine s_zald hX (pcA 3) dX4_stackOf_77 (fun v7 => ?_)
        refine s_callS_I (n := 1) (As := [.int v7]) (st := []) hX (ct_X4_one X.l v7) q1837 q1838 q91 q1839 ycX4_one (by decide) rfl (by first | decide | simp [rv_cat, cat_i, cat_l]) dX4_stackOf_78 (fun v8 => ?_)
        refine s_i2l hX dX4_stackOf_81 ?_
        exact s_lret hX dX4_stackOf_82
      · refine s_aload_n hX dX4_stackOf_83 rfl 0 rfl ?_
        refine s_getI (ci := 4) (j := 0) (ref := "WindGasModel") hX (pcG 4) in_X4 (Or.inl q1538) (by decide) (by decide) (by decide) rfl dX4_stackOf_84 (fun _ h9 => h9) (fun v9 => ?_)
        refine s_jn (P := fun j => ∀ (v10 : Int64), Sim X cvL 120 [] [.long v10] (j v10)) ?_ (fun j120 hj120 => ?_)
        · intro v10
          exact s_lret hX dX4_stackOf_120
        · refine s_jn (P := fun j => ∀ (u : Unit), Sim X cvL 119 [] [] (j u)) ?_ (fun j119 hj119 => ?_)
          · intro u
            refine s_lconst (v := 0) hX dX4_stackOf_119 (by decide) ?_
            exact hj120 0
          · refine s_if_le (tgt := 119) hX dX4_stackOf_87 (by decide) ?_ ?_
            · exact s_sub [] rfl (hj119 ())
            · refine s_aload_n hX dX4_stackOf_90 rfl 0 rfl ?_
              refine s_getR (ci := 4) (j := 12) (ref := "WindGasModel") hX (pcG 4) in_X4 (Or.inl q1550) (by decide) (by decide) (by decide) rfl dX4_stackOf_91 (fun _ h9 => h9) (fun v11 => ?_)
              refine s_iload_n hX dX4_stackOf_94 rfl 1 rfl ?_
              refine s_iald hX (pcA 0) dX4_stackOf_95 (fun v12 => ?_)
              refine s_aload_n hX dX4_stackOf_96 rfl 0 rfl ?_
              refine s_getI (ci := 4) (j := 0) (ref := "WindGasModel") hX (pcG 4) in_X4 (Or.inl q1538) (by decide) (by decide) (by decide) rfl dX4_stackOf_97 (fun _ h9 => h9) (fun v13 => ?_)
              refine s_iconst (v := 1) hX dX4_stackOf_100 rfl ?_
              refine s_isub hX dX4_stackOf_101 ?_
              refine s_sipush (v := 144) hX dX4_stackOf_102 (by decide) ?_
              refine s_idivc hX dX4_stackOf_105 (by decide) ?_
              refine s_icmp_ne (tgt := 119) hX dX4_stackOf_106 (by decide) ?_ ?_
              · exact s_sub [] rfl (hj119 ())
              · refine s_aload_n hX dX4_stackOf_109 rfl 0 rfl ?_
                refine s_getR (ci := 4) (j := 13) (ref := "WindGasModel") hX (pcG 4) in_X4 (Or.inl q1551) (by decide) (by decide) (by decide) rfl dX4_stackOf_110 (fun _ h9 => h9) (fun v14 => ?_)
                refine s_iload_n hX dX4_stackOf_113 rfl 1 rfl ?_
                refine s_iald hX (pcA 0) dX4_stackOf_114 (fun v15 => ?_)
                refine s_i2l hX dX4_stackOf_115 ?_
                refine s_goto (tgt := 120) hX dX4_stackOf_116 (by decide) ?_
                exact s_sub [] rfl (hj120 v15.toInt64)
      · refine s_aload_n hX dX4_stackOf_121 rfl 0 rfl ?_
        refine s_getR (ci := 4) (j := 14) (ref := "WindGasModel") hX (pcG 4) in_X4 (Or.inl q1552) (by decide) (by decide) (by decide) rfl dX4_stackOf_122 (fun _ h9 => h9) (fun v16 => ?_)
        refine s_iload_n hX dX4_stackOf_125 rfl 1 rfl ?_
        refine s_iald hX (pcA 0) dX4_stackOf_126 (fun v17 => ?_)
        refine s_i2l hX dX4_stackOf_127 ?_
        exact s_lret hX dX4_stackOf_128
      · refine s_aload_n hX dX4_stackOf_129 rfl 0 rfl ?_
        refine s_getR (ci := 4) (j := 16) (ref := "WindGasModel") hX (pcG 4) in_X4 (Or.inl q1554) (by decide) (by decide) (by decide) rfl dX4_stackOf_130 (fun _ h9 => h9) (fun v18 => ?_)
        refine s_iload_n hX dX4_stackOf_133 rfl 1 rfl ?_
        refine s_lald hX (pcA 1) dX4_stackOf_134 (fun v19 => ?_)
        exact s_lret hX dX4_stackOf_135
      · refine s_aload_n hX dX4_stackOf_136 rfl 0 rfl ?_
        refine s_iload_n hX dX4_stackOf_137 rfl 1 rfl ?_
        refine s_aload_n hX dX4_stackOf_138 rfl 0 rfl ?_
        refine s_aload_n hX dX4_stackOf_139 rfl 0 rfl ?_
        refine s_getI (ci := 4) (j := 0) (ref := "WindGasModel") hX (pcG 4) in_X4 (Or.inl q1538) (by decide) (by decide) (by decide) rfl dX4_stackOf_140 (fun _ h9 => h9) (fun v20 => ?_)
        refine s_callV_I (ci := 4) (n := 1) (As := [.int v20]) (st := [.int p1, rv p0]) hX (pcK 5) (by decide) (ct_X4_inForce X.l n p0 v20) q1829 q1831 qs45 q91 q1832 yvX4_inForce (by decide) rfl (by first | decide | simp [rv_cat, cat_i, cat_l]) dX4_stackOf_143 (fun v21 => ?_)
        refine s_callV_I (ci := 4) (n := 2) (As := [.int p1, .int v21]) (st := []) hX (pcK 5) (by decide) (ct_X4_leastOf X.l n p0 p1 v21) q1864 q1866 qs52 q91 q1867 yvX4_leastOf (by decide) rfl (by first | decide | simp [rv_cat, cat_i, cat_l]) dX4_stackOf_146 (fun v22 => ?_)
        refine s_i2l hX dX4_stackOf_149 ?_
        exact s_lret hX dX4_stackOf_150
  · refine s_ldc2 (v := -1) hX dX4_stackOf_8 q1908 ?_
    exact s_lret hX dX4_stackOf_11
theorem dX4_storeOf_0 : decode cX4_storeOf 0 = .ok (.iload_n 1, 1) := by decide +kernel
theorem dX4_storeOf_1 : decode cX4_storeOf 1 = .ok (.invokestatic 218, 3) := by decide +kernel
theorem dX4_storeOf_4 : decode cX4_storeOf 4 = .ok (.ifCond .ne 7, 3) := by decide +kernel
theorem dX4_storeOf_7 : decode cX4_storeOf 7 = .ok (.ldc2_w 317, 3) := by decide +kernel
theorem dX4_storeOf_10 : decode cX4_storeOf 10 = .ok (.lreturn, 1) := by decide +kernel
theorem dX4_storeOf_11 : decode cX4_storeOf 11 = .ok (.iload_n 2, 1) := by decide +kernel
theorem dX4_storeOf_12 : decode cX4_storeOf 12 = .ok (.tableswitch 86 0 5 #[40, 48, 56, 64, 72, 79], 40) := by decide +kernel
theorem dX4_storeOf_52 : decode cX4_storeOf 52 = .ok (.aload_n 0, 1) := by decide +kernel
theorem dX4_storeOf_53 : decode cX4_storeOf 53 = .ok (.getfield 63, 3) := by decide +kernel
theorem dX4_storeOf_56 : decode cX4_storeOf 56 = .ok (.iload_n 1, 1) := by decide +kernel
theorem dX4_storeOf_57 : decode cX4_storeOf 57 = .ok (.iaload, 1) := by decide +kernel
theorem dX4_storeOf_58 : decode cX4_storeOf 58 = .ok (.i2l, 1) := by decide +kernel
theorem dX4_storeOf_59 : decode cX4_storeOf 59 = .ok (.lreturn, 1) := by decide +kernel
theorem dX4_storeOf_60 : decode cX4_storeOf 60 = .ok (.aload_n 0, 1) := by decide +kernel
theorem dX4_storeOf_61 : decode cX4_storeOf 61 = .ok (.getfield 66, 3) := by decide +kernel
theorem dX4_storeOf_64 : decode cX4_storeOf 64 = .ok (.iload_n 1, 1) := by decide +kernel
theorem dX4_storeOf_65 : decode cX4_storeOf 65 = .ok (.iaload, 1) := by decide +kernel
theorem dX4_storeOf_66 : decode cX4_storeOf 66 = .ok (.i2l, 1) := by decide +kernel
theorem dX4_storeOf_67 : decode cX4_storeOf 67 = .ok (.lreturn, 1) := by decide +kernel
theorem dX4_storeOf_68 : decode cX4_storeOf 68 = .ok (.aload_n 0, 1) := by decide +kernel
theorem dX4_storeOf_69 : decode cX4_storeOf 69 = .ok (.getfield 69, 3) := by decide +kernel
theorem dX4_storeOf_72 : decode cX4_storeOf 72 = .ok (.iload_n 1, 1) := by decide +kernel
theorem dX4_storeOf_73 : decode cX4_storeOf 73 = .ok (.iaload, 1) := by decide +kernel
theorem dX4_storeOf_74 : decode cX4_storeOf 74 = .ok (.i2l, 1) := by decide +kernel
theorem dX4_storeOf_75 : decode cX4_storeOf 75 = .ok (.lreturn, 1) := by decide +kernel
theorem dX4_storeOf_76 : decode cX4_storeOf 76 = .ok (.aload_n 0, 1) := by decide +kernel
theorem dX4_storeOf_77 : decode cX4_storeOf 77 = .ok (.getfield 54, 3) := by decide +kernel
theorem dX4_storeOf_80 : decode cX4_storeOf 80 = .ok (.iload_n 1, 1) := by decide +kernel
theorem dX4_storeOf_81 : decode cX4_storeOf 81 = .ok (.iaload, 1) := by decide +kernel
theorem dX4_storeOf_82 : decode cX4_storeOf 82 = .ok (.i2l, 1) := by decide +kernel
theorem dX4_storeOf_83 : decode cX4_storeOf 83 = .ok (.lreturn, 1) := by decide +kernel
theorem dX4_storeOf_84 : decode cX4_storeOf 84 = .ok (.aload_n 0, 1) := by decide +kernel
theorem dX4_storeOf_85 : decode cX4_storeOf 85 = .ok (.getfield 75, 3) := by decide +kernel
theorem dX4_storeOf_88 : decode cX4_storeOf 88 = .ok (.iload_n 1, 1) := by decide +kernel
theorem dX4_storeOf_89 : decode cX4_storeOf 89 = .ok (.laload, 1) := by decide +kernel
theorem dX4_storeOf_90 : decode cX4_storeOf 90 = .ok (.lreturn, 1) := by decide +kernel
theorem dX4_storeOf_91 : decode cX4_storeOf 91 = .ok (.aload_n 0, 1) := by decide +kernel
theorem dX4_storeOf_92 : decode cX4_storeOf 92 = .ok (.getfield 78, 3) := by decide +kernel
theorem dX4_storeOf_95 : decode cX4_storeOf 95 = .ok (.iload_n 1, 1) := by decide +kernel
theorem dX4_storeOf_96 : decode cX4_storeOf 96 = .ok (.laload, 1) := by decide +kernel
theorem dX4_storeOf_97 : decode cX4_storeOf 97 = .ok (.lreturn, 1) := by decide +kernel
theorem dX4_storeOf_98 : decode cX4_storeOf 98 = .ok (.ldc2_w 317, 3) := by decide +kernel
theorem dX4_storeOf_101 : decode cX4_storeOf 101 = .ok (.lreturn, 1) := by decide +kernel
theorem ycX4_storeOf : yX4_storeOf.cls ≠ "java/lang/invoke/MethodHandle" ∧ yX4_storeOf.cls ≠ "java/lang/invoke/VarHandle" ∧ (parseMethodDescriptor yX4_storeOf.desc).map (fun d => d.parameters.length) = some 2 := by decide +kernel
theorem yvX4_storeOf : yX4_storeOf.cls = RR 4 ∧ yX4_storeOf.cls ≠ "java/lang/invoke/MethodHandle" ∧ yX4_storeOf.cls ≠ "java/lang/invoke/VarHandle" ∧ (parseMethodDescriptor yX4_storeOf.desc).map (fun d => d.parameters.length) = some 2 := ⟨rfl, ycX4_storeOf⟩
def f_X4_storeOf (p0 : Nat) (p1 : Int32) (p2 : Int32) : Act Int64 :=
  bnd (nt (f_X4_isStore p1)) fun v1 =>
  if ¬ v1 = 0 then
    sw p2 (0) [
      bnd (getR 4 23 p0) fun v2 =>
      bnd (ldI 0 v2 p1) fun v3 =>
      pur v3.toInt64,
      bnd (getR 4 24 p0) fun v4 =>
      bnd (ldI 0 v4 p1) fun v5 =>
      pur v5.toInt64,
      bnd (getR 4 25 p0) fun v6 =>
      bnd (ldI 0 v6 p1) fun v7 =>
      pur v7.toInt64,
      bnd (getR 4 20 p0) fun v8 =>
      bnd (ldI 0 v8 p1) fun v9 =>
      pur v9.toInt64,
      bnd (getR 4 27 p0) fun v10 =>
      bnd (ldL 1 v10 p1) fun v11 =>
      pur v11,
      bnd (getR 4 28 p0) fun v12 =>
      bnd (ldL 1 v12 p1) fun v13 =>
      pur v13] (
      pur (-1))
  else
    pur (-1)
set_option maxHeartbeats 4000000 in
theorem ct_X4_storeOf (l : Launch) (p0 : Nat) (p1 : Int32) (p2 : Int32) : Ct l Pic yX4_storeOf (ws_ yX4_storeOf cX4_storeOf 3 (some FieldType.long)) 2 42 cvL [rv p0, .int p1, .int p2] (f_X4_storeOf p0 p1 p2) := by
  refine Ct.of (own := RX4) (L := [(0, rv p0), (1, .int p1), (2, .int p2)]) (plainFor_of_name (by decide)) rfl (by first | decide | simp [lg_sl, rv_cat, cat_i, cat_l]) (by first | rfl | simp [lv_args, rv_cat, cat_i, cat_l]) pcZ (fun X hXl hX hnh hin => ?_)
  subst hXl
  unfold f_X4_storeOf
  refine s_iload_n hX dX4_storeOf_0 rfl 1 rfl ?_
  refine s_callS_I (n := 1) (As := [.int p1]) (st := []) hX (ct_X4_isStore X.l p1) q1807 q1808 q91 q1809 ycX4_isStore (by decide) rfl (by first | decide | simp [rv_cat, cat_i, cat_l]) dX4_storeOf_1 (fun v1 => ?_)
  refine s_if_ne (tgt := 11) hX dX4_storeOf_4 (by decide) ?_ ?_
  · refine s_iload_n hX dX4_storeOf_11 rfl 2 rfl ?_
    refine s_sw hX dX4_storeOf_12 (dt := 98) (by decide) (tgts := [52, 60, 68, 76, 84, 91]) (by decide) (by decide) ?_ ?_
    · refine s_ldc2 (v := -1) hX dX4_storeOf_98 q1908 ?_
      exact s_lret hX dX4_storeOf_101
    · refine ⟨?_, ?_, ?_, ?_, ?_, ?_, trivial⟩
      · refine s_aload_n hX dX4_storeOf_52 rfl 0 rfl ?_
        refine s_getR (ci := 4) (j := 23) (ref := "WindGasModel") hX (pcG 4) in_X4 (Or.inl q1561) (by decide) (by decide) (by decide) rfl dX4_storeOf_53 (fun _ h9 => h9) (fun v2 => ?_)
        refine s_iload_n hX dX4_storeOf_56 rfl 1 rfl ?_
        refine s_iald hX (pcA 0) dX4_storeOf_57 (fun v3 => ?_)
        refine s_i2l hX dX4_storeOf_58 ?_
        exact s_lret hX dX4_storeOf_59
      · refine s_aload_n hX dX4_storeOf_60 rfl 0 rfl ?_
        refine s_getR (ci := 4) (j := 24) (ref := "WindGasModel") hX (pcG 4) in_X4 (Or.inl q1562) (by decide) (by decide) (by decide) rfl dX4_storeOf_61 (fun _ h9 => h9) (fun v4 => ?_)
        refine s_iload_n hX dX4_storeOf_64 rfl 1 rfl ?_
        refine s_iald hX (pcA 0) dX4_storeOf_65 (fun v5 => ?_)
        refine s_i2l hX dX4_storeOf_66 ?_
        exact s_lret hX dX4_storeOf_67
      · refine s_aload_n hX dX4_storeOf_68 rfl 0 rfl ?_
        refine s_getR (ci := 4) (j := 25) (ref := "WindGasModel") hX (pcG 4) in_X4 (Or.inl q1563) (by decide) (by decide) (by decide) rfl dX4_storeOf_69 (fun _ h9 => h9) (fun v6 => ?_)
        refine s_iload_n hX dX4_storeOf_72 rfl 1 rfl ?_
        refine s_iald hX (pcA 0) dX4_storeOf_73 (fun v7 => ?_)
        refine s_i2l hX dX4_storeOf_74 ?_
        exact s_lret hX dX4_storeOf_75
      · refine s_aload_n hX dX4_storeOf_76 rfl 0 rfl ?_
        refine s_getR (ci := 4) (j := 20) (ref := "WindGasModel") hX (pcG 4) in_X4 (Or.inl q1558) (by decide) (by decide) (by decide) rfl dX4_storeOf_77 (fun _ h9 => h9) (fun v8 => ?_)
        refine s_iload_n hX dX4_storeOf_80 rfl 1 rfl ?_
        refine s_iald hX (pcA 0) dX4_storeOf_81 (fun v9 => ?_)
        refine s_i2l hX dX4_storeOf_82 ?_
        exact s_lret hX dX4_storeOf_83
      · refine s_aload_n hX dX4_storeOf_84 rfl 0 rfl ?_
        refine s_getR (ci := 4) (j := 27) (ref := "WindGasModel") hX (pcG 4) in_X4 (Or.inl q1565) (by decide) (by decide) (by decide) rfl dX4_storeOf_85 (fun _ h9 => h9) (fun v10 => ?_)
        refine s_iload_n hX dX4_storeOf_88 rfl 1 rfl ?_
        refine s_lald hX (pcA 1) dX4_storeOf_89 (fun v11 => ?_)
        exact s_lret hX dX4_storeOf_90
      · refine s_aload_n hX dX4_storeOf_91 rfl 0 rfl ?_
        refine s_getR (ci := 4) (j := 28) (ref := "WindGasModel") hX (pcG 4) in_X4 (Or.inl q1566) (by decide) (by decide) (by decide) rfl dX4_storeOf_92 (fun _ h9 => h9) (fun v12 => ?_)
        refine s_iload_n hX dX4_storeOf_95 rfl 1 rfl ?_
        refine s_lald hX (pcA 1) dX4_storeOf_96 (fun v13 => ?_)
        exact s_lret hX dX4_storeOf_97
  · refine s_ldc2 (v := -1) hX dX4_storeOf_7 q1908 ?_
    exact s_lret hX dX4_storeOf_10
theorem dX4_lot_0 : decode cX4_lot 0 = .ok (.iload_n 1, 1) := by decide +kernel
theorem dX4_lot_1 : decode cX4_lot 1 = .ok (.invokestatic 218, 3) := by decide +kernel
theorem dX4_lot_4 : decode cX4_lot 4 = .ok (.ifCond .eq 19, 3) := by decide +kernel
theorem dX4_lot_7 : decode cX4_lot 7 = .ok (.iload_n 2, 1) := by decide +kernel
theorem dX4_lot_8 : decode cX4_lot 8 = .ok (.iconst 0, 1) := by decide +kernel
theorem dX4_lot_9 : decode cX4_lot 9 = .ok (.aload_n 0, 1) := by decide +kernel
theorem dX4_lot_10 : decode cX4_lot 10 = .ok (.getfield 69, 3) := by decide +kernel
theorem dX4_lot_13 : decode cX4_lot 13 = .ok (.iload_n 1, 1) := by decide +kernel
theorem dX4_lot_14 : decode cX4_lot 14 = .ok (.iaload, 1) := by decide +kernel
theorem dX4_lot_15 : decode cX4_lot 15 = .ok (.iconst 1, 1) := by decide +kernel
theorem dX4_lot_16 : decode cX4_lot 16 = .ok (.isub, 1) := by decide +kernel
theorem dX4_lot_17 : decode cX4_lot 17 = .ok (.invokestatic 198, 3) := by decide +kernel
theorem dX4_lot_20 : decode cX4_lot 20 = .ok (.ifCond .ne 5, 3) := by decide +kernel
theorem dX4_lot_23 : decode cX4_lot 23 = .ok (.iconst (-1), 1) := by decide +kernel
theorem dX4_lot_24 : decode cX4_lot 24 = .ok (.ireturn, 1) := by decide +kernel
theorem dX4_lot_25 : decode cX4_lot 25 = .ok (.iload_n 1, 1) := by decide +kernel
theorem dX4_lot_26 : decode cX4_lot 26 = .ok (.aload_n 0, 1) := by decide +kernel
theorem dX4_lot_27 : decode cX4_lot 27 = .ok (.getfield 72, 3) := by decide +kernel
theorem dX4_lot_30 : decode cX4_lot 30 = .ok (.iload_n 1, 1) := by decide +kernel
theorem dX4_lot_31 : decode cX4_lot 31 = .ok (.iaload, 1) := by decide +kernel
theorem dX4_lot_32 : decode cX4_lot 32 = .ok (.iload_n 2, 1) := by decide +kernel
theorem dX4_lot_33 : decode cX4_lot 33 = .ok (.iadd, 1) := by decide +kernel
theorem dX4_lot_34 : decode cX4_lot 34 = .ok (.invokestatic 232, 3) := by decide +kernel
theorem dX4_lot_37 : decode cX4_lot 37 = .ok (.istore 4, 2) := by decide +kernel
theorem dX4_lot_39 : decode cX4_lot 39 = .ok (.iload_n 3, 1) := by decide +kernel
theorem dX4_lot_40 : decode cX4_lot 40 = .ok (.ifCond .ne 13, 3) := by decide +kernel
theorem dX4_lot_43 : decode cX4_lot 43 = .ok (.aload_n 0, 1) := by decide +kernel
theorem dX4_lot_44 : decode cX4_lot 44 = .ok (.getfield 81, 3) := by decide +kernel
theorem dX4_lot_47 : decode cX4_lot 47 = .ok (.iload 4, 2) := by decide +kernel
theorem dX4_lot_49 : decode cX4_lot 49 = .ok (.iaload, 1) := by decide +kernel
theorem dX4_lot_50 : decode cX4_lot 50 = .ok (.goto 34, 3) := by decide +kernel
theorem dX4_lot_53 : decode cX4_lot 53 = .ok (.iload_n 3, 1) := by decide +kernel
theorem dX4_lot_54 : decode cX4_lot 54 = .ok (.iconst 1, 1) := by decide +kernel
theorem dX4_lot_55 : decode cX4_lot 55 = .ok (.if_icmp .ne 13, 3) := by decide +kernel
theorem dX4_lot_58 : decode cX4_lot 58 = .ok (.aload_n 0, 1) := by decide +kernel
theorem dX4_lot_59 : decode cX4_lot 59 = .ok (.getfield 84, 3) := by decide +kernel
theorem dX4_lot_62 : decode cX4_lot 62 = .ok (.iload 4, 2) := by decide +kernel
theorem dX4_lot_64 : decode cX4_lot 64 = .ok (.iaload, 1) := by decide +kernel
theorem dX4_lot_65 : decode cX4_lot 65 = .ok (.goto 19, 3) := by decide +kernel
theorem dX4_lot_68 : decode cX4_lot 68 = .ok (.iload_n 3, 1) := by decide +kernel
theorem dX4_lot_69 : decode cX4_lot 69 = .ok (.iconst 2, 1) := by decide +kernel
theorem dX4_lot_70 : decode cX4_lot 70 = .ok (.if_icmp .ne 13, 3) := by decide +kernel
theorem dX4_lot_73 : decode cX4_lot 73 = .ok (.aload_n 0, 1) := by decide +kernel
theorem dX4_lot_74 : decode cX4_lot 74 = .ok (.getfield 87, 3) := by decide +kernel
theorem dX4_lot_77 : decode cX4_lot 77 = .ok (.iload 4, 2) := by decide +kernel
theorem dX4_lot_79 : decode cX4_lot 79 = .ok (.iaload, 1) := by decide +kernel
theorem dX4_lot_80 : decode cX4_lot 80 = .ok (.goto 4, 3) := by decide +kernel
theorem dX4_lot_83 : decode cX4_lot 83 = .ok (.iconst (-1), 1) := by decide +kernel
theorem dX4_lot_84 : decode cX4_lot 84 = .ok (.ireturn, 1) := by decide +kernel
theorem ycX4_lot : yX4_lot.cls ≠ "java/lang/invoke/MethodHandle" ∧ yX4_lot.cls ≠ "java/lang/invoke/VarHandle" ∧ (parseMethodDescriptor yX4_lot.desc).map (fun d => d.parameters.length) = some 3 := by decide +kernel
theorem yvX4_lot : yX4_lot.cls = RR 4 ∧ yX4_lot.cls ≠ "java/lang/invoke/MethodHandle" ∧ yX4_lot.cls ≠ "java/lang/invoke/VarHandle" ∧ (parseMethodDescriptor yX4_lot.desc).map (fun d => d.parameters.length) = some 3 := ⟨rfl, ycX4_lot⟩
def f_X4_lot (p0 : Nat) (p1 : Int32) (p2 : Int32) (p3 : Int32) : Act Int32 :=
  bnd (nt (f_X4_isStore p1)) fun v1 =>
  jn (fun (_ : Unit) =>
    pur (-1)) fun j23 =>
  if v1 = 0 then
    j23 ()
  else
    bnd (getR 4 25 p0) fun v2 =>
    bnd (ldI 0 v2 p1) fun v3 =>
    bnd (nt (f_X4_isIn p2 (0 : Int32) (v3 - 1))) fun v4 =>
    if ¬ v4 = 0 then
      bnd (getR 4 26 p0) fun v5 =>
      bnd (ldI 0 v5 p1) fun v6 =>
      bnd (nt (f_X4_place p1 (v6 + p2))) fun v7 =>
      jn (fun (v8 : Int32) =>
        pur v8) fun j84 =>
      if ¬ p3 = 0 then
        if ¬ p3 = 1 then
          if ¬ p3 = 2 then
            j84 (-1)
          else
            bnd (getR 4 31 p0) fun v9 =>
            bnd (ldI 0 v9 v7) fun v10 =>
            j84 v10
        else
          bnd (getR 4 30 p0) fun v11 =>
          bnd (ldI 0 v11 v7) fun v12 =>
          j84 v12
      else
        bnd (getR 4 29 p0) fun v13 =>
        bnd (ldI 0 v13 v7) fun v14 =>
        j84 v14
    else
      j23 ()
set_option maxHeartbeats 4000000 in
theorem ct_X4_lot (l : Launch) (p0 : Nat) (p1 : Int32) (p2 : Int32) (p3 : Int32) : Ct l Pic yX4_lot (ws_ yX4_lot cX4_lot 5 (some FieldType.int)) 2 42 cvI [rv p0, .int p1, .int p2, .int p3] (f_X4_lot p0 p1 p2 p3) := by
  refine Ct.of (own := RX4) (L := [(0, rv p0), (1, .int p1), (2, .int p2), (3, .int p3)]) (plainFor_of_name (by decide)) rfl (by first | decide | simp [lg_sl, rv_cat, cat_i, cat_l]) (by first | rfl | simp [lv_args, rv_cat, cat_i, cat_l]) pcZ (fun X hXl hX hnh hin => ?_)
  subst hXl
  unfold f_X4_lot
  refine s_iload_n hX dX4_lot_0 rfl 1 rfl ?_
  refine s_callS_I (n := 1) (As := [.int p1]) (st := []) hX (ct_X4_isStore X.l p1) q1807 q1808 q91 q1809 ycX4_isStore (by decide) rfl (by first | decide | simp [rv_cat, cat_i, cat_l]) dX4_lot_1 (fun v1 => ?_)
  refine s_jn (P := fun j => ∀ (u : Unit), Sim X cvI 23 [] [] (j u)) ?_ (fun j23 hj23 => ?_)
  · intro u
    refine s_iconst (v := -1) hX dX4_lot_23 (by decide) ?_
    exact s_iret hX dX4_lot_24
  · refine s_if_eq (tgt := 23) hX dX4_lot_4 (by decide) ?_ ?_
    · exact s_sub [] rfl (hj23 ())
    · refine s_iload_n hX dX4_lot_7 rfl 2 rfl ?_
      refine s_iconst (v := 0) hX dX4_lot_8 rfl ?_
      refine s_aload_n hX dX4_lot_9 rfl 0 rfl ?_
      refine s_getR (ci := 4) (j := 25) (ref := "WindGasModel") hX (pcG 4) in_X4 (Or.inl q1563) (by decide) (by decide) (by decide) rfl dX4_lot_10 (fun _ h9 => h9) (fun v2 => ?_)
      refine s_iload_n hX dX4_lot_13 rfl 1 rfl ?_
      refine s_iald hX (pcA 0) dX4_lot_14 (fun v3 => ?_)
      refine s_iconst (v := 1) hX dX4_lot_15 rfl ?_
      refine s_isub hX dX4_lot_16 ?_
      refine s_callS_I (n := 3) (As := [.int p2, .int 0, .int (v3 - 1)]) (st := []) hX (ct_X4_isIn X.l p2 (0 : Int32) (v3 - 1)) q1781 q1782 q91 q1783 ycX4_isIn (by decide) rfl (by first | decide | simp [rv_cat, cat_i, cat_l]) dX4_lot_17 (fun v4 => ?_)
      refine s_if_ne (tgt := 25) hX dX4_lot_20 (by decide) ?_ ?_
      · refine s_iload_n hX dX4_lot_25 rfl 1 rfl ?_
        refine s_aload_n hX dX4_lot_26 rfl 0 rfl ?_
        refine s_getR (ci := 4) (j := 26) (ref := "WindGasModel") hX (pcG 4) in_X4 (Or.inl q1564) (by decide) (by decide) (by decide) rfl dX4_lot_27 (fun _ h9 => h9) (fun v5 => ?_)
        refine s_iload_n hX dX4_lot_30 rfl 1 rfl ?_
        refine s_iald hX (pcA 0) dX4_lot_31 (fun v6 => ?_)
        refine s_iload_n hX dX4_lot_32 rfl 2 rfl ?_
        refine s_iadd hX dX4_lot_33 ?_
        refine s_callS_I (n := 2) (As := [.int p1, .int (v6 + p2)]) (st := []) hX (ct_X4_place X.l p1 (v6 + p2)) q1881 q1882 q91 q1883 ycX4_place (by decide) rfl (by first | decide | simp [rv_cat, cat_i, cat_l]) dX4_lot_34 (fun v7 => ?_)
        refine s_istore (i := 4) (L2 := [(4, .int v7), (0, rv p0), (1, .int p1), (2, .int p2), (3, .int p3)]) hX dX4_lot_37 (by decide) rfl ?_
        refine s_iload_n hX dX4_lot_39 rfl 4 rfl ?_
        refine s_jn (P := fun j => ∀ (v8 : Int32), Sim X cvI 84 [] [.int v8] (j v8)) ?_ (fun j84 hj84 => ?_)
        · intro v8
          exact s_iret hX dX4_lot_84
        · refine s_if_ne (tgt := 53) hX dX4_lot_40 (by decide) ?_ ?_
          · refine s_iload_n hX dX4_lot_53 rfl 4 rfl ?_
            refine s_iconst (v := 1) hX dX4_lot_54 rfl ?_
            refine s_icmp_ne (tgt := 68) hX dX4_lot_55 (by decide) ?_ ?_
            · refine s_iload_n hX dX4_lot_68 rfl 4 rfl ?_
              refine s_iconst (v := 2) hX dX4_lot_69 rfl ?_
              refine s_icmp_ne (tgt := 83) hX dX4_lot_70 (by decide) ?_ ?_
              · refine s_iconst (v := -1) hX dX4_lot_83 (by decide) ?_
                exact s_sub [] rfl (hj84 (-1))
              · refine s_aload_n hX dX4_lot_73 rfl 1 rfl ?_
                refine s_getR (ci := 4) (j := 31) (ref := "WindGasModel") hX (pcG 4) in_X4 (Or.inl q1569) (by decide) (by decide) (by decide) rfl dX4_lot_74 (fun _ h9 => h9) (fun v9 => ?_)
                refine s_iload hX dX4_lot_77 0 rfl ?_
                refine s_iald hX (pcA 0) dX4_lot_79 (fun v10 => ?_)
                refine s_goto (tgt := 84) hX dX4_lot_80 (by decide) ?_
                exact s_sub [] rfl (hj84 v10)
            · refine s_aload_n hX dX4_lot_58 rfl 1 rfl ?_
              refine s_getR (ci := 4) (j := 30) (ref := "WindGasModel") hX (pcG 4) in_X4 (Or.inl q1568) (by decide) (by decide) (by decide) rfl dX4_lot_59 (fun _ h9 => h9) (fun v11 => ?_)
              refine s_iload hX dX4_lot_62 0 rfl ?_
              refine s_iald hX (pcA 0) dX4_lot_64 (fun v12 => ?_)
              refine s_goto (tgt := 84) hX dX4_lot_65 (by decide) ?_
              exact s_sub [] rfl (hj84 v12)
          · refine s_aload_n hX dX4_lot_43 rfl 1 rfl ?_
            refine s_getR (ci := 4) (j := 29) (ref := "WindGasModel") hX (pcG 4) in_X4 (Or.inl q1567) (by decide) (by decide) (by decide) rfl dX4_lot_44 (fun _ h9 => h9) (fun v13 => ?_)
            refine s_iload hX dX4_lot_47 0 rfl ?_
            refine s_iald hX (pcA 0) dX4_lot_49 (fun v14 => ?_)
            refine s_goto (tgt := 84) hX dX4_lot_50 (by decide) ?_
            exact s_sub [] rfl (hj84 v14)
      · exact s_sub [] rfl (hj23 ())
theorem dX4_isTrip_0 : decode cX4_isTrip 0 = .ok (.iload_n 1, 1) := by decide +kernel
theorem dX4_isTrip_1 : decode cX4_isTrip 1 = .ok (.iconst 0, 1) := by decide +kernel
theorem dX4_isTrip_2 : decode cX4_isTrip 2 = .ok (.aload_n 0, 1) := by decide +kernel
theorem dX4_isTrip_3 : decode cX4_isTrip 3 = .ok (.getfield 245, 3) := by decide +kernel
theorem dX4_isTrip_6 : decode cX4_isTrip 6 = .ok (.iconst 1, 1) := by decide +kernel
theorem dX4_isTrip_7 : decode cX4_isTrip 7 = .ok (.isub, 1) := by decide +kernel
theorem dX4_isTrip_8 : decode cX4_isTrip 8 = .ok (.invokestatic 198, 3) := by decide +kernel
theorem dX4_isTrip_11 : decode cX4_isTrip 11 = .ok (.ireturn, 1) := by decide +kernel
theorem ycX4_isTrip : yX4_isTrip.cls ≠ "java/lang/invoke/MethodHandle" ∧ yX4_isTrip.cls ≠ "java/lang/invoke/VarHandle" ∧ (parseMethodDescriptor yX4_isTrip.desc).map (fun d => d.parameters.length) = some 1 := by decide +kernel
theorem yvX4_isTrip : yX4_isTrip.cls = RR 4 ∧ yX4_isTrip.cls ≠ "java/lang/invoke/MethodHandle" ∧ yX4_isTrip.cls ≠ "java/lang/invoke/VarHandle" ∧ (parseMethodDescriptor yX4_isTrip.desc).map (fun d => d.parameters.length) = some 1 := ⟨rfl, ycX4_isTrip⟩
def f_X4_isTrip (p0 : Nat) (p1 : Int32) : Act Int32 :=
  bnd (getI 4 2 p0) fun v1 =>
  bnd (nt (f_X4_isIn p1 (0 : Int32) (v1 - 1))) fun v2 =>
  purS (ty := .boolean) v2
set_option maxHeartbeats 4000000 in
theorem ct_X4_isTrip (l : Launch) (p0 : Nat) (p1 : Int32) : Ct l Pic yX4_isTrip (ws_ yX4_isTrip cX4_isTrip 2 (some FieldType.boolean)) 1 22 cvI [rv p0, .int p1] (f_X4_isTrip p0 p1) := by
  refine Ct.of (own := RX4) (L := [(0, rv p0), (1, .int p1)]) (plainFor_of_name (by decide)) rfl (by first | decide | simp [lg_sl, rv_cat, cat_i, cat_l]) (by first | rfl | simp [lv_args, rv_cat, cat_i, cat_l]) pcZ (fun X hXl hX hnh hin => ?_)
  subst hXl
  unfold f_X4_isTrip
  refine s_iload_n hX dX4_isTrip_0 rfl 1 rfl ?_
  refine s_iconst (v := 0) hX dX4_isTrip_1 rfl ?_
  refine s_aload_n hX dX4_isTrip_2 rfl 0 rfl ?_
  refine s_getI (ci := 4) (j := 2) (ref := "WindGasModel") hX (pcG 4) in_X4 (Or.inl q1540) (by decide) (by decide) (by decide) rfl dX4_isTrip_3 (fun _ h9 => h9) (fun v1 => ?_)
  refine s_iconst (v := 1) hX dX4_isTrip_6 rfl ?_
  refine s_isub hX dX4_isTrip_7 ?_
  refine s_callS_I (n := 3) (As := [.int p1, .int 0, .int (v1 - 1)]) (st := []) hX (ct_X4_isIn X.l p1 (0 : Int32) (v1 - 1)) q1781 q1782 q91 q1783 ycX4_isIn (by decide) rfl (by first | decide | simp [rv_cat, cat_i, cat_l]) dX4_isTrip_8 (fun v2 => ?_)
  exact s_zret hX dX4_isTrip_11
theorem dX4_isThrough_0 : decode cX4_isThrough 0 = .ok (.iload_n 1, 1) := by decide +kernel
theorem dX4_isThrough_1 : decode cX4_isThrough 1 = .ok (.iconst 0, 1) := by decide +kernel
theorem dX4_isThrough_2 : decode cX4_isThrough 2 = .ok (.sipush 833, 3) := by decide +kernel
theorem dX4_isThrough_5 : decode cX4_isThrough 5 = .ok (.invokestatic 198, 3) := by decide +kernel
theorem dX4_isThrough_8 : decode cX4_isThrough 8 = .ok (.ifCond .eq 21, 3) := by decide +kernel
theorem dX4_isThrough_11 : decode cX4_isThrough 11 = .ok (.aload_n 0, 1) := by decide +kernel
theorem dX4_isThrough_12 : decode cX4_isThrough 12 = .ok (.getfield 229, 3) := by decide +kernel
theorem dX4_isThrough_15 : decode cX4_isThrough 15 = .ok (.bipush 6, 2) := by decide +kernel
theorem dX4_isThrough_17 : decode cX4_isThrough 17 = .ok (.iload_n 1, 1) := by decide +kernel
theorem dX4_isThrough_18 : decode cX4_isThrough 18 = .ok (.imul, 1) := by decide +kernel
theorem dX4_isThrough_19 : decode cX4_isThrough 19 = .ok (.bipush 6, 2) := by decide +kernel
theorem dX4_isThrough_21 : decode cX4_isThrough 21 = .ok (.iadd, 1) := by decide +kernel
theorem dX4_isThrough_22 : decode cX4_isThrough 22 = .ok (.if_icmp .lt 7, 3) := by decide +kernel
theorem dX4_isThrough_25 : decode cX4_isThrough 25 = .ok (.iconst 1, 1) := by decide +kernel
theorem dX4_isThrough_26 : decode cX4_isThrough 26 = .ok (.goto 4, 3) := by decide +kernel
theorem dX4_isThrough_29 : decode cX4_isThrough 29 = .ok (.iconst 0, 1) := by decide +kernel
theorem dX4_isThrough_30 : decode cX4_isThrough 30 = .ok (.ireturn, 1) := by decide +kernel
theorem ycX4_isThrough : yX4_isThrough.cls ≠ "java/lang/invoke/MethodHandle" ∧ yX4_isThrough.cls ≠ "java/lang/invoke/VarHandle" ∧ (parseMethodDescriptor yX4_isThrough.desc).map (fun d => d.parameters.length) = some 1 := by decide +kernel
theorem yvX4_isThrough : yX4_isThrough.cls = RR 4 ∧ yX4_isThrough.cls ≠ "java/lang/invoke/MethodHandle" ∧ yX4_isThrough.cls ≠ "java/lang/invoke/VarHandle" ∧ (parseMethodDescriptor yX4_isThrough.desc).map (fun d => d.parameters.length) = some 1 := ⟨rfl, ycX4_isThrough⟩
def f_X4_isThrough (p0 : Nat) (p1 : Int32) : Act Int32 :=
  bnd (nt (f_X4_isIn p1 (0 : Int32) (833 : Int32))) fun v1 =>
  jn (fun (v2 : Int32) =>
    purS (ty := .boolean) v2) fun j30 =>
  jn (fun (_ : Unit) =>
    j30 0) fun j29 =>
  if v1 = 0 then
    j29 ()
  else
    bnd (getI 4 0 p0) fun v3 =>
    if v3 < ((6 * p1) + 6) then
      j29 ()
    else
      j30 1
set_option maxHeartbeats 4000000 in
theorem ct_X4_isThrough (l : Launch) (p0 : Nat) (p1 : Int32) : Ct l Pic yX4_isThrough (ws_ yX4_isThrough cX4_isThrough 2 (some FieldType.boolean)) 1 22 cvI [rv p0, .int p1] (f_X4_isThrough p0 p1) := by
  refine Ct.of (own := RX4) (L := [(0, rv p0), (1, .int p1)]) (plainFor_of_name (by decide)) rfl (by first | decide | simp [lg_sl, rv_cat, cat_i, cat_l]) (by first | rfl | simp [lv_args, rv_cat, cat_i, cat_l]) pcZ (fun X hXl hX hnh hin => ?_)
  subst hXl
  unfold f_X4_isThrough
  refine s_iload_n hX dX4_isThrough_0 rfl 1 rfl ?_
  refine s_iconst (v := 0) hX dX4_isThrough_1 rfl ?_
  refine s_sipush (v := 833) hX dX4_isThrough_2 (by decide) ?_
  refine s_callS_I (n := 3) (As := [.int p1, .int 0, .int 833]) (st := []) hX (ct_X4_isIn X.l p1 (0 : Int32) (833 : Int32)) q1781 q1782 q91 q1783 ycX4_isIn (by decide) rfl (by first | decide | simp [rv_cat, cat_i, cat_l]) dX4_isThrough_5 (fun v1 => ?_)
  refine s_jn (P := fun j => ∀ (v2 : Int32), Sim X cvI 30 [] [.int v2] (j v2)) ?_ (fun j30 hj30 => ?_)
  · intro v2
    exact s_zret hX dX4_isThrough_30
  · refine s_jn (P := fun j => ∀ (u : Unit), Sim X cvI 29 [] [] (j u)) ?_ (fun j29 hj29 => ?_)
    · intro u
      refine s_iconst (v := 0) hX dX4_isThrough_29 rfl ?_
      exact hj30 0
    · refine s_if_eq (tgt := 29) hX dX4_isThrough_8 (by decide) ?_ ?_
      · exact s_sub [] rfl (hj29 ())
      · refine s_aload_n hX dX4_isThrough_11 rfl 0 rfl ?_
        refine s_getI (ci := 4) (j := 0) (ref := "WindGasModel") hX (pcG 4) in_X4 (Or.inl q1538) (by decide) (by decide) (by decide) rfl dX4_isThrough_12 (fun _ h9 => h9) (fun v3 => ?_)
        refine s_bipush (v := 6) hX dX4_isThrough_15 (by decide) ?_
        refine s_iload_n hX dX4_isThrough_17 rfl 1 rfl ?_
        refine s_imul hX dX4_isThrough_18 ?_
        refine s_bipush (v := 6) hX dX4_isThrough_19 (by decide) ?_
        refine s_iadd hX dX4_isThrough_21 ?_
        refine s_icmp_lt (tgt := 29) hX dX4_isThrough_22 (by decide) ?_ ?_
        · exact s_sub [] rfl (hj29 ())
        · refine s_iconst (v := 1) hX dX4_isThrough_25 rfl ?_
          refine s_goto (tgt := 30) hX dX4_isThrough_26 (by decide) ?_
          exact s_sub [] rfl (hj30 1)
theorem dX4_isGreen_0 : decode cX4_isGreen 0 = .ok (.aload_n 0, 1) := by decide +kernel
theorem dX4_isGreen_1 : decode cX4_isGreen 1 = .ok (.iload_n 1, 1) := by decide +kernel
theorem dX4_isGreen_2 : decode cX4_isGreen 2 = .ok (.invokevirtual 328, 3) := by decide +kernel
theorem dX4_isGreen_5 : decode cX4_isGreen 5 = .ok (.ifCond .eq 50, 3) := by decide +kernel
theorem dX4_isGreen_8 : decode cX4_isGreen 8 = .ok (.aload_n 0, 1) := by decide +kernel
theorem dX4_isGreen_9 : decode cX4_isGreen 9 = .ok (.aload_n 0, 1) := by decide +kernel
theorem dX4_isGreen_10 : decode cX4_isGreen 10 = .ok (.bipush 6, 2) := by decide +kernel
theorem dX4_isGreen_12 : decode cX4_isGreen 12 = .ok (.iload_n 1, 1) := by decide +kernel
theorem dX4_isGreen_13 : decode cX4_isGreen 13 = .ok (.imul, 1) := by decide +kernel
theorem dX4_isGreen_14 : decode cX4_isGreen 14 = .ok (.iconst 5, 1) := by decide +kernel
theorem dX4_isGreen_15 : decode cX4_isGreen 15 = .ok (.iadd, 1) := by decide +kernel
theorem dX4_isGreen_16 : decode cX4_isGreen 16 = .ok (.invokevirtual 282, 3) := by decide +kernel
theorem dX4_isGreen_19 : decode cX4_isGreen 19 = .ok (.bipush 6, 2) := by decide +kernel
theorem dX4_isGreen_21 : decode cX4_isGreen 21 = .ok (.bipush 6, 2) := by decide +kernel
theorem dX4_isGreen_23 : decode cX4_isGreen 23 = .ok (.iload_n 1, 1) := by decide +kernel
theorem dX4_isGreen_24 : decode cX4_isGreen 24 = .ok (.imul, 1) := by decide +kernel
theorem dX4_isGreen_25 : decode cX4_isGreen 25 = .ok (.iconst 5, 1) := by decide +kernel
theorem dX4_isGreen_26 : decode cX4_isGreen 26 = .ok (.iadd, 1) := by decide +kernel
theorem dX4_isGreen_27 : decode cX4_isGreen 27 = .ok (.aload_n 0, 1) := by decide +kernel
theorem dX4_isGreen_28 : decode cX4_isGreen 28 = .ok (.getfield 115, 3) := by decide +kernel
theorem dX4_isGreen_31 : decode cX4_isGreen 31 = .ok (.iload_n 1, 1) := by decide +kernel
theorem dX4_isGreen_32 : decode cX4_isGreen 32 = .ok (.iaload, 1) := by decide +kernel
theorem dX4_isGreen_33 : decode cX4_isGreen 33 = .ok (.aload_n 0, 1) := by decide +kernel
theorem dX4_isGreen_34 : decode cX4_isGreen 34 = .ok (.getfield 118, 3) := by decide +kernel
theorem dX4_isGreen_37 : decode cX4_isGreen 37 = .ok (.iload_n 1, 1) := by decide +kernel
theorem dX4_isGreen_38 : decode cX4_isGreen 38 = .ok (.iaload, 1) := by decide +kernel
theorem dX4_isGreen_39 : decode cX4_isGreen 39 = .ok (.aload_n 0, 1) := by decide +kernel
theorem dX4_isGreen_40 : decode cX4_isGreen 40 = .ok (.getfield 121, 3) := by decide +kernel
theorem dX4_isGreen_43 : decode cX4_isGreen 43 = .ok (.iload_n 1, 1) := by decide +kernel
theorem dX4_isGreen_44 : decode cX4_isGreen 44 = .ok (.iaload, 1) := by decide +kernel
theorem dX4_isGreen_45 : decode cX4_isGreen 45 = .ok (.invokevirtual 290, 3) := by decide +kernel
theorem dX4_isGreen_48 : decode cX4_isGreen 48 = .ok (.ifCond .eq 7, 3) := by decide +kernel
theorem dX4_isGreen_51 : decode cX4_isGreen 51 = .ok (.iconst 1, 1) := by decide +kernel
theorem dX4_isGreen_52 : decode cX4_isGreen 52 = .ok (.goto 4, 3) := by decide +kernel
theorem dX4_isGreen_55 : decode cX4_isGreen 55 = .ok (.iconst 0, 1) := by decide +kernel
theorem dX4_isGreen_56 : decode cX4_isGreen 56 = .ok (.ireturn, 1) := by decide +kernel
theorem ycX4_isGreen : yX4_isGreen.cls ≠ "java/lang/invoke/MethodHandle" ∧ yX4_isGreen.cls ≠ "java/lang/invoke/VarHandle" ∧ (parseMethodDescriptor yX4_isGreen.desc).map (fun d => d.parameters.length) = some 1 := by decide +kernel
theorem yvX4_isGreen : yX4_isGreen.cls = RR 4 ∧ yX4_isGreen.cls ≠ "java/lang/invoke/MethodHandle" ∧ yX4_isGreen.cls ≠ "java/lang/invoke/VarHandle" ∧ (parseMethodDescriptor yX4_isGreen.desc).map (fun d => d.parameters.length) = some 1 := ⟨rfl, ycX4_isGreen⟩
def f_X4_isGreen (n : Nat) (p0 : Nat) (p1 : Int32) : Act Int32 :=
  bnd (gd 4 p0 (nt (f_X4_isThrough p0 p1))) fun v1 =>
  jn (fun (v2 : Int32) =>
    purS (ty := .boolean) v2) fun j56 =>
  jn (fun (_ : Unit) =>
    j56 0) fun j55 =>
  if v1 = 0 then
    j55 ()
  else
    bnd (gd 4 p0 (nt (f_X4_inForce n p0 ((6 * p1) + 5)))) fun v3 =>
    bnd (getR 4 41 p0) fun v4 =>
    bnd (ldI 0 v4 p1) fun v5 =>
    bnd (getR 4 42 p0) fun v6 =>
    bnd (ldI 0 v6 p1) fun v7 =>
    bnd (getR 4 43 p0) fun v8 =>
    bnd (ldI 0 v8 p1) fun v9 =>
    bnd (gd 4 p0 (nt (f_X4_asks n p0 v3 (6 : Int32) ((6 * p1) + 5) v5 v7 v9))) fun v10 =>
    if v10 = 0 then
      j55 ()
    else
      j56 1
set_option maxHeartbeats 4000000 in
theorem ct_X4_isGreen (l : Launch) (n : Nat) (p0 : Nat) (p1 : Int32) : Ct l Pic yX4_isGreen (ws_ yX4_isGreen cX4_isGreen 2 (some FieldType.boolean)) 42 971 cvI [rv p0, .int p1] (f_X4_isGreen n p0 p1) := by
  refine Ct.of (own := RX4) (L := [(0, rv p0), (1, .int p1)]) (plainFor_of_name (by decide)) rfl (by first | decide | simp [lg_sl, rv_cat, cat_i, cat_l]) (by first | rfl | simp [lv_args, rv_cat, cat_i, cat_l]) pcZ (fun X hXl hX hnh hin => ?_)
  subst hXl
  unfold f_X4_isGreen
  refine s_aload_n hX dX4_isGreen_0 rfl 0 rfl ?_
  refine s_iload_n hX dX4_isGreen_1 rfl 1 rfl ?_
  refine s_callV_I (ci := 4) (n := 1) (As := [.int p1]) (st := []) hX (pcK 5) (by decide) (ct_X4_isThrough X.l p0 p1) q1933 q1935 qs63 q91 q1936 yvX4_isThrough (by decide) rfl (by first | decide | simp [rv_cat, cat_i, cat_l]) dX4_isGreen_2 (fun v1 => ?_)
  refine s_jn (P := fun j => ∀ (v2 : Int32), Sim X cvI 56 [] [.int v2] (j v2)) ?_ (fun j56 hj56 => ?_)
  · intro v2
    exact s_zret hX dX4_isGreen_56
  · refine s_jn (P := fun j => ∀ (u : Unit), Sim X cvI 55 [] [] (j u)) ?_ (fun j55 hj55 => ?_)
    · intro u
      refine s_iconst (v := 0) hX dX4_isGreen_55 rfl ?_
      exact hj56 0
    · refine s_if_eq (tgt := 55) hX dX4_isGreen_5 (by decide) ?_ ?_
      · exact s_sub [] rfl (hj55 ())
      · refine s_aload_n hX dX4_isGreen_8 rfl 0 rfl ?_
        refine s_aload_n hX dX4_isGreen_9 rfl 0 rfl ?_
        refine s_bipush (v := 6) hX dX4_isGreen_10 (by decide) ?_
        refine s_iload_n hX dX4_isGreen_12 rfl 1 rfl ?_
        refine s_imul hX dX4_isGreen_13 ?_
        refine s_iconst (v := 5) hX dX4_isGreen_14 rfl ?_
        refine s_iadd hX dX4_isGreen_15 ?_
        refine s_callV_I (ci := 4) (n := 1) (As := [.int ((6 * p1) + 5)]) (st := [rv p0]) hX (pcK 5) (by decide) (ct_X4_inForce X.l n p0 ((6 * p1) + 5)) q1829 q1831 qs45 q91 q1832 yvX4_inForce (by decide) rfl (by first | decide | simp [rv_cat, cat_i, cat_l]) dX4_isGreen_16 (fun v3 => ?_)
        refine s_bipush (v := 6) hX dX4_isGreen_19 (by decide) ?_
        refine s_bipush (v := 6) hX dX4_isGreen_21 (by decide) ?_
        refine s_iload_n hX dX4_isGreen_23 rfl 1 rfl ?_
        refine s_imul hX dX4_isGreen_24 ?_
        refine s_iconst (v := 5) hX dX4_isGreen_25 rfl ?_
        refine s_iadd hX dX4_isGreen_26 ?_
        refine s_aload_n hX dX4_isGreen_27 rfl 0 rfl ?_
        refine s_getR (ci := 4) (j := 41) (ref := "WindGasModel") hX (pcG 4) in_X4 (Or.inl q1579) (by decide) (by decide) (by decide) rfl dX4_isGreen_28 (fun _ h9 => h9) (fun v4 => ?_)
        refine s_iload_n hX dX4_isGreen_31 rfl 1 rfl ?_
        refine s_iald hX (pcA 0) dX4_isGreen_32 (fun v5 => ?_)
        refine s_aload_n hX dX4_isGreen_33 rfl 0 rfl ?_
        refine s_getR (ci := 4) (j := 42) (ref := "WindGasModel") hX (pcG 4) in_X4 (Or.inl q1580) (by decide) (by decide) (by decide) rfl dX4_isGreen_34 (fun _ h9 => h9) (fun v6 => ?_)
        refine s_iload_n hX dX4_isGreen_37 rfl 1 rfl ?_
        refine s_iald hX (pcA 0) dX4_isGreen_38 (fun v7 => ?_)
        refine s_aload_n hX dX4_isGreen_39 rfl 0 rfl ?_
        refine s_getR (ci := 4) (j := 43) (ref := "WindGasModel") hX (pcG 4) in_X4 (Or.inl q1581) (by decide) (by decide) (by decide) rfl dX4_isGreen_40 (fun _ h9 => h9) (fun v8 => ?_)
        refine s_iload_n hX dX4_isGreen_43 rfl 1 rfl ?_
        refine s_iald hX (pcA 0) dX4_isGreen_44 (fun v9 => ?_)
        refine s_callV_I (ci := 4) (n := 6) (As := [.int v3, .int 6, .int ((6 * p1) + 5), .int v5, .int v7, .int v9]) (st := []) hX (pcK 5) (by decide) (ct_X4_asks X.l n p0 v3 (6 : Int32) ((6 * p1) + 5) v5 v7 v9) q1840 q1842 qs47 q91 q1843 yvX4_asks (by decide) rfl (by first | decide | simp [rv_cat, cat_i, cat_l]) dX4_isGreen_45 (fun v10 => ?_)
        refine s_if_eq (tgt := 55) hX dX4_isGreen_48 (by decide) ?_ ?_
        · exact s_sub [] rfl (hj55 ())
        · refine s_iconst (v := 1) hX dX4_isGreen_51 rfl ?_
          refine s_goto (tgt := 56) hX dX4_isGreen_52 (by decide) ?_
          exact s_sub [] rfl (hj56 1)
theorem dX4_proved_0 : decode cX4_proved 0 = .ok (.iconst 0, 1) := by decide +kernel
theorem dX4_proved_1 : decode cX4_proved 1 = .ok (.istore_n 2, 1) := by decide +kernel
theorem dX4_proved_2 : decode cX4_proved 2 = .ok (.iconst 0, 1) := by decide +kernel
theorem dX4_proved_3 : decode cX4_proved 3 = .ok (.istore_n 3, 1) := by decide +kernel
theorem dX4_proved_4 : decode cX4_proved 4 = .ok (.iload_n 3, 1) := by decide +kernel
theorem dX4_proved_5 : decode cX4_proved 5 = .ok (.sipush 834, 3) := by decide +kernel
theorem dX4_proved_8 : decode cX4_proved 8 = .ok (.if_icmp .ge 47, 3) := by decide +kernel
theorem dX4_proved_11 : decode cX4_proved 11 = .ok (.aload_n 0, 1) := by decide +kernel
theorem dX4_proved_12 : decode cX4_proved 12 = .ok (.getfield 109, 3) := by decide +kernel
theorem dX4_proved_15 : decode cX4_proved 15 = .ok (.sipush 834, 3) := by decide +kernel
theorem dX4_proved_18 : decode cX4_proved 18 = .ok (.iload_n 1, 1) := by decide +kernel
theorem dX4_proved_19 : decode cX4_proved 19 = .ok (.imul, 1) := by decide +kernel
theorem dX4_proved_20 : decode cX4_proved 20 = .ok (.iload_n 3, 1) := by decide +kernel
theorem dX4_proved_21 : decode cX4_proved 21 = .ok (.iadd, 1) := by decide +kernel
theorem dX4_proved_22 : decode cX4_proved 22 = .ok (.iaload, 1) := by decide +kernel
theorem dX4_proved_23 : decode cX4_proved 23 = .ok (.ifCond .le 26, 3) := by decide +kernel
theorem dX4_proved_26 : decode cX4_proved 26 = .ok (.aload_n 0, 1) := by decide +kernel
theorem dX4_proved_27 : decode cX4_proved 27 = .ok (.iload_n 3, 1) := by decide +kernel
theorem dX4_proved_28 : decode cX4_proved 28 = .ok (.invokevirtual 319, 3) := by decide +kernel
theorem dX4_proved_31 : decode cX4_proved 31 = .ok (.ifCond .eq 18, 3) := by decide +kernel
theorem dX4_proved_34 : decode cX4_proved 34 = .ok (.iload_n 2, 1) := by decide +kernel
theorem dX4_proved_35 : decode cX4_proved 35 = .ok (.aload_n 0, 1) := by decide +kernel
theorem dX4_proved_36 : decode cX4_proved 36 = .ok (.getfield 109, 3) := by decide +kernel
theorem dX4_proved_39 : decode cX4_proved 39 = .ok (.sipush 834, 3) := by decide +kernel
theorem dX4_proved_42 : decode cX4_proved 42 = .ok (.iload_n 1, 1) := by decide +kernel
theorem dX4_proved_43 : decode cX4_proved 43 = .ok (.imul, 1) := by decide +kernel
theorem dX4_proved_44 : decode cX4_proved 44 = .ok (.iload_n 3, 1) := by decide +kernel
theorem dX4_proved_45 : decode cX4_proved 45 = .ok (.iadd, 1) := by decide +kernel
theorem dX4_proved_46 : decode cX4_proved 46 = .ok (.iaload, 1) := by decide +kernel
theorem dX4_proved_47 : decode cX4_proved 47 = .ok (.iadd, 1) := by decide +kernel
theorem dX4_proved_48 : decode cX4_proved 48 = .ok (.istore_n 2, 1) := by decide +kernel
theorem dX4_proved_49 : decode cX4_proved 49 = .ok (.iinc 3 1, 3) := by decide +kernel
theorem dX4_proved_52 : decode cX4_proved 52 = .ok (.goto (-48), 3) := by decide +kernel
theorem dX4_proved_55 : decode cX4_proved 55 = .ok (.iload_n 2, 1) := by decide +kernel
theorem dX4_proved_56 : decode cX4_proved 56 = .ok (.ireturn, 1) := by decide +kernel
theorem ycX4_proved : yX4_proved.cls ≠ "java/lang/invoke/MethodHandle" ∧ yX4_proved.cls ≠ "java/lang/invoke/VarHandle" ∧ (parseMethodDescriptor yX4_proved.desc).map (fun d => d.parameters.length) = some 1 := by decide +kernel
theorem yvX4_proved : yX4_proved.cls = RR 4 ∧ yX4_proved.cls ≠ "java/lang/invoke/MethodHandle" ∧ yX4_proved.cls ≠ "java/lang/invoke/VarHandle" ∧ (parseMethodDescriptor yX4_proved.desc).map (fun d => d.parameters.length) = some 1 := ⟨rfl, ycX4_proved⟩
def lp_X4_proved_4 (n : Nat) (p0 : Nat) (p1 : Int32) (q : Nat) : Int32 → Int32 → Act Int32 := match q with
  | 0 => fun _ _ => fail
  | q + 1 => fun w1 w2 =>
    if 834 ≤ w2 then
      pur w1
    else
      bnd (getR 4 38 p0) fun v3 =>
      bnd (ldI 0 v3 ((834 * p1) + w2)) fun v4 =>
      jn (fun (v5 : Int32) =>
        (lp_X4_proved_4 n p0 p1 q) v5 (w2 + 1)) fun j49 =>
      if v4 ≤ 0 then
        j49 w1
      else
        bnd (gd 4 p0 (nt (f_X4_isGreen n p0 w2))) fun v6 =>
        if v6 = 0 then
          j49 w1
        else
          bnd (getR 4 38 p0) fun v7 =>
          bnd (ldI 0 v7 ((834 * p1) + w2)) fun v8 =>
          j49 (w1 + v8)
def f_X4_proved (n : Nat) (p0 : Nat) (p1 : Int32) : Act Int32 :=
  lp_X4_proved_4 n p0 p1 n 0 0
set_option maxHeartbeats 4000000 in
theorem s_lp_X4_proved_4 {X : Cx} (hX : Ok X Pic cX4_proved RX4 4 (some FieldType.int) 43 992) (hnh : Noh X) (n : Nat) (p0 : Nat) (p1 : Int32) (q : Nat) : ∀ (w1 : Int32) (w2 : Int32), Sim X cvI 4 [(0, rv p0), (1, .int p1), (2, .int w1), (3, .int w2)] [] (lp_X4_proved_4 n p0 p1 q w1 w2) := by
  induction q with
  | zero => intro w1 w2; exact s_fail
  | succ q ih4 =>
    intro w1 w2
    rw [lp_X4_proved_4]
    refine s_iload_n hX dX4_proved_4 rfl 3 rfl ?_
    refine s_sipush (v := 834) hX dX4_proved_5 (by decide) ?_
    refine s_icmp_ge (tgt := 55) hX dX4_proved_8 (by decide) ?_ ?_
    · refine s_iload_n hX dX4_proved_55 rfl 2 rfl ?_
      exact s_iret hX dX4_proved_56
    · refine s_aload_n hX dX4_proved_11 rfl 0 rfl ?_
      refine s_getR (ci := 4) (j := 38) (ref := "WindGasModel") hX (pcG 4) in_X4 (Or.inl q1576) (by decide) (by decide) (by decide) rfl dX4_proved_12 (fun _ h9 => h9) (fun v3 => ?_)
      refine s_sipush (v := 834) hX dX4_proved_15 (by decide) ?_
      refine s_iload_n hX dX4_proved_18 rfl 1 rfl ?_
      refine s_imul hX dX4_proved_19 ?_
      refine s_iload_n hX dX4_proved_20 rfl 3 rfl ?_
      refine s_iadd hX dX4_proved_21 ?_
      refine s_iald hX (pcA 0) dX4_proved_22 (fun v4 => ?_)
      refine s_jn (P := fun j => ∀ (v5 : Int32), Sim X cvI 49 [(0, rv p0), (1, .int p1), (2, .int v5), (3, .int w2)] [] (j v5)) ?_ (fun j49 hj49 => ?_)
      · intro v5
        refine s_iinc (k := 3) (v := (w2 + 1)) (L2 := [(3, .int (w2 + 1)), (0, rv p0), (1, .int p1), (2, .int v5)]) hX dX4_proved_49 rfl rfl (by decide) rfl ?_
        refine s_goto (tgt := 4) hX dX4_proved_52 (by decide) ?_
        exact s_sub [1, 2, 3, 0] rfl (ih4 v5 (w2 + 1))
      · refine s_if_le (tgt := 49) hX dX4_proved_23 (by decide) ?_ ?_
        · exact hj49 w1
        · refine s_aload_n hX dX4_proved_26 rfl 0 rfl ?_
          refine s_iload_n hX dX4_proved_27 rfl 3 rfl ?_
          refine s_callV_I (ci := 4) (n := 1) (As := [.int w2]) (st := []) hX (pcK 5) (by decide) (ct_X4_isGreen X.l n p0 w2) q1929 q1931 qs62 q91 q1932 yvX4_isGreen (by decide) rfl (by first | decide | simp [rv_cat, cat_i, cat_l]) dX4_proved_28 (fun v6 => ?_)
          refine s_if_eq (tgt := 49) hX dX4_proved_31 (by decide) ?_ ?_
          · exact hj49 w1
          · refine s_iload_n hX dX4_proved_34 rfl 2 rfl ?_
            refine s_aload_n hX dX4_proved_35 rfl 0 rfl ?_
            refine s_getR (ci := 4) (j := 38) (ref := "WindGasModel") hX (pcG 4) in_X4 (Or.inl q1576) (by decide) (by decide) (by decide) rfl dX4_proved_36 (fun _ h9 => h9) (fun v7 => ?_)
            refine s_sipush (v := 834) hX dX4_proved_39 (by decide) ?_
            refine s_iload_n hX dX4_proved_42 rfl 1 rfl ?_
            refine s_imul hX dX4_proved_43 ?_
            refine s_iload_n hX dX4_proved_44 rfl 3 rfl ?_
            refine s_iadd hX dX4_proved_45 ?_
            refine s_iald hX (pcA 0) dX4_proved_46 (fun v8 => ?_)
            refine s_iadd hX dX4_proved_47 ?_
            refine s_istore_n (i := 2) (L2 := [(2, .int (w1 + v8)), (0, rv p0), (1, .int p1), (3, .int w2)]) hX dX4_proved_48 rfl (by decide) rfl ?_
            exact s_sub [1, 2, 0, 3] rfl (hj49 (w1 + v8))
set_option maxHeartbeats 4000000 in
theorem ct_X4_proved (l : Launch) (n : Nat) (p0 : Nat) (p1 : Int32) : Ct l Pic yX4_proved (ws_ yX4_proved cX4_proved 4 (some FieldType.int)) 43 992 cvI [rv p0, .int p1] (f_X4_proved n p0 p1) := by
  refine Ct.of (own := RX4) (L := [(0, rv p0), (1, .int p1)]) (plainFor_of_name (by decide)) rfl (by first | decide | simp [lg_sl, rv_cat, cat_i, cat_l]) (by first | rfl | simp [lv_args, rv_cat, cat_i, cat_l]) pcZ (fun X hXl hX hnh hin => ?_)
  subst hXl
  unfold f_X4_proved
  refine s_iconst (v := 0) hX dX4_proved_0 rfl ?_
  refine s_istore_n (i := 2) (L2 := [(2, .int 0), (0, rv p0), (1, .int p1)]) hX dX4_proved_1 rfl (by decide) rfl ?_
  refine s_iconst (v := 0) hX dX4_proved_2 rfl ?_
  refine s_istore_n (i := 3) (L2 := [(3, .int 0), (2, .int 0), (0, rv p0), (1, .int p1)]) hX dX4_proved_3 rfl (by decide) rfl ?_
  exact s_sub [2, 3, 1, 0] rfl (s_lp_X4_proved_4 hX hnh n p0 p1 n 0 0)
theorem dX4_tripOf_0 : decode cX4_tripOf 0 = .ok (.aload_n 0, 1) := by decide +kernel
theorem dX4_tripOf_1 : decode cX4_tripOf 1 = .ok (.iload_n 1, 1) := by decide +kernel
theorem dX4_tripOf_2 : decode cX4_tripOf 2 = .ok (.invokevirtual 322, 3) := by decide +kernel
theorem dX4_tripOf_5 : decode cX4_tripOf 5 = .ok (.ifCond .ne 5, 3) := by decide +kernel
theorem dX4_tripOf_8 : decode cX4_tripOf 8 = .ok (.iconst (-1), 1) := by decide +kernel
theorem dX4_tripOf_9 : decode cX4_tripOf 9 = .ok (.ireturn, 1) := by decide +kernel
theorem dX4_tripOf_10 : decode cX4_tripOf 10 = .ok (.iload_n 2, 1) := by decide +kernel
theorem dX4_tripOf_11 : decode cX4_tripOf 11 = .ok (.tableswitch 141 0 7 #[45, 52, 59, 66, 73, 80, 87, 93], 45) := by decide +kernel
theorem dX4_tripOf_56 : decode cX4_tripOf 56 = .ok (.aload_n 0, 1) := by decide +kernel
theorem dX4_tripOf_57 : decode cX4_tripOf 57 = .ok (.getfield 90, 3) := by decide +kernel
theorem dX4_tripOf_60 : decode cX4_tripOf 60 = .ok (.iload_n 1, 1) := by decide +kernel
theorem dX4_tripOf_61 : decode cX4_tripOf 61 = .ok (.iaload, 1) := by decide +kernel
theorem dX4_tripOf_62 : decode cX4_tripOf 62 = .ok (.ireturn, 1) := by decide +kernel
theorem dX4_tripOf_63 : decode cX4_tripOf 63 = .ok (.aload_n 0, 1) := by decide +kernel
theorem dX4_tripOf_64 : decode cX4_tripOf 64 = .ok (.getfield 93, 3) := by decide +kernel
theorem dX4_tripOf_67 : decode cX4_tripOf 67 = .ok (.iload_n 1, 1) := by decide +kernel
theorem dX4_tripOf_68 : decode cX4_tripOf 68 = .ok (.iaload, 1) := by decide +kernel
theorem dX4_tripOf_69 : decode cX4_tripOf 69 = .ok (.ireturn, 1) := by decide +kernel
theorem dX4_tripOf_70 : decode cX4_tripOf 70 = .ok (.aload_n 0, 1) := by decide +kernel
theorem dX4_tripOf_71 : decode cX4_tripOf 71 = .ok (.getfield 96, 3) := by decide +kernel
theorem dX4_tripOf_74 : decode cX4_tripOf 74 = .ok (.iload_n 1, 1) := by decide +kernel
theorem dX4_tripOf_75 : decode cX4_tripOf 75 = .ok (.iaload, 1) := by decide +kernel
theorem dX4_tripOf_76 : decode cX4_tripOf 76 = .ok (.ireturn, 1) := by decide +kernel
theorem dX4_tripOf_77 : decode cX4_tripOf 77 = .ok (.aload_n 0, 1) := by decide +kernel
theorem dX4_tripOf_78 : decode cX4_tripOf 78 = .ok (.getfield 99, 3) := by decide +kernel
theorem dX4_tripOf_81 : decode cX4_tripOf 81 = .ok (.iload_n 1, 1) := by decide +kernel
theorem dX4_tripOf_82 : decode cX4_tripOf 82 = .ok (.iaload, 1) := by decide +kernel
theorem dX4_tripOf_83 : decode cX4_tripOf 83 = .ok (.ireturn, 1) := by decide +kernel
theorem dX4_tripOf_84 : decode cX4_tripOf 84 = .ok (.aload_n 0, 1) := by decide +kernel
theorem dX4_tripOf_85 : decode cX4_tripOf 85 = .ok (.getfield 102, 3) := by decide +kernel
theorem dX4_tripOf_88 : decode cX4_tripOf 88 = .ok (.iload_n 1, 1) := by decide +kernel
theorem dX4_tripOf_89 : decode cX4_tripOf 89 = .ok (.iaload, 1) := by decide +kernel
theorem dX4_tripOf_90 : decode cX4_tripOf 90 = .ok (.ireturn, 1) := by decide +kernel
theorem dX4_tripOf_91 : decode cX4_tripOf 91 = .ok (.aload_n 0, 1) := by decide +kernel
theorem dX4_tripOf_92 : decode cX4_tripOf 92 = .ok (.getfield 105, 3) := by decide +kernel
theorem dX4_tripOf_95 : decode cX4_tripOf 95 = .ok (.iload_n 1, 1) := by decide +kernel
theorem dX4_tripOf_96 : decode cX4_tripOf 96 = .ok (.iaload, 1) := by decide +kernel
theorem dX4_tripOf_97 : decode cX4_tripOf 97 = .ok (.ireturn, 1) := by decide +kernel
theorem dX4_tripOf_98 : decode cX4_tripOf 98 = .ok (.aload_n 0, 1) := by decide +kernel
theorem dX4_tripOf_99 : decode cX4_tripOf 99 = .ok (.iload_n 1, 1) := by decide +kernel
theorem dX4_tripOf_100 : decode cX4_tripOf 100 = .ok (.invokevirtual 325, 3) := by decide +kernel
theorem dX4_tripOf_103 : decode cX4_tripOf 103 = .ok (.ireturn, 1) := by decide +kernel
theorem dX4_tripOf_104 : decode cX4_tripOf 104 = .ok (.iconst 0, 1) := by decide +kernel
theorem dX4_tripOf_105 : decode cX4_tripOf 105 = .ok (.istore_n 3, 1) := by decide +kernel
theorem dX4_tripOf_106 : decode cX4_tripOf 106 = .ok (.iconst 0, 1) := by decide +kernel
theorem dX4_tripOf_107 : decode cX4_tripOf 107 = .ok (.istore 4, 2) := by decide +kernel
theorem dX4_tripOf_109 : decode cX4_tripOf 109 = .ok (.iload 4, 2) := by decide +kernel
theorem dX4_tripOf_111 : decode cX4_tripOf 111 = .ok (.sipush 834, 3) := by decide +kernel
theorem dX4_tripOf_114 : decode cX4_tripOf 114 = .ok (.if_icmp .ge 36, 3) := by decide +kernel
theorem dX4_tripOf_117 : decode cX4_tripOf 117 = .ok (.iload_n 3, 1) := by decide +kernel
theorem dX4_tripOf_118 : decode cX4_tripOf 118 = .ok (.aload_n 0, 1) := by decide +kernel
theorem dX4_tripOf_119 : decode cX4_tripOf 119 = .ok (.getfield 109, 3) := by decide +kernel
theorem dX4_tripOf_122 : decode cX4_tripOf 122 = .ok (.sipush 834, 3) := by decide +kernel
theorem dX4_tripOf_125 : decode cX4_tripOf 125 = .ok (.iload_n 1, 1) := by decide +kernel
theorem dX4_tripOf_126 : decode cX4_tripOf 126 = .ok (.imul, 1) := by decide +kernel
theorem dX4_tripOf_127 : decode cX4_tripOf 127 = .ok (.iload 4, 2) := by decide +kernel
theorem dX4_tripOf_129 : decode cX4_tripOf 129 = .ok (.iadd, 1) := by decide +kernel
theorem dX4_tripOf_130 : decode cX4_tripOf 130 = .ok (.iaload, 1) := by decide +kernel
theorem dX4_tripOf_131 : decode cX4_tripOf 131 = .ok (.ifCond .le 7, 3) := by decide +kernel
theorem dX4_tripOf_134 : decode cX4_tripOf 134 = .ok (.iconst 1, 1) := by decide +kernel
theorem dX4_tripOf_135 : decode cX4_tripOf 135 = .ok (.goto 4, 3) := by decide +kernel
theorem dX4_tripOf_138 : decode cX4_tripOf 138 = .ok (.iconst 0, 1) := by decide +kernel
theorem dX4_tripOf_139 : decode cX4_tripOf 139 = .ok (.invokestatic 266, 3) := by decide +kernel
theorem dX4_tripOf_142 : decode cX4_tripOf 142 = .ok (.iadd, 1) := by decide +kernel
theorem dX4_tripOf_143 : decode cX4_tripOf 143 = .ok (.istore_n 3, 1) := by decide +kernel
theorem dX4_tripOf_144 : decode cX4_tripOf 144 = .ok (.iinc 4 1, 3) := by decide +kernel
theorem dX4_tripOf_147 : decode cX4_tripOf 147 = .ok (.goto (-38), 3) := by decide +kernel
theorem dX4_tripOf_150 : decode cX4_tripOf 150 = .ok (.iload_n 3, 1) := by decide +kernel
theorem dX4_tripOf_151 : decode cX4_tripOf 151 = .ok (.ireturn, 1) := by decide +kernel
theorem dX4_tripOf_152 : decode cX4_tripOf 152 = .ok (.iconst (-1), 1) := by decide +kernel
theorem dX4_tripOf_153 : decode cX4_tripOf 153 = .ok (.ireturn, 1) := by decide +kernel
theorem ycX4_tripOf : yX4_tripOf.cls ≠ "java/lang/invoke/MethodHandle" ∧ yX4_tripOf.cls ≠ "java/lang/invoke/VarHandle" ∧ (parseMethodDescriptor yX4_tripOf.desc).map (fun d => d.parameters.length) = some 2 := by decide +kernel
theorem yvX4_tripOf : yX4_tripOf.cls = RR 4 ∧ yX4_tripOf.cls ≠ "java/lang/invoke/MethodHandle" ∧ yX4_tripOf.cls ≠ "java/lang/invoke/VarHandle" ∧ (parseMethodDescriptor yX4_tripOf.desc).map (fun d => d.parameters.length) = some 2 := ⟨rfl, ycX4_tripOf⟩
def lp_X4_tripOf_109 (p0 : Nat) (p1 : Int32) (q : Nat) : Int32 → Int32 → Act Int32 := match q with
  | 0 => fun _ _ => fail
  | q + 1 => fun w15 w16 =>
    if 834 ≤ w16 then
      pur w15
    else
      bnd (getR 4 38 p0) fun v17 =>
      bnd (ldI 0 v17 ((834 * p1) + w16)) fun v18 =>
      jn (fun (v19 : Int32) =>
        bnd (nt (f_X4_one v19)) fun v20 =>
        (lp_X4_tripOf_109 p0 p1 q) (w15 + v20) (w16 + 1)) fun j139 =>
      if v18 ≤ 0 then
        j139 0
      else
        j139 1
def f_X4_tripOf (n : Nat) (p0 : Nat) (p1 : Int32) (p2 : Int32) : Act Int32 :=
  bnd (gd 4 p0 (nt (f_X4_isTrip p0 p1))) fun v1 =>
  if ¬ v1 = 0 then
    sw p2 (0) [
      bnd (getR 4 32 p0) fun v2 =>
      bnd (ldI 0 v2 p1) fun v3 =>
      pur v3,
      bnd (getR 4 33 p0) fun v4 =>
      bnd (ldI 0 v4 p1) fun v5 =>
      pur v5,
      bnd (getR 4 34 p0) fun v6 =>
      bnd (ldI 0 v6 p1) fun v7 =>
      pur v7,
      bnd (getR 4 35 p0) fun v8 =>
      bnd (ldI 0 v8 p1) fun v9 =>
      pur v9,
      bnd (getR 4 36 p0) fun v10 =>
      bnd (ldI 0 v10 p1) fun v11 =>
      pur v11,
      bnd (getR 4 37 p0) fun v12 =>
      bnd (ldI 0 v12 p1) fun v13 =>
      pur v13,
      bnd (gd 4 p0 (nt (f_X4_proved n p0 p1))) fun v14 =>
      pur v14,
      lp_X4_tripOf_109 p0 p1 n 0 0] (
      pur (-1))
  else
    pur (-1)
set_option maxHeartbeats 4000000 in
theorem s_lp_X4_tripOf_109 {X : Cx} (hX : Ok X Pic cX4_tripOf RX4 5 (some FieldType.int) 44 1015) (hnh : Noh X) (p0 : Nat) (p1 : Int32) (q : Nat) : ∀ (w15 : Int32) (w16 : Int32), Sim X cvI 109 [(0, rv p0), (1, .int p1), (3, .int w15), (4, .int w16)] [] (lp_X4_tripOf_109 p0 p1 q w15 w16) := by
  induction q with
  | zero => intro w15 w16; exact s_fail
  | succ q ih109 =>
    intro w15 w16
    rw [lp_X4_tripOf_109]
    refine s_iload hX dX4_tripOf_109 3 rfl ?_
    refine s_sipush (v := 834) hX dX4_tripOf_111 (by decide) ?_
    refine s_icmp_ge (tgt := 150) hX dX4_tripOf_114 (by decide) ?_ ?_
    · refine s_iload_n hX dX4_tripOf_150 rfl 2 rfl ?_
      exact s_iret hX dX4_tripOf_151
    · refine s_iload_n hX dX4_tripOf_117 rfl 2 rfl ?_
      refine s_aload_n hX dX4_tripOf_118 rfl 0 rfl ?_
      refine s_getR (ci := 4) (j := 38) (ref := "WindGasModel") hX (pcG 4) in_X4 (Or.inl q1576) (by decide) (by decide) (by decide) rfl dX4_tripOf_119 (fun _ h9 => h9) (fun v17 => ?_)
      refine s_sipush (v := 834) hX dX4_tripOf_122 (by decide) ?_
      refine s_iload_n hX dX4_tripOf_125 rfl 1 rfl ?_
      refine s_imul hX dX4_tripOf_126 ?_
      refine s_iload hX dX4_tripOf_127 3 rfl ?_
      refine s_iadd hX dX4_tripOf_129 ?_
      refine s_iald hX (pcA 0) dX4_tripOf_130 (fun v18 => ?_)
      refine s_jn (P := fun j => ∀ (v19 : Int32), Sim X cvI 139 [(0, rv p0), (1, .int p1), (4, .int w16)] [.int v19, .int w15] (j v19)) ?_ (fun j139 hj139 => ?_)
      · intro v19
        refine s_callS_I (n := 1) (As := [.int v19]) (st := [.int w15]) hX (ct_X4_one X.l v19) q1837 q1838 q91 q1839 ycX4_one (by decide) rfl (by first | decide | simp [rv_cat, cat_i, cat_l]) dX4_tripOf_139 (fun v20 => ?_)
        refine s_iadd hX dX4_tripOf_142 ?_
        refine s_istore_n (i := 3) (L2 := [(3, .int (w15 + v20)), (0, rv p0), (1, .int p1), (4, .int w16)]) hX dX4_tripOf_143 rfl (by decide) rfl ?_
        refine s_iinc (k := 3) (v := (w16 + 1)) (L2 := [(4, .int (w16 + 1)), (3, .int (w15 + v20)), (0, rv p0), (1, .int p1)]) hX dX4_tripOf_144 rfl rfl (by decide) rfl ?_
        refine s_goto (tgt := 109) hX dX4_tripOf_147 (by decide) ?_
        exact s_sub [2, 3, 1, 0] rfl (ih109 (w15 + v20) (w16 + 1))
      · refine s_if_le (tgt := 138) hX dX4_tripOf_131 (by decide) ?_ ?_
        · refine s_iconst (v := 0) hX dX4_tripOf_138 rfl ?_
          exact s_sub [0, 1, 3] rfl (hj139 0)
        · refine s_iconst (v := 1) hX dX4_tripOf_134 rfl ?_
          refine s_goto (tgt := 139) hX dX4_tripOf_135 (by decide) ?_
          exact s_sub [0, 1, 3] rfl (hj139 1)
set_option maxHeartbeats 4000000 in
theorem ct_X4_tripOf (l : Launch) (n : Nat) (p0 : Nat) (p1 : Int32) (p2 : Int32) : Ct l Pic yX4_tripOf (ws_ yX4_tripOf cX4_tripOf 5 (some FieldType.int)) 44 1015 cvI [rv p0, .int p1, .int p2] (f_X4_tripOf n p0 p1 p2) := by
  refine Ct.of (own := RX4) (L := [(0, rv p0), (1, .int p1), (2, .int p2)]) (plainFor_of_name (by decide)) rfl (by first | decide | simp [lg_sl, rv_cat, cat_i, cat_l]) (by first | rfl | simp [lv_args, rv_cat, cat_i, cat_l]) pcZ (fun X hXl hX hnh hin => ?_)
  subst hXl
  unfold f_X4_tripOf
  refine s_aload_n hX dX4_tripOf_0 rfl 0 rfl ?_
  refine s_iload_n hX dX4_tripOf_1 rfl 1 rfl ?_
  refine s_callV_I (ci := 4) (n := 1) (As := [.int p1]) (st := []) hX (pcK 5) (by decide) (ct_X4_isTrip X.l p0 p1) q1921 q1923 qs60 q91 q1924 yvX4_isTrip (by decide) rfl (by first | decide | simp [rv_cat, cat_i, cat_l]) dX4_tripOf_2 (fun v1 => ?_)
  refine s_if_ne (tgt := 10) hX dX4_tripOf_5 (by decide) ?_ ?_
  · refine s_iload_n hX dX4_tripOf_10 rfl 2 rfl ?_
    refine s_sw hX dX4_tripOf_11 (dt := 152) (by decide) (tgts := [56, 63, 70, 77, 84, 91, 98, 104]) (by decide) (by decide) ?_ ?_
    · refine s_iconst (v := -1) hX dX4_tripOf_152 (by decide) ?_
      exact s_iret hX dX4_tripOf_153
    · refine ⟨?_, ?_, ?_, ?_, ?_, ?_, ?_, ?_, trivial⟩
      · refine s_aload_n hX dX4_tripOf_56 rfl 0 rfl ?_
        refine s_getR (ci := 4) (j := 32) (ref := "WindGasModel") hX (pcG 4) in_X4 (Or.inl q1570) (by decide) (by decide) (by decide) rfl dX4_tripOf_57 (fun _ h9 => h9) (fun v2 => ?_)
        refine s_iload_n hX dX4_tripOf_60 rfl 1 rfl ?_
        refine s_iald hX (pcA 0) dX4_tripOf_61 (fun v3 => ?_)
        exact s_iret hX dX4_tripOf_62
      · refine s_aload_n hX dX4_tripOf_63 rfl 0 rfl ?_
        refine s_getR (ci := 4) (j := 33) (ref := "WindGasModel") hX (pcG 4) in_X4 (Or.inl q1571) (by decide) (by decide) (by decide) rfl dX4_tripOf_64 (fun _ h9 => h9) (fun v4 => ?_)
        refine s_iload_n hX dX4_tripOf_67 rfl 1 rfl ?_
        refine s_iald hX (pcA 0) dX4_tripOf_68 (fun v5 => ?_)
        exact s_iret hX dX4_tripOf_69
      · refine s_aload_n hX dX4_tripOf_70 rfl 0 rfl ?_
        refine s_getR (ci := 4) (j := 34) (ref := "WindGasModel") hX (pcG 4) in_X4 (Or.inl q1572) (by decide) (by decide) (by decide) rfl dX4_tripOf_71 (fun _ h9 => h9) (fun v6 => ?_)
        refine s_iload_n hX dX4_tripOf_74 rfl 1 rfl ?_
        refine s_iald hX (pcA 0) dX4_tripOf_75 (fun v7 => ?_)
        exact s_iret hX dX4_tripOf_76
      · refine s_aload_n hX dX4_tripOf_77 rfl 0 rfl ?_
        refine s_getR (ci := 4) (j := 35) (ref := "WindGasModel") hX (pcG 4) in_X4 (Or.inl q1573) (by decide) (by decide) (by decide) rfl dX4_tripOf_78 (fun _ h9 => h9) (fun v8 => ?_)
        refine s_iload_n hX dX4_tripOf_81 rfl 1 rfl ?_
        refine s_iald hX (pcA 0) dX4_tripOf_82 (fun v9 => ?_)
        exact s_iret hX dX4_tripOf_83
      · refine s_aload_n hX dX4_tripOf_84 rfl 0 rfl ?_
        refine s_getR (ci := 4) (j := 36) (ref := "WindGasModel") hX (pcG 4) in_X4 (Or.inl q1574) (by decide) (by decide) (by decide) rfl dX4_tripOf_85 (fun _ h9 => h9) (fun v10 => ?_)
        refine s_iload_n hX dX4_tripOf_88 rfl 1 rfl ?_
        refine s_iald hX (pcA 0) dX4_tripOf_89 (fun v11 => ?_)
        exact s_iret hX dX4_tripOf_90
      · refine s_aload_n hX dX4_tripOf_91 rfl 0 rfl ?_
        refine s_getR (ci := 4) (j := 37) (ref := "WindGasModel") hX (pcG 4) in_X4 (Or.inl q1575) (by decide) (by decide) (by decide) rfl dX4_tripOf_92 (fun _ h9 => h9) (fun v12 => ?_)
        refine s_iload_n hX dX4_tripOf_95 rfl 1 rfl ?_
        refine s_iald hX (pcA 0) dX4_tripOf_96 (fun v13 => ?_)
        exact s_iret hX dX4_tripOf_97
      · refine s_aload_n hX dX4_tripOf_98 rfl 0 rfl ?_
        refine s_iload_n hX dX4_tripOf_99 rfl 1 rfl ?_
        refine s_callV_I (ci := 4) (n := 1) (As := [.int p1]) (st := []) hX (pcK 5) (by decide) (ct_X4_proved X.l n p0 p1) q1925 q1927 qs61 q91 q1928 yvX4_proved (by decide) rfl (by first | decide | simp [rv_cat, cat_i, cat_l]) dX4_tripOf_100 (fun v14 => ?_)
        exact s_iret hX dX4_tripOf_103
      · refine s_iconst (v := 0) hX dX4_tripOf_104 rfl ?_
        refine s_istore_n (i := 3) (L2 := [(3, .int 0), (0, rv p0), (1, .int p1), (2, .int p2)]) hX dX4_tripOf_105 rfl (by decide) rfl ?_
        refine s_iconst (v := 0) hX dX4_tripOf_106 rfl ?_
        refine s_istore (i := 4) (L2 := [(4, .int 0), (3, .int 0), (0, rv p0), (1, .int p1), (2, .int p2)]) hX dX4_tripOf_107 (by decide) rfl ?_
        exact s_sub [2, 3, 1, 0] rfl (s_lp_X4_tripOf_109 hX hnh p0 p1 n 0 0)
  · refine s_iconst (v := -1) hX dX4_tripOf_8 (by decide) ?_
    exact s_iret hX dX4_tripOf_9
theorem dX4_drank_0 : decode cX4_drank 0 = .ok (.aload_n 0, 1) := by decide +kernel
theorem dX4_drank_1 : decode cX4_drank 1 = .ok (.iload_n 1, 1) := by decide +kernel
theorem dX4_drank_2 : decode cX4_drank 2 = .ok (.invokevirtual 322, 3) := by decide +kernel
theorem dX4_drank_5 : decode cX4_drank 5 = .ok (.ifCond .eq 29, 3) := by decide +kernel
theorem dX4_drank_8 : decode cX4_drank 8 = .ok (.iload_n 2, 1) := by decide +kernel
theorem dX4_drank_9 : decode cX4_drank 9 = .ok (.iconst 0, 1) := by decide +kernel
theorem dX4_drank_10 : decode cX4_drank 10 = .ok (.sipush 833, 3) := by decide +kernel
theorem dX4_drank_13 : decode cX4_drank 13 = .ok (.invokestatic 198, 3) := by decide +kernel
theorem dX4_drank_16 : decode cX4_drank 16 = .ok (.ifCond .eq 18, 3) := by decide +kernel
theorem dX4_drank_19 : decode cX4_drank 19 = .ok (.aload_n 0, 1) := by decide +kernel
theorem dX4_drank_20 : decode cX4_drank 20 = .ok (.getfield 109, 3) := by decide +kernel
theorem dX4_drank_23 : decode cX4_drank 23 = .ok (.sipush 834, 3) := by decide +kernel
theorem dX4_drank_26 : decode cX4_drank 26 = .ok (.iload_n 1, 1) := by decide +kernel
theorem dX4_drank_27 : decode cX4_drank 27 = .ok (.imul, 1) := by decide +kernel
theorem dX4_drank_28 : decode cX4_drank 28 = .ok (.iload_n 2, 1) := by decide +kernel
theorem dX4_drank_29 : decode cX4_drank 29 = .ok (.iadd, 1) := by decide +kernel
theorem dX4_drank_30 : decode cX4_drank 30 = .ok (.iaload, 1) := by decide +kernel
theorem dX4_drank_31 : decode cX4_drank 31 = .ok (.goto 4, 3) := by decide +kernel
theorem dX4_drank_34 : decode cX4_drank 34 = .ok (.iconst (-1), 1) := by decide +kernel
theorem dX4_drank_35 : decode cX4_drank 35 = .ok (.ireturn, 1) := by decide +kernel
theorem ycX4_drank : yX4_drank.cls ≠ "java/lang/invoke/MethodHandle" ∧ yX4_drank.cls ≠ "java/lang/invoke/VarHandle" ∧ (parseMethodDescriptor yX4_drank.desc).map (fun d => d.parameters.length) = some 2 := by decide +kernel
theorem yvX4_drank : yX4_drank.cls = RR 4 ∧ yX4_drank.cls ≠ "java/lang/invoke/MethodHandle" ∧ yX4_drank.cls ≠ "java/lang/invoke/VarHandle" ∧ (parseMethodDescriptor yX4_drank.desc).map (fun d => d.parameters.length) = some 2 := ⟨rfl, ycX4_drank⟩
def f_X4_drank (p0 : Nat) (p1 : Int32) (p2 : Int32) : Act Int32 :=
  bnd (gd 4 p0 (nt (f_X4_isTrip p0 p1))) fun v1 =>
  jn (fun (v2 : Int32) =>
    pur v2) fun j35 =>
  jn (fun (_ : Unit) =>
    j35 (-1)) fun j34 =>
  if v1 = 0 then
    j34 ()
  else
    bnd (nt (f_X4_isIn p2 (0 : Int32) (833 : Int32))) fun v3 =>
    if v3 = 0 then
      j34 ()
    else
      bnd (getR 4 38 p0) fun v4 =>
      bnd (ldI 0 v4 ((834 * p1) + p2)) fun v5 =>
      j35 v5
set_option maxHeartbeats 4000000 in
theorem ct_X4_drank (l : Launch) (p0 : Nat) (p1 : Int32) (p2 : Int32) : Ct l Pic yX4_drank (ws_ yX4_drank cX4_drank 3 (some FieldType.int)) 2 43 cvI [rv p0, .int p1, .int p2] (f_X4_drank p0 p1 p2) := by
  refine Ct.of (own := RX4) (L := [(0, rv p0), (1, .int p1), (2, .int p2)]) (plainFor_of_name (by decide)) rfl (by first | decide | simp [lg_sl, rv_cat, cat_i, cat_l]) (by first | rfl | simp [lv_args, rv_cat, cat_i, cat_l]) pcZ (fun X hXl hX hnh hin => ?_)
  subst hXl
  unfold f_X4_drank
  refine s_aload_n hX dX4_drank_0 rfl 0 rfl ?_
  refine s_iload_n hX dX4_drank_1 rfl 1 rfl ?_
  refine s_callV_I (ci := 4) (n := 1) (As := [.int p1]) (st := []) hX (pcK 5) (by decide) (ct_X4_isTrip X.l p0 p1) q1921 q1923 qs60 q91 q1924 yvX4_isTrip (by decide) rfl (by first | decide | simp [rv_cat, cat_i, cat_l]) dX4_drank_2 (fun v1 => ?_)
  refine s_jn (P := fun j => ∀ (v2 : Int32), Sim X cvI 35 [] [.int v2] (j v2)) ?_ (fun j35 hj35 => ?_)
  · intro v2
    exact s_iret hX dX4_drank_35
  · refine s_jn (P := fun j => ∀ (u : Unit), Sim X cvI 34 [] [] (j u)) ?_ (fun j34 hj34 => ?_)
    · intro u
      refine s_iconst (v := -1) hX dX4_drank_34 (by decide) ?_
      exact hj35 (-1)
    · refine s_if_eq (tgt := 34) hX dX4_drank_5 (by decide) ?_ ?_
      · exact s_sub [] rfl (hj34 ())
      · refine s_iload_n hX dX4_drank_8 rfl 2 rfl ?_
        refine s_iconst (v := 0) hX dX4_drank_9 rfl ?_
        refine s_sipush (v := 833) hX dX4_drank_10 (by decide) ?_
        refine s_callS_I (n := 3) (As := [.int p2, .int 0, .int 833]) (st := []) hX (ct_X4_isIn X.l p2 (0 : Int32) (833 : Int32)) q1781 q1782 q91 q1783 ycX4_isIn (by decide) rfl (by first | decide | simp [rv_cat, cat_i, cat_l]) dX4_drank_13 (fun v3 => ?_)
        refine s_if_eq (tgt := 34) hX dX4_drank_16 (by decide) ?_ ?_
        · exact s_sub [] rfl (hj34 ())
        · refine s_aload_n hX dX4_drank_19 rfl 0 rfl ?_
          refine s_getR (ci := 4) (j := 38) (ref := "WindGasModel") hX (pcG 4) in_X4 (Or.inl q1576) (by decide) (by decide) (by decide) rfl dX4_drank_20 (fun _ h9 => h9) (fun v4 => ?_)
          refine s_sipush (v := 834) hX dX4_drank_23 (by decide) ?_
          refine s_iload_n hX dX4_drank_26 rfl 1 rfl ?_
          refine s_imul hX dX4_drank_27 ?_
          refine s_iload_n hX dX4_drank_28 rfl 2 rfl ?_
          refine s_iadd hX dX4_drank_29 ?_
          refine s_iald hX (pcA 0) dX4_drank_30 (fun v5 => ?_)
          refine s_goto (tgt := 35) hX dX4_drank_31 (by decide) ?_
          exact s_sub [] rfl (hj35 v5)
theorem dX4_green_0 : decode cX4_green 0 = .ok (.aload_n 0, 1) := by decide +kernel
theorem dX4_green_1 : decode cX4_green 1 = .ok (.iload_n 1, 1) := by decide +kernel
theorem dX4_green_2 : decode cX4_green 2 = .ok (.invokevirtual 328, 3) := by decide +kernel
theorem dX4_green_5 : decode cX4_green 5 = .ok (.ifCond .eq 14, 3) := by decide +kernel
theorem dX4_green_8 : decode cX4_green 8 = .ok (.aload_n 0, 1) := by decide +kernel
theorem dX4_green_9 : decode cX4_green 9 = .ok (.iload_n 1, 1) := by decide +kernel
theorem dX4_green_10 : decode cX4_green 10 = .ok (.invokevirtual 319, 3) := by decide +kernel
theorem dX4_green_13 : decode cX4_green 13 = .ok (.invokestatic 266, 3) := by decide +kernel
theorem dX4_green_16 : decode cX4_green 16 = .ok (.goto 4, 3) := by decide +kernel
theorem dX4_green_19 : decode cX4_green 19 = .ok (.iconst (-1), 1) := by decide +kernel
theorem dX4_green_20 : decode cX4_green 20 = .ok (.ireturn, 1) := by decide +kernel
theorem ycX4_green : yX4_green.cls ≠ "java/lang/invoke/MethodHandle" ∧ yX4_green.cls ≠ "java/lang/invoke/VarHandle" ∧ (parseMethodDescriptor yX4_green.desc).map (fun d => d.parameters.length) = some 1 := by decide +kernel
theorem yvX4_green : yX4_green.cls = RR 4 ∧ yX4_green.cls ≠ "java/lang/invoke/MethodHandle" ∧ yX4_green.cls ≠ "java/lang/invoke/VarHandle" ∧ (parseMethodDescriptor yX4_green.desc).map (fun d => d.parameters.length) = some 1 := ⟨rfl, ycX4_green⟩
def f_X4_green (n : Nat) (p0 : Nat) (p1 : Int32) : Act Int32 :=
  bnd (gd 4 p0 (nt (f_X4_isThrough p0 p1))) fun v1 =>
  jn (fun (v2 : Int32) =>
    pur v2) fun j20 =>
  if v1 = 0 then
    j20 (-1)
  else
    bnd (gd 4 p0 (nt (f_X4_isGreen n p0 p1))) fun v3 =>
    bnd (nt (f_X4_one v3)) fun v4 =>
    j20 v4
set_option maxHeartbeats 4000000 in
theorem ct_X4_green (l : Launch) (n : Nat) (p0 : Nat) (p1 : Int32) : Ct l Pic yX4_green (ws_ yX4_green cX4_green 2 (some FieldType.int)) 43 992 cvI [rv p0, .int p1] (f_X4_green n p0 p1) := by
  refine Ct.of (own := RX4) (L := [(0, rv p0), (1, .int p1)]) (plainFor_of_name (by decide)) rfl (by first | decide | simp [lg_sl, rv_cat, cat_i, cat_l]) (by first | rfl | simp [lv_args, rv_cat, cat_i, cat_l]) pcZ (fun X hXl hX hnh hin => ?_)
  subst hXl
  unfold f_X4_green
  refine s_aload_n hX dX4_green_0 rfl 0 rfl ?_
  refine s_iload_n hX dX4_green_1 rfl 1 rfl ?_
  refine s_callV_I (ci := 4) (n := 1) (As := [.int p1]) (st := []) hX (pcK 5) (by decide) (ct_X4_isThrough X.l p0 p1) q1933 q1935 qs63 q91 q1936 yvX4_isThrough (by decide) rfl (by first | decide | simp [rv_cat, cat_i, cat_l]) dX4_green_2 (fun v1 => ?_)
  refine s_jn (P := fun j => ∀ (v2 : Int32), Sim X cvI 20 [] [.int v2] (j v2)) ?_ (fun j20 hj20 => ?_)
  · intro v2
    exact s_iret hX dX4_green_20
  · refine s_if_eq (tgt := 19) hX dX4_green_5 (by decide) ?_ ?_
    · refine s_iconst (v := -1) hX dX4_green_19 (by decide) ?_
      exact s_sub [] rfl (hj20 (-1))
    · refine s_aload_n hX dX4_green_8 rfl 0 rfl ?_
      refine s_iload_n hX dX4_green_9 rfl 1 rfl ?_
      refine s_callV_I (ci := 4) (n := 1) (As := [.int p1]) (st := []) hX (pcK 5) (by decide) (ct_X4_isGreen X.l n p0 p1) q1929 q1931 qs62 q91 q1932 yvX4_isGreen (by decide) rfl (by first | decide | simp [rv_cat, cat_i, cat_l]) dX4_green_10 (fun v3 => ?_)
      refine s_callS_I (n := 1) (As := [.int v3]) (st := []) hX (ct_X4_one X.l v3) q1837 q1838 q91 q1839 ycX4_one (by decide) rfl (by first | decide | simp [rv_cat, cat_i, cat_l]) dX4_green_13 (fun v4 => ?_)
      refine s_goto (tgt := 20) hX dX4_green_16 (by decide) ?_
      exact s_sub [] rfl (hj20 v4)
theorem dX4_paper_0 : decode cX4_paper 0 = .ok (.aload_n 0, 1) := by decide +kernel
theorem dX4_paper_1 : decode cX4_paper 1 = .ok (.iload_n 1, 1) := by decide +kernel
theorem dX4_paper_2 : decode cX4_paper 2 = .ok (.invokevirtual 322, 3) := by decide +kernel
theorem dX4_paper_5 : decode cX4_paper 5 = .ok (.ifCond .eq 42, 3) := by decide +kernel
theorem dX4_paper_8 : decode cX4_paper 8 = .ok (.iload_n 2, 1) := by decide +kernel
theorem dX4_paper_9 : decode cX4_paper 9 = .ok (.iconst 0, 1) := by decide +kernel
theorem dX4_paper_10 : decode cX4_paper 10 = .ok (.bipush 9, 2) := by decide +kernel
theorem dX4_paper_12 : decode cX4_paper 12 = .ok (.invokestatic 198, 3) := by decide +kernel
theorem dX4_paper_15 : decode cX4_paper 15 = .ok (.ifCond .eq 32, 3) := by decide +kernel
theorem dX4_paper_18 : decode cX4_paper 18 = .ok (.iload_n 3, 1) := by decide +kernel
theorem dX4_paper_19 : decode cX4_paper 19 = .ok (.iconst 1, 1) := by decide +kernel
theorem dX4_paper_20 : decode cX4_paper 20 = .ok (.ldc 244, 2) := by decide +kernel
theorem dX4_paper_22 : decode cX4_paper 22 = .ok (.invokestatic 198, 3) := by decide +kernel
theorem dX4_paper_25 : decode cX4_paper 25 = .ok (.ifCond .eq 22, 3) := by decide +kernel
theorem dX4_paper_28 : decode cX4_paper 28 = .ok (.aload_n 0, 1) := by decide +kernel
theorem dX4_paper_29 : decode cX4_paper 29 = .ok (.getfield 99, 3) := by decide +kernel
theorem dX4_paper_32 : decode cX4_paper 32 = .ok (.iload_n 1, 1) := by decide +kernel
theorem dX4_paper_33 : decode cX4_paper 33 = .ok (.iaload, 1) := by decide +kernel
theorem dX4_paper_34 : decode cX4_paper 34 = .ok (.iconst 1, 1) := by decide +kernel
theorem dX4_paper_35 : decode cX4_paper 35 = .ok (.if_icmp .ne 12, 3) := by decide +kernel
theorem dX4_paper_38 : decode cX4_paper 38 = .ok (.aload_n 0, 1) := by decide +kernel
theorem dX4_paper_39 : decode cX4_paper 39 = .ok (.getfield 331, 3) := by decide +kernel
theorem dX4_paper_42 : decode cX4_paper 42 = .ok (.bipush 60, 2) := by decide +kernel
theorem dX4_paper_44 : decode cX4_paper 44 = .ok (.if_icmp .ne 5, 3) := by decide +kernel
theorem dX4_paper_47 : decode cX4_paper 47 = .ok (.iconst (-1), 1) := by decide +kernel
theorem dX4_paper_48 : decode cX4_paper 48 = .ok (.ireturn, 1) := by decide +kernel
theorem dX4_paper_49 : decode cX4_paper 49 = .ok (.aload_n 0, 1) := by decide +kernel
theorem dX4_paper_50 : decode cX4_paper 50 = .ok (.getfield 124, 3) := by decide +kernel
theorem dX4_paper_53 : decode cX4_paper 53 = .ok (.aload_n 0, 1) := by decide +kernel
theorem dX4_paper_54 : decode cX4_paper 54 = .ok (.getfield 331, 3) := by decide +kernel
theorem dX4_paper_57 : decode cX4_paper 57 = .ok (.iload_n 1, 1) := by decide +kernel
theorem dX4_paper_58 : decode cX4_paper 58 = .ok (.iastore, 1) := by decide +kernel
theorem dX4_paper_59 : decode cX4_paper 59 = .ok (.aload_n 0, 1) := by decide +kernel
theorem dX4_paper_60 : decode cX4_paper 60 = .ok (.getfield 127, 3) := by decide +kernel
theorem dX4_paper_63 : decode cX4_paper 63 = .ok (.aload_n 0, 1) := by decide +kernel
theorem dX4_paper_64 : decode cX4_paper 64 = .ok (.getfield 331, 3) := by decide +kernel
theorem dX4_paper_67 : decode cX4_paper 67 = .ok (.iload_n 2, 1) := by decide +kernel
theorem dX4_paper_68 : decode cX4_paper 68 = .ok (.iastore, 1) := by decide +kernel
theorem dX4_paper_69 : decode cX4_paper 69 = .ok (.aload_n 0, 1) := by decide +kernel
theorem dX4_paper_70 : decode cX4_paper 70 = .ok (.getfield 130, 3) := by decide +kernel
theorem dX4_paper_73 : decode cX4_paper 73 = .ok (.aload_n 0, 1) := by decide +kernel
theorem dX4_paper_74 : decode cX4_paper 74 = .ok (.getfield 331, 3) := by decide +kernel
theorem dX4_paper_77 : decode cX4_paper 77 = .ok (.iload_n 3, 1) := by decide +kernel
theorem dX4_paper_78 : decode cX4_paper 78 = .ok (.iastore, 1) := by decide +kernel
theorem dX4_paper_79 : decode cX4_paper 79 = .ok (.aload_n 0, 1) := by decide +kernel
theorem dX4_paper_80 : decode cX4_paper 80 = .ok (.dup, 1) := by decide +kernel
theorem dX4_paper_81 : decode cX4_paper 81 = .ok (.getfield 331, 3) := by decide +kernel
theorem dX4_paper_84 : decode cX4_paper 84 = .ok (.iconst 1, 1) := by decide +kernel
theorem dX4_paper_85 : decode cX4_paper 85 = .ok (.iadd, 1) := by decide +kernel
theorem dX4_paper_86 : decode cX4_paper 86 = .ok (.putfield 331, 3) := by decide +kernel
theorem dX4_paper_89 : decode cX4_paper 89 = .ok (.aload_n 0, 1) := by decide +kernel
theorem dX4_paper_90 : decode cX4_paper 90 = .ok (.getfield 331, 3) := by decide +kernel
theorem dX4_paper_93 : decode cX4_paper 93 = .ok (.iconst 1, 1) := by decide +kernel
theorem dX4_paper_94 : decode cX4_paper 94 = .ok (.isub, 1) := by decide +kernel
theorem dX4_paper_95 : decode cX4_paper 95 = .ok (.ireturn, 1) := by decide +kernel
theorem ycX4_paper : yX4_paper.cls ≠ "java/lang/invoke/MethodHandle" ∧ yX4_paper.cls ≠ "java/lang/invoke/VarHandle" ∧ (parseMethodDescriptor yX4_paper.desc).map (fun d => d.parameters.length) = some 3 := by decide +kernel
theorem yvX4_paper : yX4_paper.cls = RR 4 ∧ yX4_paper.cls ≠ "java/lang/invoke/MethodHandle" ∧ yX4_paper.cls ≠ "java/lang/invoke/VarHandle" ∧ (parseMethodDescriptor yX4_paper.desc).map (fun d => d.parameters.length) = some 3 := ⟨rfl, ycX4_paper⟩
def f_X4_paper (p0 : Nat) (p1 : Int32) (p2 : Int32) (p3 : Int32) : Act Int32 :=
  bnd (gd 4 p0 (nt (f_X4_isTrip p0 p1))) fun v1 =>
  jn (fun (_ : Unit) =>
    pur (-1)) fun j47 =>
  if v1 = 0 then
    j47 ()
  else
    bnd (nt (f_X4_isIn p2 (0 : Int32) (9 : Int32))) fun v2 =>
    if v2 = 0 then
      j47 ()
    else
      bnd (nt (f_X4_isIn p3 (1 : Int32) (50000 : Int32))) fun v3 =>
      if v3 = 0 then
        j47 ()
      else
        bnd (getR 4 35 p0) fun v4 =>
        bnd (ldI 0 v4 p1) fun v5 =>
        if ¬ v5 = 1 then
          j47 ()
        else
          bnd (getI 4 3 p0) fun v6 =>
          if ¬ v6 = 60 then
            bnd (getR 4 46 p0) fun v7 =>
            bnd (getI 4 3 p0) fun v8 =>
            bnd (stI 0 v7 v8 p1) fun _ =>
            bnd (getR 4 47 p0) fun v9 =>
            bnd (getI 4 3 p0) fun v10 =>
            bnd (stI 0 v9 v10 p2) fun _ =>
            bnd (getR 4 48 p0) fun v11 =>
            bnd (getI 4 3 p0) fun v12 =>
            bnd (stI 0 v11 v12 p3) fun _ =>
            bnd (getI 4 3 p0) fun v13 =>
            bnd (putI 4 3 p0 (v13 + 1)) fun _ =>
            bnd (getI 4 3 p0) fun v14 =>
            pur (v14 - 1)
          else
            j47 ()
set_option maxHeartbeats 4000000 in
theorem ct_X4_paper (l : Launch) (p0 : Nat) (p1 : Int32) (p2 : Int32) (p3 : Int32) : Ct l Pic yX4_paper (ws_ yX4_paper cX4_paper 4 (some FieldType.int)) 2 43 cvI [rv p0, .int p1, .int p2, .int p3] (f_X4_paper p0 p1 p2 p3) := by
  refine Ct.of (own := RX4) (L := [(0, rv p0), (1, .int p1), (2, .int p2), (3, .int p3)]) (plainFor_of_name (by decide)) rfl (by first | decide | simp [lg_sl, rv_cat, cat_i, cat_l]) (by first | rfl | simp [lv_args, rv_cat, cat_i, cat_l]) pcZ (fun X hXl hX hnh hin => ?_)
  subst hXl
  unfold f_X4_paper
  refine s_aload_n hX dX4_paper_0 rfl 0 rfl ?_
  refine s_iload_n hX dX4_paper_1 rfl 1 rfl ?_
  refine s_callV_I (ci := 4) (n := 1) (As := [.int p1]) (st := []) hX (pcK 5) (by decide) (ct_X4_isTrip X.l p0 p1) q1921 q1923 qs60 q91 q1924 yvX4_isTrip (by decide) rfl (by first | decide | simp [rv_cat, cat_i, cat_l]) dX4_paper_2 (fun v1 => ?_)
  refine s_jn (P := fun j => ∀ (u : Unit), Sim X cvI 47 [] [] (j u)) ?_ (fun j47 hj47 => ?_)
  · intro u
    refine s_iconst (v := -1) hX dX4_paper_47 (by decide) ?_
    exact s_iret hX dX4_paper_48
  · refine s_if_eq (tgt := 47) hX dX4_paper_5 (by decide) ?_ ?_
    · exact s_sub [] rfl (hj47 ())
    · refine s_iload_n hX dX4_paper_8 rfl 2 rfl ?_
      refine s_iconst (v := 0) hX dX4_paper_9 rfl ?_
      refine s_bipush (v := 9) hX dX4_paper_10 (by decide) ?_
      refine s_callS_I (n := 3) (As := [.int p2, .int 0, .int 9]) (st := []) hX (ct_X4_isIn X.l p2 (0 : Int32) (9 : Int32)) q1781 q1782 q91 q1783 ycX4_isIn (by decide) rfl (by first | decide | simp [rv_cat, cat_i, cat_l]) dX4_paper_12 (fun v2 => ?_)
      refine s_if_eq (tgt := 47) hX dX4_paper_15 (by decide) ?_ ?_
      · exact s_sub [] rfl (hj47 ())
      · refine s_iload_n hX dX4_paper_18 rfl 3 rfl ?_
        refine s_iconst (v := 1) hX dX4_paper_19 rfl ?_
        refine s_ldc (v := 50000) hX dX4_paper_20 q1820 ?_
        refine s_callS_I (n := 3) (As := [.int p3, .int 1, .int 50000]) (st := []) hX (ct_X4_isIn X.l p3 (1 : Int32) (50000 : Int32)) q1781 q1782 q91 q1783 ycX4_isIn (by decide) rfl (by first | decide | simp [rv_cat, cat_i, cat_l]) dX4_paper_22 (fun v3 => ?_)
        refine s_if_eq (tgt := 47) hX dX4_paper_25 (by decide) ?_ ?_
        · exact s_sub [] rfl (hj47 ())
        · refine s_aload_n hX dX4_paper_28 rfl 0 rfl ?_
          refine s_getR (ci := 4) (j := 35) (ref := "WindGasModel") hX (pcG 4) in_X4 (Or.inl q1573) (by decide) (by decide) (by decide) rfl dX4_paper_29 (fun _ h9 => h9) (fun v4 => ?_)
          refine s_iload_n hX dX4_paper_32 rfl 1 rfl ?_
          refine s_iald hX (pcA 0) dX4_paper_33 (fun v5 => ?_)
          refine s_iconst (v := 1) hX dX4_paper_34 rfl ?_
          refine s_icmp_ne (tgt := 47) hX dX4_paper_35 (by decide) ?_ ?_
          · exact s_sub [] rfl (hj47 ())
          · refine s_aload_n hX dX4_paper_38 rfl 0 rfl ?_
            refine s_getI (ci := 4) (j := 3) (ref := "WindGasModel") hX (pcG 4) in_X4 (Or.inl q1541) (by decide) (by decide) (by decide) rfl dX4_paper_39 (fun _ h9 => h9) (fun v6 => ?_)
            refine s_bipush (v := 60) hX dX4_paper_42 (by decide) ?_
            refine s_icmp_ne (tgt := 49) hX dX4_paper_44 (by decide) ?_ ?_
            · refine s_aload_n hX dX4_paper_49 rfl 0 rfl ?_
              refine s_getR (ci := 4) (j := 46) (ref := "WindGasModel") hX (pcG 4) in_X4 (Or.inl q1584) (by decide) (by decide) (by decide) rfl dX4_paper_50 (fun _ h9 => h9) (fun v7 => ?_)
              refine s_aload_n hX dX4_paper_53 rfl 0 rfl ?_
              refine s_getI (ci := 4) (j := 3) (ref := "WindGasModel") hX (pcG 4) in_X4 (Or.inl q1541) (by decide) (by decide) (by decide) rfl dX4_paper_54 (fun _ h9 => h9) (fun v8 => ?_)
              refine s_iload_n hX dX4_paper_57 rfl 1 rfl ?_
              refine s_iast hX (pcA 0) (pcB 0) dX4_paper_58 ?_
              refine s_aload_n hX dX4_paper_59 rfl 0 rfl ?_
              refine s_getR (ci := 4) (j := 47) (ref := "WindGasModel") hX (pcG 4) in_X4 (Or.inl q1585) (by decide) (by decide) (by decide) rfl dX4_paper_60 (fun _ h9 => h9) (fun v9 => ?_)
              refine s_aload_n hX dX4_paper_63 rfl 0 rfl ?_
              refine s_getI (ci := 4) (j := 3) (ref := "WindGasModel") hX (pcG 4) in_X4 (Or.inl q1541) (by decide) (by decide) (by decide) rfl dX4_paper_64 (fun _ h9 => h9) (fun v10 => ?_)
              refine s_iload_n hX dX4_paper_67 rfl 2 rfl ?_
              refine s_iast hX (pcA 0) (pcB 0) dX4_paper_68 ?_
              refine s_aload_n hX dX4_paper_69 rfl 0 rfl ?_
              refine s_getR (ci := 4) (j := 48) (ref := "WindGasModel") hX (pcG 4) in_X4 (Or.inl q1586) (by decide) (by decide) (by decide) rfl dX4_paper_70 (fun _ h9 => h9) (fun v11 => ?_)
              refine s_aload_n hX dX4_paper_73 rfl 0 rfl ?_
              refine s_getI (ci := 4) (j := 3) (ref := "WindGasModel") hX (pcG 4) in_X4 (Or.inl q1541) (by decide) (by decide) (by decide) rfl dX4_paper_74 (fun _ h9 => h9) (fun v12 => ?_)
              refine s_iload_n hX dX4_paper_77 rfl 3 rfl ?_
              refine s_iast hX (pcA 0) (pcB 0) dX4_paper_78 ?_
              refine s_aload_n hX dX4_paper_79 rfl 0 rfl ?_
              refine s_dup hX dX4_paper_80 (rv_cat _) ?_
              refine s_getI (ci := 4) (j := 3) (ref := "WindGasModel") hX (pcG 4) in_X4 (Or.inl q1541) (by decide) (by decide) (by decide) rfl dX4_paper_81 (fun _ h9 => h9) (fun v13 => ?_)
              refine s_iconst (v := 1) hX dX4_paper_84 rfl ?_
              refine s_iadd hX dX4_paper_85 ?_
              refine s_putI (ci := 4) (j := 3) (ref := "WindGasModel") hX (pcG 4) (pcP 4) in_X4 tyX4_ok nmX4 (Or.inl q1541) (by decide) (by decide) (by decide) rfl rfl rfl dX4_paper_86 (fun _ h9 => h9) ?_
              refine s_aload_n hX dX4_paper_89 rfl 0 rfl ?_
              refine s_getI (ci := 4) (j := 3) (ref := "WindGasModel") hX (pcG 4) in_X4 (Or.inl q1541) (by decide) (by decide) (by decide) rfl dX4_paper_90 (fun _ h9 => h9) (fun v14 => ?_)
              refine s_iconst (v := 1) hX dX4_paper_93 rfl ?_
              refine s_isub hX dX4_paper_94 ?_
              exact s_iret hX dX4_paper_95
            · exact s_sub [] rfl (hj47 ())
theorem dX4_isValid_0 : decode cX4_isValid 0 = .ok (.aload_n 0, 1) := by decide +kernel
theorem dX4_isValid_1 : decode cX4_isValid 1 = .ok (.getfield 124, 3) := by decide +kernel
theorem dX4_isValid_4 : decode cX4_isValid 4 = .ok (.iload_n 1, 1) := by decide +kernel
theorem dX4_isValid_5 : decode cX4_isValid 5 = .ok (.iaload, 1) := by decide +kernel
theorem dX4_isValid_6 : decode cX4_isValid 6 = .ok (.istore_n 2, 1) := by decide +kernel
theorem dX4_isValid_7 : decode cX4_isValid 7 = .ok (.aload_n 0, 1) := by decide +kernel
theorem dX4_isValid_8 : decode cX4_isValid 8 = .ok (.iload_n 2, 1) := by decide +kernel
theorem dX4_isValid_9 : decode cX4_isValid 9 = .ok (.invokevirtual 325, 3) := by decide +kernel
theorem dX4_isValid_12 : decode cX4_isValid 12 = .ok (.istore_n 3, 1) := by decide +kernel
theorem dX4_isValid_13 : decode cX4_isValid 13 = .ok (.iconst 0, 1) := by decide +kernel
theorem dX4_isValid_14 : decode cX4_isValid 14 = .ok (.istore 4, 2) := by decide +kernel
theorem dX4_isValid_16 : decode cX4_isValid 16 = .ok (.iconst 0, 1) := by decide +kernel
theorem dX4_isValid_17 : decode cX4_isValid 17 = .ok (.istore 5, 2) := by decide +kernel
theorem dX4_isValid_19 : decode cX4_isValid 19 = .ok (.iconst 0, 1) := by decide +kernel
theorem dX4_isValid_20 : decode cX4_isValid 20 = .ok (.istore 6, 2) := by decide +kernel
theorem dX4_isValid_22 : decode cX4_isValid 22 = .ok (.iload 6, 2) := by decide +kernel
theorem dX4_isValid_24 : decode cX4_isValid 24 = .ok (.iload_n 1, 1) := by decide +kernel
theorem dX4_isValid_25 : decode cX4_isValid 25 = .ok (.if_icmp .gt 61, 3) := by decide +kernel
theorem dX4_isValid_28 : decode cX4_isValid 28 = .ok (.aload_n 0, 1) := by decide +kernel
theorem dX4_isValid_29 : decode cX4_isValid 29 = .ok (.getfield 124, 3) := by decide +kernel
theorem dX4_isValid_32 : decode cX4_isValid 32 = .ok (.iload 6, 2) := by decide +kernel
theorem dX4_isValid_34 : decode cX4_isValid 34 = .ok (.iaload, 1) := by decide +kernel
theorem dX4_isValid_35 : decode cX4_isValid 35 = .ok (.iload_n 2, 1) := by decide +kernel
theorem dX4_isValid_36 : decode cX4_isValid 36 = .ok (.if_icmp .eq 6, 3) := by decide +kernel
theorem dX4_isValid_39 : decode cX4_isValid 39 = .ok (.goto 41, 3) := by decide +kernel
theorem dX4_isValid_42 : decode cX4_isValid 42 = .ok (.iload 4, 2) := by decide +kernel
theorem dX4_isValid_44 : decode cX4_isValid 44 = .ok (.aload_n 0, 1) := by decide +kernel
theorem dX4_isValid_45 : decode cX4_isValid 45 = .ok (.getfield 130, 3) := by decide +kernel
theorem dX4_isValid_48 : decode cX4_isValid 48 = .ok (.iload 6, 2) := by decide +kernel
theorem dX4_isValid_50 : decode cX4_isValid 50 = .ok (.iaload, 1) := by decide +kernel
theorem dX4_isValid_51 : decode cX4_isValid 51 = .ok (.iadd, 1) := by decide +kernel
theorem dX4_isValid_52 : decode cX4_isValid 52 = .ok (.iload_n 3, 1) := by decide +kernel
theorem dX4_isValid_53 : decode cX4_isValid 53 = .ok (.if_icmp .gt 7, 3) := by decide +kernel
theorem dX4_isValid_56 : decode cX4_isValid 56 = .ok (.iconst 1, 1) := by decide +kernel
theorem dX4_isValid_57 : decode cX4_isValid 57 = .ok (.goto 4, 3) := by decide +kernel
theorem dX4_isValid_60 : decode cX4_isValid 60 = .ok (.iconst 0, 1) := by decide +kernel
theorem dX4_isValid_61 : decode cX4_isValid 61 = .ok (.istore 5, 2) := by decide +kernel
theorem dX4_isValid_63 : decode cX4_isValid 63 = .ok (.iload 5, 2) := by decide +kernel
theorem dX4_isValid_65 : decode cX4_isValid 65 = .ok (.ifCond .eq 15, 3) := by decide +kernel
theorem dX4_isValid_68 : decode cX4_isValid 68 = .ok (.iload 4, 2) := by decide +kernel
theorem dX4_isValid_70 : decode cX4_isValid 70 = .ok (.aload_n 0, 1) := by decide +kernel
theorem dX4_isValid_71 : decode cX4_isValid 71 = .ok (.getfield 130, 3) := by decide +kernel
theorem dX4_isValid_74 : decode cX4_isValid 74 = .ok (.iload 6, 2) := by decide +kernel
theorem dX4_isValid_76 : decode cX4_isValid 76 = .ok (.iaload, 1) := by decide +kernel
theorem dX4_isValid_77 : decode cX4_isValid 77 = .ok (.iadd, 1) := by decide +kernel
theorem dX4_isValid_78 : decode cX4_isValid 78 = .ok (.istore 4, 2) := by decide +kernel
theorem dX4_isValid_80 : decode cX4_isValid 80 = .ok (.iinc 6 1, 3) := by decide +kernel
theorem dX4_isValid_83 : decode cX4_isValid 83 = .ok (.goto (-61), 3) := by decide +kernel
theorem dX4_isValid_86 : decode cX4_isValid 86 = .ok (.iload 5, 2) := by decide +kernel
theorem dX4_isValid_88 : decode cX4_isValid 88 = .ok (.ireturn, 1) := by decide +kernel
theorem ycX4_isValid : yX4_isValid.cls ≠ "java/lang/invoke/MethodHandle" ∧ yX4_isValid.cls ≠ "java/lang/invoke/VarHandle" ∧ (parseMethodDescriptor yX4_isValid.desc).map (fun d => d.parameters.length) = some 1 := by decide +kernel
theorem yvX4_isValid : yX4_isValid.cls = RR 4 ∧ yX4_isValid.cls ≠ "java/lang/invoke/MethodHandle" ∧ yX4_isValid.cls ≠ "java/lang/invoke/VarHandle" ∧ (parseMethodDescriptor yX4_isValid.desc).map (fun d => d.parameters.length) = some 1 := ⟨rfl, ycX4_isValid⟩
def lp_X4_isValid_22 (p0 : Nat) (p1 : Int32) (v2 : Int32) (v3 : Int32) (q : Nat) : Int32 → Int32 → Int32 → Act Int32 := match q with
  | 0 => fun _ _ _ => fail
  | q + 1 => fun w4 w5 w6 =>
    if p1 < w6 then
      purS (ty := .boolean) w5
    else
      bnd (getR 4 46 p0) fun v7 =>
      bnd (ldI 0 v7 w6) fun v8 =>
      jn (fun (v9 : Int32) (v10 : Int32) =>
        (lp_X4_isValid_22 p0 p1 v2 v3 q) v9 v10 (w6 + 1)) fun j80 =>
      if v8 = v2 then
        bnd (getR 4 48 p0) fun v11 =>
        bnd (ldI 0 v11 w6) fun v12 =>
        jn (fun (v13 : Int32) =>
          if v13 = 0 then
            j80 w4 v13
          else
            bnd (getR 4 48 p0) fun v14 =>
            bnd (ldI 0 v14 w6) fun v15 =>
            j80 (w4 + v15) v13) fun j61 =>
        if v3 < (w4 + v12) then
          j61 0
        else
          j61 1
      else
        j80 w4 w5
def f_X4_isValid (n : Nat) (p0 : Nat) (p1 : Int32) : Act Int32 :=
  bnd (getR 4 46 p0) fun v1 =>
  bnd (ldI 0 v1 p1) fun v2 =>
  bnd (gd 4 p0 (nt (f_X4_proved n p0 v2))) fun v3 =>
  lp_X4_isValid_22 p0 p1 v2 v3 n 0 0 0
set_option maxHeartbeats 4000000 in
theorem s_lp_X4_isValid_22 {X : Cx} (hX : Ok X Pic cX4_isValid RX4 7 (some FieldType.boolean) 44 1015) (hnh : Noh X) (p0 : Nat) (p1 : Int32) (v2 : Int32) (v3 : Int32) (q : Nat) : ∀ (w4 : Int32) (w5 : Int32) (w6 : Int32), Sim X cvI 22 [(0, rv p0), (1, .int p1), (2, .int v2), (3, .int v3), (4, .int w4), (5, .int w5), (6, .int w6)] [] (lp_X4_isValid_22 p0 p1 v2 v3 q w4 w5 w6) := by
  induction q with
  | zero => intro w4 w5 w6; exact s_fail
  | succ q ih22 =>
    intro w4 w5 w6
    rw [lp_X4_isValid_22]
    refine s_iload hX dX4_isValid_22 6 rfl ?_
    refine s_iload_n hX dX4_isValid_24 rfl 1 rfl ?_
    refine s_icmp_gt (tgt := 86) hX dX4_isValid_25 (by decide) ?_ ?_
    · refine s_iload hX dX4_isValid_86 5 rfl ?_
      exact s_zret hX dX4_isValid_88
    · refine s_aload_n hX dX4_isValid_28 rfl 0 rfl ?_
      refine s_getR (ci := 4) (j := 46) (ref := "WindGasModel") hX (pcG 4) in_X4 (Or.inl q1584) (by decide) (by decide) (by decide) rfl dX4_isValid_29 (fun _ h9 => h9) (fun v7 => ?_)
      refine s_iload hX dX4_isValid_32 6 rfl ?_
      refine s_iald hX (pcA 0) dX4_isValid_34 (fun v8 => ?_)
      refine s_iload_n hX dX4_isValid_35 rfl 2 rfl ?_
      refine s_jn (P := fun j => ∀ (v9 : Int32) (v10 : Int32), Sim X cvI 80 [(0, rv p0), (1, .int p1), (2, .int v2), (3, .int v3), (4, .int v9), (5, .int v10), (6, .int w6)] [] (j v9 v10)) ?_ (fun j80 hj80 => ?_)
      · intro v9 v10
        refine s_iinc (k := 6) (v := (w6 + 1)) (L2 := [(6, .int (w6 + 1)), (0, rv p0), (1, .int p1), (2, .int v2), (3, .int v3), (4, .int v9), (5, .int v10)]) hX dX4_isValid_80 rfl rfl (by decide) rfl ?_
        refine s_goto (tgt := 22) hX dX4_isValid_83 (by decide) ?_
        exact s_sub [1, 2, 3, 4, 5, 6, 0] rfl (ih22 v9 v10 (w6 + 1))
      · refine s_icmp_eq (tgt := 42) hX dX4_isValid_36 (by decide) ?_ ?_
        · refine s_iload hX dX4_isValid_42 4 rfl ?_
          refine s_aload_n hX dX4_isValid_44 rfl 0 rfl ?_
          refine s_getR (ci := 4) (j := 48) (ref := "WindGasModel") hX (pcG 4) in_X4 (Or.inl q1586) (by decide) (by decide) (by decide) rfl dX4_isValid_45 (fun _ h9 => h9) (fun v11 => ?_)
          refine s_iload hX dX4_isValid_48 6 rfl ?_
          refine s_iald hX (pcA 0) dX4_isValid_50 (fun v12 => ?_)
          refine s_iadd hX dX4_isValid_51 ?_
          refine s_iload_n hX dX4_isValid_52 rfl 3 rfl ?_
          refine s_jn (P := fun j => ∀ (v13 : Int32), Sim X cvI 61 [(0, rv p0), (1, .int p1), (2, .int v2), (3, .int v3), (4, .int w4), (6, .int w6)] [.int v13] (j v13)) ?_ (fun j61 hj61 => ?_)
          · intro v13
            refine s_istore (i := 5) (L2 := [(5, .int v13), (0, rv p0), (1, .int p1), (2, .int v2), (3, .int v3), (4, .int w4), (6, .int w6)]) hX dX4_isValid_61 (by decide) rfl ?_
            refine s_iload hX dX4_isValid_63 0 rfl ?_
            refine s_if_eq (tgt := 80) hX dX4_isValid_65 (by decide) ?_ ?_
            · exact s_sub [1, 2, 3, 4, 5, 0, 6] rfl (hj80 w4 v13)
            · refine s_iload hX dX4_isValid_68 5 rfl ?_
              refine s_aload_n hX dX4_isValid_70 rfl 1 rfl ?_
              refine s_getR (ci := 4) (j := 48) (ref := "WindGasModel") hX (pcG 4) in_X4 (Or.inl q1586) (by decide) (by decide) (by decide) rfl dX4_isValid_71 (fun _ h9 => h9) (fun v14 => ?_)
              refine s_iload hX dX4_isValid_74 6 rfl ?_
              refine s_iald hX (pcA 0) dX4_isValid_76 (fun v15 => ?_)
              refine s_iadd hX dX4_isValid_77 ?_
              refine s_istore (i := 4) (L2 := [(4, .int (w4 + v15)), (5, .int v13), (0, rv p0), (1, .int p1), (2, .int v2), (3, .int v3), (6, .int w6)]) hX dX4_isValid_78 (by decide) rfl ?_
              exact s_sub [2, 3, 4, 5, 0, 1, 6] rfl (hj80 (w4 + v15) v13)
          · refine s_icmp_gt (tgt := 60) hX dX4_isValid_53 (by decide) ?_ ?_
            · refine s_iconst (v := 0) hX dX4_isValid_60 rfl ?_
              exact s_sub [0, 1, 2, 3, 4, 6] rfl (hj61 0)
            · refine s_iconst (v := 1) hX dX4_isValid_56 rfl ?_
              refine s_goto (tgt := 61) hX dX4_isValid_57 (by decide) ?_
              exact s_sub [0, 1, 2, 3, 4, 6] rfl (hj61 1)
        · refine s_goto (tgt := 80) hX dX4_isValid_39 (by decide) ?_
          exact hj80 w4 w5
set_option maxHeartbeats 4000000 in
theorem ct_X4_isValid (l : Launch) (n : Nat) (p0 : Nat) (p1 : Int32) : Ct l Pic yX4_isValid (ws_ yX4_isValid cX4_isValid 7 (some FieldType.boolean)) 44 1015 cvI [rv p0, .int p1] (f_X4_isValid n p0 p1) := by
  refine Ct.of (own := RX4) (L := [(0, rv p0), (1, .int p1)]) (plainFor_of_name (by decide)) rfl (by first | decide | simp [lg_sl, rv_cat, cat_i, cat_l]) (by first | rfl | simp [lv_args, rv_cat, cat_i, cat_l]) pcZ (fun X hXl hX hnh hin => ?_)
  subst hXl
  unfold f_X4_isValid
  refine s_aload_n hX dX4_isValid_0 rfl 0 rfl ?_
  refine s_getR (ci := 4) (j := 46) (ref := "WindGasModel") hX (pcG 4) in_X4 (Or.inl q1584) (by decide) (by decide) (by decide) rfl dX4_isValid_1 (fun _ h9 => h9) (fun v1 => ?_)
  refine s_iload_n hX dX4_isValid_4 rfl 1 rfl ?_
  refine s_iald hX (pcA 0) dX4_isValid_5 (fun v2 => ?_)
  refine s_istore_n (i := 2) (L2 := [(2, .int v2), (0, rv p0), (1, .int p1)]) hX dX4_isValid_6 rfl (by decide) rfl ?_
  refine s_aload_n hX dX4_isValid_7 rfl 1 rfl ?_
  refine s_iload_n hX dX4_isValid_8 rfl 0 rfl ?_
  refine s_callV_I (ci := 4) (n := 1) (As := [.int v2]) (st := []) hX (pcK 5) (by decide) (ct_X4_proved X.l n p0 v2) q1925 q1927 qs61 q91 q1928 yvX4_proved (by decide) rfl (by first | decide | simp [rv_cat, cat_i, cat_l]) dX4_isValid_9 (fun v3 => ?_)
  refine s_istore_n (i := 3) (L2 := [(3, .int v3), (2, .int v2), (0, rv p0), (1, .int p1)]) hX dX4_isValid_12 rfl (by decide) rfl ?_
  refine s_iconst (v := 0) hX dX4_isValid_13 rfl ?_
  refine s_istore (i := 4) (L2 := [(4, .int 0), (3, .int v3), (2, .int v2), (0, rv p0), (1, .int p1)]) hX dX4_isValid_14 (by decide) rfl ?_
  refine s_iconst (v := 0) hX dX4_isValid_16 rfl ?_
  refine s_istore (i := 5) (L2 := [(5, .int 0), (4, .int 0), (3, .int v3), (2, .int v2), (0, rv p0), (1, .int p1)]) hX dX4_isValid_17 (by decide) rfl ?_
  refine s_iconst (v := 0) hX dX4_isValid_19 rfl ?_
  refine s_istore (i := 6) (L2 := [(6, .int 0), (5, .int 0), (4, .int 0), (3, .int v3), (2, .int v2), (0, rv p0), (1, .int p1)]) hX dX4_isValid_20 (by decide) rfl ?_
  exact s_sub [5, 6, 4, 3, 2, 1, 0] rfl (s_lp_X4_isValid_22 hX hnh p0 p1 v2 v3 n 0 0 0)
theorem dX4_paperOf_0 : decode cX4_paperOf 0 = .ok (.iload_n 1, 1) := by decide +kernel
theorem dX4_paperOf_1 : decode cX4_paperOf 1 = .ok (.iconst 0, 1) := by decide +kernel
theorem dX4_paperOf_2 : decode cX4_paperOf 2 = .ok (.aload_n 0, 1) := by decide +kernel
theorem dX4_paperOf_3 : decode cX4_paperOf 3 = .ok (.getfield 331, 3) := by decide +kernel
theorem dX4_paperOf_6 : decode cX4_paperOf 6 = .ok (.iconst 1, 1) := by decide +kernel
theorem dX4_paperOf_7 : decode cX4_paperOf 7 = .ok (.isub, 1) := by decide +kernel
theorem dX4_paperOf_8 : decode cX4_paperOf 8 = .ok (.invokestatic 198, 3) := by decide +kernel
theorem dX4_paperOf_11 : decode cX4_paperOf 11 = .ok (.ifCond .ne 5, 3) := by decide +kernel
theorem dX4_paperOf_14 : decode cX4_paperOf 14 = .ok (.iconst (-1), 1) := by decide +kernel
theorem dX4_paperOf_15 : decode cX4_paperOf 15 = .ok (.ireturn, 1) := by decide +kernel
theorem dX4_paperOf_16 : decode cX4_paperOf 16 = .ok (.iload_n 2, 1) := by decide +kernel
theorem dX4_paperOf_17 : decode cX4_paperOf 17 = .ok (.ifCond .ne 12, 3) := by decide +kernel
theorem dX4_paperOf_20 : decode cX4_paperOf 20 = .ok (.aload_n 0, 1) := by decide +kernel
theorem dX4_paperOf_21 : decode cX4_paperOf 21 = .ok (.getfield 124, 3) := by decide +kernel
theorem dX4_paperOf_24 : decode cX4_paperOf 24 = .ok (.iload_n 1, 1) := by decide +kernel
theorem dX4_paperOf_25 : decode cX4_paperOf 25 = .ok (.iaload, 1) := by decide +kernel
theorem dX4_paperOf_26 : decode cX4_paperOf 26 = .ok (.goto 48, 3) := by decide +kernel
theorem dX4_paperOf_29 : decode cX4_paperOf 29 = .ok (.iload_n 2, 1) := by decide +kernel
theorem dX4_paperOf_30 : decode cX4_paperOf 30 = .ok (.iconst 1, 1) := by decide +kernel
theorem dX4_paperOf_31 : decode cX4_paperOf 31 = .ok (.if_icmp .ne 12, 3) := by decide +kernel
theorem dX4_paperOf_34 : decode cX4_paperOf 34 = .ok (.aload_n 0, 1) := by decide +kernel
theorem dX4_paperOf_35 : decode cX4_paperOf 35 = .ok (.getfield 127, 3) := by decide +kernel
theorem dX4_paperOf_38 : decode cX4_paperOf 38 = .ok (.iload_n 1, 1) := by decide +kernel
theorem dX4_paperOf_39 : decode cX4_paperOf 39 = .ok (.iaload, 1) := by decide +kernel
theorem dX4_paperOf_40 : decode cX4_paperOf 40 = .ok (.goto 34, 3) := by decide +kernel
theorem dX4_paperOf_43 : decode cX4_paperOf 43 = .ok (.iload_n 2, 1) := by decide +kernel
theorem dX4_paperOf_44 : decode cX4_paperOf 44 = .ok (.iconst 2, 1) := by decide +kernel
theorem dX4_paperOf_45 : decode cX4_paperOf 45 = .ok (.if_icmp .ne 12, 3) := by decide +kernel
theorem dX4_paperOf_48 : decode cX4_paperOf 48 = .ok (.aload_n 0, 1) := by decide +kernel
theorem dX4_paperOf_49 : decode cX4_paperOf 49 = .ok (.getfield 130, 3) := by decide +kernel
theorem dX4_paperOf_52 : decode cX4_paperOf 52 = .ok (.iload_n 1, 1) := by decide +kernel
theorem dX4_paperOf_53 : decode cX4_paperOf 53 = .ok (.iaload, 1) := by decide +kernel
theorem dX4_paperOf_54 : decode cX4_paperOf 54 = .ok (.goto 20, 3) := by decide +kernel
theorem dX4_paperOf_57 : decode cX4_paperOf 57 = .ok (.iload_n 2, 1) := by decide +kernel
theorem dX4_paperOf_58 : decode cX4_paperOf 58 = .ok (.iconst 3, 1) := by decide +kernel
theorem dX4_paperOf_59 : decode cX4_paperOf 59 = .ok (.if_icmp .ne 14, 3) := by decide +kernel
theorem dX4_paperOf_62 : decode cX4_paperOf 62 = .ok (.aload_n 0, 1) := by decide +kernel
theorem dX4_paperOf_63 : decode cX4_paperOf 63 = .ok (.iload_n 1, 1) := by decide +kernel
theorem dX4_paperOf_64 : decode cX4_paperOf 64 = .ok (.invokevirtual 334, 3) := by decide +kernel
theorem dX4_paperOf_67 : decode cX4_paperOf 67 = .ok (.invokestatic 266, 3) := by decide +kernel
theorem dX4_paperOf_70 : decode cX4_paperOf 70 = .ok (.goto 4, 3) := by decide +kernel
theorem dX4_paperOf_73 : decode cX4_paperOf 73 = .ok (.iconst (-1), 1) := by decide +kernel
theorem dX4_paperOf_74 : decode cX4_paperOf 74 = .ok (.ireturn, 1) := by decide +kernel
theorem ycX4_paperOf : yX4_paperOf.cls ≠ "java/lang/invoke/MethodHandle" ∧ yX4_paperOf.cls ≠ "java/lang/invoke/VarHandle" ∧ (parseMethodDescriptor yX4_paperOf.desc).map (fun d => d.parameters.length) = some 2 := by decide +kernel
theorem yvX4_paperOf : yX4_paperOf.cls = RR 4 ∧ yX4_paperOf.cls ≠ "java/lang/invoke/MethodHandle" ∧ yX4_paperOf.cls ≠ "java/lang/invoke/VarHandle" ∧ (parseMethodDescriptor yX4_paperOf.desc).map (fun d => d.parameters.length) = some 2 := ⟨rfl, ycX4_paperOf⟩
def f_X4_paperOf (n : Nat) (p0 : Nat) (p1 : Int32) (p2 : Int32) : Act Int32 :=
  bnd (getI 4 3 p0) fun v1 =>
  bnd (nt (f_X4_isIn p1 (0 : Int32) (v1 - 1))) fun v2 =>
  if ¬ v2 = 0 then
    jn (fun (v3 : Int32) =>
      pur v3) fun j74 =>
    if ¬ p2 = 0 then
      if ¬ p2 = 1 then
        if ¬ p2 = 2 then
          if ¬ p2 = 3 then
            j74 (-1)
          else
            bnd (gd 4 p0 (nt (f_X4_isValid n p0 p1))) fun v4 =>
            bnd (nt (f_X4_one v4)) fun v5 =>
            j74 v5
        else
          bnd (getR 4 48 p0) fun v6 =>
          bnd (ldI 0 v6 p1) fun v7 =>
          j74 v7
      else
        bnd (getR 4 47 p0) fun v8 =>
        bnd (ldI 0 v8 p1) fun v9 =>
        j74 v9
    else
      bnd (getR 4 46 p0) fun v10 =>
      bnd (ldI 0 v10 p1) fun v11 =>
      j74 v11
  else
    pur (-1)
set_option maxHeartbeats 4000000 in
theorem ct_X4_paperOf (l : Launch) (n : Nat) (p0 : Nat) (p1 : Int32) (p2 : Int32) : Ct l Pic yX4_paperOf (ws_ yX4_paperOf cX4_paperOf 3 (some FieldType.int)) 45 1041 cvI [rv p0, .int p1, .int p2] (f_X4_paperOf n p0 p1 p2) := by
  refine Ct.of (own := RX4) (L := [(0, rv p0), (1, .int p1), (2, .int p2)]) (plainFor_of_name (by decide)) rfl (by first | decide | simp [lg_sl, rv_cat, cat_i, cat_l]) (by first | rfl | simp [lv_args, rv_cat, cat_i, cat_l]) pcZ (fun X hXl hX hnh hin => ?_)
  subst hXl
  unfold f_X4_paperOf
  refine s_iload_n hX dX4_paperOf_0 rfl 1 rfl ?_
  refine s_iconst (v := 0) hX dX4_paperOf_1 rfl ?_
  refine s_aload_n hX dX4_paperOf_2 rfl 0 rfl ?_
  refine s_getI (ci := 4) (j := 3) (ref := "WindGasModel") hX (pcG 4) in_X4 (Or.inl q1541) (by decide) (by decide) (by decide) rfl dX4_paperOf_3 (fun _ h9 => h9) (fun v1 => ?_)
  refine s_iconst (v := 1) hX dX4_paperOf_6 rfl ?_
  refine s_isub hX dX4_paperOf_7 ?_
  refine s_callS_I (n := 3) (As := [.int p1, .int 0, .int (v1 - 1)]) (st := []) hX (ct_X4_isIn X.l p1 (0 : Int32) (v1 - 1)) q1781 q1782 q91 q1783 ycX4_isIn (by decide) rfl (by first | decide | simp [rv_cat, cat_i, cat_l]) dX4_paperOf_8 (fun v2 => ?_)
  refine s_if_ne (tgt := 16) hX dX4_paperOf_11 (by decide) ?_ ?_
  · refine s_iload_n hX dX4_paperOf_16 rfl 2 rfl ?_
    refine s_jn (P := fun j => ∀ (v3 : Int32), Sim X cvI 74 [] [.int v3] (j v3)) ?_ (fun j74 hj74 => ?_)
    · intro v3
      exact s_iret hX dX4_paperOf_74
    · refine s_if_ne (tgt := 29) hX dX4_paperOf_17 (by decide) ?_ ?_
      · refine s_iload_n hX dX4_paperOf_29 rfl 2 rfl ?_
        refine s_iconst (v := 1) hX dX4_paperOf_30 rfl ?_
        refine s_icmp_ne (tgt := 43) hX dX4_paperOf_31 (by decide) ?_ ?_
        · refine s_iload_n hX dX4_paperOf_43 rfl 2 rfl ?_
          refine s_iconst (v := 2) hX dX4_paperOf_44 rfl ?_
          refine s_icmp_ne (tgt := 57) hX dX4_paperOf_45 (by decide) ?_ ?_
          · refine s_iload_n hX dX4_paperOf_57 rfl 2 rfl ?_
            refine s_iconst (v := 3) hX dX4_paperOf_58 rfl ?_
            refine s_icmp_ne (tgt := 73) hX dX4_paperOf_59 (by decide) ?_ ?_
            · refine s_iconst (v := -1) hX dX4_paperOf_73 (by decide) ?_
              exact s_sub [] rfl (hj74 (-1))
            · refine s_aload_n hX dX4_paperOf_62 rfl 0 rfl ?_
              refine s_iload_n hX dX4_paperOf_63 rfl 1 rfl ?_
              refine s_callV_I (ci := 4) (n := 1) (As := [.int p1]) (st := []) hX (pcK 5) (by decide) (ct_X4_isValid X.l n p0 p1) q1953 q1955 qs64 q91 q1956 yvX4_isValid (by decide) rfl (by first | decide | simp [rv_cat, cat_i, cat_l]) dX4_paperOf_64 (fun v4 => ?_)
              refine s_callS_I (n := 1) (As := [.int v4]) (st := []) hX (ct_X4_one X.l v4) q1837 q1838 q91 q1839 ycX4_one (by decide) rfl (by first | decide | simp [rv_cat, cat_i, cat_l]) dX4_paperOf_67 (fun v5 => ?_)
              refine s_goto (tgt := 74) hX dX4_paperOf_70 (by decide) ?_
              exact s_sub [] rfl (hj74 v5)
          · refine s_aload_n hX dX4_paperOf_48 rfl 0 rfl ?_
            refine s_getR (ci := 4) (j := 48) (ref := "WindGasModel") hX (pcG 4) in_X4 (Or.inl q1586) (by decide) (by decide) (by decide) rfl dX4_paperOf_49 (fun _ h9 => h9) (fun v6 => ?_)
            refine s_iload_n hX dX4_paperOf_52 rfl 1 rfl ?_
            refine s_iald hX (pcA 0) dX4_paperOf_53 (fun v7 => ?_)
            refine s_goto (tgt := 74) hX dX4_paperOf_54 (by decide) ?_
            exact s_sub [] rfl (hj74 v7)
        · refine s_aload_n hX dX4_paperOf_34 rfl 0 rfl ?_
          refine s_getR (ci := 4) (j := 47) (ref := "WindGasModel") hX (pcG 4) in_X4 (Or.inl q1585) (by decide) (by decide) (by decide) rfl dX4_paperOf_35 (fun _ h9 => h9) (fun v8 => ?_)
          refine s_iload_n hX dX4_paperOf_38 rfl 1 rfl ?_
          refine s_iald hX (pcA 0) dX4_paperOf_39 (fun v9 => ?_)
          refine s_goto (tgt := 74) hX dX4_paperOf_40 (by decide) ?_
          exact s_sub [] rfl (hj74 v9)
      · refine s_aload_n hX dX4_paperOf_20 rfl 0 rfl ?_
        refine s_getR (ci := 4) (j := 46) (ref := "WindGasModel") hX (pcG 4) in_X4 (Or.inl q1584) (by decide) (by decide) (by decide) rfl dX4_paperOf_21 (fun _ h9 => h9) (fun v10 => ?_)
        refine s_iload_n hX dX4_paperOf_24 rfl 1 rfl ?_
        refine s_iald hX (pcA 0) dX4_paperOf_25 (fun v11 => ?_)
        refine s_goto (tgt := 74) hX dX4_paperOf_26 (by decide) ?_
        exact s_sub [] rfl (hj74 v11)
  · refine s_iconst (v := -1) hX dX4_paperOf_14 (by decide) ?_
    exact s_iret hX dX4_paperOf_15
