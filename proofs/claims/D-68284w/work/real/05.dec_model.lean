set_option maxRecDepth 100000
theorem dX8_init_0 : decode cX8_init 0 = .ok (.aload_n 0, 1) := by decide +kernel
theorem dX8_init_1 : decode cX8_init 1 = .ok (.invokespecial 1, 3) := by decide +kernel
theorem dX8_init_4 : decode cX8_init 4 = .ok (.aload_n 0, 1) := by decide +kernel
theorem dX8_init_5 : decode cX8_init 5 = .ok (.sipush 2048, 3) := by decide +kernel
theorem dX8_init_8 : decode cX8_init 8 = .ok (.newarray .int, 2) := by decide +kernel
theorem dX8_init_10 : decode cX8_init 10 = .ok (.putfield 7, 3) := by decide +kernel
theorem dX8_init_13 : decode cX8_init 13 = .ok (.aload_n 0, 1) := by decide +kernel
theorem dX8_init_14 : decode cX8_init 14 = .ok (.sipush 2048, 3) := by decide +kernel
theorem dX8_init_17 : decode cX8_init 17 = .ok (.newarray .int, 2) := by decide +kernel
theorem dX8_init_19 : decode cX8_init 19 = .ok (.putfield 13, 3) := by decide +kernel
theorem dX8_init_22 : decode cX8_init 22 = .ok (.aload_n 0, 1) := by decide +kernel
theorem dX8_init_23 : decode cX8_init 23 = .ok (.bipush 32, 2) := by decide +kernel
theorem dX8_init_25 : decode cX8_init 25 = .ok (.newarray .int, 2) := by decide +kernel
theorem dX8_init_27 : decode cX8_init 27 = .ok (.putfield 16, 3) := by decide +kernel
theorem dX8_init_30 : decode cX8_init 30 = .ok (.aload_n 0, 1) := by decide +kernel
theorem dX8_init_31 : decode cX8_init 31 = .ok (.bipush 6, 2) := by decide +kernel
theorem dX8_init_33 : decode cX8_init 33 = .ok (.newarray .long, 2) := by decide +kernel
theorem dX8_init_35 : decode cX8_init 35 = .ok (.putfield 19, 3) := by decide +kernel
theorem dX8_init_38 : decode cX8_init 38 = .ok (.aload_n 0, 1) := by decide +kernel
theorem dX8_init_39 : decode cX8_init 39 = .ok (.iconst 4, 1) := by decide +kernel
theorem dX8_init_40 : decode cX8_init 40 = .ok (.newarray .int, 2) := by decide +kernel
theorem dX8_init_42 : decode cX8_init 42 = .ok (.putfield 23, 3) := by decide +kernel
theorem dX8_init_45 : decode cX8_init 45 = .ok (.aload_n 0, 1) := by decide +kernel
theorem dX8_init_46 : decode cX8_init 46 = .ok (.iconst 4, 1) := by decide +kernel
theorem dX8_init_47 : decode cX8_init 47 = .ok (.newarray .int, 2) := by decide +kernel
theorem dX8_init_49 : decode cX8_init 49 = .ok (.putfield 26, 3) := by decide +kernel
theorem dX8_init_52 : decode cX8_init 52 = .ok (.aload_n 0, 1) := by decide +kernel
theorem dX8_init_53 : decode cX8_init 53 = .ok (.iconst 4, 1) := by decide +kernel
theorem dX8_init_54 : decode cX8_init 54 = .ok (.newarray .int, 2) := by decide +kernel
theorem dX8_init_56 : decode cX8_init 56 = .ok (.putfield 29, 3) := by decide +kernel
theorem dX8_init_59 : decode cX8_init 59 = .ok (.aload_n 0, 1) := by decide +kernel
theorem dX8_init_60 : decode cX8_init 60 = .ok (.iconst 2, 1) := by decide +kernel
theorem dX8_init_61 : decode cX8_init 61 = .ok (.newarray .long, 2) := by decide +kernel
theorem dX8_init_63 : decode cX8_init 63 = .ok (.putfield 32, 3) := by decide +kernel
theorem dX8_init_66 : decode cX8_init 66 = .ok (.aload_n 0, 1) := by decide +kernel
theorem dX8_init_67 : decode cX8_init 67 = .ok (.iconst 2, 1) := by decide +kernel
theorem dX8_init_68 : decode cX8_init 68 = .ok (.newarray .boolean, 2) := by decide +kernel
theorem dX8_init_70 : decode cX8_init 70 = .ok (.putfield 35, 3) := by decide +kernel
theorem dX8_init_73 : decode cX8_init 73 = .ok (.aload_n 0, 1) := by decide +kernel
theorem dX8_init_74 : decode cX8_init 74 = .ok (.iconst 4, 1) := by decide +kernel
theorem dX8_init_75 : decode cX8_init 75 = .ok (.newarray .boolean, 2) := by decide +kernel
theorem dX8_init_77 : decode cX8_init 77 = .ok (.putfield 39, 3) := by decide +kernel
theorem dX8_init_80 : decode cX8_init 80 = .ok (.aload_n 0, 1) := by decide +kernel
theorem dX8_init_81 : decode cX8_init 81 = .ok (.bipush 6, 2) := by decide +kernel
theorem dX8_init_83 : decode cX8_init 83 = .ok (.newarray .long, 2) := by decide +kernel
theorem dX8_init_85 : decode cX8_init 85 = .ok (.putfield 42, 3) := by decide +kernel
theorem dX8_init_88 : decode cX8_init 88 = .ok (.aload_n 0, 1) := by decide +kernel
theorem dX8_init_89 : decode cX8_init 89 = .ok (.iconst 4, 1) := by decide +kernel
theorem dX8_init_90 : decode cX8_init 90 = .ok (.newarray .boolean, 2) := by decide +kernel
theorem dX8_init_92 : decode cX8_init 92 = .ok (.putfield 45, 3) := by decide +kernel
theorem dX8_init_95 : decode cX8_init 95 = .ok (.aload_n 0, 1) := by decide +kernel
theorem dX8_init_96 : decode cX8_init 96 = .ok (.iconst 2, 1) := by decide +kernel
theorem dX8_init_97 : decode cX8_init 97 = .ok (.newarray .int, 2) := by decide +kernel
theorem dX8_init_99 : decode cX8_init 99 = .ok (.putfield 48, 3) := by decide +kernel
theorem dX8_init_102 : decode cX8_init 102 = .ok (.aload_n 0, 1) := by decide +kernel
theorem dX8_init_103 : decode cX8_init 103 = .ok (.sipush 512, 3) := by decide +kernel
theorem dX8_init_106 : decode cX8_init 106 = .ok (.newarray .boolean, 2) := by decide +kernel
theorem dX8_init_108 : decode cX8_init 108 = .ok (.putfield 51, 3) := by decide +kernel
theorem dX8_init_111 : decode cX8_init 111 = .ok (.aload_n 0, 1) := by decide +kernel
theorem dX8_init_112 : decode cX8_init 112 = .ok (.sipush 512, 3) := by decide +kernel
theorem dX8_init_115 : decode cX8_init 115 = .ok (.newarray .long, 2) := by decide +kernel
theorem dX8_init_117 : decode cX8_init 117 = .ok (.putfield 54, 3) := by decide +kernel
theorem dX8_init_120 : decode cX8_init 120 = .ok (.aload_n 0, 1) := by decide +kernel
theorem dX8_init_121 : decode cX8_init 121 = .ok (.sipush 512, 3) := by decide +kernel
theorem dX8_init_124 : decode cX8_init 124 = .ok (.newarray .boolean, 2) := by decide +kernel
theorem dX8_init_126 : decode cX8_init 126 = .ok (.putfield 57, 3) := by decide +kernel
theorem dX8_init_129 : decode cX8_init 129 = .ok (.aload_n 0, 1) := by decide +kernel
theorem dX8_init_130 : decode cX8_init 130 = .ok (.sipush 512, 3) := by decide +kernel
theorem dX8_init_133 : decode cX8_init 133 = .ok (.newarray .int, 2) := by decide +kernel
theorem dX8_init_135 : decode cX8_init 135 = .ok (.putfield 60, 3) := by decide +kernel
theorem dX8_init_138 : decode cX8_init 138 = .ok (.aload_n 0, 1) := by decide +kernel
theorem dX8_init_139 : decode cX8_init 139 = .ok (.sipush 512, 3) := by decide +kernel
theorem dX8_init_142 : decode cX8_init 142 = .ok (.newarray .int, 2) := by decide +kernel
theorem dX8_init_144 : decode cX8_init 144 = .ok (.putfield 63, 3) := by decide +kernel
theorem dX8_init_147 : decode cX8_init 147 = .ok (.aload_n 0, 1) := by decide +kernel
theorem dX8_init_148 : decode cX8_init 148 = .ok (.sipush 512, 3) := by decide +kernel
theorem dX8_init_151 : decode cX8_init 151 = .ok (.newarray .boolean, 2) := by decide +kernel
theorem dX8_init_153 : decode cX8_init 153 = .ok (.putfield 66, 3) := by decide +kernel
theorem dX8_init_156 : decode cX8_init 156 = .ok (.aload_n 0, 1) := by decide +kernel
theorem dX8_init_157 : decode cX8_init 157 = .ok (.sipush 512, 3) := by decide +kernel
theorem dX8_init_160 : decode cX8_init 160 = .ok (.newarray .long, 2) := by decide +kernel
theorem dX8_init_162 : decode cX8_init 162 = .ok (.putfield 69, 3) := by decide +kernel
theorem dX8_init_165 : decode cX8_init 165 = .ok (.aload_n 0, 1) := by decide +kernel
theorem dX8_init_166 : decode cX8_init 166 = .ok (.sipush 512, 3) := by decide +kernel
theorem dX8_init_169 : decode cX8_init 169 = .ok (.newarray .long, 2) := by decide +kernel
theorem dX8_init_171 : decode cX8_init 171 = .ok (.putfield 72, 3) := by decide +kernel
theorem dX8_init_174 : decode cX8_init 174 = .ok (.aload_n 0, 1) := by decide +kernel
theorem dX8_init_175 : decode cX8_init 175 = .ok (.sipush 512, 3) := by decide +kernel
theorem dX8_init_178 : decode cX8_init 178 = .ok (.newarray .long, 2) := by decide +kernel
theorem dX8_init_180 : decode cX8_init 180 = .ok (.putfield 75, 3) := by decide +kernel
theorem dX8_init_183 : decode cX8_init 183 = .ok (.aload_n 0, 1) := by decide +kernel
theorem dX8_init_184 : decode cX8_init 184 = .ok (.sipush 512, 3) := by decide +kernel
theorem dX8_init_187 : decode cX8_init 187 = .ok (.newarray .long, 2) := by decide +kernel
theorem dX8_init_189 : decode cX8_init 189 = .ok (.putfield 78, 3) := by decide +kernel
theorem dX8_init_192 : decode cX8_init 192 = .ok (.aload_n 0, 1) := by decide +kernel
theorem dX8_init_193 : decode cX8_init 193 = .ok (.sipush 512, 3) := by decide +kernel
theorem dX8_init_196 : decode cX8_init 196 = .ok (.newarray .long, 2) := by decide +kernel
theorem dX8_init_198 : decode cX8_init 198 = .ok (.putfield 81, 3) := by decide +kernel
theorem dX8_init_201 : decode cX8_init 201 = .ok (.aload_n 0, 1) := by decide +kernel
theorem dX8_init_202 : decode cX8_init 202 = .ok (.sipush 512, 3) := by decide +kernel
theorem dX8_init_205 : decode cX8_init 205 = .ok (.newarray .boolean, 2) := by decide +kernel
theorem dX8_init_207 : decode cX8_init 207 = .ok (.putfield 84, 3) := by decide +kernel
theorem dX8_init_210 : decode cX8_init 210 = .ok (.aload_n 0, 1) := by decide +kernel
theorem dX8_init_211 : decode cX8_init 211 = .ok (.sipush 512, 3) := by decide +kernel
theorem dX8_init_214 : decode cX8_init 214 = .ok (.newarray .long, 2) := by decide +kernel
theorem dX8_init_216 : decode cX8_init 216 = .ok (.putfield 87, 3) := by decide +kernel
theorem dX8_init_219 : decode cX8_init 219 = .ok (.aload_n 0, 1) := by decide +kernel
theorem dX8_init_220 : decode cX8_init 220 = .ok (.sipush 512, 3) := by decide +kernel
theorem dX8_init_223 : decode cX8_init 223 = .ok (.newarray .long, 2) := by decide +kernel
theorem dX8_init_225 : decode cX8_init 225 = .ok (.putfield 90, 3) := by decide +kernel
theorem dX8_init_228 : decode cX8_init 228 = .ok (.aload_n 0, 1) := by decide +kernel
theorem dX8_init_229 : decode cX8_init 229 = .ok (.sipush 512, 3) := by decide +kernel
theorem dX8_init_232 : decode cX8_init 232 = .ok (.newarray .boolean, 2) := by decide +kernel
theorem dX8_init_234 : decode cX8_init 234 = .ok (.putfield 93, 3) := by decide +kernel
theorem dX8_init_237 : decode cX8_init 237 = .ok (.aload_n 0, 1) := by decide +kernel
theorem dX8_init_238 : decode cX8_init 238 = .ok (.sipush 512, 3) := by decide +kernel
theorem dX8_init_241 : decode cX8_init 241 = .ok (.newarray .boolean, 2) := by decide +kernel
theorem dX8_init_243 : decode cX8_init 243 = .ok (.putfield 96, 3) := by decide +kernel
theorem dX8_init_246 : decode cX8_init 246 = .ok (.aload_n 0, 1) := by decide +kernel
theorem dX8_init_247 : decode cX8_init 247 = .ok (.sipush 512, 3) := by decide +kernel
theorem dX8_init_250 : decode cX8_init 250 = .ok (.newarray .boolean, 2) := by decide +kernel
theorem dX8_init_252 : decode cX8_init 252 = .ok (.putfield 99, 3) := by decide +kernel
theorem dX8_init_255 : decode cX8_init 255 = .ok (.aload_n 0, 1) := by decide +kernel
theorem dX8_init_256 : decode cX8_init 256 = .ok (.sipush 512, 3) := by decide +kernel
theorem dX8_init_259 : decode cX8_init 259 = .ok (.newarray .long, 2) := by decide +kernel
theorem dX8_init_261 : decode cX8_init 261 = .ok (.putfield 102, 3) := by decide +kernel
theorem dX8_init_264 : decode cX8_init 264 = .ok (.aload_n 0, 1) := by decide +kernel
theorem dX8_init_265 : decode cX8_init 265 = .ok (.sipush 512, 3) := by decide +kernel
theorem dX8_init_268 : decode cX8_init 268 = .ok (.newarray .boolean, 2) := by decide +kernel
theorem dX8_init_270 : decode cX8_init 270 = .ok (.putfield 105, 3) := by decide +kernel
theorem dX8_init_273 : decode cX8_init 273 = .ok (.aload_n 0, 1) := by decide +kernel
theorem dX8_init_274 : decode cX8_init 274 = .ok (.iconst 2, 1) := by decide +kernel
theorem dX8_init_275 : decode cX8_init 275 = .ok (.newarray .int, 2) := by decide +kernel
theorem dX8_init_277 : decode cX8_init 277 = .ok (.putfield 108, 3) := by decide +kernel
theorem dX8_init_280 : decode cX8_init 280 = .ok (.aload_n 0, 1) := by decide +kernel
theorem dX8_init_281 : decode cX8_init 281 = .ok (.ldc 111, 2) := by decide +kernel
theorem dX8_init_283 : decode cX8_init 283 = .ok (.newarray .short, 2) := by decide +kernel
theorem dX8_init_285 : decode cX8_init 285 = .ok (.putfield 112, 3) := by decide +kernel
theorem dX8_init_288 : decode cX8_init 288 = .ok (.aload_n 0, 1) := by decide +kernel
theorem dX8_init_289 : decode cX8_init 289 = .ok (.ldc 111, 2) := by decide +kernel
theorem dX8_init_291 : decode cX8_init 291 = .ok (.newarray .byte, 2) := by decide +kernel
theorem dX8_init_293 : decode cX8_init 293 = .ok (.putfield 116, 3) := by decide +kernel
theorem dX8_init_296 : decode cX8_init 296 = .ok (.aload_n 0, 1) := by decide +kernel
theorem dX8_init_297 : decode cX8_init 297 = .ok (.ldc 111, 2) := by decide +kernel
theorem dX8_init_299 : decode cX8_init 299 = .ok (.newarray .byte, 2) := by decide +kernel
theorem dX8_init_301 : decode cX8_init 301 = .ok (.putfield 120, 3) := by decide +kernel
theorem dX8_init_304 : decode cX8_init 304 = .ok (.aload_n 0, 1) := by decide +kernel
theorem dX8_init_305 : decode cX8_init 305 = .ok (.iconst 2, 1) := by decide +kernel
theorem dX8_init_306 : decode cX8_init 306 = .ok (.newarray .int, 2) := by decide +kernel
theorem dX8_init_308 : decode cX8_init 308 = .ok (.putfield 123, 3) := by decide +kernel
theorem dX8_init_311 : decode cX8_init 311 = .ok (.aload_n 0, 1) := by decide +kernel
theorem dX8_init_312 : decode cX8_init 312 = .ok (.sipush 2816, 3) := by decide +kernel
theorem dX8_init_315 : decode cX8_init 315 = .ok (.newarray .int, 2) := by decide +kernel
theorem dX8_init_317 : decode cX8_init 317 = .ok (.putfield 126, 3) := by decide +kernel
theorem dX8_init_320 : decode cX8_init 320 = .ok (.aload_n 0, 1) := by decide +kernel
theorem dX8_init_321 : decode cX8_init 321 = .ok (.sipush 2816, 3) := by decide +kernel
theorem dX8_init_324 : decode cX8_init 324 = .ok (.newarray .int, 2) := by decide +kernel
theorem dX8_init_326 : decode cX8_init 326 = .ok (.putfield 129, 3) := by decide +kernel
theorem dX8_init_329 : decode cX8_init 329 = .ok (.aload_n 0, 1) := by decide +kernel
theorem dX8_init_330 : decode cX8_init 330 = .ok (.ldc 132, 2) := by decide +kernel
theorem dX8_init_332 : decode cX8_init 332 = .ok (.newarray .byte, 2) := by decide +kernel
theorem dX8_init_334 : decode cX8_init 334 = .ok (.putfield 133, 3) := by decide +kernel
theorem dX8_init_337 : decode cX8_init 337 = .ok (.aload_n 0, 1) := by decide +kernel
theorem dX8_init_338 : decode cX8_init 338 = .ok (.ldc 132, 2) := by decide +kernel
theorem dX8_init_340 : decode cX8_init 340 = .ok (.newarray .boolean, 2) := by decide +kernel
theorem dX8_init_342 : decode cX8_init 342 = .ok (.putfield 136, 3) := by decide +kernel
theorem dX8_init_345 : decode cX8_init 345 = .ok (.aload_n 0, 1) := by decide +kernel
theorem dX8_init_346 : decode cX8_init 346 = .ok (.sipush 2048, 3) := by decide +kernel
theorem dX8_init_349 : decode cX8_init 349 = .ok (.newarray .byte, 2) := by decide +kernel
theorem dX8_init_351 : decode cX8_init 351 = .ok (.putfield 139, 3) := by decide +kernel
theorem dX8_init_354 : decode cX8_init 354 = .ok (.aload_n 0, 1) := by decide +kernel
theorem dX8_init_355 : decode cX8_init 355 = .ok (.bipush 64, 2) := by decide +kernel
theorem dX8_init_357 : decode cX8_init 357 = .ok (.newarray .int, 2) := by decide +kernel
theorem dX8_init_359 : decode cX8_init 359 = .ok (.putfield 142, 3) := by decide +kernel
theorem dX8_init_362 : decode cX8_init 362 = .ok (.aload_n 0, 1) := by decide +kernel
theorem dX8_init_363 : decode cX8_init 363 = .ok (.bipush 64, 2) := by decide +kernel
theorem dX8_init_365 : decode cX8_init 365 = .ok (.newarray .int, 2) := by decide +kernel
theorem dX8_init_367 : decode cX8_init 367 = .ok (.putfield 145, 3) := by decide +kernel
theorem dX8_init_370 : decode cX8_init 370 = .ok (.aload_n 0, 1) := by decide +kernel
theorem dX8_init_371 : decode cX8_init 371 = .ok (.bipush 64, 2) := by decide +kernel
theorem dX8_init_373 : decode cX8_init 373 = .ok (.newarray .long, 2) := by decide +kernel
theorem dX8_init_375 : decode cX8_init 375 = .ok (.putfield 148, 3) := by decide +kernel
theorem dX8_init_378 : decode cX8_init 378 = .ok (.aload_n 0, 1) := by decide +kernel
theorem dX8_init_379 : decode cX8_init 379 = .ok (.bipush 64, 2) := by decide +kernel
theorem dX8_init_381 : decode cX8_init 381 = .ok (.newarray .long, 2) := by decide +kernel
theorem dX8_init_383 : decode cX8_init 383 = .ok (.putfield 151, 3) := by decide +kernel
theorem dX8_init_386 : decode cX8_init 386 = .ok (.aload_n 0, 1) := by decide +kernel
theorem dX8_init_387 : decode cX8_init 387 = .ok (.bipush 64, 2) := by decide +kernel
theorem dX8_init_389 : decode cX8_init 389 = .ok (.newarray .long, 2) := by decide +kernel
theorem dX8_init_391 : decode cX8_init 391 = .ok (.putfield 154, 3) := by decide +kernel
theorem dX8_init_394 : decode cX8_init 394 = .ok (.aload_n 0, 1) := by decide +kernel
theorem dX8_init_395 : decode cX8_init 395 = .ok (.bipush 64, 2) := by decide +kernel
theorem dX8_init_397 : decode cX8_init 397 = .ok (.newarray .int, 2) := by decide +kernel
theorem dX8_init_399 : decode cX8_init 399 = .ok (.putfield 157, 3) := by decide +kernel
theorem dX8_init_402 : decode cX8_init 402 = .ok (.aload_n 0, 1) := by decide +kernel
theorem dX8_init_403 : decode cX8_init 403 = .ok (.bipush 64, 2) := by decide +kernel
theorem dX8_init_405 : decode cX8_init 405 = .ok (.newarray .int, 2) := by decide +kernel
theorem dX8_init_407 : decode cX8_init 407 = .ok (.putfield 160, 3) := by decide +kernel
theorem dX8_init_410 : decode cX8_init 410 = .ok (.aload_n 0, 1) := by decide +kernel
theorem dX8_init_411 : decode cX8_init 411 = .ok (.bipush 64, 2) := by decide +kernel
theorem dX8_init_413 : decode cX8_init 413 = .ok (.newarray .boolean, 2) := by decide +kernel
theorem dX8_init_415 : decode cX8_init 415 = .ok (.putfield 163, 3) := by decide +kernel
theorem dX8_init_418 : decode cX8_init 418 = .ok (.aload_n 0, 1) := by decide +kernel
theorem dX8_init_419 : decode cX8_init 419 = .ok (.bipush 64, 2) := by decide +kernel
theorem dX8_init_421 : decode cX8_init 421 = .ok (.newarray .int, 2) := by decide +kernel
theorem dX8_init_423 : decode cX8_init 423 = .ok (.putfield 166, 3) := by decide +kernel
theorem dX8_init_426 : decode cX8_init 426 = .ok (.aload_n 0, 1) := by decide +kernel
theorem dX8_init_427 : decode cX8_init 427 = .ok (.ldc 169, 2) := by decide +kernel
theorem dX8_init_429 : decode cX8_init 429 = .ok (.newarray .byte, 2) := by decide +kernel
theorem dX8_init_431 : decode cX8_init 431 = .ok (.putfield 170, 3) := by decide +kernel
theorem dX8_init_434 : decode cX8_init 434 = .ok (.iconst 0, 1) := by decide +kernel
theorem dX8_init_435 : decode cX8_init 435 = .ok (.istore_n 1, 1) := by decide +kernel
theorem dX8_init_436 : decode cX8_init 436 = .ok (.iload_n 1, 1) := by decide +kernel
theorem dX8_init_437 : decode cX8_init 437 = .ok (.iconst 2, 1) := by decide +kernel
theorem dX8_init_438 : decode cX8_init 438 = .ok (.if_icmp .ge 139, 3) := by decide +kernel
theorem dX8_init_441 : decode cX8_init 441 = .ok (.aload_n 0, 1) := by decide +kernel
theorem dX8_init_442 : decode cX8_init 442 = .ok (.getfield 16, 3) := by decide +kernel
theorem dX8_init_445 : decode cX8_init 445 = .ok (.bipush 16, 2) := by decide +kernel
theorem dX8_init_447 : decode cX8_init 447 = .ok (.iload_n 1, 1) := by decide +kernel
theorem dX8_init_448 : decode cX8_init 448 = .ok (.imul, 1) := by decide +kernel
theorem dX8_init_449 : decode cX8_init 449 = .ok (.iconst 4, 1) := by decide +kernel
theorem dX8_init_450 : decode cX8_init 450 = .ok (.iadd, 1) := by decide +kernel
theorem dX8_init_451 : decode cX8_init 451 = .ok (.sipush 4096, 3) := by decide +kernel
theorem dX8_init_454 : decode cX8_init 454 = .ok (.iastore, 1) := by decide +kernel
theorem dX8_init_455 : decode cX8_init 455 = .ok (.iconst 5, 1) := by decide +kernel
theorem dX8_init_456 : decode cX8_init 456 = .ok (.istore_n 2, 1) := by decide +kernel
theorem dX8_init_457 : decode cX8_init 457 = .ok (.iload_n 2, 1) := by decide +kernel
theorem dX8_init_458 : decode cX8_init 458 = .ok (.bipush 8, 2) := by decide +kernel
theorem dX8_init_460 : decode cX8_init 460 = .ok (.if_icmp .ge 23, 3) := by decide +kernel
theorem dX8_init_463 : decode cX8_init 463 = .ok (.aload_n 0, 1) := by decide +kernel
theorem dX8_init_464 : decode cX8_init 464 = .ok (.getfield 16, 3) := by decide +kernel
theorem dX8_init_467 : decode cX8_init 467 = .ok (.bipush 16, 2) := by decide +kernel
theorem dX8_init_469 : decode cX8_init 469 = .ok (.iload_n 1, 1) := by decide +kernel
theorem dX8_init_470 : decode cX8_init 470 = .ok (.imul, 1) := by decide +kernel
theorem dX8_init_471 : decode cX8_init 471 = .ok (.iload_n 2, 1) := by decide +kernel
theorem dX8_init_472 : decode cX8_init 472 = .ok (.iadd, 1) := by decide +kernel
theorem dX8_init_473 : decode cX8_init 473 = .ok (.sipush 1024, 3) := by decide +kernel
theorem dX8_init_476 : decode cX8_init 476 = .ok (.iastore, 1) := by decide +kernel
theorem dX8_init_477 : decode cX8_init 477 = .ok (.iinc 2 1, 3) := by decide +kernel
theorem dX8_init_480 : decode cX8_init 480 = .ok (.goto (-23), 3) := by decide +kernel
theorem dX8_init_483 : decode cX8_init 483 = .ok (.aload_n 0, 1) := by decide +kernel
theorem dX8_init_484 : decode cX8_init 484 = .ok (.getfield 16, 3) := by decide +kernel
theorem dX8_init_487 : decode cX8_init 487 = .ok (.bipush 16, 2) := by decide +kernel
theorem dX8_init_489 : decode cX8_init 489 = .ok (.iload_n 1, 1) := by decide +kernel
theorem dX8_init_490 : decode cX8_init 490 = .ok (.imul, 1) := by decide +kernel
theorem dX8_init_491 : decode cX8_init 491 = .ok (.bipush 8, 2) := by decide +kernel
theorem dX8_init_493 : decode cX8_init 493 = .ok (.iadd, 1) := by decide +kernel
theorem dX8_init_494 : decode cX8_init 494 = .ok (.iconst 4, 1) := by decide +kernel
theorem dX8_init_495 : decode cX8_init 495 = .ok (.iastore, 1) := by decide +kernel
theorem dX8_init_496 : decode cX8_init 496 = .ok (.aload_n 0, 1) := by decide +kernel
theorem dX8_init_497 : decode cX8_init 497 = .ok (.getfield 16, 3) := by decide +kernel
theorem dX8_init_500 : decode cX8_init 500 = .ok (.bipush 16, 2) := by decide +kernel
theorem dX8_init_502 : decode cX8_init 502 = .ok (.iload_n 1, 1) := by decide +kernel
theorem dX8_init_503 : decode cX8_init 503 = .ok (.imul, 1) := by decide +kernel
theorem dX8_init_504 : decode cX8_init 504 = .ok (.bipush 9, 2) := by decide +kernel
theorem dX8_init_506 : decode cX8_init 506 = .ok (.iadd, 1) := by decide +kernel
theorem dX8_init_507 : decode cX8_init 507 = .ok (.iconst 4, 1) := by decide +kernel
theorem dX8_init_508 : decode cX8_init 508 = .ok (.iastore, 1) := by decide +kernel
theorem dX8_init_509 : decode cX8_init 509 = .ok (.aload_n 0, 1) := by decide +kernel
theorem dX8_init_510 : decode cX8_init 510 = .ok (.getfield 32, 3) := by decide +kernel
theorem dX8_init_513 : decode cX8_init 513 = .ok (.iload_n 1, 1) := by decide +kernel
theorem dX8_init_514 : decode cX8_init 514 = .ok (.ldc2_w 173, 3) := by decide +kernel
theorem dX8_init_517 : decode cX8_init 517 = .ok (.lastore, 1) := by decide +kernel
theorem dX8_init_518 : decode cX8_init 518 = .ok (.aload_n 0, 1) := by decide +kernel
theorem dX8_init_519 : decode cX8_init 519 = .ok (.getfield 29, 3) := by decide +kernel
theorem dX8_init_522 : decode cX8_init 522 = .ok (.iconst 2, 1) := by decide +kernel
theorem dX8_init_523 : decode cX8_init 523 = .ok (.iload_n 1, 1) := by decide +kernel
theorem dX8_init_524 : decode cX8_init 524 = .ok (.imul, 1) := by decide +kernel
theorem dX8_init_525 : decode cX8_init 525 = .ok (.iconst 4, 1) := by decide +kernel
theorem dX8_init_526 : decode cX8_init 526 = .ok (.iastore, 1) := by decide +kernel
theorem dX8_init_527 : decode cX8_init 527 = .ok (.aload_n 0, 1) := by decide +kernel
theorem dX8_init_528 : decode cX8_init 528 = .ok (.getfield 29, 3) := by decide +kernel
theorem dX8_init_531 : decode cX8_init 531 = .ok (.iconst 2, 1) := by decide +kernel
theorem dX8_init_532 : decode cX8_init 532 = .ok (.iload_n 1, 1) := by decide +kernel
theorem dX8_init_533 : decode cX8_init 533 = .ok (.imul, 1) := by decide +kernel
theorem dX8_init_534 : decode cX8_init 534 = .ok (.iconst 1, 1) := by decide +kernel
theorem dX8_init_535 : decode cX8_init 535 = .ok (.iadd, 1) := by decide +kernel
theorem dX8_init_536 : decode cX8_init 536 = .ok (.iconst 4, 1) := by decide +kernel
theorem dX8_init_537 : decode cX8_init 537 = .ok (.iastore, 1) := by decide +kernel
theorem dX8_init_538 : decode cX8_init 538 = .ok (.aload_n 0, 1) := by decide +kernel
theorem dX8_init_539 : decode cX8_init 539 = .ok (.getfield 48, 3) := by decide +kernel
theorem dX8_init_542 : decode cX8_init 542 = .ok (.iload_n 1, 1) := by decide +kernel
theorem dX8_init_543 : decode cX8_init 543 = .ok (.iconst (-1), 1) := by decide +kernel
theorem dX8_init_544 : decode cX8_init 544 = .ok (.iastore, 1) := by decide +kernel
theorem dX8_init_545 : decode cX8_init 545 = .ok (.iconst 0, 1) := by decide +kernel
theorem dX8_init_546 : decode cX8_init 546 = .ok (.istore_n 2, 1) := by decide +kernel
theorem dX8_init_547 : decode cX8_init 547 = .ok (.iload_n 2, 1) := by decide +kernel
theorem dX8_init_548 : decode cX8_init 548 = .ok (.iconst 3, 1) := by decide +kernel
theorem dX8_init_549 : decode cX8_init 549 = .ok (.if_icmp .ge 22, 3) := by decide +kernel
theorem dX8_init_552 : decode cX8_init 552 = .ok (.aload_n 0, 1) := by decide +kernel
theorem dX8_init_553 : decode cX8_init 553 = .ok (.getfield 42, 3) := by decide +kernel
theorem dX8_init_556 : decode cX8_init 556 = .ok (.iconst 3, 1) := by decide +kernel
theorem dX8_init_557 : decode cX8_init 557 = .ok (.iload_n 1, 1) := by decide +kernel
theorem dX8_init_558 : decode cX8_init 558 = .ok (.imul, 1) := by decide +kernel
theorem dX8_init_559 : decode cX8_init 559 = .ok (.iload_n 2, 1) := by decide +kernel
theorem dX8_init_560 : decode cX8_init 560 = .ok (.iadd, 1) := by decide +kernel
theorem dX8_init_561 : decode cX8_init 561 = .ok (.ldc2_w 175, 3) := by decide +kernel
theorem dX8_init_564 : decode cX8_init 564 = .ok (.lastore, 1) := by decide +kernel
theorem dX8_init_565 : decode cX8_init 565 = .ok (.iinc 2 1, 3) := by decide +kernel
theorem dX8_init_568 : decode cX8_init 568 = .ok (.goto (-21), 3) := by decide +kernel
theorem dX8_init_571 : decode cX8_init 571 = .ok (.iinc 1 1, 3) := by decide +kernel
theorem dX8_init_574 : decode cX8_init 574 = .ok (.goto (-138), 3) := by decide +kernel
theorem dX8_init_577 : decode cX8_init 577 = .ok (.iconst 0, 1) := by decide +kernel
theorem dX8_init_578 : decode cX8_init 578 = .ok (.istore_n 1, 1) := by decide +kernel
theorem dX8_init_579 : decode cX8_init 579 = .ok (.iload_n 1, 1) := by decide +kernel
theorem dX8_init_580 : decode cX8_init 580 = .ok (.sipush 512, 3) := by decide +kernel
theorem dX8_init_583 : decode cX8_init 583 = .ok (.if_icmp .ge 27, 3) := by decide +kernel
theorem dX8_init_586 : decode cX8_init 586 = .ok (.aload_n 0, 1) := by decide +kernel
theorem dX8_init_587 : decode cX8_init 587 = .ok (.getfield 78, 3) := by decide +kernel
theorem dX8_init_590 : decode cX8_init 590 = .ok (.iload_n 1, 1) := by decide +kernel
theorem dX8_init_591 : decode cX8_init 591 = .ok (.ldc2_w 175, 3) := by decide +kernel
theorem dX8_init_594 : decode cX8_init 594 = .ok (.lastore, 1) := by decide +kernel
theorem dX8_init_595 : decode cX8_init 595 = .ok (.aload_n 0, 1) := by decide +kernel
theorem dX8_init_596 : decode cX8_init 596 = .ok (.getfield 72, 3) := by decide +kernel
theorem dX8_init_599 : decode cX8_init 599 = .ok (.iload_n 1, 1) := by decide +kernel
theorem dX8_init_600 : decode cX8_init 600 = .ok (.ldc2_w 175, 3) := by decide +kernel
theorem dX8_init_603 : decode cX8_init 603 = .ok (.lastore, 1) := by decide +kernel
theorem dX8_init_604 : decode cX8_init 604 = .ok (.iinc 1 1, 3) := by decide +kernel
theorem dX8_init_607 : decode cX8_init 607 = .ok (.goto (-28), 3) := by decide +kernel
theorem dX8_init_610 : decode cX8_init 610 = .ok (.return_, 1) := by decide +kernel
theorem dX8_thrown_0 : decode cX8_thrown 0 = .ok (.aload_n 0, 1) := by decide +kernel
theorem dX8_thrown_1 : decode cX8_thrown 1 = .ok (.getfield 177, 3) := by decide +kernel
theorem dX8_thrown_4 : decode cX8_thrown 4 = .ok (.ireturn, 1) := by decide +kernel
theorem dX8_grant_0 : decode cX8_grant 0 = .ok (.aload_n 0, 1) := by decide +kernel
theorem dX8_grant_1 : decode cX8_grant 1 = .ok (.iload_n 1, 1) := by decide +kernel
theorem dX8_grant_2 : decode cX8_grant 2 = .ok (.invokestatic 236, 3) := by decide +kernel
theorem dX8_grant_5 : decode cX8_grant 5 = .ok (.ifCond .ne 35, 3) := by decide +kernel
theorem dX8_grant_8 : decode cX8_grant 8 = .ok (.iload_n 2, 1) := by decide +kernel
theorem dX8_grant_9 : decode cX8_grant 9 = .ok (.iconst 4, 1) := by decide +kernel
theorem dX8_grant_10 : decode cX8_grant 10 = .ok (.if_icmp .lt 30, 3) := by decide +kernel
theorem dX8_grant_13 : decode cX8_grant 13 = .ok (.iload_n 2, 1) := by decide +kernel
theorem dX8_grant_14 : decode cX8_grant 14 = .ok (.bipush 9, 2) := by decide +kernel
theorem dX8_grant_16 : decode cX8_grant 16 = .ok (.if_icmp .gt 24, 3) := by decide +kernel
theorem dX8_grant_19 : decode cX8_grant 19 = .ok (.iload_n 3, 1) := by decide +kernel
theorem dX8_grant_20 : decode cX8_grant 20 = .ok (.ifCond .lt 20, 3) := by decide +kernel
theorem dX8_grant_23 : decode cX8_grant 23 = .ok (.iload_n 3, 1) := by decide +kernel
theorem dX8_grant_24 : decode cX8_grant 24 = .ok (.iload_n 2, 1) := by decide +kernel
theorem dX8_grant_25 : decode cX8_grant 25 = .ok (.bipush 7, 2) := by decide +kernel
theorem dX8_grant_27 : decode cX8_grant 27 = .ok (.if_icmp .le 8, 3) := by decide +kernel
theorem dX8_grant_30 : decode cX8_grant 30 = .ok (.bipush 64, 2) := by decide +kernel
theorem dX8_grant_32 : decode cX8_grant 32 = .ok (.goto 5, 3) := by decide +kernel
theorem dX8_grant_35 : decode cX8_grant 35 = .ok (.ldc 214, 2) := by decide +kernel
theorem dX8_grant_37 : decode cX8_grant 37 = .ok (.if_icmp .le 7, 3) := by decide +kernel
theorem dX8_grant_40 : decode cX8_grant 40 = .ok (.iconst 1, 1) := by decide +kernel
theorem dX8_grant_41 : decode cX8_grant 41 = .ok (.goto 4, 3) := by decide +kernel
theorem dX8_grant_44 : decode cX8_grant 44 = .ok (.iconst 0, 1) := by decide +kernel
theorem dX8_grant_45 : decode cX8_grant 45 = .ok (.iconst 1, 1) := by decide +kernel
theorem dX8_grant_46 : decode cX8_grant 46 = .ok (.invokevirtual 240, 3) := by decide +kernel
theorem dX8_grant_49 : decode cX8_grant 49 = .ok (.ifCond .ne 15, 3) := by decide +kernel
theorem dX8_grant_52 : decode cX8_grant 52 = .ok (.aload_n 0, 1) := by decide +kernel
theorem dX8_grant_53 : decode cX8_grant 53 = .ok (.aload_n 0, 1) := by decide +kernel
theorem dX8_grant_54 : decode cX8_grant 54 = .ok (.getfield 244, 3) := by decide +kernel
theorem dX8_grant_57 : decode cX8_grant 57 = .ok (.iconst 2, 1) := by decide +kernel
theorem dX8_grant_58 : decode cX8_grant 58 = .ok (.invokevirtual 240, 3) := by decide +kernel
theorem dX8_grant_61 : decode cX8_grant 61 = .ok (.ifCond .eq 4, 3) := by decide +kernel
theorem dX8_grant_64 : decode cX8_grant 64 = .ok (.return_, 1) := by decide +kernel
theorem dX8_grant_65 : decode cX8_grant 65 = .ok (.aload_n 0, 1) := by decide +kernel
theorem dX8_grant_66 : decode cX8_grant 66 = .ok (.getfield 16, 3) := by decide +kernel
theorem dX8_grant_69 : decode cX8_grant 69 = .ok (.bipush 16, 2) := by decide +kernel
theorem dX8_grant_71 : decode cX8_grant 71 = .ok (.iload_n 1, 1) := by decide +kernel
theorem dX8_grant_72 : decode cX8_grant 72 = .ok (.imul, 1) := by decide +kernel
theorem dX8_grant_73 : decode cX8_grant 73 = .ok (.iload_n 2, 1) := by decide +kernel
theorem dX8_grant_74 : decode cX8_grant 74 = .ok (.iadd, 1) := by decide +kernel
theorem dX8_grant_75 : decode cX8_grant 75 = .ok (.iload_n 3, 1) := by decide +kernel
theorem dX8_grant_76 : decode cX8_grant 76 = .ok (.iastore, 1) := by decide +kernel
theorem dX8_grant_77 : decode cX8_grant 77 = .ok (.iload_n 2, 1) := by decide +kernel
theorem dX8_grant_78 : decode cX8_grant 78 = .ok (.iconst 4, 1) := by decide +kernel
theorem dX8_grant_79 : decode cX8_grant 79 = .ok (.if_icmp .ne 11, 3) := by decide +kernel
theorem dX8_grant_82 : decode cX8_grant 82 = .ok (.aload_n 0, 1) := by decide +kernel
theorem dX8_grant_83 : decode cX8_grant 83 = .ok (.getfield 32, 3) := by decide +kernel
theorem dX8_grant_86 : decode cX8_grant 86 = .ok (.iload_n 1, 1) := by decide +kernel
theorem dX8_grant_87 : decode cX8_grant 87 = .ok (.iload_n 3, 1) := by decide +kernel
theorem dX8_grant_88 : decode cX8_grant 88 = .ok (.i2l, 1) := by decide +kernel
theorem dX8_grant_89 : decode cX8_grant 89 = .ok (.lastore, 1) := by decide +kernel
theorem dX8_grant_90 : decode cX8_grant 90 = .ok (.iload_n 2, 1) := by decide +kernel
theorem dX8_grant_91 : decode cX8_grant 91 = .ok (.bipush 7, 2) := by decide +kernel
theorem dX8_grant_93 : decode cX8_grant 93 = .ok (.if_icmp .le 17, 3) := by decide +kernel
theorem dX8_grant_96 : decode cX8_grant 96 = .ok (.aload_n 0, 1) := by decide +kernel
theorem dX8_grant_97 : decode cX8_grant 97 = .ok (.getfield 29, 3) := by decide +kernel
theorem dX8_grant_100 : decode cX8_grant 100 = .ok (.iconst 2, 1) := by decide +kernel
theorem dX8_grant_101 : decode cX8_grant 101 = .ok (.iload_n 1, 1) := by decide +kernel
theorem dX8_grant_102 : decode cX8_grant 102 = .ok (.imul, 1) := by decide +kernel
theorem dX8_grant_103 : decode cX8_grant 103 = .ok (.iload_n 2, 1) := by decide +kernel
theorem dX8_grant_104 : decode cX8_grant 104 = .ok (.iadd, 1) := by decide +kernel
theorem dX8_grant_105 : decode cX8_grant 105 = .ok (.bipush 8, 2) := by decide +kernel
theorem dX8_grant_107 : decode cX8_grant 107 = .ok (.isub, 1) := by decide +kernel
theorem dX8_grant_108 : decode cX8_grant 108 = .ok (.iload_n 3, 1) := by decide +kernel
theorem dX8_grant_109 : decode cX8_grant 109 = .ok (.iastore, 1) := by decide +kernel
theorem dX8_grant_110 : decode cX8_grant 110 = .ok (.return_, 1) := by decide +kernel
theorem dX8_noSide_0 : decode cX8_noSide 0 = .ok (.iload_n 0, 1) := by decide +kernel
theorem dX8_noSide_1 : decode cX8_noSide 1 = .ok (.ifCond .lt 8, 3) := by decide +kernel
theorem dX8_noSide_4 : decode cX8_noSide 4 = .ok (.iload_n 0, 1) := by decide +kernel
theorem dX8_noSide_5 : decode cX8_noSide 5 = .ok (.iconst 1, 1) := by decide +kernel
theorem dX8_noSide_6 : decode cX8_noSide 6 = .ok (.if_icmp .le 7, 3) := by decide +kernel
theorem dX8_noSide_9 : decode cX8_noSide 9 = .ok (.iconst 1, 1) := by decide +kernel
theorem dX8_noSide_10 : decode cX8_noSide 10 = .ok (.goto 4, 3) := by decide +kernel
theorem dX8_noSide_13 : decode cX8_noSide 13 = .ok (.iconst 0, 1) := by decide +kernel
theorem dX8_noSide_14 : decode cX8_noSide 14 = .ok (.ireturn, 1) := by decide +kernel
theorem dX8_fails_0 : decode cX8_fails 0 = .ok (.aload_n 0, 1) := by decide +kernel
theorem dX8_fails_1 : decode cX8_fails 1 = .ok (.iload_n 1, 1) := by decide +kernel
theorem dX8_fails_2 : decode cX8_fails 2 = .ok (.ifCond .eq 7, 3) := by decide +kernel
theorem dX8_fails_5 : decode cX8_fails 5 = .ok (.iload_n 2, 1) := by decide +kernel
theorem dX8_fails_6 : decode cX8_fails 6 = .ok (.goto 4, 3) := by decide +kernel
theorem dX8_fails_9 : decode cX8_fails 9 = .ok (.iconst 0, 1) := by decide +kernel
theorem dX8_fails_10 : decode cX8_fails 10 = .ok (.putfield 177, 3) := by decide +kernel
theorem dX8_fails_13 : decode cX8_fails 13 = .ok (.iload_n 1, 1) := by decide +kernel
theorem dX8_fails_14 : decode cX8_fails 14 = .ok (.ireturn, 1) := by decide +kernel
theorem dX8_join_0 : decode cX8_join 0 = .ok (.aload_n 0, 1) := by decide +kernel
theorem dX8_join_1 : decode cX8_join 1 = .ok (.aload_n 0, 1) := by decide +kernel
theorem dX8_join_2 : decode cX8_join 2 = .ok (.getfield 244, 3) := by decide +kernel
theorem dX8_join_5 : decode cX8_join 5 = .ok (.iconst 1, 1) := by decide +kernel
theorem dX8_join_6 : decode cX8_join 6 = .ok (.invokevirtual 240, 3) := by decide +kernel
theorem dX8_join_9 : decode cX8_join 9 = .ok (.ifCond .eq 4, 3) := by decide +kernel
theorem dX8_join_12 : decode cX8_join 12 = .ok (.return_, 1) := by decide +kernel
theorem dX8_join_13 : decode cX8_join 13 = .ok (.aload_n 0, 1) := by decide +kernel
theorem dX8_join_14 : decode cX8_join 14 = .ok (.iconst 1, 1) := by decide +kernel
theorem dX8_join_15 : decode cX8_join 15 = .ok (.putfield 244, 3) := by decide +kernel
theorem dX8_join_18 : decode cX8_join 18 = .ok (.iconst 0, 1) := by decide +kernel
theorem dX8_join_19 : decode cX8_join 19 = .ok (.istore_n 1, 1) := by decide +kernel
theorem dX8_join_20 : decode cX8_join 20 = .ok (.iload_n 1, 1) := by decide +kernel
theorem dX8_join_21 : decode cX8_join 21 = .ok (.iconst 2, 1) := by decide +kernel
theorem dX8_join_22 : decode cX8_join 22 = .ok (.if_icmp .ge 73, 3) := by decide +kernel
theorem dX8_join_25 : decode cX8_join 25 = .ok (.aload_n 0, 1) := by decide +kernel
theorem dX8_join_26 : decode cX8_join 26 = .ok (.getfield 19, 3) := by decide +kernel
theorem dX8_join_29 : decode cX8_join 29 = .ok (.iconst 3, 1) := by decide +kernel
theorem dX8_join_30 : decode cX8_join 30 = .ok (.iload_n 1, 1) := by decide +kernel
theorem dX8_join_31 : decode cX8_join 31 = .ok (.imul, 1) := by decide +kernel
theorem dX8_join_32 : decode cX8_join 32 = .ok (.aload_n 0, 1) := by decide +kernel
theorem dX8_join_33 : decode cX8_join 33 = .ok (.getfield 16, 3) := by decide +kernel
theorem dX8_join_36 : decode cX8_join 36 = .ok (.bipush 16, 2) := by decide +kernel
theorem dX8_join_38 : decode cX8_join 38 = .ok (.iconst 1, 1) := by decide +kernel
theorem dX8_join_39 : decode cX8_join 39 = .ok (.iload_n 1, 1) := by decide +kernel
theorem dX8_join_40 : decode cX8_join 40 = .ok (.isub, 1) := by decide +kernel
theorem dX8_join_41 : decode cX8_join 41 = .ok (.imul, 1) := by decide +kernel
theorem dX8_join_42 : decode cX8_join 42 = .ok (.iconst 4, 1) := by decide +kernel
theorem dX8_join_43 : decode cX8_join 43 = .ok (.iadd, 1) := by decide +kernel
theorem dX8_join_44 : decode cX8_join 44 = .ok (.iaload, 1) := by decide +kernel
theorem dX8_join_45 : decode cX8_join 45 = .ok (.i2l, 1) := by decide +kernel
theorem dX8_join_46 : decode cX8_join 46 = .ok (.lastore, 1) := by decide +kernel
theorem dX8_join_47 : decode cX8_join 47 = .ok (.iconst 0, 1) := by decide +kernel
theorem dX8_join_48 : decode cX8_join 48 = .ok (.istore_n 2, 1) := by decide +kernel
theorem dX8_join_49 : decode cX8_join 49 = .ok (.iload_n 2, 1) := by decide +kernel
theorem dX8_join_50 : decode cX8_join 50 = .ok (.iconst 2, 1) := by decide +kernel
theorem dX8_join_51 : decode cX8_join 51 = .ok (.if_icmp .ge 38, 3) := by decide +kernel
theorem dX8_join_54 : decode cX8_join 54 = .ok (.aload_n 0, 1) := by decide +kernel
theorem dX8_join_55 : decode cX8_join 55 = .ok (.getfield 19, 3) := by decide +kernel
theorem dX8_join_58 : decode cX8_join 58 = .ok (.iconst 3, 1) := by decide +kernel
theorem dX8_join_59 : decode cX8_join 59 = .ok (.iload_n 1, 1) := by decide +kernel
theorem dX8_join_60 : decode cX8_join 60 = .ok (.imul, 1) := by decide +kernel
theorem dX8_join_61 : decode cX8_join 61 = .ok (.iconst 1, 1) := by decide +kernel
theorem dX8_join_62 : decode cX8_join 62 = .ok (.iadd, 1) := by decide +kernel
theorem dX8_join_63 : decode cX8_join 63 = .ok (.iload_n 2, 1) := by decide +kernel
theorem dX8_join_64 : decode cX8_join 64 = .ok (.iadd, 1) := by decide +kernel
theorem dX8_join_65 : decode cX8_join 65 = .ok (.aload_n 0, 1) := by decide +kernel
theorem dX8_join_66 : decode cX8_join 66 = .ok (.getfield 16, 3) := by decide +kernel
theorem dX8_join_69 : decode cX8_join 69 = .ok (.bipush 16, 2) := by decide +kernel
theorem dX8_join_71 : decode cX8_join 71 = .ok (.iconst 1, 1) := by decide +kernel
theorem dX8_join_72 : decode cX8_join 72 = .ok (.iload_n 1, 1) := by decide +kernel
theorem dX8_join_73 : decode cX8_join 73 = .ok (.isub, 1) := by decide +kernel
theorem dX8_join_74 : decode cX8_join 74 = .ok (.imul, 1) := by decide +kernel
theorem dX8_join_75 : decode cX8_join 75 = .ok (.bipush 8, 2) := by decide +kernel
theorem dX8_join_77 : decode cX8_join 77 = .ok (.iadd, 1) := by decide +kernel
theorem dX8_join_78 : decode cX8_join 78 = .ok (.iload_n 2, 1) := by decide +kernel
theorem dX8_join_79 : decode cX8_join 79 = .ok (.iadd, 1) := by decide +kernel
theorem dX8_join_80 : decode cX8_join 80 = .ok (.iaload, 1) := by decide +kernel
theorem dX8_join_81 : decode cX8_join 81 = .ok (.i2l, 1) := by decide +kernel
theorem dX8_join_82 : decode cX8_join 82 = .ok (.lastore, 1) := by decide +kernel
theorem dX8_join_83 : decode cX8_join 83 = .ok (.iinc 2 1, 3) := by decide +kernel
theorem dX8_join_86 : decode cX8_join 86 = .ok (.goto (-37), 3) := by decide +kernel
theorem dX8_join_89 : decode cX8_join 89 = .ok (.iinc 1 1, 3) := by decide +kernel
theorem dX8_join_92 : decode cX8_join 92 = .ok (.goto (-72), 3) := by decide +kernel
theorem dX8_join_95 : decode cX8_join 95 = .ok (.return_, 1) := by decide +kernel
theorem dX8_feed_0 : decode cX8_feed 0 = .ok (.aload_n 0, 1) := by decide +kernel
theorem dX8_feed_1 : decode cX8_feed 1 = .ok (.iload_n 1, 1) := by decide +kernel
theorem dX8_feed_2 : decode cX8_feed 2 = .ok (.iconst 1, 1) := by decide +kernel
theorem dX8_feed_3 : decode cX8_feed 3 = .ok (.if_icmp .lt 9, 3) := by decide +kernel
theorem dX8_feed_6 : decode cX8_feed 6 = .ok (.iload_n 1, 1) := by decide +kernel
theorem dX8_feed_7 : decode cX8_feed 7 = .ok (.bipush 8, 2) := by decide +kernel
theorem dX8_feed_9 : decode cX8_feed 9 = .ok (.if_icmp .le 7, 3) := by decide +kernel
theorem dX8_feed_12 : decode cX8_feed 12 = .ok (.iconst 1, 1) := by decide +kernel
theorem dX8_feed_13 : decode cX8_feed 13 = .ok (.goto 4, 3) := by decide +kernel
theorem dX8_feed_16 : decode cX8_feed 16 = .ok (.iconst 0, 1) := by decide +kernel
theorem dX8_feed_17 : decode cX8_feed 17 = .ok (.iconst 1, 1) := by decide +kernel
theorem dX8_feed_18 : decode cX8_feed 18 = .ok (.invokevirtual 240, 3) := by decide +kernel
theorem dX8_feed_21 : decode cX8_feed 21 = .ok (.ifCond .ne 28, 3) := by decide +kernel
theorem dX8_feed_24 : decode cX8_feed 24 = .ok (.aload_n 0, 1) := by decide +kernel
theorem dX8_feed_25 : decode cX8_feed 25 = .ok (.aload_n 0, 1) := by decide +kernel
theorem dX8_feed_26 : decode cX8_feed 26 = .ok (.getfield 263, 3) := by decide +kernel
theorem dX8_feed_29 : decode cX8_feed 29 = .ok (.iload_n 1, 1) := by decide +kernel
theorem dX8_feed_30 : decode cX8_feed 30 = .ok (.iadd, 1) := by decide +kernel
theorem dX8_feed_31 : decode cX8_feed 31 = .ok (.sipush 2048, 3) := by decide +kernel
theorem dX8_feed_34 : decode cX8_feed 34 = .ok (.if_icmp .le 7, 3) := by decide +kernel
theorem dX8_feed_37 : decode cX8_feed 37 = .ok (.iconst 1, 1) := by decide +kernel
theorem dX8_feed_38 : decode cX8_feed 38 = .ok (.goto 4, 3) := by decide +kernel
theorem dX8_feed_41 : decode cX8_feed 41 = .ok (.iconst 0, 1) := by decide +kernel
theorem dX8_feed_42 : decode cX8_feed 42 = .ok (.iconst 2, 1) := by decide +kernel
theorem dX8_feed_43 : decode cX8_feed 43 = .ok (.invokevirtual 240, 3) := by decide +kernel
theorem dX8_feed_46 : decode cX8_feed 46 = .ok (.ifCond .eq 5, 3) := by decide +kernel
theorem dX8_feed_49 : decode cX8_feed 49 = .ok (.iconst 0, 1) := by decide +kernel
theorem dX8_feed_50 : decode cX8_feed 50 = .ok (.ireturn, 1) := by decide +kernel
theorem dX8_feed_51 : decode cX8_feed 51 = .ok (.iconst 0, 1) := by decide +kernel
theorem dX8_feed_52 : decode cX8_feed 52 = .ok (.istore 4, 2) := by decide +kernel
theorem dX8_feed_54 : decode cX8_feed 54 = .ok (.iload 4, 2) := by decide +kernel
theorem dX8_feed_56 : decode cX8_feed 56 = .ok (.iload_n 1, 1) := by decide +kernel
theorem dX8_feed_57 : decode cX8_feed 57 = .ok (.if_icmp .ge 33, 3) := by decide +kernel
theorem dX8_feed_60 : decode cX8_feed 60 = .ok (.aload_n 0, 1) := by decide +kernel
theorem dX8_feed_61 : decode cX8_feed 61 = .ok (.getfield 7, 3) := by decide +kernel
theorem dX8_feed_64 : decode cX8_feed 64 = .ok (.aload_n 0, 1) := by decide +kernel
theorem dX8_feed_65 : decode cX8_feed 65 = .ok (.getfield 263, 3) := by decide +kernel
theorem dX8_feed_68 : decode cX8_feed 68 = .ok (.iload 4, 2) := by decide +kernel
theorem dX8_feed_70 : decode cX8_feed 70 = .ok (.iadd, 1) := by decide +kernel
theorem dX8_feed_71 : decode cX8_feed 71 = .ok (.lload_n 2, 1) := by decide +kernel
theorem dX8_feed_72 : decode cX8_feed 72 = .ok (.bipush 8, 2) := by decide +kernel
theorem dX8_feed_74 : decode cX8_feed 74 = .ok (.iload 4, 2) := by decide +kernel
theorem dX8_feed_76 : decode cX8_feed 76 = .ok (.imul, 1) := by decide +kernel
theorem dX8_feed_77 : decode cX8_feed 77 = .ok (.lshr, 1) := by decide +kernel
theorem dX8_feed_78 : decode cX8_feed 78 = .ok (.ldc2_w 266, 3) := by decide +kernel
theorem dX8_feed_81 : decode cX8_feed 81 = .ok (.land, 1) := by decide +kernel
theorem dX8_feed_82 : decode cX8_feed 82 = .ok (.l2i, 1) := by decide +kernel
theorem dX8_feed_83 : decode cX8_feed 83 = .ok (.iastore, 1) := by decide +kernel
theorem dX8_feed_84 : decode cX8_feed 84 = .ok (.iinc 4 1, 3) := by decide +kernel
theorem dX8_feed_87 : decode cX8_feed 87 = .ok (.goto (-33), 3) := by decide +kernel
theorem dX8_feed_90 : decode cX8_feed 90 = .ok (.aload_n 0, 1) := by decide +kernel
theorem dX8_feed_91 : decode cX8_feed 91 = .ok (.dup, 1) := by decide +kernel
theorem dX8_feed_92 : decode cX8_feed 92 = .ok (.getfield 263, 3) := by decide +kernel
theorem dX8_feed_95 : decode cX8_feed 95 = .ok (.iload_n 1, 1) := by decide +kernel
theorem dX8_feed_96 : decode cX8_feed 96 = .ok (.iadd, 1) := by decide +kernel
theorem dX8_feed_97 : decode cX8_feed 97 = .ok (.putfield 263, 3) := by decide +kernel
theorem dX8_feed_100 : decode cX8_feed 100 = .ok (.aload_n 0, 1) := by decide +kernel
theorem dX8_feed_101 : decode cX8_feed 101 = .ok (.getfield 263, 3) := by decide +kernel
theorem dX8_feed_104 : decode cX8_feed 104 = .ok (.ireturn, 1) := by decide +kernel
theorem dX8_open_0 : decode cX8_open 0 = .ok (.aload_n 0, 1) := by decide +kernel
theorem dX8_open_1 : decode cX8_open 1 = .ok (.iload_n 1, 1) := by decide +kernel
theorem dX8_open_2 : decode cX8_open 2 = .ok (.invokestatic 236, 3) := by decide +kernel
theorem dX8_open_5 : decode cX8_open 5 = .ok (.iconst 1, 1) := by decide +kernel
theorem dX8_open_6 : decode cX8_open 6 = .ok (.invokevirtual 240, 3) := by decide +kernel
theorem dX8_open_9 : decode cX8_open 9 = .ok (.ifCond .ne 23, 3) := by decide +kernel
theorem dX8_open_12 : decode cX8_open 12 = .ok (.aload_n 0, 1) := by decide +kernel
theorem dX8_open_13 : decode cX8_open 13 = .ok (.aload_n 0, 1) := by decide +kernel
theorem dX8_open_14 : decode cX8_open 14 = .ok (.getfield 244, 3) := by decide +kernel
theorem dX8_open_17 : decode cX8_open 17 = .ok (.ifCond .ne 7, 3) := by decide +kernel
theorem dX8_open_20 : decode cX8_open 20 = .ok (.iconst 1, 1) := by decide +kernel
theorem dX8_open_21 : decode cX8_open 21 = .ok (.goto 4, 3) := by decide +kernel
theorem dX8_open_24 : decode cX8_open 24 = .ok (.iconst 0, 1) := by decide +kernel
theorem dX8_open_25 : decode cX8_open 25 = .ok (.iconst 2, 1) := by decide +kernel
theorem dX8_open_26 : decode cX8_open 26 = .ok (.invokevirtual 240, 3) := by decide +kernel
theorem dX8_open_29 : decode cX8_open 29 = .ok (.ifCond .eq 5, 3) := by decide +kernel
theorem dX8_open_32 : decode cX8_open 32 = .ok (.iconst 0, 1) := by decide +kernel
theorem dX8_open_33 : decode cX8_open 33 = .ok (.ireturn, 1) := by decide +kernel
theorem dX8_open_34 : decode cX8_open 34 = .ok (.iload_n 2, 1) := by decide +kernel
theorem dX8_open_35 : decode cX8_open 35 = .ok (.ifCond .eq 7, 3) := by decide +kernel
theorem dX8_open_38 : decode cX8_open 38 = .ok (.iconst 0, 1) := by decide +kernel
theorem dX8_open_39 : decode cX8_open 39 = .ok (.goto 4, 3) := by decide +kernel
theorem dX8_open_42 : decode cX8_open 42 = .ok (.iconst 1, 1) := by decide +kernel
theorem dX8_open_43 : decode cX8_open 43 = .ok (.istore_n 3, 1) := by decide +kernel
theorem dX8_open_44 : decode cX8_open 44 = .ok (.iconst 2, 1) := by decide +kernel
theorem dX8_open_45 : decode cX8_open 45 = .ok (.iload_n 1, 1) := by decide +kernel
theorem dX8_open_46 : decode cX8_open 46 = .ok (.imul, 1) := by decide +kernel
theorem dX8_open_47 : decode cX8_open 47 = .ok (.iload_n 3, 1) := by decide +kernel
theorem dX8_open_48 : decode cX8_open 48 = .ok (.iadd, 1) := by decide +kernel
theorem dX8_open_49 : decode cX8_open 49 = .ok (.istore 4, 2) := by decide +kernel
theorem dX8_open_51 : decode cX8_open 51 = .ok (.aload_n 0, 1) := by decide +kernel
theorem dX8_open_52 : decode cX8_open 52 = .ok (.getfield 23, 3) := by decide +kernel
theorem dX8_open_55 : decode cX8_open 55 = .ok (.iload 4, 2) := by decide +kernel
theorem dX8_open_57 : decode cX8_open 57 = .ok (.iaload, 1) := by decide +kernel
theorem dX8_open_58 : decode cX8_open 58 = .ok (.i2l, 1) := by decide +kernel
theorem dX8_open_59 : decode cX8_open 59 = .ok (.aload_n 0, 1) := by decide +kernel
theorem dX8_open_60 : decode cX8_open 60 = .ok (.getfield 19, 3) := by decide +kernel
theorem dX8_open_63 : decode cX8_open 63 = .ok (.iconst 3, 1) := by decide +kernel
theorem dX8_open_64 : decode cX8_open 64 = .ok (.iload_n 1, 1) := by decide +kernel
theorem dX8_open_65 : decode cX8_open 65 = .ok (.imul, 1) := by decide +kernel
theorem dX8_open_66 : decode cX8_open 66 = .ok (.iconst 1, 1) := by decide +kernel
theorem dX8_open_67 : decode cX8_open 67 = .ok (.iadd, 1) := by decide +kernel
theorem dX8_open_68 : decode cX8_open 68 = .ok (.iload_n 3, 1) := by decide +kernel
theorem dX8_open_69 : decode cX8_open 69 = .ok (.iadd, 1) := by decide +kernel
theorem dX8_open_70 : decode cX8_open 70 = .ok (.laload, 1) := by decide +kernel
theorem dX8_open_71 : decode cX8_open 71 = .ok (.lcmp, 1) := by decide +kernel
theorem dX8_open_72 : decode cX8_open 72 = .ok (.ifCond .ge 15, 3) := by decide +kernel
theorem dX8_open_75 : decode cX8_open 75 = .ok (.aload_n 0, 1) := by decide +kernel
theorem dX8_open_76 : decode cX8_open 76 = .ok (.getfield 23, 3) := by decide +kernel
theorem dX8_open_79 : decode cX8_open 79 = .ok (.iload 4, 2) := by decide +kernel
theorem dX8_open_81 : decode cX8_open 81 = .ok (.iaload, 1) := by decide +kernel
theorem dX8_open_82 : decode cX8_open 82 = .ok (.bipush 64, 2) := by decide +kernel
theorem dX8_open_84 : decode cX8_open 84 = .ok (.if_icmp .ne 13, 3) := by decide +kernel
theorem dX8_open_87 : decode cX8_open 87 = .ok (.aload_n 0, 1) := by decide +kernel
theorem dX8_open_88 : decode cX8_open 88 = .ok (.getfield 45, 3) := by decide +kernel
theorem dX8_open_91 : decode cX8_open 91 = .ok (.iload 4, 2) := by decide +kernel
theorem dX8_open_93 : decode cX8_open 93 = .ok (.iconst 1, 1) := by decide +kernel
theorem dX8_open_94 : decode cX8_open 94 = .ok (.bastore, 1) := by decide +kernel
theorem dX8_open_95 : decode cX8_open 95 = .ok (.iconst (-1), 1) := by decide +kernel
theorem dX8_open_96 : decode cX8_open 96 = .ok (.ireturn, 1) := by decide +kernel
theorem dX8_open_97 : decode cX8_open 97 = .ok (.aload_n 0, 1) := by decide +kernel
theorem dX8_open_98 : decode cX8_open 98 = .ok (.getfield 45, 3) := by decide +kernel
theorem dX8_open_101 : decode cX8_open 101 = .ok (.iload 4, 2) := by decide +kernel
theorem dX8_open_103 : decode cX8_open 103 = .ok (.iconst 0, 1) := by decide +kernel
theorem dX8_open_104 : decode cX8_open 104 = .ok (.bastore, 1) := by decide +kernel
theorem dX8_open_105 : decode cX8_open 105 = .ok (.iconst 4, 1) := by decide +kernel
theorem dX8_open_106 : decode cX8_open 106 = .ok (.aload_n 0, 1) := by decide +kernel
theorem dX8_open_107 : decode cX8_open 107 = .ok (.getfield 23, 3) := by decide +kernel
theorem dX8_open_110 : decode cX8_open 110 = .ok (.iload 4, 2) := by decide +kernel
theorem dX8_open_112 : decode cX8_open 112 = .ok (.iaload, 1) := by decide +kernel
theorem dX8_open_113 : decode cX8_open 113 = .ok (.imul, 1) := by decide +kernel
theorem dX8_open_114 : decode cX8_open 114 = .ok (.iconst 2, 1) := by decide +kernel
theorem dX8_open_115 : decode cX8_open 115 = .ok (.iload_n 3, 1) := by decide +kernel
theorem dX8_open_116 : decode cX8_open 116 = .ok (.imul, 1) := by decide +kernel
theorem dX8_open_117 : decode cX8_open 117 = .ok (.iadd, 1) := by decide +kernel
theorem dX8_open_118 : decode cX8_open 118 = .ok (.iload_n 1, 1) := by decide +kernel
theorem dX8_open_119 : decode cX8_open 119 = .ok (.iadd, 1) := by decide +kernel
theorem dX8_open_120 : decode cX8_open 120 = .ok (.istore 5, 2) := by decide +kernel
theorem dX8_open_122 : decode cX8_open 122 = .ok (.aload_n 0, 1) := by decide +kernel
theorem dX8_open_123 : decode cX8_open 123 = .ok (.getfield 23, 3) := by decide +kernel
theorem dX8_open_126 : decode cX8_open 126 = .ok (.iload 4, 2) := by decide +kernel
theorem dX8_open_128 : decode cX8_open 128 = .ok (.dup2, 1) := by decide +kernel
theorem dX8_open_129 : decode cX8_open 129 = .ok (.iaload, 1) := by decide +kernel
theorem dX8_open_130 : decode cX8_open 130 = .ok (.iconst 1, 1) := by decide +kernel
theorem dX8_open_131 : decode cX8_open 131 = .ok (.iadd, 1) := by decide +kernel
theorem dX8_open_132 : decode cX8_open 132 = .ok (.iastore, 1) := by decide +kernel
theorem dX8_open_133 : decode cX8_open 133 = .ok (.aload_n 0, 1) := by decide +kernel
theorem dX8_open_134 : decode cX8_open 134 = .ok (.iload_n 1, 1) := by decide +kernel
theorem dX8_open_135 : decode cX8_open 135 = .ok (.iload 5, 2) := by decide +kernel
theorem dX8_open_137 : decode cX8_open 137 = .ok (.invokevirtual 268, 3) := by decide +kernel
theorem dX8_open_140 : decode cX8_open 140 = .ok (.iload 5, 2) := by decide +kernel
theorem dX8_open_142 : decode cX8_open 142 = .ok (.ireturn, 1) := by decide +kernel
theorem dX8_begin_0 : decode cX8_begin 0 = .ok (.iload_n 1, 1) := by decide +kernel
theorem dX8_begin_1 : decode cX8_begin 1 = .ok (.iload_n 2, 1) := by decide +kernel
theorem dX8_begin_2 : decode cX8_begin 2 = .ok (.invokestatic 189, 3) := by decide +kernel
theorem dX8_begin_5 : decode cX8_begin 5 = .ok (.istore_n 3, 1) := by decide +kernel
theorem dX8_begin_6 : decode cX8_begin 6 = .ok (.aload_n 0, 1) := by decide +kernel
theorem dX8_begin_7 : decode cX8_begin 7 = .ok (.getfield 51, 3) := by decide +kernel
theorem dX8_begin_10 : decode cX8_begin 10 = .ok (.iload_n 3, 1) := by decide +kernel
theorem dX8_begin_11 : decode cX8_begin 11 = .ok (.iconst 1, 1) := by decide +kernel
theorem dX8_begin_12 : decode cX8_begin 12 = .ok (.bastore, 1) := by decide +kernel
theorem dX8_begin_13 : decode cX8_begin 13 = .ok (.aload_n 0, 1) := by decide +kernel
theorem dX8_begin_14 : decode cX8_begin 14 = .ok (.getfield 90, 3) := by decide +kernel
theorem dX8_begin_17 : decode cX8_begin 17 = .ok (.iload_n 3, 1) := by decide +kernel
theorem dX8_begin_18 : decode cX8_begin 18 = .ok (.aload_n 0, 1) := by decide +kernel
theorem dX8_begin_19 : decode cX8_begin 19 = .ok (.iload_n 1, 1) := by decide +kernel
theorem dX8_begin_20 : decode cX8_begin 20 = .ok (.iload_n 2, 1) := by decide +kernel
theorem dX8_begin_21 : decode cX8_begin 21 = .ok (.invokevirtual 203, 3) := by decide +kernel
theorem dX8_begin_24 : decode cX8_begin 24 = .ok (.i2l, 1) := by decide +kernel
theorem dX8_begin_25 : decode cX8_begin 25 = .ok (.lastore, 1) := by decide +kernel
theorem dX8_begin_26 : decode cX8_begin 26 = .ok (.aload_n 0, 1) := by decide +kernel
theorem dX8_begin_27 : decode cX8_begin 27 = .ok (.getfield 54, 3) := by decide +kernel
theorem dX8_begin_30 : decode cX8_begin 30 = .ok (.iload_n 3, 1) := by decide +kernel
theorem dX8_begin_31 : decode cX8_begin 31 = .ok (.aload_n 0, 1) := by decide +kernel
theorem dX8_begin_32 : decode cX8_begin 32 = .ok (.iload_n 1, 1) := by decide +kernel
theorem dX8_begin_33 : decode cX8_begin 33 = .ok (.iload_n 2, 1) := by decide +kernel
theorem dX8_begin_34 : decode cX8_begin 34 = .ok (.invokevirtual 206, 3) := by decide +kernel
theorem dX8_begin_37 : decode cX8_begin 37 = .ok (.lastore, 1) := by decide +kernel
theorem dX8_begin_38 : decode cX8_begin 38 = .ok (.return_, 1) := by decide +kernel
theorem dX8_at_0 : decode cX8_at 0 = .ok (.sipush 256, 3) := by decide +kernel
theorem dX8_at_3 : decode cX8_at 3 = .ok (.iload_n 0, 1) := by decide +kernel
theorem dX8_at_4 : decode cX8_at 4 = .ok (.imul, 1) := by decide +kernel
theorem dX8_at_5 : decode cX8_at 5 = .ok (.iload_n 1, 1) := by decide +kernel
theorem dX8_at_6 : decode cX8_at 6 = .ok (.iadd, 1) := by decide +kernel
theorem dX8_at_7 : decode cX8_at 7 = .ok (.ireturn, 1) := by decide +kernel
theorem dX8_grantOf_0 : decode cX8_grantOf 0 = .ok (.aload_n 0, 1) := by decide +kernel
theorem dX8_grantOf_1 : decode cX8_grantOf 1 = .ok (.getfield 16, 3) := by decide +kernel
theorem dX8_grantOf_4 : decode cX8_grantOf 4 = .ok (.bipush 16, 2) := by decide +kernel
theorem dX8_grantOf_6 : decode cX8_grantOf 6 = .ok (.iload_n 1, 1) := by decide +kernel
theorem dX8_grantOf_7 : decode cX8_grantOf 7 = .ok (.imul, 1) := by decide +kernel
theorem dX8_grantOf_8 : decode cX8_grantOf 8 = .ok (.iload_n 2, 1) := by decide +kernel
theorem dX8_grantOf_9 : decode cX8_grantOf 9 = .ok (.i2l, 1) := by decide +kernel
theorem dX8_grantOf_10 : decode cX8_grantOf 10 = .ok (.invokestatic 181, 3) := by decide +kernel
theorem dX8_grantOf_13 : decode cX8_grantOf 13 = .ok (.iconst 1, 1) := by decide +kernel
theorem dX8_grantOf_14 : decode cX8_grantOf 14 = .ok (.if_icmp .ne 8, 3) := by decide +kernel
theorem dX8_grantOf_17 : decode cX8_grantOf 17 = .ok (.bipush 7, 2) := by decide +kernel
theorem dX8_grantOf_19 : decode cX8_grantOf 19 = .ok (.goto 18, 3) := by decide +kernel
theorem dX8_grantOf_22 : decode cX8_grantOf 22 = .ok (.iload_n 1, 1) := by decide +kernel
theorem dX8_grantOf_23 : decode cX8_grantOf 23 = .ok (.iload_n 2, 1) := by decide +kernel
theorem dX8_grantOf_24 : decode cX8_grantOf 24 = .ok (.i2l, 1) := by decide +kernel
theorem dX8_grantOf_25 : decode cX8_grantOf 25 = .ok (.invokestatic 185, 3) := by decide +kernel
theorem dX8_grantOf_28 : decode cX8_grantOf 28 = .ok (.ifCond .eq 7, 3) := by decide +kernel
theorem dX8_grantOf_31 : decode cX8_grantOf 31 = .ok (.iconst 5, 1) := by decide +kernel
theorem dX8_grantOf_32 : decode cX8_grantOf 32 = .ok (.goto 5, 3) := by decide +kernel
theorem dX8_grantOf_35 : decode cX8_grantOf 35 = .ok (.bipush 6, 2) := by decide +kernel
theorem dX8_grantOf_37 : decode cX8_grantOf 37 = .ok (.iadd, 1) := by decide +kernel
theorem dX8_grantOf_38 : decode cX8_grantOf 38 = .ok (.iaload, 1) := by decide +kernel
theorem dX8_grantOf_39 : decode cX8_grantOf 39 = .ok (.ireturn, 1) := by decide +kernel
theorem dX8_wayOf_0 : decode cX8_wayOf 0 = .ok (.lload_n 0, 1) := by decide +kernel
theorem dX8_wayOf_1 : decode cX8_wayOf 1 = .ok (.iconst 1, 1) := by decide +kernel
theorem dX8_wayOf_2 : decode cX8_wayOf 2 = .ok (.lshr, 1) := by decide +kernel
theorem dX8_wayOf_3 : decode cX8_wayOf 3 = .ok (.lconst 1, 1) := by decide +kernel
theorem dX8_wayOf_4 : decode cX8_wayOf 4 = .ok (.land, 1) := by decide +kernel
theorem dX8_wayOf_5 : decode cX8_wayOf 5 = .ok (.l2i, 1) := by decide +kernel
theorem dX8_wayOf_6 : decode cX8_wayOf 6 = .ok (.ireturn, 1) := by decide +kernel
theorem dX8_opens_0 : decode cX8_opens 0 = .ok (.lload_n 1, 1) := by decide +kernel
theorem dX8_opens_1 : decode cX8_opens 1 = .ok (.lconst 1, 1) := by decide +kernel
theorem dX8_opens_2 : decode cX8_opens 2 = .ok (.land, 1) := by decide +kernel
theorem dX8_opens_3 : decode cX8_opens 3 = .ok (.iload_n 0, 1) := by decide +kernel
theorem dX8_opens_4 : decode cX8_opens 4 = .ok (.i2l, 1) := by decide +kernel
theorem dX8_opens_5 : decode cX8_opens 5 = .ok (.lcmp, 1) := by decide +kernel
theorem dX8_opens_6 : decode cX8_opens 6 = .ok (.ifCond .ne 7, 3) := by decide +kernel
theorem dX8_opens_9 : decode cX8_opens 9 = .ok (.iconst 1, 1) := by decide +kernel
theorem dX8_opens_10 : decode cX8_opens 10 = .ok (.goto 4, 3) := by decide +kernel
theorem dX8_opens_13 : decode cX8_opens 13 = .ok (.iconst 0, 1) := by decide +kernel
theorem dX8_opens_14 : decode cX8_opens 14 = .ok (.ireturn, 1) := by decide +kernel
theorem dX8_limitOf_0 : decode cX8_limitOf 0 = .ok (.aload_n 0, 1) := by decide +kernel
theorem dX8_limitOf_1 : decode cX8_limitOf 1 = .ok (.iconst 1, 1) := by decide +kernel
theorem dX8_limitOf_2 : decode cX8_limitOf 2 = .ok (.iload_n 1, 1) := by decide +kernel
theorem dX8_limitOf_3 : decode cX8_limitOf 3 = .ok (.isub, 1) := by decide +kernel
theorem dX8_limitOf_4 : decode cX8_limitOf 4 = .ok (.iload_n 2, 1) := by decide +kernel
theorem dX8_limitOf_5 : decode cX8_limitOf 5 = .ok (.invokevirtual 203, 3) := by decide +kernel
theorem dX8_limitOf_8 : decode cX8_limitOf 8 = .ok (.i2l, 1) := by decide +kernel
theorem dX8_limitOf_9 : decode cX8_limitOf 9 = .ok (.lreturn, 1) := by decide +kernel
theorem dX8_write_0 : decode cX8_write 0 = .ok (.aload_n 0, 1) := by decide +kernel
theorem dX8_write_1 : decode cX8_write 1 = .ok (.iload_n 1, 1) := by decide +kernel
theorem dX8_write_2 : decode cX8_write 2 = .ok (.invokestatic 236, 3) := by decide +kernel
theorem dX8_write_5 : decode cX8_write 5 = .ok (.iconst 1, 1) := by decide +kernel
theorem dX8_write_6 : decode cX8_write 6 = .ok (.invokevirtual 240, 3) := by decide +kernel
theorem dX8_write_9 : decode cX8_write 9 = .ok (.ifCond .eq 5, 3) := by decide +kernel
theorem dX8_write_12 : decode cX8_write 12 = .ok (.iconst 0, 1) := by decide +kernel
theorem dX8_write_13 : decode cX8_write 13 = .ok (.ireturn, 1) := by decide +kernel
theorem dX8_write_14 : decode cX8_write 14 = .ok (.aload_n 0, 1) := by decide +kernel
theorem dX8_write_15 : decode cX8_write 15 = .ok (.getfield 263, 3) := by decide +kernel
theorem dX8_write_18 : decode cX8_write 18 = .ok (.istore_n 3, 1) := by decide +kernel
theorem dX8_write_19 : decode cX8_write 19 = .ok (.aload_n 0, 1) := by decide +kernel
theorem dX8_write_20 : decode cX8_write 20 = .ok (.iconst 0, 1) := by decide +kernel
theorem dX8_write_21 : decode cX8_write 21 = .ok (.putfield 263, 3) := by decide +kernel
theorem dX8_write_24 : decode cX8_write 24 = .ok (.aload_n 0, 1) := by decide +kernel
theorem dX8_write_25 : decode cX8_write 25 = .ok (.iload_n 1, 1) := by decide +kernel
theorem dX8_write_26 : decode cX8_write 26 = .ok (.iload_n 2, 1) := by decide +kernel
theorem dX8_write_27 : decode cX8_write 27 = .ok (.invokevirtual 218, 3) := by decide +kernel
theorem dX8_write_30 : decode cX8_write 30 = .ok (.ifCond .eq 12, 3) := by decide +kernel
theorem dX8_write_33 : decode cX8_write 33 = .ok (.aload_n 0, 1) := by decide +kernel
theorem dX8_write_34 : decode cX8_write 34 = .ok (.iload_n 1, 1) := by decide +kernel
theorem dX8_write_35 : decode cX8_write 35 = .ok (.iload_n 2, 1) := by decide +kernel
theorem dX8_write_36 : decode cX8_write 36 = .ok (.invokevirtual 221, 3) := by decide +kernel
theorem dX8_write_39 : decode cX8_write 39 = .ok (.ifCond .eq 5, 3) := by decide +kernel
theorem dX8_write_42 : decode cX8_write 42 = .ok (.iconst (-1), 1) := by decide +kernel
theorem dX8_write_43 : decode cX8_write 43 = .ok (.ireturn, 1) := by decide +kernel
theorem dX8_write_44 : decode cX8_write 44 = .ok (.iconst 0, 1) := by decide +kernel
theorem dX8_write_45 : decode cX8_write 45 = .ok (.istore 4, 2) := by decide +kernel
theorem dX8_write_47 : decode cX8_write 47 = .ok (.iload 4, 2) := by decide +kernel
theorem dX8_write_49 : decode cX8_write 49 = .ok (.iload_n 3, 1) := by decide +kernel
theorem dX8_write_50 : decode cX8_write 50 = .ok (.if_icmp .ge 75, 3) := by decide +kernel
theorem dX8_write_53 : decode cX8_write 53 = .ok (.aload_n 0, 1) := by decide +kernel
theorem dX8_write_54 : decode cX8_write 54 = .ok (.getfield 108, 3) := by decide +kernel
theorem dX8_write_57 : decode cX8_write 57 = .ok (.iload_n 1, 1) := by decide +kernel
theorem dX8_write_58 : decode cX8_write 58 = .ok (.iaload, 1) := by decide +kernel
theorem dX8_write_59 : decode cX8_write 59 = .ok (.ldc 214, 2) := by decide +kernel
theorem dX8_write_61 : decode cX8_write 61 = .ok (.if_icmp .ge 64, 3) := by decide +kernel
theorem dX8_write_64 : decode cX8_write 64 = .ok (.ldc 214, 2) := by decide +kernel
theorem dX8_write_66 : decode cX8_write 66 = .ok (.iload_n 1, 1) := by decide +kernel
theorem dX8_write_67 : decode cX8_write 67 = .ok (.imul, 1) := by decide +kernel
theorem dX8_write_68 : decode cX8_write 68 = .ok (.aload_n 0, 1) := by decide +kernel
theorem dX8_write_69 : decode cX8_write 69 = .ok (.getfield 108, 3) := by decide +kernel
theorem dX8_write_72 : decode cX8_write 72 = .ok (.iload_n 1, 1) := by decide +kernel
theorem dX8_write_73 : decode cX8_write 73 = .ok (.iaload, 1) := by decide +kernel
theorem dX8_write_74 : decode cX8_write 74 = .ok (.iadd, 1) := by decide +kernel
theorem dX8_write_75 : decode cX8_write 75 = .ok (.istore 5, 2) := by decide +kernel
theorem dX8_write_77 : decode cX8_write 77 = .ok (.aload_n 0, 1) := by decide +kernel
theorem dX8_write_78 : decode cX8_write 78 = .ok (.getfield 112, 3) := by decide +kernel
theorem dX8_write_81 : decode cX8_write 81 = .ok (.iload 5, 2) := by decide +kernel
theorem dX8_write_83 : decode cX8_write 83 = .ok (.iload_n 2, 1) := by decide +kernel
theorem dX8_write_84 : decode cX8_write 84 = .ok (.i2s, 1) := by decide +kernel
theorem dX8_write_85 : decode cX8_write 85 = .ok (.sastore, 1) := by decide +kernel
theorem dX8_write_86 : decode cX8_write 86 = .ok (.aload_n 0, 1) := by decide +kernel
theorem dX8_write_87 : decode cX8_write 87 = .ok (.getfield 116, 3) := by decide +kernel
theorem dX8_write_90 : decode cX8_write 90 = .ok (.iload 5, 2) := by decide +kernel
theorem dX8_write_92 : decode cX8_write 92 = .ok (.aload_n 0, 1) := by decide +kernel
theorem dX8_write_93 : decode cX8_write 93 = .ok (.getfield 7, 3) := by decide +kernel
theorem dX8_write_96 : decode cX8_write 96 = .ok (.iload 4, 2) := by decide +kernel
theorem dX8_write_98 : decode cX8_write 98 = .ok (.iaload, 1) := by decide +kernel
theorem dX8_write_99 : decode cX8_write 99 = .ok (.i2b, 1) := by decide +kernel
theorem dX8_write_100 : decode cX8_write 100 = .ok (.bastore, 1) := by decide +kernel
theorem dX8_write_101 : decode cX8_write 101 = .ok (.aload_n 0, 1) := by decide +kernel
theorem dX8_write_102 : decode cX8_write 102 = .ok (.getfield 120, 3) := by decide +kernel
theorem dX8_write_105 : decode cX8_write 105 = .ok (.iload 5, 2) := by decide +kernel
theorem dX8_write_107 : decode cX8_write 107 = .ok (.iconst 0, 1) := by decide +kernel
theorem dX8_write_108 : decode cX8_write 108 = .ok (.bastore, 1) := by decide +kernel
theorem dX8_write_109 : decode cX8_write 109 = .ok (.aload_n 0, 1) := by decide +kernel
theorem dX8_write_110 : decode cX8_write 110 = .ok (.getfield 108, 3) := by decide +kernel
theorem dX8_write_113 : decode cX8_write 113 = .ok (.iload_n 1, 1) := by decide +kernel
theorem dX8_write_114 : decode cX8_write 114 = .ok (.dup2, 1) := by decide +kernel
theorem dX8_write_115 : decode cX8_write 115 = .ok (.iaload, 1) := by decide +kernel
theorem dX8_write_116 : decode cX8_write 116 = .ok (.iconst 1, 1) := by decide +kernel
theorem dX8_write_117 : decode cX8_write 117 = .ok (.iadd, 1) := by decide +kernel
theorem dX8_write_118 : decode cX8_write 118 = .ok (.iastore, 1) := by decide +kernel
theorem dX8_write_119 : decode cX8_write 119 = .ok (.iinc 4 1, 3) := by decide +kernel
theorem dX8_write_122 : decode cX8_write 122 = .ok (.goto (-75), 3) := by decide +kernel
theorem dX8_write_125 : decode cX8_write 125 = .ok (.iload 4, 2) := by decide +kernel
theorem dX8_write_127 : decode cX8_write 127 = .ok (.ireturn, 1) := by decide +kernel
theorem dX8_hasSending_0 : decode cX8_hasSending 0 = .ok (.aload_n 0, 1) := by decide +kernel
theorem dX8_hasSending_1 : decode cX8_hasSending 1 = .ok (.iload_n 1, 1) := by decide +kernel
theorem dX8_hasSending_2 : decode cX8_hasSending 2 = .ok (.iload_n 2, 1) := by decide +kernel
theorem dX8_hasSending_3 : decode cX8_hasSending 3 = .ok (.invokevirtual 193, 3) := by decide +kernel
theorem dX8_hasSending_6 : decode cX8_hasSending 6 = .ok (.ifCond .eq 16, 3) := by decide +kernel
theorem dX8_hasSending_9 : decode cX8_hasSending 9 = .ok (.iload_n 1, 1) := by decide +kernel
theorem dX8_hasSending_10 : decode cX8_hasSending 10 = .ok (.iload_n 2, 1) := by decide +kernel
theorem dX8_hasSending_11 : decode cX8_hasSending 11 = .ok (.i2l, 1) := by decide +kernel
theorem dX8_hasSending_12 : decode cX8_hasSending 12 = .ok (.invokestatic 197, 3) := by decide +kernel
theorem dX8_hasSending_15 : decode cX8_hasSending 15 = .ok (.ifCond .eq 7, 3) := by decide +kernel
theorem dX8_hasSending_18 : decode cX8_hasSending 18 = .ok (.iconst 1, 1) := by decide +kernel
theorem dX8_hasSending_19 : decode cX8_hasSending 19 = .ok (.goto 4, 3) := by decide +kernel
theorem dX8_hasSending_22 : decode cX8_hasSending 22 = .ok (.iconst 0, 1) := by decide +kernel
theorem dX8_hasSending_23 : decode cX8_hasSending 23 = .ok (.ireturn, 1) := by decide +kernel
theorem dX8_isThere_0 : decode cX8_isThere 0 = .ok (.iload_n 2, 1) := by decide +kernel
theorem dX8_isThere_1 : decode cX8_isThere 1 = .ok (.ifCond .lt 27, 3) := by decide +kernel
theorem dX8_isThere_4 : decode cX8_isThere 4 = .ok (.iload_n 2, 1) := by decide +kernel
theorem dX8_isThere_5 : decode cX8_isThere 5 = .ok (.sipush 256, 3) := by decide +kernel
theorem dX8_isThere_8 : decode cX8_isThere 8 = .ok (.if_icmp .ge 20, 3) := by decide +kernel
theorem dX8_isThere_11 : decode cX8_isThere 11 = .ok (.aload_n 0, 1) := by decide +kernel
theorem dX8_isThere_12 : decode cX8_isThere 12 = .ok (.getfield 51, 3) := by decide +kernel
theorem dX8_isThere_15 : decode cX8_isThere 15 = .ok (.iload_n 1, 1) := by decide +kernel
theorem dX8_isThere_16 : decode cX8_isThere 16 = .ok (.iload_n 2, 1) := by decide +kernel
theorem dX8_isThere_17 : decode cX8_isThere 17 = .ok (.invokestatic 189, 3) := by decide +kernel
theorem dX8_isThere_20 : decode cX8_isThere 20 = .ok (.baload, 1) := by decide +kernel
theorem dX8_isThere_21 : decode cX8_isThere 21 = .ok (.ifCond .eq 7, 3) := by decide +kernel
theorem dX8_isThere_24 : decode cX8_isThere 24 = .ok (.iconst 1, 1) := by decide +kernel
theorem dX8_isThere_25 : decode cX8_isThere 25 = .ok (.goto 4, 3) := by decide +kernel
theorem dX8_isThere_28 : decode cX8_isThere 28 = .ok (.iconst 0, 1) := by decide +kernel
theorem dX8_isThere_29 : decode cX8_isThere 29 = .ok (.ireturn, 1) := by decide +kernel
theorem dX8_sends_0 : decode cX8_sends 0 = .ok (.lload_n 1, 1) := by decide +kernel
theorem dX8_sends_1 : decode cX8_sends 1 = .ok (.invokestatic 181, 3) := by decide +kernel
theorem dX8_sends_4 : decode cX8_sends 4 = .ok (.ifCond .eq 11, 3) := by decide +kernel
theorem dX8_sends_7 : decode cX8_sends 7 = .ok (.iload_n 0, 1) := by decide +kernel
theorem dX8_sends_8 : decode cX8_sends 8 = .ok (.lload_n 1, 1) := by decide +kernel
theorem dX8_sends_9 : decode cX8_sends 9 = .ok (.invokestatic 185, 3) := by decide +kernel
theorem dX8_sends_12 : decode cX8_sends 12 = .ok (.ifCond .eq 7, 3) := by decide +kernel
theorem dX8_sends_15 : decode cX8_sends 15 = .ok (.iconst 1, 1) := by decide +kernel
theorem dX8_sends_16 : decode cX8_sends 16 = .ok (.goto 4, 3) := by decide +kernel
theorem dX8_sends_19 : decode cX8_sends 19 = .ok (.iconst 0, 1) := by decide +kernel
theorem dX8_sends_20 : decode cX8_sends 20 = .ok (.ireturn, 1) := by decide +kernel
theorem dX8_sending_0 : decode cX8_sending 0 = .ok (.iload_n 1, 1) := by decide +kernel
theorem dX8_sending_1 : decode cX8_sending 1 = .ok (.iload_n 2, 1) := by decide +kernel
theorem dX8_sending_2 : decode cX8_sending 2 = .ok (.invokestatic 189, 3) := by decide +kernel
theorem dX8_sending_5 : decode cX8_sending 5 = .ok (.istore_n 3, 1) := by decide +kernel
theorem dX8_sending_6 : decode cX8_sending 6 = .ok (.aload_n 0, 1) := by decide +kernel
theorem dX8_sending_7 : decode cX8_sending 7 = .ok (.getfield 63, 3) := by decide +kernel
theorem dX8_sending_10 : decode cX8_sending 10 = .ok (.iload_n 3, 1) := by decide +kernel
theorem dX8_sending_11 : decode cX8_sending 11 = .ok (.iaload, 1) := by decide +kernel
theorem dX8_sending_12 : decode cX8_sending 12 = .ok (.ifCond .le 12, 3) := by decide +kernel
theorem dX8_sending_15 : decode cX8_sending 15 = .ok (.iconst 2, 1) := by decide +kernel
theorem dX8_sending_16 : decode cX8_sending 16 = .ok (.aload_n 0, 1) := by decide +kernel
theorem dX8_sending_17 : decode cX8_sending 17 = .ok (.getfield 63, 3) := by decide +kernel
theorem dX8_sending_20 : decode cX8_sending 20 = .ok (.iload_n 3, 1) := by decide +kernel
theorem dX8_sending_21 : decode cX8_sending 21 = .ok (.iaload, 1) := by decide +kernel
theorem dX8_sending_22 : decode cX8_sending 22 = .ok (.iadd, 1) := by decide +kernel
theorem dX8_sending_23 : decode cX8_sending 23 = .ok (.ireturn, 1) := by decide +kernel
theorem dX8_sending_24 : decode cX8_sending 24 = .ok (.aload_n 0, 1) := by decide +kernel
theorem dX8_sending_25 : decode cX8_sending 25 = .ok (.getfield 57, 3) := by decide +kernel
theorem dX8_sending_28 : decode cX8_sending 28 = .ok (.iload_n 3, 1) := by decide +kernel
theorem dX8_sending_29 : decode cX8_sending 29 = .ok (.baload, 1) := by decide +kernel
theorem dX8_sending_30 : decode cX8_sending 30 = .ok (.ifCond .ne 5, 3) := by decide +kernel
theorem dX8_sending_33 : decode cX8_sending 33 = .ok (.iconst 0, 1) := by decide +kernel
theorem dX8_sending_34 : decode cX8_sending 34 = .ok (.ireturn, 1) := by decide +kernel
theorem dX8_sending_35 : decode cX8_sending 35 = .ok (.aload_n 0, 1) := by decide +kernel
theorem dX8_sending_36 : decode cX8_sending 36 = .ok (.getfield 60, 3) := by decide +kernel
theorem dX8_sending_39 : decode cX8_sending 39 = .ok (.iload_n 3, 1) := by decide +kernel
theorem dX8_sending_40 : decode cX8_sending 40 = .ok (.iaload, 1) := by decide +kernel
theorem dX8_sending_41 : decode cX8_sending 41 = .ok (.iconst 3, 1) := by decide +kernel
theorem dX8_sending_42 : decode cX8_sending 42 = .ok (.if_icmp .ne 23, 3) := by decide +kernel
theorem dX8_sending_45 : decode cX8_sending 45 = .ok (.aload_n 0, 1) := by decide +kernel
theorem dX8_sending_46 : decode cX8_sending 46 = .ok (.iload_n 1, 1) := by decide +kernel
theorem dX8_sending_47 : decode cX8_sending 47 = .ok (.iload_n 2, 1) := by decide +kernel
theorem dX8_sending_48 : decode cX8_sending 48 = .ok (.iconst 3, 1) := by decide +kernel
theorem dX8_sending_49 : decode cX8_sending 49 = .ok (.invokevirtual 210, 3) := by decide +kernel
theorem dX8_sending_52 : decode cX8_sending 52 = .ok (.aload_n 0, 1) := by decide +kernel
theorem dX8_sending_53 : decode cX8_sending 53 = .ok (.iload_n 1, 1) := by decide +kernel
theorem dX8_sending_54 : decode cX8_sending 54 = .ok (.iload_n 2, 1) := by decide +kernel
theorem dX8_sending_55 : decode cX8_sending 55 = .ok (.invokevirtual 215, 3) := by decide +kernel
theorem dX8_sending_58 : decode cX8_sending 58 = .ok (.if_icmp .ne 7, 3) := by decide +kernel
theorem dX8_sending_61 : decode cX8_sending 61 = .ok (.iconst 2, 1) := by decide +kernel
theorem dX8_sending_62 : decode cX8_sending 62 = .ok (.goto 4, 3) := by decide +kernel
theorem dX8_sending_65 : decode cX8_sending 65 = .ok (.iconst 1, 1) := by decide +kernel
theorem dX8_sending_66 : decode cX8_sending 66 = .ok (.ireturn, 1) := by decide +kernel
theorem dX8_count_0 : decode cX8_count 0 = .ok (.iconst 0, 1) := by decide +kernel
theorem dX8_count_1 : decode cX8_count 1 = .ok (.istore 4, 2) := by decide +kernel
theorem dX8_count_3 : decode cX8_count 3 = .ok (.ldc 214, 2) := by decide +kernel
theorem dX8_count_5 : decode cX8_count 5 = .ok (.iload_n 1, 1) := by decide +kernel
theorem dX8_count_6 : decode cX8_count 6 = .ok (.imul, 1) := by decide +kernel
theorem dX8_count_7 : decode cX8_count 7 = .ok (.istore 5, 2) := by decide +kernel
theorem dX8_count_9 : decode cX8_count 9 = .ok (.iload 5, 2) := by decide +kernel
theorem dX8_count_11 : decode cX8_count 11 = .ok (.ldc 214, 2) := by decide +kernel
theorem dX8_count_13 : decode cX8_count 13 = .ok (.iload_n 1, 1) := by decide +kernel
theorem dX8_count_14 : decode cX8_count 14 = .ok (.imul, 1) := by decide +kernel
theorem dX8_count_15 : decode cX8_count 15 = .ok (.aload_n 0, 1) := by decide +kernel
theorem dX8_count_16 : decode cX8_count 16 = .ok (.getfield 108, 3) := by decide +kernel
theorem dX8_count_19 : decode cX8_count 19 = .ok (.iload_n 1, 1) := by decide +kernel
theorem dX8_count_20 : decode cX8_count 20 = .ok (.iaload, 1) := by decide +kernel
theorem dX8_count_21 : decode cX8_count 21 = .ok (.iadd, 1) := by decide +kernel
theorem dX8_count_22 : decode cX8_count 22 = .ok (.if_icmp .ge 55, 3) := by decide +kernel
theorem dX8_count_25 : decode cX8_count 25 = .ok (.aload_n 0, 1) := by decide +kernel
theorem dX8_count_26 : decode cX8_count 26 = .ok (.getfield 112, 3) := by decide +kernel
theorem dX8_count_29 : decode cX8_count 29 = .ok (.iload 5, 2) := by decide +kernel
theorem dX8_count_31 : decode cX8_count 31 = .ok (.saload, 1) := by decide +kernel
theorem dX8_count_32 : decode cX8_count 32 = .ok (.iload_n 2, 1) := by decide +kernel
theorem dX8_count_33 : decode cX8_count 33 = .ok (.if_icmp .ne 38, 3) := by decide +kernel
theorem dX8_count_36 : decode cX8_count 36 = .ok (.iload_n 3, 1) := by decide +kernel
theorem dX8_count_37 : decode cX8_count 37 = .ok (.iconst (-1), 1) := by decide +kernel
theorem dX8_count_38 : decode cX8_count 38 = .ok (.if_icmp .eq 30, 3) := by decide +kernel
theorem dX8_count_41 : decode cX8_count 41 = .ok (.aload_n 0, 1) := by decide +kernel
theorem dX8_count_42 : decode cX8_count 42 = .ok (.getfield 120, 3) := by decide +kernel
theorem dX8_count_45 : decode cX8_count 45 = .ok (.iload 5, 2) := by decide +kernel
theorem dX8_count_47 : decode cX8_count 47 = .ok (.baload, 1) := by decide +kernel
theorem dX8_count_48 : decode cX8_count 48 = .ok (.iload_n 3, 1) := by decide +kernel
theorem dX8_count_49 : decode cX8_count 49 = .ok (.if_icmp .eq 19, 3) := by decide +kernel
theorem dX8_count_52 : decode cX8_count 52 = .ok (.iload_n 3, 1) := by decide +kernel
theorem dX8_count_53 : decode cX8_count 53 = .ok (.bipush (-2), 2) := by decide +kernel
theorem dX8_count_55 : decode cX8_count 55 = .ok (.if_icmp .ne 16, 3) := by decide +kernel
theorem dX8_count_58 : decode cX8_count 58 = .ok (.aload_n 0, 1) := by decide +kernel
theorem dX8_count_59 : decode cX8_count 59 = .ok (.getfield 120, 3) := by decide +kernel
theorem dX8_count_62 : decode cX8_count 62 = .ok (.iload 5, 2) := by decide +kernel
theorem dX8_count_64 : decode cX8_count 64 = .ok (.baload, 1) := by decide +kernel
theorem dX8_count_65 : decode cX8_count 65 = .ok (.ifCond .eq 6, 3) := by decide +kernel
theorem dX8_count_68 : decode cX8_count 68 = .ok (.iinc 4 1, 3) := by decide +kernel
theorem dX8_count_71 : decode cX8_count 71 = .ok (.iinc 5 1, 3) := by decide +kernel
theorem dX8_count_74 : decode cX8_count 74 = .ok (.goto (-65), 3) := by decide +kernel
theorem dX8_count_77 : decode cX8_count 77 = .ok (.iload 4, 2) := by decide +kernel
theorem dX8_count_79 : decode cX8_count 79 = .ok (.ireturn, 1) := by decide +kernel
theorem dX8_written_0 : decode cX8_written 0 = .ok (.aload_n 0, 1) := by decide +kernel
theorem dX8_written_1 : decode cX8_written 1 = .ok (.iload_n 1, 1) := by decide +kernel
theorem dX8_written_2 : decode cX8_written 2 = .ok (.iload_n 2, 1) := by decide +kernel
theorem dX8_written_3 : decode cX8_written 3 = .ok (.iconst (-1), 1) := by decide +kernel
theorem dX8_written_4 : decode cX8_written 4 = .ok (.invokevirtual 210, 3) := by decide +kernel
theorem dX8_written_7 : decode cX8_written 7 = .ok (.ireturn, 1) := by decide +kernel
theorem dX8_finish_0 : decode cX8_finish 0 = .ok (.aload_n 0, 1) := by decide +kernel
theorem dX8_finish_1 : decode cX8_finish 1 = .ok (.iload_n 1, 1) := by decide +kernel
theorem dX8_finish_2 : decode cX8_finish 2 = .ok (.invokestatic 236, 3) := by decide +kernel
theorem dX8_finish_5 : decode cX8_finish 5 = .ok (.iconst 1, 1) := by decide +kernel
theorem dX8_finish_6 : decode cX8_finish 6 = .ok (.invokevirtual 240, 3) := by decide +kernel
theorem dX8_finish_9 : decode cX8_finish 9 = .ok (.ifCond .ne 21, 3) := by decide +kernel
theorem dX8_finish_12 : decode cX8_finish 12 = .ok (.aload_n 0, 1) := by decide +kernel
theorem dX8_finish_13 : decode cX8_finish 13 = .ok (.iload_n 1, 1) := by decide +kernel
theorem dX8_finish_14 : decode cX8_finish 14 = .ok (.iload_n 2, 1) := by decide +kernel
theorem dX8_finish_15 : decode cX8_finish 15 = .ok (.invokevirtual 218, 3) := by decide +kernel
theorem dX8_finish_18 : decode cX8_finish 18 = .ok (.ifCond .eq 12, 3) := by decide +kernel
theorem dX8_finish_21 : decode cX8_finish 21 = .ok (.aload_n 0, 1) := by decide +kernel
theorem dX8_finish_22 : decode cX8_finish 22 = .ok (.iload_n 1, 1) := by decide +kernel
theorem dX8_finish_23 : decode cX8_finish 23 = .ok (.iload_n 2, 1) := by decide +kernel
theorem dX8_finish_24 : decode cX8_finish 24 = .ok (.invokevirtual 221, 3) := by decide +kernel
theorem dX8_finish_27 : decode cX8_finish 27 = .ok (.ifCond .eq 5, 3) := by decide +kernel
theorem dX8_finish_30 : decode cX8_finish 30 = .ok (.iconst 0, 1) := by decide +kernel
theorem dX8_finish_31 : decode cX8_finish 31 = .ok (.ireturn, 1) := by decide +kernel
theorem dX8_finish_32 : decode cX8_finish 32 = .ok (.aload_n 0, 1) := by decide +kernel
theorem dX8_finish_33 : decode cX8_finish 33 = .ok (.getfield 57, 3) := by decide +kernel
theorem dX8_finish_36 : decode cX8_finish 36 = .ok (.iload_n 1, 1) := by decide +kernel
theorem dX8_finish_37 : decode cX8_finish 37 = .ok (.iload_n 2, 1) := by decide +kernel
theorem dX8_finish_38 : decode cX8_finish 38 = .ok (.invokestatic 189, 3) := by decide +kernel
theorem dX8_finish_41 : decode cX8_finish 41 = .ok (.iconst 1, 1) := by decide +kernel
theorem dX8_finish_42 : decode cX8_finish 42 = .ok (.bastore, 1) := by decide +kernel
theorem dX8_finish_43 : decode cX8_finish 43 = .ok (.aload_n 0, 1) := by decide +kernel
theorem dX8_finish_44 : decode cX8_finish 44 = .ok (.getfield 60, 3) := by decide +kernel
theorem dX8_finish_47 : decode cX8_finish 47 = .ok (.iload_n 1, 1) := by decide +kernel
theorem dX8_finish_48 : decode cX8_finish 48 = .ok (.iload_n 2, 1) := by decide +kernel
theorem dX8_finish_49 : decode cX8_finish 49 = .ok (.invokestatic 189, 3) := by decide +kernel
theorem dX8_finish_52 : decode cX8_finish 52 = .ok (.iconst 0, 1) := by decide +kernel
theorem dX8_finish_53 : decode cX8_finish 53 = .ok (.iastore, 1) := by decide +kernel
theorem dX8_finish_54 : decode cX8_finish 54 = .ok (.iconst 1, 1) := by decide +kernel
theorem dX8_finish_55 : decode cX8_finish 55 = .ok (.ireturn, 1) := by decide +kernel
theorem dX8_reset_0 : decode cX8_reset 0 = .ok (.aload_n 0, 1) := by decide +kernel
theorem dX8_reset_1 : decode cX8_reset 1 = .ok (.iload_n 1, 1) := by decide +kernel
theorem dX8_reset_2 : decode cX8_reset 2 = .ok (.invokestatic 236, 3) := by decide +kernel
theorem dX8_reset_5 : decode cX8_reset 5 = .ok (.ifCond .ne 17, 3) := by decide +kernel
theorem dX8_reset_8 : decode cX8_reset 8 = .ok (.lload_n 3, 1) := by decide +kernel
theorem dX8_reset_9 : decode cX8_reset 9 = .ok (.lconst 0, 1) := by decide +kernel
theorem dX8_reset_10 : decode cX8_reset 10 = .ok (.lcmp, 1) := by decide +kernel
theorem dX8_reset_11 : decode cX8_reset 11 = .ok (.ifCond .lt 11, 3) := by decide +kernel
theorem dX8_reset_14 : decode cX8_reset 14 = .ok (.lload_n 3, 1) := by decide +kernel
theorem dX8_reset_15 : decode cX8_reset 15 = .ok (.ldc2_w 272, 3) := by decide +kernel
theorem dX8_reset_18 : decode cX8_reset 18 = .ok (.lcmp, 1) := by decide +kernel
theorem dX8_reset_19 : decode cX8_reset 19 = .ok (.ifCond .le 7, 3) := by decide +kernel
theorem dX8_reset_22 : decode cX8_reset 22 = .ok (.iconst 1, 1) := by decide +kernel
theorem dX8_reset_23 : decode cX8_reset 23 = .ok (.goto 4, 3) := by decide +kernel
theorem dX8_reset_26 : decode cX8_reset 26 = .ok (.iconst 0, 1) := by decide +kernel
theorem dX8_reset_27 : decode cX8_reset 27 = .ok (.iconst 1, 1) := by decide +kernel
theorem dX8_reset_28 : decode cX8_reset 28 = .ok (.invokevirtual 240, 3) := by decide +kernel
theorem dX8_reset_31 : decode cX8_reset 31 = .ok (.ifCond .ne 12, 3) := by decide +kernel
theorem dX8_reset_34 : decode cX8_reset 34 = .ok (.aload_n 0, 1) := by decide +kernel
theorem dX8_reset_35 : decode cX8_reset 35 = .ok (.iload_n 1, 1) := by decide +kernel
theorem dX8_reset_36 : decode cX8_reset 36 = .ok (.iload_n 2, 1) := by decide +kernel
theorem dX8_reset_37 : decode cX8_reset 37 = .ok (.invokevirtual 274, 3) := by decide +kernel
theorem dX8_reset_40 : decode cX8_reset 40 = .ok (.ifCond .ne 5, 3) := by decide +kernel
theorem dX8_reset_43 : decode cX8_reset 43 = .ok (.iconst 0, 1) := by decide +kernel
theorem dX8_reset_44 : decode cX8_reset 44 = .ok (.ireturn, 1) := by decide +kernel
theorem dX8_reset_45 : decode cX8_reset 45 = .ok (.aload_n 0, 1) := by decide +kernel
theorem dX8_reset_46 : decode cX8_reset 46 = .ok (.iload_n 1, 1) := by decide +kernel
theorem dX8_reset_47 : decode cX8_reset 47 = .ok (.iload_n 2, 1) := by decide +kernel
theorem dX8_reset_48 : decode cX8_reset 48 = .ok (.lload_n 3, 1) := by decide +kernel
theorem dX8_reset_49 : decode cX8_reset 49 = .ok (.invokevirtual 277, 3) := by decide +kernel
theorem dX8_reset_52 : decode cX8_reset 52 = .ok (.iconst 1, 1) := by decide +kernel
theorem dX8_reset_53 : decode cX8_reset 53 = .ok (.ireturn, 1) := by decide +kernel
theorem dX8_isOpenSending_0 : decode cX8_isOpenSending 0 = .ok (.aload_n 0, 1) := by decide +kernel
theorem dX8_isOpenSending_1 : decode cX8_isOpenSending 1 = .ok (.iload_n 1, 1) := by decide +kernel
theorem dX8_isOpenSending_2 : decode cX8_isOpenSending 2 = .ok (.iload_n 2, 1) := by decide +kernel
theorem dX8_isOpenSending_3 : decode cX8_isOpenSending 3 = .ok (.invokevirtual 218, 3) := by decide +kernel
theorem dX8_isOpenSending_6 : decode cX8_isOpenSending 6 = .ok (.ifCond .eq 17, 3) := by decide +kernel
theorem dX8_isOpenSending_9 : decode cX8_isOpenSending 9 = .ok (.aload_n 0, 1) := by decide +kernel
theorem dX8_isOpenSending_10 : decode cX8_isOpenSending 10 = .ok (.iload_n 1, 1) := by decide +kernel
theorem dX8_isOpenSending_11 : decode cX8_isOpenSending 11 = .ok (.iload_n 2, 1) := by decide +kernel
theorem dX8_isOpenSending_12 : decode cX8_isOpenSending 12 = .ok (.invokevirtual 221, 3) := by decide +kernel
theorem dX8_isOpenSending_15 : decode cX8_isOpenSending 15 = .ok (.iconst 2, 1) := by decide +kernel
theorem dX8_isOpenSending_16 : decode cX8_isOpenSending 16 = .ok (.if_icmp .ge 7, 3) := by decide +kernel
theorem dX8_isOpenSending_19 : decode cX8_isOpenSending 19 = .ok (.iconst 1, 1) := by decide +kernel
theorem dX8_isOpenSending_20 : decode cX8_isOpenSending 20 = .ok (.goto 4, 3) := by decide +kernel
theorem dX8_isOpenSending_23 : decode cX8_isOpenSending 23 = .ok (.iconst 0, 1) := by decide +kernel
theorem dX8_isOpenSending_24 : decode cX8_isOpenSending 24 = .ok (.ireturn, 1) := by decide +kernel
theorem dX8_doReset_0 : decode cX8_doReset 0 = .ok (.iload_n 1, 1) := by decide +kernel
theorem dX8_doReset_1 : decode cX8_doReset 1 = .ok (.iload_n 2, 1) := by decide +kernel
theorem dX8_doReset_2 : decode cX8_doReset 2 = .ok (.invokestatic 189, 3) := by decide +kernel
theorem dX8_doReset_5 : decode cX8_doReset 5 = .ok (.istore 5, 2) := by decide +kernel
theorem dX8_doReset_7 : decode cX8_doReset 7 = .ok (.aload_n 0, 1) := by decide +kernel
theorem dX8_doReset_8 : decode cX8_doReset 8 = .ok (.getfield 63, 3) := by decide +kernel
theorem dX8_doReset_11 : decode cX8_doReset 11 = .ok (.iload 5, 2) := by decide +kernel
theorem dX8_doReset_13 : decode cX8_doReset 13 = .ok (.iconst 1, 1) := by decide +kernel
theorem dX8_doReset_14 : decode cX8_doReset 14 = .ok (.iastore, 1) := by decide +kernel
theorem dX8_doReset_15 : decode cX8_doReset 15 = .ok (.aload_n 0, 1) := by decide +kernel
theorem dX8_doReset_16 : decode cX8_doReset 16 = .ok (.getfield 69, 3) := by decide +kernel
theorem dX8_doReset_19 : decode cX8_doReset 19 = .ok (.iload 5, 2) := by decide +kernel
theorem dX8_doReset_21 : decode cX8_doReset 21 = .ok (.lload_n 3, 1) := by decide +kernel
theorem dX8_doReset_22 : decode cX8_doReset 22 = .ok (.lastore, 1) := by decide +kernel
theorem dX8_doReset_23 : decode cX8_doReset 23 = .ok (.aload_n 0, 1) := by decide +kernel
theorem dX8_doReset_24 : decode cX8_doReset 24 = .ok (.getfield 66, 3) := by decide +kernel
theorem dX8_doReset_27 : decode cX8_doReset 27 = .ok (.iload 5, 2) := by decide +kernel
theorem dX8_doReset_29 : decode cX8_doReset 29 = .ok (.iconst 1, 1) := by decide +kernel
theorem dX8_doReset_30 : decode cX8_doReset 30 = .ok (.bastore, 1) := by decide +kernel
theorem dX8_doReset_31 : decode cX8_doReset 31 = .ok (.return_, 1) := by decide +kernel
theorem dX8_stop_0 : decode cX8_stop 0 = .ok (.aload_n 0, 1) := by decide +kernel
theorem dX8_stop_1 : decode cX8_stop 1 = .ok (.iload_n 1, 1) := by decide +kernel
theorem dX8_stop_2 : decode cX8_stop 2 = .ok (.invokestatic 236, 3) := by decide +kernel
theorem dX8_stop_5 : decode cX8_stop 5 = .ok (.ifCond .ne 17, 3) := by decide +kernel
theorem dX8_stop_8 : decode cX8_stop 8 = .ok (.lload_n 3, 1) := by decide +kernel
theorem dX8_stop_9 : decode cX8_stop 9 = .ok (.lconst 0, 1) := by decide +kernel
theorem dX8_stop_10 : decode cX8_stop 10 = .ok (.lcmp, 1) := by decide +kernel
theorem dX8_stop_11 : decode cX8_stop 11 = .ok (.ifCond .lt 11, 3) := by decide +kernel
theorem dX8_stop_14 : decode cX8_stop 14 = .ok (.lload_n 3, 1) := by decide +kernel
theorem dX8_stop_15 : decode cX8_stop 15 = .ok (.ldc2_w 272, 3) := by decide +kernel
theorem dX8_stop_18 : decode cX8_stop 18 = .ok (.lcmp, 1) := by decide +kernel
theorem dX8_stop_19 : decode cX8_stop 19 = .ok (.ifCond .le 7, 3) := by decide +kernel
theorem dX8_stop_22 : decode cX8_stop 22 = .ok (.iconst 1, 1) := by decide +kernel
theorem dX8_stop_23 : decode cX8_stop 23 = .ok (.goto 4, 3) := by decide +kernel
theorem dX8_stop_26 : decode cX8_stop 26 = .ok (.iconst 0, 1) := by decide +kernel
theorem dX8_stop_27 : decode cX8_stop 27 = .ok (.iconst 1, 1) := by decide +kernel
theorem dX8_stop_28 : decode cX8_stop 28 = .ok (.invokevirtual 240, 3) := by decide +kernel
theorem dX8_stop_31 : decode cX8_stop 31 = .ok (.ifCond .ne 35, 3) := by decide +kernel
theorem dX8_stop_34 : decode cX8_stop 34 = .ok (.aload_n 0, 1) := by decide +kernel
theorem dX8_stop_35 : decode cX8_stop 35 = .ok (.iload_n 1, 1) := by decide +kernel
theorem dX8_stop_36 : decode cX8_stop 36 = .ok (.iload_n 2, 1) := by decide +kernel
theorem dX8_stop_37 : decode cX8_stop 37 = .ok (.invokevirtual 281, 3) := by decide +kernel
theorem dX8_stop_40 : decode cX8_stop 40 = .ok (.ifCond .eq 26, 3) := by decide +kernel
theorem dX8_stop_43 : decode cX8_stop 43 = .ok (.aload_n 0, 1) := by decide +kernel
theorem dX8_stop_44 : decode cX8_stop 44 = .ok (.iload_n 1, 1) := by decide +kernel
theorem dX8_stop_45 : decode cX8_stop 45 = .ok (.iload_n 2, 1) := by decide +kernel
theorem dX8_stop_46 : decode cX8_stop 46 = .ok (.invokevirtual 260, 3) := by decide +kernel
theorem dX8_stop_49 : decode cX8_stop 49 = .ok (.iconst 1, 1) := by decide +kernel
theorem dX8_stop_50 : decode cX8_stop 50 = .ok (.if_icmp .gt 16, 3) := by decide +kernel
theorem dX8_stop_53 : decode cX8_stop 53 = .ok (.aload_n 0, 1) := by decide +kernel
theorem dX8_stop_54 : decode cX8_stop 54 = .ok (.getfield 96, 3) := by decide +kernel
theorem dX8_stop_57 : decode cX8_stop 57 = .ok (.iload_n 1, 1) := by decide +kernel
theorem dX8_stop_58 : decode cX8_stop 58 = .ok (.iload_n 2, 1) := by decide +kernel
theorem dX8_stop_59 : decode cX8_stop 59 = .ok (.invokestatic 189, 3) := by decide +kernel
theorem dX8_stop_62 : decode cX8_stop 62 = .ok (.baload, 1) := by decide +kernel
theorem dX8_stop_63 : decode cX8_stop 63 = .ok (.ifCond .eq 5, 3) := by decide +kernel
theorem dX8_stop_66 : decode cX8_stop 66 = .ok (.iconst 0, 1) := by decide +kernel
theorem dX8_stop_67 : decode cX8_stop 67 = .ok (.ireturn, 1) := by decide +kernel
theorem dX8_stop_68 : decode cX8_stop 68 = .ok (.aload_n 0, 1) := by decide +kernel
theorem dX8_stop_69 : decode cX8_stop 69 = .ok (.getfield 96, 3) := by decide +kernel
theorem dX8_stop_72 : decode cX8_stop 72 = .ok (.iload_n 1, 1) := by decide +kernel
theorem dX8_stop_73 : decode cX8_stop 73 = .ok (.iload_n 2, 1) := by decide +kernel
theorem dX8_stop_74 : decode cX8_stop 74 = .ok (.invokestatic 189, 3) := by decide +kernel
theorem dX8_stop_77 : decode cX8_stop 77 = .ok (.iconst 1, 1) := by decide +kernel
theorem dX8_stop_78 : decode cX8_stop 78 = .ok (.bastore, 1) := by decide +kernel
theorem dX8_stop_79 : decode cX8_stop 79 = .ok (.aload_n 0, 1) := by decide +kernel
theorem dX8_stop_80 : decode cX8_stop 80 = .ok (.getfield 99, 3) := by decide +kernel
theorem dX8_stop_83 : decode cX8_stop 83 = .ok (.iload_n 1, 1) := by decide +kernel
theorem dX8_stop_84 : decode cX8_stop 84 = .ok (.iload_n 2, 1) := by decide +kernel
theorem dX8_stop_85 : decode cX8_stop 85 = .ok (.invokestatic 189, 3) := by decide +kernel
theorem dX8_stop_88 : decode cX8_stop 88 = .ok (.iconst 1, 1) := by decide +kernel
theorem dX8_stop_89 : decode cX8_stop 89 = .ok (.bastore, 1) := by decide +kernel
theorem dX8_stop_90 : decode cX8_stop 90 = .ok (.aload_n 0, 1) := by decide +kernel
theorem dX8_stop_91 : decode cX8_stop 91 = .ok (.getfield 102, 3) := by decide +kernel
theorem dX8_stop_94 : decode cX8_stop 94 = .ok (.iload_n 1, 1) := by decide +kernel
theorem dX8_stop_95 : decode cX8_stop 95 = .ok (.iload_n 2, 1) := by decide +kernel
theorem dX8_stop_96 : decode cX8_stop 96 = .ok (.invokestatic 189, 3) := by decide +kernel
theorem dX8_stop_99 : decode cX8_stop 99 = .ok (.lload_n 3, 1) := by decide +kernel
theorem dX8_stop_100 : decode cX8_stop 100 = .ok (.lastore, 1) := by decide +kernel
theorem dX8_stop_101 : decode cX8_stop 101 = .ok (.iconst 1, 1) := by decide +kernel
theorem dX8_stop_102 : decode cX8_stop 102 = .ok (.ireturn, 1) := by decide +kernel
theorem dX8_hasReceiving_0 : decode cX8_hasReceiving 0 = .ok (.aload_n 0, 1) := by decide +kernel
theorem dX8_hasReceiving_1 : decode cX8_hasReceiving 1 = .ok (.iload_n 1, 1) := by decide +kernel
theorem dX8_hasReceiving_2 : decode cX8_hasReceiving 2 = .ok (.iload_n 2, 1) := by decide +kernel
theorem dX8_hasReceiving_3 : decode cX8_hasReceiving 3 = .ok (.invokevirtual 193, 3) := by decide +kernel
theorem dX8_hasReceiving_6 : decode cX8_hasReceiving 6 = .ok (.ifCond .eq 16, 3) := by decide +kernel
theorem dX8_hasReceiving_9 : decode cX8_hasReceiving 9 = .ok (.iload_n 1, 1) := by decide +kernel
theorem dX8_hasReceiving_10 : decode cX8_hasReceiving 10 = .ok (.iload_n 2, 1) := by decide +kernel
theorem dX8_hasReceiving_11 : decode cX8_hasReceiving 11 = .ok (.i2l, 1) := by decide +kernel
theorem dX8_hasReceiving_12 : decode cX8_hasReceiving 12 = .ok (.invokestatic 200, 3) := by decide +kernel
theorem dX8_hasReceiving_15 : decode cX8_hasReceiving 15 = .ok (.ifCond .eq 7, 3) := by decide +kernel
theorem dX8_hasReceiving_18 : decode cX8_hasReceiving 18 = .ok (.iconst 1, 1) := by decide +kernel
theorem dX8_hasReceiving_19 : decode cX8_hasReceiving 19 = .ok (.goto 4, 3) := by decide +kernel
theorem dX8_hasReceiving_22 : decode cX8_hasReceiving 22 = .ok (.iconst 0, 1) := by decide +kernel
theorem dX8_hasReceiving_23 : decode cX8_hasReceiving 23 = .ok (.ireturn, 1) := by decide +kernel
theorem dX8_receives_0 : decode cX8_receives 0 = .ok (.lload_n 1, 1) := by decide +kernel
theorem dX8_receives_1 : decode cX8_receives 1 = .ok (.invokestatic 181, 3) := by decide +kernel
theorem dX8_receives_4 : decode cX8_receives 4 = .ok (.ifCond .eq 11, 3) := by decide +kernel
theorem dX8_receives_7 : decode cX8_receives 7 = .ok (.iload_n 0, 1) := by decide +kernel
theorem dX8_receives_8 : decode cX8_receives 8 = .ok (.lload_n 1, 1) := by decide +kernel
theorem dX8_receives_9 : decode cX8_receives 9 = .ok (.invokestatic 185, 3) := by decide +kernel
theorem dX8_receives_12 : decode cX8_receives 12 = .ok (.ifCond .ne 7, 3) := by decide +kernel
theorem dX8_receives_15 : decode cX8_receives 15 = .ok (.iconst 1, 1) := by decide +kernel
theorem dX8_receives_16 : decode cX8_receives 16 = .ok (.goto 4, 3) := by decide +kernel
theorem dX8_receives_19 : decode cX8_receives 19 = .ok (.iconst 0, 1) := by decide +kernel
theorem dX8_receives_20 : decode cX8_receives 20 = .ok (.ireturn, 1) := by decide +kernel
theorem dX8_receiving_0 : decode cX8_receiving 0 = .ok (.iload_n 1, 1) := by decide +kernel
theorem dX8_receiving_1 : decode cX8_receiving 1 = .ok (.iload_n 2, 1) := by decide +kernel
theorem dX8_receiving_2 : decode cX8_receiving 2 = .ok (.invokestatic 189, 3) := by decide +kernel
theorem dX8_receiving_5 : decode cX8_receiving 5 = .ok (.istore_n 3, 1) := by decide +kernel
theorem dX8_receiving_6 : decode cX8_receiving 6 = .ok (.aload_n 0, 1) := by decide +kernel
theorem dX8_receiving_7 : decode cX8_receiving 7 = .ok (.getfield 84, 3) := by decide +kernel
theorem dX8_receiving_10 : decode cX8_receiving 10 = .ok (.iload_n 3, 1) := by decide +kernel
theorem dX8_receiving_11 : decode cX8_receiving 11 = .ok (.baload, 1) := by decide +kernel
theorem dX8_receiving_12 : decode cX8_receiving 12 = .ok (.ifCond .eq 5, 3) := by decide +kernel
theorem dX8_receiving_15 : decode cX8_receiving 15 = .ok (.iconst 4, 1) := by decide +kernel
theorem dX8_receiving_16 : decode cX8_receiving 16 = .ok (.ireturn, 1) := by decide +kernel
theorem dX8_receiving_17 : decode cX8_receiving 17 = .ok (.aload_n 0, 1) := by decide +kernel
theorem dX8_receiving_18 : decode cX8_receiving 18 = .ok (.getfield 78, 3) := by decide +kernel
theorem dX8_receiving_21 : decode cX8_receiving 21 = .ok (.iload_n 3, 1) := by decide +kernel
theorem dX8_receiving_22 : decode cX8_receiving 22 = .ok (.laload, 1) := by decide +kernel
theorem dX8_receiving_23 : decode cX8_receiving 23 = .ok (.lconst 0, 1) := by decide +kernel
theorem dX8_receiving_24 : decode cX8_receiving 24 = .ok (.lcmp, 1) := by decide +kernel
theorem dX8_receiving_25 : decode cX8_receiving 25 = .ok (.ifCond .ge 5, 3) := by decide +kernel
theorem dX8_receiving_28 : decode cX8_receiving 28 = .ok (.iconst 0, 1) := by decide +kernel
theorem dX8_receiving_29 : decode cX8_receiving 29 = .ok (.ireturn, 1) := by decide +kernel
theorem dX8_receiving_30 : decode cX8_receiving 30 = .ok (.aload_n 0, 1) := by decide +kernel
theorem dX8_receiving_31 : decode cX8_receiving 31 = .ok (.getfield 81, 3) := by decide +kernel
theorem dX8_receiving_34 : decode cX8_receiving 34 = .ok (.iload_n 3, 1) := by decide +kernel
theorem dX8_receiving_35 : decode cX8_receiving 35 = .ok (.laload, 1) := by decide +kernel
theorem dX8_receiving_36 : decode cX8_receiving 36 = .ok (.aload_n 0, 1) := by decide +kernel
theorem dX8_receiving_37 : decode cX8_receiving 37 = .ok (.getfield 78, 3) := by decide +kernel
theorem dX8_receiving_40 : decode cX8_receiving 40 = .ok (.iload_n 3, 1) := by decide +kernel
theorem dX8_receiving_41 : decode cX8_receiving 41 = .ok (.laload, 1) := by decide +kernel
theorem dX8_receiving_42 : decode cX8_receiving 42 = .ok (.lcmp, 1) := by decide +kernel
theorem dX8_receiving_43 : decode cX8_receiving 43 = .ok (.ifCond .ne 5, 3) := by decide +kernel
theorem dX8_receiving_46 : decode cX8_receiving 46 = .ok (.iconst 3, 1) := by decide +kernel
theorem dX8_receiving_47 : decode cX8_receiving 47 = .ok (.ireturn, 1) := by decide +kernel
theorem dX8_receiving_48 : decode cX8_receiving 48 = .ok (.aload_n 0, 1) := by decide +kernel
theorem dX8_receiving_49 : decode cX8_receiving 49 = .ok (.iload_n 1, 1) := by decide +kernel
theorem dX8_receiving_50 : decode cX8_receiving 50 = .ok (.iload_n 2, 1) := by decide +kernel
theorem dX8_receiving_51 : decode cX8_receiving 51 = .ok (.invokevirtual 233, 3) := by decide +kernel
theorem dX8_receiving_54 : decode cX8_receiving 54 = .ok (.aload_n 0, 1) := by decide +kernel
theorem dX8_receiving_55 : decode cX8_receiving 55 = .ok (.getfield 78, 3) := by decide +kernel
theorem dX8_receiving_58 : decode cX8_receiving 58 = .ok (.iload_n 3, 1) := by decide +kernel
theorem dX8_receiving_59 : decode cX8_receiving 59 = .ok (.laload, 1) := by decide +kernel
theorem dX8_receiving_60 : decode cX8_receiving 60 = .ok (.lcmp, 1) := by decide +kernel
theorem dX8_receiving_61 : decode cX8_receiving 61 = .ok (.ifCond .ne 7, 3) := by decide +kernel
theorem dX8_receiving_64 : decode cX8_receiving 64 = .ok (.iconst 2, 1) := by decide +kernel
theorem dX8_receiving_65 : decode cX8_receiving 65 = .ok (.goto 4, 3) := by decide +kernel
theorem dX8_receiving_68 : decode cX8_receiving 68 = .ok (.iconst 1, 1) := by decide +kernel
theorem dX8_receiving_69 : decode cX8_receiving 69 = .ok (.ireturn, 1) := by decide +kernel
theorem dX8_readyOf_0 : decode cX8_readyOf 0 = .ok (.aload_n 0, 1) := by decide +kernel
theorem dX8_readyOf_1 : decode cX8_readyOf 1 = .ok (.getfield 81, 3) := by decide +kernel
theorem dX8_readyOf_4 : decode cX8_readyOf 4 = .ok (.iload_n 1, 1) := by decide +kernel
theorem dX8_readyOf_5 : decode cX8_readyOf 5 = .ok (.iload_n 2, 1) := by decide +kernel
theorem dX8_readyOf_6 : decode cX8_readyOf 6 = .ok (.invokestatic 189, 3) := by decide +kernel
theorem dX8_readyOf_9 : decode cX8_readyOf 9 = .ok (.laload, 1) := by decide +kernel
theorem dX8_readyOf_10 : decode cX8_readyOf 10 = .ok (.lstore_n 3, 1) := by decide +kernel
theorem dX8_readyOf_11 : decode cX8_readyOf 11 = .ok (.aload_n 0, 1) := by decide +kernel
theorem dX8_readyOf_12 : decode cX8_readyOf 12 = .ok (.iload_n 1, 1) := by decide +kernel
theorem dX8_readyOf_13 : decode cX8_readyOf 13 = .ok (.iload_n 2, 1) := by decide +kernel
theorem dX8_readyOf_14 : decode cX8_readyOf 14 = .ok (.lload_n 3, 1) := by decide +kernel
theorem dX8_readyOf_15 : decode cX8_readyOf 15 = .ok (.invokevirtual 229, 3) := by decide +kernel
theorem dX8_readyOf_18 : decode cX8_readyOf 18 = .ok (.ifCond .eq 10, 3) := by decide +kernel
theorem dX8_readyOf_21 : decode cX8_readyOf 21 = .ok (.lload_n 3, 1) := by decide +kernel
theorem dX8_readyOf_22 : decode cX8_readyOf 22 = .ok (.lconst 1, 1) := by decide +kernel
theorem dX8_readyOf_23 : decode cX8_readyOf 23 = .ok (.ladd, 1) := by decide +kernel
theorem dX8_readyOf_24 : decode cX8_readyOf 24 = .ok (.lstore_n 3, 1) := by decide +kernel
theorem dX8_readyOf_25 : decode cX8_readyOf 25 = .ok (.goto (-14), 3) := by decide +kernel
theorem dX8_readyOf_28 : decode cX8_readyOf 28 = .ok (.lload_n 3, 1) := by decide +kernel
theorem dX8_readyOf_29 : decode cX8_readyOf 29 = .ok (.lreturn, 1) := by decide +kernel
theorem dX8_isHere_0 : decode cX8_isHere 0 = .ok (.aload_n 0, 1) := by decide +kernel
theorem dX8_isHere_1 : decode cX8_isHere 1 = .ok (.iload_n 1, 1) := by decide +kernel
theorem dX8_isHere_2 : decode cX8_isHere 2 = .ok (.iload_n 2, 1) := by decide +kernel
theorem dX8_isHere_3 : decode cX8_isHere 3 = .ok (.lload_n 3, 1) := by decide +kernel
theorem dX8_isHere_4 : decode cX8_isHere 4 = .ok (.ldc2_w 224, 3) := by decide +kernel
theorem dX8_isHere_7 : decode cX8_isHere 7 = .ok (.ldiv, 1) := by decide +kernel
theorem dX8_isHere_8 : decode cX8_isHere 8 = .ok (.l2i, 1) := by decide +kernel
theorem dX8_isHere_9 : decode cX8_isHere 9 = .ok (.invokevirtual 226, 3) := by decide +kernel
theorem dX8_isHere_12 : decode cX8_isHere 12 = .ok (.istore 5, 2) := by decide +kernel
theorem dX8_isHere_14 : decode cX8_isHere 14 = .ok (.iload 5, 2) := by decide +kernel
theorem dX8_isHere_16 : decode cX8_isHere 16 = .ok (.ifCond .lt 27, 3) := by decide +kernel
theorem dX8_isHere_19 : decode cX8_isHere 19 = .ok (.aload_n 0, 1) := by decide +kernel
theorem dX8_isHere_20 : decode cX8_isHere 20 = .ok (.getfield 136, 3) := by decide +kernel
theorem dX8_isHere_23 : decode cX8_isHere 23 = .ok (.bipush 64, 2) := by decide +kernel
theorem dX8_isHere_25 : decode cX8_isHere 25 = .ok (.iload 5, 2) := by decide +kernel
theorem dX8_isHere_27 : decode cX8_isHere 27 = .ok (.imul, 1) := by decide +kernel
theorem dX8_isHere_28 : decode cX8_isHere 28 = .ok (.lload_n 3, 1) := by decide +kernel
theorem dX8_isHere_29 : decode cX8_isHere 29 = .ok (.ldc2_w 224, 3) := by decide +kernel
theorem dX8_isHere_32 : decode cX8_isHere 32 = .ok (.lrem, 1) := by decide +kernel
theorem dX8_isHere_33 : decode cX8_isHere 33 = .ok (.l2i, 1) := by decide +kernel
theorem dX8_isHere_34 : decode cX8_isHere 34 = .ok (.iadd, 1) := by decide +kernel
theorem dX8_isHere_35 : decode cX8_isHere 35 = .ok (.baload, 1) := by decide +kernel
theorem dX8_isHere_36 : decode cX8_isHere 36 = .ok (.ifCond .eq 7, 3) := by decide +kernel
theorem dX8_isHere_39 : decode cX8_isHere 39 = .ok (.iconst 1, 1) := by decide +kernel
theorem dX8_isHere_40 : decode cX8_isHere 40 = .ok (.goto 4, 3) := by decide +kernel
theorem dX8_isHere_43 : decode cX8_isHere 43 = .ok (.iconst 0, 1) := by decide +kernel
theorem dX8_isHere_44 : decode cX8_isHere 44 = .ok (.ireturn, 1) := by decide +kernel
theorem dX8_pieceAt_0 : decode cX8_pieceAt 0 = .ok (.sipush 1408, 3) := by decide +kernel
theorem dX8_pieceAt_3 : decode cX8_pieceAt 3 = .ok (.iload_n 1, 1) := by decide +kernel
theorem dX8_pieceAt_4 : decode cX8_pieceAt 4 = .ok (.imul, 1) := by decide +kernel
theorem dX8_pieceAt_5 : decode cX8_pieceAt 5 = .ok (.istore 4, 2) := by decide +kernel
theorem dX8_pieceAt_7 : decode cX8_pieceAt 7 = .ok (.iload 4, 2) := by decide +kernel
theorem dX8_pieceAt_9 : decode cX8_pieceAt 9 = .ok (.sipush 1408, 3) := by decide +kernel
theorem dX8_pieceAt_12 : decode cX8_pieceAt 12 = .ok (.iload_n 1, 1) := by decide +kernel
theorem dX8_pieceAt_13 : decode cX8_pieceAt 13 = .ok (.imul, 1) := by decide +kernel
theorem dX8_pieceAt_14 : decode cX8_pieceAt 14 = .ok (.aload_n 0, 1) := by decide +kernel
theorem dX8_pieceAt_15 : decode cX8_pieceAt 15 = .ok (.getfield 123, 3) := by decide +kernel
theorem dX8_pieceAt_18 : decode cX8_pieceAt 18 = .ok (.iload_n 1, 1) := by decide +kernel
theorem dX8_pieceAt_19 : decode cX8_pieceAt 19 = .ok (.iaload, 1) := by decide +kernel
theorem dX8_pieceAt_20 : decode cX8_pieceAt 20 = .ok (.iadd, 1) := by decide +kernel
theorem dX8_pieceAt_21 : decode cX8_pieceAt 21 = .ok (.if_icmp .ge 34, 3) := by decide +kernel
theorem dX8_pieceAt_24 : decode cX8_pieceAt 24 = .ok (.aload_n 0, 1) := by decide +kernel
theorem dX8_pieceAt_25 : decode cX8_pieceAt 25 = .ok (.getfield 126, 3) := by decide +kernel
theorem dX8_pieceAt_28 : decode cX8_pieceAt 28 = .ok (.iload 4, 2) := by decide +kernel
theorem dX8_pieceAt_30 : decode cX8_pieceAt 30 = .ok (.iaload, 1) := by decide +kernel
theorem dX8_pieceAt_31 : decode cX8_pieceAt 31 = .ok (.iload_n 2, 1) := by decide +kernel
theorem dX8_pieceAt_32 : decode cX8_pieceAt 32 = .ok (.if_icmp .ne 17, 3) := by decide +kernel
theorem dX8_pieceAt_35 : decode cX8_pieceAt 35 = .ok (.aload_n 0, 1) := by decide +kernel
theorem dX8_pieceAt_36 : decode cX8_pieceAt 36 = .ok (.getfield 129, 3) := by decide +kernel
theorem dX8_pieceAt_39 : decode cX8_pieceAt 39 = .ok (.iload 4, 2) := by decide +kernel
theorem dX8_pieceAt_41 : decode cX8_pieceAt 41 = .ok (.iaload, 1) := by decide +kernel
theorem dX8_pieceAt_42 : decode cX8_pieceAt 42 = .ok (.iload_n 3, 1) := by decide +kernel
theorem dX8_pieceAt_43 : decode cX8_pieceAt 43 = .ok (.if_icmp .ne 6, 3) := by decide +kernel
theorem dX8_pieceAt_46 : decode cX8_pieceAt 46 = .ok (.iload 4, 2) := by decide +kernel
theorem dX8_pieceAt_48 : decode cX8_pieceAt 48 = .ok (.ireturn, 1) := by decide +kernel
theorem dX8_pieceAt_49 : decode cX8_pieceAt 49 = .ok (.iinc 4 1, 3) := by decide +kernel
theorem dX8_pieceAt_52 : decode cX8_pieceAt 52 = .ok (.goto (-45), 3) := by decide +kernel
theorem dX8_pieceAt_55 : decode cX8_pieceAt 55 = .ok (.iconst (-1), 1) := by decide +kernel
theorem dX8_pieceAt_56 : decode cX8_pieceAt 56 = .ok (.ireturn, 1) := by decide +kernel
theorem dX8_read_0 : decode cX8_read 0 = .ok (.aload_n 0, 1) := by decide +kernel
theorem dX8_read_1 : decode cX8_read 1 = .ok (.iload_n 1, 1) := by decide +kernel
theorem dX8_read_2 : decode cX8_read 2 = .ok (.invokestatic 236, 3) := by decide +kernel
theorem dX8_read_5 : decode cX8_read 5 = .ok (.ifCond .ne 14, 3) := by decide +kernel
theorem dX8_read_8 : decode cX8_read 8 = .ok (.iload_n 3, 1) := by decide +kernel
theorem dX8_read_9 : decode cX8_read 9 = .ok (.ifCond .lt 10, 3) := by decide +kernel
theorem dX8_read_12 : decode cX8_read 12 = .ok (.iload_n 3, 1) := by decide +kernel
theorem dX8_read_13 : decode cX8_read 13 = .ok (.sipush 2048, 3) := by decide +kernel
theorem dX8_read_16 : decode cX8_read 16 = .ok (.if_icmp .le 7, 3) := by decide +kernel
theorem dX8_read_19 : decode cX8_read 19 = .ok (.iconst 1, 1) := by decide +kernel
theorem dX8_read_20 : decode cX8_read 20 = .ok (.goto 4, 3) := by decide +kernel
theorem dX8_read_23 : decode cX8_read 23 = .ok (.iconst 0, 1) := by decide +kernel
theorem dX8_read_24 : decode cX8_read 24 = .ok (.iconst 1, 1) := by decide +kernel
theorem dX8_read_25 : decode cX8_read 25 = .ok (.invokevirtual 240, 3) := by decide +kernel
theorem dX8_read_28 : decode cX8_read 28 = .ok (.ifCond .eq 5, 3) := by decide +kernel
theorem dX8_read_31 : decode cX8_read 31 = .ok (.iconst 0, 1) := by decide +kernel
theorem dX8_read_32 : decode cX8_read 32 = .ok (.ireturn, 1) := by decide +kernel
theorem dX8_read_33 : decode cX8_read 33 = .ok (.aload_n 0, 1) := by decide +kernel
theorem dX8_read_34 : decode cX8_read 34 = .ok (.iconst 0, 1) := by decide +kernel
theorem dX8_read_35 : decode cX8_read 35 = .ok (.putfield 284, 3) := by decide +kernel
theorem dX8_read_38 : decode cX8_read 38 = .ok (.aload_n 0, 1) := by decide +kernel
theorem dX8_read_39 : decode cX8_read 39 = .ok (.iload_n 1, 1) := by decide +kernel
theorem dX8_read_40 : decode cX8_read 40 = .ok (.iload_n 2, 1) := by decide +kernel
theorem dX8_read_41 : decode cX8_read 41 = .ok (.invokevirtual 281, 3) := by decide +kernel
theorem dX8_read_44 : decode cX8_read 44 = .ok (.ifCond .ne 5, 3) := by decide +kernel
theorem dX8_read_47 : decode cX8_read 47 = .ok (.iconst (-1), 1) := by decide +kernel
theorem dX8_read_48 : decode cX8_read 48 = .ok (.ireturn, 1) := by decide +kernel
theorem dX8_read_49 : decode cX8_read 49 = .ok (.iload_n 1, 1) := by decide +kernel
theorem dX8_read_50 : decode cX8_read 50 = .ok (.iload_n 2, 1) := by decide +kernel
theorem dX8_read_51 : decode cX8_read 51 = .ok (.invokestatic 189, 3) := by decide +kernel
theorem dX8_read_54 : decode cX8_read 54 = .ok (.istore 4, 2) := by decide +kernel
theorem dX8_read_56 : decode cX8_read 56 = .ok (.aload_n 0, 1) := by decide +kernel
theorem dX8_read_57 : decode cX8_read 57 = .ok (.getfield 84, 3) := by decide +kernel
theorem dX8_read_60 : decode cX8_read 60 = .ok (.iload 4, 2) := by decide +kernel
theorem dX8_read_62 : decode cX8_read 62 = .ok (.baload, 1) := by decide +kernel
theorem dX8_read_63 : decode cX8_read 63 = .ok (.ifCond .eq 6, 3) := by decide +kernel
theorem dX8_read_66 : decode cX8_read 66 = .ok (.bipush (-2), 2) := by decide +kernel
theorem dX8_read_68 : decode cX8_read 68 = .ok (.ireturn, 1) := by decide +kernel
theorem dX8_read_69 : decode cX8_read 69 = .ok (.aload_n 0, 1) := by decide +kernel
theorem dX8_read_70 : decode cX8_read 70 = .ok (.iload_n 1, 1) := by decide +kernel
theorem dX8_read_71 : decode cX8_read 71 = .ok (.iload_n 2, 1) := by decide +kernel
theorem dX8_read_72 : decode cX8_read 72 = .ok (.invokevirtual 233, 3) := by decide +kernel
theorem dX8_read_75 : decode cX8_read 75 = .ok (.lstore 5, 2) := by decide +kernel
theorem dX8_read_77 : decode cX8_read 77 = .ok (.aload_n 0, 1) := by decide +kernel
theorem dX8_read_78 : decode cX8_read 78 = .ok (.getfield 284, 3) := by decide +kernel
theorem dX8_read_81 : decode cX8_read 81 = .ok (.iload_n 3, 1) := by decide +kernel
theorem dX8_read_82 : decode cX8_read 82 = .ok (.if_icmp .ge 66, 3) := by decide +kernel
theorem dX8_read_85 : decode cX8_read 85 = .ok (.aload_n 0, 1) := by decide +kernel
theorem dX8_read_86 : decode cX8_read 86 = .ok (.getfield 81, 3) := by decide +kernel
theorem dX8_read_89 : decode cX8_read 89 = .ok (.iload 4, 2) := by decide +kernel
theorem dX8_read_91 : decode cX8_read 91 = .ok (.laload, 1) := by decide +kernel
theorem dX8_read_92 : decode cX8_read 92 = .ok (.lload 5, 2) := by decide +kernel
theorem dX8_read_94 : decode cX8_read 94 = .ok (.lcmp, 1) := by decide +kernel
theorem dX8_read_95 : decode cX8_read 95 = .ok (.ifCond .ge 53, 3) := by decide +kernel
theorem dX8_read_98 : decode cX8_read 98 = .ok (.aload_n 0, 1) := by decide +kernel
theorem dX8_read_99 : decode cX8_read 99 = .ok (.getfield 13, 3) := by decide +kernel
theorem dX8_read_102 : decode cX8_read 102 = .ok (.aload_n 0, 1) := by decide +kernel
theorem dX8_read_103 : decode cX8_read 103 = .ok (.getfield 284, 3) := by decide +kernel
theorem dX8_read_106 : decode cX8_read 106 = .ok (.aload_n 0, 1) := by decide +kernel
theorem dX8_read_107 : decode cX8_read 107 = .ok (.iload_n 1, 1) := by decide +kernel
theorem dX8_read_108 : decode cX8_read 108 = .ok (.iload_n 2, 1) := by decide +kernel
theorem dX8_read_109 : decode cX8_read 109 = .ok (.aload_n 0, 1) := by decide +kernel
theorem dX8_read_110 : decode cX8_read 110 = .ok (.getfield 81, 3) := by decide +kernel
theorem dX8_read_113 : decode cX8_read 113 = .ok (.iload 4, 2) := by decide +kernel
theorem dX8_read_115 : decode cX8_read 115 = .ok (.laload, 1) := by decide +kernel
theorem dX8_read_116 : decode cX8_read 116 = .ok (.invokevirtual 287, 3) := by decide +kernel
theorem dX8_read_119 : decode cX8_read 119 = .ok (.sipush 255, 3) := by decide +kernel
theorem dX8_read_122 : decode cX8_read 122 = .ok (.iand, 1) := by decide +kernel
theorem dX8_read_123 : decode cX8_read 123 = .ok (.iastore, 1) := by decide +kernel
theorem dX8_read_124 : decode cX8_read 124 = .ok (.aload_n 0, 1) := by decide +kernel
theorem dX8_read_125 : decode cX8_read 125 = .ok (.dup, 1) := by decide +kernel
theorem dX8_read_126 : decode cX8_read 126 = .ok (.getfield 284, 3) := by decide +kernel
theorem dX8_read_129 : decode cX8_read 129 = .ok (.iconst 1, 1) := by decide +kernel
theorem dX8_read_130 : decode cX8_read 130 = .ok (.iadd, 1) := by decide +kernel
theorem dX8_read_131 : decode cX8_read 131 = .ok (.putfield 284, 3) := by decide +kernel
theorem dX8_read_134 : decode cX8_read 134 = .ok (.aload_n 0, 1) := by decide +kernel
theorem dX8_read_135 : decode cX8_read 135 = .ok (.getfield 81, 3) := by decide +kernel
theorem dX8_read_138 : decode cX8_read 138 = .ok (.iload 4, 2) := by decide +kernel
theorem dX8_read_140 : decode cX8_read 140 = .ok (.dup2, 1) := by decide +kernel
theorem dX8_read_141 : decode cX8_read 141 = .ok (.laload, 1) := by decide +kernel
theorem dX8_read_142 : decode cX8_read 142 = .ok (.lconst 1, 1) := by decide +kernel
theorem dX8_read_143 : decode cX8_read 143 = .ok (.ladd, 1) := by decide +kernel
theorem dX8_read_144 : decode cX8_read 144 = .ok (.lastore, 1) := by decide +kernel
theorem dX8_read_145 : decode cX8_read 145 = .ok (.goto (-68), 3) := by decide +kernel
theorem dX8_read_148 : decode cX8_read 148 = .ok (.aload_n 0, 1) := by decide +kernel
theorem dX8_read_149 : decode cX8_read 149 = .ok (.getfield 284, 3) := by decide +kernel
theorem dX8_read_152 : decode cX8_read 152 = .ok (.ifCond .le 23, 3) := by decide +kernel
theorem dX8_read_155 : decode cX8_read 155 = .ok (.aload_n 0, 1) := by decide +kernel
theorem dX8_read_156 : decode cX8_read 156 = .ok (.iload_n 1, 1) := by decide +kernel
theorem dX8_read_157 : decode cX8_read 157 = .ok (.invokevirtual 291, 3) := by decide +kernel
theorem dX8_read_160 : decode cX8_read 160 = .ok (.aload_n 0, 1) := by decide +kernel
theorem dX8_read_161 : decode cX8_read 161 = .ok (.iload_n 1, 1) := by decide +kernel
theorem dX8_read_162 : decode cX8_read 162 = .ok (.iload_n 2, 1) := by decide +kernel
theorem dX8_read_163 : decode cX8_read 163 = .ok (.invokevirtual 260, 3) := by decide +kernel
theorem dX8_read_166 : decode cX8_read 166 = .ok (.ifCond .ne 9, 3) := by decide +kernel
theorem dX8_read_169 : decode cX8_read 169 = .ok (.aload_n 0, 1) := by decide +kernel
theorem dX8_read_170 : decode cX8_read 170 = .ok (.iload_n 1, 1) := by decide +kernel
theorem dX8_read_171 : decode cX8_read 171 = .ok (.iload_n 2, 1) := by decide +kernel
theorem dX8_read_172 : decode cX8_read 172 = .ok (.invokevirtual 295, 3) := by decide +kernel
theorem dX8_read_175 : decode cX8_read 175 = .ok (.aload_n 0, 1) := by decide +kernel
theorem dX8_read_176 : decode cX8_read 176 = .ok (.iload_n 1, 1) := by decide +kernel
theorem dX8_read_177 : decode cX8_read 177 = .ok (.iload_n 2, 1) := by decide +kernel
theorem dX8_read_178 : decode cX8_read 178 = .ok (.invokevirtual 298, 3) := by decide +kernel
theorem dX8_read_181 : decode cX8_read 181 = .ok (.aload_n 0, 1) := by decide +kernel
theorem dX8_read_182 : decode cX8_read 182 = .ok (.getfield 284, 3) := by decide +kernel
theorem dX8_read_185 : decode cX8_read 185 = .ok (.ireturn, 1) := by decide +kernel
theorem dX8_byteAt_0 : decode cX8_byteAt 0 = .ok (.aload_n 0, 1) := by decide +kernel
theorem dX8_byteAt_1 : decode cX8_byteAt 1 = .ok (.getfield 133, 3) := by decide +kernel
theorem dX8_byteAt_4 : decode cX8_byteAt 4 = .ok (.bipush 64, 2) := by decide +kernel
theorem dX8_byteAt_6 : decode cX8_byteAt 6 = .ok (.aload_n 0, 1) := by decide +kernel
theorem dX8_byteAt_7 : decode cX8_byteAt 7 = .ok (.iload_n 1, 1) := by decide +kernel
theorem dX8_byteAt_8 : decode cX8_byteAt 8 = .ok (.iload_n 2, 1) := by decide +kernel
theorem dX8_byteAt_9 : decode cX8_byteAt 9 = .ok (.lload_n 3, 1) := by decide +kernel
theorem dX8_byteAt_10 : decode cX8_byteAt 10 = .ok (.ldc2_w 224, 3) := by decide +kernel
theorem dX8_byteAt_13 : decode cX8_byteAt 13 = .ok (.ldiv, 1) := by decide +kernel
theorem dX8_byteAt_14 : decode cX8_byteAt 14 = .ok (.l2i, 1) := by decide +kernel
theorem dX8_byteAt_15 : decode cX8_byteAt 15 = .ok (.invokevirtual 226, 3) := by decide +kernel
theorem dX8_byteAt_18 : decode cX8_byteAt 18 = .ok (.imul, 1) := by decide +kernel
theorem dX8_byteAt_19 : decode cX8_byteAt 19 = .ok (.lload_n 3, 1) := by decide +kernel
theorem dX8_byteAt_20 : decode cX8_byteAt 20 = .ok (.ldc2_w 224, 3) := by decide +kernel
theorem dX8_byteAt_23 : decode cX8_byteAt 23 = .ok (.lrem, 1) := by decide +kernel
theorem dX8_byteAt_24 : decode cX8_byteAt 24 = .ok (.l2i, 1) := by decide +kernel
theorem dX8_byteAt_25 : decode cX8_byteAt 25 = .ok (.iadd, 1) := by decide +kernel
theorem dX8_byteAt_26 : decode cX8_byteAt 26 = .ok (.baload, 1) := by decide +kernel
theorem dX8_byteAt_27 : decode cX8_byteAt 27 = .ok (.ireturn, 1) := by decide +kernel
theorem dX8_growData_0 : decode cX8_growData 0 = .ok (.aload_n 0, 1) := by decide +kernel
theorem dX8_growData_1 : decode cX8_growData 1 = .ok (.getfield 16, 3) := by decide +kernel
theorem dX8_growData_4 : decode cX8_growData 4 = .ok (.bipush 16, 2) := by decide +kernel
theorem dX8_growData_6 : decode cX8_growData 6 = .ok (.iload_n 1, 1) := by decide +kernel
theorem dX8_growData_7 : decode cX8_growData 7 = .ok (.imul, 1) := by decide +kernel
theorem dX8_growData_8 : decode cX8_growData 8 = .ok (.iconst 4, 1) := by decide +kernel
theorem dX8_growData_9 : decode cX8_growData 9 = .ok (.iadd, 1) := by decide +kernel
theorem dX8_growData_10 : decode cX8_growData 10 = .ok (.iaload, 1) := by decide +kernel
theorem dX8_growData_11 : decode cX8_growData 11 = .ok (.i2l, 1) := by decide +kernel
theorem dX8_growData_12 : decode cX8_growData 12 = .ok (.lstore_n 2, 1) := by decide +kernel
theorem dX8_growData_13 : decode cX8_growData 13 = .ok (.aload_n 0, 1) := by decide +kernel
theorem dX8_growData_14 : decode cX8_growData 14 = .ok (.iload_n 1, 1) := by decide +kernel
theorem dX8_growData_15 : decode cX8_growData 15 = .ok (.invokevirtual 250, 3) := by decide +kernel
theorem dX8_growData_18 : decode cX8_growData 18 = .ok (.lload_n 2, 1) := by decide +kernel
theorem dX8_growData_19 : decode cX8_growData 19 = .ok (.ladd, 1) := by decide +kernel
theorem dX8_growData_20 : decode cX8_growData 20 = .ok (.lstore 4, 2) := by decide +kernel
theorem dX8_growData_22 : decode cX8_growData 22 = .ok (.lload 4, 2) := by decide +kernel
theorem dX8_growData_24 : decode cX8_growData 24 = .ok (.aload_n 0, 1) := by decide +kernel
theorem dX8_growData_25 : decode cX8_growData 25 = .ok (.getfield 32, 3) := by decide +kernel
theorem dX8_growData_28 : decode cX8_growData 28 = .ok (.iload_n 1, 1) := by decide +kernel
theorem dX8_growData_29 : decode cX8_growData 29 = .ok (.laload, 1) := by decide +kernel
theorem dX8_growData_30 : decode cX8_growData 30 = .ok (.lload_n 2, 1) := by decide +kernel
theorem dX8_growData_31 : decode cX8_growData 31 = .ok (.invokestatic 254, 3) := by decide +kernel
theorem dX8_growData_34 : decode cX8_growData 34 = .ok (.ifCond .ne 4, 3) := by decide +kernel
theorem dX8_growData_37 : decode cX8_growData 37 = .ok (.return_, 1) := by decide +kernel
theorem dX8_growData_38 : decode cX8_growData 38 = .ok (.lload 4, 2) := by decide +kernel
theorem dX8_growData_40 : decode cX8_growData 40 = .ok (.ldc2_w 258, 3) := by decide +kernel
theorem dX8_growData_43 : decode cX8_growData 43 = .ok (.lcmp, 1) := by decide +kernel
theorem dX8_growData_44 : decode cX8_growData 44 = .ok (.ifCond .ge 8, 3) := by decide +kernel
theorem dX8_growData_47 : decode cX8_growData 47 = .ok (.lload 4, 2) := by decide +kernel
theorem dX8_growData_49 : decode cX8_growData 49 = .ok (.goto 6, 3) := by decide +kernel
theorem dX8_growData_52 : decode cX8_growData 52 = .ok (.ldc2_w 258, 3) := by decide +kernel
theorem dX8_growData_55 : decode cX8_growData 55 = .ok (.lstore 6, 2) := by decide +kernel
theorem dX8_growData_57 : decode cX8_growData 57 = .ok (.lload 6, 2) := by decide +kernel
theorem dX8_growData_59 : decode cX8_growData 59 = .ok (.aload_n 0, 1) := by decide +kernel
theorem dX8_growData_60 : decode cX8_growData 60 = .ok (.getfield 32, 3) := by decide +kernel
theorem dX8_growData_63 : decode cX8_growData 63 = .ok (.iload_n 1, 1) := by decide +kernel
theorem dX8_growData_64 : decode cX8_growData 64 = .ok (.laload, 1) := by decide +kernel
theorem dX8_growData_65 : decode cX8_growData 65 = .ok (.lcmp, 1) := by decide +kernel
theorem dX8_growData_66 : decode cX8_growData 66 = .ok (.ifCond .gt 4, 3) := by decide +kernel
theorem dX8_growData_69 : decode cX8_growData 69 = .ok (.return_, 1) := by decide +kernel
theorem dX8_growData_70 : decode cX8_growData 70 = .ok (.aload_n 0, 1) := by decide +kernel
theorem dX8_growData_71 : decode cX8_growData 71 = .ok (.getfield 32, 3) := by decide +kernel
theorem dX8_growData_74 : decode cX8_growData 74 = .ok (.iload_n 1, 1) := by decide +kernel
theorem dX8_growData_75 : decode cX8_growData 75 = .ok (.lload 6, 2) := by decide +kernel
theorem dX8_growData_77 : decode cX8_growData 77 = .ok (.lastore, 1) := by decide +kernel
theorem dX8_growData_78 : decode cX8_growData 78 = .ok (.aload_n 0, 1) := by decide +kernel
theorem dX8_growData_79 : decode cX8_growData 79 = .ok (.getfield 35, 3) := by decide +kernel
theorem dX8_growData_82 : decode cX8_growData 82 = .ok (.iload_n 1, 1) := by decide +kernel
theorem dX8_growData_83 : decode cX8_growData 83 = .ok (.iconst 1, 1) := by decide +kernel
theorem dX8_growData_84 : decode cX8_growData 84 = .ok (.bastore, 1) := by decide +kernel
theorem dX8_growData_85 : decode cX8_growData 85 = .ok (.return_, 1) := by decide +kernel
theorem dX8_consumed_0 : decode cX8_consumed 0 = .ok (.lconst 0, 1) := by decide +kernel
theorem dX8_consumed_1 : decode cX8_consumed 1 = .ok (.lstore_n 2, 1) := by decide +kernel
theorem dX8_consumed_2 : decode cX8_consumed 2 = .ok (.iconst 0, 1) := by decide +kernel
theorem dX8_consumed_3 : decode cX8_consumed 3 = .ok (.istore 4, 2) := by decide +kernel
theorem dX8_consumed_5 : decode cX8_consumed 5 = .ok (.iload 4, 2) := by decide +kernel
theorem dX8_consumed_7 : decode cX8_consumed 7 = .ok (.sipush 256, 3) := by decide +kernel
theorem dX8_consumed_10 : decode cX8_consumed 10 = .ok (.if_icmp .ge 51, 3) := by decide +kernel
theorem dX8_consumed_13 : decode cX8_consumed 13 = .ok (.lload_n 2, 1) := by decide +kernel
theorem dX8_consumed_14 : decode cX8_consumed 14 = .ok (.aload_n 0, 1) := by decide +kernel
theorem dX8_consumed_15 : decode cX8_consumed 15 = .ok (.getfield 84, 3) := by decide +kernel
theorem dX8_consumed_18 : decode cX8_consumed 18 = .ok (.iload_n 1, 1) := by decide +kernel
theorem dX8_consumed_19 : decode cX8_consumed 19 = .ok (.iload 4, 2) := by decide +kernel
theorem dX8_consumed_21 : decode cX8_consumed 21 = .ok (.invokestatic 189, 3) := by decide +kernel
theorem dX8_consumed_24 : decode cX8_consumed 24 = .ok (.baload, 1) := by decide +kernel
theorem dX8_consumed_25 : decode cX8_consumed 25 = .ok (.ifCond .eq 17, 3) := by decide +kernel
theorem dX8_consumed_28 : decode cX8_consumed 28 = .ok (.aload_n 0, 1) := by decide +kernel
theorem dX8_consumed_29 : decode cX8_consumed 29 = .ok (.getfield 78, 3) := by decide +kernel
theorem dX8_consumed_32 : decode cX8_consumed 32 = .ok (.iload_n 1, 1) := by decide +kernel
theorem dX8_consumed_33 : decode cX8_consumed 33 = .ok (.iload 4, 2) := by decide +kernel
theorem dX8_consumed_35 : decode cX8_consumed 35 = .ok (.invokestatic 189, 3) := by decide +kernel
theorem dX8_consumed_38 : decode cX8_consumed 38 = .ok (.laload, 1) := by decide +kernel
theorem dX8_consumed_39 : decode cX8_consumed 39 = .ok (.goto 14, 3) := by decide +kernel
theorem dX8_consumed_42 : decode cX8_consumed 42 = .ok (.aload_n 0, 1) := by decide +kernel
theorem dX8_consumed_43 : decode cX8_consumed 43 = .ok (.getfield 81, 3) := by decide +kernel
theorem dX8_consumed_46 : decode cX8_consumed 46 = .ok (.iload_n 1, 1) := by decide +kernel
theorem dX8_consumed_47 : decode cX8_consumed 47 = .ok (.iload 4, 2) := by decide +kernel
theorem dX8_consumed_49 : decode cX8_consumed 49 = .ok (.invokestatic 189, 3) := by decide +kernel
theorem dX8_consumed_52 : decode cX8_consumed 52 = .ok (.laload, 1) := by decide +kernel
theorem dX8_consumed_53 : decode cX8_consumed 53 = .ok (.ladd, 1) := by decide +kernel
theorem dX8_consumed_54 : decode cX8_consumed 54 = .ok (.lstore_n 2, 1) := by decide +kernel
theorem dX8_consumed_55 : decode cX8_consumed 55 = .ok (.iinc 4 1, 3) := by decide +kernel
theorem dX8_consumed_58 : decode cX8_consumed 58 = .ok (.goto (-53), 3) := by decide +kernel
theorem dX8_consumed_61 : decode cX8_consumed 61 = .ok (.lload_n 2, 1) := by decide +kernel
theorem dX8_consumed_62 : decode cX8_consumed 62 = .ok (.lreturn, 1) := by decide +kernel
theorem dX8_grows_0 : decode cX8_grows 0 = .ok (.ldc2_w 248, 3) := by decide +kernel
theorem dX8_grows_3 : decode cX8_grows 3 = .ok (.lload_n 0, 1) := by decide +kernel
theorem dX8_grows_4 : decode cX8_grows 4 = .ok (.lload_n 2, 1) := by decide +kernel
theorem dX8_grows_5 : decode cX8_grows 5 = .ok (.lsub, 1) := by decide +kernel
theorem dX8_grows_6 : decode cX8_grows 6 = .ok (.lmul, 1) := by decide +kernel
theorem dX8_grows_7 : decode cX8_grows 7 = .ok (.lload 4, 2) := by decide +kernel
theorem dX8_grows_9 : decode cX8_grows 9 = .ok (.lcmp, 1) := by decide +kernel
theorem dX8_grows_10 : decode cX8_grows 10 = .ok (.ifCond .lt 13, 3) := by decide +kernel
theorem dX8_grows_13 : decode cX8_grows 13 = .ok (.lload_n 0, 1) := by decide +kernel
theorem dX8_grows_14 : decode cX8_grows 14 = .ok (.lload_n 2, 1) := by decide +kernel
theorem dX8_grows_15 : decode cX8_grows 15 = .ok (.lcmp, 1) := by decide +kernel
theorem dX8_grows_16 : decode cX8_grows 16 = .ok (.ifCond .le 7, 3) := by decide +kernel
theorem dX8_grows_19 : decode cX8_grows 19 = .ok (.iconst 1, 1) := by decide +kernel
theorem dX8_grows_20 : decode cX8_grows 20 = .ok (.goto 4, 3) := by decide +kernel
theorem dX8_grows_23 : decode cX8_grows 23 = .ok (.iconst 0, 1) := by decide +kernel
theorem dX8_grows_24 : decode cX8_grows 24 = .ok (.ireturn, 1) := by decide +kernel
theorem dX8_growStream_0 : decode cX8_growStream 0 = .ok (.iload_n 1, 1) := by decide +kernel
theorem dX8_growStream_1 : decode cX8_growStream 1 = .ok (.iload_n 2, 1) := by decide +kernel
theorem dX8_growStream_2 : decode cX8_growStream 2 = .ok (.invokestatic 189, 3) := by decide +kernel
theorem dX8_growStream_5 : decode cX8_growStream 5 = .ok (.istore_n 3, 1) := by decide +kernel
theorem dX8_growStream_6 : decode cX8_growStream 6 = .ok (.aload_n 0, 1) := by decide +kernel
theorem dX8_growStream_7 : decode cX8_growStream 7 = .ok (.iload_n 1, 1) := by decide +kernel
theorem dX8_growStream_8 : decode cX8_growStream 8 = .ok (.iload_n 2, 1) := by decide +kernel
theorem dX8_growStream_9 : decode cX8_growStream 9 = .ok (.invokevirtual 203, 3) := by decide +kernel
theorem dX8_growStream_12 : decode cX8_growStream 12 = .ok (.i2l, 1) := by decide +kernel
theorem dX8_growStream_13 : decode cX8_growStream 13 = .ok (.lstore 4, 2) := by decide +kernel
theorem dX8_growStream_15 : decode cX8_growStream 15 = .ok (.aload_n 0, 1) := by decide +kernel
theorem dX8_growStream_16 : decode cX8_growStream 16 = .ok (.getfield 81, 3) := by decide +kernel
theorem dX8_growStream_19 : decode cX8_growStream 19 = .ok (.iload_n 3, 1) := by decide +kernel
theorem dX8_growStream_20 : decode cX8_growStream 20 = .ok (.laload, 1) := by decide +kernel
theorem dX8_growStream_21 : decode cX8_growStream 21 = .ok (.lload 4, 2) := by decide +kernel
theorem dX8_growStream_23 : decode cX8_growStream 23 = .ok (.ladd, 1) := by decide +kernel
theorem dX8_growStream_24 : decode cX8_growStream 24 = .ok (.lstore 6, 2) := by decide +kernel
theorem dX8_growStream_26 : decode cX8_growStream 26 = .ok (.lload 6, 2) := by decide +kernel
theorem dX8_growStream_28 : decode cX8_growStream 28 = .ok (.aload_n 0, 1) := by decide +kernel
theorem dX8_growStream_29 : decode cX8_growStream 29 = .ok (.getfield 90, 3) := by decide +kernel
theorem dX8_growStream_32 : decode cX8_growStream 32 = .ok (.iload_n 3, 1) := by decide +kernel
theorem dX8_growStream_33 : decode cX8_growStream 33 = .ok (.laload, 1) := by decide +kernel
theorem dX8_growStream_34 : decode cX8_growStream 34 = .ok (.lload 4, 2) := by decide +kernel
theorem dX8_growStream_36 : decode cX8_growStream 36 = .ok (.invokestatic 254, 3) := by decide +kernel
theorem dX8_growStream_39 : decode cX8_growStream 39 = .ok (.ifCond .ne 4, 3) := by decide +kernel
theorem dX8_growStream_42 : decode cX8_growStream 42 = .ok (.return_, 1) := by decide +kernel
theorem dX8_growStream_43 : decode cX8_growStream 43 = .ok (.lload 6, 2) := by decide +kernel
theorem dX8_growStream_45 : decode cX8_growStream 45 = .ok (.ldc2_w 258, 3) := by decide +kernel
theorem dX8_growStream_48 : decode cX8_growStream 48 = .ok (.lcmp, 1) := by decide +kernel
theorem dX8_growStream_49 : decode cX8_growStream 49 = .ok (.ifCond .ge 8, 3) := by decide +kernel
theorem dX8_growStream_52 : decode cX8_growStream 52 = .ok (.lload 6, 2) := by decide +kernel
theorem dX8_growStream_54 : decode cX8_growStream 54 = .ok (.goto 6, 3) := by decide +kernel
theorem dX8_growStream_57 : decode cX8_growStream 57 = .ok (.ldc2_w 258, 3) := by decide +kernel
theorem dX8_growStream_60 : decode cX8_growStream 60 = .ok (.lstore 8, 2) := by decide +kernel
theorem dX8_growStream_62 : decode cX8_growStream 62 = .ok (.lload 8, 2) := by decide +kernel
theorem dX8_growStream_64 : decode cX8_growStream 64 = .ok (.aload_n 0, 1) := by decide +kernel
theorem dX8_growStream_65 : decode cX8_growStream 65 = .ok (.getfield 90, 3) := by decide +kernel
theorem dX8_growStream_68 : decode cX8_growStream 68 = .ok (.iload_n 3, 1) := by decide +kernel
theorem dX8_growStream_69 : decode cX8_growStream 69 = .ok (.laload, 1) := by decide +kernel
theorem dX8_growStream_70 : decode cX8_growStream 70 = .ok (.lcmp, 1) := by decide +kernel
theorem dX8_growStream_71 : decode cX8_growStream 71 = .ok (.ifCond .gt 4, 3) := by decide +kernel
theorem dX8_growStream_74 : decode cX8_growStream 74 = .ok (.return_, 1) := by decide +kernel
theorem dX8_growStream_75 : decode cX8_growStream 75 = .ok (.aload_n 0, 1) := by decide +kernel
theorem dX8_growStream_76 : decode cX8_growStream 76 = .ok (.getfield 90, 3) := by decide +kernel
theorem dX8_growStream_79 : decode cX8_growStream 79 = .ok (.iload_n 3, 1) := by decide +kernel
theorem dX8_growStream_80 : decode cX8_growStream 80 = .ok (.lload 8, 2) := by decide +kernel
theorem dX8_growStream_82 : decode cX8_growStream 82 = .ok (.lastore, 1) := by decide +kernel
theorem dX8_growStream_83 : decode cX8_growStream 83 = .ok (.aload_n 0, 1) := by decide +kernel
theorem dX8_growStream_84 : decode cX8_growStream 84 = .ok (.getfield 93, 3) := by decide +kernel
theorem dX8_growStream_87 : decode cX8_growStream 87 = .ok (.iload_n 3, 1) := by decide +kernel
theorem dX8_growStream_88 : decode cX8_growStream 88 = .ok (.iconst 1, 1) := by decide +kernel
theorem dX8_growStream_89 : decode cX8_growStream 89 = .ok (.bastore, 1) := by decide +kernel
theorem dX8_growStream_90 : decode cX8_growStream 90 = .ok (.return_, 1) := by decide +kernel
theorem dX8_looksOver_0 : decode cX8_looksOver 0 = .ok (.iload_n 1, 1) := by decide +kernel
theorem dX8_looksOver_1 : decode cX8_looksOver 1 = .ok (.iload_n 2, 1) := by decide +kernel
theorem dX8_looksOver_2 : decode cX8_looksOver 2 = .ok (.invokestatic 189, 3) := by decide +kernel
theorem dX8_looksOver_5 : decode cX8_looksOver 5 = .ok (.istore_n 3, 1) := by decide +kernel
theorem dX8_looksOver_6 : decode cX8_looksOver 6 = .ok (.iload_n 1, 1) := by decide +kernel
theorem dX8_looksOver_7 : decode cX8_looksOver 7 = .ok (.iload_n 2, 1) := by decide +kernel
theorem dX8_looksOver_8 : decode cX8_looksOver 8 = .ok (.i2l, 1) := by decide +kernel
theorem dX8_looksOver_9 : decode cX8_looksOver 9 = .ok (.invokestatic 185, 3) := by decide +kernel
theorem dX8_looksOver_12 : decode cX8_looksOver 12 = .ok (.ifCond .ne 21, 3) := by decide +kernel
theorem dX8_looksOver_15 : decode cX8_looksOver 15 = .ok (.aload_n 0, 1) := by decide +kernel
theorem dX8_looksOver_16 : decode cX8_looksOver 16 = .ok (.getfield 105, 3) := by decide +kernel
theorem dX8_looksOver_19 : decode cX8_looksOver 19 = .ok (.iload_n 3, 1) := by decide +kernel
theorem dX8_looksOver_20 : decode cX8_looksOver 20 = .ok (.baload, 1) := by decide +kernel
theorem dX8_looksOver_21 : decode cX8_looksOver 21 = .ok (.ifCond .ne 12, 3) := by decide +kernel
theorem dX8_looksOver_24 : decode cX8_looksOver 24 = .ok (.aload_n 0, 1) := by decide +kernel
theorem dX8_looksOver_25 : decode cX8_looksOver 25 = .ok (.getfield 51, 3) := by decide +kernel
theorem dX8_looksOver_28 : decode cX8_looksOver 28 = .ok (.iload_n 3, 1) := by decide +kernel
theorem dX8_looksOver_29 : decode cX8_looksOver 29 = .ok (.baload, 1) := by decide +kernel
theorem dX8_looksOver_30 : decode cX8_looksOver 30 = .ok (.ifCond .ne 4, 3) := by decide +kernel
theorem dX8_looksOver_33 : decode cX8_looksOver 33 = .ok (.return_, 1) := by decide +kernel
theorem dX8_looksOver_34 : decode cX8_looksOver 34 = .ok (.iload_n 1, 1) := by decide +kernel
theorem dX8_looksOver_35 : decode cX8_looksOver 35 = .ok (.iload_n 2, 1) := by decide +kernel
theorem dX8_looksOver_36 : decode cX8_looksOver 36 = .ok (.i2l, 1) := by decide +kernel
theorem dX8_looksOver_37 : decode cX8_looksOver 37 = .ok (.invokestatic 200, 3) := by decide +kernel
theorem dX8_looksOver_40 : decode cX8_looksOver 40 = .ok (.ifCond .eq 13, 3) := by decide +kernel
theorem dX8_looksOver_43 : decode cX8_looksOver 43 = .ok (.aload_n 0, 1) := by decide +kernel
theorem dX8_looksOver_44 : decode cX8_looksOver 44 = .ok (.iload_n 1, 1) := by decide +kernel
theorem dX8_looksOver_45 : decode cX8_looksOver 45 = .ok (.iload_n 2, 1) := by decide +kernel
theorem dX8_looksOver_46 : decode cX8_looksOver 46 = .ok (.invokevirtual 260, 3) := by decide +kernel
theorem dX8_looksOver_49 : decode cX8_looksOver 49 = .ok (.iconst 2, 1) := by decide +kernel
theorem dX8_looksOver_50 : decode cX8_looksOver 50 = .ok (.if_icmp .le 7, 3) := by decide +kernel
theorem dX8_looksOver_53 : decode cX8_looksOver 53 = .ok (.iconst 1, 1) := by decide +kernel
theorem dX8_looksOver_54 : decode cX8_looksOver 54 = .ok (.goto 4, 3) := by decide +kernel
theorem dX8_looksOver_57 : decode cX8_looksOver 57 = .ok (.iconst 0, 1) := by decide +kernel
theorem dX8_looksOver_58 : decode cX8_looksOver 58 = .ok (.istore 4, 2) := by decide +kernel
theorem dX8_looksOver_60 : decode cX8_looksOver 60 = .ok (.iload_n 1, 1) := by decide +kernel
theorem dX8_looksOver_61 : decode cX8_looksOver 61 = .ok (.iload_n 2, 1) := by decide +kernel
theorem dX8_looksOver_62 : decode cX8_looksOver 62 = .ok (.i2l, 1) := by decide +kernel
theorem dX8_looksOver_63 : decode cX8_looksOver 63 = .ok (.invokestatic 197, 3) := by decide +kernel
theorem dX8_looksOver_66 : decode cX8_looksOver 66 = .ok (.ifCond .eq 23, 3) := by decide +kernel
theorem dX8_looksOver_69 : decode cX8_looksOver 69 = .ok (.aload_n 0, 1) := by decide +kernel
theorem dX8_looksOver_70 : decode cX8_looksOver 70 = .ok (.iload_n 1, 1) := by decide +kernel
theorem dX8_looksOver_71 : decode cX8_looksOver 71 = .ok (.iload_n 2, 1) := by decide +kernel
theorem dX8_looksOver_72 : decode cX8_looksOver 72 = .ok (.invokevirtual 221, 3) := by decide +kernel
theorem dX8_looksOver_75 : decode cX8_looksOver 75 = .ok (.iconst 2, 1) := by decide +kernel
theorem dX8_looksOver_76 : decode cX8_looksOver 76 = .ok (.if_icmp .eq 13, 3) := by decide +kernel
theorem dX8_looksOver_79 : decode cX8_looksOver 79 = .ok (.aload_n 0, 1) := by decide +kernel
theorem dX8_looksOver_80 : decode cX8_looksOver 80 = .ok (.iload_n 1, 1) := by decide +kernel
theorem dX8_looksOver_81 : decode cX8_looksOver 81 = .ok (.iload_n 2, 1) := by decide +kernel
theorem dX8_looksOver_82 : decode cX8_looksOver 82 = .ok (.invokevirtual 221, 3) := by decide +kernel
theorem dX8_looksOver_85 : decode cX8_looksOver 85 = .ok (.iconst 4, 1) := by decide +kernel
theorem dX8_looksOver_86 : decode cX8_looksOver 86 = .ok (.if_icmp .ne 7, 3) := by decide +kernel
theorem dX8_looksOver_89 : decode cX8_looksOver 89 = .ok (.iconst 1, 1) := by decide +kernel
theorem dX8_looksOver_90 : decode cX8_looksOver 90 = .ok (.goto 4, 3) := by decide +kernel
theorem dX8_looksOver_93 : decode cX8_looksOver 93 = .ok (.iconst 0, 1) := by decide +kernel
theorem dX8_looksOver_94 : decode cX8_looksOver 94 = .ok (.istore 5, 2) := by decide +kernel
theorem dX8_looksOver_96 : decode cX8_looksOver 96 = .ok (.iload 4, 2) := by decide +kernel
theorem dX8_looksOver_98 : decode cX8_looksOver 98 = .ok (.ifCond .eq 8, 3) := by decide +kernel
theorem dX8_looksOver_101 : decode cX8_looksOver 101 = .ok (.iload 5, 2) := by decide +kernel
theorem dX8_looksOver_103 : decode cX8_looksOver 103 = .ok (.ifCond .ne 4, 3) := by decide +kernel
theorem dX8_looksOver_106 : decode cX8_looksOver 106 = .ok (.return_, 1) := by decide +kernel
theorem dX8_looksOver_107 : decode cX8_looksOver 107 = .ok (.aload_n 0, 1) := by decide +kernel
theorem dX8_looksOver_108 : decode cX8_looksOver 108 = .ok (.getfield 105, 3) := by decide +kernel
theorem dX8_looksOver_111 : decode cX8_looksOver 111 = .ok (.iload_n 3, 1) := by decide +kernel
theorem dX8_looksOver_112 : decode cX8_looksOver 112 = .ok (.iconst 1, 1) := by decide +kernel
theorem dX8_looksOver_113 : decode cX8_looksOver 113 = .ok (.bastore, 1) := by decide +kernel
theorem dX8_looksOver_114 : decode cX8_looksOver 114 = .ok (.iconst 2, 1) := by decide +kernel
theorem dX8_looksOver_115 : decode cX8_looksOver 115 = .ok (.iload_n 1, 1) := by decide +kernel
theorem dX8_looksOver_116 : decode cX8_looksOver 116 = .ok (.imul, 1) := by decide +kernel
theorem dX8_looksOver_117 : decode cX8_looksOver 117 = .ok (.iload_n 2, 1) := by decide +kernel
theorem dX8_looksOver_118 : decode cX8_looksOver 118 = .ok (.i2l, 1) := by decide +kernel
theorem dX8_looksOver_119 : decode cX8_looksOver 119 = .ok (.invokestatic 181, 3) := by decide +kernel
theorem dX8_looksOver_122 : decode cX8_looksOver 122 = .ok (.iadd, 1) := by decide +kernel
theorem dX8_looksOver_123 : decode cX8_looksOver 123 = .ok (.istore 6, 2) := by decide +kernel
theorem dX8_looksOver_125 : decode cX8_looksOver 125 = .ok (.aload_n 0, 1) := by decide +kernel
theorem dX8_looksOver_126 : decode cX8_looksOver 126 = .ok (.getfield 29, 3) := by decide +kernel
theorem dX8_looksOver_129 : decode cX8_looksOver 129 = .ok (.iload 6, 2) := by decide +kernel
theorem dX8_looksOver_131 : decode cX8_looksOver 131 = .ok (.iaload, 1) := by decide +kernel
theorem dX8_looksOver_132 : decode cX8_looksOver 132 = .ok (.bipush 64, 2) := by decide +kernel
theorem dX8_looksOver_134 : decode cX8_looksOver 134 = .ok (.if_icmp .ne 4, 3) := by decide +kernel
theorem dX8_looksOver_137 : decode cX8_looksOver 137 = .ok (.return_, 1) := by decide +kernel
theorem dX8_looksOver_138 : decode cX8_looksOver 138 = .ok (.aload_n 0, 1) := by decide +kernel
theorem dX8_looksOver_139 : decode cX8_looksOver 139 = .ok (.getfield 29, 3) := by decide +kernel
theorem dX8_looksOver_142 : decode cX8_looksOver 142 = .ok (.iload 6, 2) := by decide +kernel
theorem dX8_looksOver_144 : decode cX8_looksOver 144 = .ok (.dup2, 1) := by decide +kernel
theorem dX8_looksOver_145 : decode cX8_looksOver 145 = .ok (.iaload, 1) := by decide +kernel
theorem dX8_looksOver_146 : decode cX8_looksOver 146 = .ok (.iconst 1, 1) := by decide +kernel
theorem dX8_looksOver_147 : decode cX8_looksOver 147 = .ok (.iadd, 1) := by decide +kernel
theorem dX8_looksOver_148 : decode cX8_looksOver 148 = .ok (.iastore, 1) := by decide +kernel
theorem dX8_looksOver_149 : decode cX8_looksOver 149 = .ok (.aload_n 0, 1) := by decide +kernel
theorem dX8_looksOver_150 : decode cX8_looksOver 150 = .ok (.getfield 39, 3) := by decide +kernel
theorem dX8_looksOver_153 : decode cX8_looksOver 153 = .ok (.iload 6, 2) := by decide +kernel
theorem dX8_looksOver_155 : decode cX8_looksOver 155 = .ok (.iconst 1, 1) := by decide +kernel
theorem dX8_looksOver_156 : decode cX8_looksOver 156 = .ok (.bastore, 1) := by decide +kernel
theorem dX8_looksOver_157 : decode cX8_looksOver 157 = .ok (.return_, 1) := by decide +kernel
theorem dX8_take_0 : decode cX8_take 0 = .ok (.iload_n 2, 1) := by decide +kernel
theorem dX8_take_1 : decode cX8_take 1 = .ok (.iconst 4, 1) := by decide +kernel
theorem dX8_take_2 : decode cX8_take 2 = .ok (.if_icmp .eq 26, 3) := by decide +kernel
theorem dX8_take_5 : decode cX8_take 5 = .ok (.iload_n 2, 1) := by decide +kernel
theorem dX8_take_6 : decode cX8_take 6 = .ok (.iconst 5, 1) := by decide +kernel
theorem dX8_take_7 : decode cX8_take 7 = .ok (.if_icmp .eq 21, 3) := by decide +kernel
theorem dX8_take_10 : decode cX8_take 10 = .ok (.iload_n 2, 1) := by decide +kernel
theorem dX8_take_11 : decode cX8_take 11 = .ok (.bipush 8, 2) := by decide +kernel
theorem dX8_take_13 : decode cX8_take 13 = .ok (.if_icmp .eq 15, 3) := by decide +kernel
theorem dX8_take_16 : decode cX8_take 16 = .ok (.iload_n 2, 1) := by decide +kernel
theorem dX8_take_17 : decode cX8_take 17 = .ok (.bipush 16, 2) := by decide +kernel
theorem dX8_take_19 : decode cX8_take 19 = .ok (.if_icmp .lt 13, 3) := by decide +kernel
theorem dX8_take_22 : decode cX8_take 22 = .ok (.iload_n 2, 1) := by decide +kernel
theorem dX8_take_23 : decode cX8_take 23 = .ok (.bipush 23, 2) := by decide +kernel
theorem dX8_take_25 : decode cX8_take 25 = .ok (.if_icmp .gt 7, 3) := by decide +kernel
theorem dX8_take_28 : decode cX8_take 28 = .ok (.iconst 1, 1) := by decide +kernel
theorem dX8_take_29 : decode cX8_take 29 = .ok (.goto 4, 3) := by decide +kernel
theorem dX8_take_32 : decode cX8_take 32 = .ok (.iconst 0, 1) := by decide +kernel
theorem dX8_take_33 : decode cX8_take 33 = .ok (.istore 9, 2) := by decide +kernel
theorem dX8_take_35 : decode cX8_take 35 = .ok (.lload_n 3, 1) := by decide +kernel
theorem dX8_take_36 : decode cX8_take 36 = .ok (.lconst 0, 1) := by decide +kernel
theorem dX8_take_37 : decode cX8_take 37 = .ok (.lcmp, 1) := by decide +kernel
theorem dX8_take_38 : decode cX8_take 38 = .ok (.ifCond .lt 69, 3) := by decide +kernel
theorem dX8_take_41 : decode cX8_take 41 = .ok (.lload_n 3, 1) := by decide +kernel
theorem dX8_take_42 : decode cX8_take 42 = .ok (.ldc2_w 272, 3) := by decide +kernel
theorem dX8_take_45 : decode cX8_take 45 = .ok (.lcmp, 1) := by decide +kernel
theorem dX8_take_46 : decode cX8_take 46 = .ok (.ifCond .gt 61, 3) := by decide +kernel
theorem dX8_take_49 : decode cX8_take 49 = .ok (.lload 5, 2) := by decide +kernel
theorem dX8_take_51 : decode cX8_take 51 = .ok (.lconst 0, 1) := by decide +kernel
theorem dX8_take_52 : decode cX8_take 52 = .ok (.lcmp, 1) := by decide +kernel
theorem dX8_take_53 : decode cX8_take 53 = .ok (.ifCond .lt 54, 3) := by decide +kernel
theorem dX8_take_56 : decode cX8_take 56 = .ok (.lload 5, 2) := by decide +kernel
theorem dX8_take_58 : decode cX8_take 58 = .ok (.iload_n 2, 1) := by decide +kernel
theorem dX8_take_59 : decode cX8_take 59 = .ok (.bipush 8, 2) := by decide +kernel
theorem dX8_take_61 : decode cX8_take 61 = .ok (.if_icmp .ne 9, 3) := by decide +kernel
theorem dX8_take_64 : decode cX8_take 64 = .ok (.ldc2_w 353, 3) := by decide +kernel
theorem dX8_take_67 : decode cX8_take 67 = .ok (.goto 6, 3) := by decide +kernel
theorem dX8_take_70 : decode cX8_take 70 = .ok (.ldc2_w 272, 3) := by decide +kernel
theorem dX8_take_73 : decode cX8_take 73 = .ok (.lcmp, 1) := by decide +kernel
theorem dX8_take_74 : decode cX8_take 74 = .ok (.ifCond .gt 33, 3) := by decide +kernel
theorem dX8_take_77 : decode cX8_take 77 = .ok (.lload 7, 2) := by decide +kernel
theorem dX8_take_79 : decode cX8_take 79 = .ok (.lconst 0, 1) := by decide +kernel
theorem dX8_take_80 : decode cX8_take 80 = .ok (.lcmp, 1) := by decide +kernel
theorem dX8_take_81 : decode cX8_take 81 = .ok (.ifCond .lt 26, 3) := by decide +kernel
theorem dX8_take_84 : decode cX8_take 84 = .ok (.lload 7, 2) := by decide +kernel
theorem dX8_take_86 : decode cX8_take 86 = .ok (.iload_n 2, 1) := by decide +kernel
theorem dX8_take_87 : decode cX8_take 87 = .ok (.bipush 8, 2) := by decide +kernel
theorem dX8_take_89 : decode cX8_take 89 = .ok (.if_icmp .ne 7, 3) := by decide +kernel
theorem dX8_take_92 : decode cX8_take 92 = .ok (.lconst 1, 1) := by decide +kernel
theorem dX8_take_93 : decode cX8_take 93 = .ok (.goto 6, 3) := by decide +kernel
theorem dX8_take_96 : decode cX8_take 96 = .ok (.ldc2_w 272, 3) := by decide +kernel
theorem dX8_take_99 : decode cX8_take 99 = .ok (.lcmp, 1) := by decide +kernel
theorem dX8_take_100 : decode cX8_take 100 = .ok (.ifCond .gt 7, 3) := by decide +kernel
theorem dX8_take_103 : decode cX8_take 103 = .ok (.iconst 1, 1) := by decide +kernel
theorem dX8_take_104 : decode cX8_take 104 = .ok (.goto 4, 3) := by decide +kernel
theorem dX8_take_107 : decode cX8_take 107 = .ok (.iconst 0, 1) := by decide +kernel
theorem dX8_take_108 : decode cX8_take 108 = .ok (.istore 10, 2) := by decide +kernel
theorem dX8_take_110 : decode cX8_take 110 = .ok (.aload_n 0, 1) := by decide +kernel
theorem dX8_take_111 : decode cX8_take 111 = .ok (.iload_n 1, 1) := by decide +kernel
theorem dX8_take_112 : decode cX8_take 112 = .ok (.invokestatic 236, 3) := by decide +kernel
theorem dX8_take_115 : decode cX8_take 115 = .ok (.ifCond .ne 13, 3) := by decide +kernel
theorem dX8_take_118 : decode cX8_take 118 = .ok (.iload 9, 2) := by decide +kernel
theorem dX8_take_120 : decode cX8_take 120 = .ok (.ifCond .eq 8, 3) := by decide +kernel
theorem dX8_take_123 : decode cX8_take 123 = .ok (.iload 10, 2) := by decide +kernel
theorem dX8_take_125 : decode cX8_take 125 = .ok (.ifCond .ne 7, 3) := by decide +kernel
theorem dX8_take_128 : decode cX8_take 128 = .ok (.iconst 1, 1) := by decide +kernel
theorem dX8_take_129 : decode cX8_take 129 = .ok (.goto 4, 3) := by decide +kernel
theorem dX8_take_132 : decode cX8_take 132 = .ok (.iconst 0, 1) := by decide +kernel
theorem dX8_take_133 : decode cX8_take 133 = .ok (.iconst 1, 1) := by decide +kernel
theorem dX8_take_134 : decode cX8_take 134 = .ok (.invokevirtual 240, 3) := by decide +kernel
theorem dX8_take_137 : decode cX8_take 137 = .ok (.ifCond .ne 23, 3) := by decide +kernel
theorem dX8_take_140 : decode cX8_take 140 = .ok (.aload_n 0, 1) := by decide +kernel
theorem dX8_take_141 : decode cX8_take 141 = .ok (.aload_n 0, 1) := by decide +kernel
theorem dX8_take_142 : decode cX8_take 142 = .ok (.getfield 244, 3) := by decide +kernel
theorem dX8_take_145 : decode cX8_take 145 = .ok (.ifCond .ne 7, 3) := by decide +kernel
theorem dX8_take_148 : decode cX8_take 148 = .ok (.iconst 1, 1) := by decide +kernel
theorem dX8_take_149 : decode cX8_take 149 = .ok (.goto 4, 3) := by decide +kernel
theorem dX8_take_152 : decode cX8_take 152 = .ok (.iconst 0, 1) := by decide +kernel
theorem dX8_take_153 : decode cX8_take 153 = .ok (.iconst 2, 1) := by decide +kernel
theorem dX8_take_154 : decode cX8_take 154 = .ok (.invokevirtual 240, 3) := by decide +kernel
theorem dX8_take_157 : decode cX8_take 157 = .ok (.ifCond .eq 5, 3) := by decide +kernel
theorem dX8_take_160 : decode cX8_take 160 = .ok (.iconst 0, 1) := by decide +kernel
theorem dX8_take_161 : decode cX8_take 161 = .ok (.ireturn, 1) := by decide +kernel
theorem dX8_take_162 : decode cX8_take 162 = .ok (.aload_n 0, 1) := by decide +kernel
theorem dX8_take_163 : decode cX8_take 163 = .ok (.iload_n 2, 1) := by decide +kernel
theorem dX8_take_164 : decode cX8_take 164 = .ok (.putfield 336, 3) := by decide +kernel
theorem dX8_take_167 : decode cX8_take 167 = .ok (.aload_n 0, 1) := by decide +kernel
theorem dX8_take_168 : decode cX8_take 168 = .ok (.lload_n 3, 1) := by decide +kernel
theorem dX8_take_169 : decode cX8_take 169 = .ok (.putfield 308, 3) := by decide +kernel
theorem dX8_take_172 : decode cX8_take 172 = .ok (.aload_n 0, 1) := by decide +kernel
theorem dX8_take_173 : decode cX8_take 173 = .ok (.lload 5, 2) := by decide +kernel
theorem dX8_take_175 : decode cX8_take 175 = .ok (.putfield 316, 3) := by decide +kernel
theorem dX8_take_178 : decode cX8_take 178 = .ok (.aload_n 0, 1) := by decide +kernel
theorem dX8_take_179 : decode cX8_take 179 = .ok (.lload 7, 2) := by decide +kernel
theorem dX8_take_181 : decode cX8_take 181 = .ok (.putfield 322, 3) := by decide +kernel
theorem dX8_take_184 : decode cX8_take 184 = .ok (.aload_n 0, 1) := by decide +kernel
theorem dX8_take_185 : decode cX8_take 185 = .ok (.aload_n 0, 1) := by decide +kernel
theorem dX8_take_186 : decode cX8_take 186 = .ok (.getfield 263, 3) := by decide +kernel
theorem dX8_take_189 : decode cX8_take 189 = .ok (.putfield 319, 3) := by decide +kernel
theorem dX8_take_192 : decode cX8_take 192 = .ok (.iconst 0, 1) := by decide +kernel
theorem dX8_take_193 : decode cX8_take 193 = .ok (.istore 11, 2) := by decide +kernel
theorem dX8_take_195 : decode cX8_take 195 = .ok (.iload 11, 2) := by decide +kernel
theorem dX8_take_197 : decode cX8_take 197 = .ok (.aload_n 0, 1) := by decide +kernel
theorem dX8_take_198 : decode cX8_take 198 = .ok (.getfield 263, 3) := by decide +kernel
theorem dX8_take_201 : decode cX8_take 201 = .ok (.if_icmp .ge 24, 3) := by decide +kernel
theorem dX8_take_204 : decode cX8_take 204 = .ok (.aload_n 0, 1) := by decide +kernel
theorem dX8_take_205 : decode cX8_take 205 = .ok (.getfield 139, 3) := by decide +kernel
theorem dX8_take_208 : decode cX8_take 208 = .ok (.iload 11, 2) := by decide +kernel
theorem dX8_take_210 : decode cX8_take 210 = .ok (.aload_n 0, 1) := by decide +kernel
theorem dX8_take_211 : decode cX8_take 211 = .ok (.getfield 7, 3) := by decide +kernel
theorem dX8_take_214 : decode cX8_take 214 = .ok (.iload 11, 2) := by decide +kernel
theorem dX8_take_216 : decode cX8_take 216 = .ok (.iaload, 1) := by decide +kernel
theorem dX8_take_217 : decode cX8_take 217 = .ok (.i2b, 1) := by decide +kernel
theorem dX8_take_218 : decode cX8_take 218 = .ok (.bastore, 1) := by decide +kernel
theorem dX8_take_219 : decode cX8_take 219 = .ok (.iinc 11 1, 3) := by decide +kernel
theorem dX8_take_222 : decode cX8_take 222 = .ok (.goto (-27), 3) := by decide +kernel
theorem dX8_take_225 : decode cX8_take 225 = .ok (.aload_n 0, 1) := by decide +kernel
theorem dX8_take_226 : decode cX8_take 226 = .ok (.iconst 0, 1) := by decide +kernel
theorem dX8_take_227 : decode cX8_take 227 = .ok (.putfield 263, 3) := by decide +kernel
theorem dX8_take_230 : decode cX8_take 230 = .ok (.aload_n 0, 1) := by decide +kernel
theorem dX8_take_231 : decode cX8_take 231 = .ok (.iload_n 1, 1) := by decide +kernel
theorem dX8_take_232 : decode cX8_take 232 = .ok (.invokevirtual 355, 3) := by decide +kernel
theorem dX8_take_235 : decode cX8_take 235 = .ok (.ireturn, 1) := by decide +kernel
theorem dX8_takes_0 : decode cX8_takes 0 = .ok (.aload_n 0, 1) := by decide +kernel
theorem dX8_takes_1 : decode cX8_takes 1 = .ok (.getfield 336, 3) := by decide +kernel
theorem dX8_takes_4 : decode cX8_takes 4 = .ok (.bipush 8, 2) := by decide +kernel
theorem dX8_takes_6 : decode cX8_takes 6 = .ok (.if_icmp .ne 9, 3) := by decide +kernel
theorem dX8_takes_9 : decode cX8_takes 9 = .ok (.aload_n 0, 1) := by decide +kernel
theorem dX8_takes_10 : decode cX8_takes 10 = .ok (.iload_n 1, 1) := by decide +kernel
theorem dX8_takes_11 : decode cX8_takes 11 = .ok (.invokevirtual 343, 3) := by decide +kernel
theorem dX8_takes_14 : decode cX8_takes 14 = .ok (.ireturn, 1) := by decide +kernel
theorem dX8_takes_15 : decode cX8_takes 15 = .ok (.aload_n 0, 1) := by decide +kernel
theorem dX8_takes_16 : decode cX8_takes 16 = .ok (.getfield 336, 3) := by decide +kernel
theorem dX8_takes_19 : decode cX8_takes 19 = .ok (.iconst 4, 1) := by decide +kernel
theorem dX8_takes_20 : decode cX8_takes 20 = .ok (.if_icmp .ne 9, 3) := by decide +kernel
theorem dX8_takes_23 : decode cX8_takes 23 = .ok (.aload_n 0, 1) := by decide +kernel
theorem dX8_takes_24 : decode cX8_takes 24 = .ok (.iload_n 1, 1) := by decide +kernel
theorem dX8_takes_25 : decode cX8_takes 25 = .ok (.invokevirtual 347, 3) := by decide +kernel
theorem dX8_takes_28 : decode cX8_takes 28 = .ok (.ireturn, 1) := by decide +kernel
theorem dX8_takes_29 : decode cX8_takes 29 = .ok (.aload_n 0, 1) := by decide +kernel
theorem dX8_takes_30 : decode cX8_takes 30 = .ok (.getfield 336, 3) := by decide +kernel
theorem dX8_takes_33 : decode cX8_takes 33 = .ok (.iconst 5, 1) := by decide +kernel
theorem dX8_takes_34 : decode cX8_takes 34 = .ok (.if_icmp .eq 21, 3) := by decide +kernel
theorem dX8_takes_37 : decode cX8_takes 37 = .ok (.aload_n 0, 1) := by decide +kernel
theorem dX8_takes_38 : decode cX8_takes 38 = .ok (.getfield 336, 3) := by decide +kernel
theorem dX8_takes_41 : decode cX8_takes 41 = .ok (.bipush 17, 2) := by decide +kernel
theorem dX8_takes_43 : decode cX8_takes 43 = .ok (.if_icmp .eq 12, 3) := by decide +kernel
theorem dX8_takes_46 : decode cX8_takes 46 = .ok (.aload_n 0, 1) := by decide +kernel
theorem dX8_takes_47 : decode cX8_takes 47 = .ok (.getfield 336, 3) := by decide +kernel
theorem dX8_takes_50 : decode cX8_takes 50 = .ok (.bipush 21, 2) := by decide +kernel
theorem dX8_takes_52 : decode cX8_takes 52 = .ok (.if_icmp .ne 9, 3) := by decide +kernel
theorem dX8_takes_55 : decode cX8_takes 55 = .ok (.aload_n 0, 1) := by decide +kernel
theorem dX8_takes_56 : decode cX8_takes 56 = .ok (.iload_n 1, 1) := by decide +kernel
theorem dX8_takes_57 : decode cX8_takes 57 = .ok (.invokevirtual 350, 3) := by decide +kernel
theorem dX8_takes_60 : decode cX8_takes 60 = .ok (.ireturn, 1) := by decide +kernel
theorem dX8_takes_61 : decode cX8_takes 61 = .ok (.aload_n 0, 1) := by decide +kernel
theorem dX8_takes_62 : decode cX8_takes 62 = .ok (.getfield 336, 3) := by decide +kernel
theorem dX8_takes_65 : decode cX8_takes 65 = .ok (.bipush 16, 2) := by decide +kernel
theorem dX8_takes_67 : decode cX8_takes 67 = .ok (.if_icmp .ne 26, 3) := by decide +kernel
theorem dX8_takes_70 : decode cX8_takes 70 = .ok (.aload_n 0, 1) := by decide +kernel
theorem dX8_takes_71 : decode cX8_takes 71 = .ok (.getfield 19, 3) := by decide +kernel
theorem dX8_takes_74 : decode cX8_takes 74 = .ok (.iconst 3, 1) := by decide +kernel
theorem dX8_takes_75 : decode cX8_takes 75 = .ok (.iload_n 1, 1) := by decide +kernel
theorem dX8_takes_76 : decode cX8_takes 76 = .ok (.imul, 1) := by decide +kernel
theorem dX8_takes_77 : decode cX8_takes 77 = .ok (.aload_n 0, 1) := by decide +kernel
theorem dX8_takes_78 : decode cX8_takes 78 = .ok (.getfield 19, 3) := by decide +kernel
theorem dX8_takes_81 : decode cX8_takes 81 = .ok (.iconst 3, 1) := by decide +kernel
theorem dX8_takes_82 : decode cX8_takes 82 = .ok (.iload_n 1, 1) := by decide +kernel
theorem dX8_takes_83 : decode cX8_takes 83 = .ok (.imul, 1) := by decide +kernel
theorem dX8_takes_84 : decode cX8_takes 84 = .ok (.laload, 1) := by decide +kernel
theorem dX8_takes_85 : decode cX8_takes 85 = .ok (.aload_n 0, 1) := by decide +kernel
theorem dX8_takes_86 : decode cX8_takes 86 = .ok (.getfield 308, 3) := by decide +kernel
theorem dX8_takes_89 : decode cX8_takes 89 = .ok (.invokestatic 339, 3) := by decide +kernel
theorem dX8_takes_92 : decode cX8_takes 92 = .ok (.lastore, 1) := by decide +kernel
theorem dX8_takes_93 : decode cX8_takes 93 = .ok (.aload_n 0, 1) := by decide +kernel
theorem dX8_takes_94 : decode cX8_takes 94 = .ok (.getfield 336, 3) := by decide +kernel
theorem dX8_takes_97 : decode cX8_takes 97 = .ok (.bipush 18, 2) := by decide +kernel
theorem dX8_takes_99 : decode cX8_takes 99 = .ok (.if_icmp .eq 12, 3) := by decide +kernel
theorem dX8_takes_102 : decode cX8_takes 102 = .ok (.aload_n 0, 1) := by decide +kernel
theorem dX8_takes_103 : decode cX8_takes 103 = .ok (.getfield 336, 3) := by decide +kernel
theorem dX8_takes_106 : decode cX8_takes 106 = .ok (.bipush 19, 2) := by decide +kernel
theorem dX8_takes_108 : decode cX8_takes 108 = .ok (.if_icmp .ne 51, 3) := by decide +kernel
theorem dX8_takes_111 : decode cX8_takes 111 = .ok (.iconst 3, 1) := by decide +kernel
theorem dX8_takes_112 : decode cX8_takes 112 = .ok (.iload_n 1, 1) := by decide +kernel
theorem dX8_takes_113 : decode cX8_takes 113 = .ok (.imul, 1) := by decide +kernel
theorem dX8_takes_114 : decode cX8_takes 114 = .ok (.aload_n 0, 1) := by decide +kernel
theorem dX8_takes_115 : decode cX8_takes 115 = .ok (.getfield 336, 3) := by decide +kernel
theorem dX8_takes_118 : decode cX8_takes 118 = .ok (.iadd, 1) := by decide +kernel
theorem dX8_takes_119 : decode cX8_takes 119 = .ok (.bipush 17, 2) := by decide +kernel
theorem dX8_takes_121 : decode cX8_takes 121 = .ok (.isub, 1) := by decide +kernel
theorem dX8_takes_122 : decode cX8_takes 122 = .ok (.istore_n 2, 1) := by decide +kernel
theorem dX8_takes_123 : decode cX8_takes 123 = .ok (.aload_n 0, 1) := by decide +kernel
theorem dX8_takes_124 : decode cX8_takes 124 = .ok (.getfield 19, 3) := by decide +kernel
theorem dX8_takes_127 : decode cX8_takes 127 = .ok (.iload_n 2, 1) := by decide +kernel
theorem dX8_takes_128 : decode cX8_takes 128 = .ok (.aload_n 0, 1) := by decide +kernel
theorem dX8_takes_129 : decode cX8_takes 129 = .ok (.getfield 19, 3) := by decide +kernel
theorem dX8_takes_132 : decode cX8_takes 132 = .ok (.iload_n 2, 1) := by decide +kernel
theorem dX8_takes_133 : decode cX8_takes 133 = .ok (.laload, 1) := by decide +kernel
theorem dX8_takes_134 : decode cX8_takes 134 = .ok (.aload_n 0, 1) := by decide +kernel
theorem dX8_takes_135 : decode cX8_takes 135 = .ok (.getfield 308, 3) := by decide +kernel
theorem dX8_takes_138 : decode cX8_takes 138 = .ok (.ldc2_w 224, 3) := by decide +kernel
theorem dX8_takes_141 : decode cX8_takes 141 = .ok (.lcmp, 1) := by decide +kernel
theorem dX8_takes_142 : decode cX8_takes 142 = .ok (.ifCond .ge 10, 3) := by decide +kernel
theorem dX8_takes_145 : decode cX8_takes 145 = .ok (.aload_n 0, 1) := by decide +kernel
theorem dX8_takes_146 : decode cX8_takes 146 = .ok (.getfield 308, 3) := by decide +kernel
theorem dX8_takes_149 : decode cX8_takes 149 = .ok (.goto 6, 3) := by decide +kernel
theorem dX8_takes_152 : decode cX8_takes 152 = .ok (.ldc2_w 224, 3) := by decide +kernel
theorem dX8_takes_155 : decode cX8_takes 155 = .ok (.invokestatic 339, 3) := by decide +kernel
theorem dX8_takes_158 : decode cX8_takes 158 = .ok (.lastore, 1) := by decide +kernel
theorem dX8_takes_159 : decode cX8_takes 159 = .ok (.iconst 0, 1) := by decide +kernel
theorem dX8_takes_160 : decode cX8_takes 160 = .ok (.ireturn, 1) := by decide +kernel
theorem dX8_takeStream_0 : decode cX8_takeStream 0 = .ok (.aload_n 0, 1) := by decide +kernel
theorem dX8_takeStream_1 : decode cX8_takeStream 1 = .ok (.iload_n 1, 1) := by decide +kernel
theorem dX8_takeStream_2 : decode cX8_takeStream 2 = .ok (.aload_n 0, 1) := by decide +kernel
theorem dX8_takeStream_3 : decode cX8_takeStream 3 = .ok (.getfield 308, 3) := by decide +kernel
theorem dX8_takeStream_6 : decode cX8_takeStream 6 = .ok (.iconst 0, 1) := by decide +kernel
theorem dX8_takeStream_7 : decode cX8_takeStream 7 = .ok (.invokevirtual 312, 3) := by decide +kernel
theorem dX8_takeStream_10 : decode cX8_takeStream 10 = .ok (.istore_n 2, 1) := by decide +kernel
theorem dX8_takeStream_11 : decode cX8_takeStream 11 = .ok (.iload_n 2, 1) := by decide +kernel
theorem dX8_takeStream_12 : decode cX8_takeStream 12 = .ok (.ifCond .le 5, 3) := by decide +kernel
theorem dX8_takeStream_15 : decode cX8_takeStream 15 = .ok (.iload_n 2, 1) := by decide +kernel
theorem dX8_takeStream_16 : decode cX8_takeStream 16 = .ok (.ireturn, 1) := by decide +kernel
theorem dX8_takeStream_17 : decode cX8_takeStream 17 = .ok (.aload_n 0, 1) := by decide +kernel
theorem dX8_takeStream_18 : decode cX8_takeStream 18 = .ok (.getfield 308, 3) := by decide +kernel
theorem dX8_takeStream_21 : decode cX8_takeStream 21 = .ok (.l2i, 1) := by decide +kernel
theorem dX8_takeStream_22 : decode cX8_takeStream 22 = .ok (.istore_n 3, 1) := by decide +kernel
theorem dX8_takeStream_23 : decode cX8_takeStream 23 = .ok (.iload_n 1, 1) := by decide +kernel
theorem dX8_takeStream_24 : decode cX8_takeStream 24 = .ok (.iload_n 3, 1) := by decide +kernel
theorem dX8_takeStream_25 : decode cX8_takeStream 25 = .ok (.invokestatic 189, 3) := by decide +kernel
theorem dX8_takeStream_28 : decode cX8_takeStream 28 = .ok (.istore 4, 2) := by decide +kernel
theorem dX8_takeStream_30 : decode cX8_takeStream 30 = .ok (.aload_n 0, 1) := by decide +kernel
theorem dX8_takeStream_31 : decode cX8_takeStream 31 = .ok (.getfield 316, 3) := by decide +kernel
theorem dX8_takeStream_34 : decode cX8_takeStream 34 = .ok (.aload_n 0, 1) := by decide +kernel
theorem dX8_takeStream_35 : decode cX8_takeStream 35 = .ok (.getfield 319, 3) := by decide +kernel
theorem dX8_takeStream_38 : decode cX8_takeStream 38 = .ok (.i2l, 1) := by decide +kernel
theorem dX8_takeStream_39 : decode cX8_takeStream 39 = .ok (.ladd, 1) := by decide +kernel
theorem dX8_takeStream_40 : decode cX8_takeStream 40 = .ok (.lstore 5, 2) := by decide +kernel
theorem dX8_takeStream_42 : decode cX8_takeStream 42 = .ok (.aload_n 0, 1) := by decide +kernel
theorem dX8_takeStream_43 : decode cX8_takeStream 43 = .ok (.iload_n 1, 1) := by decide +kernel
theorem dX8_takeStream_44 : decode cX8_takeStream 44 = .ok (.iload_n 3, 1) := by decide +kernel
theorem dX8_takeStream_45 : decode cX8_takeStream 45 = .ok (.lload 5, 2) := by decide +kernel
theorem dX8_takeStream_47 : decode cX8_takeStream 47 = .ok (.aload_n 0, 1) := by decide +kernel
theorem dX8_takeStream_48 : decode cX8_takeStream 48 = .ok (.getfield 322, 3) := by decide +kernel
theorem dX8_takeStream_51 : decode cX8_takeStream 51 = .ok (.lconst 1, 1) := by decide +kernel
theorem dX8_takeStream_52 : decode cX8_takeStream 52 = .ok (.lcmp, 1) := by decide +kernel
theorem dX8_takeStream_53 : decode cX8_takeStream 53 = .ok (.ifCond .ne 7, 3) := by decide +kernel
theorem dX8_takeStream_56 : decode cX8_takeStream 56 = .ok (.iconst 1, 1) := by decide +kernel
theorem dX8_takeStream_57 : decode cX8_takeStream 57 = .ok (.goto 4, 3) := by decide +kernel
theorem dX8_takeStream_60 : decode cX8_takeStream 60 = .ok (.iconst 0, 1) := by decide +kernel
theorem dX8_takeStream_61 : decode cX8_takeStream 61 = .ok (.invokevirtual 325, 3) := by decide +kernel
theorem dX8_takeStream_64 : decode cX8_takeStream 64 = .ok (.istore_n 2, 1) := by decide +kernel
theorem dX8_takeStream_65 : decode cX8_takeStream 65 = .ok (.iload_n 2, 1) := by decide +kernel
theorem dX8_takeStream_66 : decode cX8_takeStream 66 = .ok (.ifCond .le 5, 3) := by decide +kernel
theorem dX8_takeStream_69 : decode cX8_takeStream 69 = .ok (.iload_n 2, 1) := by decide +kernel
theorem dX8_takeStream_70 : decode cX8_takeStream 70 = .ok (.ireturn, 1) := by decide +kernel
theorem dX8_takeStream_71 : decode cX8_takeStream 71 = .ok (.aload_n 0, 1) := by decide +kernel
theorem dX8_takeStream_72 : decode cX8_takeStream 72 = .ok (.iload_n 1, 1) := by decide +kernel
theorem dX8_takeStream_73 : decode cX8_takeStream 73 = .ok (.iload_n 3, 1) := by decide +kernel
theorem dX8_takeStream_74 : decode cX8_takeStream 74 = .ok (.invokevirtual 329, 3) := by decide +kernel
theorem dX8_takeStream_77 : decode cX8_takeStream 77 = .ok (.aload_n 0, 1) := by decide +kernel
theorem dX8_takeStream_78 : decode cX8_takeStream 78 = .ok (.iload_n 1, 1) := by decide +kernel
theorem dX8_takeStream_79 : decode cX8_takeStream 79 = .ok (.iload_n 3, 1) := by decide +kernel
theorem dX8_takeStream_80 : decode cX8_takeStream 80 = .ok (.invokevirtual 260, 3) := by decide +kernel
theorem dX8_takeStream_83 : decode cX8_takeStream 83 = .ok (.istore 7, 2) := by decide +kernel
theorem dX8_takeStream_85 : decode cX8_takeStream 85 = .ok (.lload 5, 2) := by decide +kernel
theorem dX8_takeStream_87 : decode cX8_takeStream 87 = .ok (.aload_n 0, 1) := by decide +kernel
theorem dX8_takeStream_88 : decode cX8_takeStream 88 = .ok (.getfield 75, 3) := by decide +kernel
theorem dX8_takeStream_91 : decode cX8_takeStream 91 = .ok (.iload 4, 2) := by decide +kernel
theorem dX8_takeStream_93 : decode cX8_takeStream 93 = .ok (.laload, 1) := by decide +kernel
theorem dX8_takeStream_94 : decode cX8_takeStream 94 = .ok (.lcmp, 1) := by decide +kernel
theorem dX8_takeStream_95 : decode cX8_takeStream 95 = .ok (.ifCond .le 12, 3) := by decide +kernel
theorem dX8_takeStream_98 : decode cX8_takeStream 98 = .ok (.aload_n 0, 1) := by decide +kernel
theorem dX8_takeStream_99 : decode cX8_takeStream 99 = .ok (.getfield 75, 3) := by decide +kernel
theorem dX8_takeStream_102 : decode cX8_takeStream 102 = .ok (.iload 4, 2) := by decide +kernel
theorem dX8_takeStream_104 : decode cX8_takeStream 104 = .ok (.lload 5, 2) := by decide +kernel
theorem dX8_takeStream_106 : decode cX8_takeStream 106 = .ok (.lastore, 1) := by decide +kernel
theorem dX8_takeStream_107 : decode cX8_takeStream 107 = .ok (.aload_n 0, 1) := by decide +kernel
theorem dX8_takeStream_108 : decode cX8_takeStream 108 = .ok (.getfield 322, 3) := by decide +kernel
theorem dX8_takeStream_111 : decode cX8_takeStream 111 = .ok (.lconst 1, 1) := by decide +kernel
theorem dX8_takeStream_112 : decode cX8_takeStream 112 = .ok (.lcmp, 1) := by decide +kernel
theorem dX8_takeStream_113 : decode cX8_takeStream 113 = .ok (.ifCond .ne 12, 3) := by decide +kernel
theorem dX8_takeStream_116 : decode cX8_takeStream 116 = .ok (.aload_n 0, 1) := by decide +kernel
theorem dX8_takeStream_117 : decode cX8_takeStream 117 = .ok (.getfield 78, 3) := by decide +kernel
theorem dX8_takeStream_120 : decode cX8_takeStream 120 = .ok (.iload 4, 2) := by decide +kernel
theorem dX8_takeStream_122 : decode cX8_takeStream 122 = .ok (.lload 5, 2) := by decide +kernel
theorem dX8_takeStream_124 : decode cX8_takeStream 124 = .ok (.lastore, 1) := by decide +kernel
theorem dX8_takeStream_125 : decode cX8_takeStream 125 = .ok (.iconst 0, 1) := by decide +kernel
theorem dX8_takeStream_126 : decode cX8_takeStream 126 = .ok (.istore 8, 2) := by decide +kernel
theorem dX8_takeStream_128 : decode cX8_takeStream 128 = .ok (.iload 8, 2) := by decide +kernel
theorem dX8_takeStream_130 : decode cX8_takeStream 130 = .ok (.aload_n 0, 1) := by decide +kernel
theorem dX8_takeStream_131 : decode cX8_takeStream 131 = .ok (.getfield 319, 3) := by decide +kernel
theorem dX8_takeStream_134 : decode cX8_takeStream 134 = .ok (.if_icmp .ge 36, 3) := by decide +kernel
theorem dX8_takeStream_137 : decode cX8_takeStream 137 = .ok (.iload 7, 2) := by decide +kernel
theorem dX8_takeStream_139 : decode cX8_takeStream 139 = .ok (.iconst 2, 1) := by decide +kernel
theorem dX8_takeStream_140 : decode cX8_takeStream 140 = .ok (.if_icmp .ge 30, 3) := by decide +kernel
theorem dX8_takeStream_143 : decode cX8_takeStream 143 = .ok (.aload_n 0, 1) := by decide +kernel
theorem dX8_takeStream_144 : decode cX8_takeStream 144 = .ok (.iload_n 1, 1) := by decide +kernel
theorem dX8_takeStream_145 : decode cX8_takeStream 145 = .ok (.iload_n 3, 1) := by decide +kernel
theorem dX8_takeStream_146 : decode cX8_takeStream 146 = .ok (.aload_n 0, 1) := by decide +kernel
theorem dX8_takeStream_147 : decode cX8_takeStream 147 = .ok (.getfield 316, 3) := by decide +kernel
theorem dX8_takeStream_150 : decode cX8_takeStream 150 = .ok (.iload 8, 2) := by decide +kernel
theorem dX8_takeStream_152 : decode cX8_takeStream 152 = .ok (.i2l, 1) := by decide +kernel
theorem dX8_takeStream_153 : decode cX8_takeStream 153 = .ok (.ladd, 1) := by decide +kernel
theorem dX8_takeStream_154 : decode cX8_takeStream 154 = .ok (.aload_n 0, 1) := by decide +kernel
theorem dX8_takeStream_155 : decode cX8_takeStream 155 = .ok (.getfield 139, 3) := by decide +kernel
theorem dX8_takeStream_158 : decode cX8_takeStream 158 = .ok (.iload 8, 2) := by decide +kernel
theorem dX8_takeStream_160 : decode cX8_takeStream 160 = .ok (.baload, 1) := by decide +kernel
theorem dX8_takeStream_161 : decode cX8_takeStream 161 = .ok (.invokevirtual 332, 3) := by decide +kernel
theorem dX8_takeStream_164 : decode cX8_takeStream 164 = .ok (.iinc 8 1, 3) := by decide +kernel
theorem dX8_takeStream_167 : decode cX8_takeStream 167 = .ok (.goto (-39), 3) := by decide +kernel
theorem dX8_takeStream_170 : decode cX8_takeStream 170 = .ok (.aload_n 0, 1) := by decide +kernel
theorem dX8_takeStream_171 : decode cX8_takeStream 171 = .ok (.iload_n 1, 1) := by decide +kernel
theorem dX8_takeStream_172 : decode cX8_takeStream 172 = .ok (.iload_n 3, 1) := by decide +kernel
theorem dX8_takeStream_173 : decode cX8_takeStream 173 = .ok (.invokevirtual 298, 3) := by decide +kernel
theorem dX8_takeStream_176 : decode cX8_takeStream 176 = .ok (.iconst 0, 1) := by decide +kernel
theorem dX8_takeStream_177 : decode cX8_takeStream 177 = .ok (.ireturn, 1) := by decide +kernel
theorem dX8_meant_0 : decode cX8_meant 0 = .ok (.iload_n 1, 1) := by decide +kernel
theorem dX8_meant_1 : decode cX8_meant 1 = .ok (.lload_n 2, 1) := by decide +kernel
theorem dX8_meant_2 : decode cX8_meant 2 = .ok (.invokestatic 185, 3) := by decide +kernel
theorem dX8_meant_5 : decode cX8_meant 5 = .ok (.ifCond .eq 27, 3) := by decide +kernel
theorem dX8_meant_8 : decode cX8_meant 8 = .ok (.lload_n 2, 1) := by decide +kernel
theorem dX8_meant_9 : decode cX8_meant 9 = .ok (.ldc2_w 301, 3) := by decide +kernel
theorem dX8_meant_12 : decode cX8_meant 12 = .ok (.lcmp, 1) := by decide +kernel
theorem dX8_meant_13 : decode cX8_meant 13 = .ok (.ifCond .ge 17, 3) := by decide +kernel
theorem dX8_meant_16 : decode cX8_meant 16 = .ok (.aload_n 0, 1) := by decide +kernel
theorem dX8_meant_17 : decode cX8_meant 17 = .ok (.getfield 51, 3) := by decide +kernel
theorem dX8_meant_20 : decode cX8_meant 20 = .ok (.iload_n 1, 1) := by decide +kernel
theorem dX8_meant_21 : decode cX8_meant 21 = .ok (.lload_n 2, 1) := by decide +kernel
theorem dX8_meant_22 : decode cX8_meant 22 = .ok (.l2i, 1) := by decide +kernel
theorem dX8_meant_23 : decode cX8_meant 23 = .ok (.invokestatic 189, 3) := by decide +kernel
theorem dX8_meant_26 : decode cX8_meant 26 = .ok (.baload, 1) := by decide +kernel
theorem dX8_meant_27 : decode cX8_meant 27 = .ok (.ifCond .ne 5, 3) := by decide +kernel
theorem dX8_meant_30 : decode cX8_meant 30 = .ok (.iconst 5, 1) := by decide +kernel
theorem dX8_meant_31 : decode cX8_meant 31 = .ok (.ireturn, 1) := by decide +kernel
theorem dX8_meant_32 : decode cX8_meant 32 = .ok (.iload 4, 2) := by decide +kernel
theorem dX8_meant_34 : decode cX8_meant 34 = .ok (.ifCond .eq 14, 3) := by decide +kernel
theorem dX8_meant_37 : decode cX8_meant 37 = .ok (.iload_n 1, 1) := by decide +kernel
theorem dX8_meant_38 : decode cX8_meant 38 = .ok (.lload_n 2, 1) := by decide +kernel
theorem dX8_meant_39 : decode cX8_meant 39 = .ok (.invokestatic 197, 3) := by decide +kernel
theorem dX8_meant_42 : decode cX8_meant 42 = .ok (.ifCond .ne 16, 3) := by decide +kernel
theorem dX8_meant_45 : decode cX8_meant 45 = .ok (.goto 11, 3) := by decide +kernel
theorem dX8_meant_48 : decode cX8_meant 48 = .ok (.iload_n 1, 1) := by decide +kernel
theorem dX8_meant_49 : decode cX8_meant 49 = .ok (.lload_n 2, 1) := by decide +kernel
theorem dX8_meant_50 : decode cX8_meant 50 = .ok (.invokestatic 200, 3) := by decide +kernel
theorem dX8_meant_53 : decode cX8_meant 53 = .ok (.ifCond .ne 5, 3) := by decide +kernel
theorem dX8_meant_56 : decode cX8_meant 56 = .ok (.iconst 5, 1) := by decide +kernel
theorem dX8_meant_57 : decode cX8_meant 57 = .ok (.ireturn, 1) := by decide +kernel
theorem dX8_meant_58 : decode cX8_meant 58 = .ok (.iload_n 1, 1) := by decide +kernel
theorem dX8_meant_59 : decode cX8_meant 59 = .ok (.lload_n 2, 1) := by decide +kernel
theorem dX8_meant_60 : decode cX8_meant 60 = .ok (.invokestatic 185, 3) := by decide +kernel
theorem dX8_meant_63 : decode cX8_meant 63 = .ok (.ifCond .ne 30, 3) := by decide +kernel
theorem dX8_meant_66 : decode cX8_meant 66 = .ok (.lload_n 2, 1) := by decide +kernel
theorem dX8_meant_67 : decode cX8_meant 67 = .ok (.ldc2_w 303, 3) := by decide +kernel
theorem dX8_meant_70 : decode cX8_meant 70 = .ok (.ldiv, 1) := by decide +kernel
theorem dX8_meant_71 : decode cX8_meant 71 = .ok (.aload_n 0, 1) := by decide +kernel
theorem dX8_meant_72 : decode cX8_meant 72 = .ok (.getfield 29, 3) := by decide +kernel
theorem dX8_meant_75 : decode cX8_meant 75 = .ok (.iconst 2, 1) := by decide +kernel
theorem dX8_meant_76 : decode cX8_meant 76 = .ok (.iload_n 1, 1) := by decide +kernel
theorem dX8_meant_77 : decode cX8_meant 77 = .ok (.imul, 1) := by decide +kernel
theorem dX8_meant_78 : decode cX8_meant 78 = .ok (.lload_n 2, 1) := by decide +kernel
theorem dX8_meant_79 : decode cX8_meant 79 = .ok (.invokestatic 181, 3) := by decide +kernel
theorem dX8_meant_82 : decode cX8_meant 82 = .ok (.iadd, 1) := by decide +kernel
theorem dX8_meant_83 : decode cX8_meant 83 = .ok (.iaload, 1) := by decide +kernel
theorem dX8_meant_84 : decode cX8_meant 84 = .ok (.i2l, 1) := by decide +kernel
theorem dX8_meant_85 : decode cX8_meant 85 = .ok (.lcmp, 1) := by decide +kernel
theorem dX8_meant_86 : decode cX8_meant 86 = .ok (.ifCond .lt 7, 3) := by decide +kernel
theorem dX8_meant_89 : decode cX8_meant 89 = .ok (.iconst 4, 1) := by decide +kernel
theorem dX8_meant_90 : decode cX8_meant 90 = .ok (.goto 4, 3) := by decide +kernel
theorem dX8_meant_93 : decode cX8_meant 93 = .ok (.iconst 0, 1) := by decide +kernel
theorem dX8_meant_94 : decode cX8_meant 94 = .ok (.ireturn, 1) := by decide +kernel
theorem dX8_reaches_0 : decode cX8_reaches 0 = .ok (.iload_n 1, 1) := by decide +kernel
theorem dX8_reaches_1 : decode cX8_reaches 1 = .ok (.iload_n 2, 1) := by decide +kernel
theorem dX8_reaches_2 : decode cX8_reaches 2 = .ok (.invokestatic 189, 3) := by decide +kernel
theorem dX8_reaches_5 : decode cX8_reaches 5 = .ok (.istore 6, 2) := by decide +kernel
theorem dX8_reaches_7 : decode cX8_reaches 7 = .ok (.aload_n 0, 1) := by decide +kernel
theorem dX8_reaches_8 : decode cX8_reaches 8 = .ok (.getfield 78, 3) := by decide +kernel
theorem dX8_reaches_11 : decode cX8_reaches 11 = .ok (.iload 6, 2) := by decide +kernel
theorem dX8_reaches_13 : decode cX8_reaches 13 = .ok (.laload, 1) := by decide +kernel
theorem dX8_reaches_14 : decode cX8_reaches 14 = .ok (.lconst 0, 1) := by decide +kernel
theorem dX8_reaches_15 : decode cX8_reaches 15 = .ok (.lcmp, 1) := by decide +kernel
theorem dX8_reaches_16 : decode cX8_reaches 16 = .ok (.ifCond .lt 35, 3) := by decide +kernel
theorem dX8_reaches_19 : decode cX8_reaches 19 = .ok (.lload_n 3, 1) := by decide +kernel
theorem dX8_reaches_20 : decode cX8_reaches 20 = .ok (.aload_n 0, 1) := by decide +kernel
theorem dX8_reaches_21 : decode cX8_reaches 21 = .ok (.getfield 78, 3) := by decide +kernel
theorem dX8_reaches_24 : decode cX8_reaches 24 = .ok (.iload 6, 2) := by decide +kernel
theorem dX8_reaches_26 : decode cX8_reaches 26 = .ok (.laload, 1) := by decide +kernel
theorem dX8_reaches_27 : decode cX8_reaches 27 = .ok (.lcmp, 1) := by decide +kernel
theorem dX8_reaches_28 : decode cX8_reaches 28 = .ok (.ifCond .gt 20, 3) := by decide +kernel
theorem dX8_reaches_31 : decode cX8_reaches 31 = .ok (.iload 5, 2) := by decide +kernel
theorem dX8_reaches_33 : decode cX8_reaches 33 = .ok (.ifCond .eq 18, 3) := by decide +kernel
theorem dX8_reaches_36 : decode cX8_reaches 36 = .ok (.lload_n 3, 1) := by decide +kernel
theorem dX8_reaches_37 : decode cX8_reaches 37 = .ok (.aload_n 0, 1) := by decide +kernel
theorem dX8_reaches_38 : decode cX8_reaches 38 = .ok (.getfield 78, 3) := by decide +kernel
theorem dX8_reaches_41 : decode cX8_reaches 41 = .ok (.iload 6, 2) := by decide +kernel
theorem dX8_reaches_43 : decode cX8_reaches 43 = .ok (.laload, 1) := by decide +kernel
theorem dX8_reaches_44 : decode cX8_reaches 44 = .ok (.lcmp, 1) := by decide +kernel
theorem dX8_reaches_45 : decode cX8_reaches 45 = .ok (.ifCond .eq 6, 3) := by decide +kernel
theorem dX8_reaches_48 : decode cX8_reaches 48 = .ok (.bipush 6, 2) := by decide +kernel
theorem dX8_reaches_50 : decode cX8_reaches 50 = .ok (.ireturn, 1) := by decide +kernel
theorem dX8_reaches_51 : decode cX8_reaches 51 = .ok (.iload 5, 2) := by decide +kernel
theorem dX8_reaches_53 : decode cX8_reaches 53 = .ok (.ifCond .eq 18, 3) := by decide +kernel
theorem dX8_reaches_56 : decode cX8_reaches 56 = .ok (.lload_n 3, 1) := by decide +kernel
theorem dX8_reaches_57 : decode cX8_reaches 57 = .ok (.aload_n 0, 1) := by decide +kernel
theorem dX8_reaches_58 : decode cX8_reaches 58 = .ok (.getfield 75, 3) := by decide +kernel
theorem dX8_reaches_61 : decode cX8_reaches 61 = .ok (.iload 6, 2) := by decide +kernel
theorem dX8_reaches_63 : decode cX8_reaches 63 = .ok (.laload, 1) := by decide +kernel
theorem dX8_reaches_64 : decode cX8_reaches 64 = .ok (.lcmp, 1) := by decide +kernel
theorem dX8_reaches_65 : decode cX8_reaches 65 = .ok (.ifCond .ge 6, 3) := by decide +kernel
theorem dX8_reaches_68 : decode cX8_reaches 68 = .ok (.bipush 6, 2) := by decide +kernel
theorem dX8_reaches_70 : decode cX8_reaches 70 = .ok (.ireturn, 1) := by decide +kernel
theorem dX8_reaches_71 : decode cX8_reaches 71 = .ok (.aload_n 0, 1) := by decide +kernel
theorem dX8_reaches_72 : decode cX8_reaches 72 = .ok (.getfield 51, 3) := by decide +kernel
theorem dX8_reaches_75 : decode cX8_reaches 75 = .ok (.iload 6, 2) := by decide +kernel
theorem dX8_reaches_77 : decode cX8_reaches 77 = .ok (.baload, 1) := by decide +kernel
theorem dX8_reaches_78 : decode cX8_reaches 78 = .ok (.ifCond .eq 13, 3) := by decide +kernel
theorem dX8_reaches_81 : decode cX8_reaches 81 = .ok (.aload_n 0, 1) := by decide +kernel
theorem dX8_reaches_82 : decode cX8_reaches 82 = .ok (.getfield 90, 3) := by decide +kernel
theorem dX8_reaches_85 : decode cX8_reaches 85 = .ok (.iload 6, 2) := by decide +kernel
theorem dX8_reaches_87 : decode cX8_reaches 87 = .ok (.laload, 1) := by decide +kernel
theorem dX8_reaches_88 : decode cX8_reaches 88 = .ok (.goto 10, 3) := by decide +kernel
theorem dX8_reaches_91 : decode cX8_reaches 91 = .ok (.aload_n 0, 1) := by decide +kernel
theorem dX8_reaches_92 : decode cX8_reaches 92 = .ok (.iload_n 1, 1) := by decide +kernel
theorem dX8_reaches_93 : decode cX8_reaches 93 = .ok (.iload_n 2, 1) := by decide +kernel
theorem dX8_reaches_94 : decode cX8_reaches 94 = .ok (.invokevirtual 203, 3) := by decide +kernel
theorem dX8_reaches_97 : decode cX8_reaches 97 = .ok (.i2l, 1) := by decide +kernel
theorem dX8_reaches_98 : decode cX8_reaches 98 = .ok (.lstore 7, 2) := by decide +kernel
theorem dX8_reaches_100 : decode cX8_reaches 100 = .ok (.lload_n 3, 1) := by decide +kernel
theorem dX8_reaches_101 : decode cX8_reaches 101 = .ok (.aload_n 0, 1) := by decide +kernel
theorem dX8_reaches_102 : decode cX8_reaches 102 = .ok (.getfield 75, 3) := by decide +kernel
theorem dX8_reaches_105 : decode cX8_reaches 105 = .ok (.iload 6, 2) := by decide +kernel
theorem dX8_reaches_107 : decode cX8_reaches 107 = .ok (.laload, 1) := by decide +kernel
theorem dX8_reaches_108 : decode cX8_reaches 108 = .ok (.lcmp, 1) := by decide +kernel
theorem dX8_reaches_109 : decode cX8_reaches 109 = .ok (.ifCond .le 15, 3) := by decide +kernel
theorem dX8_reaches_112 : decode cX8_reaches 112 = .ok (.lload_n 3, 1) := by decide +kernel
theorem dX8_reaches_113 : decode cX8_reaches 113 = .ok (.aload_n 0, 1) := by decide +kernel
theorem dX8_reaches_114 : decode cX8_reaches 114 = .ok (.getfield 75, 3) := by decide +kernel
theorem dX8_reaches_117 : decode cX8_reaches 117 = .ok (.iload 6, 2) := by decide +kernel
theorem dX8_reaches_119 : decode cX8_reaches 119 = .ok (.laload, 1) := by decide +kernel
theorem dX8_reaches_120 : decode cX8_reaches 120 = .ok (.lsub, 1) := by decide +kernel
theorem dX8_reaches_121 : decode cX8_reaches 121 = .ok (.goto 4, 3) := by decide +kernel
theorem dX8_reaches_124 : decode cX8_reaches 124 = .ok (.lconst 0, 1) := by decide +kernel
theorem dX8_reaches_125 : decode cX8_reaches 125 = .ok (.lstore 9, 2) := by decide +kernel
theorem dX8_reaches_127 : decode cX8_reaches 127 = .ok (.lload_n 3, 1) := by decide +kernel
theorem dX8_reaches_128 : decode cX8_reaches 128 = .ok (.lload 7, 2) := by decide +kernel
theorem dX8_reaches_130 : decode cX8_reaches 130 = .ok (.lcmp, 1) := by decide +kernel
theorem dX8_reaches_131 : decode cX8_reaches 131 = .ok (.ifCond .gt 21, 3) := by decide +kernel
theorem dX8_reaches_134 : decode cX8_reaches 134 = .ok (.aload_n 0, 1) := by decide +kernel
theorem dX8_reaches_135 : decode cX8_reaches 135 = .ok (.iload_n 1, 1) := by decide +kernel
theorem dX8_reaches_136 : decode cX8_reaches 136 = .ok (.invokevirtual 305, 3) := by decide +kernel
theorem dX8_reaches_139 : decode cX8_reaches 139 = .ok (.lload 9, 2) := by decide +kernel
theorem dX8_reaches_141 : decode cX8_reaches 141 = .ok (.ladd, 1) := by decide +kernel
theorem dX8_reaches_142 : decode cX8_reaches 142 = .ok (.aload_n 0, 1) := by decide +kernel
theorem dX8_reaches_143 : decode cX8_reaches 143 = .ok (.getfield 32, 3) := by decide +kernel
theorem dX8_reaches_146 : decode cX8_reaches 146 = .ok (.iload_n 1, 1) := by decide +kernel
theorem dX8_reaches_147 : decode cX8_reaches 147 = .ok (.laload, 1) := by decide +kernel
theorem dX8_reaches_148 : decode cX8_reaches 148 = .ok (.lcmp, 1) := by decide +kernel
theorem dX8_reaches_149 : decode cX8_reaches 149 = .ok (.ifCond .le 7, 3) := by decide +kernel
theorem dX8_reaches_152 : decode cX8_reaches 152 = .ok (.iconst 3, 1) := by decide +kernel
theorem dX8_reaches_153 : decode cX8_reaches 153 = .ok (.goto 4, 3) := by decide +kernel
theorem dX8_reaches_156 : decode cX8_reaches 156 = .ok (.iconst 0, 1) := by decide +kernel
theorem dX8_reaches_157 : decode cX8_reaches 157 = .ok (.ireturn, 1) := by decide +kernel
theorem dX8_received_0 : decode cX8_received 0 = .ok (.lconst 0, 1) := by decide +kernel
theorem dX8_received_1 : decode cX8_received 1 = .ok (.lstore_n 2, 1) := by decide +kernel
theorem dX8_received_2 : decode cX8_received 2 = .ok (.iconst 0, 1) := by decide +kernel
theorem dX8_received_3 : decode cX8_received 3 = .ok (.istore 4, 2) := by decide +kernel
theorem dX8_received_5 : decode cX8_received 5 = .ok (.iload 4, 2) := by decide +kernel
theorem dX8_received_7 : decode cX8_received 7 = .ok (.sipush 256, 3) := by decide +kernel
theorem dX8_received_10 : decode cX8_received 10 = .ok (.if_icmp .ge 23, 3) := by decide +kernel
theorem dX8_received_13 : decode cX8_received 13 = .ok (.lload_n 2, 1) := by decide +kernel
theorem dX8_received_14 : decode cX8_received 14 = .ok (.aload_n 0, 1) := by decide +kernel
theorem dX8_received_15 : decode cX8_received 15 = .ok (.getfield 75, 3) := by decide +kernel
theorem dX8_received_18 : decode cX8_received 18 = .ok (.iload_n 1, 1) := by decide +kernel
theorem dX8_received_19 : decode cX8_received 19 = .ok (.iload 4, 2) := by decide +kernel
theorem dX8_received_21 : decode cX8_received 21 = .ok (.invokestatic 189, 3) := by decide +kernel
theorem dX8_received_24 : decode cX8_received 24 = .ok (.laload, 1) := by decide +kernel
theorem dX8_received_25 : decode cX8_received 25 = .ok (.ladd, 1) := by decide +kernel
theorem dX8_received_26 : decode cX8_received 26 = .ok (.lstore_n 2, 1) := by decide +kernel
theorem dX8_received_27 : decode cX8_received 27 = .ok (.iinc 4 1, 3) := by decide +kernel
theorem dX8_received_30 : decode cX8_received 30 = .ok (.goto (-25), 3) := by decide +kernel
theorem dX8_received_33 : decode cX8_received 33 = .ok (.lload_n 2, 1) := by decide +kernel
theorem dX8_received_34 : decode cX8_received 34 = .ok (.lreturn, 1) := by decide +kernel
theorem dX8_comesThere_0 : decode cX8_comesThere 0 = .ok (.iconst 2, 1) := by decide +kernel
theorem dX8_comesThere_1 : decode cX8_comesThere 1 = .ok (.iload_n 1, 1) := by decide +kernel
theorem dX8_comesThere_2 : decode cX8_comesThere 2 = .ok (.imul, 1) := by decide +kernel
theorem dX8_comesThere_3 : decode cX8_comesThere 3 = .ok (.iload_n 2, 1) := by decide +kernel
theorem dX8_comesThere_4 : decode cX8_comesThere 4 = .ok (.i2l, 1) := by decide +kernel
theorem dX8_comesThere_5 : decode cX8_comesThere 5 = .ok (.invokestatic 181, 3) := by decide +kernel
theorem dX8_comesThere_8 : decode cX8_comesThere 8 = .ok (.iadd, 1) := by decide +kernel
theorem dX8_comesThere_9 : decode cX8_comesThere 9 = .ok (.istore_n 3, 1) := by decide +kernel
theorem dX8_comesThere_10 : decode cX8_comesThere 10 = .ok (.iload_n 1, 1) := by decide +kernel
theorem dX8_comesThere_11 : decode cX8_comesThere 11 = .ok (.iload_n 2, 1) := by decide +kernel
theorem dX8_comesThere_12 : decode cX8_comesThere 12 = .ok (.i2l, 1) := by decide +kernel
theorem dX8_comesThere_13 : decode cX8_comesThere 13 = .ok (.invokestatic 185, 3) := by decide +kernel
theorem dX8_comesThere_16 : decode cX8_comesThere 16 = .ok (.ifCond .eq 4, 3) := by decide +kernel
theorem dX8_comesThere_19 : decode cX8_comesThere 19 = .ok (.return_, 1) := by decide +kernel
theorem dX8_comesThere_20 : decode cX8_comesThere 20 = .ok (.aload_n 0, 1) := by decide +kernel
theorem dX8_comesThere_21 : decode cX8_comesThere 21 = .ok (.getfield 26, 3) := by decide +kernel
theorem dX8_comesThere_24 : decode cX8_comesThere 24 = .ok (.iload_n 3, 1) := by decide +kernel
theorem dX8_comesThere_25 : decode cX8_comesThere 25 = .ok (.iaload, 1) := by decide +kernel
theorem dX8_comesThere_26 : decode cX8_comesThere 26 = .ok (.iload_n 2, 1) := by decide +kernel
theorem dX8_comesThere_27 : decode cX8_comesThere 27 = .ok (.iconst 4, 1) := by decide +kernel
theorem dX8_comesThere_28 : decode cX8_comesThere 28 = .ok (.idiv, 1) := by decide +kernel
theorem dX8_comesThere_29 : decode cX8_comesThere 29 = .ok (.if_icmp .gt 33, 3) := by decide +kernel
theorem dX8_comesThere_32 : decode cX8_comesThere 32 = .ok (.aload_n 0, 1) := by decide +kernel
theorem dX8_comesThere_33 : decode cX8_comesThere 33 = .ok (.iload_n 1, 1) := by decide +kernel
theorem dX8_comesThere_34 : decode cX8_comesThere 34 = .ok (.iconst 4, 1) := by decide +kernel
theorem dX8_comesThere_35 : decode cX8_comesThere 35 = .ok (.aload_n 0, 1) := by decide +kernel
theorem dX8_comesThere_36 : decode cX8_comesThere 36 = .ok (.getfield 26, 3) := by decide +kernel
theorem dX8_comesThere_39 : decode cX8_comesThere 39 = .ok (.iload_n 3, 1) := by decide +kernel
theorem dX8_comesThere_40 : decode cX8_comesThere 40 = .ok (.iaload, 1) := by decide +kernel
theorem dX8_comesThere_41 : decode cX8_comesThere 41 = .ok (.imul, 1) := by decide +kernel
theorem dX8_comesThere_42 : decode cX8_comesThere 42 = .ok (.iload_n 2, 1) := by decide +kernel
theorem dX8_comesThere_43 : decode cX8_comesThere 43 = .ok (.iconst 4, 1) := by decide +kernel
theorem dX8_comesThere_44 : decode cX8_comesThere 44 = .ok (.irem, 1) := by decide +kernel
theorem dX8_comesThere_45 : decode cX8_comesThere 45 = .ok (.iadd, 1) := by decide +kernel
theorem dX8_comesThere_46 : decode cX8_comesThere 46 = .ok (.invokevirtual 268, 3) := by decide +kernel
theorem dX8_comesThere_49 : decode cX8_comesThere 49 = .ok (.aload_n 0, 1) := by decide +kernel
theorem dX8_comesThere_50 : decode cX8_comesThere 50 = .ok (.getfield 26, 3) := by decide +kernel
theorem dX8_comesThere_53 : decode cX8_comesThere 53 = .ok (.iload_n 3, 1) := by decide +kernel
theorem dX8_comesThere_54 : decode cX8_comesThere 54 = .ok (.dup2, 1) := by decide +kernel
theorem dX8_comesThere_55 : decode cX8_comesThere 55 = .ok (.iaload, 1) := by decide +kernel
theorem dX8_comesThere_56 : decode cX8_comesThere 56 = .ok (.iconst 1, 1) := by decide +kernel
theorem dX8_comesThere_57 : decode cX8_comesThere 57 = .ok (.iadd, 1) := by decide +kernel
theorem dX8_comesThere_58 : decode cX8_comesThere 58 = .ok (.iastore, 1) := by decide +kernel
theorem dX8_comesThere_59 : decode cX8_comesThere 59 = .ok (.goto (-39), 3) := by decide +kernel
theorem dX8_comesThere_62 : decode cX8_comesThere 62 = .ok (.return_, 1) := by decide +kernel
theorem dX8_comes_0 : decode cX8_comes 0 = .ok (.lload_n 3, 1) := by decide +kernel
theorem dX8_comes_1 : decode cX8_comes 1 = .ok (.ldc2_w 224, 3) := by decide +kernel
theorem dX8_comes_4 : decode cX8_comes 4 = .ok (.ldiv, 1) := by decide +kernel
theorem dX8_comes_5 : decode cX8_comes 5 = .ok (.l2i, 1) := by decide +kernel
theorem dX8_comes_6 : decode cX8_comes 6 = .ok (.istore 6, 2) := by decide +kernel
theorem dX8_comes_8 : decode cX8_comes 8 = .ok (.aload_n 0, 1) := by decide +kernel
theorem dX8_comes_9 : decode cX8_comes 9 = .ok (.iload_n 1, 1) := by decide +kernel
theorem dX8_comes_10 : decode cX8_comes 10 = .ok (.iload_n 2, 1) := by decide +kernel
theorem dX8_comes_11 : decode cX8_comes 11 = .ok (.iload 6, 2) := by decide +kernel
theorem dX8_comes_13 : decode cX8_comes 13 = .ok (.invokevirtual 226, 3) := by decide +kernel
theorem dX8_comes_16 : decode cX8_comes 16 = .ok (.istore 7, 2) := by decide +kernel
theorem dX8_comes_18 : decode cX8_comes 18 = .ok (.iload 7, 2) := by decide +kernel
theorem dX8_comes_20 : decode cX8_comes 20 = .ok (.ifCond .ge 44, 3) := by decide +kernel
theorem dX8_comes_23 : decode cX8_comes 23 = .ok (.sipush 1408, 3) := by decide +kernel
theorem dX8_comes_26 : decode cX8_comes 26 = .ok (.iload_n 1, 1) := by decide +kernel
theorem dX8_comes_27 : decode cX8_comes 27 = .ok (.imul, 1) := by decide +kernel
theorem dX8_comes_28 : decode cX8_comes 28 = .ok (.aload_n 0, 1) := by decide +kernel
theorem dX8_comes_29 : decode cX8_comes 29 = .ok (.getfield 123, 3) := by decide +kernel
theorem dX8_comes_32 : decode cX8_comes 32 = .ok (.iload_n 1, 1) := by decide +kernel
theorem dX8_comes_33 : decode cX8_comes 33 = .ok (.iaload, 1) := by decide +kernel
theorem dX8_comes_34 : decode cX8_comes 34 = .ok (.iadd, 1) := by decide +kernel
theorem dX8_comes_35 : decode cX8_comes 35 = .ok (.istore 7, 2) := by decide +kernel
theorem dX8_comes_37 : decode cX8_comes 37 = .ok (.aload_n 0, 1) := by decide +kernel
theorem dX8_comes_38 : decode cX8_comes 38 = .ok (.getfield 123, 3) := by decide +kernel
theorem dX8_comes_41 : decode cX8_comes 41 = .ok (.iload_n 1, 1) := by decide +kernel
theorem dX8_comes_42 : decode cX8_comes 42 = .ok (.dup2, 1) := by decide +kernel
theorem dX8_comes_43 : decode cX8_comes 43 = .ok (.iaload, 1) := by decide +kernel
theorem dX8_comes_44 : decode cX8_comes 44 = .ok (.iconst 1, 1) := by decide +kernel
theorem dX8_comes_45 : decode cX8_comes 45 = .ok (.iadd, 1) := by decide +kernel
theorem dX8_comes_46 : decode cX8_comes 46 = .ok (.iastore, 1) := by decide +kernel
theorem dX8_comes_47 : decode cX8_comes 47 = .ok (.aload_n 0, 1) := by decide +kernel
theorem dX8_comes_48 : decode cX8_comes 48 = .ok (.getfield 126, 3) := by decide +kernel
theorem dX8_comes_51 : decode cX8_comes 51 = .ok (.iload 7, 2) := by decide +kernel
theorem dX8_comes_53 : decode cX8_comes 53 = .ok (.iload_n 2, 1) := by decide +kernel
theorem dX8_comes_54 : decode cX8_comes 54 = .ok (.iastore, 1) := by decide +kernel
theorem dX8_comes_55 : decode cX8_comes 55 = .ok (.aload_n 0, 1) := by decide +kernel
theorem dX8_comes_56 : decode cX8_comes 56 = .ok (.getfield 129, 3) := by decide +kernel
theorem dX8_comes_59 : decode cX8_comes 59 = .ok (.iload 7, 2) := by decide +kernel
theorem dX8_comes_61 : decode cX8_comes 61 = .ok (.iload 6, 2) := by decide +kernel
theorem dX8_comes_63 : decode cX8_comes 63 = .ok (.iastore, 1) := by decide +kernel
theorem dX8_comes_64 : decode cX8_comes 64 = .ok (.bipush 64, 2) := by decide +kernel
theorem dX8_comes_66 : decode cX8_comes 66 = .ok (.iload 7, 2) := by decide +kernel
theorem dX8_comes_68 : decode cX8_comes 68 = .ok (.imul, 1) := by decide +kernel
theorem dX8_comes_69 : decode cX8_comes 69 = .ok (.lload_n 3, 1) := by decide +kernel
theorem dX8_comes_70 : decode cX8_comes 70 = .ok (.ldc2_w 224, 3) := by decide +kernel
theorem dX8_comes_73 : decode cX8_comes 73 = .ok (.lrem, 1) := by decide +kernel
theorem dX8_comes_74 : decode cX8_comes 74 = .ok (.l2i, 1) := by decide +kernel
theorem dX8_comes_75 : decode cX8_comes 75 = .ok (.iadd, 1) := by decide +kernel
theorem dX8_comes_76 : decode cX8_comes 76 = .ok (.istore 8, 2) := by decide +kernel
theorem dX8_comes_78 : decode cX8_comes 78 = .ok (.aload_n 0, 1) := by decide +kernel
theorem dX8_comes_79 : decode cX8_comes 79 = .ok (.getfield 136, 3) := by decide +kernel
theorem dX8_comes_82 : decode cX8_comes 82 = .ok (.iload 8, 2) := by decide +kernel
theorem dX8_comes_84 : decode cX8_comes 84 = .ok (.baload, 1) := by decide +kernel
theorem dX8_comes_85 : decode cX8_comes 85 = .ok (.ifCond .eq 4, 3) := by decide +kernel
theorem dX8_comes_88 : decode cX8_comes 88 = .ok (.return_, 1) := by decide +kernel
theorem dX8_comes_89 : decode cX8_comes 89 = .ok (.aload_n 0, 1) := by decide +kernel
theorem dX8_comes_90 : decode cX8_comes 90 = .ok (.getfield 136, 3) := by decide +kernel
theorem dX8_comes_93 : decode cX8_comes 93 = .ok (.iload 8, 2) := by decide +kernel
theorem dX8_comes_95 : decode cX8_comes 95 = .ok (.iconst 1, 1) := by decide +kernel
theorem dX8_comes_96 : decode cX8_comes 96 = .ok (.bastore, 1) := by decide +kernel
theorem dX8_comes_97 : decode cX8_comes 97 = .ok (.aload_n 0, 1) := by decide +kernel
theorem dX8_comes_98 : decode cX8_comes 98 = .ok (.getfield 133, 3) := by decide +kernel
theorem dX8_comes_101 : decode cX8_comes 101 = .ok (.iload 8, 2) := by decide +kernel
theorem dX8_comes_103 : decode cX8_comes 103 = .ok (.iload 5, 2) := by decide +kernel
theorem dX8_comes_105 : decode cX8_comes 105 = .ok (.bastore, 1) := by decide +kernel
theorem dX8_comes_106 : decode cX8_comes 106 = .ok (.return_, 1) := by decide +kernel
theorem dX8_takeReset_0 : decode cX8_takeReset 0 = .ok (.aload_n 0, 1) := by decide +kernel
theorem dX8_takeReset_1 : decode cX8_takeReset 1 = .ok (.iload_n 1, 1) := by decide +kernel
theorem dX8_takeReset_2 : decode cX8_takeReset 2 = .ok (.aload_n 0, 1) := by decide +kernel
theorem dX8_takeReset_3 : decode cX8_takeReset 3 = .ok (.getfield 308, 3) := by decide +kernel
theorem dX8_takeReset_6 : decode cX8_takeReset 6 = .ok (.iconst 0, 1) := by decide +kernel
theorem dX8_takeReset_7 : decode cX8_takeReset 7 = .ok (.invokevirtual 312, 3) := by decide +kernel
theorem dX8_takeReset_10 : decode cX8_takeReset 10 = .ok (.istore_n 2, 1) := by decide +kernel
theorem dX8_takeReset_11 : decode cX8_takeReset 11 = .ok (.iload_n 2, 1) := by decide +kernel
theorem dX8_takeReset_12 : decode cX8_takeReset 12 = .ok (.ifCond .le 5, 3) := by decide +kernel
theorem dX8_takeReset_15 : decode cX8_takeReset 15 = .ok (.iload_n 2, 1) := by decide +kernel
theorem dX8_takeReset_16 : decode cX8_takeReset 16 = .ok (.ireturn, 1) := by decide +kernel
theorem dX8_takeReset_17 : decode cX8_takeReset 17 = .ok (.aload_n 0, 1) := by decide +kernel
theorem dX8_takeReset_18 : decode cX8_takeReset 18 = .ok (.getfield 308, 3) := by decide +kernel
theorem dX8_takeReset_21 : decode cX8_takeReset 21 = .ok (.l2i, 1) := by decide +kernel
theorem dX8_takeReset_22 : decode cX8_takeReset 22 = .ok (.istore_n 3, 1) := by decide +kernel
theorem dX8_takeReset_23 : decode cX8_takeReset 23 = .ok (.iload_n 1, 1) := by decide +kernel
theorem dX8_takeReset_24 : decode cX8_takeReset 24 = .ok (.iload_n 3, 1) := by decide +kernel
theorem dX8_takeReset_25 : decode cX8_takeReset 25 = .ok (.invokestatic 189, 3) := by decide +kernel
theorem dX8_takeReset_28 : decode cX8_takeReset 28 = .ok (.istore 4, 2) := by decide +kernel
theorem dX8_takeReset_30 : decode cX8_takeReset 30 = .ok (.aload_n 0, 1) := by decide +kernel
theorem dX8_takeReset_31 : decode cX8_takeReset 31 = .ok (.iload_n 1, 1) := by decide +kernel
theorem dX8_takeReset_32 : decode cX8_takeReset 32 = .ok (.iload_n 3, 1) := by decide +kernel
theorem dX8_takeReset_33 : decode cX8_takeReset 33 = .ok (.aload_n 0, 1) := by decide +kernel
theorem dX8_takeReset_34 : decode cX8_takeReset 34 = .ok (.getfield 322, 3) := by decide +kernel
theorem dX8_takeReset_37 : decode cX8_takeReset 37 = .ok (.iconst 1, 1) := by decide +kernel
theorem dX8_takeReset_38 : decode cX8_takeReset 38 = .ok (.invokevirtual 325, 3) := by decide +kernel
theorem dX8_takeReset_41 : decode cX8_takeReset 41 = .ok (.istore_n 2, 1) := by decide +kernel
theorem dX8_takeReset_42 : decode cX8_takeReset 42 = .ok (.iload_n 2, 1) := by decide +kernel
theorem dX8_takeReset_43 : decode cX8_takeReset 43 = .ok (.ifCond .le 5, 3) := by decide +kernel
theorem dX8_takeReset_46 : decode cX8_takeReset 46 = .ok (.iload_n 2, 1) := by decide +kernel
theorem dX8_takeReset_47 : decode cX8_takeReset 47 = .ok (.ireturn, 1) := by decide +kernel
theorem dX8_takeReset_48 : decode cX8_takeReset 48 = .ok (.aload_n 0, 1) := by decide +kernel
theorem dX8_takeReset_49 : decode cX8_takeReset 49 = .ok (.iload_n 1, 1) := by decide +kernel
theorem dX8_takeReset_50 : decode cX8_takeReset 50 = .ok (.iload_n 3, 1) := by decide +kernel
theorem dX8_takeReset_51 : decode cX8_takeReset 51 = .ok (.invokevirtual 329, 3) := by decide +kernel
theorem dX8_takeReset_54 : decode cX8_takeReset 54 = .ok (.aload_n 0, 1) := by decide +kernel
theorem dX8_takeReset_55 : decode cX8_takeReset 55 = .ok (.iload_n 1, 1) := by decide +kernel
theorem dX8_takeReset_56 : decode cX8_takeReset 56 = .ok (.iload_n 3, 1) := by decide +kernel
theorem dX8_takeReset_57 : decode cX8_takeReset 57 = .ok (.invokevirtual 260, 3) := by decide +kernel
theorem dX8_takeReset_60 : decode cX8_takeReset 60 = .ok (.istore 5, 2) := by decide +kernel
theorem dX8_takeReset_62 : decode cX8_takeReset 62 = .ok (.aload_n 0, 1) := by decide +kernel
theorem dX8_takeReset_63 : decode cX8_takeReset 63 = .ok (.getfield 75, 3) := by decide +kernel
theorem dX8_takeReset_66 : decode cX8_takeReset 66 = .ok (.iload 4, 2) := by decide +kernel
theorem dX8_takeReset_68 : decode cX8_takeReset 68 = .ok (.aload_n 0, 1) := by decide +kernel
theorem dX8_takeReset_69 : decode cX8_takeReset 69 = .ok (.getfield 322, 3) := by decide +kernel
theorem dX8_takeReset_72 : decode cX8_takeReset 72 = .ok (.lastore, 1) := by decide +kernel
theorem dX8_takeReset_73 : decode cX8_takeReset 73 = .ok (.aload_n 0, 1) := by decide +kernel
theorem dX8_takeReset_74 : decode cX8_takeReset 74 = .ok (.getfield 78, 3) := by decide +kernel
theorem dX8_takeReset_77 : decode cX8_takeReset 77 = .ok (.iload 4, 2) := by decide +kernel
theorem dX8_takeReset_79 : decode cX8_takeReset 79 = .ok (.aload_n 0, 1) := by decide +kernel
theorem dX8_takeReset_80 : decode cX8_takeReset 80 = .ok (.getfield 322, 3) := by decide +kernel
theorem dX8_takeReset_83 : decode cX8_takeReset 83 = .ok (.lastore, 1) := by decide +kernel
theorem dX8_takeReset_84 : decode cX8_takeReset 84 = .ok (.iload 5, 2) := by decide +kernel
theorem dX8_takeReset_86 : decode cX8_takeReset 86 = .ok (.iconst 1, 1) := by decide +kernel
theorem dX8_takeReset_87 : decode cX8_takeReset 87 = .ok (.if_icmp .le 5, 3) := by decide +kernel
theorem dX8_takeReset_90 : decode cX8_takeReset 90 = .ok (.iconst 0, 1) := by decide +kernel
theorem dX8_takeReset_91 : decode cX8_takeReset 91 = .ok (.ireturn, 1) := by decide +kernel
theorem dX8_takeReset_92 : decode cX8_takeReset 92 = .ok (.aload_n 0, 1) := by decide +kernel
theorem dX8_takeReset_93 : decode cX8_takeReset 93 = .ok (.getfield 84, 3) := by decide +kernel
theorem dX8_takeReset_96 : decode cX8_takeReset 96 = .ok (.iload 4, 2) := by decide +kernel
theorem dX8_takeReset_98 : decode cX8_takeReset 98 = .ok (.iconst 1, 1) := by decide +kernel
theorem dX8_takeReset_99 : decode cX8_takeReset 99 = .ok (.bastore, 1) := by decide +kernel
theorem dX8_takeReset_100 : decode cX8_takeReset 100 = .ok (.aload_n 0, 1) := by decide +kernel
theorem dX8_takeReset_101 : decode cX8_takeReset 101 = .ok (.getfield 87, 3) := by decide +kernel
theorem dX8_takeReset_104 : decode cX8_takeReset 104 = .ok (.iload 4, 2) := by decide +kernel
theorem dX8_takeReset_106 : decode cX8_takeReset 106 = .ok (.aload_n 0, 1) := by decide +kernel
theorem dX8_takeReset_107 : decode cX8_takeReset 107 = .ok (.getfield 316, 3) := by decide +kernel
theorem dX8_takeReset_110 : decode cX8_takeReset 110 = .ok (.lastore, 1) := by decide +kernel
theorem dX8_takeReset_111 : decode cX8_takeReset 111 = .ok (.aload_n 0, 1) := by decide +kernel
theorem dX8_takeReset_112 : decode cX8_takeReset 112 = .ok (.iload_n 1, 1) := by decide +kernel
theorem dX8_takeReset_113 : decode cX8_takeReset 113 = .ok (.invokevirtual 291, 3) := by decide +kernel
theorem dX8_takeReset_116 : decode cX8_takeReset 116 = .ok (.aload_n 0, 1) := by decide +kernel
theorem dX8_takeReset_117 : decode cX8_takeReset 117 = .ok (.iload_n 1, 1) := by decide +kernel
theorem dX8_takeReset_118 : decode cX8_takeReset 118 = .ok (.iload_n 3, 1) := by decide +kernel
theorem dX8_takeReset_119 : decode cX8_takeReset 119 = .ok (.invokevirtual 298, 3) := by decide +kernel
theorem dX8_takeReset_122 : decode cX8_takeReset 122 = .ok (.iconst 0, 1) := by decide +kernel
theorem dX8_takeReset_123 : decode cX8_takeReset 123 = .ok (.ireturn, 1) := by decide +kernel
theorem dX8_takeOther_0 : decode cX8_takeOther 0 = .ok (.aload_n 0, 1) := by decide +kernel
theorem dX8_takeOther_1 : decode cX8_takeOther 1 = .ok (.iload_n 1, 1) := by decide +kernel
theorem dX8_takeOther_2 : decode cX8_takeOther 2 = .ok (.aload_n 0, 1) := by decide +kernel
theorem dX8_takeOther_3 : decode cX8_takeOther 3 = .ok (.getfield 308, 3) := by decide +kernel
theorem dX8_takeOther_6 : decode cX8_takeOther 6 = .ok (.aload_n 0, 1) := by decide +kernel
theorem dX8_takeOther_7 : decode cX8_takeOther 7 = .ok (.getfield 336, 3) := by decide +kernel
theorem dX8_takeOther_10 : decode cX8_takeOther 10 = .ok (.bipush 21, 2) := by decide +kernel
theorem dX8_takeOther_12 : decode cX8_takeOther 12 = .ok (.if_icmp .eq 7, 3) := by decide +kernel
theorem dX8_takeOther_15 : decode cX8_takeOther 15 = .ok (.iconst 1, 1) := by decide +kernel
theorem dX8_takeOther_16 : decode cX8_takeOther 16 = .ok (.goto 4, 3) := by decide +kernel
theorem dX8_takeOther_19 : decode cX8_takeOther 19 = .ok (.iconst 0, 1) := by decide +kernel
theorem dX8_takeOther_20 : decode cX8_takeOther 20 = .ok (.invokevirtual 312, 3) := by decide +kernel
theorem dX8_takeOther_23 : decode cX8_takeOther 23 = .ok (.istore_n 2, 1) := by decide +kernel
theorem dX8_takeOther_24 : decode cX8_takeOther 24 = .ok (.iload_n 2, 1) := by decide +kernel
theorem dX8_takeOther_25 : decode cX8_takeOther 25 = .ok (.ifCond .le 5, 3) := by decide +kernel
theorem dX8_takeOther_28 : decode cX8_takeOther 28 = .ok (.iload_n 2, 1) := by decide +kernel
theorem dX8_takeOther_29 : decode cX8_takeOther 29 = .ok (.ireturn, 1) := by decide +kernel
theorem dX8_takeOther_30 : decode cX8_takeOther 30 = .ok (.aload_n 0, 1) := by decide +kernel
theorem dX8_takeOther_31 : decode cX8_takeOther 31 = .ok (.getfield 308, 3) := by decide +kernel
theorem dX8_takeOther_34 : decode cX8_takeOther 34 = .ok (.l2i, 1) := by decide +kernel
theorem dX8_takeOther_35 : decode cX8_takeOther 35 = .ok (.istore_n 3, 1) := by decide +kernel
theorem dX8_takeOther_36 : decode cX8_takeOther 36 = .ok (.aload_n 0, 1) := by decide +kernel
theorem dX8_takeOther_37 : decode cX8_takeOther 37 = .ok (.iload_n 1, 1) := by decide +kernel
theorem dX8_takeOther_38 : decode cX8_takeOther 38 = .ok (.iload_n 3, 1) := by decide +kernel
theorem dX8_takeOther_39 : decode cX8_takeOther 39 = .ok (.invokevirtual 329, 3) := by decide +kernel
theorem dX8_takeOther_42 : decode cX8_takeOther 42 = .ok (.aload_n 0, 1) := by decide +kernel
theorem dX8_takeOther_43 : decode cX8_takeOther 43 = .ok (.getfield 336, 3) := by decide +kernel
theorem dX8_takeOther_46 : decode cX8_takeOther 46 = .ok (.iconst 5, 1) := by decide +kernel
theorem dX8_takeOther_47 : decode cX8_takeOther 47 = .ok (.if_icmp .ne 23, 3) := by decide +kernel
theorem dX8_takeOther_50 : decode cX8_takeOther 50 = .ok (.aload_n 0, 1) := by decide +kernel
theorem dX8_takeOther_51 : decode cX8_takeOther 51 = .ok (.iload_n 1, 1) := by decide +kernel
theorem dX8_takeOther_52 : decode cX8_takeOther 52 = .ok (.iload_n 3, 1) := by decide +kernel
theorem dX8_takeOther_53 : decode cX8_takeOther 53 = .ok (.invokevirtual 221, 3) := by decide +kernel
theorem dX8_takeOther_56 : decode cX8_takeOther 56 = .ok (.iconst 2, 1) := by decide +kernel
theorem dX8_takeOther_57 : decode cX8_takeOther 57 = .ok (.if_icmp .ge 13, 3) := by decide +kernel
theorem dX8_takeOther_60 : decode cX8_takeOther 60 = .ok (.aload_n 0, 1) := by decide +kernel
theorem dX8_takeOther_61 : decode cX8_takeOther 61 = .ok (.iload_n 1, 1) := by decide +kernel
theorem dX8_takeOther_62 : decode cX8_takeOther 62 = .ok (.iload_n 3, 1) := by decide +kernel
theorem dX8_takeOther_63 : decode cX8_takeOther 63 = .ok (.aload_n 0, 1) := by decide +kernel
theorem dX8_takeOther_64 : decode cX8_takeOther 64 = .ok (.getfield 316, 3) := by decide +kernel
theorem dX8_takeOther_67 : decode cX8_takeOther 67 = .ok (.invokevirtual 277, 3) := by decide +kernel
theorem dX8_takeOther_70 : decode cX8_takeOther 70 = .ok (.aload_n 0, 1) := by decide +kernel
theorem dX8_takeOther_71 : decode cX8_takeOther 71 = .ok (.getfield 336, 3) := by decide +kernel
theorem dX8_takeOther_74 : decode cX8_takeOther 74 = .ok (.bipush 17, 2) := by decide +kernel
theorem dX8_takeOther_76 : decode cX8_takeOther 76 = .ok (.if_icmp .ne 30, 3) := by decide +kernel
theorem dX8_takeOther_79 : decode cX8_takeOther 79 = .ok (.aload_n 0, 1) := by decide +kernel
theorem dX8_takeOther_80 : decode cX8_takeOther 80 = .ok (.getfield 54, 3) := by decide +kernel
theorem dX8_takeOther_83 : decode cX8_takeOther 83 = .ok (.iload_n 1, 1) := by decide +kernel
theorem dX8_takeOther_84 : decode cX8_takeOther 84 = .ok (.iload_n 3, 1) := by decide +kernel
theorem dX8_takeOther_85 : decode cX8_takeOther 85 = .ok (.invokestatic 189, 3) := by decide +kernel
theorem dX8_takeOther_88 : decode cX8_takeOther 88 = .ok (.aload_n 0, 1) := by decide +kernel
theorem dX8_takeOther_89 : decode cX8_takeOther 89 = .ok (.getfield 54, 3) := by decide +kernel
theorem dX8_takeOther_92 : decode cX8_takeOther 92 = .ok (.iload_n 1, 1) := by decide +kernel
theorem dX8_takeOther_93 : decode cX8_takeOther 93 = .ok (.iload_n 3, 1) := by decide +kernel
theorem dX8_takeOther_94 : decode cX8_takeOther 94 = .ok (.invokestatic 189, 3) := by decide +kernel
theorem dX8_takeOther_97 : decode cX8_takeOther 97 = .ok (.laload, 1) := by decide +kernel
theorem dX8_takeOther_98 : decode cX8_takeOther 98 = .ok (.aload_n 0, 1) := by decide +kernel
theorem dX8_takeOther_99 : decode cX8_takeOther 99 = .ok (.getfield 316, 3) := by decide +kernel
theorem dX8_takeOther_102 : decode cX8_takeOther 102 = .ok (.invokestatic 339, 3) := by decide +kernel
theorem dX8_takeOther_105 : decode cX8_takeOther 105 = .ok (.lastore, 1) := by decide +kernel
theorem dX8_takeOther_106 : decode cX8_takeOther 106 = .ok (.iconst 0, 1) := by decide +kernel
theorem dX8_takeOther_107 : decode cX8_takeOther 107 = .ok (.ireturn, 1) := by decide +kernel
theorem dX8_greater_0 : decode cX8_greater 0 = .ok (.lload_n 0, 1) := by decide +kernel
theorem dX8_greater_1 : decode cX8_greater 1 = .ok (.lload_n 2, 1) := by decide +kernel
theorem dX8_greater_2 : decode cX8_greater 2 = .ok (.lcmp, 1) := by decide +kernel
theorem dX8_greater_3 : decode cX8_greater 3 = .ok (.ifCond .le 7, 3) := by decide +kernel
theorem dX8_greater_6 : decode cX8_greater 6 = .ok (.lload_n 0, 1) := by decide +kernel
theorem dX8_greater_7 : decode cX8_greater 7 = .ok (.goto 4, 3) := by decide +kernel
theorem dX8_greater_10 : decode cX8_greater 10 = .ok (.lload_n 2, 1) := by decide +kernel
theorem dX8_greater_11 : decode cX8_greater 11 = .ok (.lreturn, 1) := by decide +kernel
theorem dX8_fill_0 : decode cX8_fill 0 = .ok (.aload_n 0, 1) := by decide +kernel
theorem dX8_fill_1 : decode cX8_fill 1 = .ok (.iload_n 1, 1) := by decide +kernel
theorem dX8_fill_2 : decode cX8_fill 2 = .ok (.invokestatic 236, 3) := by decide +kernel
theorem dX8_fill_5 : decode cX8_fill 5 = .ok (.ifCond .ne 15, 3) := by decide +kernel
theorem dX8_fill_8 : decode cX8_fill 8 = .ok (.iload_n 2, 1) := by decide +kernel
theorem dX8_fill_9 : decode cX8_fill 9 = .ok (.iconst 1, 1) := by decide +kernel
theorem dX8_fill_10 : decode cX8_fill 10 = .ok (.if_icmp .lt 10, 3) := by decide +kernel
theorem dX8_fill_13 : decode cX8_fill 13 = .ok (.iload_n 2, 1) := by decide +kernel
theorem dX8_fill_14 : decode cX8_fill 14 = .ok (.sipush 1200, 3) := by decide +kernel
theorem dX8_fill_17 : decode cX8_fill 17 = .ok (.if_icmp .le 7, 3) := by decide +kernel
theorem dX8_fill_20 : decode cX8_fill 20 = .ok (.iconst 1, 1) := by decide +kernel
theorem dX8_fill_21 : decode cX8_fill 21 = .ok (.goto 4, 3) := by decide +kernel
theorem dX8_fill_24 : decode cX8_fill 24 = .ok (.iconst 0, 1) := by decide +kernel
theorem dX8_fill_25 : decode cX8_fill 25 = .ok (.iconst 1, 1) := by decide +kernel
theorem dX8_fill_26 : decode cX8_fill 26 = .ok (.invokevirtual 240, 3) := by decide +kernel
theorem dX8_fill_29 : decode cX8_fill 29 = .ok (.ifCond .ne 30, 3) := by decide +kernel
theorem dX8_fill_32 : decode cX8_fill 32 = .ok (.aload_n 0, 1) := by decide +kernel
theorem dX8_fill_33 : decode cX8_fill 33 = .ok (.aload_n 0, 1) := by decide +kernel
theorem dX8_fill_34 : decode cX8_fill 34 = .ok (.invokevirtual 407, 3) := by decide +kernel
theorem dX8_fill_37 : decode cX8_fill 37 = .ok (.ifCond .lt 10, 3) := by decide +kernel
theorem dX8_fill_40 : decode cX8_fill 40 = .ok (.aload_n 0, 1) := by decide +kernel
theorem dX8_fill_41 : decode cX8_fill 41 = .ok (.getfield 244, 3) := by decide +kernel
theorem dX8_fill_44 : decode cX8_fill 44 = .ok (.ifCond .ne 7, 3) := by decide +kernel
theorem dX8_fill_47 : decode cX8_fill 47 = .ok (.iconst 1, 1) := by decide +kernel
theorem dX8_fill_48 : decode cX8_fill 48 = .ok (.goto 4, 3) := by decide +kernel
theorem dX8_fill_51 : decode cX8_fill 51 = .ok (.iconst 0, 1) := by decide +kernel
theorem dX8_fill_52 : decode cX8_fill 52 = .ok (.iconst 2, 1) := by decide +kernel
theorem dX8_fill_53 : decode cX8_fill 53 = .ok (.invokevirtual 240, 3) := by decide +kernel
theorem dX8_fill_56 : decode cX8_fill 56 = .ok (.ifCond .eq 5, 3) := by decide +kernel
theorem dX8_fill_59 : decode cX8_fill 59 = .ok (.iconst 0, 1) := by decide +kernel
theorem dX8_fill_60 : decode cX8_fill 60 = .ok (.ireturn, 1) := by decide +kernel
theorem dX8_fill_61 : decode cX8_fill 61 = .ok (.aload_n 0, 1) := by decide +kernel
theorem dX8_fill_62 : decode cX8_fill 62 = .ok (.iload_n 1, 1) := by decide +kernel
theorem dX8_fill_63 : decode cX8_fill 63 = .ok (.iload_n 2, 1) := by decide +kernel
theorem dX8_fill_64 : decode cX8_fill 64 = .ok (.invokevirtual 410, 3) := by decide +kernel
theorem dX8_fill_67 : decode cX8_fill 67 = .ok (.ifCond .ne 5, 3) := by decide +kernel
theorem dX8_fill_70 : decode cX8_fill 70 = .ok (.iconst (-1), 1) := by decide +kernel
theorem dX8_fill_71 : decode cX8_fill 71 = .ok (.ireturn, 1) := by decide +kernel
theorem dX8_fill_72 : decode cX8_fill 72 = .ok (.aload_n 0, 1) := by decide +kernel
theorem dX8_fill_73 : decode cX8_fill 73 = .ok (.invokevirtual 407, 3) := by decide +kernel
theorem dX8_fill_76 : decode cX8_fill 76 = .ok (.istore_n 3, 1) := by decide +kernel
theorem dX8_fill_77 : decode cX8_fill 77 = .ok (.aload_n 0, 1) := by decide +kernel
theorem dX8_fill_78 : decode cX8_fill 78 = .ok (.getfield 163, 3) := by decide +kernel
theorem dX8_fill_81 : decode cX8_fill 81 = .ok (.iload_n 3, 1) := by decide +kernel
theorem dX8_fill_82 : decode cX8_fill 82 = .ok (.iconst 1, 1) := by decide +kernel
theorem dX8_fill_83 : decode cX8_fill 83 = .ok (.bastore, 1) := by decide +kernel
theorem dX8_fill_84 : decode cX8_fill 84 = .ok (.aload_n 0, 1) := by decide +kernel
theorem dX8_fill_85 : decode cX8_fill 85 = .ok (.getfield 142, 3) := by decide +kernel
theorem dX8_fill_88 : decode cX8_fill 88 = .ok (.iload_n 3, 1) := by decide +kernel
theorem dX8_fill_89 : decode cX8_fill 89 = .ok (.iload_n 1, 1) := by decide +kernel
theorem dX8_fill_90 : decode cX8_fill 90 = .ok (.iastore, 1) := by decide +kernel
theorem dX8_fill_91 : decode cX8_fill 91 = .ok (.aload_n 0, 1) := by decide +kernel
theorem dX8_fill_92 : decode cX8_fill 92 = .ok (.getfield 145, 3) := by decide +kernel
theorem dX8_fill_95 : decode cX8_fill 95 = .ok (.iload_n 3, 1) := by decide +kernel
theorem dX8_fill_96 : decode cX8_fill 96 = .ok (.aload_n 0, 1) := by decide +kernel
theorem dX8_fill_97 : decode cX8_fill 97 = .ok (.getfield 336, 3) := by decide +kernel
theorem dX8_fill_100 : decode cX8_fill 100 = .ok (.iastore, 1) := by decide +kernel
theorem dX8_fill_101 : decode cX8_fill 101 = .ok (.aload_n 0, 1) := by decide +kernel
theorem dX8_fill_102 : decode cX8_fill 102 = .ok (.getfield 148, 3) := by decide +kernel
theorem dX8_fill_105 : decode cX8_fill 105 = .ok (.iload_n 3, 1) := by decide +kernel
theorem dX8_fill_106 : decode cX8_fill 106 = .ok (.aload_n 0, 1) := by decide +kernel
theorem dX8_fill_107 : decode cX8_fill 107 = .ok (.getfield 308, 3) := by decide +kernel
theorem dX8_fill_110 : decode cX8_fill 110 = .ok (.lastore, 1) := by decide +kernel
theorem dX8_fill_111 : decode cX8_fill 111 = .ok (.aload_n 0, 1) := by decide +kernel
theorem dX8_fill_112 : decode cX8_fill 112 = .ok (.getfield 151, 3) := by decide +kernel
theorem dX8_fill_115 : decode cX8_fill 115 = .ok (.iload_n 3, 1) := by decide +kernel
theorem dX8_fill_116 : decode cX8_fill 116 = .ok (.aload_n 0, 1) := by decide +kernel
theorem dX8_fill_117 : decode cX8_fill 117 = .ok (.getfield 316, 3) := by decide +kernel
theorem dX8_fill_120 : decode cX8_fill 120 = .ok (.lastore, 1) := by decide +kernel
theorem dX8_fill_121 : decode cX8_fill 121 = .ok (.aload_n 0, 1) := by decide +kernel
theorem dX8_fill_122 : decode cX8_fill 122 = .ok (.getfield 154, 3) := by decide +kernel
theorem dX8_fill_125 : decode cX8_fill 125 = .ok (.iload_n 3, 1) := by decide +kernel
theorem dX8_fill_126 : decode cX8_fill 126 = .ok (.aload_n 0, 1) := by decide +kernel
theorem dX8_fill_127 : decode cX8_fill 127 = .ok (.getfield 322, 3) := by decide +kernel
theorem dX8_fill_130 : decode cX8_fill 130 = .ok (.lastore, 1) := by decide +kernel
theorem dX8_fill_131 : decode cX8_fill 131 = .ok (.aload_n 0, 1) := by decide +kernel
theorem dX8_fill_132 : decode cX8_fill 132 = .ok (.getfield 157, 3) := by decide +kernel
theorem dX8_fill_135 : decode cX8_fill 135 = .ok (.iload_n 3, 1) := by decide +kernel
theorem dX8_fill_136 : decode cX8_fill 136 = .ok (.aload_n 0, 1) := by decide +kernel
theorem dX8_fill_137 : decode cX8_fill 137 = .ok (.getfield 319, 3) := by decide +kernel
theorem dX8_fill_140 : decode cX8_fill 140 = .ok (.iastore, 1) := by decide +kernel
theorem dX8_fill_141 : decode cX8_fill 141 = .ok (.aload_n 0, 1) := by decide +kernel
theorem dX8_fill_142 : decode cX8_fill 142 = .ok (.getfield 160, 3) := by decide +kernel
theorem dX8_fill_145 : decode cX8_fill 145 = .ok (.iload_n 3, 1) := by decide +kernel
theorem dX8_fill_146 : decode cX8_fill 146 = .ok (.aload_n 0, 1) := by decide +kernel
theorem dX8_fill_147 : decode cX8_fill 147 = .ok (.invokevirtual 365, 3) := by decide +kernel
theorem dX8_fill_150 : decode cX8_fill 150 = .ok (.iastore, 1) := by decide +kernel
theorem dX8_fill_151 : decode cX8_fill 151 = .ok (.aload_n 0, 1) := by decide +kernel
theorem dX8_fill_152 : decode cX8_fill 152 = .ok (.getfield 166, 3) := by decide +kernel
theorem dX8_fill_155 : decode cX8_fill 155 = .ok (.iload_n 3, 1) := by decide +kernel
theorem dX8_fill_156 : decode cX8_fill 156 = .ok (.iconst 0, 1) := by decide +kernel
theorem dX8_fill_157 : decode cX8_fill 157 = .ok (.iastore, 1) := by decide +kernel
theorem dX8_fill_158 : decode cX8_fill 158 = .ok (.iconst 0, 1) := by decide +kernel
theorem dX8_fill_159 : decode cX8_fill 159 = .ok (.istore 4, 2) := by decide +kernel
theorem dX8_fill_161 : decode cX8_fill 161 = .ok (.iload 4, 2) := by decide +kernel
theorem dX8_fill_163 : decode cX8_fill 163 = .ok (.aload_n 0, 1) := by decide +kernel
theorem dX8_fill_164 : decode cX8_fill 164 = .ok (.getfield 319, 3) := by decide +kernel
theorem dX8_fill_167 : decode cX8_fill 167 = .ok (.if_icmp .ge 29, 3) := by decide +kernel
theorem dX8_fill_170 : decode cX8_fill 170 = .ok (.aload_n 0, 1) := by decide +kernel
theorem dX8_fill_171 : decode cX8_fill 171 = .ok (.getfield 170, 3) := by decide +kernel
theorem dX8_fill_174 : decode cX8_fill 174 = .ok (.sipush 1200, 3) := by decide +kernel
theorem dX8_fill_177 : decode cX8_fill 177 = .ok (.iload_n 3, 1) := by decide +kernel
theorem dX8_fill_178 : decode cX8_fill 178 = .ok (.imul, 1) := by decide +kernel
theorem dX8_fill_179 : decode cX8_fill 179 = .ok (.iload 4, 2) := by decide +kernel
theorem dX8_fill_181 : decode cX8_fill 181 = .ok (.iadd, 1) := by decide +kernel
theorem dX8_fill_182 : decode cX8_fill 182 = .ok (.aload_n 0, 1) := by decide +kernel
theorem dX8_fill_183 : decode cX8_fill 183 = .ok (.getfield 139, 3) := by decide +kernel
theorem dX8_fill_186 : decode cX8_fill 186 = .ok (.iload 4, 2) := by decide +kernel
theorem dX8_fill_188 : decode cX8_fill 188 = .ok (.baload, 1) := by decide +kernel
theorem dX8_fill_189 : decode cX8_fill 189 = .ok (.bastore, 1) := by decide +kernel
theorem dX8_fill_190 : decode cX8_fill 190 = .ok (.iinc 4 1, 3) := by decide +kernel
theorem dX8_fill_193 : decode cX8_fill 193 = .ok (.goto (-32), 3) := by decide +kernel
theorem dX8_fill_196 : decode cX8_fill 196 = .ok (.iload_n 3, 1) := by decide +kernel
theorem dX8_fill_197 : decode cX8_fill 197 = .ok (.ireturn, 1) := by decide +kernel
theorem dX8_freePlace_0 : decode cX8_freePlace 0 = .ok (.iconst 0, 1) := by decide +kernel
theorem dX8_freePlace_1 : decode cX8_freePlace 1 = .ok (.istore_n 1, 1) := by decide +kernel
theorem dX8_freePlace_2 : decode cX8_freePlace 2 = .ok (.iload_n 1, 1) := by decide +kernel
theorem dX8_freePlace_3 : decode cX8_freePlace 3 = .ok (.bipush 64, 2) := by decide +kernel
theorem dX8_freePlace_5 : decode cX8_freePlace 5 = .ok (.if_icmp .ge 20, 3) := by decide +kernel
theorem dX8_freePlace_8 : decode cX8_freePlace 8 = .ok (.aload_n 0, 1) := by decide +kernel
theorem dX8_freePlace_9 : decode cX8_freePlace 9 = .ok (.getfield 163, 3) := by decide +kernel
theorem dX8_freePlace_12 : decode cX8_freePlace 12 = .ok (.iload_n 1, 1) := by decide +kernel
theorem dX8_freePlace_13 : decode cX8_freePlace 13 = .ok (.baload, 1) := by decide +kernel
theorem dX8_freePlace_14 : decode cX8_freePlace 14 = .ok (.ifCond .ne 5, 3) := by decide +kernel
theorem dX8_freePlace_17 : decode cX8_freePlace 17 = .ok (.iload_n 1, 1) := by decide +kernel
theorem dX8_freePlace_18 : decode cX8_freePlace 18 = .ok (.ireturn, 1) := by decide +kernel
theorem dX8_freePlace_19 : decode cX8_freePlace 19 = .ok (.iinc 1 1, 3) := by decide +kernel
theorem dX8_freePlace_22 : decode cX8_freePlace 22 = .ok (.goto (-20), 3) := by decide +kernel
theorem dX8_freePlace_25 : decode cX8_freePlace 25 = .ok (.iconst (-1), 1) := by decide +kernel
theorem dX8_freePlace_26 : decode cX8_freePlace 26 = .ok (.ireturn, 1) := by decide +kernel
theorem dX8_fills_0 : decode cX8_fills 0 = .ok (.aload_n 0, 1) := by decide +kernel
theorem dX8_fills_1 : decode cX8_fills 1 = .ok (.iload_n 1, 1) := by decide +kernel
theorem dX8_fills_2 : decode cX8_fills 2 = .ok (.iload_n 2, 1) := by decide +kernel
theorem dX8_fills_3 : decode cX8_fills 3 = .ok (.invokevirtual 395, 3) := by decide +kernel
theorem dX8_fills_6 : decode cX8_fills 6 = .ok (.ifCond .ne 21, 3) := by decide +kernel
theorem dX8_fills_9 : decode cX8_fills 9 = .ok (.aload_n 0, 1) := by decide +kernel
theorem dX8_fills_10 : decode cX8_fills 10 = .ok (.iload_n 1, 1) := by decide +kernel
theorem dX8_fills_11 : decode cX8_fills 11 = .ok (.iload_n 2, 1) := by decide +kernel
theorem dX8_fills_12 : decode cX8_fills 12 = .ok (.invokevirtual 398, 3) := by decide +kernel
theorem dX8_fills_15 : decode cX8_fills 15 = .ok (.ifCond .ne 12, 3) := by decide +kernel
theorem dX8_fills_18 : decode cX8_fills 18 = .ok (.aload_n 0, 1) := by decide +kernel
theorem dX8_fills_19 : decode cX8_fills 19 = .ok (.iload_n 1, 1) := by decide +kernel
theorem dX8_fills_20 : decode cX8_fills 20 = .ok (.iload_n 2, 1) := by decide +kernel
theorem dX8_fills_21 : decode cX8_fills 21 = .ok (.invokevirtual 401, 3) := by decide +kernel
theorem dX8_fills_24 : decode cX8_fills 24 = .ok (.ifCond .eq 5, 3) := by decide +kernel
theorem dX8_fills_27 : decode cX8_fills 27 = .ok (.iconst 1, 1) := by decide +kernel
theorem dX8_fills_28 : decode cX8_fills 28 = .ok (.ireturn, 1) := by decide +kernel
theorem dX8_fills_29 : decode cX8_fills 29 = .ok (.iconst 1, 1) := by decide +kernel
theorem dX8_fills_30 : decode cX8_fills 30 = .ok (.istore_n 3, 1) := by decide +kernel
theorem dX8_fills_31 : decode cX8_fills 31 = .ok (.iload_n 3, 1) := by decide +kernel
theorem dX8_fills_32 : decode cX8_fills 32 = .ok (.sipush 256, 3) := by decide +kernel
theorem dX8_fills_35 : decode cX8_fills 35 = .ok (.if_icmp .gt 48, 3) := by decide +kernel
theorem dX8_fills_38 : decode cX8_fills 38 = .ok (.aload_n 0, 1) := by decide +kernel
theorem dX8_fills_39 : decode cX8_fills 39 = .ok (.getfield 48, 3) := by decide +kernel
theorem dX8_fills_42 : decode cX8_fills 42 = .ok (.iload_n 1, 1) := by decide +kernel
theorem dX8_fills_43 : decode cX8_fills 43 = .ok (.iaload, 1) := by decide +kernel
theorem dX8_fills_44 : decode cX8_fills 44 = .ok (.iload_n 3, 1) := by decide +kernel
theorem dX8_fills_45 : decode cX8_fills 45 = .ok (.iadd, 1) := by decide +kernel
theorem dX8_fills_46 : decode cX8_fills 46 = .ok (.sipush 256, 3) := by decide +kernel
theorem dX8_fills_49 : decode cX8_fills 49 = .ok (.iadd, 1) := by decide +kernel
theorem dX8_fills_50 : decode cX8_fills 50 = .ok (.sipush 256, 3) := by decide +kernel
theorem dX8_fills_53 : decode cX8_fills 53 = .ok (.irem, 1) := by decide +kernel
theorem dX8_fills_54 : decode cX8_fills 54 = .ok (.istore 4, 2) := by decide +kernel
theorem dX8_fills_56 : decode cX8_fills 56 = .ok (.aload_n 0, 1) := by decide +kernel
theorem dX8_fills_57 : decode cX8_fills 57 = .ok (.iload_n 1, 1) := by decide +kernel
theorem dX8_fills_58 : decode cX8_fills 58 = .ok (.iload 4, 2) := by decide +kernel
theorem dX8_fills_60 : decode cX8_fills 60 = .ok (.iload_n 2, 1) := by decide +kernel
theorem dX8_fills_61 : decode cX8_fills 61 = .ok (.invokevirtual 404, 3) := by decide +kernel
theorem dX8_fills_64 : decode cX8_fills 64 = .ok (.ifCond .eq 13, 3) := by decide +kernel
theorem dX8_fills_67 : decode cX8_fills 67 = .ok (.aload_n 0, 1) := by decide +kernel
theorem dX8_fills_68 : decode cX8_fills 68 = .ok (.getfield 48, 3) := by decide +kernel
theorem dX8_fills_71 : decode cX8_fills 71 = .ok (.iload_n 1, 1) := by decide +kernel
theorem dX8_fills_72 : decode cX8_fills 72 = .ok (.iload 4, 2) := by decide +kernel
theorem dX8_fills_74 : decode cX8_fills 74 = .ok (.iastore, 1) := by decide +kernel
theorem dX8_fills_75 : decode cX8_fills 75 = .ok (.iconst 1, 1) := by decide +kernel
theorem dX8_fills_76 : decode cX8_fills 76 = .ok (.ireturn, 1) := by decide +kernel
theorem dX8_fills_77 : decode cX8_fills 77 = .ok (.iinc 3 1, 3) := by decide +kernel
theorem dX8_fills_80 : decode cX8_fills 80 = .ok (.goto (-49), 3) := by decide +kernel
theorem dX8_fills_83 : decode cX8_fills 83 = .ok (.iconst 0, 1) := by decide +kernel
theorem dX8_fills_84 : decode cX8_fills 84 = .ok (.ireturn, 1) := by decide +kernel
theorem dX8_fillsResets_0 : decode cX8_fillsResets 0 = .ok (.iconst 0, 1) := by decide +kernel
theorem dX8_fillsResets_1 : decode cX8_fillsResets 1 = .ok (.istore_n 3, 1) := by decide +kernel
theorem dX8_fillsResets_2 : decode cX8_fillsResets 2 = .ok (.iload_n 3, 1) := by decide +kernel
theorem dX8_fillsResets_3 : decode cX8_fillsResets 3 = .ok (.sipush 256, 3) := by decide +kernel
theorem dX8_fillsResets_6 : decode cX8_fillsResets 6 = .ok (.if_icmp .ge 72, 3) := by decide +kernel
theorem dX8_fillsResets_9 : decode cX8_fillsResets 9 = .ok (.iload_n 1, 1) := by decide +kernel
theorem dX8_fillsResets_10 : decode cX8_fillsResets 10 = .ok (.iload_n 3, 1) := by decide +kernel
theorem dX8_fillsResets_11 : decode cX8_fillsResets 11 = .ok (.invokestatic 189, 3) := by decide +kernel
theorem dX8_fillsResets_14 : decode cX8_fillsResets 14 = .ok (.istore 4, 2) := by decide +kernel
theorem dX8_fillsResets_16 : decode cX8_fillsResets 16 = .ok (.aload_n 0, 1) := by decide +kernel
theorem dX8_fillsResets_17 : decode cX8_fillsResets 17 = .ok (.getfield 66, 3) := by decide +kernel
theorem dX8_fillsResets_20 : decode cX8_fillsResets 20 = .ok (.iload 4, 2) := by decide +kernel
theorem dX8_fillsResets_22 : decode cX8_fillsResets 22 = .ok (.baload, 1) := by decide +kernel
theorem dX8_fillsResets_23 : decode cX8_fillsResets 23 = .ok (.ifCond .eq 49, 3) := by decide +kernel
theorem dX8_fillsResets_26 : decode cX8_fillsResets 26 = .ok (.aload_n 0, 1) := by decide +kernel
theorem dX8_fillsResets_27 : decode cX8_fillsResets 27 = .ok (.getfield 63, 3) := by decide +kernel
theorem dX8_fillsResets_30 : decode cX8_fillsResets 30 = .ok (.iload 4, 2) := by decide +kernel
theorem dX8_fillsResets_32 : decode cX8_fillsResets 32 = .ok (.iaload, 1) := by decide +kernel
theorem dX8_fillsResets_33 : decode cX8_fillsResets 33 = .ok (.iconst 1, 1) := by decide +kernel
theorem dX8_fillsResets_34 : decode cX8_fillsResets 34 = .ok (.if_icmp .ne 38, 3) := by decide +kernel
theorem dX8_fillsResets_37 : decode cX8_fillsResets 37 = .ok (.aload_n 0, 1) := by decide +kernel
theorem dX8_fillsResets_38 : decode cX8_fillsResets 38 = .ok (.iconst 4, 1) := by decide +kernel
theorem dX8_fillsResets_39 : decode cX8_fillsResets 39 = .ok (.iload_n 3, 1) := by decide +kernel
theorem dX8_fillsResets_40 : decode cX8_fillsResets 40 = .ok (.i2l, 1) := by decide +kernel
theorem dX8_fillsResets_41 : decode cX8_fillsResets 41 = .ok (.aload_n 0, 1) := by decide +kernel
theorem dX8_fillsResets_42 : decode cX8_fillsResets 42 = .ok (.getfield 69, 3) := by decide +kernel
theorem dX8_fillsResets_45 : decode cX8_fillsResets 45 = .ok (.iload 4, 2) := by decide +kernel
theorem dX8_fillsResets_47 : decode cX8_fillsResets 47 = .ok (.laload, 1) := by decide +kernel
theorem dX8_fillsResets_48 : decode cX8_fillsResets 48 = .ok (.aload_n 0, 1) := by decide +kernel
theorem dX8_fillsResets_49 : decode cX8_fillsResets 49 = .ok (.iload_n 1, 1) := by decide +kernel
theorem dX8_fillsResets_50 : decode cX8_fillsResets 50 = .ok (.iload_n 3, 1) := by decide +kernel
theorem dX8_fillsResets_51 : decode cX8_fillsResets 51 = .ok (.invokevirtual 369, 3) := by decide +kernel
theorem dX8_fillsResets_54 : decode cX8_fillsResets 54 = .ok (.i2l, 1) := by decide +kernel
theorem dX8_fillsResets_55 : decode cX8_fillsResets 55 = .ok (.iload_n 2, 1) := by decide +kernel
theorem dX8_fillsResets_56 : decode cX8_fillsResets 56 = .ok (.invokevirtual 372, 3) := by decide +kernel
theorem dX8_fillsResets_59 : decode cX8_fillsResets 59 = .ok (.ifCond .eq 13, 3) := by decide +kernel
theorem dX8_fillsResets_62 : decode cX8_fillsResets 62 = .ok (.aload_n 0, 1) := by decide +kernel
theorem dX8_fillsResets_63 : decode cX8_fillsResets 63 = .ok (.getfield 66, 3) := by decide +kernel
theorem dX8_fillsResets_66 : decode cX8_fillsResets 66 = .ok (.iload 4, 2) := by decide +kernel
theorem dX8_fillsResets_68 : decode cX8_fillsResets 68 = .ok (.iconst 0, 1) := by decide +kernel
theorem dX8_fillsResets_69 : decode cX8_fillsResets 69 = .ok (.bastore, 1) := by decide +kernel
theorem dX8_fillsResets_70 : decode cX8_fillsResets 70 = .ok (.iconst 1, 1) := by decide +kernel
theorem dX8_fillsResets_71 : decode cX8_fillsResets 71 = .ok (.ireturn, 1) := by decide +kernel
theorem dX8_fillsResets_72 : decode cX8_fillsResets 72 = .ok (.iinc 3 1, 3) := by decide +kernel
theorem dX8_fillsResets_75 : decode cX8_fillsResets 75 = .ok (.goto (-73), 3) := by decide +kernel
theorem dX8_fillsResets_78 : decode cX8_fillsResets 78 = .ok (.iconst 0, 1) := by decide +kernel
theorem dX8_fillsResets_79 : decode cX8_fillsResets 79 = .ok (.istore_n 3, 1) := by decide +kernel
theorem dX8_fillsResets_80 : decode cX8_fillsResets 80 = .ok (.iload_n 3, 1) := by decide +kernel
theorem dX8_fillsResets_81 : decode cX8_fillsResets 81 = .ok (.sipush 256, 3) := by decide +kernel
theorem dX8_fillsResets_84 : decode cX8_fillsResets 84 = .ok (.if_icmp .ge 65, 3) := by decide +kernel
theorem dX8_fillsResets_87 : decode cX8_fillsResets 87 = .ok (.iload_n 1, 1) := by decide +kernel
theorem dX8_fillsResets_88 : decode cX8_fillsResets 88 = .ok (.iload_n 3, 1) := by decide +kernel
theorem dX8_fillsResets_89 : decode cX8_fillsResets 89 = .ok (.invokestatic 189, 3) := by decide +kernel
theorem dX8_fillsResets_92 : decode cX8_fillsResets 92 = .ok (.istore 4, 2) := by decide +kernel
theorem dX8_fillsResets_94 : decode cX8_fillsResets 94 = .ok (.aload_n 0, 1) := by decide +kernel
theorem dX8_fillsResets_95 : decode cX8_fillsResets 95 = .ok (.getfield 99, 3) := by decide +kernel
theorem dX8_fillsResets_98 : decode cX8_fillsResets 98 = .ok (.iload 4, 2) := by decide +kernel
theorem dX8_fillsResets_100 : decode cX8_fillsResets 100 = .ok (.baload, 1) := by decide +kernel
theorem dX8_fillsResets_101 : decode cX8_fillsResets 101 = .ok (.ifCond .eq 42, 3) := by decide +kernel
theorem dX8_fillsResets_104 : decode cX8_fillsResets 104 = .ok (.aload_n 0, 1) := by decide +kernel
theorem dX8_fillsResets_105 : decode cX8_fillsResets 105 = .ok (.iload_n 1, 1) := by decide +kernel
theorem dX8_fillsResets_106 : decode cX8_fillsResets 106 = .ok (.iload_n 3, 1) := by decide +kernel
theorem dX8_fillsResets_107 : decode cX8_fillsResets 107 = .ok (.invokevirtual 260, 3) := by decide +kernel
theorem dX8_fillsResets_110 : decode cX8_fillsResets 110 = .ok (.iconst 2, 1) := by decide +kernel
theorem dX8_fillsResets_111 : decode cX8_fillsResets 111 = .ok (.if_icmp .ge 32, 3) := by decide +kernel
theorem dX8_fillsResets_114 : decode cX8_fillsResets 114 = .ok (.aload_n 0, 1) := by decide +kernel
theorem dX8_fillsResets_115 : decode cX8_fillsResets 115 = .ok (.iconst 5, 1) := by decide +kernel
theorem dX8_fillsResets_116 : decode cX8_fillsResets 116 = .ok (.iload_n 3, 1) := by decide +kernel
theorem dX8_fillsResets_117 : decode cX8_fillsResets 117 = .ok (.i2l, 1) := by decide +kernel
theorem dX8_fillsResets_118 : decode cX8_fillsResets 118 = .ok (.aload_n 0, 1) := by decide +kernel
theorem dX8_fillsResets_119 : decode cX8_fillsResets 119 = .ok (.getfield 102, 3) := by decide +kernel
theorem dX8_fillsResets_122 : decode cX8_fillsResets 122 = .ok (.iload 4, 2) := by decide +kernel
theorem dX8_fillsResets_124 : decode cX8_fillsResets 124 = .ok (.laload, 1) := by decide +kernel
theorem dX8_fillsResets_125 : decode cX8_fillsResets 125 = .ok (.lconst 0, 1) := by decide +kernel
theorem dX8_fillsResets_126 : decode cX8_fillsResets 126 = .ok (.iload_n 2, 1) := by decide +kernel
theorem dX8_fillsResets_127 : decode cX8_fillsResets 127 = .ok (.invokevirtual 372, 3) := by decide +kernel
theorem dX8_fillsResets_130 : decode cX8_fillsResets 130 = .ok (.ifCond .eq 13, 3) := by decide +kernel
theorem dX8_fillsResets_133 : decode cX8_fillsResets 133 = .ok (.aload_n 0, 1) := by decide +kernel
theorem dX8_fillsResets_134 : decode cX8_fillsResets 134 = .ok (.getfield 99, 3) := by decide +kernel
theorem dX8_fillsResets_137 : decode cX8_fillsResets 137 = .ok (.iload 4, 2) := by decide +kernel
theorem dX8_fillsResets_139 : decode cX8_fillsResets 139 = .ok (.iconst 0, 1) := by decide +kernel
theorem dX8_fillsResets_140 : decode cX8_fillsResets 140 = .ok (.bastore, 1) := by decide +kernel
theorem dX8_fillsResets_141 : decode cX8_fillsResets 141 = .ok (.iconst 1, 1) := by decide +kernel
theorem dX8_fillsResets_142 : decode cX8_fillsResets 142 = .ok (.ireturn, 1) := by decide +kernel
theorem dX8_fillsResets_143 : decode cX8_fillsResets 143 = .ok (.iinc 3 1, 3) := by decide +kernel
theorem dX8_fillsResets_146 : decode cX8_fillsResets 146 = .ok (.goto (-66), 3) := by decide +kernel
theorem dX8_fillsResets_149 : decode cX8_fillsResets 149 = .ok (.iconst 0, 1) := by decide +kernel
theorem dX8_fillsResets_150 : decode cX8_fillsResets 150 = .ok (.ireturn, 1) := by decide +kernel
theorem dX8_sent_0 : decode cX8_sent 0 = .ok (.aload_n 0, 1) := by decide +kernel
theorem dX8_sent_1 : decode cX8_sent 1 = .ok (.iload_n 1, 1) := by decide +kernel
theorem dX8_sent_2 : decode cX8_sent 2 = .ok (.iload_n 2, 1) := by decide +kernel
theorem dX8_sent_3 : decode cX8_sent 3 = .ok (.bipush (-2), 2) := by decide +kernel
theorem dX8_sent_5 : decode cX8_sent 5 = .ok (.invokevirtual 210, 3) := by decide +kernel
theorem dX8_sent_8 : decode cX8_sent 8 = .ok (.ireturn, 1) := by decide +kernel
theorem dX8_lays_0 : decode cX8_lays 0 = .ok (.aload_n 0, 1) := by decide +kernel
theorem dX8_lays_1 : decode cX8_lays 1 = .ok (.iload_n 1, 1) := by decide +kernel
theorem dX8_lays_2 : decode cX8_lays 2 = .ok (.putfield 336, 3) := by decide +kernel
theorem dX8_lays_5 : decode cX8_lays 5 = .ok (.aload_n 0, 1) := by decide +kernel
theorem dX8_lays_6 : decode cX8_lays 6 = .ok (.lload_n 2, 1) := by decide +kernel
theorem dX8_lays_7 : decode cX8_lays 7 = .ok (.putfield 308, 3) := by decide +kernel
theorem dX8_lays_10 : decode cX8_lays 10 = .ok (.aload_n 0, 1) := by decide +kernel
theorem dX8_lays_11 : decode cX8_lays 11 = .ok (.lload 4, 2) := by decide +kernel
theorem dX8_lays_13 : decode cX8_lays 13 = .ok (.putfield 316, 3) := by decide +kernel
theorem dX8_lays_16 : decode cX8_lays 16 = .ok (.aload_n 0, 1) := by decide +kernel
theorem dX8_lays_17 : decode cX8_lays 17 = .ok (.lload 6, 2) := by decide +kernel
theorem dX8_lays_19 : decode cX8_lays 19 = .ok (.putfield 322, 3) := by decide +kernel
theorem dX8_lays_22 : decode cX8_lays 22 = .ok (.aload_n 0, 1) := by decide +kernel
theorem dX8_lays_23 : decode cX8_lays 23 = .ok (.iconst 0, 1) := by decide +kernel
theorem dX8_lays_24 : decode cX8_lays 24 = .ok (.putfield 319, 3) := by decide +kernel
theorem dX8_lays_27 : decode cX8_lays 27 = .ok (.aload_n 0, 1) := by decide +kernel
theorem dX8_lays_28 : decode cX8_lays 28 = .ok (.invokevirtual 365, 3) := by decide +kernel
theorem dX8_lays_31 : decode cX8_lays 31 = .ok (.iload 8, 2) := by decide +kernel
theorem dX8_lays_33 : decode cX8_lays 33 = .ok (.if_icmp .gt 7, 3) := by decide +kernel
theorem dX8_lays_36 : decode cX8_lays 36 = .ok (.iconst 1, 1) := by decide +kernel
theorem dX8_lays_37 : decode cX8_lays 37 = .ok (.goto 4, 3) := by decide +kernel
theorem dX8_lays_40 : decode cX8_lays 40 = .ok (.iconst 0, 1) := by decide +kernel
theorem dX8_lays_41 : decode cX8_lays 41 = .ok (.ireturn, 1) := by decide +kernel
theorem dX8_bytes_0 : decode cX8_bytes 0 = .ok (.aload_n 0, 1) := by decide +kernel
theorem dX8_bytes_1 : decode cX8_bytes 1 = .ok (.getfield 336, 3) := by decide +kernel
theorem dX8_bytes_4 : decode cX8_bytes 4 = .ok (.bipush 8, 2) := by decide +kernel
theorem dX8_bytes_6 : decode cX8_bytes 6 = .ok (.if_icmp .ne 48, 3) := by decide +kernel
theorem dX8_bytes_9 : decode cX8_bytes 9 = .ok (.iconst 1, 1) := by decide +kernel
theorem dX8_bytes_10 : decode cX8_bytes 10 = .ok (.aload_n 0, 1) := by decide +kernel
theorem dX8_bytes_11 : decode cX8_bytes 11 = .ok (.getfield 308, 3) := by decide +kernel
theorem dX8_bytes_14 : decode cX8_bytes 14 = .ok (.invokestatic 362, 3) := by decide +kernel
theorem dX8_bytes_17 : decode cX8_bytes 17 = .ok (.iadd, 1) := by decide +kernel
theorem dX8_bytes_18 : decode cX8_bytes 18 = .ok (.aload_n 0, 1) := by decide +kernel
theorem dX8_bytes_19 : decode cX8_bytes 19 = .ok (.getfield 316, 3) := by decide +kernel
theorem dX8_bytes_22 : decode cX8_bytes 22 = .ok (.lconst 0, 1) := by decide +kernel
theorem dX8_bytes_23 : decode cX8_bytes 23 = .ok (.lcmp, 1) := by decide +kernel
theorem dX8_bytes_24 : decode cX8_bytes 24 = .ok (.ifCond .le 13, 3) := by decide +kernel
theorem dX8_bytes_27 : decode cX8_bytes 27 = .ok (.aload_n 0, 1) := by decide +kernel
theorem dX8_bytes_28 : decode cX8_bytes 28 = .ok (.getfield 316, 3) := by decide +kernel
theorem dX8_bytes_31 : decode cX8_bytes 31 = .ok (.invokestatic 362, 3) := by decide +kernel
theorem dX8_bytes_34 : decode cX8_bytes 34 = .ok (.goto 4, 3) := by decide +kernel
theorem dX8_bytes_37 : decode cX8_bytes 37 = .ok (.iconst 0, 1) := by decide +kernel
theorem dX8_bytes_38 : decode cX8_bytes 38 = .ok (.iadd, 1) := by decide +kernel
theorem dX8_bytes_39 : decode cX8_bytes 39 = .ok (.aload_n 0, 1) := by decide +kernel
theorem dX8_bytes_40 : decode cX8_bytes 40 = .ok (.getfield 319, 3) := by decide +kernel
theorem dX8_bytes_43 : decode cX8_bytes 43 = .ok (.i2l, 1) := by decide +kernel
theorem dX8_bytes_44 : decode cX8_bytes 44 = .ok (.invokestatic 362, 3) := by decide +kernel
theorem dX8_bytes_47 : decode cX8_bytes 47 = .ok (.iadd, 1) := by decide +kernel
theorem dX8_bytes_48 : decode cX8_bytes 48 = .ok (.aload_n 0, 1) := by decide +kernel
theorem dX8_bytes_49 : decode cX8_bytes 49 = .ok (.getfield 319, 3) := by decide +kernel
theorem dX8_bytes_52 : decode cX8_bytes 52 = .ok (.iadd, 1) := by decide +kernel
theorem dX8_bytes_53 : decode cX8_bytes 53 = .ok (.ireturn, 1) := by decide +kernel
theorem dX8_bytes_54 : decode cX8_bytes 54 = .ok (.iconst 1, 1) := by decide +kernel
theorem dX8_bytes_55 : decode cX8_bytes 55 = .ok (.aload_n 0, 1) := by decide +kernel
theorem dX8_bytes_56 : decode cX8_bytes 56 = .ok (.getfield 308, 3) := by decide +kernel
theorem dX8_bytes_59 : decode cX8_bytes 59 = .ok (.invokestatic 362, 3) := by decide +kernel
theorem dX8_bytes_62 : decode cX8_bytes 62 = .ok (.iadd, 1) := by decide +kernel
theorem dX8_bytes_63 : decode cX8_bytes 63 = .ok (.istore_n 1, 1) := by decide +kernel
theorem dX8_bytes_64 : decode cX8_bytes 64 = .ok (.aload_n 0, 1) := by decide +kernel
theorem dX8_bytes_65 : decode cX8_bytes 65 = .ok (.getfield 336, 3) := by decide +kernel
theorem dX8_bytes_68 : decode cX8_bytes 68 = .ok (.iconst 4, 1) := by decide +kernel
theorem dX8_bytes_69 : decode cX8_bytes 69 = .ok (.if_icmp .eq 29, 3) := by decide +kernel
theorem dX8_bytes_72 : decode cX8_bytes 72 = .ok (.aload_n 0, 1) := by decide +kernel
theorem dX8_bytes_73 : decode cX8_bytes 73 = .ok (.getfield 336, 3) := by decide +kernel
theorem dX8_bytes_76 : decode cX8_bytes 76 = .ok (.iconst 5, 1) := by decide +kernel
theorem dX8_bytes_77 : decode cX8_bytes 77 = .ok (.if_icmp .eq 21, 3) := by decide +kernel
theorem dX8_bytes_80 : decode cX8_bytes 80 = .ok (.aload_n 0, 1) := by decide +kernel
theorem dX8_bytes_81 : decode cX8_bytes 81 = .ok (.getfield 336, 3) := by decide +kernel
theorem dX8_bytes_84 : decode cX8_bytes 84 = .ok (.bipush 17, 2) := by decide +kernel
theorem dX8_bytes_86 : decode cX8_bytes 86 = .ok (.if_icmp .eq 12, 3) := by decide +kernel
theorem dX8_bytes_89 : decode cX8_bytes 89 = .ok (.aload_n 0, 1) := by decide +kernel
theorem dX8_bytes_90 : decode cX8_bytes 90 = .ok (.getfield 336, 3) := by decide +kernel
theorem dX8_bytes_93 : decode cX8_bytes 93 = .ok (.bipush 21, 2) := by decide +kernel
theorem dX8_bytes_95 : decode cX8_bytes 95 = .ok (.if_icmp .ne 13, 3) := by decide +kernel
theorem dX8_bytes_98 : decode cX8_bytes 98 = .ok (.iload_n 1, 1) := by decide +kernel
theorem dX8_bytes_99 : decode cX8_bytes 99 = .ok (.aload_n 0, 1) := by decide +kernel
theorem dX8_bytes_100 : decode cX8_bytes 100 = .ok (.getfield 316, 3) := by decide +kernel
theorem dX8_bytes_103 : decode cX8_bytes 103 = .ok (.invokestatic 362, 3) := by decide +kernel
theorem dX8_bytes_106 : decode cX8_bytes 106 = .ok (.iadd, 1) := by decide +kernel
theorem dX8_bytes_107 : decode cX8_bytes 107 = .ok (.istore_n 1, 1) := by decide +kernel
theorem dX8_bytes_108 : decode cX8_bytes 108 = .ok (.aload_n 0, 1) := by decide +kernel
theorem dX8_bytes_109 : decode cX8_bytes 109 = .ok (.getfield 336, 3) := by decide +kernel
theorem dX8_bytes_112 : decode cX8_bytes 112 = .ok (.iconst 4, 1) := by decide +kernel
theorem dX8_bytes_113 : decode cX8_bytes 113 = .ok (.if_icmp .ne 15, 3) := by decide +kernel
theorem dX8_bytes_116 : decode cX8_bytes 116 = .ok (.iload_n 1, 1) := by decide +kernel
theorem dX8_bytes_117 : decode cX8_bytes 117 = .ok (.aload_n 0, 1) := by decide +kernel
theorem dX8_bytes_118 : decode cX8_bytes 118 = .ok (.getfield 322, 3) := by decide +kernel
theorem dX8_bytes_121 : decode cX8_bytes 121 = .ok (.invokestatic 362, 3) := by decide +kernel
theorem dX8_bytes_124 : decode cX8_bytes 124 = .ok (.iadd, 1) := by decide +kernel
theorem dX8_bytes_125 : decode cX8_bytes 125 = .ok (.goto 4, 3) := by decide +kernel
theorem dX8_bytes_128 : decode cX8_bytes 128 = .ok (.iload_n 1, 1) := by decide +kernel
theorem dX8_bytes_129 : decode cX8_bytes 129 = .ok (.ireturn, 1) := by decide +kernel
theorem dX8_sizeOf_0 : decode cX8_sizeOf 0 = .ok (.lload_n 0, 1) := by decide +kernel
theorem dX8_sizeOf_1 : decode cX8_sizeOf 1 = .ok (.ldc2_w 224, 3) := by decide +kernel
theorem dX8_sizeOf_4 : decode cX8_sizeOf 4 = .ok (.lcmp, 1) := by decide +kernel
theorem dX8_sizeOf_5 : decode cX8_sizeOf 5 = .ok (.ifCond .ge 7, 3) := by decide +kernel
theorem dX8_sizeOf_8 : decode cX8_sizeOf 8 = .ok (.iconst 1, 1) := by decide +kernel
theorem dX8_sizeOf_9 : decode cX8_sizeOf 9 = .ok (.goto 29, 3) := by decide +kernel
theorem dX8_sizeOf_12 : decode cX8_sizeOf 12 = .ok (.lload_n 0, 1) := by decide +kernel
theorem dX8_sizeOf_13 : decode cX8_sizeOf 13 = .ok (.ldc2_w 358, 3) := by decide +kernel
theorem dX8_sizeOf_16 : decode cX8_sizeOf 16 = .ok (.lcmp, 1) := by decide +kernel
theorem dX8_sizeOf_17 : decode cX8_sizeOf 17 = .ok (.ifCond .ge 7, 3) := by decide +kernel
theorem dX8_sizeOf_20 : decode cX8_sizeOf 20 = .ok (.iconst 2, 1) := by decide +kernel
theorem dX8_sizeOf_21 : decode cX8_sizeOf 21 = .ok (.goto 17, 3) := by decide +kernel
theorem dX8_sizeOf_24 : decode cX8_sizeOf 24 = .ok (.lload_n 0, 1) := by decide +kernel
theorem dX8_sizeOf_25 : decode cX8_sizeOf 25 = .ok (.ldc2_w 360, 3) := by decide +kernel
theorem dX8_sizeOf_28 : decode cX8_sizeOf 28 = .ok (.lcmp, 1) := by decide +kernel
theorem dX8_sizeOf_29 : decode cX8_sizeOf 29 = .ok (.ifCond .ge 7, 3) := by decide +kernel
theorem dX8_sizeOf_32 : decode cX8_sizeOf 32 = .ok (.iconst 4, 1) := by decide +kernel
theorem dX8_sizeOf_33 : decode cX8_sizeOf 33 = .ok (.goto 5, 3) := by decide +kernel
theorem dX8_sizeOf_36 : decode cX8_sizeOf 36 = .ok (.bipush 8, 2) := by decide +kernel
theorem dX8_sizeOf_38 : decode cX8_sizeOf 38 = .ok (.ireturn, 1) := by decide +kernel
theorem dX8_fillsGrants_0 : decode cX8_fillsGrants 0 = .ok (.aload_n 0, 1) := by decide +kernel
theorem dX8_fillsGrants_1 : decode cX8_fillsGrants 1 = .ok (.getfield 35, 3) := by decide +kernel
theorem dX8_fillsGrants_4 : decode cX8_fillsGrants 4 = .ok (.iload_n 1, 1) := by decide +kernel
theorem dX8_fillsGrants_5 : decode cX8_fillsGrants 5 = .ok (.baload, 1) := by decide +kernel
theorem dX8_fillsGrants_6 : decode cX8_fillsGrants 6 = .ok (.ifCond .eq 30, 3) := by decide +kernel
theorem dX8_fillsGrants_9 : decode cX8_fillsGrants 9 = .ok (.aload_n 0, 1) := by decide +kernel
theorem dX8_fillsGrants_10 : decode cX8_fillsGrants 10 = .ok (.bipush 16, 2) := by decide +kernel
theorem dX8_fillsGrants_12 : decode cX8_fillsGrants 12 = .ok (.aload_n 0, 1) := by decide +kernel
theorem dX8_fillsGrants_13 : decode cX8_fillsGrants 13 = .ok (.getfield 32, 3) := by decide +kernel
theorem dX8_fillsGrants_16 : decode cX8_fillsGrants 16 = .ok (.iload_n 1, 1) := by decide +kernel
theorem dX8_fillsGrants_17 : decode cX8_fillsGrants 17 = .ok (.laload, 1) := by decide +kernel
theorem dX8_fillsGrants_18 : decode cX8_fillsGrants 18 = .ok (.lconst 0, 1) := by decide +kernel
theorem dX8_fillsGrants_19 : decode cX8_fillsGrants 19 = .ok (.lconst 0, 1) := by decide +kernel
theorem dX8_fillsGrants_20 : decode cX8_fillsGrants 20 = .ok (.iload_n 2, 1) := by decide +kernel
theorem dX8_fillsGrants_21 : decode cX8_fillsGrants 21 = .ok (.invokevirtual 372, 3) := by decide +kernel
theorem dX8_fillsGrants_24 : decode cX8_fillsGrants 24 = .ok (.ifCond .eq 12, 3) := by decide +kernel
theorem dX8_fillsGrants_27 : decode cX8_fillsGrants 27 = .ok (.aload_n 0, 1) := by decide +kernel
theorem dX8_fillsGrants_28 : decode cX8_fillsGrants 28 = .ok (.getfield 35, 3) := by decide +kernel
theorem dX8_fillsGrants_31 : decode cX8_fillsGrants 31 = .ok (.iload_n 1, 1) := by decide +kernel
theorem dX8_fillsGrants_32 : decode cX8_fillsGrants 32 = .ok (.iconst 0, 1) := by decide +kernel
theorem dX8_fillsGrants_33 : decode cX8_fillsGrants 33 = .ok (.bastore, 1) := by decide +kernel
theorem dX8_fillsGrants_34 : decode cX8_fillsGrants 34 = .ok (.iconst 1, 1) := by decide +kernel
theorem dX8_fillsGrants_35 : decode cX8_fillsGrants 35 = .ok (.ireturn, 1) := by decide +kernel
theorem dX8_fillsGrants_36 : decode cX8_fillsGrants 36 = .ok (.iconst 0, 1) := by decide +kernel
theorem dX8_fillsGrants_37 : decode cX8_fillsGrants 37 = .ok (.istore_n 3, 1) := by decide +kernel
theorem dX8_fillsGrants_38 : decode cX8_fillsGrants 38 = .ok (.iload_n 3, 1) := by decide +kernel
theorem dX8_fillsGrants_39 : decode cX8_fillsGrants 39 = .ok (.sipush 256, 3) := by decide +kernel
theorem dX8_fillsGrants_42 : decode cX8_fillsGrants 42 = .ok (.if_icmp .ge 65, 3) := by decide +kernel
theorem dX8_fillsGrants_45 : decode cX8_fillsGrants 45 = .ok (.iload_n 1, 1) := by decide +kernel
theorem dX8_fillsGrants_46 : decode cX8_fillsGrants 46 = .ok (.iload_n 3, 1) := by decide +kernel
theorem dX8_fillsGrants_47 : decode cX8_fillsGrants 47 = .ok (.invokestatic 189, 3) := by decide +kernel
theorem dX8_fillsGrants_50 : decode cX8_fillsGrants 50 = .ok (.istore 4, 2) := by decide +kernel
theorem dX8_fillsGrants_52 : decode cX8_fillsGrants 52 = .ok (.aload_n 0, 1) := by decide +kernel
theorem dX8_fillsGrants_53 : decode cX8_fillsGrants 53 = .ok (.getfield 93, 3) := by decide +kernel
theorem dX8_fillsGrants_56 : decode cX8_fillsGrants 56 = .ok (.iload 4, 2) := by decide +kernel
theorem dX8_fillsGrants_58 : decode cX8_fillsGrants 58 = .ok (.baload, 1) := by decide +kernel
theorem dX8_fillsGrants_59 : decode cX8_fillsGrants 59 = .ok (.ifCond .eq 42, 3) := by decide +kernel
theorem dX8_fillsGrants_62 : decode cX8_fillsGrants 62 = .ok (.aload_n 0, 1) := by decide +kernel
theorem dX8_fillsGrants_63 : decode cX8_fillsGrants 63 = .ok (.iload_n 1, 1) := by decide +kernel
theorem dX8_fillsGrants_64 : decode cX8_fillsGrants 64 = .ok (.iload_n 3, 1) := by decide +kernel
theorem dX8_fillsGrants_65 : decode cX8_fillsGrants 65 = .ok (.invokevirtual 260, 3) := by decide +kernel
theorem dX8_fillsGrants_68 : decode cX8_fillsGrants 68 = .ok (.ifCond .ne 33, 3) := by decide +kernel
theorem dX8_fillsGrants_71 : decode cX8_fillsGrants 71 = .ok (.aload_n 0, 1) := by decide +kernel
theorem dX8_fillsGrants_72 : decode cX8_fillsGrants 72 = .ok (.bipush 17, 2) := by decide +kernel
theorem dX8_fillsGrants_74 : decode cX8_fillsGrants 74 = .ok (.iload_n 3, 1) := by decide +kernel
theorem dX8_fillsGrants_75 : decode cX8_fillsGrants 75 = .ok (.i2l, 1) := by decide +kernel
theorem dX8_fillsGrants_76 : decode cX8_fillsGrants 76 = .ok (.aload_n 0, 1) := by decide +kernel
theorem dX8_fillsGrants_77 : decode cX8_fillsGrants 77 = .ok (.getfield 90, 3) := by decide +kernel
theorem dX8_fillsGrants_80 : decode cX8_fillsGrants 80 = .ok (.iload 4, 2) := by decide +kernel
theorem dX8_fillsGrants_82 : decode cX8_fillsGrants 82 = .ok (.laload, 1) := by decide +kernel
theorem dX8_fillsGrants_83 : decode cX8_fillsGrants 83 = .ok (.lconst 0, 1) := by decide +kernel
theorem dX8_fillsGrants_84 : decode cX8_fillsGrants 84 = .ok (.iload_n 2, 1) := by decide +kernel
theorem dX8_fillsGrants_85 : decode cX8_fillsGrants 85 = .ok (.invokevirtual 372, 3) := by decide +kernel
theorem dX8_fillsGrants_88 : decode cX8_fillsGrants 88 = .ok (.ifCond .eq 13, 3) := by decide +kernel
theorem dX8_fillsGrants_91 : decode cX8_fillsGrants 91 = .ok (.aload_n 0, 1) := by decide +kernel
theorem dX8_fillsGrants_92 : decode cX8_fillsGrants 92 = .ok (.getfield 93, 3) := by decide +kernel
theorem dX8_fillsGrants_95 : decode cX8_fillsGrants 95 = .ok (.iload 4, 2) := by decide +kernel
theorem dX8_fillsGrants_97 : decode cX8_fillsGrants 97 = .ok (.iconst 0, 1) := by decide +kernel
theorem dX8_fillsGrants_98 : decode cX8_fillsGrants 98 = .ok (.bastore, 1) := by decide +kernel
theorem dX8_fillsGrants_99 : decode cX8_fillsGrants 99 = .ok (.iconst 1, 1) := by decide +kernel
theorem dX8_fillsGrants_100 : decode cX8_fillsGrants 100 = .ok (.ireturn, 1) := by decide +kernel
theorem dX8_fillsGrants_101 : decode cX8_fillsGrants 101 = .ok (.iinc 3 1, 3) := by decide +kernel
theorem dX8_fillsGrants_104 : decode cX8_fillsGrants 104 = .ok (.goto (-66), 3) := by decide +kernel
theorem dX8_fillsGrants_107 : decode cX8_fillsGrants 107 = .ok (.iconst 0, 1) := by decide +kernel
theorem dX8_fillsGrants_108 : decode cX8_fillsGrants 108 = .ok (.istore_n 3, 1) := by decide +kernel
theorem dX8_fillsGrants_109 : decode cX8_fillsGrants 109 = .ok (.iload_n 3, 1) := by decide +kernel
theorem dX8_fillsGrants_110 : decode cX8_fillsGrants 110 = .ok (.iconst 2, 1) := by decide +kernel
theorem dX8_fillsGrants_111 : decode cX8_fillsGrants 111 = .ok (.if_icmp .ge 60, 3) := by decide +kernel
theorem dX8_fillsGrants_114 : decode cX8_fillsGrants 114 = .ok (.aload_n 0, 1) := by decide +kernel
theorem dX8_fillsGrants_115 : decode cX8_fillsGrants 115 = .ok (.getfield 39, 3) := by decide +kernel
theorem dX8_fillsGrants_118 : decode cX8_fillsGrants 118 = .ok (.iconst 2, 1) := by decide +kernel
theorem dX8_fillsGrants_119 : decode cX8_fillsGrants 119 = .ok (.iload_n 1, 1) := by decide +kernel
theorem dX8_fillsGrants_120 : decode cX8_fillsGrants 120 = .ok (.imul, 1) := by decide +kernel
theorem dX8_fillsGrants_121 : decode cX8_fillsGrants 121 = .ok (.iload_n 3, 1) := by decide +kernel
theorem dX8_fillsGrants_122 : decode cX8_fillsGrants 122 = .ok (.iadd, 1) := by decide +kernel
theorem dX8_fillsGrants_123 : decode cX8_fillsGrants 123 = .ok (.baload, 1) := by decide +kernel
theorem dX8_fillsGrants_124 : decode cX8_fillsGrants 124 = .ok (.ifCond .eq 41, 3) := by decide +kernel
theorem dX8_fillsGrants_127 : decode cX8_fillsGrants 127 = .ok (.aload_n 0, 1) := by decide +kernel
theorem dX8_fillsGrants_128 : decode cX8_fillsGrants 128 = .ok (.bipush 18, 2) := by decide +kernel
theorem dX8_fillsGrants_130 : decode cX8_fillsGrants 130 = .ok (.iload_n 3, 1) := by decide +kernel
theorem dX8_fillsGrants_131 : decode cX8_fillsGrants 131 = .ok (.iadd, 1) := by decide +kernel
theorem dX8_fillsGrants_132 : decode cX8_fillsGrants 132 = .ok (.aload_n 0, 1) := by decide +kernel
theorem dX8_fillsGrants_133 : decode cX8_fillsGrants 133 = .ok (.getfield 29, 3) := by decide +kernel
theorem dX8_fillsGrants_136 : decode cX8_fillsGrants 136 = .ok (.iconst 2, 1) := by decide +kernel
theorem dX8_fillsGrants_137 : decode cX8_fillsGrants 137 = .ok (.iload_n 1, 1) := by decide +kernel
theorem dX8_fillsGrants_138 : decode cX8_fillsGrants 138 = .ok (.imul, 1) := by decide +kernel
theorem dX8_fillsGrants_139 : decode cX8_fillsGrants 139 = .ok (.iload_n 3, 1) := by decide +kernel
theorem dX8_fillsGrants_140 : decode cX8_fillsGrants 140 = .ok (.iadd, 1) := by decide +kernel
theorem dX8_fillsGrants_141 : decode cX8_fillsGrants 141 = .ok (.iaload, 1) := by decide +kernel
theorem dX8_fillsGrants_142 : decode cX8_fillsGrants 142 = .ok (.i2l, 1) := by decide +kernel
theorem dX8_fillsGrants_143 : decode cX8_fillsGrants 143 = .ok (.lconst 0, 1) := by decide +kernel
theorem dX8_fillsGrants_144 : decode cX8_fillsGrants 144 = .ok (.lconst 0, 1) := by decide +kernel
theorem dX8_fillsGrants_145 : decode cX8_fillsGrants 145 = .ok (.iload_n 2, 1) := by decide +kernel
theorem dX8_fillsGrants_146 : decode cX8_fillsGrants 146 = .ok (.invokevirtual 372, 3) := by decide +kernel
theorem dX8_fillsGrants_149 : decode cX8_fillsGrants 149 = .ok (.ifCond .eq 16, 3) := by decide +kernel
theorem dX8_fillsGrants_152 : decode cX8_fillsGrants 152 = .ok (.aload_n 0, 1) := by decide +kernel
theorem dX8_fillsGrants_153 : decode cX8_fillsGrants 153 = .ok (.getfield 39, 3) := by decide +kernel
theorem dX8_fillsGrants_156 : decode cX8_fillsGrants 156 = .ok (.iconst 2, 1) := by decide +kernel
theorem dX8_fillsGrants_157 : decode cX8_fillsGrants 157 = .ok (.iload_n 1, 1) := by decide +kernel
theorem dX8_fillsGrants_158 : decode cX8_fillsGrants 158 = .ok (.imul, 1) := by decide +kernel
theorem dX8_fillsGrants_159 : decode cX8_fillsGrants 159 = .ok (.iload_n 3, 1) := by decide +kernel
theorem dX8_fillsGrants_160 : decode cX8_fillsGrants 160 = .ok (.iadd, 1) := by decide +kernel
theorem dX8_fillsGrants_161 : decode cX8_fillsGrants 161 = .ok (.iconst 0, 1) := by decide +kernel
theorem dX8_fillsGrants_162 : decode cX8_fillsGrants 162 = .ok (.bastore, 1) := by decide +kernel
theorem dX8_fillsGrants_163 : decode cX8_fillsGrants 163 = .ok (.iconst 1, 1) := by decide +kernel
theorem dX8_fillsGrants_164 : decode cX8_fillsGrants 164 = .ok (.ireturn, 1) := by decide +kernel
theorem dX8_fillsGrants_165 : decode cX8_fillsGrants 165 = .ok (.iinc 3 1, 3) := by decide +kernel
theorem dX8_fillsGrants_168 : decode cX8_fillsGrants 168 = .ok (.goto (-59), 3) := by decide +kernel
theorem dX8_fillsGrants_171 : decode cX8_fillsGrants 171 = .ok (.iconst 0, 1) := by decide +kernel
theorem dX8_fillsGrants_172 : decode cX8_fillsGrants 172 = .ok (.ireturn, 1) := by decide +kernel
theorem dX8_fillsBlocked_0 : decode cX8_fillsBlocked 0 = .ok (.iconst 0, 1) := by decide +kernel
theorem dX8_fillsBlocked_1 : decode cX8_fillsBlocked 1 = .ok (.istore_n 3, 1) := by decide +kernel
theorem dX8_fillsBlocked_2 : decode cX8_fillsBlocked 2 = .ok (.iconst 0, 1) := by decide +kernel
theorem dX8_fillsBlocked_3 : decode cX8_fillsBlocked 3 = .ok (.istore 4, 2) := by decide +kernel
theorem dX8_fillsBlocked_5 : decode cX8_fillsBlocked 5 = .ok (.iload 4, 2) := by decide +kernel
theorem dX8_fillsBlocked_7 : decode cX8_fillsBlocked 7 = .ok (.sipush 256, 3) := by decide +kernel
theorem dX8_fillsBlocked_10 : decode cX8_fillsBlocked 10 = .ok (.if_icmp .ge 21, 3) := by decide +kernel
theorem dX8_fillsBlocked_13 : decode cX8_fillsBlocked 13 = .ok (.iload_n 3, 1) := by decide +kernel
theorem dX8_fillsBlocked_14 : decode cX8_fillsBlocked 14 = .ok (.ifCond .ne 17, 3) := by decide +kernel
theorem dX8_fillsBlocked_17 : decode cX8_fillsBlocked 17 = .ok (.aload_n 0, 1) := by decide +kernel
theorem dX8_fillsBlocked_18 : decode cX8_fillsBlocked 18 = .ok (.iload_n 1, 1) := by decide +kernel
theorem dX8_fillsBlocked_19 : decode cX8_fillsBlocked 19 = .ok (.iload 4, 2) := by decide +kernel
theorem dX8_fillsBlocked_21 : decode cX8_fillsBlocked 21 = .ok (.invokevirtual 376, 3) := by decide +kernel
theorem dX8_fillsBlocked_24 : decode cX8_fillsBlocked 24 = .ok (.istore_n 3, 1) := by decide +kernel
theorem dX8_fillsBlocked_25 : decode cX8_fillsBlocked 25 = .ok (.iinc 4 1, 3) := by decide +kernel
theorem dX8_fillsBlocked_28 : decode cX8_fillsBlocked 28 = .ok (.goto (-23), 3) := by decide +kernel
theorem dX8_fillsBlocked_31 : decode cX8_fillsBlocked 31 = .ok (.iload_n 3, 1) := by decide +kernel
theorem dX8_fillsBlocked_32 : decode cX8_fillsBlocked 32 = .ok (.ifCond .eq 79, 3) := by decide +kernel
theorem dX8_fillsBlocked_35 : decode cX8_fillsBlocked 35 = .ok (.aload_n 0, 1) := by decide +kernel
theorem dX8_fillsBlocked_36 : decode cX8_fillsBlocked 36 = .ok (.iload_n 1, 1) := by decide +kernel
theorem dX8_fillsBlocked_37 : decode cX8_fillsBlocked 37 = .ok (.invokevirtual 379, 3) := by decide +kernel
theorem dX8_fillsBlocked_40 : decode cX8_fillsBlocked 40 = .ok (.i2l, 1) := by decide +kernel
theorem dX8_fillsBlocked_41 : decode cX8_fillsBlocked 41 = .ok (.aload_n 0, 1) := by decide +kernel
theorem dX8_fillsBlocked_42 : decode cX8_fillsBlocked 42 = .ok (.getfield 19, 3) := by decide +kernel
theorem dX8_fillsBlocked_45 : decode cX8_fillsBlocked 45 = .ok (.iconst 3, 1) := by decide +kernel
theorem dX8_fillsBlocked_46 : decode cX8_fillsBlocked 46 = .ok (.iload_n 1, 1) := by decide +kernel
theorem dX8_fillsBlocked_47 : decode cX8_fillsBlocked 47 = .ok (.imul, 1) := by decide +kernel
theorem dX8_fillsBlocked_48 : decode cX8_fillsBlocked 48 = .ok (.laload, 1) := by decide +kernel
theorem dX8_fillsBlocked_49 : decode cX8_fillsBlocked 49 = .ok (.lcmp, 1) := by decide +kernel
theorem dX8_fillsBlocked_50 : decode cX8_fillsBlocked 50 = .ok (.ifCond .ne 61, 3) := by decide +kernel
theorem dX8_fillsBlocked_53 : decode cX8_fillsBlocked 53 = .ok (.aload_n 0, 1) := by decide +kernel
theorem dX8_fillsBlocked_54 : decode cX8_fillsBlocked 54 = .ok (.getfield 42, 3) := by decide +kernel
theorem dX8_fillsBlocked_57 : decode cX8_fillsBlocked 57 = .ok (.iconst 3, 1) := by decide +kernel
theorem dX8_fillsBlocked_58 : decode cX8_fillsBlocked 58 = .ok (.iload_n 1, 1) := by decide +kernel
theorem dX8_fillsBlocked_59 : decode cX8_fillsBlocked 59 = .ok (.imul, 1) := by decide +kernel
theorem dX8_fillsBlocked_60 : decode cX8_fillsBlocked 60 = .ok (.laload, 1) := by decide +kernel
theorem dX8_fillsBlocked_61 : decode cX8_fillsBlocked 61 = .ok (.aload_n 0, 1) := by decide +kernel
theorem dX8_fillsBlocked_62 : decode cX8_fillsBlocked 62 = .ok (.getfield 19, 3) := by decide +kernel
theorem dX8_fillsBlocked_65 : decode cX8_fillsBlocked 65 = .ok (.iconst 3, 1) := by decide +kernel
theorem dX8_fillsBlocked_66 : decode cX8_fillsBlocked 66 = .ok (.iload_n 1, 1) := by decide +kernel
theorem dX8_fillsBlocked_67 : decode cX8_fillsBlocked 67 = .ok (.imul, 1) := by decide +kernel
theorem dX8_fillsBlocked_68 : decode cX8_fillsBlocked 68 = .ok (.laload, 1) := by decide +kernel
theorem dX8_fillsBlocked_69 : decode cX8_fillsBlocked 69 = .ok (.lcmp, 1) := by decide +kernel
theorem dX8_fillsBlocked_70 : decode cX8_fillsBlocked 70 = .ok (.ifCond .eq 41, 3) := by decide +kernel
theorem dX8_fillsBlocked_73 : decode cX8_fillsBlocked 73 = .ok (.aload_n 0, 1) := by decide +kernel
theorem dX8_fillsBlocked_74 : decode cX8_fillsBlocked 74 = .ok (.bipush 20, 2) := by decide +kernel
theorem dX8_fillsBlocked_76 : decode cX8_fillsBlocked 76 = .ok (.aload_n 0, 1) := by decide +kernel
theorem dX8_fillsBlocked_77 : decode cX8_fillsBlocked 77 = .ok (.getfield 19, 3) := by decide +kernel
theorem dX8_fillsBlocked_80 : decode cX8_fillsBlocked 80 = .ok (.iconst 3, 1) := by decide +kernel
theorem dX8_fillsBlocked_81 : decode cX8_fillsBlocked 81 = .ok (.iload_n 1, 1) := by decide +kernel
theorem dX8_fillsBlocked_82 : decode cX8_fillsBlocked 82 = .ok (.imul, 1) := by decide +kernel
theorem dX8_fillsBlocked_83 : decode cX8_fillsBlocked 83 = .ok (.laload, 1) := by decide +kernel
theorem dX8_fillsBlocked_84 : decode cX8_fillsBlocked 84 = .ok (.lconst 0, 1) := by decide +kernel
theorem dX8_fillsBlocked_85 : decode cX8_fillsBlocked 85 = .ok (.lconst 0, 1) := by decide +kernel
theorem dX8_fillsBlocked_86 : decode cX8_fillsBlocked 86 = .ok (.iload_n 2, 1) := by decide +kernel
theorem dX8_fillsBlocked_87 : decode cX8_fillsBlocked 87 = .ok (.invokevirtual 372, 3) := by decide +kernel
theorem dX8_fillsBlocked_90 : decode cX8_fillsBlocked 90 = .ok (.ifCond .eq 21, 3) := by decide +kernel
theorem dX8_fillsBlocked_93 : decode cX8_fillsBlocked 93 = .ok (.aload_n 0, 1) := by decide +kernel
theorem dX8_fillsBlocked_94 : decode cX8_fillsBlocked 94 = .ok (.getfield 42, 3) := by decide +kernel
theorem dX8_fillsBlocked_97 : decode cX8_fillsBlocked 97 = .ok (.iconst 3, 1) := by decide +kernel
theorem dX8_fillsBlocked_98 : decode cX8_fillsBlocked 98 = .ok (.iload_n 1, 1) := by decide +kernel
theorem dX8_fillsBlocked_99 : decode cX8_fillsBlocked 99 = .ok (.imul, 1) := by decide +kernel
theorem dX8_fillsBlocked_100 : decode cX8_fillsBlocked 100 = .ok (.aload_n 0, 1) := by decide +kernel
theorem dX8_fillsBlocked_101 : decode cX8_fillsBlocked 101 = .ok (.getfield 19, 3) := by decide +kernel
theorem dX8_fillsBlocked_104 : decode cX8_fillsBlocked 104 = .ok (.iconst 3, 1) := by decide +kernel
theorem dX8_fillsBlocked_105 : decode cX8_fillsBlocked 105 = .ok (.iload_n 1, 1) := by decide +kernel
theorem dX8_fillsBlocked_106 : decode cX8_fillsBlocked 106 = .ok (.imul, 1) := by decide +kernel
theorem dX8_fillsBlocked_107 : decode cX8_fillsBlocked 107 = .ok (.laload, 1) := by decide +kernel
theorem dX8_fillsBlocked_108 : decode cX8_fillsBlocked 108 = .ok (.lastore, 1) := by decide +kernel
theorem dX8_fillsBlocked_109 : decode cX8_fillsBlocked 109 = .ok (.iconst 1, 1) := by decide +kernel
theorem dX8_fillsBlocked_110 : decode cX8_fillsBlocked 110 = .ok (.ireturn, 1) := by decide +kernel
theorem dX8_fillsBlocked_111 : decode cX8_fillsBlocked 111 = .ok (.iconst 0, 1) := by decide +kernel
theorem dX8_fillsBlocked_112 : decode cX8_fillsBlocked 112 = .ok (.istore 4, 2) := by decide +kernel
theorem dX8_fillsBlocked_114 : decode cX8_fillsBlocked 114 = .ok (.iload 4, 2) := by decide +kernel
theorem dX8_fillsBlocked_116 : decode cX8_fillsBlocked 116 = .ok (.sipush 256, 3) := by decide +kernel
theorem dX8_fillsBlocked_119 : decode cX8_fillsBlocked 119 = .ok (.if_icmp .ge 101, 3) := by decide +kernel
theorem dX8_fillsBlocked_122 : decode cX8_fillsBlocked 122 = .ok (.iload_n 1, 1) := by decide +kernel
theorem dX8_fillsBlocked_123 : decode cX8_fillsBlocked 123 = .ok (.iload 4, 2) := by decide +kernel
theorem dX8_fillsBlocked_125 : decode cX8_fillsBlocked 125 = .ok (.invokestatic 189, 3) := by decide +kernel
theorem dX8_fillsBlocked_128 : decode cX8_fillsBlocked 128 = .ok (.istore 5, 2) := by decide +kernel
theorem dX8_fillsBlocked_130 : decode cX8_fillsBlocked 130 = .ok (.aload_n 0, 1) := by decide +kernel
theorem dX8_fillsBlocked_131 : decode cX8_fillsBlocked 131 = .ok (.iload_n 1, 1) := by decide +kernel
theorem dX8_fillsBlocked_132 : decode cX8_fillsBlocked 132 = .ok (.iload 4, 2) := by decide +kernel
theorem dX8_fillsBlocked_134 : decode cX8_fillsBlocked 134 = .ok (.invokevirtual 376, 3) := by decide +kernel
theorem dX8_fillsBlocked_137 : decode cX8_fillsBlocked 137 = .ok (.ifCond .eq 77, 3) := by decide +kernel
theorem dX8_fillsBlocked_140 : decode cX8_fillsBlocked 140 = .ok (.aload_n 0, 1) := by decide +kernel
theorem dX8_fillsBlocked_141 : decode cX8_fillsBlocked 141 = .ok (.iload_n 1, 1) := by decide +kernel
theorem dX8_fillsBlocked_142 : decode cX8_fillsBlocked 142 = .ok (.iload 4, 2) := by decide +kernel
theorem dX8_fillsBlocked_144 : decode cX8_fillsBlocked 144 = .ok (.invokevirtual 369, 3) := by decide +kernel
theorem dX8_fillsBlocked_147 : decode cX8_fillsBlocked 147 = .ok (.i2l, 1) := by decide +kernel
theorem dX8_fillsBlocked_148 : decode cX8_fillsBlocked 148 = .ok (.aload_n 0, 1) := by decide +kernel
theorem dX8_fillsBlocked_149 : decode cX8_fillsBlocked 149 = .ok (.getfield 54, 3) := by decide +kernel
theorem dX8_fillsBlocked_152 : decode cX8_fillsBlocked 152 = .ok (.iload 5, 2) := by decide +kernel
theorem dX8_fillsBlocked_154 : decode cX8_fillsBlocked 154 = .ok (.laload, 1) := by decide +kernel
theorem dX8_fillsBlocked_155 : decode cX8_fillsBlocked 155 = .ok (.lcmp, 1) := by decide +kernel
theorem dX8_fillsBlocked_156 : decode cX8_fillsBlocked 156 = .ok (.ifCond .ne 58, 3) := by decide +kernel
theorem dX8_fillsBlocked_159 : decode cX8_fillsBlocked 159 = .ok (.aload_n 0, 1) := by decide +kernel
theorem dX8_fillsBlocked_160 : decode cX8_fillsBlocked 160 = .ok (.getfield 72, 3) := by decide +kernel
theorem dX8_fillsBlocked_163 : decode cX8_fillsBlocked 163 = .ok (.iload 5, 2) := by decide +kernel
theorem dX8_fillsBlocked_165 : decode cX8_fillsBlocked 165 = .ok (.laload, 1) := by decide +kernel
theorem dX8_fillsBlocked_166 : decode cX8_fillsBlocked 166 = .ok (.aload_n 0, 1) := by decide +kernel
theorem dX8_fillsBlocked_167 : decode cX8_fillsBlocked 167 = .ok (.getfield 54, 3) := by decide +kernel
theorem dX8_fillsBlocked_170 : decode cX8_fillsBlocked 170 = .ok (.iload 5, 2) := by decide +kernel
theorem dX8_fillsBlocked_172 : decode cX8_fillsBlocked 172 = .ok (.laload, 1) := by decide +kernel
theorem dX8_fillsBlocked_173 : decode cX8_fillsBlocked 173 = .ok (.lcmp, 1) := by decide +kernel
theorem dX8_fillsBlocked_174 : decode cX8_fillsBlocked 174 = .ok (.ifCond .eq 40, 3) := by decide +kernel
theorem dX8_fillsBlocked_177 : decode cX8_fillsBlocked 177 = .ok (.aload_n 0, 1) := by decide +kernel
theorem dX8_fillsBlocked_178 : decode cX8_fillsBlocked 178 = .ok (.bipush 21, 2) := by decide +kernel
theorem dX8_fillsBlocked_180 : decode cX8_fillsBlocked 180 = .ok (.iload 4, 2) := by decide +kernel
theorem dX8_fillsBlocked_182 : decode cX8_fillsBlocked 182 = .ok (.i2l, 1) := by decide +kernel
theorem dX8_fillsBlocked_183 : decode cX8_fillsBlocked 183 = .ok (.aload_n 0, 1) := by decide +kernel
theorem dX8_fillsBlocked_184 : decode cX8_fillsBlocked 184 = .ok (.getfield 54, 3) := by decide +kernel
theorem dX8_fillsBlocked_187 : decode cX8_fillsBlocked 187 = .ok (.iload 5, 2) := by decide +kernel
theorem dX8_fillsBlocked_189 : decode cX8_fillsBlocked 189 = .ok (.laload, 1) := by decide +kernel
theorem dX8_fillsBlocked_190 : decode cX8_fillsBlocked 190 = .ok (.lconst 0, 1) := by decide +kernel
theorem dX8_fillsBlocked_191 : decode cX8_fillsBlocked 191 = .ok (.iload_n 2, 1) := by decide +kernel
theorem dX8_fillsBlocked_192 : decode cX8_fillsBlocked 192 = .ok (.invokevirtual 372, 3) := by decide +kernel
theorem dX8_fillsBlocked_195 : decode cX8_fillsBlocked 195 = .ok (.ifCond .eq 19, 3) := by decide +kernel
theorem dX8_fillsBlocked_198 : decode cX8_fillsBlocked 198 = .ok (.aload_n 0, 1) := by decide +kernel
theorem dX8_fillsBlocked_199 : decode cX8_fillsBlocked 199 = .ok (.getfield 72, 3) := by decide +kernel
theorem dX8_fillsBlocked_202 : decode cX8_fillsBlocked 202 = .ok (.iload 5, 2) := by decide +kernel
theorem dX8_fillsBlocked_204 : decode cX8_fillsBlocked 204 = .ok (.aload_n 0, 1) := by decide +kernel
theorem dX8_fillsBlocked_205 : decode cX8_fillsBlocked 205 = .ok (.getfield 54, 3) := by decide +kernel
theorem dX8_fillsBlocked_208 : decode cX8_fillsBlocked 208 = .ok (.iload 5, 2) := by decide +kernel
theorem dX8_fillsBlocked_210 : decode cX8_fillsBlocked 210 = .ok (.laload, 1) := by decide +kernel
theorem dX8_fillsBlocked_211 : decode cX8_fillsBlocked 211 = .ok (.lastore, 1) := by decide +kernel
theorem dX8_fillsBlocked_212 : decode cX8_fillsBlocked 212 = .ok (.iconst 1, 1) := by decide +kernel
theorem dX8_fillsBlocked_213 : decode cX8_fillsBlocked 213 = .ok (.ireturn, 1) := by decide +kernel
theorem dX8_fillsBlocked_214 : decode cX8_fillsBlocked 214 = .ok (.iinc 4 1, 3) := by decide +kernel
theorem dX8_fillsBlocked_217 : decode cX8_fillsBlocked 217 = .ok (.goto (-103), 3) := by decide +kernel
theorem dX8_fillsBlocked_220 : decode cX8_fillsBlocked 220 = .ok (.iconst 0, 1) := by decide +kernel
theorem dX8_fillsBlocked_221 : decode cX8_fillsBlocked 221 = .ok (.istore 4, 2) := by decide +kernel
theorem dX8_fillsBlocked_223 : decode cX8_fillsBlocked 223 = .ok (.iload 4, 2) := by decide +kernel
theorem dX8_fillsBlocked_225 : decode cX8_fillsBlocked 225 = .ok (.iconst 2, 1) := by decide +kernel
theorem dX8_fillsBlocked_226 : decode cX8_fillsBlocked 226 = .ok (.if_icmp .ge 112, 3) := by decide +kernel
theorem dX8_fillsBlocked_229 : decode cX8_fillsBlocked 229 = .ok (.iconst 3, 1) := by decide +kernel
theorem dX8_fillsBlocked_230 : decode cX8_fillsBlocked 230 = .ok (.iload_n 1, 1) := by decide +kernel
theorem dX8_fillsBlocked_231 : decode cX8_fillsBlocked 231 = .ok (.imul, 1) := by decide +kernel
theorem dX8_fillsBlocked_232 : decode cX8_fillsBlocked 232 = .ok (.iconst 1, 1) := by decide +kernel
theorem dX8_fillsBlocked_233 : decode cX8_fillsBlocked 233 = .ok (.iadd, 1) := by decide +kernel
theorem dX8_fillsBlocked_234 : decode cX8_fillsBlocked 234 = .ok (.iload 4, 2) := by decide +kernel
theorem dX8_fillsBlocked_236 : decode cX8_fillsBlocked 236 = .ok (.iadd, 1) := by decide +kernel
theorem dX8_fillsBlocked_237 : decode cX8_fillsBlocked 237 = .ok (.istore 5, 2) := by decide +kernel
theorem dX8_fillsBlocked_239 : decode cX8_fillsBlocked 239 = .ok (.aload_n 0, 1) := by decide +kernel
theorem dX8_fillsBlocked_240 : decode cX8_fillsBlocked 240 = .ok (.getfield 45, 3) := by decide +kernel
theorem dX8_fillsBlocked_243 : decode cX8_fillsBlocked 243 = .ok (.iconst 2, 1) := by decide +kernel
theorem dX8_fillsBlocked_244 : decode cX8_fillsBlocked 244 = .ok (.iload_n 1, 1) := by decide +kernel
theorem dX8_fillsBlocked_245 : decode cX8_fillsBlocked 245 = .ok (.imul, 1) := by decide +kernel
theorem dX8_fillsBlocked_246 : decode cX8_fillsBlocked 246 = .ok (.iload 4, 2) := by decide +kernel
theorem dX8_fillsBlocked_248 : decode cX8_fillsBlocked 248 = .ok (.iadd, 1) := by decide +kernel
theorem dX8_fillsBlocked_249 : decode cX8_fillsBlocked 249 = .ok (.baload, 1) := by decide +kernel
theorem dX8_fillsBlocked_250 : decode cX8_fillsBlocked 250 = .ok (.ifCond .eq 82, 3) := by decide +kernel
theorem dX8_fillsBlocked_253 : decode cX8_fillsBlocked 253 = .ok (.aload_n 0, 1) := by decide +kernel
theorem dX8_fillsBlocked_254 : decode cX8_fillsBlocked 254 = .ok (.getfield 23, 3) := by decide +kernel
theorem dX8_fillsBlocked_257 : decode cX8_fillsBlocked 257 = .ok (.iconst 2, 1) := by decide +kernel
theorem dX8_fillsBlocked_258 : decode cX8_fillsBlocked 258 = .ok (.iload_n 1, 1) := by decide +kernel
theorem dX8_fillsBlocked_259 : decode cX8_fillsBlocked 259 = .ok (.imul, 1) := by decide +kernel
theorem dX8_fillsBlocked_260 : decode cX8_fillsBlocked 260 = .ok (.iload 4, 2) := by decide +kernel
theorem dX8_fillsBlocked_262 : decode cX8_fillsBlocked 262 = .ok (.iadd, 1) := by decide +kernel
theorem dX8_fillsBlocked_263 : decode cX8_fillsBlocked 263 = .ok (.iaload, 1) := by decide +kernel
theorem dX8_fillsBlocked_264 : decode cX8_fillsBlocked 264 = .ok (.i2l, 1) := by decide +kernel
theorem dX8_fillsBlocked_265 : decode cX8_fillsBlocked 265 = .ok (.aload_n 0, 1) := by decide +kernel
theorem dX8_fillsBlocked_266 : decode cX8_fillsBlocked 266 = .ok (.getfield 19, 3) := by decide +kernel
theorem dX8_fillsBlocked_269 : decode cX8_fillsBlocked 269 = .ok (.iload 5, 2) := by decide +kernel
theorem dX8_fillsBlocked_271 : decode cX8_fillsBlocked 271 = .ok (.laload, 1) := by decide +kernel
theorem dX8_fillsBlocked_272 : decode cX8_fillsBlocked 272 = .ok (.lcmp, 1) := by decide +kernel
theorem dX8_fillsBlocked_273 : decode cX8_fillsBlocked 273 = .ok (.ifCond .lt 59, 3) := by decide +kernel
theorem dX8_fillsBlocked_276 : decode cX8_fillsBlocked 276 = .ok (.aload_n 0, 1) := by decide +kernel
theorem dX8_fillsBlocked_277 : decode cX8_fillsBlocked 277 = .ok (.getfield 42, 3) := by decide +kernel
theorem dX8_fillsBlocked_280 : decode cX8_fillsBlocked 280 = .ok (.iload 5, 2) := by decide +kernel
theorem dX8_fillsBlocked_282 : decode cX8_fillsBlocked 282 = .ok (.laload, 1) := by decide +kernel
theorem dX8_fillsBlocked_283 : decode cX8_fillsBlocked 283 = .ok (.aload_n 0, 1) := by decide +kernel
theorem dX8_fillsBlocked_284 : decode cX8_fillsBlocked 284 = .ok (.getfield 19, 3) := by decide +kernel
theorem dX8_fillsBlocked_287 : decode cX8_fillsBlocked 287 = .ok (.iload 5, 2) := by decide +kernel
theorem dX8_fillsBlocked_289 : decode cX8_fillsBlocked 289 = .ok (.laload, 1) := by decide +kernel
theorem dX8_fillsBlocked_290 : decode cX8_fillsBlocked 290 = .ok (.lcmp, 1) := by decide +kernel
theorem dX8_fillsBlocked_291 : decode cX8_fillsBlocked 291 = .ok (.ifCond .eq 41, 3) := by decide +kernel
theorem dX8_fillsBlocked_294 : decode cX8_fillsBlocked 294 = .ok (.aload_n 0, 1) := by decide +kernel
theorem dX8_fillsBlocked_295 : decode cX8_fillsBlocked 295 = .ok (.bipush 22, 2) := by decide +kernel
theorem dX8_fillsBlocked_297 : decode cX8_fillsBlocked 297 = .ok (.iload 4, 2) := by decide +kernel
theorem dX8_fillsBlocked_299 : decode cX8_fillsBlocked 299 = .ok (.iadd, 1) := by decide +kernel
theorem dX8_fillsBlocked_300 : decode cX8_fillsBlocked 300 = .ok (.aload_n 0, 1) := by decide +kernel
theorem dX8_fillsBlocked_301 : decode cX8_fillsBlocked 301 = .ok (.getfield 19, 3) := by decide +kernel
theorem dX8_fillsBlocked_304 : decode cX8_fillsBlocked 304 = .ok (.iload 5, 2) := by decide +kernel
theorem dX8_fillsBlocked_306 : decode cX8_fillsBlocked 306 = .ok (.laload, 1) := by decide +kernel
theorem dX8_fillsBlocked_307 : decode cX8_fillsBlocked 307 = .ok (.lconst 0, 1) := by decide +kernel
theorem dX8_fillsBlocked_308 : decode cX8_fillsBlocked 308 = .ok (.lconst 0, 1) := by decide +kernel
theorem dX8_fillsBlocked_309 : decode cX8_fillsBlocked 309 = .ok (.iload_n 2, 1) := by decide +kernel
theorem dX8_fillsBlocked_310 : decode cX8_fillsBlocked 310 = .ok (.invokevirtual 372, 3) := by decide +kernel
theorem dX8_fillsBlocked_313 : decode cX8_fillsBlocked 313 = .ok (.ifCond .eq 19, 3) := by decide +kernel
theorem dX8_fillsBlocked_316 : decode cX8_fillsBlocked 316 = .ok (.aload_n 0, 1) := by decide +kernel
theorem dX8_fillsBlocked_317 : decode cX8_fillsBlocked 317 = .ok (.getfield 42, 3) := by decide +kernel
theorem dX8_fillsBlocked_320 : decode cX8_fillsBlocked 320 = .ok (.iload 5, 2) := by decide +kernel
theorem dX8_fillsBlocked_322 : decode cX8_fillsBlocked 322 = .ok (.aload_n 0, 1) := by decide +kernel
theorem dX8_fillsBlocked_323 : decode cX8_fillsBlocked 323 = .ok (.getfield 19, 3) := by decide +kernel
theorem dX8_fillsBlocked_326 : decode cX8_fillsBlocked 326 = .ok (.iload 5, 2) := by decide +kernel
theorem dX8_fillsBlocked_328 : decode cX8_fillsBlocked 328 = .ok (.laload, 1) := by decide +kernel
theorem dX8_fillsBlocked_329 : decode cX8_fillsBlocked 329 = .ok (.lastore, 1) := by decide +kernel
theorem dX8_fillsBlocked_330 : decode cX8_fillsBlocked 330 = .ok (.iconst 1, 1) := by decide +kernel
theorem dX8_fillsBlocked_331 : decode cX8_fillsBlocked 331 = .ok (.ireturn, 1) := by decide +kernel
theorem dX8_fillsBlocked_332 : decode cX8_fillsBlocked 332 = .ok (.iinc 4 1, 3) := by decide +kernel
theorem dX8_fillsBlocked_335 : decode cX8_fillsBlocked 335 = .ok (.goto (-112), 3) := by decide +kernel
theorem dX8_fillsBlocked_338 : decode cX8_fillsBlocked 338 = .ok (.iconst 0, 1) := by decide +kernel
theorem dX8_fillsBlocked_339 : decode cX8_fillsBlocked 339 = .ok (.ireturn, 1) := by decide +kernel
theorem dX8_waits_0 : decode cX8_waits 0 = .ok (.aload_n 0, 1) := by decide +kernel
theorem dX8_waits_1 : decode cX8_waits 1 = .ok (.iload_n 1, 1) := by decide +kernel
theorem dX8_waits_2 : decode cX8_waits 2 = .ok (.iload_n 2, 1) := by decide +kernel
theorem dX8_waits_3 : decode cX8_waits 3 = .ok (.invokevirtual 274, 3) := by decide +kernel
theorem dX8_waits_6 : decode cX8_waits 6 = .ok (.ifCond .eq 22, 3) := by decide +kernel
theorem dX8_waits_9 : decode cX8_waits 9 = .ok (.aload_n 0, 1) := by decide +kernel
theorem dX8_waits_10 : decode cX8_waits 10 = .ok (.iload_n 1, 1) := by decide +kernel
theorem dX8_waits_11 : decode cX8_waits 11 = .ok (.iload_n 2, 1) := by decide +kernel
theorem dX8_waits_12 : decode cX8_waits 12 = .ok (.invokevirtual 369, 3) := by decide +kernel
theorem dX8_waits_15 : decode cX8_waits 15 = .ok (.aload_n 0, 1) := by decide +kernel
theorem dX8_waits_16 : decode cX8_waits 16 = .ok (.iload_n 1, 1) := by decide +kernel
theorem dX8_waits_17 : decode cX8_waits 17 = .ok (.iload_n 2, 1) := by decide +kernel
theorem dX8_waits_18 : decode cX8_waits 18 = .ok (.invokevirtual 215, 3) := by decide +kernel
theorem dX8_waits_21 : decode cX8_waits 21 = .ok (.if_icmp .ge 7, 3) := by decide +kernel
theorem dX8_waits_24 : decode cX8_waits 24 = .ok (.iconst 1, 1) := by decide +kernel
theorem dX8_waits_25 : decode cX8_waits 25 = .ok (.goto 4, 3) := by decide +kernel
theorem dX8_waits_28 : decode cX8_waits 28 = .ok (.iconst 0, 1) := by decide +kernel
theorem dX8_waits_29 : decode cX8_waits 29 = .ok (.ireturn, 1) := by decide +kernel
theorem dX8_allSent_0 : decode cX8_allSent 0 = .ok (.iconst 0, 1) := by decide +kernel
theorem dX8_allSent_1 : decode cX8_allSent 1 = .ok (.istore_n 2, 1) := by decide +kernel
theorem dX8_allSent_2 : decode cX8_allSent 2 = .ok (.ldc 214, 2) := by decide +kernel
theorem dX8_allSent_4 : decode cX8_allSent 4 = .ok (.iload_n 1, 1) := by decide +kernel
theorem dX8_allSent_5 : decode cX8_allSent 5 = .ok (.imul, 1) := by decide +kernel
theorem dX8_allSent_6 : decode cX8_allSent 6 = .ok (.istore_n 3, 1) := by decide +kernel
theorem dX8_allSent_7 : decode cX8_allSent 7 = .ok (.iload_n 3, 1) := by decide +kernel
theorem dX8_allSent_8 : decode cX8_allSent 8 = .ok (.ldc 214, 2) := by decide +kernel
theorem dX8_allSent_10 : decode cX8_allSent 10 = .ok (.iload_n 1, 1) := by decide +kernel
theorem dX8_allSent_11 : decode cX8_allSent 11 = .ok (.imul, 1) := by decide +kernel
theorem dX8_allSent_12 : decode cX8_allSent 12 = .ok (.aload_n 0, 1) := by decide +kernel
theorem dX8_allSent_13 : decode cX8_allSent 13 = .ok (.getfield 108, 3) := by decide +kernel
theorem dX8_allSent_16 : decode cX8_allSent 16 = .ok (.iload_n 1, 1) := by decide +kernel
theorem dX8_allSent_17 : decode cX8_allSent 17 = .ok (.iaload, 1) := by decide +kernel
theorem dX8_allSent_18 : decode cX8_allSent 18 = .ok (.iadd, 1) := by decide +kernel
theorem dX8_allSent_19 : decode cX8_allSent 19 = .ok (.if_icmp .ge 26, 3) := by decide +kernel
theorem dX8_allSent_22 : decode cX8_allSent 22 = .ok (.iload_n 2, 1) := by decide +kernel
theorem dX8_allSent_23 : decode cX8_allSent 23 = .ok (.aload_n 0, 1) := by decide +kernel
theorem dX8_allSent_24 : decode cX8_allSent 24 = .ok (.getfield 120, 3) := by decide +kernel
theorem dX8_allSent_27 : decode cX8_allSent 27 = .ok (.iload_n 3, 1) := by decide +kernel
theorem dX8_allSent_28 : decode cX8_allSent 28 = .ok (.baload, 1) := by decide +kernel
theorem dX8_allSent_29 : decode cX8_allSent 29 = .ok (.ifCond .eq 7, 3) := by decide +kernel
theorem dX8_allSent_32 : decode cX8_allSent 32 = .ok (.iconst 1, 1) := by decide +kernel
theorem dX8_allSent_33 : decode cX8_allSent 33 = .ok (.goto 4, 3) := by decide +kernel
theorem dX8_allSent_36 : decode cX8_allSent 36 = .ok (.iconst 0, 1) := by decide +kernel
theorem dX8_allSent_37 : decode cX8_allSent 37 = .ok (.iadd, 1) := by decide +kernel
theorem dX8_allSent_38 : decode cX8_allSent 38 = .ok (.istore_n 2, 1) := by decide +kernel
theorem dX8_allSent_39 : decode cX8_allSent 39 = .ok (.iinc 3 1, 3) := by decide +kernel
theorem dX8_allSent_42 : decode cX8_allSent 42 = .ok (.goto (-35), 3) := by decide +kernel
theorem dX8_allSent_45 : decode cX8_allSent 45 = .ok (.iload_n 2, 1) := by decide +kernel
theorem dX8_allSent_46 : decode cX8_allSent 46 = .ok (.ireturn, 1) := by decide +kernel
theorem dX8_fillsStream_0 : decode cX8_fillsStream 0 = .ok (.aload_n 0, 1) := by decide +kernel
theorem dX8_fillsStream_1 : decode cX8_fillsStream 1 = .ok (.iload_n 1, 1) := by decide +kernel
theorem dX8_fillsStream_2 : decode cX8_fillsStream 2 = .ok (.iload_n 2, 1) := by decide +kernel
theorem dX8_fillsStream_3 : decode cX8_fillsStream 3 = .ok (.invokevirtual 274, 3) := by decide +kernel
theorem dX8_fillsStream_6 : decode cX8_fillsStream 6 = .ok (.ifCond .ne 5, 3) := by decide +kernel
theorem dX8_fillsStream_9 : decode cX8_fillsStream 9 = .ok (.iconst 0, 1) := by decide +kernel
theorem dX8_fillsStream_10 : decode cX8_fillsStream 10 = .ok (.ireturn, 1) := by decide +kernel
theorem dX8_fillsStream_11 : decode cX8_fillsStream 11 = .ok (.iload_n 1, 1) := by decide +kernel
theorem dX8_fillsStream_12 : decode cX8_fillsStream 12 = .ok (.iload_n 2, 1) := by decide +kernel
theorem dX8_fillsStream_13 : decode cX8_fillsStream 13 = .ok (.invokestatic 189, 3) := by decide +kernel
theorem dX8_fillsStream_16 : decode cX8_fillsStream 16 = .ok (.istore 4, 2) := by decide +kernel
theorem dX8_fillsStream_18 : decode cX8_fillsStream 18 = .ok (.aload_n 0, 1) := by decide +kernel
theorem dX8_fillsStream_19 : decode cX8_fillsStream 19 = .ok (.iload_n 1, 1) := by decide +kernel
theorem dX8_fillsStream_20 : decode cX8_fillsStream 20 = .ok (.iload_n 2, 1) := by decide +kernel
theorem dX8_fillsStream_21 : decode cX8_fillsStream 21 = .ok (.iconst 2, 1) := by decide +kernel
theorem dX8_fillsStream_22 : decode cX8_fillsStream 22 = .ok (.invokevirtual 382, 3) := by decide +kernel
theorem dX8_fillsStream_25 : decode cX8_fillsStream 25 = .ok (.istore 5, 2) := by decide +kernel
theorem dX8_fillsStream_27 : decode cX8_fillsStream 27 = .ok (.iload 5, 2) := by decide +kernel
theorem dX8_fillsStream_29 : decode cX8_fillsStream 29 = .ok (.ifCond .lt 7, 3) := by decide +kernel
theorem dX8_fillsStream_32 : decode cX8_fillsStream 32 = .ok (.iconst 2, 1) := by decide +kernel
theorem dX8_fillsStream_33 : decode cX8_fillsStream 33 = .ok (.goto 4, 3) := by decide +kernel
theorem dX8_fillsStream_36 : decode cX8_fillsStream 36 = .ok (.iconst 0, 1) := by decide +kernel
theorem dX8_fillsStream_37 : decode cX8_fillsStream 37 = .ok (.istore 6, 2) := by decide +kernel
theorem dX8_fillsStream_39 : decode cX8_fillsStream 39 = .ok (.ldc2_w 258, 3) := by decide +kernel
theorem dX8_fillsStream_42 : decode cX8_fillsStream 42 = .ok (.lstore 7, 2) := by decide +kernel
theorem dX8_fillsStream_44 : decode cX8_fillsStream 44 = .ok (.iload 5, 2) := by decide +kernel
theorem dX8_fillsStream_46 : decode cX8_fillsStream 46 = .ok (.ifCond .ge 20, 3) := by decide +kernel
theorem dX8_fillsStream_49 : decode cX8_fillsStream 49 = .ok (.aload_n 0, 1) := by decide +kernel
theorem dX8_fillsStream_50 : decode cX8_fillsStream 50 = .ok (.iload_n 1, 1) := by decide +kernel
theorem dX8_fillsStream_51 : decode cX8_fillsStream 51 = .ok (.iload_n 2, 1) := by decide +kernel
theorem dX8_fillsStream_52 : decode cX8_fillsStream 52 = .ok (.iconst 0, 1) := by decide +kernel
theorem dX8_fillsStream_53 : decode cX8_fillsStream 53 = .ok (.invokevirtual 382, 3) := by decide +kernel
theorem dX8_fillsStream_56 : decode cX8_fillsStream 56 = .ok (.istore 5, 2) := by decide +kernel
theorem dX8_fillsStream_58 : decode cX8_fillsStream 58 = .ok (.aload_n 0, 1) := by decide +kernel
theorem dX8_fillsStream_59 : decode cX8_fillsStream 59 = .ok (.iload_n 1, 1) := by decide +kernel
theorem dX8_fillsStream_60 : decode cX8_fillsStream 60 = .ok (.iload_n 2, 1) := by decide +kernel
theorem dX8_fillsStream_61 : decode cX8_fillsStream 61 = .ok (.invokevirtual 385, 3) := by decide +kernel
theorem dX8_fillsStream_64 : decode cX8_fillsStream 64 = .ok (.lstore 7, 2) := by decide +kernel
theorem dX8_fillsStream_66 : decode cX8_fillsStream 66 = .ok (.aload_n 0, 1) := by decide +kernel
theorem dX8_fillsStream_67 : decode cX8_fillsStream 67 = .ok (.iload_n 1, 1) := by decide +kernel
theorem dX8_fillsStream_68 : decode cX8_fillsStream 68 = .ok (.iload_n 2, 1) := by decide +kernel
theorem dX8_fillsStream_69 : decode cX8_fillsStream 69 = .ok (.invokevirtual 215, 3) := by decide +kernel
theorem dX8_fillsStream_72 : decode cX8_fillsStream 72 = .ok (.istore 9, 2) := by decide +kernel
theorem dX8_fillsStream_74 : decode cX8_fillsStream 74 = .ok (.aload_n 0, 1) := by decide +kernel
theorem dX8_fillsStream_75 : decode cX8_fillsStream 75 = .ok (.getfield 57, 3) := by decide +kernel
theorem dX8_fillsStream_78 : decode cX8_fillsStream 78 = .ok (.iload 4, 2) := by decide +kernel
theorem dX8_fillsStream_80 : decode cX8_fillsStream 80 = .ok (.baload, 1) := by decide +kernel
theorem dX8_fillsStream_81 : decode cX8_fillsStream 81 = .ok (.ifCond .eq 28, 3) := by decide +kernel
theorem dX8_fillsStream_84 : decode cX8_fillsStream 84 = .ok (.aload_n 0, 1) := by decide +kernel
theorem dX8_fillsStream_85 : decode cX8_fillsStream 85 = .ok (.getfield 60, 3) := by decide +kernel
theorem dX8_fillsStream_88 : decode cX8_fillsStream 88 = .ok (.iload 4, 2) := by decide +kernel
theorem dX8_fillsStream_90 : decode cX8_fillsStream 90 = .ok (.iaload, 1) := by decide +kernel
theorem dX8_fillsStream_91 : decode cX8_fillsStream 91 = .ok (.ifCond .eq 14, 3) := by decide +kernel
theorem dX8_fillsStream_94 : decode cX8_fillsStream 94 = .ok (.aload_n 0, 1) := by decide +kernel
theorem dX8_fillsStream_95 : decode cX8_fillsStream 95 = .ok (.getfield 60, 3) := by decide +kernel
theorem dX8_fillsStream_98 : decode cX8_fillsStream 98 = .ok (.iload 4, 2) := by decide +kernel
theorem dX8_fillsStream_100 : decode cX8_fillsStream 100 = .ok (.iaload, 1) := by decide +kernel
theorem dX8_fillsStream_101 : decode cX8_fillsStream 101 = .ok (.iconst 2, 1) := by decide +kernel
theorem dX8_fillsStream_102 : decode cX8_fillsStream 102 = .ok (.if_icmp .ne 7, 3) := by decide +kernel
theorem dX8_fillsStream_105 : decode cX8_fillsStream 105 = .ok (.iconst 1, 1) := by decide +kernel
theorem dX8_fillsStream_106 : decode cX8_fillsStream 106 = .ok (.goto 4, 3) := by decide +kernel
theorem dX8_fillsStream_109 : decode cX8_fillsStream 109 = .ok (.iconst 0, 1) := by decide +kernel
theorem dX8_fillsStream_110 : decode cX8_fillsStream 110 = .ok (.istore 10, 2) := by decide +kernel
theorem dX8_fillsStream_112 : decode cX8_fillsStream 112 = .ok (.iload 5, 2) := by decide +kernel
theorem dX8_fillsStream_114 : decode cX8_fillsStream 114 = .ok (.ifCond .ge 7, 3) := by decide +kernel
theorem dX8_fillsStream_117 : decode cX8_fillsStream 117 = .ok (.iconst 1, 1) := by decide +kernel
theorem dX8_fillsStream_118 : decode cX8_fillsStream 118 = .ok (.goto 4, 3) := by decide +kernel
theorem dX8_fillsStream_121 : decode cX8_fillsStream 121 = .ok (.iconst 0, 1) := by decide +kernel
theorem dX8_fillsStream_122 : decode cX8_fillsStream 122 = .ok (.istore 11, 2) := by decide +kernel
theorem dX8_fillsStream_124 : decode cX8_fillsStream 124 = .ok (.iload 11, 2) := by decide +kernel
theorem dX8_fillsStream_126 : decode cX8_fillsStream 126 = .ok (.ifCond .eq 8, 3) := by decide +kernel
theorem dX8_fillsStream_129 : decode cX8_fillsStream 129 = .ok (.iload 10, 2) := by decide +kernel
theorem dX8_fillsStream_131 : decode cX8_fillsStream 131 = .ok (.ifCond .eq 15, 3) := by decide +kernel
theorem dX8_fillsStream_134 : decode cX8_fillsStream 134 = .ok (.iload 11, 2) := by decide +kernel
theorem dX8_fillsStream_136 : decode cX8_fillsStream 136 = .ok (.ifCond .ne 12, 3) := by decide +kernel
theorem dX8_fillsStream_139 : decode cX8_fillsStream 139 = .ok (.lload 7, 2) := by decide +kernel
theorem dX8_fillsStream_141 : decode cX8_fillsStream 141 = .ok (.lconst 0, 1) := by decide +kernel
theorem dX8_fillsStream_142 : decode cX8_fillsStream 142 = .ok (.lcmp, 1) := by decide +kernel
theorem dX8_fillsStream_143 : decode cX8_fillsStream 143 = .ok (.ifCond .ne 5, 3) := by decide +kernel
theorem dX8_fillsStream_146 : decode cX8_fillsStream 146 = .ok (.iconst 0, 1) := by decide +kernel
theorem dX8_fillsStream_147 : decode cX8_fillsStream 147 = .ok (.ireturn, 1) := by decide +kernel
theorem dX8_fillsStream_148 : decode cX8_fillsStream 148 = .ok (.aload_n 0, 1) := by decide +kernel
theorem dX8_fillsStream_149 : decode cX8_fillsStream 149 = .ok (.iconst 0, 1) := by decide +kernel
theorem dX8_fillsStream_150 : decode cX8_fillsStream 150 = .ok (.putfield 319, 3) := by decide +kernel
theorem dX8_fillsStream_153 : decode cX8_fillsStream 153 = .ok (.aload_n 0, 1) := by decide +kernel
theorem dX8_fillsStream_154 : decode cX8_fillsStream 154 = .ok (.bipush 8, 2) := by decide +kernel
theorem dX8_fillsStream_156 : decode cX8_fillsStream 156 = .ok (.putfield 336, 3) := by decide +kernel
theorem dX8_fillsStream_159 : decode cX8_fillsStream 159 = .ok (.aload_n 0, 1) := by decide +kernel
theorem dX8_fillsStream_160 : decode cX8_fillsStream 160 = .ok (.iload_n 2, 1) := by decide +kernel
theorem dX8_fillsStream_161 : decode cX8_fillsStream 161 = .ok (.i2l, 1) := by decide +kernel
theorem dX8_fillsStream_162 : decode cX8_fillsStream 162 = .ok (.putfield 308, 3) := by decide +kernel
theorem dX8_fillsStream_165 : decode cX8_fillsStream 165 = .ok (.aload_n 0, 1) := by decide +kernel
theorem dX8_fillsStream_166 : decode cX8_fillsStream 166 = .ok (.iload 11, 2) := by decide +kernel
theorem dX8_fillsStream_168 : decode cX8_fillsStream 168 = .ok (.ifCond .eq 9, 3) := by decide +kernel
theorem dX8_fillsStream_171 : decode cX8_fillsStream 171 = .ok (.iload 9, 2) := by decide +kernel
theorem dX8_fillsStream_173 : decode cX8_fillsStream 173 = .ok (.i2l, 1) := by decide +kernel
theorem dX8_fillsStream_174 : decode cX8_fillsStream 174 = .ok (.goto 6, 3) := by decide +kernel
theorem dX8_fillsStream_177 : decode cX8_fillsStream 177 = .ok (.iload 5, 2) := by decide +kernel
theorem dX8_fillsStream_179 : decode cX8_fillsStream 179 = .ok (.i2l, 1) := by decide +kernel
theorem dX8_fillsStream_180 : decode cX8_fillsStream 180 = .ok (.putfield 316, 3) := by decide +kernel
theorem dX8_fillsStream_183 : decode cX8_fillsStream 183 = .ok (.aload_n 0, 1) := by decide +kernel
theorem dX8_fillsStream_184 : decode cX8_fillsStream 184 = .ok (.lconst 0, 1) := by decide +kernel
theorem dX8_fillsStream_185 : decode cX8_fillsStream 185 = .ok (.putfield 322, 3) := by decide +kernel
theorem dX8_fillsStream_188 : decode cX8_fillsStream 188 = .ok (.iload 11, 2) := by decide +kernel
theorem dX8_fillsStream_190 : decode cX8_fillsStream 190 = .ok (.ifCond .eq 11, 3) := by decide +kernel
theorem dX8_fillsStream_193 : decode cX8_fillsStream 193 = .ok (.aload_n 0, 1) := by decide +kernel
theorem dX8_fillsStream_194 : decode cX8_fillsStream 194 = .ok (.iload_n 1, 1) := by decide +kernel
theorem dX8_fillsStream_195 : decode cX8_fillsStream 195 = .ok (.iload_n 2, 1) := by decide +kernel
theorem dX8_fillsStream_196 : decode cX8_fillsStream 196 = .ok (.iload_n 3, 1) := by decide +kernel
theorem dX8_fillsStream_197 : decode cX8_fillsStream 197 = .ok (.invokevirtual 388, 3) := by decide +kernel
theorem dX8_fillsStream_200 : decode cX8_fillsStream 200 = .ok (.ireturn, 1) := by decide +kernel
theorem dX8_fillsStream_201 : decode cX8_fillsStream 201 = .ok (.iconst 0, 1) := by decide +kernel
theorem dX8_fillsStream_202 : decode cX8_fillsStream 202 = .ok (.istore 12, 2) := by decide +kernel
theorem dX8_fillsStream_204 : decode cX8_fillsStream 204 = .ok (.iconst 1, 1) := by decide +kernel
theorem dX8_fillsStream_205 : decode cX8_fillsStream 205 = .ok (.istore 13, 2) := by decide +kernel
theorem dX8_fillsStream_207 : decode cX8_fillsStream 207 = .ok (.iload 13, 2) := by decide +kernel
theorem dX8_fillsStream_209 : decode cX8_fillsStream 209 = .ok (.ifCond .eq 92, 3) := by decide +kernel
theorem dX8_fillsStream_212 : decode cX8_fillsStream 212 = .ok (.iload 12, 2) := by decide +kernel
theorem dX8_fillsStream_214 : decode cX8_fillsStream 214 = .ok (.i2l, 1) := by decide +kernel
theorem dX8_fillsStream_215 : decode cX8_fillsStream 215 = .ok (.lload 7, 2) := by decide +kernel
theorem dX8_fillsStream_217 : decode cX8_fillsStream 217 = .ok (.lcmp, 1) := by decide +kernel
theorem dX8_fillsStream_218 : decode cX8_fillsStream 218 = .ok (.ifCond .ge 38, 3) := by decide +kernel
theorem dX8_fillsStream_221 : decode cX8_fillsStream 221 = .ok (.iload 5, 2) := by decide +kernel
theorem dX8_fillsStream_223 : decode cX8_fillsStream 223 = .ok (.iload 12, 2) := by decide +kernel
theorem dX8_fillsStream_225 : decode cX8_fillsStream 225 = .ok (.iadd, 1) := by decide +kernel
theorem dX8_fillsStream_226 : decode cX8_fillsStream 226 = .ok (.iload 9, 2) := by decide +kernel
theorem dX8_fillsStream_228 : decode cX8_fillsStream 228 = .ok (.if_icmp .ge 28, 3) := by decide +kernel
theorem dX8_fillsStream_231 : decode cX8_fillsStream 231 = .ok (.aload_n 0, 1) := by decide +kernel
theorem dX8_fillsStream_232 : decode cX8_fillsStream 232 = .ok (.getfield 120, 3) := by decide +kernel
theorem dX8_fillsStream_235 : decode cX8_fillsStream 235 = .ok (.aload_n 0, 1) := by decide +kernel
theorem dX8_fillsStream_236 : decode cX8_fillsStream 236 = .ok (.iload_n 1, 1) := by decide +kernel
theorem dX8_fillsStream_237 : decode cX8_fillsStream 237 = .ok (.iload_n 2, 1) := by decide +kernel
theorem dX8_fillsStream_238 : decode cX8_fillsStream 238 = .ok (.iload 5, 2) := by decide +kernel
theorem dX8_fillsStream_240 : decode cX8_fillsStream 240 = .ok (.iload 12, 2) := by decide +kernel
theorem dX8_fillsStream_242 : decode cX8_fillsStream 242 = .ok (.iadd, 1) := by decide +kernel
theorem dX8_fillsStream_243 : decode cX8_fillsStream 243 = .ok (.invokevirtual 392, 3) := by decide +kernel
theorem dX8_fillsStream_246 : decode cX8_fillsStream 246 = .ok (.baload, 1) := by decide +kernel
theorem dX8_fillsStream_247 : decode cX8_fillsStream 247 = .ok (.iload 6, 2) := by decide +kernel
theorem dX8_fillsStream_249 : decode cX8_fillsStream 249 = .ok (.if_icmp .ne 7, 3) := by decide +kernel
theorem dX8_fillsStream_252 : decode cX8_fillsStream 252 = .ok (.iconst 1, 1) := by decide +kernel
theorem dX8_fillsStream_253 : decode cX8_fillsStream 253 = .ok (.goto 4, 3) := by decide +kernel
theorem dX8_fillsStream_256 : decode cX8_fillsStream 256 = .ok (.iconst 0, 1) := by decide +kernel
theorem dX8_fillsStream_257 : decode cX8_fillsStream 257 = .ok (.istore 13, 2) := by decide +kernel
theorem dX8_fillsStream_259 : decode cX8_fillsStream 259 = .ok (.iload 13, 2) := by decide +kernel
theorem dX8_fillsStream_261 : decode cX8_fillsStream 261 = .ok (.ifCond .ne 6, 3) := by decide +kernel
theorem dX8_fillsStream_264 : decode cX8_fillsStream 264 = .ok (.goto (-57), 3) := by decide +kernel
theorem dX8_fillsStream_267 : decode cX8_fillsStream 267 = .ok (.aload_n 0, 1) := by decide +kernel
theorem dX8_fillsStream_268 : decode cX8_fillsStream 268 = .ok (.iload 12, 2) := by decide +kernel
theorem dX8_fillsStream_270 : decode cX8_fillsStream 270 = .ok (.iconst 1, 1) := by decide +kernel
theorem dX8_fillsStream_271 : decode cX8_fillsStream 271 = .ok (.iadd, 1) := by decide +kernel
theorem dX8_fillsStream_272 : decode cX8_fillsStream 272 = .ok (.putfield 319, 3) := by decide +kernel
theorem dX8_fillsStream_275 : decode cX8_fillsStream 275 = .ok (.aload_n 0, 1) := by decide +kernel
theorem dX8_fillsStream_276 : decode cX8_fillsStream 276 = .ok (.invokevirtual 365, 3) := by decide +kernel
theorem dX8_fillsStream_279 : decode cX8_fillsStream 279 = .ok (.iload_n 3, 1) := by decide +kernel
theorem dX8_fillsStream_280 : decode cX8_fillsStream 280 = .ok (.if_icmp .gt 7, 3) := by decide +kernel
theorem dX8_fillsStream_283 : decode cX8_fillsStream 283 = .ok (.iconst 1, 1) := by decide +kernel
theorem dX8_fillsStream_284 : decode cX8_fillsStream 284 = .ok (.goto 4, 3) := by decide +kernel
theorem dX8_fillsStream_287 : decode cX8_fillsStream 287 = .ok (.iconst 0, 1) := by decide +kernel
theorem dX8_fillsStream_288 : decode cX8_fillsStream 288 = .ok (.istore 13, 2) := by decide +kernel
theorem dX8_fillsStream_290 : decode cX8_fillsStream 290 = .ok (.iload 13, 2) := by decide +kernel
theorem dX8_fillsStream_292 : decode cX8_fillsStream 292 = .ok (.ifCond .eq (-85), 3) := by decide +kernel
theorem dX8_fillsStream_295 : decode cX8_fillsStream 295 = .ok (.iinc 12 1, 3) := by decide +kernel
theorem dX8_fillsStream_298 : decode cX8_fillsStream 298 = .ok (.goto (-91), 3) := by decide +kernel
theorem dX8_fillsStream_301 : decode cX8_fillsStream 301 = .ok (.aload_n 0, 1) := by decide +kernel
theorem dX8_fillsStream_302 : decode cX8_fillsStream 302 = .ok (.iload 12, 2) := by decide +kernel
theorem dX8_fillsStream_304 : decode cX8_fillsStream 304 = .ok (.putfield 319, 3) := by decide +kernel
theorem dX8_fillsStream_307 : decode cX8_fillsStream 307 = .ok (.iload 12, 2) := by decide +kernel
theorem dX8_fillsStream_309 : decode cX8_fillsStream 309 = .ok (.ifCond .ne 5, 3) := by decide +kernel
theorem dX8_fillsStream_312 : decode cX8_fillsStream 312 = .ok (.iconst 0, 1) := by decide +kernel
theorem dX8_fillsStream_313 : decode cX8_fillsStream 313 = .ok (.ireturn, 1) := by decide +kernel
theorem dX8_fillsStream_314 : decode cX8_fillsStream 314 = .ok (.iconst 0, 1) := by decide +kernel
theorem dX8_fillsStream_315 : decode cX8_fillsStream 315 = .ok (.istore 14, 2) := by decide +kernel
theorem dX8_fillsStream_317 : decode cX8_fillsStream 317 = .ok (.iload 14, 2) := by decide +kernel
theorem dX8_fillsStream_319 : decode cX8_fillsStream 319 = .ok (.iload 12, 2) := by decide +kernel
theorem dX8_fillsStream_321 : decode cX8_fillsStream 321 = .ok (.if_icmp .ge 44, 3) := by decide +kernel
theorem dX8_fillsStream_324 : decode cX8_fillsStream 324 = .ok (.aload_n 0, 1) := by decide +kernel
theorem dX8_fillsStream_325 : decode cX8_fillsStream 325 = .ok (.iload_n 1, 1) := by decide +kernel
theorem dX8_fillsStream_326 : decode cX8_fillsStream 326 = .ok (.iload_n 2, 1) := by decide +kernel
theorem dX8_fillsStream_327 : decode cX8_fillsStream 327 = .ok (.iload 5, 2) := by decide +kernel
theorem dX8_fillsStream_329 : decode cX8_fillsStream 329 = .ok (.iload 14, 2) := by decide +kernel
theorem dX8_fillsStream_331 : decode cX8_fillsStream 331 = .ok (.iadd, 1) := by decide +kernel
theorem dX8_fillsStream_332 : decode cX8_fillsStream 332 = .ok (.invokevirtual 392, 3) := by decide +kernel
theorem dX8_fillsStream_335 : decode cX8_fillsStream 335 = .ok (.istore 15, 2) := by decide +kernel
theorem dX8_fillsStream_337 : decode cX8_fillsStream 337 = .ok (.aload_n 0, 1) := by decide +kernel
theorem dX8_fillsStream_338 : decode cX8_fillsStream 338 = .ok (.getfield 139, 3) := by decide +kernel
theorem dX8_fillsStream_341 : decode cX8_fillsStream 341 = .ok (.iload 14, 2) := by decide +kernel
theorem dX8_fillsStream_343 : decode cX8_fillsStream 343 = .ok (.aload_n 0, 1) := by decide +kernel
theorem dX8_fillsStream_344 : decode cX8_fillsStream 344 = .ok (.getfield 116, 3) := by decide +kernel
theorem dX8_fillsStream_347 : decode cX8_fillsStream 347 = .ok (.iload 15, 2) := by decide +kernel
theorem dX8_fillsStream_349 : decode cX8_fillsStream 349 = .ok (.baload, 1) := by decide +kernel
theorem dX8_fillsStream_350 : decode cX8_fillsStream 350 = .ok (.bastore, 1) := by decide +kernel
theorem dX8_fillsStream_351 : decode cX8_fillsStream 351 = .ok (.aload_n 0, 1) := by decide +kernel
theorem dX8_fillsStream_352 : decode cX8_fillsStream 352 = .ok (.getfield 120, 3) := by decide +kernel
theorem dX8_fillsStream_355 : decode cX8_fillsStream 355 = .ok (.iload 15, 2) := by decide +kernel
theorem dX8_fillsStream_357 : decode cX8_fillsStream 357 = .ok (.iconst 1, 1) := by decide +kernel
theorem dX8_fillsStream_358 : decode cX8_fillsStream 358 = .ok (.bastore, 1) := by decide +kernel
theorem dX8_fillsStream_359 : decode cX8_fillsStream 359 = .ok (.iinc 14 1, 3) := by decide +kernel
theorem dX8_fillsStream_362 : decode cX8_fillsStream 362 = .ok (.goto (-45), 3) := by decide +kernel
theorem dX8_fillsStream_365 : decode cX8_fillsStream 365 = .ok (.iload 5, 2) := by decide +kernel
theorem dX8_fillsStream_367 : decode cX8_fillsStream 367 = .ok (.iload 12, 2) := by decide +kernel
theorem dX8_fillsStream_369 : decode cX8_fillsStream 369 = .ok (.iadd, 1) := by decide +kernel
theorem dX8_fillsStream_370 : decode cX8_fillsStream 370 = .ok (.iload 9, 2) := by decide +kernel
theorem dX8_fillsStream_372 : decode cX8_fillsStream 372 = .ok (.if_icmp .ne 37, 3) := by decide +kernel
theorem dX8_fillsStream_375 : decode cX8_fillsStream 375 = .ok (.aload_n 0, 1) := by decide +kernel
theorem dX8_fillsStream_376 : decode cX8_fillsStream 376 = .ok (.getfield 57, 3) := by decide +kernel
theorem dX8_fillsStream_379 : decode cX8_fillsStream 379 = .ok (.iload 4, 2) := by decide +kernel
theorem dX8_fillsStream_381 : decode cX8_fillsStream 381 = .ok (.baload, 1) := by decide +kernel
theorem dX8_fillsStream_382 : decode cX8_fillsStream 382 = .ok (.ifCond .eq 27, 3) := by decide +kernel
theorem dX8_fillsStream_385 : decode cX8_fillsStream 385 = .ok (.aload_n 0, 1) := by decide +kernel
theorem dX8_fillsStream_386 : decode cX8_fillsStream 386 = .ok (.lconst 1, 1) := by decide +kernel
theorem dX8_fillsStream_387 : decode cX8_fillsStream 387 = .ok (.putfield 322, 3) := by decide +kernel
theorem dX8_fillsStream_390 : decode cX8_fillsStream 390 = .ok (.aload_n 0, 1) := by decide +kernel
theorem dX8_fillsStream_391 : decode cX8_fillsStream 391 = .ok (.getfield 60, 3) := by decide +kernel
theorem dX8_fillsStream_394 : decode cX8_fillsStream 394 = .ok (.iload 4, 2) := by decide +kernel
theorem dX8_fillsStream_396 : decode cX8_fillsStream 396 = .ok (.iaload, 1) := by decide +kernel
theorem dX8_fillsStream_397 : decode cX8_fillsStream 397 = .ok (.iconst 3, 1) := by decide +kernel
theorem dX8_fillsStream_398 : decode cX8_fillsStream 398 = .ok (.if_icmp .eq 11, 3) := by decide +kernel
theorem dX8_fillsStream_401 : decode cX8_fillsStream 401 = .ok (.aload_n 0, 1) := by decide +kernel
theorem dX8_fillsStream_402 : decode cX8_fillsStream 402 = .ok (.getfield 60, 3) := by decide +kernel
theorem dX8_fillsStream_405 : decode cX8_fillsStream 405 = .ok (.iload 4, 2) := by decide +kernel
theorem dX8_fillsStream_407 : decode cX8_fillsStream 407 = .ok (.iconst 1, 1) := by decide +kernel
theorem dX8_fillsStream_408 : decode cX8_fillsStream 408 = .ok (.iastore, 1) := by decide +kernel
theorem dX8_fillsStream_409 : decode cX8_fillsStream 409 = .ok (.iconst 1, 1) := by decide +kernel
theorem dX8_fillsStream_410 : decode cX8_fillsStream 410 = .ok (.ireturn, 1) := by decide +kernel
theorem dX8_firstIn_0 : decode cX8_firstIn 0 = .ok (.iconst 0, 1) := by decide +kernel
theorem dX8_firstIn_1 : decode cX8_firstIn 1 = .ok (.istore 4, 2) := by decide +kernel
theorem dX8_firstIn_3 : decode cX8_firstIn 3 = .ok (.ldc 214, 2) := by decide +kernel
theorem dX8_firstIn_5 : decode cX8_firstIn 5 = .ok (.iload_n 1, 1) := by decide +kernel
theorem dX8_firstIn_6 : decode cX8_firstIn 6 = .ok (.imul, 1) := by decide +kernel
theorem dX8_firstIn_7 : decode cX8_firstIn 7 = .ok (.istore 5, 2) := by decide +kernel
theorem dX8_firstIn_9 : decode cX8_firstIn 9 = .ok (.iload 5, 2) := by decide +kernel
theorem dX8_firstIn_11 : decode cX8_firstIn 11 = .ok (.ldc 214, 2) := by decide +kernel
theorem dX8_firstIn_13 : decode cX8_firstIn 13 = .ok (.iload_n 1, 1) := by decide +kernel
theorem dX8_firstIn_14 : decode cX8_firstIn 14 = .ok (.imul, 1) := by decide +kernel
theorem dX8_firstIn_15 : decode cX8_firstIn 15 = .ok (.aload_n 0, 1) := by decide +kernel
theorem dX8_firstIn_16 : decode cX8_firstIn 16 = .ok (.getfield 108, 3) := by decide +kernel
theorem dX8_firstIn_19 : decode cX8_firstIn 19 = .ok (.iload_n 1, 1) := by decide +kernel
theorem dX8_firstIn_20 : decode cX8_firstIn 20 = .ok (.iaload, 1) := by decide +kernel
theorem dX8_firstIn_21 : decode cX8_firstIn 21 = .ok (.iadd, 1) := by decide +kernel
theorem dX8_firstIn_22 : decode cX8_firstIn 22 = .ok (.if_icmp .ge 40, 3) := by decide +kernel
theorem dX8_firstIn_25 : decode cX8_firstIn 25 = .ok (.aload_n 0, 1) := by decide +kernel
theorem dX8_firstIn_26 : decode cX8_firstIn 26 = .ok (.getfield 112, 3) := by decide +kernel
theorem dX8_firstIn_29 : decode cX8_firstIn 29 = .ok (.iload 5, 2) := by decide +kernel
theorem dX8_firstIn_31 : decode cX8_firstIn 31 = .ok (.saload, 1) := by decide +kernel
theorem dX8_firstIn_32 : decode cX8_firstIn 32 = .ok (.iload_n 2, 1) := by decide +kernel
theorem dX8_firstIn_33 : decode cX8_firstIn 33 = .ok (.if_icmp .eq 6, 3) := by decide +kernel
theorem dX8_firstIn_36 : decode cX8_firstIn 36 = .ok (.goto 20, 3) := by decide +kernel
theorem dX8_firstIn_39 : decode cX8_firstIn 39 = .ok (.aload_n 0, 1) := by decide +kernel
theorem dX8_firstIn_40 : decode cX8_firstIn 40 = .ok (.getfield 120, 3) := by decide +kernel
theorem dX8_firstIn_43 : decode cX8_firstIn 43 = .ok (.iload 5, 2) := by decide +kernel
theorem dX8_firstIn_45 : decode cX8_firstIn 45 = .ok (.baload, 1) := by decide +kernel
theorem dX8_firstIn_46 : decode cX8_firstIn 46 = .ok (.iload_n 3, 1) := by decide +kernel
theorem dX8_firstIn_47 : decode cX8_firstIn 47 = .ok (.if_icmp .ne 6, 3) := by decide +kernel
theorem dX8_firstIn_50 : decode cX8_firstIn 50 = .ok (.iload 4, 2) := by decide +kernel
theorem dX8_firstIn_52 : decode cX8_firstIn 52 = .ok (.ireturn, 1) := by decide +kernel
theorem dX8_firstIn_53 : decode cX8_firstIn 53 = .ok (.iinc 4 1, 3) := by decide +kernel
theorem dX8_firstIn_56 : decode cX8_firstIn 56 = .ok (.iinc 5 1, 3) := by decide +kernel
theorem dX8_firstIn_59 : decode cX8_firstIn 59 = .ok (.goto (-50), 3) := by decide +kernel
theorem dX8_firstIn_62 : decode cX8_firstIn 62 = .ok (.iconst (-1), 1) := by decide +kernel
theorem dX8_firstIn_63 : decode cX8_firstIn 63 = .ok (.ireturn, 1) := by decide +kernel
theorem dX8_allowed_0 : decode cX8_allowed 0 = .ok (.aload_n 0, 1) := by decide +kernel
theorem dX8_allowed_1 : decode cX8_allowed 1 = .ok (.getfield 54, 3) := by decide +kernel
theorem dX8_allowed_4 : decode cX8_allowed 4 = .ok (.iload_n 1, 1) := by decide +kernel
theorem dX8_allowed_5 : decode cX8_allowed 5 = .ok (.iload_n 2, 1) := by decide +kernel
theorem dX8_allowed_6 : decode cX8_allowed 6 = .ok (.invokestatic 189, 3) := by decide +kernel
theorem dX8_allowed_9 : decode cX8_allowed 9 = .ok (.laload, 1) := by decide +kernel
theorem dX8_allowed_10 : decode cX8_allowed 10 = .ok (.aload_n 0, 1) := by decide +kernel
theorem dX8_allowed_11 : decode cX8_allowed 11 = .ok (.iload_n 1, 1) := by decide +kernel
theorem dX8_allowed_12 : decode cX8_allowed 12 = .ok (.iload_n 2, 1) := by decide +kernel
theorem dX8_allowed_13 : decode cX8_allowed 13 = .ok (.invokevirtual 369, 3) := by decide +kernel
theorem dX8_allowed_16 : decode cX8_allowed 16 = .ok (.i2l, 1) := by decide +kernel
theorem dX8_allowed_17 : decode cX8_allowed 17 = .ok (.lsub, 1) := by decide +kernel
theorem dX8_allowed_18 : decode cX8_allowed 18 = .ok (.lstore_n 3, 1) := by decide +kernel
theorem dX8_allowed_19 : decode cX8_allowed 19 = .ok (.aload_n 0, 1) := by decide +kernel
theorem dX8_allowed_20 : decode cX8_allowed 20 = .ok (.getfield 19, 3) := by decide +kernel
theorem dX8_allowed_23 : decode cX8_allowed 23 = .ok (.iconst 3, 1) := by decide +kernel
theorem dX8_allowed_24 : decode cX8_allowed 24 = .ok (.iload_n 1, 1) := by decide +kernel
theorem dX8_allowed_25 : decode cX8_allowed 25 = .ok (.imul, 1) := by decide +kernel
theorem dX8_allowed_26 : decode cX8_allowed 26 = .ok (.laload, 1) := by decide +kernel
theorem dX8_allowed_27 : decode cX8_allowed 27 = .ok (.aload_n 0, 1) := by decide +kernel
theorem dX8_allowed_28 : decode cX8_allowed 28 = .ok (.iload_n 1, 1) := by decide +kernel
theorem dX8_allowed_29 : decode cX8_allowed 29 = .ok (.invokevirtual 379, 3) := by decide +kernel
theorem dX8_allowed_32 : decode cX8_allowed 32 = .ok (.i2l, 1) := by decide +kernel
theorem dX8_allowed_33 : decode cX8_allowed 33 = .ok (.lsub, 1) := by decide +kernel
theorem dX8_allowed_34 : decode cX8_allowed 34 = .ok (.lstore 5, 2) := by decide +kernel
theorem dX8_allowed_36 : decode cX8_allowed 36 = .ok (.lload_n 3, 1) := by decide +kernel
theorem dX8_allowed_37 : decode cX8_allowed 37 = .ok (.lload 5, 2) := by decide +kernel
theorem dX8_allowed_39 : decode cX8_allowed 39 = .ok (.lcmp, 1) := by decide +kernel
theorem dX8_allowed_40 : decode cX8_allowed 40 = .ok (.ifCond .ge 7, 3) := by decide +kernel
theorem dX8_allowed_43 : decode cX8_allowed 43 = .ok (.lload_n 3, 1) := by decide +kernel
theorem dX8_allowed_44 : decode cX8_allowed 44 = .ok (.goto 5, 3) := by decide +kernel
theorem dX8_allowed_47 : decode cX8_allowed 47 = .ok (.lload 5, 2) := by decide +kernel
theorem dX8_allowed_49 : decode cX8_allowed 49 = .ok (.lstore 7, 2) := by decide +kernel
theorem dX8_allowed_51 : decode cX8_allowed 51 = .ok (.lload 7, 2) := by decide +kernel
theorem dX8_allowed_53 : decode cX8_allowed 53 = .ok (.lconst 0, 1) := by decide +kernel
theorem dX8_allowed_54 : decode cX8_allowed 54 = .ok (.lcmp, 1) := by decide +kernel
theorem dX8_allowed_55 : decode cX8_allowed 55 = .ok (.ifCond .ge 7, 3) := by decide +kernel
theorem dX8_allowed_58 : decode cX8_allowed 58 = .ok (.lconst 0, 1) := by decide +kernel
theorem dX8_allowed_59 : decode cX8_allowed 59 = .ok (.goto 5, 3) := by decide +kernel
theorem dX8_allowed_62 : decode cX8_allowed 62 = .ok (.lload 7, 2) := by decide +kernel
theorem dX8_allowed_64 : decode cX8_allowed 64 = .ok (.lreturn, 1) := by decide +kernel
theorem dX8_endAlone_0 : decode cX8_endAlone 0 = .ok (.aload_n 0, 1) := by decide +kernel
theorem dX8_endAlone_1 : decode cX8_endAlone 1 = .ok (.lconst 1, 1) := by decide +kernel
theorem dX8_endAlone_2 : decode cX8_endAlone 2 = .ok (.putfield 322, 3) := by decide +kernel
theorem dX8_endAlone_5 : decode cX8_endAlone 5 = .ok (.aload_n 0, 1) := by decide +kernel
theorem dX8_endAlone_6 : decode cX8_endAlone 6 = .ok (.invokevirtual 365, 3) := by decide +kernel
theorem dX8_endAlone_9 : decode cX8_endAlone 9 = .ok (.iload_n 3, 1) := by decide +kernel
theorem dX8_endAlone_10 : decode cX8_endAlone 10 = .ok (.if_icmp .le 5, 3) := by decide +kernel
theorem dX8_endAlone_13 : decode cX8_endAlone 13 = .ok (.iconst 0, 1) := by decide +kernel
theorem dX8_endAlone_14 : decode cX8_endAlone 14 = .ok (.ireturn, 1) := by decide +kernel
theorem dX8_endAlone_15 : decode cX8_endAlone 15 = .ok (.aload_n 0, 1) := by decide +kernel
theorem dX8_endAlone_16 : decode cX8_endAlone 16 = .ok (.getfield 60, 3) := by decide +kernel
theorem dX8_endAlone_19 : decode cX8_endAlone 19 = .ok (.iload_n 1, 1) := by decide +kernel
theorem dX8_endAlone_20 : decode cX8_endAlone 20 = .ok (.iload_n 2, 1) := by decide +kernel
theorem dX8_endAlone_21 : decode cX8_endAlone 21 = .ok (.invokestatic 189, 3) := by decide +kernel
theorem dX8_endAlone_24 : decode cX8_endAlone 24 = .ok (.iconst 1, 1) := by decide +kernel
theorem dX8_endAlone_25 : decode cX8_endAlone 25 = .ok (.iastore, 1) := by decide +kernel
theorem dX8_endAlone_26 : decode cX8_endAlone 26 = .ok (.iconst 1, 1) := by decide +kernel
theorem dX8_endAlone_27 : decode cX8_endAlone 27 = .ok (.ireturn, 1) := by decide +kernel
theorem dX8_placeOf_0 : decode cX8_placeOf 0 = .ok (.iload_n 3, 1) := by decide +kernel
theorem dX8_placeOf_1 : decode cX8_placeOf 1 = .ok (.istore 4, 2) := by decide +kernel
theorem dX8_placeOf_3 : decode cX8_placeOf 3 = .ok (.ldc 214, 2) := by decide +kernel
theorem dX8_placeOf_5 : decode cX8_placeOf 5 = .ok (.iload_n 1, 1) := by decide +kernel
theorem dX8_placeOf_6 : decode cX8_placeOf 6 = .ok (.imul, 1) := by decide +kernel
theorem dX8_placeOf_7 : decode cX8_placeOf 7 = .ok (.istore 5, 2) := by decide +kernel
theorem dX8_placeOf_9 : decode cX8_placeOf 9 = .ok (.aload_n 0, 1) := by decide +kernel
theorem dX8_placeOf_10 : decode cX8_placeOf 10 = .ok (.getfield 112, 3) := by decide +kernel
theorem dX8_placeOf_13 : decode cX8_placeOf 13 = .ok (.iload 5, 2) := by decide +kernel
theorem dX8_placeOf_15 : decode cX8_placeOf 15 = .ok (.saload, 1) := by decide +kernel
theorem dX8_placeOf_16 : decode cX8_placeOf 16 = .ok (.iload_n 2, 1) := by decide +kernel
theorem dX8_placeOf_17 : decode cX8_placeOf 17 = .ok (.if_icmp .ne 8, 3) := by decide +kernel
theorem dX8_placeOf_20 : decode cX8_placeOf 20 = .ok (.iload 4, 2) := by decide +kernel
theorem dX8_placeOf_22 : decode cX8_placeOf 22 = .ok (.ifCond .le 30, 3) := by decide +kernel
theorem dX8_placeOf_25 : decode cX8_placeOf 25 = .ok (.iload 4, 2) := by decide +kernel
theorem dX8_placeOf_27 : decode cX8_placeOf 27 = .ok (.aload_n 0, 1) := by decide +kernel
theorem dX8_placeOf_28 : decode cX8_placeOf 28 = .ok (.getfield 112, 3) := by decide +kernel
theorem dX8_placeOf_31 : decode cX8_placeOf 31 = .ok (.iload 5, 2) := by decide +kernel
theorem dX8_placeOf_33 : decode cX8_placeOf 33 = .ok (.saload, 1) := by decide +kernel
theorem dX8_placeOf_34 : decode cX8_placeOf 34 = .ok (.iload_n 2, 1) := by decide +kernel
theorem dX8_placeOf_35 : decode cX8_placeOf 35 = .ok (.if_icmp .ne 7, 3) := by decide +kernel
theorem dX8_placeOf_38 : decode cX8_placeOf 38 = .ok (.iconst 1, 1) := by decide +kernel
theorem dX8_placeOf_39 : decode cX8_placeOf 39 = .ok (.goto 4, 3) := by decide +kernel
theorem dX8_placeOf_42 : decode cX8_placeOf 42 = .ok (.iconst 0, 1) := by decide +kernel
theorem dX8_placeOf_43 : decode cX8_placeOf 43 = .ok (.isub, 1) := by decide +kernel
theorem dX8_placeOf_44 : decode cX8_placeOf 44 = .ok (.istore 4, 2) := by decide +kernel
theorem dX8_placeOf_46 : decode cX8_placeOf 46 = .ok (.iinc 5 1, 3) := by decide +kernel
theorem dX8_placeOf_49 : decode cX8_placeOf 49 = .ok (.goto (-40), 3) := by decide +kernel
theorem dX8_placeOf_52 : decode cX8_placeOf 52 = .ok (.iload 5, 2) := by decide +kernel
theorem dX8_placeOf_54 : decode cX8_placeOf 54 = .ok (.ireturn, 1) := by decide +kernel
theorem dX8_deliver_0 : decode cX8_deliver 0 = .ok (.aload_n 0, 1) := by decide +kernel
theorem dX8_deliver_1 : decode cX8_deliver 1 = .ok (.aload_n 0, 1) := by decide +kernel
theorem dX8_deliver_2 : decode cX8_deliver 2 = .ok (.iload_n 1, 1) := by decide +kernel
theorem dX8_deliver_3 : decode cX8_deliver 3 = .ok (.invokevirtual 413, 3) := by decide +kernel
theorem dX8_deliver_6 : decode cX8_deliver 6 = .ok (.iconst 1, 1) := by decide +kernel
theorem dX8_deliver_7 : decode cX8_deliver 7 = .ok (.invokevirtual 240, 3) := by decide +kernel
theorem dX8_deliver_10 : decode cX8_deliver 10 = .ok (.ifCond .eq 5, 3) := by decide +kernel
theorem dX8_deliver_13 : decode cX8_deliver 13 = .ok (.iconst 0, 1) := by decide +kernel
theorem dX8_deliver_14 : decode cX8_deliver 14 = .ok (.ireturn, 1) := by decide +kernel
theorem dX8_deliver_15 : decode cX8_deliver 15 = .ok (.aload_n 0, 1) := by decide +kernel
theorem dX8_deliver_16 : decode cX8_deliver 16 = .ok (.aload_n 0, 1) := by decide +kernel
theorem dX8_deliver_17 : decode cX8_deliver 17 = .ok (.getfield 145, 3) := by decide +kernel
theorem dX8_deliver_20 : decode cX8_deliver 20 = .ok (.iload_n 1, 1) := by decide +kernel
theorem dX8_deliver_21 : decode cX8_deliver 21 = .ok (.iaload, 1) := by decide +kernel
theorem dX8_deliver_22 : decode cX8_deliver 22 = .ok (.putfield 336, 3) := by decide +kernel
theorem dX8_deliver_25 : decode cX8_deliver 25 = .ok (.aload_n 0, 1) := by decide +kernel
theorem dX8_deliver_26 : decode cX8_deliver 26 = .ok (.aload_n 0, 1) := by decide +kernel
theorem dX8_deliver_27 : decode cX8_deliver 27 = .ok (.getfield 148, 3) := by decide +kernel
theorem dX8_deliver_30 : decode cX8_deliver 30 = .ok (.iload_n 1, 1) := by decide +kernel
theorem dX8_deliver_31 : decode cX8_deliver 31 = .ok (.laload, 1) := by decide +kernel
theorem dX8_deliver_32 : decode cX8_deliver 32 = .ok (.putfield 308, 3) := by decide +kernel
theorem dX8_deliver_35 : decode cX8_deliver 35 = .ok (.aload_n 0, 1) := by decide +kernel
theorem dX8_deliver_36 : decode cX8_deliver 36 = .ok (.aload_n 0, 1) := by decide +kernel
theorem dX8_deliver_37 : decode cX8_deliver 37 = .ok (.getfield 151, 3) := by decide +kernel
theorem dX8_deliver_40 : decode cX8_deliver 40 = .ok (.iload_n 1, 1) := by decide +kernel
theorem dX8_deliver_41 : decode cX8_deliver 41 = .ok (.laload, 1) := by decide +kernel
theorem dX8_deliver_42 : decode cX8_deliver 42 = .ok (.putfield 316, 3) := by decide +kernel
theorem dX8_deliver_45 : decode cX8_deliver 45 = .ok (.aload_n 0, 1) := by decide +kernel
theorem dX8_deliver_46 : decode cX8_deliver 46 = .ok (.aload_n 0, 1) := by decide +kernel
theorem dX8_deliver_47 : decode cX8_deliver 47 = .ok (.getfield 154, 3) := by decide +kernel
theorem dX8_deliver_50 : decode cX8_deliver 50 = .ok (.iload_n 1, 1) := by decide +kernel
theorem dX8_deliver_51 : decode cX8_deliver 51 = .ok (.laload, 1) := by decide +kernel
theorem dX8_deliver_52 : decode cX8_deliver 52 = .ok (.putfield 322, 3) := by decide +kernel
theorem dX8_deliver_55 : decode cX8_deliver 55 = .ok (.aload_n 0, 1) := by decide +kernel
theorem dX8_deliver_56 : decode cX8_deliver 56 = .ok (.aload_n 0, 1) := by decide +kernel
theorem dX8_deliver_57 : decode cX8_deliver 57 = .ok (.getfield 157, 3) := by decide +kernel
theorem dX8_deliver_60 : decode cX8_deliver 60 = .ok (.iload_n 1, 1) := by decide +kernel
theorem dX8_deliver_61 : decode cX8_deliver 61 = .ok (.iaload, 1) := by decide +kernel
theorem dX8_deliver_62 : decode cX8_deliver 62 = .ok (.putfield 319, 3) := by decide +kernel
theorem dX8_deliver_65 : decode cX8_deliver 65 = .ok (.iconst 0, 1) := by decide +kernel
theorem dX8_deliver_66 : decode cX8_deliver 66 = .ok (.istore_n 2, 1) := by decide +kernel
theorem dX8_deliver_67 : decode cX8_deliver 67 = .ok (.iload_n 2, 1) := by decide +kernel
theorem dX8_deliver_68 : decode cX8_deliver 68 = .ok (.aload_n 0, 1) := by decide +kernel
theorem dX8_deliver_69 : decode cX8_deliver 69 = .ok (.getfield 319, 3) := by decide +kernel
theorem dX8_deliver_72 : decode cX8_deliver 72 = .ok (.if_icmp .ge 27, 3) := by decide +kernel
theorem dX8_deliver_75 : decode cX8_deliver 75 = .ok (.aload_n 0, 1) := by decide +kernel
theorem dX8_deliver_76 : decode cX8_deliver 76 = .ok (.getfield 139, 3) := by decide +kernel
theorem dX8_deliver_79 : decode cX8_deliver 79 = .ok (.iload_n 2, 1) := by decide +kernel
theorem dX8_deliver_80 : decode cX8_deliver 80 = .ok (.aload_n 0, 1) := by decide +kernel
theorem dX8_deliver_81 : decode cX8_deliver 81 = .ok (.getfield 170, 3) := by decide +kernel
theorem dX8_deliver_84 : decode cX8_deliver 84 = .ok (.sipush 1200, 3) := by decide +kernel
theorem dX8_deliver_87 : decode cX8_deliver 87 = .ok (.iload_n 1, 1) := by decide +kernel
theorem dX8_deliver_88 : decode cX8_deliver 88 = .ok (.imul, 1) := by decide +kernel
theorem dX8_deliver_89 : decode cX8_deliver 89 = .ok (.iload_n 2, 1) := by decide +kernel
theorem dX8_deliver_90 : decode cX8_deliver 90 = .ok (.iadd, 1) := by decide +kernel
theorem dX8_deliver_91 : decode cX8_deliver 91 = .ok (.baload, 1) := by decide +kernel
theorem dX8_deliver_92 : decode cX8_deliver 92 = .ok (.bastore, 1) := by decide +kernel
theorem dX8_deliver_93 : decode cX8_deliver 93 = .ok (.iinc 2 1, 3) := by decide +kernel
theorem dX8_deliver_96 : decode cX8_deliver 96 = .ok (.goto (-29), 3) := by decide +kernel
theorem dX8_deliver_99 : decode cX8_deliver 99 = .ok (.aload_n 0, 1) := by decide +kernel
theorem dX8_deliver_100 : decode cX8_deliver 100 = .ok (.iconst 1, 1) := by decide +kernel
theorem dX8_deliver_101 : decode cX8_deliver 101 = .ok (.aload_n 0, 1) := by decide +kernel
theorem dX8_deliver_102 : decode cX8_deliver 102 = .ok (.getfield 142, 3) := by decide +kernel
theorem dX8_deliver_105 : decode cX8_deliver 105 = .ok (.iload_n 1, 1) := by decide +kernel
theorem dX8_deliver_106 : decode cX8_deliver 106 = .ok (.iaload, 1) := by decide +kernel
theorem dX8_deliver_107 : decode cX8_deliver 107 = .ok (.isub, 1) := by decide +kernel
theorem dX8_deliver_108 : decode cX8_deliver 108 = .ok (.invokevirtual 355, 3) := by decide +kernel
theorem dX8_deliver_111 : decode cX8_deliver 111 = .ok (.istore_n 2, 1) := by decide +kernel
theorem dX8_deliver_112 : decode cX8_deliver 112 = .ok (.iload_n 2, 1) := by decide +kernel
theorem dX8_deliver_113 : decode cX8_deliver 113 = .ok (.ifCond .ne 10, 3) := by decide +kernel
theorem dX8_deliver_116 : decode cX8_deliver 116 = .ok (.aload_n 0, 1) := by decide +kernel
theorem dX8_deliver_117 : decode cX8_deliver 117 = .ok (.getfield 166, 3) := by decide +kernel
theorem dX8_deliver_120 : decode cX8_deliver 120 = .ok (.iload_n 1, 1) := by decide +kernel
theorem dX8_deliver_121 : decode cX8_deliver 121 = .ok (.iconst 1, 1) := by decide +kernel
theorem dX8_deliver_122 : decode cX8_deliver 122 = .ok (.iastore, 1) := by decide +kernel
theorem dX8_deliver_123 : decode cX8_deliver 123 = .ok (.iload_n 2, 1) := by decide +kernel
theorem dX8_deliver_124 : decode cX8_deliver 124 = .ok (.ireturn, 1) := by decide +kernel
theorem dX8_noPlace_0 : decode cX8_noPlace 0 = .ok (.iload_n 1, 1) := by decide +kernel
theorem dX8_noPlace_1 : decode cX8_noPlace 1 = .ok (.ifCond .lt 18, 3) := by decide +kernel
theorem dX8_noPlace_4 : decode cX8_noPlace 4 = .ok (.iload_n 1, 1) := by decide +kernel
theorem dX8_noPlace_5 : decode cX8_noPlace 5 = .ok (.bipush 63, 2) := by decide +kernel
theorem dX8_noPlace_7 : decode cX8_noPlace 7 = .ok (.if_icmp .gt 12, 3) := by decide +kernel
theorem dX8_noPlace_10 : decode cX8_noPlace 10 = .ok (.aload_n 0, 1) := by decide +kernel
theorem dX8_noPlace_11 : decode cX8_noPlace 11 = .ok (.getfield 163, 3) := by decide +kernel
theorem dX8_noPlace_14 : decode cX8_noPlace 14 = .ok (.iload_n 1, 1) := by decide +kernel
theorem dX8_noPlace_15 : decode cX8_noPlace 15 = .ok (.baload, 1) := by decide +kernel
theorem dX8_noPlace_16 : decode cX8_noPlace 16 = .ok (.ifCond .ne 7, 3) := by decide +kernel
theorem dX8_noPlace_19 : decode cX8_noPlace 19 = .ok (.iconst 1, 1) := by decide +kernel
theorem dX8_noPlace_20 : decode cX8_noPlace 20 = .ok (.goto 4, 3) := by decide +kernel
theorem dX8_noPlace_23 : decode cX8_noPlace 23 = .ok (.iconst 0, 1) := by decide +kernel
theorem dX8_noPlace_24 : decode cX8_noPlace 24 = .ok (.ireturn, 1) := by decide +kernel
theorem dX8_gone_0 : decode cX8_gone 0 = .ok (.aload_n 0, 1) := by decide +kernel
theorem dX8_gone_1 : decode cX8_gone 1 = .ok (.aload_n 0, 1) := by decide +kernel
theorem dX8_gone_2 : decode cX8_gone 2 = .ok (.iload_n 1, 1) := by decide +kernel
theorem dX8_gone_3 : decode cX8_gone 3 = .ok (.invokevirtual 413, 3) := by decide +kernel
theorem dX8_gone_6 : decode cX8_gone 6 = .ok (.iconst 1, 1) := by decide +kernel
theorem dX8_gone_7 : decode cX8_gone 7 = .ok (.invokevirtual 240, 3) := by decide +kernel
theorem dX8_gone_10 : decode cX8_gone 10 = .ok (.ifCond .ne 30, 3) := by decide +kernel
theorem dX8_gone_13 : decode cX8_gone 13 = .ok (.aload_n 0, 1) := by decide +kernel
theorem dX8_gone_14 : decode cX8_gone 14 = .ok (.iload_n 2, 1) := by decide +kernel
theorem dX8_gone_15 : decode cX8_gone 15 = .ok (.ifCond .eq 17, 3) := by decide +kernel
theorem dX8_gone_18 : decode cX8_gone 18 = .ok (.aload_n 0, 1) := by decide +kernel
theorem dX8_gone_19 : decode cX8_gone 19 = .ok (.getfield 166, 3) := by decide +kernel
theorem dX8_gone_22 : decode cX8_gone 22 = .ok (.iload_n 1, 1) := by decide +kernel
theorem dX8_gone_23 : decode cX8_gone 23 = .ok (.iaload, 1) := by decide +kernel
theorem dX8_gone_24 : decode cX8_gone 24 = .ok (.iconst 1, 1) := by decide +kernel
theorem dX8_gone_25 : decode cX8_gone 25 = .ok (.if_icmp .eq 7, 3) := by decide +kernel
theorem dX8_gone_28 : decode cX8_gone 28 = .ok (.iconst 1, 1) := by decide +kernel
theorem dX8_gone_29 : decode cX8_gone 29 = .ok (.goto 4, 3) := by decide +kernel
theorem dX8_gone_32 : decode cX8_gone 32 = .ok (.iconst 0, 1) := by decide +kernel
theorem dX8_gone_33 : decode cX8_gone 33 = .ok (.iconst 2, 1) := by decide +kernel
theorem dX8_gone_34 : decode cX8_gone 34 = .ok (.invokevirtual 240, 3) := by decide +kernel
theorem dX8_gone_37 : decode cX8_gone 37 = .ok (.ifCond .eq 4, 3) := by decide +kernel
theorem dX8_gone_40 : decode cX8_gone 40 = .ok (.return_, 1) := by decide +kernel
theorem dX8_gone_41 : decode cX8_gone 41 = .ok (.aload_n 0, 1) := by decide +kernel
theorem dX8_gone_42 : decode cX8_gone 42 = .ok (.getfield 163, 3) := by decide +kernel
theorem dX8_gone_45 : decode cX8_gone 45 = .ok (.iload_n 1, 1) := by decide +kernel
theorem dX8_gone_46 : decode cX8_gone 46 = .ok (.iconst 0, 1) := by decide +kernel
theorem dX8_gone_47 : decode cX8_gone 47 = .ok (.bastore, 1) := by decide +kernel
theorem dX8_gone_48 : decode cX8_gone 48 = .ok (.aload_n 0, 1) := by decide +kernel
theorem dX8_gone_49 : decode cX8_gone 49 = .ok (.getfield 142, 3) := by decide +kernel
theorem dX8_gone_52 : decode cX8_gone 52 = .ok (.iload_n 1, 1) := by decide +kernel
theorem dX8_gone_53 : decode cX8_gone 53 = .ok (.iaload, 1) := by decide +kernel
theorem dX8_gone_54 : decode cX8_gone 54 = .ok (.istore_n 3, 1) := by decide +kernel
theorem dX8_gone_55 : decode cX8_gone 55 = .ok (.aload_n 0, 1) := by decide +kernel
theorem dX8_gone_56 : decode cX8_gone 56 = .ok (.getfield 148, 3) := by decide +kernel
theorem dX8_gone_59 : decode cX8_gone 59 = .ok (.iload_n 1, 1) := by decide +kernel
theorem dX8_gone_60 : decode cX8_gone 60 = .ok (.laload, 1) := by decide +kernel
theorem dX8_gone_61 : decode cX8_gone 61 = .ok (.lstore 4, 2) := by decide +kernel
theorem dX8_gone_63 : decode cX8_gone 63 = .ok (.iload_n 3, 1) := by decide +kernel
theorem dX8_gone_64 : decode cX8_gone 64 = .ok (.lload 4, 2) := by decide +kernel
theorem dX8_gone_66 : decode cX8_gone 66 = .ok (.ldc2_w 301, 3) := by decide +kernel
theorem dX8_gone_69 : decode cX8_gone 69 = .ok (.lcmp, 1) := by decide +kernel
theorem dX8_gone_70 : decode cX8_gone 70 = .ok (.ifCond .ge 9, 3) := by decide +kernel
theorem dX8_gone_73 : decode cX8_gone 73 = .ok (.lload 4, 2) := by decide +kernel
theorem dX8_gone_75 : decode cX8_gone 75 = .ok (.l2i, 1) := by decide +kernel
theorem dX8_gone_76 : decode cX8_gone 76 = .ok (.goto 4, 3) := by decide +kernel
theorem dX8_gone_79 : decode cX8_gone 79 = .ok (.iconst 0, 1) := by decide +kernel
theorem dX8_gone_80 : decode cX8_gone 80 = .ok (.invokestatic 189, 3) := by decide +kernel
theorem dX8_gone_83 : decode cX8_gone 83 = .ok (.istore 6, 2) := by decide +kernel
theorem dX8_gone_85 : decode cX8_gone 85 = .ok (.aload_n 0, 1) := by decide +kernel
theorem dX8_gone_86 : decode cX8_gone 86 = .ok (.getfield 145, 3) := by decide +kernel
theorem dX8_gone_89 : decode cX8_gone 89 = .ok (.iload_n 1, 1) := by decide +kernel
theorem dX8_gone_90 : decode cX8_gone 90 = .ok (.iaload, 1) := by decide +kernel
theorem dX8_gone_91 : decode cX8_gone 91 = .ok (.tableswitch 338 4 21 #[95, 155, 338, 338, 85, 338, 338, 338, 338, 338, 338, 338, 170, 196, 228, 228, 272, 304], 85) := by decide +kernel
theorem dX8_gone_176 : decode cX8_gone 176 = .ok (.aload_n 0, 1) := by decide +kernel
theorem dX8_gone_177 : decode cX8_gone 177 = .ok (.iload_n 3, 1) := by decide +kernel
theorem dX8_gone_178 : decode cX8_gone 178 = .ok (.iload_n 1, 1) := by decide +kernel
theorem dX8_gone_179 : decode cX8_gone 179 = .ok (.iload_n 2, 1) := by decide +kernel
theorem dX8_gone_180 : decode cX8_gone 180 = .ok (.invokevirtual 416, 3) := by decide +kernel
theorem dX8_gone_183 : decode cX8_gone 183 = .ok (.goto 290, 3) := by decide +kernel
theorem dX8_gone_186 : decode cX8_gone 186 = .ok (.iload_n 2, 1) := by decide +kernel
theorem dX8_gone_187 : decode cX8_gone 187 = .ok (.ifCond .eq 25, 3) := by decide +kernel
theorem dX8_gone_190 : decode cX8_gone 190 = .ok (.aload_n 0, 1) := by decide +kernel
theorem dX8_gone_191 : decode cX8_gone 191 = .ok (.getfield 63, 3) := by decide +kernel
theorem dX8_gone_194 : decode cX8_gone 194 = .ok (.iload 6, 2) := by decide +kernel
theorem dX8_gone_196 : decode cX8_gone 196 = .ok (.iaload, 1) := by decide +kernel
theorem dX8_gone_197 : decode cX8_gone 197 = .ok (.iconst 1, 1) := by decide +kernel
theorem dX8_gone_198 : decode cX8_gone 198 = .ok (.if_icmp .ne 14, 3) := by decide +kernel
theorem dX8_gone_201 : decode cX8_gone 201 = .ok (.aload_n 0, 1) := by decide +kernel
theorem dX8_gone_202 : decode cX8_gone 202 = .ok (.getfield 63, 3) := by decide +kernel
theorem dX8_gone_205 : decode cX8_gone 205 = .ok (.iload 6, 2) := by decide +kernel
theorem dX8_gone_207 : decode cX8_gone 207 = .ok (.iconst 2, 1) := by decide +kernel
theorem dX8_gone_208 : decode cX8_gone 208 = .ok (.iastore, 1) := by decide +kernel
theorem dX8_gone_209 : decode cX8_gone 209 = .ok (.goto 26, 3) := by decide +kernel
theorem dX8_gone_212 : decode cX8_gone 212 = .ok (.iload_n 2, 1) := by decide +kernel
theorem dX8_gone_213 : decode cX8_gone 213 = .ok (.ifCond .ne 22, 3) := by decide +kernel
theorem dX8_gone_216 : decode cX8_gone 216 = .ok (.aload_n 0, 1) := by decide +kernel
theorem dX8_gone_217 : decode cX8_gone 217 = .ok (.getfield 63, 3) := by decide +kernel
theorem dX8_gone_220 : decode cX8_gone 220 = .ok (.iload 6, 2) := by decide +kernel
theorem dX8_gone_222 : decode cX8_gone 222 = .ok (.iaload, 1) := by decide +kernel
theorem dX8_gone_223 : decode cX8_gone 223 = .ok (.iconst 1, 1) := by decide +kernel
theorem dX8_gone_224 : decode cX8_gone 224 = .ok (.if_icmp .ne 11, 3) := by decide +kernel
theorem dX8_gone_227 : decode cX8_gone 227 = .ok (.aload_n 0, 1) := by decide +kernel
theorem dX8_gone_228 : decode cX8_gone 228 = .ok (.getfield 66, 3) := by decide +kernel
theorem dX8_gone_231 : decode cX8_gone 231 = .ok (.iload 6, 2) := by decide +kernel
theorem dX8_gone_233 : decode cX8_gone 233 = .ok (.iconst 1, 1) := by decide +kernel
theorem dX8_gone_234 : decode cX8_gone 234 = .ok (.bastore, 1) := by decide +kernel
theorem dX8_gone_235 : decode cX8_gone 235 = .ok (.aload_n 0, 1) := by decide +kernel
theorem dX8_gone_236 : decode cX8_gone 236 = .ok (.iload_n 3, 1) := by decide +kernel
theorem dX8_gone_237 : decode cX8_gone 237 = .ok (.lload 4, 2) := by decide +kernel
theorem dX8_gone_239 : decode cX8_gone 239 = .ok (.l2i, 1) := by decide +kernel
theorem dX8_gone_240 : decode cX8_gone 240 = .ok (.invokevirtual 298, 3) := by decide +kernel
theorem dX8_gone_243 : decode cX8_gone 243 = .ok (.goto 230, 3) := by decide +kernel
theorem dX8_gone_246 : decode cX8_gone 246 = .ok (.iload_n 2, 1) := by decide +kernel
theorem dX8_gone_247 : decode cX8_gone 247 = .ok (.ifCond .ne 226, 3) := by decide +kernel
theorem dX8_gone_250 : decode cX8_gone 250 = .ok (.aload_n 0, 1) := by decide +kernel
theorem dX8_gone_251 : decode cX8_gone 251 = .ok (.getfield 99, 3) := by decide +kernel
theorem dX8_gone_254 : decode cX8_gone 254 = .ok (.iload 6, 2) := by decide +kernel
theorem dX8_gone_256 : decode cX8_gone 256 = .ok (.iconst 1, 1) := by decide +kernel
theorem dX8_gone_257 : decode cX8_gone 257 = .ok (.bastore, 1) := by decide +kernel
theorem dX8_gone_258 : decode cX8_gone 258 = .ok (.goto 215, 3) := by decide +kernel
theorem dX8_gone_261 : decode cX8_gone 261 = .ok (.iload_n 2, 1) := by decide +kernel
theorem dX8_gone_262 : decode cX8_gone 262 = .ok (.ifCond .ne 211, 3) := by decide +kernel
theorem dX8_gone_265 : decode cX8_gone 265 = .ok (.lload 4, 2) := by decide +kernel
theorem dX8_gone_267 : decode cX8_gone 267 = .ok (.aload_n 0, 1) := by decide +kernel
theorem dX8_gone_268 : decode cX8_gone 268 = .ok (.getfield 32, 3) := by decide +kernel
theorem dX8_gone_271 : decode cX8_gone 271 = .ok (.iload_n 3, 1) := by decide +kernel
theorem dX8_gone_272 : decode cX8_gone 272 = .ok (.laload, 1) := by decide +kernel
theorem dX8_gone_273 : decode cX8_gone 273 = .ok (.lcmp, 1) := by decide +kernel
theorem dX8_gone_274 : decode cX8_gone 274 = .ok (.ifCond .ne 199, 3) := by decide +kernel
theorem dX8_gone_277 : decode cX8_gone 277 = .ok (.aload_n 0, 1) := by decide +kernel
theorem dX8_gone_278 : decode cX8_gone 278 = .ok (.getfield 35, 3) := by decide +kernel
theorem dX8_gone_281 : decode cX8_gone 281 = .ok (.iload_n 3, 1) := by decide +kernel
theorem dX8_gone_282 : decode cX8_gone 282 = .ok (.iconst 1, 1) := by decide +kernel
theorem dX8_gone_283 : decode cX8_gone 283 = .ok (.bastore, 1) := by decide +kernel
theorem dX8_gone_284 : decode cX8_gone 284 = .ok (.goto 189, 3) := by decide +kernel
theorem dX8_gone_287 : decode cX8_gone 287 = .ok (.iload_n 2, 1) := by decide +kernel
theorem dX8_gone_288 : decode cX8_gone 288 = .ok (.ifCond .ne 185, 3) := by decide +kernel
theorem dX8_gone_291 : decode cX8_gone 291 = .ok (.aload_n 0, 1) := by decide +kernel
theorem dX8_gone_292 : decode cX8_gone 292 = .ok (.getfield 151, 3) := by decide +kernel
theorem dX8_gone_295 : decode cX8_gone 295 = .ok (.iload_n 1, 1) := by decide +kernel
theorem dX8_gone_296 : decode cX8_gone 296 = .ok (.laload, 1) := by decide +kernel
theorem dX8_gone_297 : decode cX8_gone 297 = .ok (.aload_n 0, 1) := by decide +kernel
theorem dX8_gone_298 : decode cX8_gone 298 = .ok (.getfield 90, 3) := by decide +kernel
theorem dX8_gone_301 : decode cX8_gone 301 = .ok (.iload 6, 2) := by decide +kernel
theorem dX8_gone_303 : decode cX8_gone 303 = .ok (.laload, 1) := by decide +kernel
theorem dX8_gone_304 : decode cX8_gone 304 = .ok (.lcmp, 1) := by decide +kernel
theorem dX8_gone_305 : decode cX8_gone 305 = .ok (.ifCond .ne 168, 3) := by decide +kernel
theorem dX8_gone_308 : decode cX8_gone 308 = .ok (.aload_n 0, 1) := by decide +kernel
theorem dX8_gone_309 : decode cX8_gone 309 = .ok (.getfield 93, 3) := by decide +kernel
theorem dX8_gone_312 : decode cX8_gone 312 = .ok (.iload 6, 2) := by decide +kernel
theorem dX8_gone_314 : decode cX8_gone 314 = .ok (.iconst 1, 1) := by decide +kernel
theorem dX8_gone_315 : decode cX8_gone 315 = .ok (.bastore, 1) := by decide +kernel
theorem dX8_gone_316 : decode cX8_gone 316 = .ok (.goto 157, 3) := by decide +kernel
theorem dX8_gone_319 : decode cX8_gone 319 = .ok (.iconst 2, 1) := by decide +kernel
theorem dX8_gone_320 : decode cX8_gone 320 = .ok (.iload_n 3, 1) := by decide +kernel
theorem dX8_gone_321 : decode cX8_gone 321 = .ok (.imul, 1) := by decide +kernel
theorem dX8_gone_322 : decode cX8_gone 322 = .ok (.aload_n 0, 1) := by decide +kernel
theorem dX8_gone_323 : decode cX8_gone 323 = .ok (.getfield 145, 3) := by decide +kernel
theorem dX8_gone_326 : decode cX8_gone 326 = .ok (.iload_n 1, 1) := by decide +kernel
theorem dX8_gone_327 : decode cX8_gone 327 = .ok (.iaload, 1) := by decide +kernel
theorem dX8_gone_328 : decode cX8_gone 328 = .ok (.iadd, 1) := by decide +kernel
theorem dX8_gone_329 : decode cX8_gone 329 = .ok (.bipush 18, 2) := by decide +kernel
theorem dX8_gone_331 : decode cX8_gone 331 = .ok (.isub, 1) := by decide +kernel
theorem dX8_gone_332 : decode cX8_gone 332 = .ok (.istore 7, 2) := by decide +kernel
theorem dX8_gone_334 : decode cX8_gone 334 = .ok (.iload_n 2, 1) := by decide +kernel
theorem dX8_gone_335 : decode cX8_gone 335 = .ok (.ifCond .ne 138, 3) := by decide +kernel
theorem dX8_gone_338 : decode cX8_gone 338 = .ok (.lload 4, 2) := by decide +kernel
theorem dX8_gone_340 : decode cX8_gone 340 = .ok (.aload_n 0, 1) := by decide +kernel
theorem dX8_gone_341 : decode cX8_gone 341 = .ok (.getfield 29, 3) := by decide +kernel
theorem dX8_gone_344 : decode cX8_gone 344 = .ok (.iload 7, 2) := by decide +kernel
theorem dX8_gone_346 : decode cX8_gone 346 = .ok (.iaload, 1) := by decide +kernel
theorem dX8_gone_347 : decode cX8_gone 347 = .ok (.i2l, 1) := by decide +kernel
theorem dX8_gone_348 : decode cX8_gone 348 = .ok (.lcmp, 1) := by decide +kernel
theorem dX8_gone_349 : decode cX8_gone 349 = .ok (.ifCond .ne 124, 3) := by decide +kernel
theorem dX8_gone_352 : decode cX8_gone 352 = .ok (.aload_n 0, 1) := by decide +kernel
theorem dX8_gone_353 : decode cX8_gone 353 = .ok (.getfield 39, 3) := by decide +kernel
theorem dX8_gone_356 : decode cX8_gone 356 = .ok (.iload 7, 2) := by decide +kernel
theorem dX8_gone_358 : decode cX8_gone 358 = .ok (.iconst 1, 1) := by decide +kernel
theorem dX8_gone_359 : decode cX8_gone 359 = .ok (.bastore, 1) := by decide +kernel
theorem dX8_gone_360 : decode cX8_gone 360 = .ok (.goto 113, 3) := by decide +kernel
theorem dX8_gone_363 : decode cX8_gone 363 = .ok (.iload_n 2, 1) := by decide +kernel
theorem dX8_gone_364 : decode cX8_gone 364 = .ok (.ifCond .ne 109, 3) := by decide +kernel
theorem dX8_gone_367 : decode cX8_gone 367 = .ok (.aload_n 0, 1) := by decide +kernel
theorem dX8_gone_368 : decode cX8_gone 368 = .ok (.getfield 42, 3) := by decide +kernel
theorem dX8_gone_371 : decode cX8_gone 371 = .ok (.iconst 3, 1) := by decide +kernel
theorem dX8_gone_372 : decode cX8_gone 372 = .ok (.iload_n 3, 1) := by decide +kernel
theorem dX8_gone_373 : decode cX8_gone 373 = .ok (.imul, 1) := by decide +kernel
theorem dX8_gone_374 : decode cX8_gone 374 = .ok (.laload, 1) := by decide +kernel
theorem dX8_gone_375 : decode cX8_gone 375 = .ok (.lload 4, 2) := by decide +kernel
theorem dX8_gone_377 : decode cX8_gone 377 = .ok (.lcmp, 1) := by decide +kernel
theorem dX8_gone_378 : decode cX8_gone 378 = .ok (.ifCond .ne 95, 3) := by decide +kernel
theorem dX8_gone_381 : decode cX8_gone 381 = .ok (.aload_n 0, 1) := by decide +kernel
theorem dX8_gone_382 : decode cX8_gone 382 = .ok (.getfield 42, 3) := by decide +kernel
theorem dX8_gone_385 : decode cX8_gone 385 = .ok (.iconst 3, 1) := by decide +kernel
theorem dX8_gone_386 : decode cX8_gone 386 = .ok (.iload_n 3, 1) := by decide +kernel
theorem dX8_gone_387 : decode cX8_gone 387 = .ok (.imul, 1) := by decide +kernel
theorem dX8_gone_388 : decode cX8_gone 388 = .ok (.ldc2_w 175, 3) := by decide +kernel
theorem dX8_gone_391 : decode cX8_gone 391 = .ok (.lastore, 1) := by decide +kernel
theorem dX8_gone_392 : decode cX8_gone 392 = .ok (.goto 81, 3) := by decide +kernel
theorem dX8_gone_395 : decode cX8_gone 395 = .ok (.iload_n 2, 1) := by decide +kernel
theorem dX8_gone_396 : decode cX8_gone 396 = .ok (.ifCond .ne 77, 3) := by decide +kernel
theorem dX8_gone_399 : decode cX8_gone 399 = .ok (.aload_n 0, 1) := by decide +kernel
theorem dX8_gone_400 : decode cX8_gone 400 = .ok (.getfield 72, 3) := by decide +kernel
theorem dX8_gone_403 : decode cX8_gone 403 = .ok (.iload 6, 2) := by decide +kernel
theorem dX8_gone_405 : decode cX8_gone 405 = .ok (.laload, 1) := by decide +kernel
theorem dX8_gone_406 : decode cX8_gone 406 = .ok (.aload_n 0, 1) := by decide +kernel
theorem dX8_gone_407 : decode cX8_gone 407 = .ok (.getfield 151, 3) := by decide +kernel
theorem dX8_gone_410 : decode cX8_gone 410 = .ok (.iload_n 1, 1) := by decide +kernel
theorem dX8_gone_411 : decode cX8_gone 411 = .ok (.laload, 1) := by decide +kernel
theorem dX8_gone_412 : decode cX8_gone 412 = .ok (.lcmp, 1) := by decide +kernel
theorem dX8_gone_413 : decode cX8_gone 413 = .ok (.ifCond .ne 60, 3) := by decide +kernel
theorem dX8_gone_416 : decode cX8_gone 416 = .ok (.aload_n 0, 1) := by decide +kernel
theorem dX8_gone_417 : decode cX8_gone 417 = .ok (.getfield 72, 3) := by decide +kernel
theorem dX8_gone_420 : decode cX8_gone 420 = .ok (.iload 6, 2) := by decide +kernel
theorem dX8_gone_422 : decode cX8_gone 422 = .ok (.ldc2_w 175, 3) := by decide +kernel
theorem dX8_gone_425 : decode cX8_gone 425 = .ok (.lastore, 1) := by decide +kernel
theorem dX8_gone_426 : decode cX8_gone 426 = .ok (.goto 47, 3) := by decide +kernel
theorem dX8_gone_429 : decode cX8_gone 429 = .ok (.iconst 3, 1) := by decide +kernel
theorem dX8_gone_430 : decode cX8_gone 430 = .ok (.iload_n 3, 1) := by decide +kernel
theorem dX8_gone_431 : decode cX8_gone 431 = .ok (.imul, 1) := by decide +kernel
theorem dX8_gone_432 : decode cX8_gone 432 = .ok (.iconst 1, 1) := by decide +kernel
theorem dX8_gone_433 : decode cX8_gone 433 = .ok (.iadd, 1) := by decide +kernel
theorem dX8_gone_434 : decode cX8_gone 434 = .ok (.aload_n 0, 1) := by decide +kernel
theorem dX8_gone_435 : decode cX8_gone 435 = .ok (.getfield 145, 3) := by decide +kernel
theorem dX8_gone_438 : decode cX8_gone 438 = .ok (.iload_n 1, 1) := by decide +kernel
theorem dX8_gone_439 : decode cX8_gone 439 = .ok (.iaload, 1) := by decide +kernel
theorem dX8_gone_440 : decode cX8_gone 440 = .ok (.iadd, 1) := by decide +kernel
theorem dX8_gone_441 : decode cX8_gone 441 = .ok (.bipush 22, 2) := by decide +kernel
theorem dX8_gone_443 : decode cX8_gone 443 = .ok (.isub, 1) := by decide +kernel
theorem dX8_gone_444 : decode cX8_gone 444 = .ok (.istore 8, 2) := by decide +kernel
theorem dX8_gone_446 : decode cX8_gone 446 = .ok (.iload_n 2, 1) := by decide +kernel
theorem dX8_gone_447 : decode cX8_gone 447 = .ok (.ifCond .ne 26, 3) := by decide +kernel
theorem dX8_gone_450 : decode cX8_gone 450 = .ok (.aload_n 0, 1) := by decide +kernel
theorem dX8_gone_451 : decode cX8_gone 451 = .ok (.getfield 42, 3) := by decide +kernel
theorem dX8_gone_454 : decode cX8_gone 454 = .ok (.iload 8, 2) := by decide +kernel
theorem dX8_gone_456 : decode cX8_gone 456 = .ok (.laload, 1) := by decide +kernel
theorem dX8_gone_457 : decode cX8_gone 457 = .ok (.lload 4, 2) := by decide +kernel
theorem dX8_gone_459 : decode cX8_gone 459 = .ok (.lcmp, 1) := by decide +kernel
theorem dX8_gone_460 : decode cX8_gone 460 = .ok (.ifCond .ne 13, 3) := by decide +kernel
theorem dX8_gone_463 : decode cX8_gone 463 = .ok (.aload_n 0, 1) := by decide +kernel
theorem dX8_gone_464 : decode cX8_gone 464 = .ok (.getfield 42, 3) := by decide +kernel
theorem dX8_gone_467 : decode cX8_gone 467 = .ok (.iload 8, 2) := by decide +kernel
theorem dX8_gone_469 : decode cX8_gone 469 = .ok (.ldc2_w 175, 3) := by decide +kernel
theorem dX8_gone_472 : decode cX8_gone 472 = .ok (.lastore, 1) := by decide +kernel
theorem dX8_gone_473 : decode cX8_gone 473 = .ok (.return_, 1) := by decide +kernel
theorem dX8_goneStream_0 : decode cX8_goneStream 0 = .ok (.aload_n 0, 1) := by decide +kernel
theorem dX8_goneStream_1 : decode cX8_goneStream 1 = .ok (.getfield 148, 3) := by decide +kernel
theorem dX8_goneStream_4 : decode cX8_goneStream 4 = .ok (.iload_n 2, 1) := by decide +kernel
theorem dX8_goneStream_5 : decode cX8_goneStream 5 = .ok (.laload, 1) := by decide +kernel
theorem dX8_goneStream_6 : decode cX8_goneStream 6 = .ok (.l2i, 1) := by decide +kernel
theorem dX8_goneStream_7 : decode cX8_goneStream 7 = .ok (.istore 4, 2) := by decide +kernel
theorem dX8_goneStream_9 : decode cX8_goneStream 9 = .ok (.iload_n 1, 1) := by decide +kernel
theorem dX8_goneStream_10 : decode cX8_goneStream 10 = .ok (.iload 4, 2) := by decide +kernel
theorem dX8_goneStream_12 : decode cX8_goneStream 12 = .ok (.invokestatic 189, 3) := by decide +kernel
theorem dX8_goneStream_15 : decode cX8_goneStream 15 = .ok (.istore 5, 2) := by decide +kernel
theorem dX8_goneStream_17 : decode cX8_goneStream 17 = .ok (.iconst 0, 1) := by decide +kernel
theorem dX8_goneStream_18 : decode cX8_goneStream 18 = .ok (.istore 6, 2) := by decide +kernel
theorem dX8_goneStream_20 : decode cX8_goneStream 20 = .ok (.iload 6, 2) := by decide +kernel
theorem dX8_goneStream_22 : decode cX8_goneStream 22 = .ok (.aload_n 0, 1) := by decide +kernel
theorem dX8_goneStream_23 : decode cX8_goneStream 23 = .ok (.getfield 157, 3) := by decide +kernel
theorem dX8_goneStream_26 : decode cX8_goneStream 26 = .ok (.iload_n 2, 1) := by decide +kernel
theorem dX8_goneStream_27 : decode cX8_goneStream 27 = .ok (.iaload, 1) := by decide +kernel
theorem dX8_goneStream_28 : decode cX8_goneStream 28 = .ok (.if_icmp .ge 56, 3) := by decide +kernel
theorem dX8_goneStream_31 : decode cX8_goneStream 31 = .ok (.aload_n 0, 1) := by decide +kernel
theorem dX8_goneStream_32 : decode cX8_goneStream 32 = .ok (.iload_n 1, 1) := by decide +kernel
theorem dX8_goneStream_33 : decode cX8_goneStream 33 = .ok (.iload 4, 2) := by decide +kernel
theorem dX8_goneStream_35 : decode cX8_goneStream 35 = .ok (.aload_n 0, 1) := by decide +kernel
theorem dX8_goneStream_36 : decode cX8_goneStream 36 = .ok (.getfield 151, 3) := by decide +kernel
theorem dX8_goneStream_39 : decode cX8_goneStream 39 = .ok (.iload_n 2, 1) := by decide +kernel
theorem dX8_goneStream_40 : decode cX8_goneStream 40 = .ok (.laload, 1) := by decide +kernel
theorem dX8_goneStream_41 : decode cX8_goneStream 41 = .ok (.l2i, 1) := by decide +kernel
theorem dX8_goneStream_42 : decode cX8_goneStream 42 = .ok (.iload 6, 2) := by decide +kernel
theorem dX8_goneStream_44 : decode cX8_goneStream 44 = .ok (.iadd, 1) := by decide +kernel
theorem dX8_goneStream_45 : decode cX8_goneStream 45 = .ok (.invokevirtual 392, 3) := by decide +kernel
theorem dX8_goneStream_48 : decode cX8_goneStream 48 = .ok (.istore 7, 2) := by decide +kernel
theorem dX8_goneStream_50 : decode cX8_goneStream 50 = .ok (.aload_n 0, 1) := by decide +kernel
theorem dX8_goneStream_51 : decode cX8_goneStream 51 = .ok (.getfield 120, 3) := by decide +kernel
theorem dX8_goneStream_54 : decode cX8_goneStream 54 = .ok (.iload 7, 2) := by decide +kernel
theorem dX8_goneStream_56 : decode cX8_goneStream 56 = .ok (.baload, 1) := by decide +kernel
theorem dX8_goneStream_57 : decode cX8_goneStream 57 = .ok (.iconst 3, 1) := by decide +kernel
theorem dX8_goneStream_58 : decode cX8_goneStream 58 = .ok (.if_icmp .eq 20, 3) := by decide +kernel
theorem dX8_goneStream_61 : decode cX8_goneStream 61 = .ok (.aload_n 0, 1) := by decide +kernel
theorem dX8_goneStream_62 : decode cX8_goneStream 62 = .ok (.getfield 120, 3) := by decide +kernel
theorem dX8_goneStream_65 : decode cX8_goneStream 65 = .ok (.iload 7, 2) := by decide +kernel
theorem dX8_goneStream_67 : decode cX8_goneStream 67 = .ok (.iload_n 3, 1) := by decide +kernel
theorem dX8_goneStream_68 : decode cX8_goneStream 68 = .ok (.ifCond .eq 7, 3) := by decide +kernel
theorem dX8_goneStream_71 : decode cX8_goneStream 71 = .ok (.iconst 3, 1) := by decide +kernel
theorem dX8_goneStream_72 : decode cX8_goneStream 72 = .ok (.goto 4, 3) := by decide +kernel
theorem dX8_goneStream_75 : decode cX8_goneStream 75 = .ok (.iconst 2, 1) := by decide +kernel
theorem dX8_goneStream_76 : decode cX8_goneStream 76 = .ok (.i2b, 1) := by decide +kernel
theorem dX8_goneStream_77 : decode cX8_goneStream 77 = .ok (.bastore, 1) := by decide +kernel
theorem dX8_goneStream_78 : decode cX8_goneStream 78 = .ok (.iinc 6 1, 3) := by decide +kernel
theorem dX8_goneStream_81 : decode cX8_goneStream 81 = .ok (.goto (-61), 3) := by decide +kernel
theorem dX8_goneStream_84 : decode cX8_goneStream 84 = .ok (.aload_n 0, 1) := by decide +kernel
theorem dX8_goneStream_85 : decode cX8_goneStream 85 = .ok (.getfield 154, 3) := by decide +kernel
theorem dX8_goneStream_88 : decode cX8_goneStream 88 = .ok (.iload_n 2, 1) := by decide +kernel
theorem dX8_goneStream_89 : decode cX8_goneStream 89 = .ok (.laload, 1) := by decide +kernel
theorem dX8_goneStream_90 : decode cX8_goneStream 90 = .ok (.lconst 1, 1) := by decide +kernel
theorem dX8_goneStream_91 : decode cX8_goneStream 91 = .ok (.lcmp, 1) := by decide +kernel
theorem dX8_goneStream_92 : decode cX8_goneStream 92 = .ok (.ifCond .ne 30, 3) := by decide +kernel
theorem dX8_goneStream_95 : decode cX8_goneStream 95 = .ok (.aload_n 0, 1) := by decide +kernel
theorem dX8_goneStream_96 : decode cX8_goneStream 96 = .ok (.getfield 60, 3) := by decide +kernel
theorem dX8_goneStream_99 : decode cX8_goneStream 99 = .ok (.iload 5, 2) := by decide +kernel
theorem dX8_goneStream_101 : decode cX8_goneStream 101 = .ok (.iaload, 1) := by decide +kernel
theorem dX8_goneStream_102 : decode cX8_goneStream 102 = .ok (.iconst 3, 1) := by decide +kernel
theorem dX8_goneStream_103 : decode cX8_goneStream 103 = .ok (.if_icmp .eq 19, 3) := by decide +kernel
theorem dX8_goneStream_106 : decode cX8_goneStream 106 = .ok (.aload_n 0, 1) := by decide +kernel
theorem dX8_goneStream_107 : decode cX8_goneStream 107 = .ok (.getfield 60, 3) := by decide +kernel
theorem dX8_goneStream_110 : decode cX8_goneStream 110 = .ok (.iload 5, 2) := by decide +kernel
theorem dX8_goneStream_112 : decode cX8_goneStream 112 = .ok (.iload_n 3, 1) := by decide +kernel
theorem dX8_goneStream_113 : decode cX8_goneStream 113 = .ok (.ifCond .eq 7, 3) := by decide +kernel
theorem dX8_goneStream_116 : decode cX8_goneStream 116 = .ok (.iconst 3, 1) := by decide +kernel
theorem dX8_goneStream_117 : decode cX8_goneStream 117 = .ok (.goto 4, 3) := by decide +kernel
theorem dX8_goneStream_120 : decode cX8_goneStream 120 = .ok (.iconst 2, 1) := by decide +kernel
theorem dX8_goneStream_121 : decode cX8_goneStream 121 = .ok (.iastore, 1) := by decide +kernel
theorem dX8_goneStream_122 : decode cX8_goneStream 122 = .ok (.aload_n 0, 1) := by decide +kernel
theorem dX8_goneStream_123 : decode cX8_goneStream 123 = .ok (.iload_n 1, 1) := by decide +kernel
theorem dX8_goneStream_124 : decode cX8_goneStream 124 = .ok (.iload 4, 2) := by decide +kernel
theorem dX8_goneStream_126 : decode cX8_goneStream 126 = .ok (.invokevirtual 298, 3) := by decide +kernel
theorem dX8_goneStream_129 : decode cX8_goneStream 129 = .ok (.return_, 1) := by decide +kernel
theorem dX8_line_0 : decode cX8_line 0 = .ok (.aload_n 0, 1) := by decide +kernel
theorem dX8_line_1 : decode cX8_line 1 = .ok (.aload_n 0, 1) := by decide +kernel
theorem dX8_line_2 : decode cX8_line 2 = .ok (.iload_n 1, 1) := by decide +kernel
theorem dX8_line_3 : decode cX8_line 3 = .ok (.invokevirtual 413, 3) := by decide +kernel
theorem dX8_line_6 : decode cX8_line 6 = .ok (.ifCond .ne 13, 3) := by decide +kernel
theorem dX8_line_9 : decode cX8_line 9 = .ok (.iload_n 2, 1) := by decide +kernel
theorem dX8_line_10 : decode cX8_line 10 = .ok (.ifCond .lt 9, 3) := by decide +kernel
theorem dX8_line_13 : decode cX8_line 13 = .ok (.iload_n 2, 1) := by decide +kernel
theorem dX8_line_14 : decode cX8_line 14 = .ok (.bipush 6, 2) := by decide +kernel
theorem dX8_line_16 : decode cX8_line 16 = .ok (.if_icmp .le 7, 3) := by decide +kernel
theorem dX8_line_19 : decode cX8_line 19 = .ok (.iconst 1, 1) := by decide +kernel
theorem dX8_line_20 : decode cX8_line 20 = .ok (.goto 4, 3) := by decide +kernel
theorem dX8_line_23 : decode cX8_line 23 = .ok (.iconst 0, 1) := by decide +kernel
theorem dX8_line_24 : decode cX8_line 24 = .ok (.iconst 1, 1) := by decide +kernel
theorem dX8_line_25 : decode cX8_line 25 = .ok (.invokevirtual 240, 3) := by decide +kernel
theorem dX8_line_28 : decode cX8_line 28 = .ok (.ifCond .eq 5, 3) := by decide +kernel
theorem dX8_line_31 : decode cX8_line 31 = .ok (.lconst 0, 1) := by decide +kernel
theorem dX8_line_32 : decode cX8_line 32 = .ok (.lreturn, 1) := by decide +kernel
theorem dX8_line_33 : decode cX8_line 33 = .ok (.iload_n 2, 1) := by decide +kernel
theorem dX8_line_34 : decode cX8_line 34 = .ok (.tableswitch 83 0 5 #[38, 46, 54, 61, 68, 75], 38) := by decide +kernel
theorem dX8_line_72 : decode cX8_line 72 = .ok (.aload_n 0, 1) := by decide +kernel
theorem dX8_line_73 : decode cX8_line 73 = .ok (.getfield 142, 3) := by decide +kernel
theorem dX8_line_76 : decode cX8_line 76 = .ok (.iload_n 1, 1) := by decide +kernel
theorem dX8_line_77 : decode cX8_line 77 = .ok (.iaload, 1) := by decide +kernel
theorem dX8_line_78 : decode cX8_line 78 = .ok (.i2l, 1) := by decide +kernel
theorem dX8_line_79 : decode cX8_line 79 = .ok (.lreturn, 1) := by decide +kernel
theorem dX8_line_80 : decode cX8_line 80 = .ok (.aload_n 0, 1) := by decide +kernel
theorem dX8_line_81 : decode cX8_line 81 = .ok (.getfield 145, 3) := by decide +kernel
theorem dX8_line_84 : decode cX8_line 84 = .ok (.iload_n 1, 1) := by decide +kernel
theorem dX8_line_85 : decode cX8_line 85 = .ok (.iaload, 1) := by decide +kernel
theorem dX8_line_86 : decode cX8_line 86 = .ok (.i2l, 1) := by decide +kernel
theorem dX8_line_87 : decode cX8_line 87 = .ok (.lreturn, 1) := by decide +kernel
theorem dX8_line_88 : decode cX8_line 88 = .ok (.aload_n 0, 1) := by decide +kernel
theorem dX8_line_89 : decode cX8_line 89 = .ok (.getfield 148, 3) := by decide +kernel
theorem dX8_line_92 : decode cX8_line 92 = .ok (.iload_n 1, 1) := by decide +kernel
theorem dX8_line_93 : decode cX8_line 93 = .ok (.laload, 1) := by decide +kernel
theorem dX8_line_94 : decode cX8_line 94 = .ok (.lreturn, 1) := by decide +kernel
theorem dX8_line_95 : decode cX8_line 95 = .ok (.aload_n 0, 1) := by decide +kernel
theorem dX8_line_96 : decode cX8_line 96 = .ok (.getfield 151, 3) := by decide +kernel
theorem dX8_line_99 : decode cX8_line 99 = .ok (.iload_n 1, 1) := by decide +kernel
theorem dX8_line_100 : decode cX8_line 100 = .ok (.laload, 1) := by decide +kernel
theorem dX8_line_101 : decode cX8_line 101 = .ok (.lreturn, 1) := by decide +kernel
theorem dX8_line_102 : decode cX8_line 102 = .ok (.aload_n 0, 1) := by decide +kernel
theorem dX8_line_103 : decode cX8_line 103 = .ok (.getfield 154, 3) := by decide +kernel
theorem dX8_line_106 : decode cX8_line 106 = .ok (.iload_n 1, 1) := by decide +kernel
theorem dX8_line_107 : decode cX8_line 107 = .ok (.laload, 1) := by decide +kernel
theorem dX8_line_108 : decode cX8_line 108 = .ok (.lreturn, 1) := by decide +kernel
theorem dX8_line_109 : decode cX8_line 109 = .ok (.aload_n 0, 1) := by decide +kernel
theorem dX8_line_110 : decode cX8_line 110 = .ok (.getfield 157, 3) := by decide +kernel
theorem dX8_line_113 : decode cX8_line 113 = .ok (.iload_n 1, 1) := by decide +kernel
theorem dX8_line_114 : decode cX8_line 114 = .ok (.iaload, 1) := by decide +kernel
theorem dX8_line_115 : decode cX8_line 115 = .ok (.i2l, 1) := by decide +kernel
theorem dX8_line_116 : decode cX8_line 116 = .ok (.lreturn, 1) := by decide +kernel
theorem dX8_line_117 : decode cX8_line 117 = .ok (.aload_n 0, 1) := by decide +kernel
theorem dX8_line_118 : decode cX8_line 118 = .ok (.getfield 160, 3) := by decide +kernel
theorem dX8_line_121 : decode cX8_line 121 = .ok (.iload_n 1, 1) := by decide +kernel
theorem dX8_line_122 : decode cX8_line 122 = .ok (.iaload, 1) := by decide +kernel
theorem dX8_line_123 : decode cX8_line 123 = .ok (.i2l, 1) := by decide +kernel
theorem dX8_line_124 : decode cX8_line 124 = .ok (.lreturn, 1) := by decide +kernel
theorem dX8_data_0 : decode cX8_data 0 = .ok (.aload_n 0, 1) := by decide +kernel
theorem dX8_data_1 : decode cX8_data 1 = .ok (.aload_n 0, 1) := by decide +kernel
theorem dX8_data_2 : decode cX8_data 2 = .ok (.iload_n 1, 1) := by decide +kernel
theorem dX8_data_3 : decode cX8_data 3 = .ok (.invokevirtual 413, 3) := by decide +kernel
theorem dX8_data_6 : decode cX8_data 6 = .ok (.iconst 1, 1) := by decide +kernel
theorem dX8_data_7 : decode cX8_data 7 = .ok (.invokevirtual 240, 3) := by decide +kernel
theorem dX8_data_10 : decode cX8_data 10 = .ok (.ifCond .ne 30, 3) := by decide +kernel
theorem dX8_data_13 : decode cX8_data 13 = .ok (.aload_n 0, 1) := by decide +kernel
theorem dX8_data_14 : decode cX8_data 14 = .ok (.iload_n 2, 1) := by decide +kernel
theorem dX8_data_15 : decode cX8_data 15 = .ok (.ifCond .lt 13, 3) := by decide +kernel
theorem dX8_data_18 : decode cX8_data 18 = .ok (.iload_n 2, 1) := by decide +kernel
theorem dX8_data_19 : decode cX8_data 19 = .ok (.aload_n 0, 1) := by decide +kernel
theorem dX8_data_20 : decode cX8_data 20 = .ok (.getfield 157, 3) := by decide +kernel
theorem dX8_data_23 : decode cX8_data 23 = .ok (.iload_n 1, 1) := by decide +kernel
theorem dX8_data_24 : decode cX8_data 24 = .ok (.iaload, 1) := by decide +kernel
theorem dX8_data_25 : decode cX8_data 25 = .ok (.if_icmp .lt 7, 3) := by decide +kernel
theorem dX8_data_28 : decode cX8_data 28 = .ok (.iconst 1, 1) := by decide +kernel
theorem dX8_data_29 : decode cX8_data 29 = .ok (.goto 4, 3) := by decide +kernel
theorem dX8_data_32 : decode cX8_data 32 = .ok (.iconst 0, 1) := by decide +kernel
theorem dX8_data_33 : decode cX8_data 33 = .ok (.iconst 1, 1) := by decide +kernel
theorem dX8_data_34 : decode cX8_data 34 = .ok (.invokevirtual 240, 3) := by decide +kernel
theorem dX8_data_37 : decode cX8_data 37 = .ok (.ifCond .eq 5, 3) := by decide +kernel
theorem dX8_data_40 : decode cX8_data 40 = .ok (.iconst 0, 1) := by decide +kernel
theorem dX8_data_41 : decode cX8_data 41 = .ok (.ireturn, 1) := by decide +kernel
theorem dX8_data_42 : decode cX8_data 42 = .ok (.aload_n 0, 1) := by decide +kernel
theorem dX8_data_43 : decode cX8_data 43 = .ok (.getfield 170, 3) := by decide +kernel
theorem dX8_data_46 : decode cX8_data 46 = .ok (.sipush 1200, 3) := by decide +kernel
theorem dX8_data_49 : decode cX8_data 49 = .ok (.iload_n 1, 1) := by decide +kernel
theorem dX8_data_50 : decode cX8_data 50 = .ok (.imul, 1) := by decide +kernel
theorem dX8_data_51 : decode cX8_data 51 = .ok (.iload_n 2, 1) := by decide +kernel
theorem dX8_data_52 : decode cX8_data 52 = .ok (.iadd, 1) := by decide +kernel
theorem dX8_data_53 : decode cX8_data 53 = .ok (.baload, 1) := by decide +kernel
theorem dX8_data_54 : decode cX8_data 54 = .ok (.sipush 255, 3) := by decide +kernel
theorem dX8_data_57 : decode cX8_data 57 = .ok (.iand, 1) := by decide +kernel
theorem dX8_data_58 : decode cX8_data 58 = .ok (.ireturn, 1) := by decide +kernel
theorem dX8_outs_0 : decode cX8_outs 0 = .ok (.aload_n 0, 1) := by decide +kernel
theorem dX8_outs_1 : decode cX8_outs 1 = .ok (.iload_n 1, 1) := by decide +kernel
theorem dX8_outs_2 : decode cX8_outs 2 = .ok (.ifCond .lt 11, 3) := by decide +kernel
theorem dX8_outs_5 : decode cX8_outs 5 = .ok (.iload_n 1, 1) := by decide +kernel
theorem dX8_outs_6 : decode cX8_outs 6 = .ok (.aload_n 0, 1) := by decide +kernel
theorem dX8_outs_7 : decode cX8_outs 7 = .ok (.getfield 284, 3) := by decide +kernel
theorem dX8_outs_10 : decode cX8_outs 10 = .ok (.if_icmp .lt 7, 3) := by decide +kernel
theorem dX8_outs_13 : decode cX8_outs 13 = .ok (.iconst 1, 1) := by decide +kernel
theorem dX8_outs_14 : decode cX8_outs 14 = .ok (.goto 4, 3) := by decide +kernel
theorem dX8_outs_17 : decode cX8_outs 17 = .ok (.iconst 0, 1) := by decide +kernel
theorem dX8_outs_18 : decode cX8_outs 18 = .ok (.iconst 1, 1) := by decide +kernel
theorem dX8_outs_19 : decode cX8_outs 19 = .ok (.invokevirtual 240, 3) := by decide +kernel
theorem dX8_outs_22 : decode cX8_outs 22 = .ok (.ifCond .eq 5, 3) := by decide +kernel
theorem dX8_outs_25 : decode cX8_outs 25 = .ok (.lconst 0, 1) := by decide +kernel
theorem dX8_outs_26 : decode cX8_outs 26 = .ok (.lreturn, 1) := by decide +kernel
theorem dX8_outs_27 : decode cX8_outs 27 = .ok (.lconst 0, 1) := by decide +kernel
theorem dX8_outs_28 : decode cX8_outs 28 = .ok (.lstore_n 2, 1) := by decide +kernel
theorem dX8_outs_29 : decode cX8_outs 29 = .ok (.iconst 0, 1) := by decide +kernel
theorem dX8_outs_30 : decode cX8_outs 30 = .ok (.istore 4, 2) := by decide +kernel
theorem dX8_outs_32 : decode cX8_outs 32 = .ok (.iload 4, 2) := by decide +kernel
theorem dX8_outs_34 : decode cX8_outs 34 = .ok (.bipush 8, 2) := by decide +kernel
theorem dX8_outs_36 : decode cX8_outs 36 = .ok (.if_icmp .ge 39, 3) := by decide +kernel
theorem dX8_outs_39 : decode cX8_outs 39 = .ok (.iload_n 1, 1) := by decide +kernel
theorem dX8_outs_40 : decode cX8_outs 40 = .ok (.iload 4, 2) := by decide +kernel
theorem dX8_outs_42 : decode cX8_outs 42 = .ok (.iadd, 1) := by decide +kernel
theorem dX8_outs_43 : decode cX8_outs 43 = .ok (.aload_n 0, 1) := by decide +kernel
theorem dX8_outs_44 : decode cX8_outs 44 = .ok (.getfield 284, 3) := by decide +kernel
theorem dX8_outs_47 : decode cX8_outs 47 = .ok (.if_icmp .ge 28, 3) := by decide +kernel
theorem dX8_outs_50 : decode cX8_outs 50 = .ok (.lload_n 2, 1) := by decide +kernel
theorem dX8_outs_51 : decode cX8_outs 51 = .ok (.aload_n 0, 1) := by decide +kernel
theorem dX8_outs_52 : decode cX8_outs 52 = .ok (.getfield 13, 3) := by decide +kernel
theorem dX8_outs_55 : decode cX8_outs 55 = .ok (.iload_n 1, 1) := by decide +kernel
theorem dX8_outs_56 : decode cX8_outs 56 = .ok (.iload 4, 2) := by decide +kernel
theorem dX8_outs_58 : decode cX8_outs 58 = .ok (.iadd, 1) := by decide +kernel
theorem dX8_outs_59 : decode cX8_outs 59 = .ok (.iaload, 1) := by decide +kernel
theorem dX8_outs_60 : decode cX8_outs 60 = .ok (.i2l, 1) := by decide +kernel
theorem dX8_outs_61 : decode cX8_outs 61 = .ok (.bipush 8, 2) := by decide +kernel
theorem dX8_outs_63 : decode cX8_outs 63 = .ok (.iload 4, 2) := by decide +kernel
theorem dX8_outs_65 : decode cX8_outs 65 = .ok (.imul, 1) := by decide +kernel
theorem dX8_outs_66 : decode cX8_outs 66 = .ok (.lshl, 1) := by decide +kernel
theorem dX8_outs_67 : decode cX8_outs 67 = .ok (.lor, 1) := by decide +kernel
theorem dX8_outs_68 : decode cX8_outs 68 = .ok (.lstore_n 2, 1) := by decide +kernel
theorem dX8_outs_69 : decode cX8_outs 69 = .ok (.iinc 4 1, 3) := by decide +kernel
theorem dX8_outs_72 : decode cX8_outs 72 = .ok (.goto (-40), 3) := by decide +kernel
theorem dX8_outs_75 : decode cX8_outs 75 = .ok (.lload_n 2, 1) := by decide +kernel
theorem dX8_outs_76 : decode cX8_outs 76 = .ok (.lreturn, 1) := by decide +kernel
theorem dX8_stream_0 : decode cX8_stream 0 = .ok (.aload_n 0, 1) := by decide +kernel
theorem dX8_stream_1 : decode cX8_stream 1 = .ok (.iload_n 1, 1) := by decide +kernel
theorem dX8_stream_2 : decode cX8_stream 2 = .ok (.invokestatic 236, 3) := by decide +kernel
theorem dX8_stream_5 : decode cX8_stream 5 = .ok (.ifCond .ne 13, 3) := by decide +kernel
theorem dX8_stream_8 : decode cX8_stream 8 = .ok (.iload_n 3, 1) := by decide +kernel
theorem dX8_stream_9 : decode cX8_stream 9 = .ok (.ifCond .lt 9, 3) := by decide +kernel
theorem dX8_stream_12 : decode cX8_stream 12 = .ok (.iload_n 3, 1) := by decide +kernel
theorem dX8_stream_13 : decode cX8_stream 13 = .ok (.bipush 14, 2) := by decide +kernel
theorem dX8_stream_15 : decode cX8_stream 15 = .ok (.if_icmp .le 7, 3) := by decide +kernel
theorem dX8_stream_18 : decode cX8_stream 18 = .ok (.iconst 1, 1) := by decide +kernel
theorem dX8_stream_19 : decode cX8_stream 19 = .ok (.goto 4, 3) := by decide +kernel
theorem dX8_stream_22 : decode cX8_stream 22 = .ok (.iconst 0, 1) := by decide +kernel
theorem dX8_stream_23 : decode cX8_stream 23 = .ok (.iconst 1, 1) := by decide +kernel
theorem dX8_stream_24 : decode cX8_stream 24 = .ok (.invokevirtual 240, 3) := by decide +kernel
theorem dX8_stream_27 : decode cX8_stream 27 = .ok (.ifCond .eq 5, 3) := by decide +kernel
theorem dX8_stream_30 : decode cX8_stream 30 = .ok (.lconst 0, 1) := by decide +kernel
theorem dX8_stream_31 : decode cX8_stream 31 = .ok (.lreturn, 1) := by decide +kernel
theorem dX8_stream_32 : decode cX8_stream 32 = .ok (.iload_n 3, 1) := by decide +kernel
theorem dX8_stream_33 : decode cX8_stream 33 = .ok (.bipush 8, 2) := by decide +kernel
theorem dX8_stream_35 : decode cX8_stream 35 = .ok (.if_icmp .ge 26, 3) := by decide +kernel
theorem dX8_stream_38 : decode cX8_stream 38 = .ok (.aload_n 0, 1) := by decide +kernel
theorem dX8_stream_39 : decode cX8_stream 39 = .ok (.iload_n 1, 1) := by decide +kernel
theorem dX8_stream_40 : decode cX8_stream 40 = .ok (.iload_n 2, 1) := by decide +kernel
theorem dX8_stream_41 : decode cX8_stream 41 = .ok (.invokevirtual 218, 3) := by decide +kernel
theorem dX8_stream_44 : decode cX8_stream 44 = .ok (.ifCond .eq 13, 3) := by decide +kernel
theorem dX8_stream_47 : decode cX8_stream 47 = .ok (.aload_n 0, 1) := by decide +kernel
theorem dX8_stream_48 : decode cX8_stream 48 = .ok (.iload_n 1, 1) := by decide +kernel
theorem dX8_stream_49 : decode cX8_stream 49 = .ok (.iload_n 2, 1) := by decide +kernel
theorem dX8_stream_50 : decode cX8_stream 50 = .ok (.iload_n 3, 1) := by decide +kernel
theorem dX8_stream_51 : decode cX8_stream 51 = .ok (.invokevirtual 423, 3) := by decide +kernel
theorem dX8_stream_54 : decode cX8_stream 54 = .ok (.goto 6, 3) := by decide +kernel
theorem dX8_stream_57 : decode cX8_stream 57 = .ok (.ldc2_w 175, 3) := by decide +kernel
theorem dX8_stream_60 : decode cX8_stream 60 = .ok (.lreturn, 1) := by decide +kernel
theorem dX8_stream_61 : decode cX8_stream 61 = .ok (.aload_n 0, 1) := by decide +kernel
theorem dX8_stream_62 : decode cX8_stream 62 = .ok (.iload_n 1, 1) := by decide +kernel
theorem dX8_stream_63 : decode cX8_stream 63 = .ok (.iload_n 2, 1) := by decide +kernel
theorem dX8_stream_64 : decode cX8_stream 64 = .ok (.invokevirtual 281, 3) := by decide +kernel
theorem dX8_stream_67 : decode cX8_stream 67 = .ok (.ifCond .eq 13, 3) := by decide +kernel
theorem dX8_stream_70 : decode cX8_stream 70 = .ok (.aload_n 0, 1) := by decide +kernel
theorem dX8_stream_71 : decode cX8_stream 71 = .ok (.iload_n 1, 1) := by decide +kernel
theorem dX8_stream_72 : decode cX8_stream 72 = .ok (.iload_n 2, 1) := by decide +kernel
theorem dX8_stream_73 : decode cX8_stream 73 = .ok (.iload_n 3, 1) := by decide +kernel
theorem dX8_stream_74 : decode cX8_stream 74 = .ok (.invokevirtual 427, 3) := by decide +kernel
theorem dX8_stream_77 : decode cX8_stream 77 = .ok (.goto 6, 3) := by decide +kernel
theorem dX8_stream_80 : decode cX8_stream 80 = .ok (.ldc2_w 175, 3) := by decide +kernel
theorem dX8_stream_83 : decode cX8_stream 83 = .ok (.lreturn, 1) := by decide +kernel
theorem dX8_sendingLook_0 : decode cX8_sendingLook 0 = .ok (.iload_n 1, 1) := by decide +kernel
theorem dX8_sendingLook_1 : decode cX8_sendingLook 1 = .ok (.iload_n 2, 1) := by decide +kernel
theorem dX8_sendingLook_2 : decode cX8_sendingLook 2 = .ok (.invokestatic 189, 3) := by decide +kernel
theorem dX8_sendingLook_5 : decode cX8_sendingLook 5 = .ok (.istore 4, 2) := by decide +kernel
theorem dX8_sendingLook_7 : decode cX8_sendingLook 7 = .ok (.iload_n 3, 1) := by decide +kernel
theorem dX8_sendingLook_8 : decode cX8_sendingLook 8 = .ok (.tableswitch 116 0 6 #[44, 52, 60, 68, 76, 98, 107], 44) := by decide +kernel
theorem dX8_sendingLook_52 : decode cX8_sendingLook 52 = .ok (.aload_n 0, 1) := by decide +kernel
theorem dX8_sendingLook_53 : decode cX8_sendingLook 53 = .ok (.iload_n 1, 1) := by decide +kernel
theorem dX8_sendingLook_54 : decode cX8_sendingLook 54 = .ok (.iload_n 2, 1) := by decide +kernel
theorem dX8_sendingLook_55 : decode cX8_sendingLook 55 = .ok (.invokevirtual 221, 3) := by decide +kernel
theorem dX8_sendingLook_58 : decode cX8_sendingLook 58 = .ok (.i2l, 1) := by decide +kernel
theorem dX8_sendingLook_59 : decode cX8_sendingLook 59 = .ok (.lreturn, 1) := by decide +kernel
theorem dX8_sendingLook_60 : decode cX8_sendingLook 60 = .ok (.aload_n 0, 1) := by decide +kernel
theorem dX8_sendingLook_61 : decode cX8_sendingLook 61 = .ok (.iload_n 1, 1) := by decide +kernel
theorem dX8_sendingLook_62 : decode cX8_sendingLook 62 = .ok (.iload_n 2, 1) := by decide +kernel
theorem dX8_sendingLook_63 : decode cX8_sendingLook 63 = .ok (.invokevirtual 215, 3) := by decide +kernel
theorem dX8_sendingLook_66 : decode cX8_sendingLook 66 = .ok (.i2l, 1) := by decide +kernel
theorem dX8_sendingLook_67 : decode cX8_sendingLook 67 = .ok (.lreturn, 1) := by decide +kernel
theorem dX8_sendingLook_68 : decode cX8_sendingLook 68 = .ok (.aload_n 0, 1) := by decide +kernel
theorem dX8_sendingLook_69 : decode cX8_sendingLook 69 = .ok (.iload_n 1, 1) := by decide +kernel
theorem dX8_sendingLook_70 : decode cX8_sendingLook 70 = .ok (.iload_n 2, 1) := by decide +kernel
theorem dX8_sendingLook_71 : decode cX8_sendingLook 71 = .ok (.invokevirtual 369, 3) := by decide +kernel
theorem dX8_sendingLook_74 : decode cX8_sendingLook 74 = .ok (.i2l, 1) := by decide +kernel
theorem dX8_sendingLook_75 : decode cX8_sendingLook 75 = .ok (.lreturn, 1) := by decide +kernel
theorem dX8_sendingLook_76 : decode cX8_sendingLook 76 = .ok (.aload_n 0, 1) := by decide +kernel
theorem dX8_sendingLook_77 : decode cX8_sendingLook 77 = .ok (.getfield 54, 3) := by decide +kernel
theorem dX8_sendingLook_80 : decode cX8_sendingLook 80 = .ok (.iload 4, 2) := by decide +kernel
theorem dX8_sendingLook_82 : decode cX8_sendingLook 82 = .ok (.laload, 1) := by decide +kernel
theorem dX8_sendingLook_83 : decode cX8_sendingLook 83 = .ok (.lreturn, 1) := by decide +kernel
theorem dX8_sendingLook_84 : decode cX8_sendingLook 84 = .ok (.aload_n 0, 1) := by decide +kernel
theorem dX8_sendingLook_85 : decode cX8_sendingLook 85 = .ok (.getfield 63, 3) := by decide +kernel
theorem dX8_sendingLook_88 : decode cX8_sendingLook 88 = .ok (.iload 4, 2) := by decide +kernel
theorem dX8_sendingLook_90 : decode cX8_sendingLook 90 = .ok (.iaload, 1) := by decide +kernel
theorem dX8_sendingLook_91 : decode cX8_sendingLook 91 = .ok (.ifCond .le 13, 3) := by decide +kernel
theorem dX8_sendingLook_94 : decode cX8_sendingLook 94 = .ok (.aload_n 0, 1) := by decide +kernel
theorem dX8_sendingLook_95 : decode cX8_sendingLook 95 = .ok (.getfield 69, 3) := by decide +kernel
theorem dX8_sendingLook_98 : decode cX8_sendingLook 98 = .ok (.iload 4, 2) := by decide +kernel
theorem dX8_sendingLook_100 : decode cX8_sendingLook 100 = .ok (.laload, 1) := by decide +kernel
theorem dX8_sendingLook_101 : decode cX8_sendingLook 101 = .ok (.goto 4, 3) := by decide +kernel
theorem dX8_sendingLook_104 : decode cX8_sendingLook 104 = .ok (.lconst 0, 1) := by decide +kernel
theorem dX8_sendingLook_105 : decode cX8_sendingLook 105 = .ok (.lreturn, 1) := by decide +kernel
theorem dX8_sendingLook_106 : decode cX8_sendingLook 106 = .ok (.aload_n 0, 1) := by decide +kernel
theorem dX8_sendingLook_107 : decode cX8_sendingLook 107 = .ok (.iload_n 1, 1) := by decide +kernel
theorem dX8_sendingLook_108 : decode cX8_sendingLook 108 = .ok (.iload_n 2, 1) := by decide +kernel
theorem dX8_sendingLook_109 : decode cX8_sendingLook 109 = .ok (.iconst 2, 1) := by decide +kernel
theorem dX8_sendingLook_110 : decode cX8_sendingLook 110 = .ok (.invokevirtual 210, 3) := by decide +kernel
theorem dX8_sendingLook_113 : decode cX8_sendingLook 113 = .ok (.i2l, 1) := by decide +kernel
theorem dX8_sendingLook_114 : decode cX8_sendingLook 114 = .ok (.lreturn, 1) := by decide +kernel
theorem dX8_sendingLook_115 : decode cX8_sendingLook 115 = .ok (.aload_n 0, 1) := by decide +kernel
theorem dX8_sendingLook_116 : decode cX8_sendingLook 116 = .ok (.iload_n 1, 1) := by decide +kernel
theorem dX8_sendingLook_117 : decode cX8_sendingLook 117 = .ok (.iload_n 2, 1) := by decide +kernel
theorem dX8_sendingLook_118 : decode cX8_sendingLook 118 = .ok (.iconst 3, 1) := by decide +kernel
theorem dX8_sendingLook_119 : decode cX8_sendingLook 119 = .ok (.invokevirtual 210, 3) := by decide +kernel
theorem dX8_sendingLook_122 : decode cX8_sendingLook 122 = .ok (.i2l, 1) := by decide +kernel
theorem dX8_sendingLook_123 : decode cX8_sendingLook 123 = .ok (.lreturn, 1) := by decide +kernel
theorem dX8_sendingLook_124 : decode cX8_sendingLook 124 = .ok (.aload_n 0, 1) := by decide +kernel
theorem dX8_sendingLook_125 : decode cX8_sendingLook 125 = .ok (.iload 4, 2) := by decide +kernel
theorem dX8_sendingLook_127 : decode cX8_sendingLook 127 = .ok (.invokevirtual 420, 3) := by decide +kernel
theorem dX8_sendingLook_130 : decode cX8_sendingLook 130 = .ok (.i2l, 1) := by decide +kernel
theorem dX8_sendingLook_131 : decode cX8_sendingLook 131 = .ok (.lreturn, 1) := by decide +kernel
theorem dX8_endOf_0 : decode cX8_endOf 0 = .ok (.aload_n 0, 1) := by decide +kernel
theorem dX8_endOf_1 : decode cX8_endOf 1 = .ok (.getfield 57, 3) := by decide +kernel
theorem dX8_endOf_4 : decode cX8_endOf 4 = .ok (.iload_n 1, 1) := by decide +kernel
theorem dX8_endOf_5 : decode cX8_endOf 5 = .ok (.baload, 1) := by decide +kernel
theorem dX8_endOf_6 : decode cX8_endOf 6 = .ok (.ifCond .ne 7, 3) := by decide +kernel
theorem dX8_endOf_9 : decode cX8_endOf 9 = .ok (.iconst 0, 1) := by decide +kernel
theorem dX8_endOf_10 : decode cX8_endOf 10 = .ok (.goto 11, 3) := by decide +kernel
theorem dX8_endOf_13 : decode cX8_endOf 13 = .ok (.iconst 1, 1) := by decide +kernel
theorem dX8_endOf_14 : decode cX8_endOf 14 = .ok (.aload_n 0, 1) := by decide +kernel
theorem dX8_endOf_15 : decode cX8_endOf 15 = .ok (.getfield 60, 3) := by decide +kernel
theorem dX8_endOf_18 : decode cX8_endOf 18 = .ok (.iload_n 1, 1) := by decide +kernel
theorem dX8_endOf_19 : decode cX8_endOf 19 = .ok (.iaload, 1) := by decide +kernel
theorem dX8_endOf_20 : decode cX8_endOf 20 = .ok (.iadd, 1) := by decide +kernel
theorem dX8_endOf_21 : decode cX8_endOf 21 = .ok (.ireturn, 1) := by decide +kernel
theorem dX8_receivingLook_0 : decode cX8_receivingLook 0 = .ok (.iload_n 1, 1) := by decide +kernel
theorem dX8_receivingLook_1 : decode cX8_receivingLook 1 = .ok (.iload_n 2, 1) := by decide +kernel
theorem dX8_receivingLook_2 : decode cX8_receivingLook 2 = .ok (.invokestatic 189, 3) := by decide +kernel
theorem dX8_receivingLook_5 : decode cX8_receivingLook 5 = .ok (.istore 4, 2) := by decide +kernel
theorem dX8_receivingLook_7 : decode cX8_receivingLook 7 = .ok (.iload_n 3, 1) := by decide +kernel
theorem dX8_receivingLook_8 : decode cX8_receivingLook 8 = .ok (.tableswitch 87 8 13 #[40, 48, 56, 63, 71, 79], 40) := by decide +kernel
theorem dX8_receivingLook_48 : decode cX8_receivingLook 48 = .ok (.aload_n 0, 1) := by decide +kernel
theorem dX8_receivingLook_49 : decode cX8_receivingLook 49 = .ok (.iload_n 1, 1) := by decide +kernel
theorem dX8_receivingLook_50 : decode cX8_receivingLook 50 = .ok (.iload_n 2, 1) := by decide +kernel
theorem dX8_receivingLook_51 : decode cX8_receivingLook 51 = .ok (.invokevirtual 260, 3) := by decide +kernel
theorem dX8_receivingLook_54 : decode cX8_receivingLook 54 = .ok (.i2l, 1) := by decide +kernel
theorem dX8_receivingLook_55 : decode cX8_receivingLook 55 = .ok (.lreturn, 1) := by decide +kernel
theorem dX8_receivingLook_56 : decode cX8_receivingLook 56 = .ok (.aload_n 0, 1) := by decide +kernel
theorem dX8_receivingLook_57 : decode cX8_receivingLook 57 = .ok (.getfield 81, 3) := by decide +kernel
theorem dX8_receivingLook_60 : decode cX8_receivingLook 60 = .ok (.iload 4, 2) := by decide +kernel
theorem dX8_receivingLook_62 : decode cX8_receivingLook 62 = .ok (.laload, 1) := by decide +kernel
theorem dX8_receivingLook_63 : decode cX8_receivingLook 63 = .ok (.lreturn, 1) := by decide +kernel
theorem dX8_receivingLook_64 : decode cX8_receivingLook 64 = .ok (.aload_n 0, 1) := by decide +kernel
theorem dX8_receivingLook_65 : decode cX8_receivingLook 65 = .ok (.iload_n 1, 1) := by decide +kernel
theorem dX8_receivingLook_66 : decode cX8_receivingLook 66 = .ok (.iload_n 2, 1) := by decide +kernel
theorem dX8_receivingLook_67 : decode cX8_receivingLook 67 = .ok (.invokevirtual 233, 3) := by decide +kernel
theorem dX8_receivingLook_70 : decode cX8_receivingLook 70 = .ok (.lreturn, 1) := by decide +kernel
theorem dX8_receivingLook_71 : decode cX8_receivingLook 71 = .ok (.aload_n 0, 1) := by decide +kernel
theorem dX8_receivingLook_72 : decode cX8_receivingLook 72 = .ok (.getfield 75, 3) := by decide +kernel
theorem dX8_receivingLook_75 : decode cX8_receivingLook 75 = .ok (.iload 4, 2) := by decide +kernel
theorem dX8_receivingLook_77 : decode cX8_receivingLook 77 = .ok (.laload, 1) := by decide +kernel
theorem dX8_receivingLook_78 : decode cX8_receivingLook 78 = .ok (.lreturn, 1) := by decide +kernel
theorem dX8_receivingLook_79 : decode cX8_receivingLook 79 = .ok (.aload_n 0, 1) := by decide +kernel
theorem dX8_receivingLook_80 : decode cX8_receivingLook 80 = .ok (.getfield 78, 3) := by decide +kernel
theorem dX8_receivingLook_83 : decode cX8_receivingLook 83 = .ok (.iload 4, 2) := by decide +kernel
theorem dX8_receivingLook_85 : decode cX8_receivingLook 85 = .ok (.laload, 1) := by decide +kernel
theorem dX8_receivingLook_86 : decode cX8_receivingLook 86 = .ok (.lreturn, 1) := by decide +kernel
theorem dX8_receivingLook_87 : decode cX8_receivingLook 87 = .ok (.aload_n 0, 1) := by decide +kernel
theorem dX8_receivingLook_88 : decode cX8_receivingLook 88 = .ok (.getfield 90, 3) := by decide +kernel
theorem dX8_receivingLook_91 : decode cX8_receivingLook 91 = .ok (.iload 4, 2) := by decide +kernel
theorem dX8_receivingLook_93 : decode cX8_receivingLook 93 = .ok (.laload, 1) := by decide +kernel
theorem dX8_receivingLook_94 : decode cX8_receivingLook 94 = .ok (.lreturn, 1) := by decide +kernel
theorem dX8_receivingLook_95 : decode cX8_receivingLook 95 = .ok (.aload_n 0, 1) := by decide +kernel
theorem dX8_receivingLook_96 : decode cX8_receivingLook 96 = .ok (.getfield 84, 3) := by decide +kernel
theorem dX8_receivingLook_99 : decode cX8_receivingLook 99 = .ok (.iload 4, 2) := by decide +kernel
theorem dX8_receivingLook_101 : decode cX8_receivingLook 101 = .ok (.baload, 1) := by decide +kernel
theorem dX8_receivingLook_102 : decode cX8_receivingLook 102 = .ok (.ifCond .eq 13, 3) := by decide +kernel
theorem dX8_receivingLook_105 : decode cX8_receivingLook 105 = .ok (.aload_n 0, 1) := by decide +kernel
theorem dX8_receivingLook_106 : decode cX8_receivingLook 106 = .ok (.getfield 87, 3) := by decide +kernel
theorem dX8_receivingLook_109 : decode cX8_receivingLook 109 = .ok (.iload 4, 2) := by decide +kernel
theorem dX8_receivingLook_111 : decode cX8_receivingLook 111 = .ok (.laload, 1) := by decide +kernel
theorem dX8_receivingLook_112 : decode cX8_receivingLook 112 = .ok (.goto 4, 3) := by decide +kernel
theorem dX8_receivingLook_115 : decode cX8_receivingLook 115 = .ok (.lconst 0, 1) := by decide +kernel
theorem dX8_receivingLook_116 : decode cX8_receivingLook 116 = .ok (.lreturn, 1) := by decide +kernel
theorem dX8_side_0 : decode cX8_side 0 = .ok (.aload_n 0, 1) := by decide +kernel
theorem dX8_side_1 : decode cX8_side 1 = .ok (.iload_n 1, 1) := by decide +kernel
theorem dX8_side_2 : decode cX8_side 2 = .ok (.invokestatic 236, 3) := by decide +kernel
theorem dX8_side_5 : decode cX8_side 5 = .ok (.ifCond .ne 13, 3) := by decide +kernel
theorem dX8_side_8 : decode cX8_side 8 = .ok (.iload_n 2, 1) := by decide +kernel
theorem dX8_side_9 : decode cX8_side 9 = .ok (.ifCond .lt 9, 3) := by decide +kernel
theorem dX8_side_12 : decode cX8_side 12 = .ok (.iload_n 2, 1) := by decide +kernel
theorem dX8_side_13 : decode cX8_side 13 = .ok (.bipush 13, 2) := by decide +kernel
theorem dX8_side_15 : decode cX8_side 15 = .ok (.if_icmp .le 7, 3) := by decide +kernel
theorem dX8_side_18 : decode cX8_side 18 = .ok (.iconst 1, 1) := by decide +kernel
theorem dX8_side_19 : decode cX8_side 19 = .ok (.goto 4, 3) := by decide +kernel
theorem dX8_side_22 : decode cX8_side 22 = .ok (.iconst 0, 1) := by decide +kernel
theorem dX8_side_23 : decode cX8_side 23 = .ok (.iconst 1, 1) := by decide +kernel
theorem dX8_side_24 : decode cX8_side 24 = .ok (.invokevirtual 240, 3) := by decide +kernel
theorem dX8_side_27 : decode cX8_side 27 = .ok (.ifCond .eq 5, 3) := by decide +kernel
theorem dX8_side_30 : decode cX8_side 30 = .ok (.lconst 0, 1) := by decide +kernel
theorem dX8_side_31 : decode cX8_side 31 = .ok (.lreturn, 1) := by decide +kernel
theorem dX8_side_32 : decode cX8_side 32 = .ok (.iload_n 2, 1) := by decide +kernel
theorem dX8_side_33 : decode cX8_side 33 = .ok (.tableswitch 160 0 12 #[67, 74, 83, 89, 95, 102, 102, 116, 116, 130, 130, 145, 145], 67) := by decide +kernel
theorem dX8_side_100 : decode cX8_side 100 = .ok (.aload_n 0, 1) := by decide +kernel
theorem dX8_side_101 : decode cX8_side 101 = .ok (.iload_n 1, 1) := by decide +kernel
theorem dX8_side_102 : decode cX8_side 102 = .ok (.invokevirtual 379, 3) := by decide +kernel
theorem dX8_side_105 : decode cX8_side 105 = .ok (.i2l, 1) := by decide +kernel
theorem dX8_side_106 : decode cX8_side 106 = .ok (.lreturn, 1) := by decide +kernel
theorem dX8_side_107 : decode cX8_side 107 = .ok (.aload_n 0, 1) := by decide +kernel
theorem dX8_side_108 : decode cX8_side 108 = .ok (.getfield 19, 3) := by decide +kernel
theorem dX8_side_111 : decode cX8_side 111 = .ok (.iconst 3, 1) := by decide +kernel
theorem dX8_side_112 : decode cX8_side 112 = .ok (.iload_n 1, 1) := by decide +kernel
theorem dX8_side_113 : decode cX8_side 113 = .ok (.imul, 1) := by decide +kernel
theorem dX8_side_114 : decode cX8_side 114 = .ok (.laload, 1) := by decide +kernel
theorem dX8_side_115 : decode cX8_side 115 = .ok (.lreturn, 1) := by decide +kernel
theorem dX8_side_116 : decode cX8_side 116 = .ok (.aload_n 0, 1) := by decide +kernel
theorem dX8_side_117 : decode cX8_side 117 = .ok (.iload_n 1, 1) := by decide +kernel
theorem dX8_side_118 : decode cX8_side 118 = .ok (.invokevirtual 305, 3) := by decide +kernel
theorem dX8_side_121 : decode cX8_side 121 = .ok (.lreturn, 1) := by decide +kernel
theorem dX8_side_122 : decode cX8_side 122 = .ok (.aload_n 0, 1) := by decide +kernel
theorem dX8_side_123 : decode cX8_side 123 = .ok (.iload_n 1, 1) := by decide +kernel
theorem dX8_side_124 : decode cX8_side 124 = .ok (.invokevirtual 250, 3) := by decide +kernel
theorem dX8_side_127 : decode cX8_side 127 = .ok (.lreturn, 1) := by decide +kernel
theorem dX8_side_128 : decode cX8_side 128 = .ok (.aload_n 0, 1) := by decide +kernel
theorem dX8_side_129 : decode cX8_side 129 = .ok (.getfield 32, 3) := by decide +kernel
theorem dX8_side_132 : decode cX8_side 132 = .ok (.iload_n 1, 1) := by decide +kernel
theorem dX8_side_133 : decode cX8_side 133 = .ok (.laload, 1) := by decide +kernel
theorem dX8_side_134 : decode cX8_side 134 = .ok (.lreturn, 1) := by decide +kernel
theorem dX8_side_135 : decode cX8_side 135 = .ok (.aload_n 0, 1) := by decide +kernel
theorem dX8_side_136 : decode cX8_side 136 = .ok (.getfield 23, 3) := by decide +kernel
theorem dX8_side_139 : decode cX8_side 139 = .ok (.iconst 2, 1) := by decide +kernel
theorem dX8_side_140 : decode cX8_side 140 = .ok (.iload_n 1, 1) := by decide +kernel
theorem dX8_side_141 : decode cX8_side 141 = .ok (.imul, 1) := by decide +kernel
theorem dX8_side_142 : decode cX8_side 142 = .ok (.iload_n 2, 1) := by decide +kernel
theorem dX8_side_143 : decode cX8_side 143 = .ok (.iadd, 1) := by decide +kernel
theorem dX8_side_144 : decode cX8_side 144 = .ok (.iconst 5, 1) := by decide +kernel
theorem dX8_side_145 : decode cX8_side 145 = .ok (.isub, 1) := by decide +kernel
theorem dX8_side_146 : decode cX8_side 146 = .ok (.iaload, 1) := by decide +kernel
theorem dX8_side_147 : decode cX8_side 147 = .ok (.i2l, 1) := by decide +kernel
theorem dX8_side_148 : decode cX8_side 148 = .ok (.lreturn, 1) := by decide +kernel
theorem dX8_side_149 : decode cX8_side 149 = .ok (.aload_n 0, 1) := by decide +kernel
theorem dX8_side_150 : decode cX8_side 150 = .ok (.getfield 19, 3) := by decide +kernel
theorem dX8_side_153 : decode cX8_side 153 = .ok (.iconst 3, 1) := by decide +kernel
theorem dX8_side_154 : decode cX8_side 154 = .ok (.iload_n 1, 1) := by decide +kernel
theorem dX8_side_155 : decode cX8_side 155 = .ok (.imul, 1) := by decide +kernel
theorem dX8_side_156 : decode cX8_side 156 = .ok (.iload_n 2, 1) := by decide +kernel
theorem dX8_side_157 : decode cX8_side 157 = .ok (.iadd, 1) := by decide +kernel
theorem dX8_side_158 : decode cX8_side 158 = .ok (.bipush 6, 2) := by decide +kernel
theorem dX8_side_160 : decode cX8_side 160 = .ok (.isub, 1) := by decide +kernel
theorem dX8_side_161 : decode cX8_side 161 = .ok (.laload, 1) := by decide +kernel
theorem dX8_side_162 : decode cX8_side 162 = .ok (.lreturn, 1) := by decide +kernel
theorem dX8_side_163 : decode cX8_side 163 = .ok (.aload_n 0, 1) := by decide +kernel
theorem dX8_side_164 : decode cX8_side 164 = .ok (.getfield 26, 3) := by decide +kernel
theorem dX8_side_167 : decode cX8_side 167 = .ok (.iconst 2, 1) := by decide +kernel
theorem dX8_side_168 : decode cX8_side 168 = .ok (.iload_n 1, 1) := by decide +kernel
theorem dX8_side_169 : decode cX8_side 169 = .ok (.imul, 1) := by decide +kernel
theorem dX8_side_170 : decode cX8_side 170 = .ok (.iload_n 2, 1) := by decide +kernel
theorem dX8_side_171 : decode cX8_side 171 = .ok (.iadd, 1) := by decide +kernel
theorem dX8_side_172 : decode cX8_side 172 = .ok (.bipush 9, 2) := by decide +kernel
theorem dX8_side_174 : decode cX8_side 174 = .ok (.isub, 1) := by decide +kernel
theorem dX8_side_175 : decode cX8_side 175 = .ok (.iaload, 1) := by decide +kernel
theorem dX8_side_176 : decode cX8_side 176 = .ok (.i2l, 1) := by decide +kernel
theorem dX8_side_177 : decode cX8_side 177 = .ok (.lreturn, 1) := by decide +kernel
theorem dX8_side_178 : decode cX8_side 178 = .ok (.aload_n 0, 1) := by decide +kernel
theorem dX8_side_179 : decode cX8_side 179 = .ok (.getfield 29, 3) := by decide +kernel
theorem dX8_side_182 : decode cX8_side 182 = .ok (.iconst 2, 1) := by decide +kernel
theorem dX8_side_183 : decode cX8_side 183 = .ok (.iload_n 1, 1) := by decide +kernel
theorem dX8_side_184 : decode cX8_side 184 = .ok (.imul, 1) := by decide +kernel
theorem dX8_side_185 : decode cX8_side 185 = .ok (.iload_n 2, 1) := by decide +kernel
theorem dX8_side_186 : decode cX8_side 186 = .ok (.iadd, 1) := by decide +kernel
theorem dX8_side_187 : decode cX8_side 187 = .ok (.bipush 11, 2) := by decide +kernel
theorem dX8_side_189 : decode cX8_side 189 = .ok (.isub, 1) := by decide +kernel
theorem dX8_side_190 : decode cX8_side 190 = .ok (.iaload, 1) := by decide +kernel
theorem dX8_side_191 : decode cX8_side 191 = .ok (.i2l, 1) := by decide +kernel
theorem dX8_side_192 : decode cX8_side 192 = .ok (.lreturn, 1) := by decide +kernel
theorem dX8_side_193 : decode cX8_side 193 = .ok (.aload_n 0, 1) := by decide +kernel
theorem dX8_side_194 : decode cX8_side 194 = .ok (.getfield 108, 3) := by decide +kernel
theorem dX8_side_197 : decode cX8_side 197 = .ok (.iload_n 1, 1) := by decide +kernel
theorem dX8_side_198 : decode cX8_side 198 = .ok (.iaload, 1) := by decide +kernel
theorem dX8_side_199 : decode cX8_side 199 = .ok (.i2l, 1) := by decide +kernel
theorem dX8_side_200 : decode cX8_side 200 = .ok (.lreturn, 1) := by decide +kernel
