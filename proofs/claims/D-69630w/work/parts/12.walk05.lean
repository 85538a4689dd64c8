/-! walks -/
set_option maxRecDepth 100000
/-! WebHostModel.fragment(IIIIIZ)V -/
abbrev cX14_fragment : ByteArray := prog_17_method_29_code
def yX14_fragment : MethodName := ⟨RX14, "fragment", "(IIIIIZ)V"⟩
theorem dX14_fragment_0 : decode cX14_fragment 0 = .ok (.aload_n 0, 1) := by decide +kernel
theorem dX14_fragment_1 : decode cX14_fragment 1 = .ok (.bipush 18, 2) := by decide +kernel
theorem dX14_fragment_3 : decode cX14_fragment 3 = .ok (.invokevirtual 210, 3) := by decide +kernel
theorem dX14_fragment_6 : decode cX14_fragment 6 = .ok (.istore 7, 2) := by decide +kernel
theorem dX14_fragment_8 : decode cX14_fragment 8 = .ok (.aconst_null, 1) := by decide +kernel
theorem dX14_fragment_9 : decode cX14_fragment 9 = .ok (.astore 8, 2) := by decide +kernel
theorem dX14_fragment_11 : decode cX14_fragment 11 = .ok (.aconst_null, 1) := by decide +kernel
theorem dX14_fragment_12 : decode cX14_fragment 12 = .ok (.astore 9, 2) := by decide +kernel
theorem dX14_fragment_14 : decode cX14_fragment 14 = .ok (.iconst 3, 1) := by decide +kernel
theorem dX14_fragment_15 : decode cX14_fragment 15 = .ok (.istore 10, 2) := by decide +kernel
theorem dX14_fragment_17 : decode cX14_fragment 17 = .ok (.iload 10, 2) := by decide +kernel
theorem dX14_fragment_19 : decode cX14_fragment 19 = .ok (.ifCond .lt 65, 3) := by decide +kernel
theorem dX14_fragment_22 : decode cX14_fragment 22 = .ok (.aload_n 0, 1) := by decide +kernel
theorem dX14_fragment_23 : decode cX14_fragment 23 = .ok (.getfield 61, 3) := by decide +kernel
theorem dX14_fragment_26 : decode cX14_fragment 26 = .ok (.iload 10, 2) := by decide +kernel
theorem dX14_fragment_28 : decode cX14_fragment 28 = .ok (.aaload, 1) := by decide +kernel
theorem dX14_fragment_29 : decode cX14_fragment 29 = .ok (.astore 11, 2) := by decide +kernel
theorem dX14_fragment_31 : decode cX14_fragment 31 = .ok (.aload 11, 2) := by decide +kernel
theorem dX14_fragment_33 : decode cX14_fragment 33 = .ok (.getfield 159, 3) := by decide +kernel
theorem dX14_fragment_36 : decode cX14_fragment 36 = .ok (.ifCond .ne 10, 3) := by decide +kernel
theorem dX14_fragment_39 : decode cX14_fragment 39 = .ok (.aload 11, 2) := by decide +kernel
theorem dX14_fragment_41 : decode cX14_fragment 41 = .ok (.astore 9, 2) := by decide +kernel
theorem dX14_fragment_43 : decode cX14_fragment 43 = .ok (.goto 35, 3) := by decide +kernel
theorem dX14_fragment_46 : decode cX14_fragment 46 = .ok (.aload 11, 2) := by decide +kernel
theorem dX14_fragment_48 : decode cX14_fragment 48 = .ok (.getfield 251, 3) := by decide +kernel
theorem dX14_fragment_51 : decode cX14_fragment 51 = .ok (.iload_n 1, 1) := by decide +kernel
theorem dX14_fragment_52 : decode cX14_fragment 52 = .ok (.if_icmp .ne 26, 3) := by decide +kernel
theorem dX14_fragment_55 : decode cX14_fragment 55 = .ok (.aload 11, 2) := by decide +kernel
theorem dX14_fragment_57 : decode cX14_fragment 57 = .ok (.getfield 252, 3) := by decide +kernel
theorem dX14_fragment_60 : decode cX14_fragment 60 = .ok (.iload 7, 2) := by decide +kernel
theorem dX14_fragment_62 : decode cX14_fragment 62 = .ok (.if_icmp .ne 16, 3) := by decide +kernel
theorem dX14_fragment_65 : decode cX14_fragment 65 = .ok (.aload 11, 2) := by decide +kernel
theorem dX14_fragment_67 : decode cX14_fragment 67 = .ok (.getfield 253, 3) := by decide +kernel
theorem dX14_fragment_70 : decode cX14_fragment 70 = .ok (.iload_n 2, 1) := by decide +kernel
theorem dX14_fragment_71 : decode cX14_fragment 71 = .ok (.if_icmp .ne 7, 3) := by decide +kernel
theorem dX14_fragment_74 : decode cX14_fragment 74 = .ok (.aload 11, 2) := by decide +kernel
theorem dX14_fragment_76 : decode cX14_fragment 76 = .ok (.astore 8, 2) := by decide +kernel
theorem dX14_fragment_78 : decode cX14_fragment 78 = .ok (.iinc 10 (-1), 3) := by decide +kernel
theorem dX14_fragment_81 : decode cX14_fragment 81 = .ok (.goto (-64), 3) := by decide +kernel
theorem dX14_fragment_84 : decode cX14_fragment 84 = .ok (.aload 8, 2) := by decide +kernel
theorem dX14_fragment_86 : decode cX14_fragment 86 = .ok (.ifnonnull 98, 3) := by decide +kernel
theorem dX14_fragment_89 : decode cX14_fragment 89 = .ok (.aload 9, 2) := by decide +kernel
theorem dX14_fragment_91 : decode cX14_fragment 91 = .ok (.ifnonnull 4, 3) := by decide +kernel
theorem dX14_fragment_94 : decode cX14_fragment 94 = .ok (.return_, 1) := by decide +kernel
theorem dX14_fragment_95 : decode cX14_fragment 95 = .ok (.aload 9, 2) := by decide +kernel
theorem dX14_fragment_97 : decode cX14_fragment 97 = .ok (.astore 8, 2) := by decide +kernel
theorem dX14_fragment_99 : decode cX14_fragment 99 = .ok (.aload 8, 2) := by decide +kernel
theorem dX14_fragment_101 : decode cX14_fragment 101 = .ok (.iconst 1, 1) := by decide +kernel
theorem dX14_fragment_102 : decode cX14_fragment 102 = .ok (.putfield 159, 3) := by decide +kernel
theorem dX14_fragment_105 : decode cX14_fragment 105 = .ok (.aload 8, 2) := by decide +kernel
theorem dX14_fragment_107 : decode cX14_fragment 107 = .ok (.iload_n 1, 1) := by decide +kernel
theorem dX14_fragment_108 : decode cX14_fragment 108 = .ok (.putfield 251, 3) := by decide +kernel
theorem dX14_fragment_111 : decode cX14_fragment 111 = .ok (.aload 8, 2) := by decide +kernel
theorem dX14_fragment_113 : decode cX14_fragment 113 = .ok (.iload 7, 2) := by decide +kernel
theorem dX14_fragment_115 : decode cX14_fragment 115 = .ok (.putfield 252, 3) := by decide +kernel
theorem dX14_fragment_118 : decode cX14_fragment 118 = .ok (.aload 8, 2) := by decide +kernel
theorem dX14_fragment_120 : decode cX14_fragment 120 = .ok (.iload_n 2, 1) := by decide +kernel
theorem dX14_fragment_121 : decode cX14_fragment 121 = .ok (.putfield 253, 3) := by decide +kernel
theorem dX14_fragment_124 : decode cX14_fragment 124 = .ok (.aload 8, 2) := by decide +kernel
theorem dX14_fragment_126 : decode cX14_fragment 126 = .ok (.iconst (-1), 1) := by decide +kernel
theorem dX14_fragment_127 : decode cX14_fragment 127 = .ok (.putfield 256, 3) := by decide +kernel
theorem dX14_fragment_130 : decode cX14_fragment 130 = .ok (.aload 8, 2) := by decide +kernel
theorem dX14_fragment_132 : decode cX14_fragment 132 = .ok (.aload_n 0, 1) := by decide +kernel
theorem dX14_fragment_133 : decode cX14_fragment 133 = .ok (.getfield 134, 3) := by decide +kernel
theorem dX14_fragment_136 : decode cX14_fragment 136 = .ok (.putfield 259, 3) := by decide +kernel
theorem dX14_fragment_139 : decode cX14_fragment 139 = .ok (.aload_n 0, 1) := by decide +kernel
theorem dX14_fragment_140 : decode cX14_fragment 140 = .ok (.dup, 1) := by decide +kernel
theorem dX14_fragment_141 : decode cX14_fragment 141 = .ok (.getfield 149, 3) := by decide +kernel
theorem dX14_fragment_144 : decode cX14_fragment 144 = .ok (.iconst 1, 1) := by decide +kernel
theorem dX14_fragment_145 : decode cX14_fragment 145 = .ok (.iadd, 1) := by decide +kernel
theorem dX14_fragment_146 : decode cX14_fragment 146 = .ok (.putfield 149, 3) := by decide +kernel
theorem dX14_fragment_149 : decode cX14_fragment 149 = .ok (.aload 8, 2) := by decide +kernel
theorem dX14_fragment_151 : decode cX14_fragment 151 = .ok (.aload_n 0, 1) := by decide +kernel
theorem dX14_fragment_152 : decode cX14_fragment 152 = .ok (.getfield 149, 3) := by decide +kernel
theorem dX14_fragment_155 : decode cX14_fragment 155 = .ok (.putfield 262, 3) := by decide +kernel
theorem dX14_fragment_158 : decode cX14_fragment 158 = .ok (.iconst 0, 1) := by decide +kernel
theorem dX14_fragment_159 : decode cX14_fragment 159 = .ok (.istore 10, 2) := by decide +kernel
theorem dX14_fragment_161 : decode cX14_fragment 161 = .ok (.iload 10, 2) := by decide +kernel
theorem dX14_fragment_163 : decode cX14_fragment 163 = .ok (.sipush 4096, 3) := by decide +kernel
theorem dX14_fragment_166 : decode cX14_fragment 166 = .ok (.if_icmp .ge 18, 3) := by decide +kernel
theorem dX14_fragment_169 : decode cX14_fragment 169 = .ok (.aload 8, 2) := by decide +kernel
theorem dX14_fragment_171 : decode cX14_fragment 171 = .ok (.getfield 263, 3) := by decide +kernel
theorem dX14_fragment_174 : decode cX14_fragment 174 = .ok (.iload 10, 2) := by decide +kernel
theorem dX14_fragment_176 : decode cX14_fragment 176 = .ok (.iconst 0, 1) := by decide +kernel
theorem dX14_fragment_177 : decode cX14_fragment 177 = .ok (.bastore, 1) := by decide +kernel
theorem dX14_fragment_178 : decode cX14_fragment 178 = .ok (.iinc 10 1, 3) := by decide +kernel
theorem dX14_fragment_181 : decode cX14_fragment 181 = .ok (.goto (-20), 3) := by decide +kernel
theorem dX14_fragment_184 : decode cX14_fragment 184 = .ok (.iload_n 3, 1) := by decide +kernel
theorem dX14_fragment_185 : decode cX14_fragment 185 = .ok (.iload 5, 2) := by decide +kernel
theorem dX14_fragment_187 : decode cX14_fragment 187 = .ok (.iadd, 1) := by decide +kernel
theorem dX14_fragment_188 : decode cX14_fragment 188 = .ok (.istore 10, 2) := by decide +kernel
theorem dX14_fragment_190 : decode cX14_fragment 190 = .ok (.aload 8, 2) := by decide +kernel
theorem dX14_fragment_192 : decode cX14_fragment 192 = .ok (.getfield 256, 3) := by decide +kernel
theorem dX14_fragment_195 : decode cX14_fragment 195 = .ok (.ifCond .lt 35, 3) := by decide +kernel
theorem dX14_fragment_198 : decode cX14_fragment 198 = .ok (.iload 6, 2) := by decide +kernel
theorem dX14_fragment_200 : decode cX14_fragment 200 = .ok (.ifCond .eq 16, 3) := by decide +kernel
theorem dX14_fragment_203 : decode cX14_fragment 203 = .ok (.iload 10, 2) := by decide +kernel
theorem dX14_fragment_205 : decode cX14_fragment 205 = .ok (.aload 8, 2) := by decide +kernel
theorem dX14_fragment_207 : decode cX14_fragment 207 = .ok (.getfield 256, 3) := by decide +kernel
theorem dX14_fragment_210 : decode cX14_fragment 210 = .ok (.if_icmp .le 20, 3) := by decide +kernel
theorem dX14_fragment_213 : decode cX14_fragment 213 = .ok (.goto 13, 3) := by decide +kernel
theorem dX14_fragment_216 : decode cX14_fragment 216 = .ok (.iload 10, 2) := by decide +kernel
theorem dX14_fragment_218 : decode cX14_fragment 218 = .ok (.aload 8, 2) := by decide +kernel
theorem dX14_fragment_220 : decode cX14_fragment 220 = .ok (.getfield 256, 3) := by decide +kernel
theorem dX14_fragment_223 : decode cX14_fragment 223 = .ok (.if_icmp .eq 7, 3) := by decide +kernel
theorem dX14_fragment_226 : decode cX14_fragment 226 = .ok (.iconst 1, 1) := by decide +kernel
theorem dX14_fragment_227 : decode cX14_fragment 227 = .ok (.goto 4, 3) := by decide +kernel
theorem dX14_fragment_230 : decode cX14_fragment 230 = .ok (.iconst 0, 1) := by decide +kernel
theorem dX14_fragment_231 : decode cX14_fragment 231 = .ok (.istore 11, 2) := by decide +kernel
theorem dX14_fragment_233 : decode cX14_fragment 233 = .ok (.iload 6, 2) := by decide +kernel
theorem dX14_fragment_235 : decode cX14_fragment 235 = .ok (.ifCond .ne 44, 3) := by decide +kernel
theorem dX14_fragment_238 : decode cX14_fragment 238 = .ok (.iload 10, 2) := by decide +kernel
theorem dX14_fragment_240 : decode cX14_fragment 240 = .ok (.istore 12, 2) := by decide +kernel
theorem dX14_fragment_242 : decode cX14_fragment 242 = .ok (.iload 12, 2) := by decide +kernel
theorem dX14_fragment_244 : decode cX14_fragment 244 = .ok (.sipush 4096, 3) := by decide +kernel
theorem dX14_fragment_247 : decode cX14_fragment 247 = .ok (.if_icmp .ge 32, 3) := by decide +kernel
theorem dX14_fragment_250 : decode cX14_fragment 250 = .ok (.iload 11, 2) := by decide +kernel
theorem dX14_fragment_252 : decode cX14_fragment 252 = .ok (.ifCond .ne 14, 3) := by decide +kernel
theorem dX14_fragment_255 : decode cX14_fragment 255 = .ok (.aload 8, 2) := by decide +kernel
theorem dX14_fragment_257 : decode cX14_fragment 257 = .ok (.getfield 263, 3) := by decide +kernel
theorem dX14_fragment_260 : decode cX14_fragment 260 = .ok (.iload 12, 2) := by decide +kernel
theorem dX14_fragment_262 : decode cX14_fragment 262 = .ok (.baload, 1) := by decide +kernel
theorem dX14_fragment_263 : decode cX14_fragment 263 = .ok (.ifCond .eq 7, 3) := by decide +kernel
theorem dX14_fragment_266 : decode cX14_fragment 266 = .ok (.iconst 1, 1) := by decide +kernel
theorem dX14_fragment_267 : decode cX14_fragment 267 = .ok (.goto 4, 3) := by decide +kernel
theorem dX14_fragment_270 : decode cX14_fragment 270 = .ok (.iconst 0, 1) := by decide +kernel
theorem dX14_fragment_271 : decode cX14_fragment 271 = .ok (.istore 11, 2) := by decide +kernel
theorem dX14_fragment_273 : decode cX14_fragment 273 = .ok (.iinc 12 1, 3) := by decide +kernel
theorem dX14_fragment_276 : decode cX14_fragment 276 = .ok (.goto (-34), 3) := by decide +kernel
theorem dX14_fragment_279 : decode cX14_fragment 279 = .ok (.iload 11, 2) := by decide +kernel
theorem dX14_fragment_281 : decode cX14_fragment 281 = .ok (.ifCond .eq 10, 3) := by decide +kernel
theorem dX14_fragment_284 : decode cX14_fragment 284 = .ok (.aload 8, 2) := by decide +kernel
theorem dX14_fragment_286 : decode cX14_fragment 286 = .ok (.iconst 0, 1) := by decide +kernel
theorem dX14_fragment_287 : decode cX14_fragment 287 = .ok (.putfield 159, 3) := by decide +kernel
theorem dX14_fragment_290 : decode cX14_fragment 290 = .ok (.return_, 1) := by decide +kernel
theorem dX14_fragment_291 : decode cX14_fragment 291 = .ok (.iload 6, 2) := by decide +kernel
theorem dX14_fragment_293 : decode cX14_fragment 293 = .ok (.ifCond .ne 10, 3) := by decide +kernel
theorem dX14_fragment_296 : decode cX14_fragment 296 = .ok (.aload 8, 2) := by decide +kernel
theorem dX14_fragment_298 : decode cX14_fragment 298 = .ok (.iload 10, 2) := by decide +kernel
theorem dX14_fragment_300 : decode cX14_fragment 300 = .ok (.putfield 256, 3) := by decide +kernel
theorem dX14_fragment_303 : decode cX14_fragment 303 = .ok (.iconst 0, 1) := by decide +kernel
theorem dX14_fragment_304 : decode cX14_fragment 304 = .ok (.istore 12, 2) := by decide +kernel
theorem dX14_fragment_306 : decode cX14_fragment 306 = .ok (.iload 12, 2) := by decide +kernel
theorem dX14_fragment_308 : decode cX14_fragment 308 = .ok (.iload 5, 2) := by decide +kernel
theorem dX14_fragment_310 : decode cX14_fragment 310 = .ok (.if_icmp .ge 53, 3) := by decide +kernel
theorem dX14_fragment_313 : decode cX14_fragment 313 = .ok (.aload 8, 2) := by decide +kernel
theorem dX14_fragment_315 : decode cX14_fragment 315 = .ok (.getfield 263, 3) := by decide +kernel
theorem dX14_fragment_318 : decode cX14_fragment 318 = .ok (.iload_n 3, 1) := by decide +kernel
theorem dX14_fragment_319 : decode cX14_fragment 319 = .ok (.iload 12, 2) := by decide +kernel
theorem dX14_fragment_321 : decode cX14_fragment 321 = .ok (.iadd, 1) := by decide +kernel
theorem dX14_fragment_322 : decode cX14_fragment 322 = .ok (.baload, 1) := by decide +kernel
theorem dX14_fragment_323 : decode cX14_fragment 323 = .ok (.ifCond .ne 34, 3) := by decide +kernel
theorem dX14_fragment_326 : decode cX14_fragment 326 = .ok (.aload 8, 2) := by decide +kernel
theorem dX14_fragment_328 : decode cX14_fragment 328 = .ok (.getfield 263, 3) := by decide +kernel
theorem dX14_fragment_331 : decode cX14_fragment 331 = .ok (.iload_n 3, 1) := by decide +kernel
theorem dX14_fragment_332 : decode cX14_fragment 332 = .ok (.iload 12, 2) := by decide +kernel
theorem dX14_fragment_334 : decode cX14_fragment 334 = .ok (.iadd, 1) := by decide +kernel
theorem dX14_fragment_335 : decode cX14_fragment 335 = .ok (.iconst 1, 1) := by decide +kernel
theorem dX14_fragment_336 : decode cX14_fragment 336 = .ok (.bastore, 1) := by decide +kernel
theorem dX14_fragment_337 : decode cX14_fragment 337 = .ok (.aload 8, 2) := by decide +kernel
theorem dX14_fragment_339 : decode cX14_fragment 339 = .ok (.getfield 267, 3) := by decide +kernel
theorem dX14_fragment_342 : decode cX14_fragment 342 = .ok (.iload_n 3, 1) := by decide +kernel
theorem dX14_fragment_343 : decode cX14_fragment 343 = .ok (.iload 12, 2) := by decide +kernel
theorem dX14_fragment_345 : decode cX14_fragment 345 = .ok (.iadd, 1) := by decide +kernel
theorem dX14_fragment_346 : decode cX14_fragment 346 = .ok (.aload_n 0, 1) := by decide +kernel
theorem dX14_fragment_347 : decode cX14_fragment 347 = .ok (.getfield 10, 3) := by decide +kernel
theorem dX14_fragment_350 : decode cX14_fragment 350 = .ok (.iload 4, 2) := by decide +kernel
theorem dX14_fragment_352 : decode cX14_fragment 352 = .ok (.iload 12, 2) := by decide +kernel
theorem dX14_fragment_354 : decode cX14_fragment 354 = .ok (.iadd, 1) := by decide +kernel
theorem dX14_fragment_355 : decode cX14_fragment 355 = .ok (.baload, 1) := by decide +kernel
theorem dX14_fragment_356 : decode cX14_fragment 356 = .ok (.bastore, 1) := by decide +kernel
theorem dX14_fragment_357 : decode cX14_fragment 357 = .ok (.iinc 12 1, 3) := by decide +kernel
theorem dX14_fragment_360 : decode cX14_fragment 360 = .ok (.goto (-54), 3) := by decide +kernel
theorem dX14_fragment_363 : decode cX14_fragment 363 = .ok (.aload 8, 2) := by decide +kernel
theorem dX14_fragment_365 : decode cX14_fragment 365 = .ok (.getfield 256, 3) := by decide +kernel
theorem dX14_fragment_368 : decode cX14_fragment 368 = .ok (.ifCond .ge 4, 3) := by decide +kernel
theorem dX14_fragment_371 : decode cX14_fragment 371 = .ok (.return_, 1) := by decide +kernel
theorem dX14_fragment_372 : decode cX14_fragment 372 = .ok (.iconst 0, 1) := by decide +kernel
theorem dX14_fragment_373 : decode cX14_fragment 373 = .ok (.istore 12, 2) := by decide +kernel
theorem dX14_fragment_375 : decode cX14_fragment 375 = .ok (.iload 12, 2) := by decide +kernel
theorem dX14_fragment_377 : decode cX14_fragment 377 = .ok (.aload 8, 2) := by decide +kernel
theorem dX14_fragment_379 : decode cX14_fragment 379 = .ok (.getfield 256, 3) := by decide +kernel
theorem dX14_fragment_382 : decode cX14_fragment 382 = .ok (.if_icmp .ge 21, 3) := by decide +kernel
theorem dX14_fragment_385 : decode cX14_fragment 385 = .ok (.aload 8, 2) := by decide +kernel
theorem dX14_fragment_387 : decode cX14_fragment 387 = .ok (.getfield 263, 3) := by decide +kernel
theorem dX14_fragment_390 : decode cX14_fragment 390 = .ok (.iload 12, 2) := by decide +kernel
theorem dX14_fragment_392 : decode cX14_fragment 392 = .ok (.baload, 1) := by decide +kernel
theorem dX14_fragment_393 : decode cX14_fragment 393 = .ok (.ifCond .ne 4, 3) := by decide +kernel
theorem dX14_fragment_396 : decode cX14_fragment 396 = .ok (.return_, 1) := by decide +kernel
theorem dX14_fragment_397 : decode cX14_fragment 397 = .ok (.iinc 12 1, 3) := by decide +kernel
theorem dX14_fragment_400 : decode cX14_fragment 400 = .ok (.goto (-25), 3) := by decide +kernel
theorem dX14_fragment_403 : decode cX14_fragment 403 = .ok (.aload 8, 2) := by decide +kernel
theorem dX14_fragment_405 : decode cX14_fragment 405 = .ok (.iconst 0, 1) := by decide +kernel
theorem dX14_fragment_406 : decode cX14_fragment 406 = .ok (.putfield 159, 3) := by decide +kernel
theorem dX14_fragment_409 : decode cX14_fragment 409 = .ok (.aload_n 0, 1) := by decide +kernel
theorem dX14_fragment_410 : decode cX14_fragment 410 = .ok (.getfield 31, 3) := by decide +kernel
theorem dX14_fragment_413 : decode cX14_fragment 413 = .ok (.iconst 1, 1) := by decide +kernel
theorem dX14_fragment_414 : decode cX14_fragment 414 = .ok (.dup2, 1) := by decide +kernel
theorem dX14_fragment_415 : decode cX14_fragment 415 = .ok (.iaload, 1) := by decide +kernel
theorem dX14_fragment_416 : decode cX14_fragment 416 = .ok (.iconst 1, 1) := by decide +kernel
theorem dX14_fragment_417 : decode cX14_fragment 417 = .ok (.iadd, 1) := by decide +kernel
theorem dX14_fragment_418 : decode cX14_fragment 418 = .ok (.iastore, 1) := by decide +kernel
theorem dX14_fragment_419 : decode cX14_fragment 419 = .ok (.iconst 0, 1) := by decide +kernel
theorem dX14_fragment_420 : decode cX14_fragment 420 = .ok (.istore 12, 2) := by decide +kernel
theorem dX14_fragment_422 : decode cX14_fragment 422 = .ok (.iload 12, 2) := by decide +kernel
theorem dX14_fragment_424 : decode cX14_fragment 424 = .ok (.aload 8, 2) := by decide +kernel
theorem dX14_fragment_426 : decode cX14_fragment 426 = .ok (.getfield 256, 3) := by decide +kernel
theorem dX14_fragment_429 : decode cX14_fragment 429 = .ok (.if_icmp .ge 24, 3) := by decide +kernel
theorem dX14_fragment_432 : decode cX14_fragment 432 = .ok (.aload_n 0, 1) := by decide +kernel
theorem dX14_fragment_433 : decode cX14_fragment 433 = .ok (.getfield 65, 3) := by decide +kernel
theorem dX14_fragment_436 : decode cX14_fragment 436 = .ok (.iload 12, 2) := by decide +kernel
theorem dX14_fragment_438 : decode cX14_fragment 438 = .ok (.aload 8, 2) := by decide +kernel
theorem dX14_fragment_440 : decode cX14_fragment 440 = .ok (.getfield 267, 3) := by decide +kernel
theorem dX14_fragment_443 : decode cX14_fragment 443 = .ok (.iload 12, 2) := by decide +kernel
theorem dX14_fragment_445 : decode cX14_fragment 445 = .ok (.baload, 1) := by decide +kernel
theorem dX14_fragment_446 : decode cX14_fragment 446 = .ok (.bastore, 1) := by decide +kernel
theorem dX14_fragment_447 : decode cX14_fragment 447 = .ok (.iinc 12 1, 3) := by decide +kernel
theorem dX14_fragment_450 : decode cX14_fragment 450 = .ok (.goto (-28), 3) := by decide +kernel
theorem dX14_fragment_453 : decode cX14_fragment 453 = .ok (.aload_n 0, 1) := by decide +kernel
theorem dX14_fragment_454 : decode cX14_fragment 454 = .ok (.iload_n 1, 1) := by decide +kernel
theorem dX14_fragment_455 : decode cX14_fragment 455 = .ok (.putfield 240, 3) := by decide +kernel
theorem dX14_fragment_458 : decode cX14_fragment 458 = .ok (.aload_n 0, 1) := by decide +kernel
theorem dX14_fragment_459 : decode cX14_fragment 459 = .ok (.iload_n 2, 1) := by decide +kernel
theorem dX14_fragment_460 : decode cX14_fragment 460 = .ok (.aload 8, 2) := by decide +kernel
theorem dX14_fragment_462 : decode cX14_fragment 462 = .ok (.getfield 256, 3) := by decide +kernel
theorem dX14_fragment_465 : decode cX14_fragment 465 = .ok (.invokevirtual 243, 3) := by decide +kernel
theorem dX14_fragment_468 : decode cX14_fragment 468 = .ok (.return_, 1) := by decide +kernel
def rmX14_fragment : Room := { frames := 13, cells := 0, slots := 0, locals := 302 }
theorem kX14_fragment : yX14_fragment.cls = "WebHostModel" ∧ yX14_fragment.cls ≠ "java/lang/invoke/MethodHandle" ∧ yX14_fragment.cls ≠ "java/lang/invoke/VarHandle" ∧ (parseMethodDescriptor yX14_fragment.desc).map (fun d => d.parameters.length) = some 6 := by decide +kernel
def w14_fragment_L17 (σ : St) (x1 : Int32) (x2 : Int32) (x3 : Int32) (x4 : Int32) (x5 : Int32) (x6 : Int32) (x7 : Int32) (Q : St → Prop) (K84 : Option Nat → Option Nat → Prop) : Nat → Option Nat → Option Nat → Int32 → Prop
  | 0, _, _, _ => False
  | n + 1, p8, p9, x10 => (x10 < 0 → K84 p8 p9) ∧ (¬ x10 < 0 → (vp_in x10 4 ∧ (bo (σ 18 x10.toNatClampNeg 0) → ((¬ (σ 18 x10.toNatClampNeg 0) = 0 → ((¬ (σ 18 x10.toNatClampNeg 1) = x1 → (w14_fragment_L17 σ x1 x2 x3 x4 x5 x6 x7 Q K84 n p8 p9 (x10 + (-1)))) ∧ ((σ 18 x10.toNatClampNeg 1) = x1 → ((¬ (σ 18 x10.toNatClampNeg 2) = x7 → (w14_fragment_L17 σ x1 x2 x3 x4 x5 x6 x7 Q K84 n p8 p9 (x10 + (-1)))) ∧ ((σ 18 x10.toNatClampNeg 2) = x7 → ((¬ (σ 18 x10.toNatClampNeg 3) = x2 → (w14_fragment_L17 σ x1 x2 x3 x4 x5 x6 x7 Q K84 n p8 p9 (x10 + (-1)))) ∧ ((σ 18 x10.toNatClampNeg 3) = x2 → (w14_fragment_L17 σ x1 x2 x3 x4 x5 x6 x7 Q K84 n (some x10.toNatClampNeg) p9 (x10 + (-1)))))))))) ∧ ((σ 18 x10.toNatClampNeg 0) = 0 → (w14_fragment_L17 σ x1 x2 x3 x4 x5 x6 x7 Q K84 n p8 (some x10.toNatClampNeg) (x10 + (-1))))))))
set_option maxHeartbeats 4000000 in
theorem k14_fragment_L17 {p : Program} {l : Launch} {e : Env} {s : State} {m : MethodId} {args : Array Value} {below : List Frame} {meth : Method} {c : Code} {G : Gh} {a1 : Nat → Nat → Nat} {τ : St} {Q : St → Prop} {K84 : Option Nat → Option Nat → Prop} (C : Cx p e s m args meth c cX14_fragment 13 none "WebHostModel" G) (σ : St) (x1 : Int32) (x2 : Int32) (x3 : Int32) (x4 : Int32) (x5 : Int32) (x6 : Int32) (x7 : Int32) :
    ∀ (n : Nat) (p8 : Option Nat) (p9 : Option Nat) (x10 : Int32), w14_fragment_L17 σ x1 x2 x3 x4 x5 x6 x7 Q K84 n p8 p9 x10 → ∀ (H : Heap) (locs : List Loc) (ls : Array Slot), Hd G a1 (cmb τ σ) H → va_S (gA G) s.heap H locs → lv_has ls 13 [(0, .ref (ga G 14 0)), (1, .int x1), (2, .int x2), (3, .int x3), (4, .int x4), (5, .int x5), (6, .int x6), (7, .int x7), (8, va_re (ga G 18) p8), (9, va_re (ga G 18) p9), (10, .int x10)] → (∀ (p8 : Option Nat) (p9 : Option Nat), K84 p8 p9 → ∀ (H : Heap) (locs : List Loc) (ls : Array Slot), Hd G a1 (cmb τ σ) H → va_S (gA G) s.heap H locs → lv_has ls 13 [(0, .ref (ga G 14 0)), (1, .int x1), (2, .int x2), (3, .int x3), (4, .int x4), (5, .int x5), (6, .int x6), (7, .int x7), (8, va_re (ga G 18) p8), (9, va_re (ga G 18) p9)] → W p l e rmX14_fragment s m args below meth c H locs 0 0 (MQ below (QVs G a1 (fun u => cmb τ u) Q) args s 0 0 (gA G)) (F0 m 84 ls [])) → W p l e rmX14_fragment s m args below meth c H locs 0 0 (MQ below (QVs G a1 (fun u => cmb τ u) Q) args s 0 0 (gA G)) (F0 m 17 ls []) := by
  have hx := C.1
  have hb := C.2.1
  have hown := C.2.2.2.2.2.1
  have hts := C.2.2.2.2.2.2.1
  intro n
  induction n with
  | zero =>
    intro p8 p9 x10 hw
    exact False.elim hw
  | succ n ih =>
    intro p8 p9 x10 hw H locs ls hH hS hl hK84
    refine lv_iload hx hb dX14_fragment_17 (lv_at hl 10 rfl) ?_
    refine lv_if_lt (tgt := 84) hx hb dX14_fragment_19 (by decide) (fun h => ?_) (fun h => ?_)
    · have hw := hw.1 h
      exact hK84 p8 p9 hw H locs ls hH hS (lv_sub hl [0, 1, 2, 3, 4, 5, 6, 7, 8, 9] rfl)
    have hw := hw.2 h
    refine lv_aload_n hx hb dX14_fragment_22 rfl (lv_at hl 0 rfl) ?_
    refine g14_28 C hH q1968 dX14_fragment_23 ?_
    refine lv_iload hx hb dX14_fragment_26 (lv_at hl 10 rfl) ?_
    have hq2 := vp_lt hw.1
    refine l63 C hH hw.1 dX14_fragment_28 ?_
    have hw := hw.2
    refine lv_astore (lv' := [(11, .ref (ga G 18 x10.toNatClampNeg)), (0, .ref (ga G 14 0)), (1, .int x1), (2, .int x2), (3, .int x3), (4, .int x4), (5, .int x5), (6, .int x6), (7, .int x7), (8, va_re (ga G 18) p8), (9, va_re (ga G 18) p9), (10, .int x10)]) hx hb dX14_fragment_29 hl (by decide) rfl (fun ls hl => ?_)
    refine lv_aload hx hb dX14_fragment_31 (lv_at hl 0 rfl) ?_
    refine g18_0 C hH hq2 q1910 dX14_fragment_33 (fun hz => ?_)
    have hw := hw hz
    refine lv_if_ne (tgt := 46) hx hb dX14_fragment_36 (by decide) (fun h => ?_) (fun h => ?_)
    · have hw := hw.1 h
      refine lv_aload hx hb dX14_fragment_46 (lv_at hl 0 rfl) ?_
      refine g18_1 C hH hq2 q1911 dX14_fragment_48 ?_
      refine lv_iload_n hx hb dX14_fragment_51 rfl (lv_at hl 2 rfl) ?_
      refine lv_icmp_ne (tgt := 78) hx hb dX14_fragment_52 (by decide) (fun h => ?_) (fun h => ?_)
      · have hw := hw.1 h
        refine lv_iinc (v := x10 + (-1)) (lv' := [(10, .int (x10 + (-1))), (11, .ref (ga G 18 x10.toNatClampNeg)), (0, .ref (ga G 14 0)), (1, .int x1), (2, .int x2), (3, .int x3), (4, .int x4), (5, .int x5), (6, .int x6), (7, .int x7), (8, va_re (ga G 18) p8), (9, va_re (ga G 18) p9)]) hx hb dX14_fragment_78 hl (k := 11) rfl rfl (by decide) (by simp [va_re_cat, nav_cat]) (fun ls hl => ?_)
        refine lv_goto (tgt := 17) hx hb dX14_fragment_81 (by decide) ?_
        exact ih p8 p9 (x10 + (-1)) hw H locs ls hH hS (lv_sub hl [2, 3, 4, 5, 6, 7, 8, 9, 10, 11, 0] rfl) hK84
      have hw := hw.2 h
      refine lv_aload hx hb dX14_fragment_55 (lv_at hl 0 rfl) ?_
      refine g18_2 C hH hq2 q1912 dX14_fragment_57 ?_
      refine lv_iload hx hb dX14_fragment_60 (lv_at hl 8 rfl) ?_
      refine lv_icmp_ne (tgt := 78) hx hb dX14_fragment_62 (by decide) (fun h => ?_) (fun h => ?_)
      · have hw := hw.1 h
        refine lv_iinc (v := x10 + (-1)) (lv' := [(10, .int (x10 + (-1))), (11, .ref (ga G 18 x10.toNatClampNeg)), (0, .ref (ga G 14 0)), (1, .int x1), (2, .int x2), (3, .int x3), (4, .int x4), (5, .int x5), (6, .int x6), (7, .int x7), (8, va_re (ga G 18) p8), (9, va_re (ga G 18) p9)]) hx hb dX14_fragment_78 hl (k := 11) rfl rfl (by decide) (by simp [va_re_cat, nav_cat]) (fun ls hl => ?_)
        refine lv_goto (tgt := 17) hx hb dX14_fragment_81 (by decide) ?_
        exact ih p8 p9 (x10 + (-1)) hw H locs ls hH hS (lv_sub hl [2, 3, 4, 5, 6, 7, 8, 9, 10, 11, 0] rfl) hK84
      have hw := hw.2 h
      refine lv_aload hx hb dX14_fragment_65 (lv_at hl 0 rfl) ?_
      refine g18_3 C hH hq2 q1913 dX14_fragment_67 ?_
      refine lv_iload_n hx hb dX14_fragment_70 rfl (lv_at hl 3 rfl) ?_
      refine lv_icmp_ne (tgt := 78) hx hb dX14_fragment_71 (by decide) (fun h => ?_) (fun h => ?_)
      · have hw := hw.1 h
        refine lv_iinc (v := x10 + (-1)) (lv' := [(10, .int (x10 + (-1))), (11, .ref (ga G 18 x10.toNatClampNeg)), (0, .ref (ga G 14 0)), (1, .int x1), (2, .int x2), (3, .int x3), (4, .int x4), (5, .int x5), (6, .int x6), (7, .int x7), (8, va_re (ga G 18) p8), (9, va_re (ga G 18) p9)]) hx hb dX14_fragment_78 hl (k := 11) rfl rfl (by decide) (by simp [va_re_cat, nav_cat]) (fun ls hl => ?_)
        refine lv_goto (tgt := 17) hx hb dX14_fragment_81 (by decide) ?_
        exact ih p8 p9 (x10 + (-1)) hw H locs ls hH hS (lv_sub hl [2, 3, 4, 5, 6, 7, 8, 9, 10, 11, 0] rfl) hK84
      have hw := hw.2 h
      refine lv_aload hx hb dX14_fragment_74 (lv_at hl 0 rfl) ?_
      refine lv_astore (lv' := [(8, .ref (ga G 18 x10.toNatClampNeg)), (11, .ref (ga G 18 x10.toNatClampNeg)), (0, .ref (ga G 14 0)), (1, .int x1), (2, .int x2), (3, .int x3), (4, .int x4), (5, .int x5), (6, .int x6), (7, .int x7), (9, va_re (ga G 18) p9), (10, .int x10)]) hx hb dX14_fragment_76 hl (by decide) rfl (fun ls hl => ?_)
      refine lv_iinc (v := x10 + (-1)) (lv' := [(10, .int (x10 + (-1))), (8, .ref (ga G 18 x10.toNatClampNeg)), (11, .ref (ga G 18 x10.toNatClampNeg)), (0, .ref (ga G 14 0)), (1, .int x1), (2, .int x2), (3, .int x3), (4, .int x4), (5, .int x5), (6, .int x6), (7, .int x7), (9, va_re (ga G 18) p9)]) hx hb dX14_fragment_78 hl (k := 11) rfl rfl (by decide) (by simp [va_re_cat, nav_cat]) (fun ls hl => ?_)
      refine lv_goto (tgt := 17) hx hb dX14_fragment_81 (by decide) ?_
      exact ih (some x10.toNatClampNeg) p9 (x10 + (-1)) hw H locs ls hH hS (lv_sub hl [3, 4, 5, 6, 7, 8, 9, 10, 1, 11, 0] rfl) hK84
    have hw := hw.2 h
    refine lv_aload hx hb dX14_fragment_39 (lv_at hl 0 rfl) ?_
    refine lv_astore (lv' := [(9, .ref (ga G 18 x10.toNatClampNeg)), (11, .ref (ga G 18 x10.toNatClampNeg)), (0, .ref (ga G 14 0)), (1, .int x1), (2, .int x2), (3, .int x3), (4, .int x4), (5, .int x5), (6, .int x6), (7, .int x7), (8, va_re (ga G 18) p8), (10, .int x10)]) hx hb dX14_fragment_41 hl (by decide) (by simp [va_re_cat, nav_cat]) (fun ls hl => ?_)
    refine lv_goto (tgt := 78) hx hb dX14_fragment_43 (by decide) ?_
    refine lv_iinc (v := x10 + (-1)) (lv' := [(10, .int (x10 + (-1))), (9, .ref (ga G 18 x10.toNatClampNeg)), (11, .ref (ga G 18 x10.toNatClampNeg)), (0, .ref (ga G 14 0)), (1, .int x1), (2, .int x2), (3, .int x3), (4, .int x4), (5, .int x5), (6, .int x6), (7, .int x7), (8, va_re (ga G 18) p8)]) hx hb dX14_fragment_78 hl (k := 11) rfl rfl (by decide) rfl (fun ls hl => ?_)
    refine lv_goto (tgt := 17) hx hb dX14_fragment_81 (by decide) ?_
    exact ih p8 (some x10.toNatClampNeg) (x10 + (-1)) hw H locs ls hH hS (lv_sub hl [3, 4, 5, 6, 7, 8, 9, 10, 11, 1, 0] rfl) hK84
def w14_fragment_L161 (x1 : Int32) (x2 : Int32) (x3 : Int32) (x4 : Int32) (x5 : Int32) (x6 : Int32) (o8 : Nat) (Q : St → Prop) (K184 : St → Prop) : Nat → St → Int32 → Prop
  | 0, _, _ => False
  | n + 1, σ, x10 => (4096 ≤ x10 → K184 σ) ∧ (¬ 4096 ≤ x10 → (vp_in x10 4096 ∧ (∀ σ15, σ15 = up3 σ 70 o8 x10.toNatClampNeg 0 → (w14_fragment_L161 x1 x2 x3 x4 x5 x6 o8 Q K184 n σ15 (x10 + 1)))))
set_option maxHeartbeats 4000000 in
theorem k14_fragment_L161 {p : Program} {l : Launch} {e : Env} {s : State} {m : MethodId} {args : Array Value} {below : List Frame} {meth : Method} {c : Code} {G : Gh} {a1 : Nat → Nat → Nat} {τ : St} {Q : St → Prop} {K184 : St → Prop} (C : Cx p e s m args meth c cX14_fragment 13 none "WebHostModel" G) (x1 : Int32) (x2 : Int32) (x3 : Int32) (x4 : Int32) (x5 : Int32) (x6 : Int32) (o8 : Nat) (ho8 : o8 < 4) :
    ∀ (n : Nat) (σ : St) (x10 : Int32), w14_fragment_L161 x1 x2 x3 x4 x5 x6 o8 Q K184 n σ x10 → ∀ (H : Heap) (locs : List Loc) (ls : Array Slot), Hd G a1 (cmb τ σ) H → va_S (gA G) s.heap H locs → lv_has ls 13 [(0, .ref (ga G 14 0)), (1, .int x1), (2, .int x2), (3, .int x3), (4, .int x4), (5, .int x5), (6, .int x6), (8, .ref (ga G 18 o8)), (10, .int x10)] → (∀ (σ : St) , K184 σ → ∀ (H : Heap) (locs : List Loc) (ls : Array Slot), Hd G a1 (cmb τ σ) H → va_S (gA G) s.heap H locs → lv_has ls 13 [(0, .ref (ga G 14 0)), (1, .int x1), (2, .int x2), (3, .int x3), (4, .int x4), (5, .int x5), (6, .int x6), (8, .ref (ga G 18 o8))] → W p l e rmX14_fragment s m args below meth c H locs 0 0 (MQ below (QVs G a1 (fun u => cmb τ u) Q) args s 0 0 (gA G)) (F0 m 184 ls [])) → W p l e rmX14_fragment s m args below meth c H locs 0 0 (MQ below (QVs G a1 (fun u => cmb τ u) Q) args s 0 0 (gA G)) (F0 m 161 ls []) := by
  have hx := C.1
  have hb := C.2.1
  have hown := C.2.2.2.2.2.1
  have hts := C.2.2.2.2.2.2.1
  intro n
  induction n with
  | zero =>
    intro σ x10 hw
    exact False.elim hw
  | succ n ih =>
    intro σ x10 hw H locs ls hH hS hl hK184
    refine lv_iload hx hb dX14_fragment_161 (lv_at hl 8 rfl) ?_
    refine lv_sipush (v := 4096) hx hb dX14_fragment_163 (by decide) ?_
    refine lv_icmp_ge (tgt := 184) hx hb dX14_fragment_166 (by decide) (fun h => ?_) (fun h => ?_)
    · have hw := hw.1 h
      exact hK184 σ hw H locs ls hH hS (lv_sub hl [0, 1, 2, 3, 4, 5, 6, 7] rfl)
    have hw := hw.2 h
    refine lv_aload hx hb dX14_fragment_169 (lv_at hl 7 rfl) ?_
    refine g18_8 C hH ho8 q1920 dX14_fragment_171 ?_
    refine lv_iload hx hb dX14_fragment_174 (lv_at hl 8 rfl) ?_
    refine lv_iconst (v := 0) hx hb dX14_fragment_176 (by decide) ?_
    refine s70 C hH hS ho8 hw.1 (Or.inl rfl) dX14_fragment_177 (fun σ15 e15 H locs hH hS => ?_)
    have hw := hw.2 σ15 e15
    refine lv_iinc (v := x10 + 1) (lv' := [(10, .int (x10 + 1)), (0, .ref (ga G 14 0)), (1, .int x1), (2, .int x2), (3, .int x3), (4, .int x4), (5, .int x5), (6, .int x6), (8, .ref (ga G 18 o8))]) hx hb dX14_fragment_178 hl (k := 8) rfl rfl (by decide) rfl (fun ls hl => ?_)
    refine lv_goto (tgt := 161) hx hb dX14_fragment_181 (by decide) ?_
    exact ih σ15 (x10 + 1) hw H locs ls hH hS (lv_sub hl [1, 2, 3, 4, 5, 6, 7, 8, 0] rfl) hK184
def w14_fragment_L306 (x1 : Int32) (x2 : Int32) (x3 : Int32) (x4 : Int32) (x5 : Int32) (o8 : Nat) (Q : St → Prop) (K363 : St → Prop) : Nat → St → Int32 → Prop
  | 0, _, _ => False
  | n + 1, σ, x12 => (x5 ≤ x12 → K363 σ) ∧ (¬ x5 ≤ x12 → (vp_in (x3 + x12) 4096 ∧ (bo (σ 70 o8 (x3 + x12).toNatClampNeg) → ((¬ (σ 70 o8 (x3 + x12).toNatClampNeg) = 0 → (w14_fragment_L306 x1 x2 x3 x4 x5 o8 Q K363 n σ (x12 + 1))) ∧ ((σ 70 o8 (x3 + x12).toNatClampNeg) = 0 → (vp_in (x3 + x12) 4096 ∧ (∀ σ18, σ18 = up3 σ 70 o8 (x3 + x12).toNatClampNeg 1 → (vp_in (x4 + x12) 65540 ∧ (by8 (σ18 50 0 (x4 + x12).toNatClampNeg) → (vp_in (x3 + x12) 4096 ∧ (∀ σ19, σ19 = up3 σ18 69 o8 (x3 + x12).toNatClampNeg (σ18 50 0 (x4 + x12).toNatClampNeg).toInt8.toInt32 → (w14_fragment_L306 x1 x2 x3 x4 x5 o8 Q K363 n σ19 (x12 + 1)))))))))))))
set_option maxHeartbeats 4000000 in
theorem k14_fragment_L306 {p : Program} {l : Launch} {e : Env} {s : State} {m : MethodId} {args : Array Value} {below : List Frame} {meth : Method} {c : Code} {G : Gh} {a1 : Nat → Nat → Nat} {τ : St} {Q : St → Prop} {K363 : St → Prop} (C : Cx p e s m args meth c cX14_fragment 13 none "WebHostModel" G) (x1 : Int32) (x2 : Int32) (x3 : Int32) (x4 : Int32) (x5 : Int32) (o8 : Nat) (ho8 : o8 < 4) :
    ∀ (n : Nat) (σ : St) (x12 : Int32), w14_fragment_L306 x1 x2 x3 x4 x5 o8 Q K363 n σ x12 → ∀ (H : Heap) (locs : List Loc) (ls : Array Slot), Hd G a1 (cmb τ σ) H → va_S (gA G) s.heap H locs → lv_has ls 13 [(0, .ref (ga G 14 0)), (1, .int x1), (2, .int x2), (3, .int x3), (4, .int x4), (5, .int x5), (8, .ref (ga G 18 o8)), (12, .int x12)] → (∀ (σ : St) , K363 σ → ∀ (H : Heap) (locs : List Loc) (ls : Array Slot), Hd G a1 (cmb τ σ) H → va_S (gA G) s.heap H locs → lv_has ls 13 [(0, .ref (ga G 14 0)), (1, .int x1), (2, .int x2), (8, .ref (ga G 18 o8))] → W p l e rmX14_fragment s m args below meth c H locs 0 0 (MQ below (QVs G a1 (fun u => cmb τ u) Q) args s 0 0 (gA G)) (F0 m 363 ls [])) → W p l e rmX14_fragment s m args below meth c H locs 0 0 (MQ below (QVs G a1 (fun u => cmb τ u) Q) args s 0 0 (gA G)) (F0 m 306 ls []) := by
  have hx := C.1
  have hb := C.2.1
  have hown := C.2.2.2.2.2.1
  have hts := C.2.2.2.2.2.2.1
  intro n
  induction n with
  | zero =>
    intro σ x12 hw
    exact False.elim hw
  | succ n ih =>
    intro σ x12 hw H locs ls hH hS hl hK363
    refine lv_iload hx hb dX14_fragment_306 (lv_at hl 7 rfl) ?_
    refine lv_iload hx hb dX14_fragment_308 (lv_at hl 5 rfl) ?_
    refine lv_icmp_ge (tgt := 363) hx hb dX14_fragment_310 (by decide) (fun h => ?_) (fun h => ?_)
    · have hw := hw.1 h
      exact hK363 σ hw H locs ls hH hS (lv_sub hl [0, 1, 2, 6] rfl)
    have hw := hw.2 h
    refine lv_aload hx hb dX14_fragment_313 (lv_at hl 6 rfl) ?_
    refine g18_8 C hH ho8 q1920 dX14_fragment_315 ?_
    refine lv_iload_n hx hb dX14_fragment_318 rfl (lv_at hl 3 rfl) ?_
    refine lv_iload hx hb dX14_fragment_319 (lv_at hl 7 rfl) ?_
    refine lv_iadd hx hb dX14_fragment_321 ?_
    refine l70 C hH ho8 hw.1 dX14_fragment_322 (fun hz => ?_)
    have hw := hw.2 hz
    refine lv_if_ne (tgt := 357) hx hb dX14_fragment_323 (by decide) (fun h => ?_) (fun h => ?_)
    · have hw := hw.1 h
      refine lv_iinc (v := x12 + 1) (lv' := [(12, .int (x12 + 1)), (0, .ref (ga G 14 0)), (1, .int x1), (2, .int x2), (3, .int x3), (4, .int x4), (5, .int x5), (8, .ref (ga G 18 o8))]) hx hb dX14_fragment_357 hl (k := 7) rfl rfl (by decide) rfl (fun ls hl => ?_)
      refine lv_goto (tgt := 306) hx hb dX14_fragment_360 (by decide) ?_
      exact ih σ (x12 + 1) hw H locs ls hH hS (lv_sub hl [1, 2, 3, 4, 5, 6, 7, 0] rfl) hK363
    have hw := hw.2 h
    refine lv_aload hx hb dX14_fragment_326 (lv_at hl 6 rfl) ?_
    refine g18_8 C hH ho8 q1920 dX14_fragment_328 ?_
    refine lv_iload_n hx hb dX14_fragment_331 rfl (lv_at hl 3 rfl) ?_
    refine lv_iload hx hb dX14_fragment_332 (lv_at hl 7 rfl) ?_
    refine lv_iadd hx hb dX14_fragment_334 ?_
    refine lv_iconst (v := 1) hx hb dX14_fragment_335 (by decide) ?_
    refine s70 C hH hS ho8 hw.1 (Or.inr rfl) dX14_fragment_336 (fun σ18 e18 H locs hH hS => ?_)
    have hw := hw.2 σ18 e18
    refine lv_aload hx hb dX14_fragment_337 (lv_at hl 6 rfl) ?_
    refine g18_7 C hH ho8 q1918 dX14_fragment_339 ?_
    refine lv_iload_n hx hb dX14_fragment_342 rfl (lv_at hl 3 rfl) ?_
    refine lv_iload hx hb dX14_fragment_343 (lv_at hl 7 rfl) ?_
    refine lv_iadd hx hb dX14_fragment_345 ?_
    refine lv_aload_n hx hb dX14_fragment_346 rfl (lv_at hl 0 rfl) ?_
    refine g14_0 C hH q1940 dX14_fragment_347 ?_
    refine lv_iload hx hb dX14_fragment_350 (lv_at hl 4 rfl) ?_
    refine lv_iload hx hb dX14_fragment_352 (lv_at hl 7 rfl) ?_
    refine lv_iadd hx hb dX14_fragment_354 ?_
    refine l50 C hH hw.1 dX14_fragment_355 (fun hz => ?_)
    have hw := hw.2 hz
    refine s69 C hH hS ho8 hw.1 dX14_fragment_356 (fun σ19 e19 H locs hH hS => ?_)
    have hw := hw.2 σ19 e19
    refine lv_iinc (v := x12 + 1) (lv' := [(12, .int (x12 + 1)), (0, .ref (ga G 14 0)), (1, .int x1), (2, .int x2), (3, .int x3), (4, .int x4), (5, .int x5), (8, .ref (ga G 18 o8))]) hx hb dX14_fragment_357 hl (k := 7) rfl rfl (by decide) rfl (fun ls hl => ?_)
    refine lv_goto (tgt := 306) hx hb dX14_fragment_360 (by decide) ?_
    exact ih σ19 (x12 + 1) hw H locs ls hH hS (lv_sub hl [1, 2, 3, 4, 5, 6, 7, 0] rfl) hK363
def w14_fragment_L375 (σ : St) (x1 : Int32) (x2 : Int32) (o8 : Nat) (Q : St → Prop) (K396 : Prop) (K403 : Prop) : Nat → Int32 → Prop
  | 0, _ => False
  | n + 1, x12 => ((σ 18 o8 4) ≤ x12 → K403) ∧ (¬ (σ 18 o8 4) ≤ x12 → (vp_in x12 4096 ∧ (bo (σ 70 o8 x12.toNatClampNeg) → ((¬ (σ 70 o8 x12.toNatClampNeg) = 0 → (w14_fragment_L375 σ x1 x2 o8 Q K396 K403 n (x12 + 1))) ∧ ((σ 70 o8 x12.toNatClampNeg) = 0 → K396)))))
set_option maxHeartbeats 4000000 in
theorem k14_fragment_L375 {p : Program} {l : Launch} {e : Env} {s : State} {m : MethodId} {args : Array Value} {below : List Frame} {meth : Method} {c : Code} {G : Gh} {a1 : Nat → Nat → Nat} {τ : St} {Q : St → Prop} {K396 : Prop} {K403 : Prop} (C : Cx p e s m args meth c cX14_fragment 13 none "WebHostModel" G) (σ : St) (x1 : Int32) (x2 : Int32) (o8 : Nat) (ho8 : o8 < 4) :
    ∀ (n : Nat) (x12 : Int32), w14_fragment_L375 σ x1 x2 o8 Q K396 K403 n x12 → ∀ (H : Heap) (locs : List Loc) (ls : Array Slot), Hd G a1 (cmb τ σ) H → va_S (gA G) s.heap H locs → lv_has ls 13 [(0, .ref (ga G 14 0)), (1, .int x1), (2, .int x2), (8, .ref (ga G 18 o8)), (12, .int x12)] → (K396 → ∀ (H : Heap) (locs : List Loc) (ls : Array Slot), Hd G a1 (cmb τ σ) H → va_S (gA G) s.heap H locs → lv_has ls 13 [] → W p l e rmX14_fragment s m args below meth c H locs 0 0 (MQ below (QVs G a1 (fun u => cmb τ u) Q) args s 0 0 (gA G)) (F0 m 396 ls [])) → (K403 → ∀ (H : Heap) (locs : List Loc) (ls : Array Slot), Hd G a1 (cmb τ σ) H → va_S (gA G) s.heap H locs → lv_has ls 13 [(0, .ref (ga G 14 0)), (1, .int x1), (2, .int x2), (8, .ref (ga G 18 o8))] → W p l e rmX14_fragment s m args below meth c H locs 0 0 (MQ below (QVs G a1 (fun u => cmb τ u) Q) args s 0 0 (gA G)) (F0 m 403 ls [])) → W p l e rmX14_fragment s m args below meth c H locs 0 0 (MQ below (QVs G a1 (fun u => cmb τ u) Q) args s 0 0 (gA G)) (F0 m 375 ls []) := by
  have hx := C.1
  have hb := C.2.1
  have hown := C.2.2.2.2.2.1
  have hts := C.2.2.2.2.2.2.1
  intro n
  induction n with
  | zero =>
    intro x12 hw
    exact False.elim hw
  | succ n ih =>
    intro x12 hw H locs ls hH hS hl hK396 hK403
    refine lv_iload hx hb dX14_fragment_375 (lv_at hl 4 rfl) ?_
    refine lv_aload hx hb dX14_fragment_377 (lv_at hl 3 rfl) ?_
    refine g18_4 C hH ho8 q1914 dX14_fragment_379 ?_
    refine lv_icmp_ge (tgt := 403) hx hb dX14_fragment_382 (by decide) (fun h => ?_) (fun h => ?_)
    · have hw := hw.1 h
      exact hK403 hw H locs ls hH hS (lv_sub hl [0, 1, 2, 3] rfl)
    have hw := hw.2 h
    refine lv_aload hx hb dX14_fragment_385 (lv_at hl 3 rfl) ?_
    refine g18_8 C hH ho8 q1920 dX14_fragment_387 ?_
    refine lv_iload hx hb dX14_fragment_390 (lv_at hl 4 rfl) ?_
    refine l70 C hH ho8 hw.1 dX14_fragment_392 (fun hz => ?_)
    have hw := hw.2 hz
    refine lv_if_ne (tgt := 397) hx hb dX14_fragment_393 (by decide) (fun h => ?_) (fun h => ?_)
    · have hw := hw.1 h
      refine lv_iinc (v := x12 + 1) (lv' := [(12, .int (x12 + 1)), (0, .ref (ga G 14 0)), (1, .int x1), (2, .int x2), (8, .ref (ga G 18 o8))]) hx hb dX14_fragment_397 hl (k := 4) rfl rfl (by decide) rfl (fun ls hl => ?_)
      refine lv_goto (tgt := 375) hx hb dX14_fragment_400 (by decide) ?_
      exact ih (x12 + 1) hw H locs ls hH hS (lv_sub hl [1, 2, 3, 4, 0] rfl) hK396 hK403
    have hw := hw.2 h
    exact hK396 hw H locs ls hH hS (lv_sub hl [] rfl)
def w14_fragment_L422 (x1 : Int32) (x2 : Int32) (o8 : Nat) (Q : St → Prop) (K453 : St → Prop) : Nat → St → Int32 → Prop
  | 0, _, _ => False
  | n + 1, σ, x12 => ((σ 18 o8 4) ≤ x12 → K453 σ) ∧ (¬ (σ 18 o8 4) ≤ x12 → (vp_in x12 4096 ∧ (by8 (σ 69 o8 x12.toNatClampNeg) → (vp_in x12 4096 ∧ (∀ σ27, σ27 = up3 σ 64 0 x12.toNatClampNeg (σ 69 o8 x12.toNatClampNeg).toInt8.toInt32 → (w14_fragment_L422 x1 x2 o8 Q K453 n σ27 (x12 + 1)))))))
set_option maxHeartbeats 4000000 in
theorem k14_fragment_L422 {p : Program} {l : Launch} {e : Env} {s : State} {m : MethodId} {args : Array Value} {below : List Frame} {meth : Method} {c : Code} {G : Gh} {a1 : Nat → Nat → Nat} {τ : St} {Q : St → Prop} {K453 : St → Prop} (C : Cx p e s m args meth c cX14_fragment 13 none "WebHostModel" G) (x1 : Int32) (x2 : Int32) (o8 : Nat) (ho8 : o8 < 4) :
    ∀ (n : Nat) (σ : St) (x12 : Int32), w14_fragment_L422 x1 x2 o8 Q K453 n σ x12 → ∀ (H : Heap) (locs : List Loc) (ls : Array Slot), Hd G a1 (cmb τ σ) H → va_S (gA G) s.heap H locs → lv_has ls 13 [(0, .ref (ga G 14 0)), (1, .int x1), (2, .int x2), (8, .ref (ga G 18 o8)), (12, .int x12)] → (∀ (σ : St) , K453 σ → ∀ (H : Heap) (locs : List Loc) (ls : Array Slot), Hd G a1 (cmb τ σ) H → va_S (gA G) s.heap H locs → lv_has ls 13 [(0, .ref (ga G 14 0)), (1, .int x1), (2, .int x2), (8, .ref (ga G 18 o8))] → W p l e rmX14_fragment s m args below meth c H locs 0 0 (MQ below (QVs G a1 (fun u => cmb τ u) Q) args s 0 0 (gA G)) (F0 m 453 ls [])) → W p l e rmX14_fragment s m args below meth c H locs 0 0 (MQ below (QVs G a1 (fun u => cmb τ u) Q) args s 0 0 (gA G)) (F0 m 422 ls []) := by
  have hx := C.1
  have hb := C.2.1
  have hown := C.2.2.2.2.2.1
  have hts := C.2.2.2.2.2.2.1
  intro n
  induction n with
  | zero =>
    intro σ x12 hw
    exact False.elim hw
  | succ n ih =>
    intro σ x12 hw H locs ls hH hS hl hK453
    refine lv_iload hx hb dX14_fragment_422 (lv_at hl 4 rfl) ?_
    refine lv_aload hx hb dX14_fragment_424 (lv_at hl 3 rfl) ?_
    refine g18_4 C hH ho8 q1914 dX14_fragment_426 ?_
    refine lv_icmp_ge (tgt := 453) hx hb dX14_fragment_429 (by decide) (fun h => ?_) (fun h => ?_)
    · have hw := hw.1 h
      exact hK453 σ hw H locs ls hH hS (lv_sub hl [0, 1, 2, 3] rfl)
    have hw := hw.2 h
    refine lv_aload_n hx hb dX14_fragment_432 rfl (lv_at hl 0 rfl) ?_
    refine g14_29 C hH q1969 dX14_fragment_433 ?_
    refine lv_iload hx hb dX14_fragment_436 (lv_at hl 4 rfl) ?_
    refine lv_aload hx hb dX14_fragment_438 (lv_at hl 3 rfl) ?_
    refine g18_7 C hH ho8 q1918 dX14_fragment_440 ?_
    refine lv_iload hx hb dX14_fragment_443 (lv_at hl 4 rfl) ?_
    refine l69 C hH ho8 hw.1 dX14_fragment_445 (fun hz => ?_)
    have hw := hw.2 hz
    refine s64 C hH hS hw.1 dX14_fragment_446 (fun σ27 e27 H locs hH hS => ?_)
    have hw := hw.2 σ27 e27
    refine lv_iinc (v := x12 + 1) (lv' := [(12, .int (x12 + 1)), (0, .ref (ga G 14 0)), (1, .int x1), (2, .int x2), (8, .ref (ga G 18 o8))]) hx hb dX14_fragment_447 hl (k := 4) rfl rfl (by decide) rfl (fun ls hl => ?_)
    refine lv_goto (tgt := 422) hx hb dX14_fragment_450 (by decide) ?_
    exact ih σ27 (x12 + 1) hw H locs ls hH hS (lv_sub hl [1, 2, 3, 4, 0] rfl) hK453
def w14_fragment_J279 (σ : St) (x1 : Int32) (x2 : Int32) (x3 : Int32) (x4 : Int32) (x5 : Int32) (x6 : Int32) (o8 : Nat) (x10 : Int32) (x11 : Int32) (Q : St → Prop) : Prop := (x11 = 0 → ((¬ x6 = 0 → (∃ z20, w14_fragment_L306 x1 x2 x3 x4 x5 o8 Q (fun σ21 => (0 ≤ (σ21 18 o8 4) → (∃ z22, w14_fragment_L375 σ21 x1 x2 o8 Q (Q σ21) (∀ σ25, σ25 = up3 σ21 18 o8 0 0 → (vp_in 1 8 ∧ (vp_in 1 8 ∧ (∀ σ26, σ26 = up3 σ25 56 0 (1 : Int32).toNatClampNeg ((σ25 56 0 (1 : Int32).toNatClampNeg) + 1) → (∃ z28, w14_fragment_L422 x1 x2 o8 Q (fun σ29 => ∀ σ30, σ30 = up3 σ29 14 0 30 x1 → (w14_taken σ30 x2 (σ30 18 o8 4) (fun σ31 => (Q σ31)))) z28 σ26 0))))) z22 0)) ∧ (¬ 0 ≤ (σ21 18 o8 4) → Q σ21)) z20 σ 0)) ∧ (x6 = 0 → (∀ σ32, σ32 = up3 σ 18 o8 4 x10 → (∃ z33, w14_fragment_L306 x1 x2 x3 x4 x5 o8 Q (fun σ34 => (0 ≤ (σ34 18 o8 4) → (∃ z35, w14_fragment_L375 σ34 x1 x2 o8 Q (Q σ34) (∀ σ38, σ38 = up3 σ34 18 o8 0 0 → (vp_in 1 8 ∧ (vp_in 1 8 ∧ (∀ σ39, σ39 = up3 σ38 56 0 (1 : Int32).toNatClampNeg ((σ38 56 0 (1 : Int32).toNatClampNeg) + 1) → (∃ z40, w14_fragment_L422 x1 x2 o8 Q (fun σ41 => ∀ σ42, σ42 = up3 σ41 14 0 30 x1 → (w14_taken σ42 x2 (σ42 18 o8 4) (fun σ43 => (Q σ43)))) z40 σ39 0))))) z35 0)) ∧ (¬ 0 ≤ (σ34 18 o8 4) → Q σ34)) z33 σ32 0))))) ∧ (¬ x11 = 0 → (∀ σ44, σ44 = up3 σ 18 o8 0 0 → (Q σ44)))
set_option maxHeartbeats 4000000 in
theorem k14_fragment_J279 {p : Program} {l : Launch} {e : Env} {s : State} {m : MethodId} {args : Array Value} {below : List Frame} {meth : Method} {c : Code} {G : Gh} {a1 : Nat → Nat → Nat} {τ : St} {Q : St → Prop} (C : Cx p e s m args meth c cX14_fragment 13 none "WebHostModel" G) (σ : St) (x1 : Int32) (x2 : Int32) (x3 : Int32) (x4 : Int32) (x5 : Int32) (x6 : Int32) (o8 : Nat) (x10 : Int32) (x11 : Int32) (ho8 : o8 < 4) (hw : w14_fragment_J279 σ x1 x2 x3 x4 x5 x6 o8 x10 x11 Q) (H : Heap) (locs : List Loc) (ls : Array Slot) (hH : Hd G a1 (cmb τ σ) H) (hS : va_S (gA G) s.heap H locs) (hl : lv_has ls 13 [(0, .ref (ga G 14 0)), (1, .int x1), (2, .int x2), (3, .int x3), (4, .int x4), (5, .int x5), (6, .int x6), (8, .ref (ga G 18 o8)), (10, .int x10), (11, .int x11)]) : W p l e rmX14_fragment s m args below meth c H locs 0 0 (MQ below (QVs G a1 (fun u => cmb τ u) Q) args s 0 0 (gA G)) (F0 m 279 ls []) := by
  have hx := C.1
  have hb := C.2.1
  have hown := C.2.2.2.2.2.1
  have hts := C.2.2.2.2.2.2.1
  refine lv_iload hx hb dX14_fragment_279 (lv_at hl 9 rfl) ?_
  refine lv_if_eq (tgt := 291) hx hb dX14_fragment_281 (by decide) (fun h => ?_) (fun h => ?_)
  · have hw := hw.1 h
    refine lv_iload hx hb dX14_fragment_291 (lv_at hl 6 rfl) ?_
    refine lv_if_ne (tgt := 303) hx hb dX14_fragment_293 (by decide) (fun h => ?_) (fun h => ?_)
    · have hw := hw.1 h
      refine lv_iconst (v := 0) hx hb dX14_fragment_303 (by decide) ?_
      refine lv_istore (lv' := [(12, .int 0), (0, .ref (ga G 14 0)), (1, .int x1), (2, .int x2), (3, .int x3), (4, .int x4), (5, .int x5), (6, .int x6), (8, .ref (ga G 18 o8)), (10, .int x10), (11, .int x11)]) hx hb dX14_fragment_304 hl (by decide) rfl (fun ls hl => ?_)
      obtain ⟨n20, hw⟩ := hw
      refine k14_fragment_L306 C x1 x2 x3 x4 x5 o8 ho8 n20 σ 0 hw H locs ls hH hS (lv_sub hl [1, 2, 3, 4, 5, 6, 8, 0] rfl) (fun σ21 hw H locs ls hH hS hl => ?_)
      refine lv_aload hx hb dX14_fragment_363 (lv_at hl 3 rfl) ?_
      refine g18_4 C hH ho8 q1914 dX14_fragment_365 ?_
      refine lv_if_ge (tgt := 372) hx hb dX14_fragment_368 (by decide) (fun h => ?_) (fun h => ?_)
      · have hw := hw.1 h
        refine lv_iconst (v := 0) hx hb dX14_fragment_372 (by decide) ?_
        refine lv_istore (lv' := [(12, .int 0), (0, .ref (ga G 14 0)), (1, .int x1), (2, .int x2), (8, .ref (ga G 18 o8))]) hx hb dX14_fragment_373 hl (by decide) rfl (fun ls hl => ?_)
        obtain ⟨n22, hw⟩ := hw
        refine k14_fragment_L375 C σ21 x1 x2 o8 ho8 n22 0 hw H locs ls hH hS (lv_sub hl [1, 2, 3, 4, 0] rfl) (fun hw H locs ls hH hS hl => ?_) (fun hw H locs ls hH hS hl => ?_)
        · exact rt_v C hH hS hw dX14_fragment_396
        refine lv_aload hx hb dX14_fragment_403 (lv_at hl 3 rfl) ?_
        refine lv_iconst (v := 0) hx hb dX14_fragment_405 (by decide) ?_
        refine p18_0 C hH hS ho8 (Or.inl rfl) q1910 dX14_fragment_406 (fun σ25 e25 H locs hH hS => ?_)
        have hw := hw σ25 e25
        refine lv_aload_n hx hb dX14_fragment_409 rfl (lv_at hl 0 rfl) ?_
        refine g14_17 C hH q1957 dX14_fragment_410 ?_
        refine lv_iconst (v := 1) hx hb dX14_fragment_413 (by decide) ?_
        refine lv_dup2_11 hx hb dX14_fragment_414 rfl rfl ?_
        refine l56 C hH hw.1 dX14_fragment_415 ?_
        have hw := hw.2
        refine lv_iconst (v := 1) hx hb dX14_fragment_416 (by decide) ?_
        refine lv_iadd hx hb dX14_fragment_417 ?_
        refine s56 C hH hS hw.1 dX14_fragment_418 (fun σ26 e26 H locs hH hS => ?_)
        have hw := hw.2 σ26 e26
        refine lv_iconst (v := 0) hx hb dX14_fragment_419 (by decide) ?_
        refine lv_istore (lv' := [(12, .int 0), (0, .ref (ga G 14 0)), (1, .int x1), (2, .int x2), (8, .ref (ga G 18 o8))]) hx hb dX14_fragment_420 hl (by decide) rfl (fun ls hl => ?_)
        obtain ⟨n28, hw⟩ := hw
        refine k14_fragment_L422 C x1 x2 o8 ho8 n28 σ26 0 hw H locs ls hH hS (lv_sub hl [1, 2, 3, 4, 0] rfl) (fun σ29 hw H locs ls hH hS hl => ?_)
        refine lv_aload_n hx hb dX14_fragment_453 rfl (lv_at hl 0 rfl) ?_
        refine lv_iload_n hx hb dX14_fragment_454 rfl (lv_at hl 1 rfl) ?_
        refine p14_30 C hH hS q1970 dX14_fragment_455 (fun σ30 e30 H locs hH hS => ?_)
        have hw := hw σ30 e30
        refine lv_aload_n hx hb dX14_fragment_458 rfl (lv_at hl 0 rfl) ?_
        refine lv_iload_n hx hb dX14_fragment_459 rfl (lv_at hl 2 rfl) ?_
        refine lv_aload hx hb dX14_fragment_460 (lv_at hl 3 rfl) ?_
        refine g18_4 C hH ho8 q1914 dX14_fragment_462 ?_
        refine kc_v (rn_v (As := [.int x2, .int (σ30 18 o8 4)]) (rest := []) C hH hS (by decide) rfl (by decide) (m14_taken l G a1 τ σ30 x2 (σ30 18 o8 4) _ hw) (cwV 2 hts (lw_V q2349 q2351 qs110 q171 q2352) rfl rfl rfl kX14_taken ⟨Nat.le_of_ble_eq_true rfl, Nat.le_of_ble_eq_true rfl⟩) rfl hl.1 rfl (Nat.le_of_ble_eq_true rfl) dX14_fragment_465 ⟨Nat.le_of_ble_eq_true rfl, Nat.le_of_ble_eq_true rfl⟩) hS (fun σ31 H locs hw hH hS => ?_)
        exact rt_v C hH hS hw dX14_fragment_468
      have hw := hw.2 h
      exact rt_v C hH hS hw dX14_fragment_371
    have hw := hw.2 h
    refine lv_aload hx hb dX14_fragment_296 (lv_at hl 7 rfl) ?_
    refine lv_iload hx hb dX14_fragment_298 (lv_at hl 8 rfl) ?_
    refine p18_4 C hH hS ho8 q1914 dX14_fragment_300 (fun σ32 e32 H locs hH hS => ?_)
    have hw := hw σ32 e32
    refine lv_iconst (v := 0) hx hb dX14_fragment_303 (by decide) ?_
    refine lv_istore (lv' := [(12, .int 0), (0, .ref (ga G 14 0)), (1, .int x1), (2, .int x2), (3, .int x3), (4, .int x4), (5, .int x5), (6, .int x6), (8, .ref (ga G 18 o8)), (10, .int x10), (11, .int x11)]) hx hb dX14_fragment_304 hl (by decide) rfl (fun ls hl => ?_)
    obtain ⟨n33, hw⟩ := hw
    refine k14_fragment_L306 C x1 x2 x3 x4 x5 o8 ho8 n33 σ32 0 hw H locs ls hH hS (lv_sub hl [1, 2, 3, 4, 5, 6, 8, 0] rfl) (fun σ34 hw H locs ls hH hS hl => ?_)
    refine lv_aload hx hb dX14_fragment_363 (lv_at hl 3 rfl) ?_
    refine g18_4 C hH ho8 q1914 dX14_fragment_365 ?_
    refine lv_if_ge (tgt := 372) hx hb dX14_fragment_368 (by decide) (fun h => ?_) (fun h => ?_)
    · have hw := hw.1 h
      refine lv_iconst (v := 0) hx hb dX14_fragment_372 (by decide) ?_
      refine lv_istore (lv' := [(12, .int 0), (0, .ref (ga G 14 0)), (1, .int x1), (2, .int x2), (8, .ref (ga G 18 o8))]) hx hb dX14_fragment_373 hl (by decide) rfl (fun ls hl => ?_)
      obtain ⟨n35, hw⟩ := hw
      refine k14_fragment_L375 C σ34 x1 x2 o8 ho8 n35 0 hw H locs ls hH hS (lv_sub hl [1, 2, 3, 4, 0] rfl) (fun hw H locs ls hH hS hl => ?_) (fun hw H locs ls hH hS hl => ?_)
      · exact rt_v C hH hS hw dX14_fragment_396
      refine lv_aload hx hb dX14_fragment_403 (lv_at hl 3 rfl) ?_
      refine lv_iconst (v := 0) hx hb dX14_fragment_405 (by decide) ?_
      refine p18_0 C hH hS ho8 (Or.inl rfl) q1910 dX14_fragment_406 (fun σ38 e38 H locs hH hS => ?_)
      have hw := hw σ38 e38
      refine lv_aload_n hx hb dX14_fragment_409 rfl (lv_at hl 0 rfl) ?_
      refine g14_17 C hH q1957 dX14_fragment_410 ?_
      refine lv_iconst (v := 1) hx hb dX14_fragment_413 (by decide) ?_
      refine lv_dup2_11 hx hb dX14_fragment_414 rfl rfl ?_
      refine l56 C hH hw.1 dX14_fragment_415 ?_
      have hw := hw.2
      refine lv_iconst (v := 1) hx hb dX14_fragment_416 (by decide) ?_
      refine lv_iadd hx hb dX14_fragment_417 ?_
      refine s56 C hH hS hw.1 dX14_fragment_418 (fun σ39 e39 H locs hH hS => ?_)
      have hw := hw.2 σ39 e39
      refine lv_iconst (v := 0) hx hb dX14_fragment_419 (by decide) ?_
      refine lv_istore (lv' := [(12, .int 0), (0, .ref (ga G 14 0)), (1, .int x1), (2, .int x2), (8, .ref (ga G 18 o8))]) hx hb dX14_fragment_420 hl (by decide) rfl (fun ls hl => ?_)
      obtain ⟨n40, hw⟩ := hw
      refine k14_fragment_L422 C x1 x2 o8 ho8 n40 σ39 0 hw H locs ls hH hS (lv_sub hl [1, 2, 3, 4, 0] rfl) (fun σ41 hw H locs ls hH hS hl => ?_)
      refine lv_aload_n hx hb dX14_fragment_453 rfl (lv_at hl 0 rfl) ?_
      refine lv_iload_n hx hb dX14_fragment_454 rfl (lv_at hl 1 rfl) ?_
      refine p14_30 C hH hS q1970 dX14_fragment_455 (fun σ42 e42 H locs hH hS => ?_)
      have hw := hw σ42 e42
      refine lv_aload_n hx hb dX14_fragment_458 rfl (lv_at hl 0 rfl) ?_
      refine lv_iload_n hx hb dX14_fragment_459 rfl (lv_at hl 2 rfl) ?_
      refine lv_aload hx hb dX14_fragment_460 (lv_at hl 3 rfl) ?_
      refine g18_4 C hH ho8 q1914 dX14_fragment_462 ?_
      refine kc_v (rn_v (As := [.int x2, .int (σ42 18 o8 4)]) (rest := []) C hH hS (by decide) rfl (by decide) (m14_taken l G a1 τ σ42 x2 (σ42 18 o8 4) _ hw) (cwV 2 hts (lw_V q2349 q2351 qs110 q171 q2352) rfl rfl rfl kX14_taken ⟨Nat.le_of_ble_eq_true rfl, Nat.le_of_ble_eq_true rfl⟩) rfl hl.1 rfl (Nat.le_of_ble_eq_true rfl) dX14_fragment_465 ⟨Nat.le_of_ble_eq_true rfl, Nat.le_of_ble_eq_true rfl⟩) hS (fun σ43 H locs hw hH hS => ?_)
      exact rt_v C hH hS hw dX14_fragment_468
    have hw := hw.2 h
    exact rt_v C hH hS hw dX14_fragment_371
  have hw := hw.2 h
  refine lv_aload hx hb dX14_fragment_284 (lv_at hl 7 rfl) ?_
  refine lv_iconst (v := 0) hx hb dX14_fragment_286 (by decide) ?_
  refine p18_0 C hH hS ho8 (Or.inl rfl) q1910 dX14_fragment_287 (fun σ44 e44 H locs hH hS => ?_)
  have hw := hw σ44 e44
  exact rt_v C hH hS hw dX14_fragment_290
def w14_fragment_L242 (σ : St) (x1 : Int32) (x2 : Int32) (x3 : Int32) (x4 : Int32) (x5 : Int32) (x6 : Int32) (o8 : Nat) (x10 : Int32) (Q : St → Prop) (K279 : Int32 → Prop) : Nat → Int32 → Int32 → Prop
  | 0, _, _ => False
  | n + 1, x11, x12 => (4096 ≤ x12 → K279 x11) ∧ (¬ 4096 ≤ x12 → ((¬ x11 = 0 → (w14_fragment_L242 σ x1 x2 x3 x4 x5 x6 o8 x10 Q K279 n 1 (x12 + 1))) ∧ (x11 = 0 → (vp_in x12 4096 ∧ (bo (σ 70 o8 x12.toNatClampNeg) → (((σ 70 o8 x12.toNatClampNeg) = 0 → (w14_fragment_L242 σ x1 x2 x3 x4 x5 x6 o8 x10 Q K279 n 0 (x12 + 1))) ∧ (¬ (σ 70 o8 x12.toNatClampNeg) = 0 → (w14_fragment_L242 σ x1 x2 x3 x4 x5 x6 o8 x10 Q K279 n 1 (x12 + 1)))))))))
set_option maxHeartbeats 4000000 in
theorem k14_fragment_L242 {p : Program} {l : Launch} {e : Env} {s : State} {m : MethodId} {args : Array Value} {below : List Frame} {meth : Method} {c : Code} {G : Gh} {a1 : Nat → Nat → Nat} {τ : St} {Q : St → Prop} {K279 : Int32 → Prop} (C : Cx p e s m args meth c cX14_fragment 13 none "WebHostModel" G) (σ : St) (x1 : Int32) (x2 : Int32) (x3 : Int32) (x4 : Int32) (x5 : Int32) (x6 : Int32) (o8 : Nat) (x10 : Int32) (ho8 : o8 < 4) :
    ∀ (n : Nat) (x11 : Int32) (x12 : Int32), w14_fragment_L242 σ x1 x2 x3 x4 x5 x6 o8 x10 Q K279 n x11 x12 → ∀ (H : Heap) (locs : List Loc) (ls : Array Slot), Hd G a1 (cmb τ σ) H → va_S (gA G) s.heap H locs → lv_has ls 13 [(0, .ref (ga G 14 0)), (1, .int x1), (2, .int x2), (3, .int x3), (4, .int x4), (5, .int x5), (6, .int x6), (8, .ref (ga G 18 o8)), (10, .int x10), (11, .int x11), (12, .int x12)] → (∀ (x11 : Int32), K279 x11 → ∀ (H : Heap) (locs : List Loc) (ls : Array Slot), Hd G a1 (cmb τ σ) H → va_S (gA G) s.heap H locs → lv_has ls 13 [(0, .ref (ga G 14 0)), (1, .int x1), (2, .int x2), (3, .int x3), (4, .int x4), (5, .int x5), (6, .int x6), (8, .ref (ga G 18 o8)), (10, .int x10), (11, .int x11)] → W p l e rmX14_fragment s m args below meth c H locs 0 0 (MQ below (QVs G a1 (fun u => cmb τ u) Q) args s 0 0 (gA G)) (F0 m 279 ls [])) → W p l e rmX14_fragment s m args below meth c H locs 0 0 (MQ below (QVs G a1 (fun u => cmb τ u) Q) args s 0 0 (gA G)) (F0 m 242 ls []) := by
  have hx := C.1
  have hb := C.2.1
  have hown := C.2.2.2.2.2.1
  have hts := C.2.2.2.2.2.2.1
  intro n
  induction n with
  | zero =>
    intro x11 x12 hw
    exact False.elim hw
  | succ n ih =>
    intro x11 x12 hw H locs ls hH hS hl hK279
    refine lv_iload hx hb dX14_fragment_242 (lv_at hl 10 rfl) ?_
    refine lv_sipush (v := 4096) hx hb dX14_fragment_244 (by decide) ?_
    refine lv_icmp_ge (tgt := 279) hx hb dX14_fragment_247 (by decide) (fun h => ?_) (fun h => ?_)
    · have hw := hw.1 h
      exact hK279 x11 hw H locs ls hH hS (lv_sub hl [0, 1, 2, 3, 4, 5, 6, 7, 8, 9] rfl)
    have hw := hw.2 h
    refine lv_iload hx hb dX14_fragment_250 (lv_at hl 9 rfl) ?_
    refine lv_if_ne (tgt := 266) hx hb dX14_fragment_252 (by decide) (fun h => ?_) (fun h => ?_)
    · have hw := hw.1 h
      refine lv_iconst (v := 1) hx hb dX14_fragment_266 (by decide) ?_
      refine lv_goto (tgt := 271) hx hb dX14_fragment_267 (by decide) ?_
      refine lv_istore (lv' := [(11, .int 1), (0, .ref (ga G 14 0)), (1, .int x1), (2, .int x2), (3, .int x3), (4, .int x4), (5, .int x5), (6, .int x6), (8, .ref (ga G 18 o8)), (10, .int x10), (12, .int x12)]) hx hb dX14_fragment_271 hl (by decide) rfl (fun ls hl => ?_)
      refine lv_iinc (v := x12 + 1) (lv' := [(12, .int (x12 + 1)), (11, .int 1), (0, .ref (ga G 14 0)), (1, .int x1), (2, .int x2), (3, .int x3), (4, .int x4), (5, .int x5), (6, .int x6), (8, .ref (ga G 18 o8)), (10, .int x10)]) hx hb dX14_fragment_273 hl (k := 10) rfl rfl (by decide) rfl (fun ls hl => ?_)
      refine lv_goto (tgt := 242) hx hb dX14_fragment_276 (by decide) ?_
      exact ih 1 (x12 + 1) hw H locs ls hH hS (lv_sub hl [2, 3, 4, 5, 6, 7, 8, 9, 10, 1, 0] rfl) hK279
    have hw := hw.2 h
    refine lv_aload hx hb dX14_fragment_255 (lv_at hl 7 rfl) ?_
    refine g18_8 C hH ho8 q1920 dX14_fragment_257 ?_
    refine lv_iload hx hb dX14_fragment_260 (lv_at hl 10 rfl) ?_
    refine l70 C hH ho8 hw.1 dX14_fragment_262 (fun hz => ?_)
    have hw := hw.2 hz
    refine lv_if_eq (tgt := 270) hx hb dX14_fragment_263 (by decide) (fun h => ?_) (fun h => ?_)
    · have hw := hw.1 h
      refine lv_iconst (v := 0) hx hb dX14_fragment_270 (by decide) ?_
      refine lv_istore (lv' := [(11, .int 0), (0, .ref (ga G 14 0)), (1, .int x1), (2, .int x2), (3, .int x3), (4, .int x4), (5, .int x5), (6, .int x6), (8, .ref (ga G 18 o8)), (10, .int x10), (12, .int x12)]) hx hb dX14_fragment_271 hl (by decide) rfl (fun ls hl => ?_)
      refine lv_iinc (v := x12 + 1) (lv' := [(12, .int (x12 + 1)), (11, .int 0), (0, .ref (ga G 14 0)), (1, .int x1), (2, .int x2), (3, .int x3), (4, .int x4), (5, .int x5), (6, .int x6), (8, .ref (ga G 18 o8)), (10, .int x10)]) hx hb dX14_fragment_273 hl (k := 10) rfl rfl (by decide) rfl (fun ls hl => ?_)
      refine lv_goto (tgt := 242) hx hb dX14_fragment_276 (by decide) ?_
      exact ih 0 (x12 + 1) hw H locs ls hH hS (lv_sub hl [2, 3, 4, 5, 6, 7, 8, 9, 10, 1, 0] rfl) hK279
    have hw := hw.2 h
    refine lv_iconst (v := 1) hx hb dX14_fragment_266 (by decide) ?_
    refine lv_goto (tgt := 271) hx hb dX14_fragment_267 (by decide) ?_
    refine lv_istore (lv' := [(11, .int 1), (0, .ref (ga G 14 0)), (1, .int x1), (2, .int x2), (3, .int x3), (4, .int x4), (5, .int x5), (6, .int x6), (8, .ref (ga G 18 o8)), (10, .int x10), (12, .int x12)]) hx hb dX14_fragment_271 hl (by decide) rfl (fun ls hl => ?_)
    refine lv_iinc (v := x12 + 1) (lv' := [(12, .int (x12 + 1)), (11, .int 1), (0, .ref (ga G 14 0)), (1, .int x1), (2, .int x2), (3, .int x3), (4, .int x4), (5, .int x5), (6, .int x6), (8, .ref (ga G 18 o8)), (10, .int x10)]) hx hb dX14_fragment_273 hl (k := 10) rfl rfl (by decide) rfl (fun ls hl => ?_)
    refine lv_goto (tgt := 242) hx hb dX14_fragment_276 (by decide) ?_
    exact ih 1 (x12 + 1) hw H locs ls hH hS (lv_sub hl [2, 3, 4, 5, 6, 7, 8, 9, 10, 1, 0] rfl) hK279
def w14_fragment_J184 (σ : St) (x1 : Int32) (x2 : Int32) (x3 : Int32) (x4 : Int32) (x5 : Int32) (x6 : Int32) (o8 : Nat) (Q : St → Prop) : Prop := ((σ 18 o8 4) < 0 → ((¬ x6 = 0 → (w14_fragment_J279 σ x1 x2 x3 x4 x5 x6 o8 (x3 + x5) 0 Q)) ∧ (x6 = 0 → (∃ z45, w14_fragment_L242 σ x1 x2 x3 x4 x5 x6 o8 (x3 + x5) Q (fun x11_46 => w14_fragment_J279 σ x1 x2 x3 x4 x5 x6 o8 (x3 + x5) x11_46 Q) z45 0 (x3 + x5))))) ∧ (¬ (σ 18 o8 4) < 0 → ((x6 = 0 → (((x3 + x5) = (σ 18 o8 4) → ((¬ x6 = 0 → (w14_fragment_J279 σ x1 x2 x3 x4 x5 x6 o8 (x3 + x5) 0 Q)) ∧ (x6 = 0 → (∃ z47, w14_fragment_L242 σ x1 x2 x3 x4 x5 x6 o8 (x3 + x5) Q (fun x11_48 => w14_fragment_J279 σ x1 x2 x3 x4 x5 x6 o8 (x3 + x5) x11_48 Q) z47 0 (x3 + x5))))) ∧ (¬ (x3 + x5) = (σ 18 o8 4) → ((¬ x6 = 0 → (w14_fragment_J279 σ x1 x2 x3 x4 x5 x6 o8 (x3 + x5) 1 Q)) ∧ (x6 = 0 → (∃ z49, w14_fragment_L242 σ x1 x2 x3 x4 x5 x6 o8 (x3 + x5) Q (fun x11_50 => w14_fragment_J279 σ x1 x2 x3 x4 x5 x6 o8 (x3 + x5) x11_50 Q) z49 1 (x3 + x5))))))) ∧ (¬ x6 = 0 → (((x3 + x5) ≤ (σ 18 o8 4) → ((¬ x6 = 0 → (w14_fragment_J279 σ x1 x2 x3 x4 x5 x6 o8 (x3 + x5) 0 Q)) ∧ (x6 = 0 → (∃ z51, w14_fragment_L242 σ x1 x2 x3 x4 x5 x6 o8 (x3 + x5) Q (fun x11_52 => w14_fragment_J279 σ x1 x2 x3 x4 x5 x6 o8 (x3 + x5) x11_52 Q) z51 0 (x3 + x5))))) ∧ (¬ (x3 + x5) ≤ (σ 18 o8 4) → ((¬ x6 = 0 → (w14_fragment_J279 σ x1 x2 x3 x4 x5 x6 o8 (x3 + x5) 1 Q)) ∧ (x6 = 0 → (∃ z53, w14_fragment_L242 σ x1 x2 x3 x4 x5 x6 o8 (x3 + x5) Q (fun x11_54 => w14_fragment_J279 σ x1 x2 x3 x4 x5 x6 o8 (x3 + x5) x11_54 Q) z53 1 (x3 + x5)))))))))
set_option maxHeartbeats 4000000 in
theorem k14_fragment_J184 {p : Program} {l : Launch} {e : Env} {s : State} {m : MethodId} {args : Array Value} {below : List Frame} {meth : Method} {c : Code} {G : Gh} {a1 : Nat → Nat → Nat} {τ : St} {Q : St → Prop} (C : Cx p e s m args meth c cX14_fragment 13 none "WebHostModel" G) (σ : St) (x1 : Int32) (x2 : Int32) (x3 : Int32) (x4 : Int32) (x5 : Int32) (x6 : Int32) (o8 : Nat) (ho8 : o8 < 4) (hw : w14_fragment_J184 σ x1 x2 x3 x4 x5 x6 o8 Q) (H : Heap) (locs : List Loc) (ls : Array Slot) (hH : Hd G a1 (cmb τ σ) H) (hS : va_S (gA G) s.heap H locs) (hl : lv_has ls 13 [(0, .ref (ga G 14 0)), (1, .int x1), (2, .int x2), (3, .int x3), (4, .int x4), (5, .int x5), (6, .int x6), (8, .ref (ga G 18 o8))]) : W p l e rmX14_fragment s m args below meth c H locs 0 0 (MQ below (QVs G a1 (fun u => cmb τ u) Q) args s 0 0 (gA G)) (F0 m 184 ls []) := by
  have hx := C.1
  have hb := C.2.1
  have hown := C.2.2.2.2.2.1
  have hts := C.2.2.2.2.2.2.1
  refine lv_iload_n hx hb dX14_fragment_184 rfl (lv_at hl 3 rfl) ?_
  refine lv_iload hx hb dX14_fragment_185 (lv_at hl 5 rfl) ?_
  refine lv_iadd hx hb dX14_fragment_187 ?_
  refine lv_istore (lv' := [(10, .int (x3 + x5)), (0, .ref (ga G 14 0)), (1, .int x1), (2, .int x2), (3, .int x3), (4, .int x4), (5, .int x5), (6, .int x6), (8, .ref (ga G 18 o8))]) hx hb dX14_fragment_188 hl (by decide) rfl (fun ls hl => ?_)
  refine lv_aload hx hb dX14_fragment_190 (lv_at hl 8 rfl) ?_
  refine g18_4 C hH ho8 q1914 dX14_fragment_192 ?_
  refine lv_if_lt (tgt := 230) hx hb dX14_fragment_195 (by decide) (fun h => ?_) (fun h => ?_)
  · have hw := hw.1 h
    refine lv_iconst (v := 0) hx hb dX14_fragment_230 (by decide) ?_
    refine lv_istore (lv' := [(11, .int 0), (10, .int (x3 + x5)), (0, .ref (ga G 14 0)), (1, .int x1), (2, .int x2), (3, .int x3), (4, .int x4), (5, .int x5), (6, .int x6), (8, .ref (ga G 18 o8))]) hx hb dX14_fragment_231 hl (by decide) rfl (fun ls hl => ?_)
    refine lv_iload hx hb dX14_fragment_233 (lv_at hl 8 rfl) ?_
    refine lv_if_ne (tgt := 279) hx hb dX14_fragment_235 (by decide) (fun h => ?_) (fun h => ?_)
    · have hw := hw.1 h
      exact k14_fragment_J279 C σ x1 x2 x3 x4 x5 x6 o8 (x3 + x5) 0 ho8 hw H locs ls hH hS (lv_sub hl [2, 3, 4, 5, 6, 7, 8, 9, 1, 0] rfl)
    have hw := hw.2 h
    refine lv_iload hx hb dX14_fragment_238 (lv_at hl 1 rfl) ?_
    refine lv_istore (lv' := [(12, .int (x3 + x5)), (11, .int 0), (10, .int (x3 + x5)), (0, .ref (ga G 14 0)), (1, .int x1), (2, .int x2), (3, .int x3), (4, .int x4), (5, .int x5), (6, .int x6), (8, .ref (ga G 18 o8))]) hx hb dX14_fragment_240 hl (by decide) rfl (fun ls hl => ?_)
    obtain ⟨n45, hw⟩ := hw
    refine k14_fragment_L242 C σ x1 x2 x3 x4 x5 x6 o8 (x3 + x5) ho8 n45 0 (x3 + x5) hw H locs ls hH hS (lv_sub hl [3, 4, 5, 6, 7, 8, 9, 10, 2, 1, 0] rfl) (fun x11_46 hw H locs ls hH hS hl => ?_)
    exact k14_fragment_J279 C σ x1 x2 x3 x4 x5 x6 o8 (x3 + x5) x11_46 ho8 hw H locs ls hH hS (lv_sub hl [0, 1, 2, 3, 4, 5, 6, 7, 8, 9] rfl)
  have hw := hw.2 h
  refine lv_iload hx hb dX14_fragment_198 (lv_at hl 7 rfl) ?_
  refine lv_if_eq (tgt := 216) hx hb dX14_fragment_200 (by decide) (fun h => ?_) (fun h => ?_)
  · have hw := hw.1 h
    refine lv_iload hx hb dX14_fragment_216 (lv_at hl 0 rfl) ?_
    refine lv_aload hx hb dX14_fragment_218 (lv_at hl 8 rfl) ?_
    refine g18_4 C hH ho8 q1914 dX14_fragment_220 ?_
    refine lv_icmp_eq (tgt := 230) hx hb dX14_fragment_223 (by decide) (fun h => ?_) (fun h => ?_)
    · have hw := hw.1 h
      refine lv_iconst (v := 0) hx hb dX14_fragment_230 (by decide) ?_
      refine lv_istore (lv' := [(11, .int 0), (10, .int (x3 + x5)), (0, .ref (ga G 14 0)), (1, .int x1), (2, .int x2), (3, .int x3), (4, .int x4), (5, .int x5), (6, .int x6), (8, .ref (ga G 18 o8))]) hx hb dX14_fragment_231 hl (by decide) rfl (fun ls hl => ?_)
      refine lv_iload hx hb dX14_fragment_233 (lv_at hl 8 rfl) ?_
      refine lv_if_ne (tgt := 279) hx hb dX14_fragment_235 (by decide) (fun h => ?_) (fun h => ?_)
      · have hw := hw.1 h
        exact k14_fragment_J279 C σ x1 x2 x3 x4 x5 x6 o8 (x3 + x5) 0 ho8 hw H locs ls hH hS (lv_sub hl [2, 3, 4, 5, 6, 7, 8, 9, 1, 0] rfl)
      have hw := hw.2 h
      refine lv_iload hx hb dX14_fragment_238 (lv_at hl 1 rfl) ?_
      refine lv_istore (lv' := [(12, .int (x3 + x5)), (11, .int 0), (10, .int (x3 + x5)), (0, .ref (ga G 14 0)), (1, .int x1), (2, .int x2), (3, .int x3), (4, .int x4), (5, .int x5), (6, .int x6), (8, .ref (ga G 18 o8))]) hx hb dX14_fragment_240 hl (by decide) rfl (fun ls hl => ?_)
      obtain ⟨n47, hw⟩ := hw
      refine k14_fragment_L242 C σ x1 x2 x3 x4 x5 x6 o8 (x3 + x5) ho8 n47 0 (x3 + x5) hw H locs ls hH hS (lv_sub hl [3, 4, 5, 6, 7, 8, 9, 10, 2, 1, 0] rfl) (fun x11_48 hw H locs ls hH hS hl => ?_)
      exact k14_fragment_J279 C σ x1 x2 x3 x4 x5 x6 o8 (x3 + x5) x11_48 ho8 hw H locs ls hH hS (lv_sub hl [0, 1, 2, 3, 4, 5, 6, 7, 8, 9] rfl)
    have hw := hw.2 h
    refine lv_iconst (v := 1) hx hb dX14_fragment_226 (by decide) ?_
    refine lv_goto (tgt := 231) hx hb dX14_fragment_227 (by decide) ?_
    refine lv_istore (lv' := [(11, .int 1), (10, .int (x3 + x5)), (0, .ref (ga G 14 0)), (1, .int x1), (2, .int x2), (3, .int x3), (4, .int x4), (5, .int x5), (6, .int x6), (8, .ref (ga G 18 o8))]) hx hb dX14_fragment_231 hl (by decide) rfl (fun ls hl => ?_)
    refine lv_iload hx hb dX14_fragment_233 (lv_at hl 8 rfl) ?_
    refine lv_if_ne (tgt := 279) hx hb dX14_fragment_235 (by decide) (fun h => ?_) (fun h => ?_)
    · have hw := hw.1 h
      exact k14_fragment_J279 C σ x1 x2 x3 x4 x5 x6 o8 (x3 + x5) 1 ho8 hw H locs ls hH hS (lv_sub hl [2, 3, 4, 5, 6, 7, 8, 9, 1, 0] rfl)
    have hw := hw.2 h
    refine lv_iload hx hb dX14_fragment_238 (lv_at hl 1 rfl) ?_
    refine lv_istore (lv' := [(12, .int (x3 + x5)), (11, .int 1), (10, .int (x3 + x5)), (0, .ref (ga G 14 0)), (1, .int x1), (2, .int x2), (3, .int x3), (4, .int x4), (5, .int x5), (6, .int x6), (8, .ref (ga G 18 o8))]) hx hb dX14_fragment_240 hl (by decide) rfl (fun ls hl => ?_)
    obtain ⟨n49, hw⟩ := hw
    refine k14_fragment_L242 C σ x1 x2 x3 x4 x5 x6 o8 (x3 + x5) ho8 n49 1 (x3 + x5) hw H locs ls hH hS (lv_sub hl [3, 4, 5, 6, 7, 8, 9, 10, 2, 1, 0] rfl) (fun x11_50 hw H locs ls hH hS hl => ?_)
    exact k14_fragment_J279 C σ x1 x2 x3 x4 x5 x6 o8 (x3 + x5) x11_50 ho8 hw H locs ls hH hS (lv_sub hl [0, 1, 2, 3, 4, 5, 6, 7, 8, 9] rfl)
  have hw := hw.2 h
  refine lv_iload hx hb dX14_fragment_203 (lv_at hl 0 rfl) ?_
  refine lv_aload hx hb dX14_fragment_205 (lv_at hl 8 rfl) ?_
  refine g18_4 C hH ho8 q1914 dX14_fragment_207 ?_
  refine lv_icmp_le (tgt := 230) hx hb dX14_fragment_210 (by decide) (fun h => ?_) (fun h => ?_)
  · have hw := hw.1 h
    refine lv_iconst (v := 0) hx hb dX14_fragment_230 (by decide) ?_
    refine lv_istore (lv' := [(11, .int 0), (10, .int (x3 + x5)), (0, .ref (ga G 14 0)), (1, .int x1), (2, .int x2), (3, .int x3), (4, .int x4), (5, .int x5), (6, .int x6), (8, .ref (ga G 18 o8))]) hx hb dX14_fragment_231 hl (by decide) rfl (fun ls hl => ?_)
    refine lv_iload hx hb dX14_fragment_233 (lv_at hl 8 rfl) ?_
    refine lv_if_ne (tgt := 279) hx hb dX14_fragment_235 (by decide) (fun h => ?_) (fun h => ?_)
    · have hw := hw.1 h
      exact k14_fragment_J279 C σ x1 x2 x3 x4 x5 x6 o8 (x3 + x5) 0 ho8 hw H locs ls hH hS (lv_sub hl [2, 3, 4, 5, 6, 7, 8, 9, 1, 0] rfl)
    have hw := hw.2 h
    refine lv_iload hx hb dX14_fragment_238 (lv_at hl 1 rfl) ?_
    refine lv_istore (lv' := [(12, .int (x3 + x5)), (11, .int 0), (10, .int (x3 + x5)), (0, .ref (ga G 14 0)), (1, .int x1), (2, .int x2), (3, .int x3), (4, .int x4), (5, .int x5), (6, .int x6), (8, .ref (ga G 18 o8))]) hx hb dX14_fragment_240 hl (by decide) rfl (fun ls hl => ?_)
    obtain ⟨n51, hw⟩ := hw
    refine k14_fragment_L242 C σ x1 x2 x3 x4 x5 x6 o8 (x3 + x5) ho8 n51 0 (x3 + x5) hw H locs ls hH hS (lv_sub hl [3, 4, 5, 6, 7, 8, 9, 10, 2, 1, 0] rfl) (fun x11_52 hw H locs ls hH hS hl => ?_)
    exact k14_fragment_J279 C σ x1 x2 x3 x4 x5 x6 o8 (x3 + x5) x11_52 ho8 hw H locs ls hH hS (lv_sub hl [0, 1, 2, 3, 4, 5, 6, 7, 8, 9] rfl)
  have hw := hw.2 h
  refine lv_goto (tgt := 226) hx hb dX14_fragment_213 (by decide) ?_
  refine lv_iconst (v := 1) hx hb dX14_fragment_226 (by decide) ?_
  refine lv_goto (tgt := 231) hx hb dX14_fragment_227 (by decide) ?_
  refine lv_istore (lv' := [(11, .int 1), (10, .int (x3 + x5)), (0, .ref (ga G 14 0)), (1, .int x1), (2, .int x2), (3, .int x3), (4, .int x4), (5, .int x5), (6, .int x6), (8, .ref (ga G 18 o8))]) hx hb dX14_fragment_231 hl (by decide) rfl (fun ls hl => ?_)
  refine lv_iload hx hb dX14_fragment_233 (lv_at hl 8 rfl) ?_
  refine lv_if_ne (tgt := 279) hx hb dX14_fragment_235 (by decide) (fun h => ?_) (fun h => ?_)
  · have hw := hw.1 h
    exact k14_fragment_J279 C σ x1 x2 x3 x4 x5 x6 o8 (x3 + x5) 1 ho8 hw H locs ls hH hS (lv_sub hl [2, 3, 4, 5, 6, 7, 8, 9, 1, 0] rfl)
  have hw := hw.2 h
  refine lv_iload hx hb dX14_fragment_238 (lv_at hl 1 rfl) ?_
  refine lv_istore (lv' := [(12, .int (x3 + x5)), (11, .int 1), (10, .int (x3 + x5)), (0, .ref (ga G 14 0)), (1, .int x1), (2, .int x2), (3, .int x3), (4, .int x4), (5, .int x5), (6, .int x6), (8, .ref (ga G 18 o8))]) hx hb dX14_fragment_240 hl (by decide) rfl (fun ls hl => ?_)
  obtain ⟨n53, hw⟩ := hw
  refine k14_fragment_L242 C σ x1 x2 x3 x4 x5 x6 o8 (x3 + x5) ho8 n53 1 (x3 + x5) hw H locs ls hH hS (lv_sub hl [3, 4, 5, 6, 7, 8, 9, 10, 2, 1, 0] rfl) (fun x11_54 hw H locs ls hH hS hl => ?_)
  exact k14_fragment_J279 C σ x1 x2 x3 x4 x5 x6 o8 (x3 + x5) x11_54 ho8 hw H locs ls hH hS (lv_sub hl [0, 1, 2, 3, 4, 5, 6, 7, 8, 9] rfl)
def w14_fragment (σ : St) (x1 : Int32) (x2 : Int32) (x3 : Int32) (x4 : Int32) (x5 : Int32) (x6 : Int32) (Q : St → Prop) : Prop := w14_trayHalf σ 18 (fun r1 => (∃ z3, w14_fragment_L17 σ x1 x2 x3 x4 x5 x6 r1 Q (fun p8_4 p9_4 => (p8_4 = none → ((p9_4 = none → Q σ) ∧ (∀ i6, p9_4 = some i6 → (i6 < 4 ∧ (∀ σ7, σ7 = up3 σ 18 i6 0 1 → (∀ σ8, σ8 = up3 σ7 18 i6 1 x1 → (∀ σ9, σ9 = up3 σ8 18 i6 2 r1 → (∀ σ10, σ10 = up3 σ9 18 i6 3 x2 → (∀ σ11, σ11 = up3 σ10 18 i6 4 (-1) → (∀ σ12, σ12 = up3 σ11 18 i6 5 (σ11 14 0 10) → (∀ σ13, σ13 = up3 σ12 14 0 25 ((σ12 14 0 25) + 1) → (∀ σ14, σ14 = up3 σ13 18 i6 6 (σ13 14 0 25) → (∃ z16, w14_fragment_L161 x1 x2 x3 x4 x5 x6 i6 Q (fun σ17 => w14_fragment_J184 σ17 x1 x2 x3 x4 x5 x6 i6 Q) z16 σ14 0))))))))))))) ∧ (∀ i5, p8_4 = some i5 → (i5 < 4 ∧ w14_fragment_J184 σ x1 x2 x3 x4 x5 x6 i5 Q))) z3 none none 3))
set_option maxHeartbeats 4000000 in
theorem m14_fragment (l : Launch) (G : Gh) (a1 : Nat → Nat → Nat) (τ : St) (σ : St) (x1 : Int32) (x2 : Int32) (x3 : Int32) (x4 : Int32) (x5 : Int32) (x6 : Int32) (Q : St → Prop) (hw : w14_fragment σ x1 x2 x3 x4 x5 x6 Q) : Met l yX14_fragment (ws_ yX14_fragment cX14_fragment 13 none) rmX14_fragment (PcS G a1 (cmb τ σ) [.ref (ga G 14 0), .int x1, .int x2, .int x3, .int x4, .int x5, .int x6]) (QVs G a1 (fun u => cmb τ u) Q) 0 0 (gA G) := by
  refine met_w (by decide) (Nat.le_of_ble_eq_true rfl) ?_
  intro p e s m below meth c ls C hH hS hl
  have C : Cx p e s m _ meth c cX14_fragment 13 none "WebHostModel" G := C
  have hl : lv_has ls 13 [(0, .ref (ga G 14 0)), (1, .int x1), (2, .int x2), (3, .int x3), (4, .int x4), (5, .int x5), (6, .int x6)] := hl
  have hx := C.1
  have hb := C.2.1
  have hown := C.2.2.2.2.2.1
  have hts := C.2.2.2.2.2.2.1
  obtain ⟨locs, hlocs⟩ : ∃ z : List Loc, z = [] := ⟨_, rfl⟩
  obtain ⟨H, hHe⟩ : ∃ z : Heap, z = s.heap := ⟨_, rfl⟩
  have hH : Hd G a1 (cmb τ σ) H := by rw [hHe]; exact hH
  have hS : va_S (gA G) s.heap H locs := by rw [hHe, hlocs]; exact hS
  refine W.heap0 hHe.symm hlocs.symm ?_
  refine lv_aload_n hx hb dX14_fragment_0 rfl (lv_at hl 0 rfl) ?_
  refine lv_bipush (v := 18) hx hb dX14_fragment_1 (by decide) ?_
  refine kc_ip (rn_vp (As := [.int 18]) (rest := []) C hH hS (by decide) rfl (by decide) (m14_trayHalf l G a1 τ σ H 18 _ hw) (cwV 1 hts (lw_V q2329 q2331 qs105 q171 q2332) rfl rfl rfl kX14_trayHalf ⟨Nat.le_of_ble_eq_true rfl, Nat.le_of_ble_eq_true rfl⟩) rfl hl.1 rfl (Nat.le_of_ble_eq_true rfl) dX14_fragment_3 ⟨Nat.le_of_ble_eq_true rfl, Nat.le_of_ble_eq_true rfl⟩) hS (fun r1 locs hw hS => ?_)
  refine lv_istore (lv' := [(7, .int r1), (0, .ref (ga G 14 0)), (1, .int x1), (2, .int x2), (3, .int x3), (4, .int x4), (5, .int x5), (6, .int x6)]) hx hb dX14_fragment_6 hl (by decide) rfl (fun ls hl => ?_)
  refine lv_null hx hb dX14_fragment_8 ?_
  refine lv_astoreN (lv' := [(8, .null), (7, .int r1), (0, .ref (ga G 14 0)), (1, .int x1), (2, .int x2), (3, .int x3), (4, .int x4), (5, .int x5), (6, .int x6)]) hx hb dX14_fragment_9 hl (by decide) rfl (fun ls hl => ?_)
  refine lv_null hx hb dX14_fragment_11 ?_
  refine lv_astoreN (lv' := [(9, .null), (8, .null), (7, .int r1), (0, .ref (ga G 14 0)), (1, .int x1), (2, .int x2), (3, .int x3), (4, .int x4), (5, .int x5), (6, .int x6)]) hx hb dX14_fragment_12 hl (by decide) rfl (fun ls hl => ?_)
  refine lv_iconst (v := 3) hx hb dX14_fragment_14 (by decide) ?_
  refine lv_istore (lv' := [(10, .int 3), (9, .null), (8, .null), (7, .int r1), (0, .ref (ga G 14 0)), (1, .int x1), (2, .int x2), (3, .int x3), (4, .int x4), (5, .int x5), (6, .int x6)]) hx hb dX14_fragment_15 hl (by decide) rfl (fun ls hl => ?_)
  obtain ⟨n3, hw⟩ := hw
  refine k14_fragment_L17 C σ x1 x2 x3 x4 x5 x6 r1 n3 none none 3 hw H locs ls hH hS (lv_sub hl [4, 5, 6, 7, 8, 9, 10, 3, 2, 1, 0] rfl) (fun p8_4 p9_4 hw H locs ls hH hS hl => ?_)
  refine lv_aloadV hx hb dX14_fragment_84 (va_re_or _ _) (lv_at hl 8 rfl) ?_
  rcases p8_4 with _ | i5
  · have hw := hw.1 rfl
    have hl : lv_has ls 13 [(0, .ref (ga G 14 0)), (1, .int x1), (2, .int x2), (3, .int x3), (4, .int x4), (5, .int x5), (6, .int x6), (7, .int r1), (8, .null), (9, va_re (ga G 18) p9_4)] := hl
    refine lv_ifnonnullN hx hb dX14_fragment_86 ?_
    refine lv_aloadV hx hb dX14_fragment_89 (va_re_or _ _) (lv_at hl 9 rfl) ?_
    rcases p9_4 with _ | i6
    · have hw := hw.1 rfl
      have hl : lv_has ls 13 [(0, .ref (ga G 14 0)), (1, .int x1), (2, .int x2), (3, .int x3), (4, .int x4), (5, .int x5), (6, .int x6), (7, .int r1), (8, .null), (9, .null)] := hl
      refine lv_ifnonnullN hx hb dX14_fragment_91 ?_
      exact rt_v C hH hS hw dX14_fragment_94
    obtain ⟨hq6, hw⟩ := hw.2 i6 rfl
    have hl : lv_has ls 13 [(0, .ref (ga G 14 0)), (1, .int x1), (2, .int x2), (3, .int x3), (4, .int x4), (5, .int x5), (6, .int x6), (7, .int r1), (8, .null), (9, .ref (ga G 18 i6))] := hl
    refine lv_ifnonnull (tgt := 95) hx hb dX14_fragment_91 (by decide) ?_
    refine lv_aload hx hb dX14_fragment_95 (lv_at hl 9 rfl) ?_
    refine lv_astore (lv' := [(8, .ref (ga G 18 i6)), (0, .ref (ga G 14 0)), (1, .int x1), (2, .int x2), (3, .int x3), (4, .int x4), (5, .int x5), (6, .int x6), (7, .int r1), (9, .ref (ga G 18 i6))]) hx hb dX14_fragment_97 hl (by decide) rfl (fun ls hl => ?_)
    refine lv_aload hx hb dX14_fragment_99 (lv_at hl 0 rfl) ?_
    refine lv_iconst (v := 1) hx hb dX14_fragment_101 (by decide) ?_
    refine p18_0 C hH hS hq6 (Or.inr rfl) q1910 dX14_fragment_102 (fun σ7 e7 H locs hH hS => ?_)
    have hw := hw σ7 e7
    refine lv_aload hx hb dX14_fragment_105 (lv_at hl 0 rfl) ?_
    refine lv_iload_n hx hb dX14_fragment_107 rfl (lv_at hl 2 rfl) ?_
    refine p18_1 C hH hS hq6 q1911 dX14_fragment_108 (fun σ8 e8 H locs hH hS => ?_)
    have hw := hw σ8 e8
    refine lv_aload hx hb dX14_fragment_111 (lv_at hl 0 rfl) ?_
    refine lv_iload hx hb dX14_fragment_113 (lv_at hl 8 rfl) ?_
    refine p18_2 C hH hS hq6 q1912 dX14_fragment_115 (fun σ9 e9 H locs hH hS => ?_)
    have hw := hw σ9 e9
    refine lv_aload hx hb dX14_fragment_118 (lv_at hl 0 rfl) ?_
    refine lv_iload_n hx hb dX14_fragment_120 rfl (lv_at hl 3 rfl) ?_
    refine p18_3 C hH hS hq6 q1913 dX14_fragment_121 (fun σ10 e10 H locs hH hS => ?_)
    have hw := hw σ10 e10
    refine lv_aload hx hb dX14_fragment_124 (lv_at hl 0 rfl) ?_
    refine lv_iconst (v := (-1)) hx hb dX14_fragment_126 (by decide) ?_
    refine p18_4 C hH hS hq6 q1914 dX14_fragment_127 (fun σ11 e11 H locs hH hS => ?_)
    have hw := hw σ11 e11
    refine lv_aload hx hb dX14_fragment_130 (lv_at hl 0 rfl) ?_
    refine lv_aload_n hx hb dX14_fragment_132 rfl (lv_at hl 1 rfl) ?_
    refine g14_10 C hH q1950 dX14_fragment_133 ?_
    refine p18_5 C hH hS hq6 q1915 dX14_fragment_136 (fun σ12 e12 H locs hH hS => ?_)
    have hw := hw σ12 e12
    refine lv_aload_n hx hb dX14_fragment_139 rfl (lv_at hl 1 rfl) ?_
    refine lv_dup hx hb dX14_fragment_140 rfl ?_
    refine g14_25 C hH q1965 dX14_fragment_141 ?_
    refine lv_iconst (v := 1) hx hb dX14_fragment_144 (by decide) ?_
    refine lv_iadd hx hb dX14_fragment_145 ?_
    refine p14_25 C hH hS q1965 dX14_fragment_146 (fun σ13 e13 H locs hH hS => ?_)
    have hw := hw σ13 e13
    refine lv_aload hx hb dX14_fragment_149 (lv_at hl 0 rfl) ?_
    refine lv_aload_n hx hb dX14_fragment_151 rfl (lv_at hl 1 rfl) ?_
    refine g14_25 C hH q1965 dX14_fragment_152 ?_
    refine p18_6 C hH hS hq6 q1916 dX14_fragment_155 (fun σ14 e14 H locs hH hS => ?_)
    have hw := hw σ14 e14
    refine lv_iconst (v := 0) hx hb dX14_fragment_158 (by decide) ?_
    refine lv_istore (lv' := [(10, .int 0), (8, .ref (ga G 18 i6)), (0, .ref (ga G 14 0)), (1, .int x1), (2, .int x2), (3, .int x3), (4, .int x4), (5, .int x5), (6, .int x6), (7, .int r1), (9, .ref (ga G 18 i6))]) hx hb dX14_fragment_159 hl (by decide) rfl (fun ls hl => ?_)
    obtain ⟨n16, hw⟩ := hw
    refine k14_fragment_L161 C x1 x2 x3 x4 x5 x6 i6 hq6 n16 σ14 0 hw H locs ls hH hS (lv_sub hl [2, 3, 4, 5, 6, 7, 8, 1, 0] rfl) (fun σ17 hw H locs ls hH hS hl => ?_)
    exact k14_fragment_J184 C σ17 x1 x2 x3 x4 x5 x6 i6 hq6 hw H locs ls hH hS (lv_sub hl [0, 1, 2, 3, 4, 5, 6, 7] rfl)
  obtain ⟨hq5, hw⟩ := hw.2 i5 rfl
  have hl : lv_has ls 13 [(0, .ref (ga G 14 0)), (1, .int x1), (2, .int x2), (3, .int x3), (4, .int x4), (5, .int x5), (6, .int x6), (7, .int r1), (8, .ref (ga G 18 i5)), (9, va_re (ga G 18) p9_4)] := hl
  refine lv_ifnonnull (tgt := 184) hx hb dX14_fragment_86 (by decide) ?_
  exact k14_fragment_J184 C σ x1 x2 x3 x4 x5 x6 i5 hq5 hw H locs ls hH hS (lv_sub hl [0, 1, 2, 3, 4, 5, 6, 8] rfl)
/-! WebHost$Connection.arrive(LWebHost$Segment;)V -/
abbrev cX11_arrive : ByteArray := prog_3_method_18_code
def yX11_arrive : MethodName := ⟨RX11, "arrive", "(LWebHost$Segment;)V"⟩
theorem dX11_arrive_0 : decode cX11_arrive 0 = .ok (.aload_n 0, 1) := by decide +kernel
theorem dX11_arrive_1 : decode cX11_arrive 1 = .ok (.aload_n 1, 1) := by decide +kernel
theorem dX11_arrive_2 : decode cX11_arrive 2 = .ok (.invokevirtual 210, 3) := by decide +kernel
theorem dX11_arrive_5 : decode cX11_arrive 5 = .ok (.ifCond .ne 40, 3) := by decide +kernel
theorem dX11_arrive_8 : decode cX11_arrive 8 = .ok (.aload_n 1, 1) := by decide +kernel
theorem dX11_arrive_9 : decode cX11_arrive 9 = .ok (.iconst 4, 1) := by decide +kernel
theorem dX11_arrive_10 : decode cX11_arrive 10 = .ok (.invokevirtual 214, 3) := by decide +kernel
theorem dX11_arrive_13 : decode cX11_arrive 13 = .ok (.ifCond .eq 4, 3) := by decide +kernel
theorem dX11_arrive_16 : decode cX11_arrive 16 = .ok (.return_, 1) := by decide +kernel
theorem dX11_arrive_17 : decode cX11_arrive 17 = .ok (.aload_n 0, 1) := by decide +kernel
theorem dX11_arrive_18 : decode cX11_arrive 18 = .ok (.getfield 73, 3) := by decide +kernel
theorem dX11_arrive_21 : decode cX11_arrive 21 = .ok (.bipush 6, 2) := by decide +kernel
theorem dX11_arrive_23 : decode cX11_arrive 23 = .ok (.if_icmp .ne 17, 3) := by decide +kernel
theorem dX11_arrive_26 : decode cX11_arrive 26 = .ok (.aload_n 1, 1) := by decide +kernel
theorem dX11_arrive_27 : decode cX11_arrive 27 = .ok (.iconst 1, 1) := by decide +kernel
theorem dX11_arrive_28 : decode cX11_arrive 28 = .ok (.invokevirtual 214, 3) := by decide +kernel
theorem dX11_arrive_31 : decode cX11_arrive 31 = .ok (.ifCond .eq 9, 3) := by decide +kernel
theorem dX11_arrive_34 : decode cX11_arrive 34 = .ok (.aload_n 0, 1) := by decide +kernel
theorem dX11_arrive_35 : decode cX11_arrive 35 = .ok (.ldc 218, 2) := by decide +kernel
theorem dX11_arrive_37 : decode cX11_arrive 37 = .ok (.invokevirtual 219, 3) := by decide +kernel
theorem dX11_arrive_40 : decode cX11_arrive 40 = .ok (.aload_n 0, 1) := by decide +kernel
theorem dX11_arrive_41 : decode cX11_arrive 41 = .ok (.invokevirtual 222, 3) := by decide +kernel
theorem dX11_arrive_44 : decode cX11_arrive 44 = .ok (.return_, 1) := by decide +kernel
theorem dX11_arrive_45 : decode cX11_arrive 45 = .ok (.aload_n 1, 1) := by decide +kernel
theorem dX11_arrive_46 : decode cX11_arrive 46 = .ok (.iconst 4, 1) := by decide +kernel
theorem dX11_arrive_47 : decode cX11_arrive 47 = .ok (.invokevirtual 214, 3) := by decide +kernel
theorem dX11_arrive_50 : decode cX11_arrive 50 = .ok (.ifCond .eq 8, 3) := by decide +kernel
theorem dX11_arrive_53 : decode cX11_arrive 53 = .ok (.aload_n 0, 1) := by decide +kernel
theorem dX11_arrive_54 : decode cX11_arrive 54 = .ok (.invokevirtual 225, 3) := by decide +kernel
theorem dX11_arrive_57 : decode cX11_arrive 57 = .ok (.return_, 1) := by decide +kernel
theorem dX11_arrive_58 : decode cX11_arrive 58 = .ok (.aload_n 1, 1) := by decide +kernel
theorem dX11_arrive_59 : decode cX11_arrive 59 = .ok (.iconst 2, 1) := by decide +kernel
theorem dX11_arrive_60 : decode cX11_arrive 60 = .ok (.invokevirtual 214, 3) := by decide +kernel
theorem dX11_arrive_63 : decode cX11_arrive 63 = .ok (.ifCond .eq 16, 3) := by decide +kernel
theorem dX11_arrive_66 : decode cX11_arrive 66 = .ok (.aload_n 0, 1) := by decide +kernel
theorem dX11_arrive_67 : decode cX11_arrive 67 = .ok (.getfield 25, 3) := by decide +kernel
theorem dX11_arrive_70 : decode cX11_arrive 70 = .ok (.aload_n 1, 1) := by decide +kernel
theorem dX11_arrive_71 : decode cX11_arrive 71 = .ok (.invokevirtual 228, 3) := by decide +kernel
theorem dX11_arrive_74 : decode cX11_arrive 74 = .ok (.aload_n 0, 1) := by decide +kernel
theorem dX11_arrive_75 : decode cX11_arrive 75 = .ok (.invokevirtual 225, 3) := by decide +kernel
theorem dX11_arrive_78 : decode cX11_arrive 78 = .ok (.return_, 1) := by decide +kernel
theorem dX11_arrive_79 : decode cX11_arrive 79 = .ok (.aload_n 1, 1) := by decide +kernel
theorem dX11_arrive_80 : decode cX11_arrive 80 = .ok (.bipush 16, 2) := by decide +kernel
theorem dX11_arrive_82 : decode cX11_arrive 82 = .ok (.invokevirtual 214, 3) := by decide +kernel
theorem dX11_arrive_85 : decode cX11_arrive 85 = .ok (.ifCond .eq 18, 3) := by decide +kernel
theorem dX11_arrive_88 : decode cX11_arrive 88 = .ok (.aload_n 0, 1) := by decide +kernel
theorem dX11_arrive_89 : decode cX11_arrive 89 = .ok (.aload_n 1, 1) := by decide +kernel
theorem dX11_arrive_90 : decode cX11_arrive 90 = .ok (.invokevirtual 232, 3) := by decide +kernel
theorem dX11_arrive_93 : decode cX11_arrive 93 = .ok (.ifCond .eq 10, 3) := by decide +kernel
theorem dX11_arrive_96 : decode cX11_arrive 96 = .ok (.aload_n 0, 1) := by decide +kernel
theorem dX11_arrive_97 : decode cX11_arrive 97 = .ok (.getfield 73, 3) := by decide +kernel
theorem dX11_arrive_100 : decode cX11_arrive 100 = .ok (.ifCond .ne 4, 3) := by decide +kernel
theorem dX11_arrive_103 : decode cX11_arrive 103 = .ok (.return_, 1) := by decide +kernel
theorem dX11_arrive_104 : decode cX11_arrive 104 = .ok (.aload_n 0, 1) := by decide +kernel
theorem dX11_arrive_105 : decode cX11_arrive 105 = .ok (.getfield 73, 3) := by decide +kernel
theorem dX11_arrive_108 : decode cX11_arrive 108 = .ok (.iconst 2, 1) := by decide +kernel
theorem dX11_arrive_109 : decode cX11_arrive 109 = .ok (.if_icmp .eq 19, 3) := by decide +kernel
theorem dX11_arrive_112 : decode cX11_arrive 112 = .ok (.aload_n 0, 1) := by decide +kernel
theorem dX11_arrive_113 : decode cX11_arrive 113 = .ok (.getfield 73, 3) := by decide +kernel
theorem dX11_arrive_116 : decode cX11_arrive 116 = .ok (.iconst 3, 1) := by decide +kernel
theorem dX11_arrive_117 : decode cX11_arrive 117 = .ok (.if_icmp .eq 11, 3) := by decide +kernel
theorem dX11_arrive_120 : decode cX11_arrive 120 = .ok (.aload_n 0, 1) := by decide +kernel
theorem dX11_arrive_121 : decode cX11_arrive 121 = .ok (.getfield 73, 3) := by decide +kernel
theorem dX11_arrive_124 : decode cX11_arrive 124 = .ok (.iconst 4, 1) := by decide +kernel
theorem dX11_arrive_125 : decode cX11_arrive 125 = .ok (.if_icmp .ne 11, 3) := by decide +kernel
theorem dX11_arrive_128 : decode cX11_arrive 128 = .ok (.aload_n 0, 1) := by decide +kernel
theorem dX11_arrive_129 : decode cX11_arrive 129 = .ok (.aload_n 1, 1) := by decide +kernel
theorem dX11_arrive_130 : decode cX11_arrive 130 = .ok (.invokevirtual 235, 3) := by decide +kernel
theorem dX11_arrive_133 : decode cX11_arrive 133 = .ok (.goto 26, 3) := by decide +kernel
theorem dX11_arrive_136 : decode cX11_arrive 136 = .ok (.aload_n 0, 1) := by decide +kernel
theorem dX11_arrive_137 : decode cX11_arrive 137 = .ok (.getfield 73, 3) := by decide +kernel
theorem dX11_arrive_140 : decode cX11_arrive 140 = .ok (.bipush 6, 2) := by decide +kernel
theorem dX11_arrive_142 : decode cX11_arrive 142 = .ok (.if_icmp .ne 17, 3) := by decide +kernel
theorem dX11_arrive_145 : decode cX11_arrive 145 = .ok (.aload_n 1, 1) := by decide +kernel
theorem dX11_arrive_146 : decode cX11_arrive 146 = .ok (.iconst 1, 1) := by decide +kernel
theorem dX11_arrive_147 : decode cX11_arrive 147 = .ok (.invokevirtual 214, 3) := by decide +kernel
theorem dX11_arrive_150 : decode cX11_arrive 150 = .ok (.ifCond .eq 9, 3) := by decide +kernel
theorem dX11_arrive_153 : decode cX11_arrive 153 = .ok (.aload_n 0, 1) := by decide +kernel
theorem dX11_arrive_154 : decode cX11_arrive 154 = .ok (.ldc 218, 2) := by decide +kernel
theorem dX11_arrive_156 : decode cX11_arrive 156 = .ok (.invokevirtual 219, 3) := by decide +kernel
theorem dX11_arrive_159 : decode cX11_arrive 159 = .ok (.aload_n 0, 1) := by decide +kernel
theorem dX11_arrive_160 : decode cX11_arrive 160 = .ok (.invokevirtual 238, 3) := by decide +kernel
theorem dX11_arrive_163 : decode cX11_arrive 163 = .ok (.return_, 1) := by decide +kernel
def rmX11_arrive : Room := { frames := 14, cells := 1, slots := 66047, locals := 310 }
theorem kX11_arrive : yX11_arrive.cls = "WebHost$Connection" ∧ yX11_arrive.cls ≠ "java/lang/invoke/MethodHandle" ∧ yX11_arrive.cls ≠ "java/lang/invoke/VarHandle" ∧ (parseMethodDescriptor yX11_arrive.desc).map (fun d => d.parameters.length) = some 1 := by decide +kernel
def w11_arrive (σ : St) (o0 : Nat) (Q : St → Prop) : Prop := w11_isAcceptable σ o0 (fun r1 => ((¬ r1 = 0 → (w10_has σ 4 (fun r2 => ((r2 = 0 → (w10_has σ 2 (fun r3 => ((r3 = 0 → (w10_has σ 16 (fun r4 => ((r4 = 0 → Q σ) ∧ (¬ r4 = 0 → (w11_takeAck σ o0 (fun r5 σ5 => ((r5 = 0 → Q σ5) ∧ (¬ r5 = 0 → ((¬ (σ5 11 o0 2) = 0 → (((σ5 11 o0 2) = 2 → (w11_takeData σ5 o0 (fun σ6 => (w11_goOn σ6 o0 (fun σ7 => (Q σ7)))))) ∧ (¬ (σ5 11 o0 2) = 2 → (((σ5 11 o0 2) = 3 → (w11_takeData σ5 o0 (fun σ8 => (w11_goOn σ8 o0 (fun σ9 => (Q σ9)))))) ∧ (¬ (σ5 11 o0 2) = 3 → ((¬ (σ5 11 o0 2) = 4 → ((¬ (σ5 11 o0 2) = 6 → (w11_goOn σ5 o0 (fun σ10 => (Q σ10)))) ∧ ((σ5 11 o0 2) = 6 → (w10_has σ5 1 (fun r11 => ((r11 = 0 → (w11_goOn σ5 o0 (fun σ12 => (Q σ12)))) ∧ (¬ r11 = 0 → (w11_live σ5 o0 60000 (fun σ13 => (w11_goOn σ13 o0 (fun σ14 => (Q σ14)))))))))))) ∧ ((σ5 11 o0 2) = 4 → (w11_takeData σ5 o0 (fun σ15 => (w11_goOn σ15 o0 (fun σ16 => (Q σ16)))))))))))) ∧ ((σ5 11 o0 2) = 0 → Q σ5))))))))))) ∧ (¬ r3 = 0 → (w8_reset σ (fun σ17 => (w11_gone σ17 o0 (fun σ18 => (Q σ18)))))))))) ∧ (¬ r2 = 0 → (w11_gone σ o0 (fun σ19 => (Q σ19)))))))) ∧ (r1 = 0 → (w10_has σ 4 (fun r20 => ((r20 = 0 → ((¬ (σ 11 o0 2) = 6 → (w11_acknowledge σ o0 (fun σ21 => (Q σ21)))) ∧ ((σ 11 o0 2) = 6 → (w10_has σ 1 (fun r22 => ((r22 = 0 → (w11_acknowledge σ o0 (fun σ23 => (Q σ23)))) ∧ (¬ r22 = 0 → (w11_live σ o0 60000 (fun σ24 => (w11_acknowledge σ24 o0 (fun σ25 => (Q σ25)))))))))))) ∧ (¬ r20 = 0 → Q σ)))))))
set_option maxHeartbeats 4000000 in
theorem m11_arrive (l : Launch) (G : Gh) (a1 : Nat → Nat → Nat) (τ : St) (σ : St) (o0 : Nat) (ho0 : o0 < 16) (Q : St → Prop) (hw : w11_arrive σ o0 Q) : Met l yX11_arrive (ws_ yX11_arrive cX11_arrive 2 none) rmX11_arrive (PcS G a1 (cmb σ τ) [.ref (ga G 11 o0), .ref (ga G 10 0)]) (QVa G (fun u => cmb u τ) Q) 1 66047 (gA G) := by
  refine met_w (by decide) (Nat.le_of_ble_eq_true rfl) ?_
  intro p e s m below meth c ls C hH hS hl
  have C : Cx p e s m _ meth c cX11_arrive 2 none "WebHost$Connection" G := C
  have hl : lv_has ls 2 [(0, .ref (ga G 11 o0)), (1, .ref (ga G 10 0))] := hl
  have hx := C.1
  have hb := C.2.1
  have hown := C.2.2.2.2.2.1
  have hts := C.2.2.2.2.2.2.1
  obtain ⟨locs, hlocs⟩ : ∃ z : List Loc, z = [] := ⟨_, rfl⟩
  obtain ⟨H, hHe⟩ : ∃ z : Heap, z = s.heap := ⟨_, rfl⟩
  have hH : Hd G a1 (cmb σ τ) H := by rw [hHe]; exact hH
  have hS : va_S (gA G) s.heap H locs := by rw [hHe, hlocs]; exact hS
  refine W.heap0 hHe.symm hlocs.symm ?_
  refine lv_aload_n hx hb dX11_arrive_0 rfl (lv_at hl 0 rfl) ?_
  refine lv_aload_n hx hb dX11_arrive_1 rfl (lv_at hl 1 rfl) ?_
  refine kc_ip (rn_vp (As := [.ref (ga G 10 0)]) (rest := []) C hH hS (by decide) rfl ho0 (m11_isAcceptable l G a1 τ σ H o0 ho0 _ hw) (cwV 1 hts (lw_V q1140 q1142 qs32 q168 q1143) rfl rfl rfl kX11_isAcceptable ⟨Nat.le_of_ble_eq_true rfl, Nat.le_of_ble_eq_true rfl⟩) rfl hl.1 rfl (Nat.le_of_ble_eq_true rfl) dX11_arrive_2 ⟨Nat.le_of_ble_eq_true rfl, Nat.le_of_ble_eq_true rfl⟩) hS (fun r1 locs hw hS => ?_)
  refine lv_if_ne (tgt := 45) hx hb dX11_arrive_5 (by decide) (fun h => ?_) (fun h => ?_)
  · have hw := hw.1 h
    refine lv_aload_n hx hb dX11_arrive_45 rfl (lv_at hl 1 rfl) ?_
    refine lv_iconst (v := 4) hx hb dX11_arrive_46 (by decide) ?_
    refine kc_ip (rn_vp (As := [.int 4]) (rest := []) C hH hS (by decide) rfl (by decide) (m10_has l G a1 τ σ H 4 _ hw) (cwV 1 hts (lw_V q1156 q1149 q1150 q167 q1151) rfl rfl rfl kX10_has ⟨Nat.le_of_ble_eq_true rfl, Nat.le_of_ble_eq_true rfl⟩) rfl hl.1 rfl (Nat.le_of_ble_eq_true rfl) dX11_arrive_47 ⟨Nat.le_of_ble_eq_true rfl, Nat.le_of_ble_eq_true rfl⟩) hS (fun r2 locs hw hS => ?_)
    refine lv_if_eq (tgt := 58) hx hb dX11_arrive_50 (by decide) (fun h => ?_) (fun h => ?_)
    · have hw := hw.1 h
      refine lv_aload_n hx hb dX11_arrive_58 rfl (lv_at hl 1 rfl) ?_
      refine lv_iconst (v := 2) hx hb dX11_arrive_59 (by decide) ?_
      refine kc_ip (rn_vp (As := [.int 2]) (rest := []) C hH hS (by decide) rfl (by decide) (m10_has l G a1 τ σ H 2 _ hw) (cwV 1 hts (lw_V q1156 q1149 q1150 q167 q1151) rfl rfl rfl kX10_has ⟨Nat.le_of_ble_eq_true rfl, Nat.le_of_ble_eq_true rfl⟩) rfl hl.1 rfl (Nat.le_of_ble_eq_true rfl) dX11_arrive_60 ⟨Nat.le_of_ble_eq_true rfl, Nat.le_of_ble_eq_true rfl⟩) hS (fun r3 locs hw hS => ?_)
      refine lv_if_eq (tgt := 79) hx hb dX11_arrive_63 (by decide) (fun h => ?_) (fun h => ?_)
      · have hw := hw.1 h
        refine lv_aload_n hx hb dX11_arrive_79 rfl (lv_at hl 1 rfl) ?_
        refine lv_bipush (v := 16) hx hb dX11_arrive_80 (by decide) ?_
        refine kc_ip (rn_vp (As := [.int 16]) (rest := []) C hH hS (by decide) rfl (by decide) (m10_has l G a1 τ σ H 16 _ hw) (cwV 1 hts (lw_V q1156 q1149 q1150 q167 q1151) rfl rfl rfl kX10_has ⟨Nat.le_of_ble_eq_true rfl, Nat.le_of_ble_eq_true rfl⟩) rfl hl.1 rfl (Nat.le_of_ble_eq_true rfl) dX11_arrive_82 ⟨Nat.le_of_ble_eq_true rfl, Nat.le_of_ble_eq_true rfl⟩) hS (fun r4 locs hw hS => ?_)
        refine lv_if_eq (tgt := 103) hx hb dX11_arrive_85 (by decide) (fun h => ?_) (fun h => ?_)
        · have hw := hw.1 h
          refine W.widen (k := 1) (n := 66047) (Nat.zero_le _) (Nat.zero_le _) ?_
          exact rt_va C hH hS hw dX11_arrive_103
        have hw := hw.2 h
        refine lv_aload_n hx hb dX11_arrive_88 rfl (lv_at hl 0 rfl) ?_
        refine lv_aload_n hx hb dX11_arrive_89 rfl (lv_at hl 1 rfl) ?_
        refine kc_i (rn_v (As := [.ref (ga G 10 0)]) (rest := []) C hH hS (by decide) rfl ho0 (m11_takeAck l G a1 τ σ o0 ho0 _ hw) (cwV 1 hts (lw_V q1172 q1174 qs36 q168 q1175) rfl rfl rfl kX11_takeAck ⟨Nat.le_of_ble_eq_true rfl, Nat.le_of_ble_eq_true rfl⟩) rfl hl.1 rfl (Nat.le_of_ble_eq_true rfl) dX11_arrive_90 ⟨Nat.le_of_ble_eq_true rfl, Nat.le_of_ble_eq_true rfl⟩) hS (fun r5 σ5 H locs hw hH hS => ?_)
        refine lv_if_eq (tgt := 103) hx hb dX11_arrive_93 (by decide) (fun h => ?_) (fun h => ?_)
        · have hw := hw.1 h
          refine W.widen (k := 1) (n := 66047) (Nat.zero_le _) (Nat.zero_le _) ?_
          exact rt_va C hH hS hw dX11_arrive_103
        have hw := hw.2 h
        refine lv_aload_n hx hb dX11_arrive_96 rfl (lv_at hl 0 rfl) ?_
        refine g11_2 C hH ho0 q610 dX11_arrive_97 ?_
        refine lv_if_ne (tgt := 104) hx hb dX11_arrive_100 (by decide) (fun h => ?_) (fun h => ?_)
        · have hw := hw.1 h
          refine lv_aload_n hx hb dX11_arrive_104 rfl (lv_at hl 0 rfl) ?_
          refine g11_2 C hH ho0 q610 dX11_arrive_105 ?_
          refine lv_iconst (v := 2) hx hb dX11_arrive_108 (by decide) ?_
          refine lv_icmp_eq (tgt := 128) hx hb dX11_arrive_109 (by decide) (fun h => ?_) (fun h => ?_)
          · have hw := hw.1 h
            refine lv_aload_n hx hb dX11_arrive_128 rfl (lv_at hl 0 rfl) ?_
            refine lv_aload_n hx hb dX11_arrive_129 rfl (lv_at hl 1 rfl) ?_
            refine kc_v (rn_v (As := [.ref (ga G 10 0)]) (rest := []) C hH hS (by decide) rfl ho0 (m11_takeData l G a1 τ σ5 o0 ho0 _ hw) (cwV 1 hts (lw_V q1212 q1214 qs45 q168 q1215) rfl rfl rfl kX11_takeData ⟨Nat.le_of_ble_eq_true rfl, Nat.le_of_ble_eq_true rfl⟩) rfl hl.1 rfl (Nat.le_of_ble_eq_true rfl) dX11_arrive_130 ⟨Nat.le_of_ble_eq_true rfl, Nat.le_of_ble_eq_true rfl⟩) hS (fun σ6 H locs hw hH hS => ?_)
            refine lv_goto (tgt := 159) hx hb dX11_arrive_133 (by decide) ?_
            refine lv_aload_n hx hb dX11_arrive_159 rfl (lv_at hl 0 rfl) ?_
            refine kc_va (rn_v (As := []) (rest := []) C hH hS (by decide) rfl ho0 (m11_goOn l G a1 τ σ6 o0 ho0 _ hw) (cwV 0 hts (lw_V q1228 q1230 qs46 q168 q1231) rfl rfl rfl kX11_goOn ⟨Nat.le_of_ble_eq_true rfl, Nat.le_of_ble_eq_true rfl⟩) rfl hl.1 rfl (Nat.le_of_ble_eq_true rfl) dX11_arrive_160 ⟨Nat.le_of_ble_eq_true rfl, Nat.le_of_ble_eq_true rfl⟩) hS (fun σ7 a7 H locs hw hH hS => ?_)
            refine W.cs (cells' := 1) (slots' := 66047) rfl rfl ?_
            exact rt_va C hH hS hw dX11_arrive_163
          have hw := hw.2 h
          refine lv_aload_n hx hb dX11_arrive_112 rfl (lv_at hl 0 rfl) ?_
          refine g11_2 C hH ho0 q610 dX11_arrive_113 ?_
          refine lv_iconst (v := 3) hx hb dX11_arrive_116 (by decide) ?_
          refine lv_icmp_eq (tgt := 128) hx hb dX11_arrive_117 (by decide) (fun h => ?_) (fun h => ?_)
          · have hw := hw.1 h
            refine lv_aload_n hx hb dX11_arrive_128 rfl (lv_at hl 0 rfl) ?_
            refine lv_aload_n hx hb dX11_arrive_129 rfl (lv_at hl 1 rfl) ?_
            refine kc_v (rn_v (As := [.ref (ga G 10 0)]) (rest := []) C hH hS (by decide) rfl ho0 (m11_takeData l G a1 τ σ5 o0 ho0 _ hw) (cwV 1 hts (lw_V q1212 q1214 qs45 q168 q1215) rfl rfl rfl kX11_takeData ⟨Nat.le_of_ble_eq_true rfl, Nat.le_of_ble_eq_true rfl⟩) rfl hl.1 rfl (Nat.le_of_ble_eq_true rfl) dX11_arrive_130 ⟨Nat.le_of_ble_eq_true rfl, Nat.le_of_ble_eq_true rfl⟩) hS (fun σ8 H locs hw hH hS => ?_)
            refine lv_goto (tgt := 159) hx hb dX11_arrive_133 (by decide) ?_
            refine lv_aload_n hx hb dX11_arrive_159 rfl (lv_at hl 0 rfl) ?_
            refine kc_va (rn_v (As := []) (rest := []) C hH hS (by decide) rfl ho0 (m11_goOn l G a1 τ σ8 o0 ho0 _ hw) (cwV 0 hts (lw_V q1228 q1230 qs46 q168 q1231) rfl rfl rfl kX11_goOn ⟨Nat.le_of_ble_eq_true rfl, Nat.le_of_ble_eq_true rfl⟩) rfl hl.1 rfl (Nat.le_of_ble_eq_true rfl) dX11_arrive_160 ⟨Nat.le_of_ble_eq_true rfl, Nat.le_of_ble_eq_true rfl⟩) hS (fun σ9 a9 H locs hw hH hS => ?_)
            refine W.cs (cells' := 1) (slots' := 66047) rfl rfl ?_
            exact rt_va C hH hS hw dX11_arrive_163
          have hw := hw.2 h
          refine lv_aload_n hx hb dX11_arrive_120 rfl (lv_at hl 0 rfl) ?_
          refine g11_2 C hH ho0 q610 dX11_arrive_121 ?_
          refine lv_iconst (v := 4) hx hb dX11_arrive_124 (by decide) ?_
          refine lv_icmp_ne (tgt := 136) hx hb dX11_arrive_125 (by decide) (fun h => ?_) (fun h => ?_)
          · have hw := hw.1 h
            refine lv_aload_n hx hb dX11_arrive_136 rfl (lv_at hl 0 rfl) ?_
            refine g11_2 C hH ho0 q610 dX11_arrive_137 ?_
            refine lv_bipush (v := 6) hx hb dX11_arrive_140 (by decide) ?_
            refine lv_icmp_ne (tgt := 159) hx hb dX11_arrive_142 (by decide) (fun h => ?_) (fun h => ?_)
            · have hw := hw.1 h
              refine lv_aload_n hx hb dX11_arrive_159 rfl (lv_at hl 0 rfl) ?_
              refine kc_va (rn_v (As := []) (rest := []) C hH hS (by decide) rfl ho0 (m11_goOn l G a1 τ σ5 o0 ho0 _ hw) (cwV 0 hts (lw_V q1228 q1230 qs46 q168 q1231) rfl rfl rfl kX11_goOn ⟨Nat.le_of_ble_eq_true rfl, Nat.le_of_ble_eq_true rfl⟩) rfl hl.1 rfl (Nat.le_of_ble_eq_true rfl) dX11_arrive_160 ⟨Nat.le_of_ble_eq_true rfl, Nat.le_of_ble_eq_true rfl⟩) hS (fun σ10 a10 H locs hw hH hS => ?_)
              refine W.cs (cells' := 1) (slots' := 66047) rfl rfl ?_
              exact rt_va C hH hS hw dX11_arrive_163
            have hw := hw.2 h
            refine lv_aload_n hx hb dX11_arrive_145 rfl (lv_at hl 1 rfl) ?_
            refine lv_iconst (v := 1) hx hb dX11_arrive_146 (by decide) ?_
            refine kc_ip (rn_vp (As := [.int 1]) (rest := []) C hH hS (by decide) rfl (by decide) (m10_has l G a1 τ σ5 H 1 _ hw) (cwV 1 hts (lw_V q1156 q1149 q1150 q167 q1151) rfl rfl rfl kX10_has ⟨Nat.le_of_ble_eq_true rfl, Nat.le_of_ble_eq_true rfl⟩) rfl hl.1 rfl (Nat.le_of_ble_eq_true rfl) dX11_arrive_147 ⟨Nat.le_of_ble_eq_true rfl, Nat.le_of_ble_eq_true rfl⟩) hS (fun r11 locs hw hS => ?_)
            refine lv_if_eq (tgt := 159) hx hb dX11_arrive_150 (by decide) (fun h => ?_) (fun h => ?_)
            · have hw := hw.1 h
              refine lv_aload_n hx hb dX11_arrive_159 rfl (lv_at hl 0 rfl) ?_
              refine kc_va (rn_v (As := []) (rest := []) C hH hS (by decide) rfl ho0 (m11_goOn l G a1 τ σ5 o0 ho0 _ hw) (cwV 0 hts (lw_V q1228 q1230 qs46 q168 q1231) rfl rfl rfl kX11_goOn ⟨Nat.le_of_ble_eq_true rfl, Nat.le_of_ble_eq_true rfl⟩) rfl hl.1 rfl (Nat.le_of_ble_eq_true rfl) dX11_arrive_160 ⟨Nat.le_of_ble_eq_true rfl, Nat.le_of_ble_eq_true rfl⟩) hS (fun σ12 a12 H locs hw hH hS => ?_)
              refine W.cs (cells' := 1) (slots' := 66047) rfl rfl ?_
              exact rt_va C hH hS hw dX11_arrive_163
            have hw := hw.2 h
            refine lv_aload_n hx hb dX11_arrive_153 rfl (lv_at hl 0 rfl) ?_
            refine lv_ldc (v := 60000) hx hb hown (hts _ q1019) dX11_arrive_154 ?_
            refine kc_v (rn_v (As := [.int 60000]) (rest := []) C hH hS (by decide) rfl ho0 (m11_live l G a1 τ σ5 o0 60000 ho0 _ hw) (cwV 1 hts (lw_V q1157 q1159 qs34 q168 q1160) rfl rfl rfl kX11_live ⟨Nat.le_of_ble_eq_true rfl, Nat.le_of_ble_eq_true rfl⟩) rfl hl.1 rfl (Nat.le_of_ble_eq_true rfl) dX11_arrive_156 ⟨Nat.le_of_ble_eq_true rfl, Nat.le_of_ble_eq_true rfl⟩) hS (fun σ13 H locs hw hH hS => ?_)
            refine lv_aload_n hx hb dX11_arrive_159 rfl (lv_at hl 0 rfl) ?_
            refine kc_va (rn_v (As := []) (rest := []) C hH hS (by decide) rfl ho0 (m11_goOn l G a1 τ σ13 o0 ho0 _ hw) (cwV 0 hts (lw_V q1228 q1230 qs46 q168 q1231) rfl rfl rfl kX11_goOn ⟨Nat.le_of_ble_eq_true rfl, Nat.le_of_ble_eq_true rfl⟩) rfl hl.1 rfl (Nat.le_of_ble_eq_true rfl) dX11_arrive_160 ⟨Nat.le_of_ble_eq_true rfl, Nat.le_of_ble_eq_true rfl⟩) hS (fun σ14 a14 H locs hw hH hS => ?_)
            refine W.cs (cells' := 1) (slots' := 66047) rfl rfl ?_
            exact rt_va C hH hS hw dX11_arrive_163
          have hw := hw.2 h
          refine lv_aload_n hx hb dX11_arrive_128 rfl (lv_at hl 0 rfl) ?_
          refine lv_aload_n hx hb dX11_arrive_129 rfl (lv_at hl 1 rfl) ?_
          refine kc_v (rn_v (As := [.ref (ga G 10 0)]) (rest := []) C hH hS (by decide) rfl ho0 (m11_takeData l G a1 τ σ5 o0 ho0 _ hw) (cwV 1 hts (lw_V q1212 q1214 qs45 q168 q1215) rfl rfl rfl kX11_takeData ⟨Nat.le_of_ble_eq_true rfl, Nat.le_of_ble_eq_true rfl⟩) rfl hl.1 rfl (Nat.le_of_ble_eq_true rfl) dX11_arrive_130 ⟨Nat.le_of_ble_eq_true rfl, Nat.le_of_ble_eq_true rfl⟩) hS (fun σ15 H locs hw hH hS => ?_)
          refine lv_goto (tgt := 159) hx hb dX11_arrive_133 (by decide) ?_
          refine lv_aload_n hx hb dX11_arrive_159 rfl (lv_at hl 0 rfl) ?_
          refine kc_va (rn_v (As := []) (rest := []) C hH hS (by decide) rfl ho0 (m11_goOn l G a1 τ σ15 o0 ho0 _ hw) (cwV 0 hts (lw_V q1228 q1230 qs46 q168 q1231) rfl rfl rfl kX11_goOn ⟨Nat.le_of_ble_eq_true rfl, Nat.le_of_ble_eq_true rfl⟩) rfl hl.1 rfl (Nat.le_of_ble_eq_true rfl) dX11_arrive_160 ⟨Nat.le_of_ble_eq_true rfl, Nat.le_of_ble_eq_true rfl⟩) hS (fun σ16 a16 H locs hw hH hS => ?_)
          refine W.cs (cells' := 1) (slots' := 66047) rfl rfl ?_
          exact rt_va C hH hS hw dX11_arrive_163
        have hw := hw.2 h
        refine W.widen (k := 1) (n := 66047) (Nat.zero_le _) (Nat.zero_le _) ?_
        exact rt_va C hH hS hw dX11_arrive_103
      have hw := hw.2 h
      refine lv_aload_n hx hb dX11_arrive_66 rfl (lv_at hl 0 rfl) ?_
      refine g11_0 C hH ho0 q608 dX11_arrive_67 ?_
      refine lv_aload_n hx hb dX11_arrive_70 rfl (lv_at hl 1 rfl) ?_
      refine kc_v (rn_v (As := [.ref (ga G 10 0)]) (rest := []) C hH hS (by decide) rfl (by decide) (m8_reset l G a1 τ σ _ hw) (cwV 1 hts (lw_V q1165 q1166 q1167 q165 q1168) rfl rfl rfl kX8_reset ⟨Nat.le_of_ble_eq_true rfl, Nat.le_of_ble_eq_true rfl⟩) rfl hl.1 rfl (Nat.le_of_ble_eq_true rfl) dX11_arrive_71 ⟨Nat.le_of_ble_eq_true rfl, Nat.le_of_ble_eq_true rfl⟩) hS (fun σ17 H locs hw hH hS => ?_)
      refine lv_aload_n hx hb dX11_arrive_74 rfl (lv_at hl 0 rfl) ?_
      refine kc_v (rn_v (As := []) (rest := []) C hH hS (by decide) rfl ho0 (m11_gone l G a1 τ σ17 o0 ho0 _ hw) (cwV 0 hts (lw_V q1018 q885 qs5 q168 q886) rfl rfl rfl kX11_gone ⟨Nat.le_of_ble_eq_true rfl, Nat.le_of_ble_eq_true rfl⟩) rfl hl.1 rfl (Nat.le_of_ble_eq_true rfl) dX11_arrive_75 ⟨Nat.le_of_ble_eq_true rfl, Nat.le_of_ble_eq_true rfl⟩) hS (fun σ18 H locs hw hH hS => ?_)
      refine W.widen (k := 1) (n := 66047) (Nat.zero_le _) (Nat.zero_le _) ?_
      exact rt_va C hH hS hw dX11_arrive_78
    have hw := hw.2 h
    refine lv_aload_n hx hb dX11_arrive_53 rfl (lv_at hl 0 rfl) ?_
    refine kc_v (rn_v (As := []) (rest := []) C hH hS (by decide) rfl ho0 (m11_gone l G a1 τ σ o0 ho0 _ hw) (cwV 0 hts (lw_V q1018 q885 qs5 q168 q886) rfl rfl rfl kX11_gone ⟨Nat.le_of_ble_eq_true rfl, Nat.le_of_ble_eq_true rfl⟩) rfl hl.1 rfl (Nat.le_of_ble_eq_true rfl) dX11_arrive_54 ⟨Nat.le_of_ble_eq_true rfl, Nat.le_of_ble_eq_true rfl⟩) hS (fun σ19 H locs hw hH hS => ?_)
    refine W.widen (k := 1) (n := 66047) (Nat.zero_le _) (Nat.zero_le _) ?_
    exact rt_va C hH hS hw dX11_arrive_57
  have hw := hw.2 h
  refine lv_aload_n hx hb dX11_arrive_8 rfl (lv_at hl 1 rfl) ?_
  refine lv_iconst (v := 4) hx hb dX11_arrive_9 (by decide) ?_
  refine kc_ip (rn_vp (As := [.int 4]) (rest := []) C hH hS (by decide) rfl (by decide) (m10_has l G a1 τ σ H 4 _ hw) (cwV 1 hts (lw_V q1156 q1149 q1150 q167 q1151) rfl rfl rfl kX10_has ⟨Nat.le_of_ble_eq_true rfl, Nat.le_of_ble_eq_true rfl⟩) rfl hl.1 rfl (Nat.le_of_ble_eq_true rfl) dX11_arrive_10 ⟨Nat.le_of_ble_eq_true rfl, Nat.le_of_ble_eq_true rfl⟩) hS (fun r20 locs hw hS => ?_)
  refine lv_if_eq (tgt := 17) hx hb dX11_arrive_13 (by decide) (fun h => ?_) (fun h => ?_)
  · have hw := hw.1 h
    refine lv_aload_n hx hb dX11_arrive_17 rfl (lv_at hl 0 rfl) ?_
    refine g11_2 C hH ho0 q610 dX11_arrive_18 ?_
    refine lv_bipush (v := 6) hx hb dX11_arrive_21 (by decide) ?_
    refine lv_icmp_ne (tgt := 40) hx hb dX11_arrive_23 (by decide) (fun h => ?_) (fun h => ?_)
    · have hw := hw.1 h
      refine lv_aload_n hx hb dX11_arrive_40 rfl (lv_at hl 0 rfl) ?_
      refine kc_v (rn_v (As := []) (rest := []) C hH hS (by decide) rfl ho0 (m11_acknowledge l G a1 τ σ o0 ho0 _ hw) (cwV 0 hts (lw_V q1161 q1163 qs35 q168 q1164) rfl rfl rfl kX11_acknowledge ⟨Nat.le_of_ble_eq_true rfl, Nat.le_of_ble_eq_true rfl⟩) rfl hl.1 rfl (Nat.le_of_ble_eq_true rfl) dX11_arrive_41 ⟨Nat.le_of_ble_eq_true rfl, Nat.le_of_ble_eq_true rfl⟩) hS (fun σ21 H locs hw hH hS => ?_)
      refine W.widen (k := 1) (n := 66047) (Nat.zero_le _) (Nat.zero_le _) ?_
      exact rt_va C hH hS hw dX11_arrive_44
    have hw := hw.2 h
    refine lv_aload_n hx hb dX11_arrive_26 rfl (lv_at hl 1 rfl) ?_
    refine lv_iconst (v := 1) hx hb dX11_arrive_27 (by decide) ?_
    refine kc_ip (rn_vp (As := [.int 1]) (rest := []) C hH hS (by decide) rfl (by decide) (m10_has l G a1 τ σ H 1 _ hw) (cwV 1 hts (lw_V q1156 q1149 q1150 q167 q1151) rfl rfl rfl kX10_has ⟨Nat.le_of_ble_eq_true rfl, Nat.le_of_ble_eq_true rfl⟩) rfl hl.1 rfl (Nat.le_of_ble_eq_true rfl) dX11_arrive_28 ⟨Nat.le_of_ble_eq_true rfl, Nat.le_of_ble_eq_true rfl⟩) hS (fun r22 locs hw hS => ?_)
    refine lv_if_eq (tgt := 40) hx hb dX11_arrive_31 (by decide) (fun h => ?_) (fun h => ?_)
    · have hw := hw.1 h
      refine lv_aload_n hx hb dX11_arrive_40 rfl (lv_at hl 0 rfl) ?_
      refine kc_v (rn_v (As := []) (rest := []) C hH hS (by decide) rfl ho0 (m11_acknowledge l G a1 τ σ o0 ho0 _ hw) (cwV 0 hts (lw_V q1161 q1163 qs35 q168 q1164) rfl rfl rfl kX11_acknowledge ⟨Nat.le_of_ble_eq_true rfl, Nat.le_of_ble_eq_true rfl⟩) rfl hl.1 rfl (Nat.le_of_ble_eq_true rfl) dX11_arrive_41 ⟨Nat.le_of_ble_eq_true rfl, Nat.le_of_ble_eq_true rfl⟩) hS (fun σ23 H locs hw hH hS => ?_)
      refine W.widen (k := 1) (n := 66047) (Nat.zero_le _) (Nat.zero_le _) ?_
      exact rt_va C hH hS hw dX11_arrive_44
    have hw := hw.2 h
    refine lv_aload_n hx hb dX11_arrive_34 rfl (lv_at hl 0 rfl) ?_
    refine lv_ldc (v := 60000) hx hb hown (hts _ q1019) dX11_arrive_35 ?_
    refine kc_v (rn_v (As := [.int 60000]) (rest := []) C hH hS (by decide) rfl ho0 (m11_live l G a1 τ σ o0 60000 ho0 _ hw) (cwV 1 hts (lw_V q1157 q1159 qs34 q168 q1160) rfl rfl rfl kX11_live ⟨Nat.le_of_ble_eq_true rfl, Nat.le_of_ble_eq_true rfl⟩) rfl hl.1 rfl (Nat.le_of_ble_eq_true rfl) dX11_arrive_37 ⟨Nat.le_of_ble_eq_true rfl, Nat.le_of_ble_eq_true rfl⟩) hS (fun σ24 H locs hw hH hS => ?_)
    refine lv_aload_n hx hb dX11_arrive_40 rfl (lv_at hl 0 rfl) ?_
    refine kc_v (rn_v (As := []) (rest := []) C hH hS (by decide) rfl ho0 (m11_acknowledge l G a1 τ σ24 o0 ho0 _ hw) (cwV 0 hts (lw_V q1161 q1163 qs35 q168 q1164) rfl rfl rfl kX11_acknowledge ⟨Nat.le_of_ble_eq_true rfl, Nat.le_of_ble_eq_true rfl⟩) rfl hl.1 rfl (Nat.le_of_ble_eq_true rfl) dX11_arrive_41 ⟨Nat.le_of_ble_eq_true rfl, Nat.le_of_ble_eq_true rfl⟩) hS (fun σ25 H locs hw hH hS => ?_)
    refine W.widen (k := 1) (n := 66047) (Nat.zero_le _) (Nat.zero_le _) ?_
    exact rt_va C hH hS hw dX11_arrive_44
  have hw := hw.2 h
  refine W.widen (k := 1) (n := 66047) (Nat.zero_le _) (Nat.zero_le _) ?_
  exact rt_va C hH hS hw dX11_arrive_16
/-! WebHostModel.ipIn()V -/
abbrev cX14_ipIn : ByteArray := prog_17_method_28_code
def yX14_ipIn : MethodName := ⟨RX14, "ipIn", "()V"⟩
theorem dX14_ipIn_0 : decode cX14_ipIn 0 = .ok (.aload_n 0, 1) := by decide +kernel
theorem dX14_ipIn_1 : decode cX14_ipIn 1 = .ok (.getfield 84, 3) := by decide +kernel
theorem dX14_ipIn_4 : decode cX14_ipIn 4 = .ok (.bipush 14, 2) := by decide +kernel
theorem dX14_ipIn_6 : decode cX14_ipIn 6 = .ok (.isub, 1) := by decide +kernel
theorem dX14_ipIn_7 : decode cX14_ipIn 7 = .ok (.istore_n 1, 1) := by decide +kernel
theorem dX14_ipIn_8 : decode cX14_ipIn 8 = .ok (.iload_n 1, 1) := by decide +kernel
theorem dX14_ipIn_9 : decode cX14_ipIn 9 = .ok (.bipush 20, 2) := by decide +kernel
theorem dX14_ipIn_11 : decode cX14_ipIn 11 = .ok (.if_icmp .lt 19, 3) := by decide +kernel
theorem dX14_ipIn_14 : decode cX14_ipIn 14 = .ok (.aload_n 0, 1) := by decide +kernel
theorem dX14_ipIn_15 : decode cX14_ipIn 15 = .ok (.getfield 10, 3) := by decide +kernel
theorem dX14_ipIn_18 : decode cX14_ipIn 18 = .ok (.bipush 14, 2) := by decide +kernel
theorem dX14_ipIn_20 : decode cX14_ipIn 20 = .ok (.baload, 1) := by decide +kernel
theorem dX14_ipIn_21 : decode cX14_ipIn 21 = .ok (.sipush 240, 3) := by decide +kernel
theorem dX14_ipIn_24 : decode cX14_ipIn 24 = .ok (.iand, 1) := by decide +kernel
theorem dX14_ipIn_25 : decode cX14_ipIn 25 = .ok (.bipush 64, 2) := by decide +kernel
theorem dX14_ipIn_27 : decode cX14_ipIn 27 = .ok (.if_icmp .eq 4, 3) := by decide +kernel
theorem dX14_ipIn_30 : decode cX14_ipIn 30 = .ok (.return_, 1) := by decide +kernel
theorem dX14_ipIn_31 : decode cX14_ipIn 31 = .ok (.iconst 4, 1) := by decide +kernel
theorem dX14_ipIn_32 : decode cX14_ipIn 32 = .ok (.aload_n 0, 1) := by decide +kernel
theorem dX14_ipIn_33 : decode cX14_ipIn 33 = .ok (.getfield 10, 3) := by decide +kernel
theorem dX14_ipIn_36 : decode cX14_ipIn 36 = .ok (.bipush 14, 2) := by decide +kernel
theorem dX14_ipIn_38 : decode cX14_ipIn 38 = .ok (.baload, 1) := by decide +kernel
theorem dX14_ipIn_39 : decode cX14_ipIn 39 = .ok (.bipush 15, 2) := by decide +kernel
theorem dX14_ipIn_41 : decode cX14_ipIn 41 = .ok (.iand, 1) := by decide +kernel
theorem dX14_ipIn_42 : decode cX14_ipIn 42 = .ok (.imul, 1) := by decide +kernel
theorem dX14_ipIn_43 : decode cX14_ipIn 43 = .ok (.istore_n 2, 1) := by decide +kernel
theorem dX14_ipIn_44 : decode cX14_ipIn 44 = .ok (.aload_n 0, 1) := by decide +kernel
theorem dX14_ipIn_45 : decode cX14_ipIn 45 = .ok (.bipush 16, 2) := by decide +kernel
theorem dX14_ipIn_47 : decode cX14_ipIn 47 = .ok (.invokevirtual 210, 3) := by decide +kernel
theorem dX14_ipIn_50 : decode cX14_ipIn 50 = .ok (.istore_n 3, 1) := by decide +kernel
theorem dX14_ipIn_51 : decode cX14_ipIn 51 = .ok (.iload_n 2, 1) := by decide +kernel
theorem dX14_ipIn_52 : decode cX14_ipIn 52 = .ok (.bipush 20, 2) := by decide +kernel
theorem dX14_ipIn_54 : decode cX14_ipIn 54 = .ok (.if_icmp .lt 30, 3) := by decide +kernel
theorem dX14_ipIn_57 : decode cX14_ipIn 57 = .ok (.iload_n 3, 1) := by decide +kernel
theorem dX14_ipIn_58 : decode cX14_ipIn 58 = .ok (.iload_n 2, 1) := by decide +kernel
theorem dX14_ipIn_59 : decode cX14_ipIn 59 = .ok (.if_icmp .lt 25, 3) := by decide +kernel
theorem dX14_ipIn_62 : decode cX14_ipIn 62 = .ok (.iload_n 3, 1) := by decide +kernel
theorem dX14_ipIn_63 : decode cX14_ipIn 63 = .ok (.iload_n 1, 1) := by decide +kernel
theorem dX14_ipIn_64 : decode cX14_ipIn 64 = .ok (.if_icmp .gt 20, 3) := by decide +kernel
theorem dX14_ipIn_67 : decode cX14_ipIn 67 = .ok (.aload_n 0, 1) := by decide +kernel
theorem dX14_ipIn_68 : decode cX14_ipIn 68 = .ok (.getfield 10, 3) := by decide +kernel
theorem dX14_ipIn_71 : decode cX14_ipIn 71 = .ok (.bipush 14, 2) := by decide +kernel
theorem dX14_ipIn_73 : decode cX14_ipIn 73 = .ok (.iload_n 2, 1) := by decide +kernel
theorem dX14_ipIn_74 : decode cX14_ipIn 74 = .ok (.lconst 0, 1) := by decide +kernel
theorem dX14_ipIn_75 : decode cX14_ipIn 75 = .ok (.invokestatic 216, 3) := by decide +kernel
theorem dX14_ipIn_78 : decode cX14_ipIn 78 = .ok (.invokestatic 220, 3) := by decide +kernel
theorem dX14_ipIn_81 : decode cX14_ipIn 81 = .ok (.ifCond .eq 4, 3) := by decide +kernel
theorem dX14_ipIn_84 : decode cX14_ipIn 84 = .ok (.return_, 1) := by decide +kernel
theorem dX14_ipIn_85 : decode cX14_ipIn 85 = .ok (.aload_n 0, 1) := by decide +kernel
theorem dX14_ipIn_86 : decode cX14_ipIn 86 = .ok (.bipush 26, 2) := by decide +kernel
theorem dX14_ipIn_88 : decode cX14_ipIn 88 = .ok (.invokevirtual 206, 3) := by decide +kernel
theorem dX14_ipIn_91 : decode cX14_ipIn 91 = .ok (.istore 4, 2) := by decide +kernel
theorem dX14_ipIn_93 : decode cX14_ipIn 93 = .ok (.aload_n 0, 1) := by decide +kernel
theorem dX14_ipIn_94 : decode cX14_ipIn 94 = .ok (.bipush 30, 2) := by decide +kernel
theorem dX14_ipIn_96 : decode cX14_ipIn 96 = .ok (.invokevirtual 206, 3) := by decide +kernel
theorem dX14_ipIn_99 : decode cX14_ipIn 99 = .ok (.aload_n 0, 1) := by decide +kernel
theorem dX14_ipIn_100 : decode cX14_ipIn 100 = .ok (.getfield 119, 3) := by decide +kernel
theorem dX14_ipIn_103 : decode cX14_ipIn 103 = .ok (.if_icmp .ne 20, 3) := by decide +kernel
theorem dX14_ipIn_106 : decode cX14_ipIn 106 = .ok (.iload 4, 2) := by decide +kernel
theorem dX14_ipIn_108 : decode cX14_ipIn 108 = .ok (.aload_n 0, 1) := by decide +kernel
theorem dX14_ipIn_109 : decode cX14_ipIn 109 = .ok (.getfield 119, 3) := by decide +kernel
theorem dX14_ipIn_112 : decode cX14_ipIn 112 = .ok (.if_icmp .eq 11, 3) := by decide +kernel
theorem dX14_ipIn_115 : decode cX14_ipIn 115 = .ok (.iload 4, 2) := by decide +kernel
theorem dX14_ipIn_117 : decode cX14_ipIn 117 = .ok (.invokestatic 111, 3) := by decide +kernel
theorem dX14_ipIn_120 : decode cX14_ipIn 120 = .ok (.ifCond .ne 4, 3) := by decide +kernel
theorem dX14_ipIn_123 : decode cX14_ipIn 123 = .ok (.return_, 1) := by decide +kernel
theorem dX14_ipIn_124 : decode cX14_ipIn 124 = .ok (.bipush 8, 2) := by decide +kernel
theorem dX14_ipIn_126 : decode cX14_ipIn 126 = .ok (.aload_n 0, 1) := by decide +kernel
theorem dX14_ipIn_127 : decode cX14_ipIn 127 = .ok (.bipush 20, 2) := by decide +kernel
theorem dX14_ipIn_129 : decode cX14_ipIn 129 = .ok (.invokevirtual 210, 3) := by decide +kernel
theorem dX14_ipIn_132 : decode cX14_ipIn 132 = .ok (.sipush 8191, 3) := by decide +kernel
theorem dX14_ipIn_135 : decode cX14_ipIn 135 = .ok (.iand, 1) := by decide +kernel
theorem dX14_ipIn_136 : decode cX14_ipIn 136 = .ok (.imul, 1) := by decide +kernel
theorem dX14_ipIn_137 : decode cX14_ipIn 137 = .ok (.istore 5, 2) := by decide +kernel
theorem dX14_ipIn_139 : decode cX14_ipIn 139 = .ok (.aload_n 0, 1) := by decide +kernel
theorem dX14_ipIn_140 : decode cX14_ipIn 140 = .ok (.bipush 20, 2) := by decide +kernel
theorem dX14_ipIn_142 : decode cX14_ipIn 142 = .ok (.invokevirtual 210, 3) := by decide +kernel
theorem dX14_ipIn_145 : decode cX14_ipIn 145 = .ok (.sipush 8192, 3) := by decide +kernel
theorem dX14_ipIn_148 : decode cX14_ipIn 148 = .ok (.iand, 1) := by decide +kernel
theorem dX14_ipIn_149 : decode cX14_ipIn 149 = .ok (.ifCond .eq 7, 3) := by decide +kernel
theorem dX14_ipIn_152 : decode cX14_ipIn 152 = .ok (.iconst 1, 1) := by decide +kernel
theorem dX14_ipIn_153 : decode cX14_ipIn 153 = .ok (.goto 4, 3) := by decide +kernel
theorem dX14_ipIn_156 : decode cX14_ipIn 156 = .ok (.iconst 0, 1) := by decide +kernel
theorem dX14_ipIn_157 : decode cX14_ipIn 157 = .ok (.istore 6, 2) := by decide +kernel
theorem dX14_ipIn_159 : decode cX14_ipIn 159 = .ok (.iload_n 3, 1) := by decide +kernel
theorem dX14_ipIn_160 : decode cX14_ipIn 160 = .ok (.iload_n 2, 1) := by decide +kernel
theorem dX14_ipIn_161 : decode cX14_ipIn 161 = .ok (.isub, 1) := by decide +kernel
theorem dX14_ipIn_162 : decode cX14_ipIn 162 = .ok (.istore 7, 2) := by decide +kernel
theorem dX14_ipIn_164 : decode cX14_ipIn 164 = .ok (.aload_n 0, 1) := by decide +kernel
theorem dX14_ipIn_165 : decode cX14_ipIn 165 = .ok (.getfield 10, 3) := by decide +kernel
theorem dX14_ipIn_168 : decode cX14_ipIn 168 = .ok (.bipush 23, 2) := by decide +kernel
theorem dX14_ipIn_170 : decode cX14_ipIn 170 = .ok (.baload, 1) := by decide +kernel
theorem dX14_ipIn_171 : decode cX14_ipIn 171 = .ok (.sipush 255, 3) := by decide +kernel
theorem dX14_ipIn_174 : decode cX14_ipIn 174 = .ok (.iand, 1) := by decide +kernel
theorem dX14_ipIn_175 : decode cX14_ipIn 175 = .ok (.istore 8, 2) := by decide +kernel
theorem dX14_ipIn_177 : decode cX14_ipIn 177 = .ok (.iload 6, 2) := by decide +kernel
theorem dX14_ipIn_179 : decode cX14_ipIn 179 = .ok (.ifCond .ne 77, 3) := by decide +kernel
theorem dX14_ipIn_182 : decode cX14_ipIn 182 = .ok (.iload 5, 2) := by decide +kernel
theorem dX14_ipIn_184 : decode cX14_ipIn 184 = .ok (.ifCond .ne 72, 3) := by decide +kernel
theorem dX14_ipIn_187 : decode cX14_ipIn 187 = .ok (.iload 7, 2) := by decide +kernel
theorem dX14_ipIn_189 : decode cX14_ipIn 189 = .ok (.sipush 4096, 3) := by decide +kernel
theorem dX14_ipIn_192 : decode cX14_ipIn 192 = .ok (.if_icmp .le 14, 3) := by decide +kernel
theorem dX14_ipIn_195 : decode cX14_ipIn 195 = .ok (.aload_n 0, 1) := by decide +kernel
theorem dX14_ipIn_196 : decode cX14_ipIn 196 = .ok (.dup, 1) := by decide +kernel
theorem dX14_ipIn_197 : decode cX14_ipIn 197 = .ok (.getfield 146, 3) := by decide +kernel
theorem dX14_ipIn_200 : decode cX14_ipIn 200 = .ok (.iconst 1, 1) := by decide +kernel
theorem dX14_ipIn_201 : decode cX14_ipIn 201 = .ok (.iadd, 1) := by decide +kernel
theorem dX14_ipIn_202 : decode cX14_ipIn 202 = .ok (.putfield 146, 3) := by decide +kernel
theorem dX14_ipIn_205 : decode cX14_ipIn 205 = .ok (.return_, 1) := by decide +kernel
theorem dX14_ipIn_206 : decode cX14_ipIn 206 = .ok (.iconst 0, 1) := by decide +kernel
theorem dX14_ipIn_207 : decode cX14_ipIn 207 = .ok (.istore 9, 2) := by decide +kernel
theorem dX14_ipIn_209 : decode cX14_ipIn 209 = .ok (.iload 9, 2) := by decide +kernel
theorem dX14_ipIn_211 : decode cX14_ipIn 211 = .ok (.iload 7, 2) := by decide +kernel
theorem dX14_ipIn_213 : decode cX14_ipIn 213 = .ok (.if_icmp .ge 28, 3) := by decide +kernel
theorem dX14_ipIn_216 : decode cX14_ipIn 216 = .ok (.aload_n 0, 1) := by decide +kernel
theorem dX14_ipIn_217 : decode cX14_ipIn 217 = .ok (.getfield 65, 3) := by decide +kernel
theorem dX14_ipIn_220 : decode cX14_ipIn 220 = .ok (.iload 9, 2) := by decide +kernel
theorem dX14_ipIn_222 : decode cX14_ipIn 222 = .ok (.aload_n 0, 1) := by decide +kernel
theorem dX14_ipIn_223 : decode cX14_ipIn 223 = .ok (.getfield 10, 3) := by decide +kernel
theorem dX14_ipIn_226 : decode cX14_ipIn 226 = .ok (.bipush 14, 2) := by decide +kernel
theorem dX14_ipIn_228 : decode cX14_ipIn 228 = .ok (.iload_n 2, 1) := by decide +kernel
theorem dX14_ipIn_229 : decode cX14_ipIn 229 = .ok (.iadd, 1) := by decide +kernel
theorem dX14_ipIn_230 : decode cX14_ipIn 230 = .ok (.iload 9, 2) := by decide +kernel
theorem dX14_ipIn_232 : decode cX14_ipIn 232 = .ok (.iadd, 1) := by decide +kernel
theorem dX14_ipIn_233 : decode cX14_ipIn 233 = .ok (.baload, 1) := by decide +kernel
theorem dX14_ipIn_234 : decode cX14_ipIn 234 = .ok (.bastore, 1) := by decide +kernel
theorem dX14_ipIn_235 : decode cX14_ipIn 235 = .ok (.iinc 9 1, 3) := by decide +kernel
theorem dX14_ipIn_238 : decode cX14_ipIn 238 = .ok (.goto (-29), 3) := by decide +kernel
theorem dX14_ipIn_241 : decode cX14_ipIn 241 = .ok (.aload_n 0, 1) := by decide +kernel
theorem dX14_ipIn_242 : decode cX14_ipIn 242 = .ok (.iload 4, 2) := by decide +kernel
theorem dX14_ipIn_244 : decode cX14_ipIn 244 = .ok (.putfield 240, 3) := by decide +kernel
theorem dX14_ipIn_247 : decode cX14_ipIn 247 = .ok (.aload_n 0, 1) := by decide +kernel
theorem dX14_ipIn_248 : decode cX14_ipIn 248 = .ok (.iload 8, 2) := by decide +kernel
theorem dX14_ipIn_250 : decode cX14_ipIn 250 = .ok (.iload 7, 2) := by decide +kernel
theorem dX14_ipIn_252 : decode cX14_ipIn 252 = .ok (.invokevirtual 243, 3) := by decide +kernel
theorem dX14_ipIn_255 : decode cX14_ipIn 255 = .ok (.return_, 1) := by decide +kernel
theorem dX14_ipIn_256 : decode cX14_ipIn 256 = .ok (.iload 6, 2) := by decide +kernel
theorem dX14_ipIn_258 : decode cX14_ipIn 258 = .ok (.ifCond .eq 16, 3) := by decide +kernel
theorem dX14_ipIn_261 : decode cX14_ipIn 261 = .ok (.iload 7, 2) := by decide +kernel
theorem dX14_ipIn_263 : decode cX14_ipIn 263 = .ok (.ifCond .eq 22, 3) := by decide +kernel
theorem dX14_ipIn_266 : decode cX14_ipIn 266 = .ok (.iload 7, 2) := by decide +kernel
theorem dX14_ipIn_268 : decode cX14_ipIn 268 = .ok (.bipush 8, 2) := by decide +kernel
theorem dX14_ipIn_270 : decode cX14_ipIn 270 = .ok (.irem, 1) := by decide +kernel
theorem dX14_ipIn_271 : decode cX14_ipIn 271 = .ok (.ifCond .ne 14, 3) := by decide +kernel
theorem dX14_ipIn_274 : decode cX14_ipIn 274 = .ok (.iload 5, 2) := by decide +kernel
theorem dX14_ipIn_276 : decode cX14_ipIn 276 = .ok (.iload 7, 2) := by decide +kernel
theorem dX14_ipIn_278 : decode cX14_ipIn 278 = .ok (.iadd, 1) := by decide +kernel
theorem dX14_ipIn_279 : decode cX14_ipIn 279 = .ok (.sipush 4096, 3) := by decide +kernel
theorem dX14_ipIn_282 : decode cX14_ipIn 282 = .ok (.if_icmp .le 4, 3) := by decide +kernel
theorem dX14_ipIn_285 : decode cX14_ipIn 285 = .ok (.return_, 1) := by decide +kernel
theorem dX14_ipIn_286 : decode cX14_ipIn 286 = .ok (.aload_n 0, 1) := by decide +kernel
theorem dX14_ipIn_287 : decode cX14_ipIn 287 = .ok (.iload 4, 2) := by decide +kernel
theorem dX14_ipIn_289 : decode cX14_ipIn 289 = .ok (.iload 8, 2) := by decide +kernel
theorem dX14_ipIn_291 : decode cX14_ipIn 291 = .ok (.iload 5, 2) := by decide +kernel
theorem dX14_ipIn_293 : decode cX14_ipIn 293 = .ok (.bipush 14, 2) := by decide +kernel
theorem dX14_ipIn_295 : decode cX14_ipIn 295 = .ok (.iload_n 2, 1) := by decide +kernel
theorem dX14_ipIn_296 : decode cX14_ipIn 296 = .ok (.iadd, 1) := by decide +kernel
theorem dX14_ipIn_297 : decode cX14_ipIn 297 = .ok (.iload 7, 2) := by decide +kernel
theorem dX14_ipIn_299 : decode cX14_ipIn 299 = .ok (.iload 6, 2) := by decide +kernel
theorem dX14_ipIn_301 : decode cX14_ipIn 301 = .ok (.invokevirtual 247, 3) := by decide +kernel
theorem dX14_ipIn_304 : decode cX14_ipIn 304 = .ok (.return_, 1) := by decide +kernel
def rmX14_ipIn : Room := { frames := 14, cells := 0, slots := 0, locals := 334 }
theorem kX14_ipIn : yX14_ipIn.cls = "WebHostModel" ∧ yX14_ipIn.cls ≠ "java/lang/invoke/MethodHandle" ∧ yX14_ipIn.cls ≠ "java/lang/invoke/VarHandle" ∧ (parseMethodDescriptor yX14_ipIn.desc).map (fun d => d.parameters.length) = some 0 := by decide +kernel
def w14_ipIn_J274 (σ : St) (x2 : Int32) (x4 : Int32) (x5 : Int32) (x6 : Int32) (x7 : Int32) (x8 : Int32) (Q : St → Prop) : Prop := ((x5 + x7) ≤ 4096 → (w14_fragment σ x4 x8 x5 (14 + x2) x7 x6 (fun σ9 => (Q σ9)))) ∧ (¬ (x5 + x7) ≤ 4096 → Q σ)
set_option maxHeartbeats 4000000 in
theorem k14_ipIn_J274 {p : Program} {l : Launch} {e : Env} {s : State} {m : MethodId} {args : Array Value} {below : List Frame} {meth : Method} {c : Code} {G : Gh} {a1 : Nat → Nat → Nat} {τ : St} {Q : St → Prop} (C : Cx p e s m args meth c cX14_ipIn 10 none "WebHostModel" G) (σ : St) (x2 : Int32) (x4 : Int32) (x5 : Int32) (x6 : Int32) (x7 : Int32) (x8 : Int32) (hw : w14_ipIn_J274 σ x2 x4 x5 x6 x7 x8 Q) (H : Heap) (locs : List Loc) (ls : Array Slot) (hH : Hd G a1 (cmb τ σ) H) (hS : va_S (gA G) s.heap H locs) (hl : lv_has ls 10 [(0, .ref (ga G 14 0)), (2, .int x2), (4, .int x4), (5, .int x5), (6, .int x6), (7, .int x7), (8, .int x8)]) : W p l e rmX14_ipIn s m args below meth c H locs 0 0 (MQ below (QVs G a1 (fun u => cmb τ u) Q) args s 0 0 (gA G)) (F0 m 274 ls []) := by
  have hx := C.1
  have hb := C.2.1
  have hown := C.2.2.2.2.2.1
  have hts := C.2.2.2.2.2.2.1
  refine lv_iload hx hb dX14_ipIn_274 (lv_at hl 3 rfl) ?_
  refine lv_iload hx hb dX14_ipIn_276 (lv_at hl 5 rfl) ?_
  refine lv_iadd hx hb dX14_ipIn_278 ?_
  refine lv_sipush (v := 4096) hx hb dX14_ipIn_279 (by decide) ?_
  refine lv_icmp_le (tgt := 286) hx hb dX14_ipIn_282 (by decide) (fun h => ?_) (fun h => ?_)
  · have hw := hw.1 h
    refine lv_aload_n hx hb dX14_ipIn_286 rfl (lv_at hl 0 rfl) ?_
    refine lv_iload hx hb dX14_ipIn_287 (lv_at hl 2 rfl) ?_
    refine lv_iload hx hb dX14_ipIn_289 (lv_at hl 6 rfl) ?_
    refine lv_iload hx hb dX14_ipIn_291 (lv_at hl 3 rfl) ?_
    refine lv_bipush (v := 14) hx hb dX14_ipIn_293 (by decide) ?_
    refine lv_iload_n hx hb dX14_ipIn_295 rfl (lv_at hl 1 rfl) ?_
    refine lv_iadd hx hb dX14_ipIn_296 ?_
    refine lv_iload hx hb dX14_ipIn_297 (lv_at hl 5 rfl) ?_
    refine lv_iload hx hb dX14_ipIn_299 (lv_at hl 4 rfl) ?_
    refine kc_v (rn_v (As := [.int x4, .int x8, .int x5, .int (14 + x2), .int x7, .int x6]) (rest := []) C hH hS (by decide) rfl (by decide) (m14_fragment l G a1 τ σ x4 x8 x5 (14 + x2) x7 x6 _ hw) (cwV 6 hts (lw_V q2610 q2612 qs154 q171 q2613) rfl rfl rfl kX14_fragment ⟨Nat.le_of_ble_eq_true rfl, Nat.le_of_ble_eq_true rfl⟩) rfl hl.1 rfl (Nat.le_of_ble_eq_true rfl) dX14_ipIn_301 ⟨Nat.le_of_ble_eq_true rfl, Nat.le_of_ble_eq_true rfl⟩) hS (fun σ9 H locs hw hH hS => ?_)
    exact rt_v C hH hS hw dX14_ipIn_304
  have hw := hw.2 h
  exact rt_v C hH hS hw dX14_ipIn_285
def w14_ipIn_L209 (x2 : Int32) (x4 : Int32) (x7 : Int32) (x8 : Int32) (Q : St → Prop) (K241 : St → Prop) : Nat → St → Int32 → Prop
  | 0, _, _ => False
  | n + 1, σ, x9 => (x7 ≤ x9 → K241 σ) ∧ (¬ x7 ≤ x9 → (vp_in ((14 + x2) + x9) 65540 ∧ (by8 (σ 50 0 ((14 + x2) + x9).toNatClampNeg) → (vp_in x9 4096 ∧ (∀ σ10, σ10 = up3 σ 64 0 x9.toNatClampNeg (σ 50 0 ((14 + x2) + x9).toNatClampNeg).toInt8.toInt32 → (w14_ipIn_L209 x2 x4 x7 x8 Q K241 n σ10 (x9 + 1)))))))
set_option maxHeartbeats 4000000 in
theorem k14_ipIn_L209 {p : Program} {l : Launch} {e : Env} {s : State} {m : MethodId} {args : Array Value} {below : List Frame} {meth : Method} {c : Code} {G : Gh} {a1 : Nat → Nat → Nat} {τ : St} {Q : St → Prop} {K241 : St → Prop} (C : Cx p e s m args meth c cX14_ipIn 10 none "WebHostModel" G) (x2 : Int32) (x4 : Int32) (x7 : Int32) (x8 : Int32) :
    ∀ (n : Nat) (σ : St) (x9 : Int32), w14_ipIn_L209 x2 x4 x7 x8 Q K241 n σ x9 → ∀ (H : Heap) (locs : List Loc) (ls : Array Slot), Hd G a1 (cmb τ σ) H → va_S (gA G) s.heap H locs → lv_has ls 10 [(0, .ref (ga G 14 0)), (2, .int x2), (4, .int x4), (7, .int x7), (8, .int x8), (9, .int x9)] → (∀ (σ : St) , K241 σ → ∀ (H : Heap) (locs : List Loc) (ls : Array Slot), Hd G a1 (cmb τ σ) H → va_S (gA G) s.heap H locs → lv_has ls 10 [(0, .ref (ga G 14 0)), (4, .int x4), (7, .int x7), (8, .int x8)] → W p l e rmX14_ipIn s m args below meth c H locs 0 0 (MQ below (QVs G a1 (fun u => cmb τ u) Q) args s 0 0 (gA G)) (F0 m 241 ls [])) → W p l e rmX14_ipIn s m args below meth c H locs 0 0 (MQ below (QVs G a1 (fun u => cmb τ u) Q) args s 0 0 (gA G)) (F0 m 209 ls []) := by
  have hx := C.1
  have hb := C.2.1
  have hown := C.2.2.2.2.2.1
  have hts := C.2.2.2.2.2.2.1
  intro n
  induction n with
  | zero =>
    intro σ x9 hw
    exact False.elim hw
  | succ n ih =>
    intro σ x9 hw H locs ls hH hS hl hK241
    refine lv_iload hx hb dX14_ipIn_209 (lv_at hl 5 rfl) ?_
    refine lv_iload hx hb dX14_ipIn_211 (lv_at hl 3 rfl) ?_
    refine lv_icmp_ge (tgt := 241) hx hb dX14_ipIn_213 (by decide) (fun h => ?_) (fun h => ?_)
    · have hw := hw.1 h
      exact hK241 σ hw H locs ls hH hS (lv_sub hl [0, 2, 3, 4] rfl)
    have hw := hw.2 h
    refine lv_aload_n hx hb dX14_ipIn_216 rfl (lv_at hl 0 rfl) ?_
    refine g14_29 C hH q1969 dX14_ipIn_217 ?_
    refine lv_iload hx hb dX14_ipIn_220 (lv_at hl 5 rfl) ?_
    refine lv_aload_n hx hb dX14_ipIn_222 rfl (lv_at hl 0 rfl) ?_
    refine g14_0 C hH q1940 dX14_ipIn_223 ?_
    refine lv_bipush (v := 14) hx hb dX14_ipIn_226 (by decide) ?_
    refine lv_iload_n hx hb dX14_ipIn_228 rfl (lv_at hl 1 rfl) ?_
    refine lv_iadd hx hb dX14_ipIn_229 ?_
    refine lv_iload hx hb dX14_ipIn_230 (lv_at hl 5 rfl) ?_
    refine lv_iadd hx hb dX14_ipIn_232 ?_
    refine l50 C hH hw.1 dX14_ipIn_233 (fun hz => ?_)
    have hw := hw.2 hz
    refine s64 C hH hS hw.1 dX14_ipIn_234 (fun σ10 e10 H locs hH hS => ?_)
    have hw := hw.2 σ10 e10
    refine lv_iinc (v := x9 + 1) (lv' := [(9, .int (x9 + 1)), (0, .ref (ga G 14 0)), (2, .int x2), (4, .int x4), (7, .int x7), (8, .int x8)]) hx hb dX14_ipIn_235 hl (k := 5) rfl rfl (by decide) rfl (fun ls hl => ?_)
    refine lv_goto (tgt := 209) hx hb dX14_ipIn_238 (by decide) ?_
    exact ih σ10 (x9 + 1) hw H locs ls hH hS (lv_sub hl [1, 2, 3, 4, 5, 0] rfl) hK241
def w14_ipIn_J157 (σ : St) (x2 : Int32) (x3 : Int32) (x4 : Int32) (x5 : Int32) (xs0 : Int32) (Q : St → Prop) : Prop := vp_in 23 65540 ∧ (by8 (σ 50 0 (23 : Int32).toNatClampNeg) → ((¬ xs0 = 0 → ((xs0 = 0 → (w14_ipIn_J274 σ x2 x4 x5 xs0 (x3 - x2) ((σ 50 0 (23 : Int32).toNatClampNeg) &&& 255) Q)) ∧ (¬ xs0 = 0 → (((x3 - x2) = 0 → Q σ) ∧ (¬ (x3 - x2) = 0 → ((¬ ((x3 - x2) - (x3 - x2) / 8 * 8) = 0 → Q σ) ∧ (((x3 - x2) - (x3 - x2) / 8 * 8) = 0 → (w14_ipIn_J274 σ x2 x4 x5 xs0 (x3 - x2) ((σ 50 0 (23 : Int32).toNatClampNeg) &&& 255) Q)))))))) ∧ (xs0 = 0 → ((¬ x5 = 0 → ((xs0 = 0 → (w14_ipIn_J274 σ x2 x4 x5 xs0 (x3 - x2) ((σ 50 0 (23 : Int32).toNatClampNeg) &&& 255) Q)) ∧ (¬ xs0 = 0 → (((x3 - x2) = 0 → Q σ) ∧ (¬ (x3 - x2) = 0 → ((¬ ((x3 - x2) - (x3 - x2) / 8 * 8) = 0 → Q σ) ∧ (((x3 - x2) - (x3 - x2) / 8 * 8) = 0 → (w14_ipIn_J274 σ x2 x4 x5 xs0 (x3 - x2) ((σ 50 0 (23 : Int32).toNatClampNeg) &&& 255) Q)))))))) ∧ (x5 = 0 → (((x3 - x2) ≤ 4096 → (∃ z11, w14_ipIn_L209 x2 x4 (x3 - x2) ((σ 50 0 (23 : Int32).toNatClampNeg) &&& 255) Q (fun σ12 => ∀ σ13, σ13 = up3 σ12 14 0 30 x4 → (w14_taken σ13 ((σ 50 0 (23 : Int32).toNatClampNeg) &&& 255) (x3 - x2) (fun σ14 => (Q σ14)))) z11 σ 0)) ∧ (¬ (x3 - x2) ≤ 4096 → (∀ σ15, σ15 = up3 σ 14 0 18 ((σ 14 0 18) + 1) → (Q σ15)))))))))
set_option maxHeartbeats 4000000 in
theorem k14_ipIn_J157 {p : Program} {l : Launch} {e : Env} {s : State} {m : MethodId} {args : Array Value} {below : List Frame} {meth : Method} {c : Code} {G : Gh} {a1 : Nat → Nat → Nat} {τ : St} {Q : St → Prop} (C : Cx p e s m args meth c cX14_ipIn 10 none "WebHostModel" G) (σ : St) (x2 : Int32) (x3 : Int32) (x4 : Int32) (x5 : Int32) (xs0 : Int32) (hw : w14_ipIn_J157 σ x2 x3 x4 x5 xs0 Q) (H : Heap) (locs : List Loc) (ls : Array Slot) (hH : Hd G a1 (cmb τ σ) H) (hS : va_S (gA G) s.heap H locs) (hl : lv_has ls 10 [(0, .ref (ga G 14 0)), (2, .int x2), (3, .int x3), (4, .int x4), (5, .int x5)]) : W p l e rmX14_ipIn s m args below meth c H locs 0 0 (MQ below (QVs G a1 (fun u => cmb τ u) Q) args s 0 0 (gA G)) (F0 m 157 ls [.int xs0]) := by
  have hx := C.1
  have hb := C.2.1
  have hown := C.2.2.2.2.2.1
  have hts := C.2.2.2.2.2.2.1
  refine lv_istore (lv' := [(6, .int xs0), (0, .ref (ga G 14 0)), (2, .int x2), (3, .int x3), (4, .int x4), (5, .int x5)]) hx hb dX14_ipIn_157 hl (by decide) rfl (fun ls hl => ?_)
  refine lv_iload_n hx hb dX14_ipIn_159 rfl (lv_at hl 3 rfl) ?_
  refine lv_iload_n hx hb dX14_ipIn_160 rfl (lv_at hl 2 rfl) ?_
  refine lv_isub hx hb dX14_ipIn_161 ?_
  refine lv_istore (lv' := [(7, .int (x3 - x2)), (6, .int xs0), (0, .ref (ga G 14 0)), (2, .int x2), (3, .int x3), (4, .int x4), (5, .int x5)]) hx hb dX14_ipIn_162 hl (by decide) rfl (fun ls hl => ?_)
  refine lv_aload_n hx hb dX14_ipIn_164 rfl (lv_at hl 2 rfl) ?_
  refine g14_0 C hH q1940 dX14_ipIn_165 ?_
  refine lv_bipush (v := 23) hx hb dX14_ipIn_168 (by decide) ?_
  refine l50 C hH hw.1 dX14_ipIn_170 (fun hz => ?_)
  have hw := hw.2 hz
  refine lv_sipush (v := 255) hx hb dX14_ipIn_171 (by decide) ?_
  refine lv_iand hx hb dX14_ipIn_174 ?_
  refine lv_istore (lv' := [(8, .int ((σ 50 0 (23 : Int32).toNatClampNeg) &&& 255)), (7, .int (x3 - x2)), (6, .int xs0), (0, .ref (ga G 14 0)), (2, .int x2), (3, .int x3), (4, .int x4), (5, .int x5)]) hx hb dX14_ipIn_175 hl (by decide) rfl (fun ls hl => ?_)
  refine lv_iload hx hb dX14_ipIn_177 (lv_at hl 2 rfl) ?_
  refine lv_if_ne (tgt := 256) hx hb dX14_ipIn_179 (by decide) (fun h => ?_) (fun h => ?_)
  · have hw := hw.1 h
    refine lv_iload hx hb dX14_ipIn_256 (lv_at hl 2 rfl) ?_
    refine lv_if_eq (tgt := 274) hx hb dX14_ipIn_258 (by decide) (fun h => ?_) (fun h => ?_)
    · have hw := hw.1 h
      exact k14_ipIn_J274 C σ x2 x4 x5 xs0 (x3 - x2) ((σ 50 0 (23 : Int32).toNatClampNeg) &&& 255) hw H locs ls hH hS (lv_sub hl [3, 4, 6, 7, 2, 1, 0] rfl)
    have hw := hw.2 h
    refine lv_iload hx hb dX14_ipIn_261 (lv_at hl 1 rfl) ?_
    refine lv_if_eq (tgt := 285) hx hb dX14_ipIn_263 (by decide) (fun h => ?_) (fun h => ?_)
    · have hw := hw.1 h
      exact rt_v C hH hS hw dX14_ipIn_285
    have hw := hw.2 h
    refine lv_iload hx hb dX14_ipIn_266 (lv_at hl 1 rfl) ?_
    refine lv_bipush (v := 8) hx hb dX14_ipIn_268 (by decide) ?_
    refine lv_irem hx hb dX14_ipIn_270 (by decide) ?_
    refine lv_if_ne (tgt := 285) hx hb dX14_ipIn_271 (by decide) (fun h => ?_) (fun h => ?_)
    · have hw := hw.1 h
      exact rt_v C hH hS hw dX14_ipIn_285
    have hw := hw.2 h
    exact k14_ipIn_J274 C σ x2 x4 x5 xs0 (x3 - x2) ((σ 50 0 (23 : Int32).toNatClampNeg) &&& 255) hw H locs ls hH hS (lv_sub hl [3, 4, 6, 7, 2, 1, 0] rfl)
  have hw := hw.2 h
  refine lv_iload hx hb dX14_ipIn_182 (lv_at hl 7 rfl) ?_
  refine lv_if_ne (tgt := 256) hx hb dX14_ipIn_184 (by decide) (fun h => ?_) (fun h => ?_)
  · have hw := hw.1 h
    refine lv_iload hx hb dX14_ipIn_256 (lv_at hl 2 rfl) ?_
    refine lv_if_eq (tgt := 274) hx hb dX14_ipIn_258 (by decide) (fun h => ?_) (fun h => ?_)
    · have hw := hw.1 h
      exact k14_ipIn_J274 C σ x2 x4 x5 xs0 (x3 - x2) ((σ 50 0 (23 : Int32).toNatClampNeg) &&& 255) hw H locs ls hH hS (lv_sub hl [3, 4, 6, 7, 2, 1, 0] rfl)
    have hw := hw.2 h
    refine lv_iload hx hb dX14_ipIn_261 (lv_at hl 1 rfl) ?_
    refine lv_if_eq (tgt := 285) hx hb dX14_ipIn_263 (by decide) (fun h => ?_) (fun h => ?_)
    · have hw := hw.1 h
      exact rt_v C hH hS hw dX14_ipIn_285
    have hw := hw.2 h
    refine lv_iload hx hb dX14_ipIn_266 (lv_at hl 1 rfl) ?_
    refine lv_bipush (v := 8) hx hb dX14_ipIn_268 (by decide) ?_
    refine lv_irem hx hb dX14_ipIn_270 (by decide) ?_
    refine lv_if_ne (tgt := 285) hx hb dX14_ipIn_271 (by decide) (fun h => ?_) (fun h => ?_)
    · have hw := hw.1 h
      exact rt_v C hH hS hw dX14_ipIn_285
    have hw := hw.2 h
    exact k14_ipIn_J274 C σ x2 x4 x5 xs0 (x3 - x2) ((σ 50 0 (23 : Int32).toNatClampNeg) &&& 255) hw H locs ls hH hS (lv_sub hl [3, 4, 6, 7, 2, 1, 0] rfl)
  have hw := hw.2 h
  refine lv_iload hx hb dX14_ipIn_187 (lv_at hl 1 rfl) ?_
  refine lv_sipush (v := 4096) hx hb dX14_ipIn_189 (by decide) ?_
  refine lv_icmp_le (tgt := 206) hx hb dX14_ipIn_192 (by decide) (fun h => ?_) (fun h => ?_)
  · have hw := hw.1 h
    refine lv_iconst (v := 0) hx hb dX14_ipIn_206 (by decide) ?_
    refine lv_istore (lv' := [(9, .int 0), (8, .int ((σ 50 0 (23 : Int32).toNatClampNeg) &&& 255)), (7, .int (x3 - x2)), (6, .int xs0), (0, .ref (ga G 14 0)), (2, .int x2), (3, .int x3), (4, .int x4), (5, .int x5)]) hx hb dX14_ipIn_207 hl (by decide) rfl (fun ls hl => ?_)
    obtain ⟨n11, hw⟩ := hw
    refine k14_ipIn_L209 C x2 x4 (x3 - x2) ((σ 50 0 (23 : Int32).toNatClampNeg) &&& 255) n11 σ 0 hw H locs ls hH hS (lv_sub hl [4, 5, 7, 2, 1, 0] rfl) (fun σ12 hw H locs ls hH hS hl => ?_)
    refine lv_aload_n hx hb dX14_ipIn_241 rfl (lv_at hl 0 rfl) ?_
    refine lv_iload hx hb dX14_ipIn_242 (lv_at hl 1 rfl) ?_
    refine p14_30 C hH hS q1970 dX14_ipIn_244 (fun σ13 e13 H locs hH hS => ?_)
    have hw := hw σ13 e13
    refine lv_aload_n hx hb dX14_ipIn_247 rfl (lv_at hl 0 rfl) ?_
    refine lv_iload hx hb dX14_ipIn_248 (lv_at hl 3 rfl) ?_
    refine lv_iload hx hb dX14_ipIn_250 (lv_at hl 2 rfl) ?_
    refine kc_v (rn_v (As := [.int ((σ 50 0 (23 : Int32).toNatClampNeg) &&& 255), .int (x3 - x2)]) (rest := []) C hH hS (by decide) rfl (by decide) (m14_taken l G a1 τ σ13 ((σ 50 0 (23 : Int32).toNatClampNeg) &&& 255) (x3 - x2) _ hw) (cwV 2 hts (lw_V q2349 q2351 qs110 q171 q2352) rfl rfl rfl kX14_taken ⟨Nat.le_of_ble_eq_true rfl, Nat.le_of_ble_eq_true rfl⟩) rfl hl.1 rfl (Nat.le_of_ble_eq_true rfl) dX14_ipIn_252 ⟨Nat.le_of_ble_eq_true rfl, Nat.le_of_ble_eq_true rfl⟩) hS (fun σ14 H locs hw hH hS => ?_)
    exact rt_v C hH hS hw dX14_ipIn_255
  have hw := hw.2 h
  refine lv_aload_n hx hb dX14_ipIn_195 rfl (lv_at hl 3 rfl) ?_
  refine lv_dup hx hb dX14_ipIn_196 rfl ?_
  refine g14_18 C hH q1958 dX14_ipIn_197 ?_
  refine lv_iconst (v := 1) hx hb dX14_ipIn_200 (by decide) ?_
  refine lv_iadd hx hb dX14_ipIn_201 ?_
  refine p14_18 C hH hS q1958 dX14_ipIn_202 (fun σ15 e15 H locs hH hS => ?_)
  have hw := hw σ15 e15
  exact rt_v C hH hS hw dX14_ipIn_205
def w14_ipIn (σ : St) (Q : St → Prop) : Prop := (((σ 14 0 1) - 14) < 20 → Q σ) ∧ (¬ ((σ 14 0 1) - 14) < 20 → (vp_in 14 65540 ∧ (by8 (σ 50 0 (14 : Int32).toNatClampNeg) → ((((σ 50 0 (14 : Int32).toNatClampNeg) &&& 240) = 64 → (vp_in 14 65540 ∧ (by8 (σ 50 0 (14 : Int32).toNatClampNeg) → (w14_trayHalf σ 16 (fun r1 => (((4 * ((σ 50 0 (14 : Int32).toNatClampNeg) &&& 15)) < 20 → Q σ) ∧ (¬ (4 * ((σ 50 0 (14 : Int32).toNatClampNeg) &&& 15)) < 20 → ((r1 < (4 * ((σ 50 0 (14 : Int32).toNatClampNeg) &&& 15)) → Q σ) ∧ (¬ r1 < (4 * ((σ 50 0 (14 : Int32).toNatClampNeg) &&& 15)) → ((((σ 14 0 1) - 14) < r1 → Q σ) ∧ (¬ ((σ 14 0 1) - 14) < r1 → (w14_added σ 50 0 14 (4 * ((σ 50 0 (14 : Int32).toNatClampNeg) &&& 15)) 0 (fun r2 => (w14_sixteen σ r2 (fun r3 => ((r3 = 0 → (w14_trayWord σ 26 (fun r4 => (w14_trayWord σ 30 (fun r5 => ((¬ r5 = (σ 14 0 5) → Q σ) ∧ (r5 = (σ 14 0 5) → ((r4 = (σ 14 0 5) → Q σ) ∧ (¬ r4 = (σ 14 0 5) → (w14_isHost σ r4 (fun r6 => ((¬ r6 = 0 → (w14_trayHalf σ 20 (fun r7 => (w14_trayHalf σ 20 (fun r8 => (((r8 &&& 8192) = 0 → (w14_ipIn_J157 σ (4 * ((σ 50 0 (14 : Int32).toNatClampNeg) &&& 15)) r1 r4 (8 * (r7 &&& 8191)) 0 Q)) ∧ (¬ (r8 &&& 8192) = 0 → (w14_ipIn_J157 σ (4 * ((σ 50 0 (14 : Int32).toNatClampNeg) &&& 15)) r1 r4 (8 * (r7 &&& 8191)) 1 Q)))))))) ∧ (r6 = 0 → Q σ))))))))))))) ∧ (¬ r3 = 0 → Q σ))))))))))))))))) ∧ (¬ ((σ 50 0 (14 : Int32).toNatClampNeg) &&& 240) = 64 → Q σ)))))
set_option maxHeartbeats 4000000 in
theorem m14_ipIn (l : Launch) (G : Gh) (a1 : Nat → Nat → Nat) (τ : St) (σ : St) (Q : St → Prop) (hw : w14_ipIn σ Q) : Met l yX14_ipIn (ws_ yX14_ipIn cX14_ipIn 10 none) rmX14_ipIn (PcS G a1 (cmb τ σ) [.ref (ga G 14 0)]) (QVs G a1 (fun u => cmb τ u) Q) 0 0 (gA G) := by
  refine met_w (by decide) (Nat.le_of_ble_eq_true rfl) ?_
  intro p e s m below meth c ls C hH hS hl
  have C : Cx p e s m _ meth c cX14_ipIn 10 none "WebHostModel" G := C
  have hl : lv_has ls 10 [(0, .ref (ga G 14 0))] := hl
  have hx := C.1
  have hb := C.2.1
  have hown := C.2.2.2.2.2.1
  have hts := C.2.2.2.2.2.2.1
  obtain ⟨locs, hlocs⟩ : ∃ z : List Loc, z = [] := ⟨_, rfl⟩
  obtain ⟨H, hHe⟩ : ∃ z : Heap, z = s.heap := ⟨_, rfl⟩
  have hH : Hd G a1 (cmb τ σ) H := by rw [hHe]; exact hH
  have hS : va_S (gA G) s.heap H locs := by rw [hHe, hlocs]; exact hS
  refine W.heap0 hHe.symm hlocs.symm ?_
  refine lv_aload_n hx hb dX14_ipIn_0 rfl (lv_at hl 0 rfl) ?_
  refine g14_1 C hH q1941 dX14_ipIn_1 ?_
  refine lv_bipush (v := 14) hx hb dX14_ipIn_4 (by decide) ?_
  refine lv_isub hx hb dX14_ipIn_6 ?_
  refine lv_istore_n (lv' := [(1, .int ((σ 14 0 1) - 14)), (0, .ref (ga G 14 0))]) hx hb dX14_ipIn_7 rfl hl (by decide) rfl (fun ls hl => ?_)
  refine lv_iload_n hx hb dX14_ipIn_8 rfl (lv_at hl 0 rfl) ?_
  refine lv_bipush (v := 20) hx hb dX14_ipIn_9 (by decide) ?_
  refine lv_icmp_lt (tgt := 30) hx hb dX14_ipIn_11 (by decide) (fun h => ?_) (fun h => ?_)
  · have hw := hw.1 h
    exact rt_v C hH hS hw dX14_ipIn_30
  have hw := hw.2 h
  refine lv_aload_n hx hb dX14_ipIn_14 rfl (lv_at hl 1 rfl) ?_
  refine g14_0 C hH q1940 dX14_ipIn_15 ?_
  refine lv_bipush (v := 14) hx hb dX14_ipIn_18 (by decide) ?_
  refine l50 C hH hw.1 dX14_ipIn_20 (fun hz => ?_)
  have hw := hw.2 hz
  refine lv_sipush (v := 240) hx hb dX14_ipIn_21 (by decide) ?_
  refine lv_iand hx hb dX14_ipIn_24 ?_
  refine lv_bipush (v := 64) hx hb dX14_ipIn_25 (by decide) ?_
  refine lv_icmp_eq (tgt := 31) hx hb dX14_ipIn_27 (by decide) (fun h => ?_) (fun h => ?_)
  · have hw := hw.1 h
    refine lv_iconst (v := 4) hx hb dX14_ipIn_31 (by decide) ?_
    refine lv_aload_n hx hb dX14_ipIn_32 rfl (lv_at hl 1 rfl) ?_
    refine g14_0 C hH q1940 dX14_ipIn_33 ?_
    refine lv_bipush (v := 14) hx hb dX14_ipIn_36 (by decide) ?_
    refine l50 C hH hw.1 dX14_ipIn_38 (fun hz => ?_)
    have hw := hw.2 hz
    refine lv_bipush (v := 15) hx hb dX14_ipIn_39 (by decide) ?_
    refine lv_iand hx hb dX14_ipIn_41 ?_
    refine lv_imul hx hb dX14_ipIn_42 ?_
    refine lv_istore_n (lv' := [(2, .int (4 * ((σ 50 0 (14 : Int32).toNatClampNeg) &&& 15))), (1, .int ((σ 14 0 1) - 14)), (0, .ref (ga G 14 0))]) hx hb dX14_ipIn_43 rfl hl (by decide) rfl (fun ls hl => ?_)
    refine lv_aload_n hx hb dX14_ipIn_44 rfl (lv_at hl 2 rfl) ?_
    refine lv_bipush (v := 16) hx hb dX14_ipIn_45 (by decide) ?_
    refine kc_ip (rn_vp (As := [.int 16]) (rest := []) C hH hS (by decide) rfl (by decide) (m14_trayHalf l G a1 τ σ H 16 _ hw) (cwV 1 hts (lw_V q2329 q2331 qs105 q171 q2332) rfl rfl rfl kX14_trayHalf ⟨Nat.le_of_ble_eq_true rfl, Nat.le_of_ble_eq_true rfl⟩) rfl hl.1 rfl (Nat.le_of_ble_eq_true rfl) dX14_ipIn_47 ⟨Nat.le_of_ble_eq_true rfl, Nat.le_of_ble_eq_true rfl⟩) hS (fun r1 locs hw hS => ?_)
    refine lv_istore_n (lv' := [(3, .int r1), (2, .int (4 * ((σ 50 0 (14 : Int32).toNatClampNeg) &&& 15))), (1, .int ((σ 14 0 1) - 14)), (0, .ref (ga G 14 0))]) hx hb dX14_ipIn_50 rfl hl (by decide) rfl (fun ls hl => ?_)
    refine lv_iload_n hx hb dX14_ipIn_51 rfl (lv_at hl 1 rfl) ?_
    refine lv_bipush (v := 20) hx hb dX14_ipIn_52 (by decide) ?_
    refine lv_icmp_lt (tgt := 84) hx hb dX14_ipIn_54 (by decide) (fun h => ?_) (fun h => ?_)
    · have hw := hw.1 h
      exact rt_v C hH hS hw dX14_ipIn_84
    have hw := hw.2 h
    refine lv_iload_n hx hb dX14_ipIn_57 rfl (lv_at hl 0 rfl) ?_
    refine lv_iload_n hx hb dX14_ipIn_58 rfl (lv_at hl 1 rfl) ?_
    refine lv_icmp_lt (tgt := 84) hx hb dX14_ipIn_59 (by decide) (fun h => ?_) (fun h => ?_)
    · have hw := hw.1 h
      exact rt_v C hH hS hw dX14_ipIn_84
    have hw := hw.2 h
    refine lv_iload_n hx hb dX14_ipIn_62 rfl (lv_at hl 0 rfl) ?_
    refine lv_iload_n hx hb dX14_ipIn_63 rfl (lv_at hl 2 rfl) ?_
    refine lv_icmp_gt (tgt := 84) hx hb dX14_ipIn_64 (by decide) (fun h => ?_) (fun h => ?_)
    · have hw := hw.1 h
      exact rt_v C hH hS hw dX14_ipIn_84
    have hw := hw.2 h
    refine lv_aload_n hx hb dX14_ipIn_67 rfl (lv_at hl 3 rfl) ?_
    refine g14_0 C hH q1940 dX14_ipIn_68 ?_
    refine lv_bipush (v := 14) hx hb dX14_ipIn_71 (by decide) ?_
    refine lv_iload_n hx hb dX14_ipIn_73 rfl (lv_at hl 1 rfl) ?_
    refine lv_lconst (v := 0) hx hb dX14_ipIn_74 (by decide) ?_
    refine kc_jp (rn_sp (As := [.ref (adr G a1 50 0), .int 14, .int (4 * ((σ 50 0 (14 : Int32).toNatClampNeg) &&& 15)), .long 0]) (rest := []) C hH hS (m14_added l G a1 τ σ H 50 0 14 (4 * ((σ 50 0 (14 : Int32).toNatClampNeg) &&& 15)) 0 (by decide) _ hw) (va_cwS 4 hts (lw_S q2249 q2250 q171 q2251) rfl rfl rfl kX14_added.2 ⟨Nat.le_of_ble_eq_true rfl, Nat.le_of_ble_eq_true rfl⟩) rfl hl.1 rfl (Nat.le_of_ble_eq_true rfl) dX14_ipIn_75 ⟨Nat.le_of_ble_eq_true rfl, Nat.le_of_ble_eq_true rfl⟩) hS (fun r2 locs hw hS => ?_)
    refine kc_ip (rn_sp (As := [.long r2]) (rest := []) C hH hS (m14_sixteen l G a1 τ σ H r2 _ hw) (va_cwS 1 hts (lw_S q2252 q2253 q171 q2254) rfl rfl rfl kX14_sixteen.2 ⟨Nat.le_of_ble_eq_true rfl, Nat.le_of_ble_eq_true rfl⟩) rfl hl.1 rfl (Nat.le_of_ble_eq_true rfl) dX14_ipIn_78 ⟨Nat.le_of_ble_eq_true rfl, Nat.le_of_ble_eq_true rfl⟩) hS (fun r3 locs hw hS => ?_)
    refine lv_if_eq (tgt := 85) hx hb dX14_ipIn_81 (by decide) (fun h => ?_) (fun h => ?_)
    · have hw := hw.1 h
      refine lv_aload_n hx hb dX14_ipIn_85 rfl (lv_at hl 3 rfl) ?_
      refine lv_bipush (v := 26) hx hb dX14_ipIn_86 (by decide) ?_
      refine kc_ip (rn_vp (As := [.int 26]) (rest := []) C hH hS (by decide) rfl (by decide) (m14_trayWord l G a1 τ σ H 26 _ hw) (cwV 1 hts (lw_V q2333 q2335 qs106 q171 q2336) rfl rfl rfl kX14_trayWord ⟨Nat.le_of_ble_eq_true rfl, Nat.le_of_ble_eq_true rfl⟩) rfl hl.1 rfl (Nat.le_of_ble_eq_true rfl) dX14_ipIn_88 ⟨Nat.le_of_ble_eq_true rfl, Nat.le_of_ble_eq_true rfl⟩) hS (fun r4 locs hw hS => ?_)
      refine lv_istore (lv' := [(4, .int r4), (3, .int r1), (2, .int (4 * ((σ 50 0 (14 : Int32).toNatClampNeg) &&& 15))), (1, .int ((σ 14 0 1) - 14)), (0, .ref (ga G 14 0))]) hx hb dX14_ipIn_91 hl (by decide) rfl (fun ls hl => ?_)
      refine lv_aload_n hx hb dX14_ipIn_93 rfl (lv_at hl 4 rfl) ?_
      refine lv_bipush (v := 30) hx hb dX14_ipIn_94 (by decide) ?_
      refine kc_ip (rn_vp (As := [.int 30]) (rest := []) C hH hS (by decide) rfl (by decide) (m14_trayWord l G a1 τ σ H 30 _ hw) (cwV 1 hts (lw_V q2333 q2335 qs106 q171 q2336) rfl rfl rfl kX14_trayWord ⟨Nat.le_of_ble_eq_true rfl, Nat.le_of_ble_eq_true rfl⟩) rfl hl.1 rfl (Nat.le_of_ble_eq_true rfl) dX14_ipIn_96 ⟨Nat.le_of_ble_eq_true rfl, Nat.le_of_ble_eq_true rfl⟩) hS (fun r5 locs hw hS => ?_)
      refine lv_aload_n hx hb dX14_ipIn_99 rfl (lv_at hl 4 rfl) ?_
      refine g14_5 C hH q1945 dX14_ipIn_100 ?_
      refine lv_icmp_ne (tgt := 123) hx hb dX14_ipIn_103 (by decide) (fun h => ?_) (fun h => ?_)
      · have hw := hw.1 h
        exact rt_v C hH hS hw dX14_ipIn_123
      have hw := hw.2 h
      refine lv_iload hx hb dX14_ipIn_106 (lv_at hl 0 rfl) ?_
      refine lv_aload_n hx hb dX14_ipIn_108 rfl (lv_at hl 4 rfl) ?_
      refine g14_5 C hH q1945 dX14_ipIn_109 ?_
      refine lv_icmp_eq (tgt := 123) hx hb dX14_ipIn_112 (by decide) (fun h => ?_) (fun h => ?_)
      · have hw := hw.1 h
        exact rt_v C hH hS hw dX14_ipIn_123
      have hw := hw.2 h
      refine lv_iload hx hb dX14_ipIn_115 (lv_at hl 0 rfl) ?_
      refine kc_ip (rn_sp (As := [.int r4]) (rest := []) C hH hS (m14_isHost l G a1 τ σ H r4 _ hw) (va_cwS 1 hts (lw_S q2150 q2151 q171 q2152) rfl rfl rfl kX14_isHost.2 ⟨Nat.le_of_ble_eq_true rfl, Nat.le_of_ble_eq_true rfl⟩) rfl hl.1 rfl (Nat.le_of_ble_eq_true rfl) dX14_ipIn_117 ⟨Nat.le_of_ble_eq_true rfl, Nat.le_of_ble_eq_true rfl⟩) hS (fun r6 locs hw hS => ?_)
      refine lv_if_ne (tgt := 124) hx hb dX14_ipIn_120 (by decide) (fun h => ?_) (fun h => ?_)
      · have hw := hw.1 h
        refine lv_bipush (v := 8) hx hb dX14_ipIn_124 (by decide) ?_
        refine lv_aload_n hx hb dX14_ipIn_126 rfl (lv_at hl 4 rfl) ?_
        refine lv_bipush (v := 20) hx hb dX14_ipIn_127 (by decide) ?_
        refine kc_ip (rn_vp (As := [.int 20]) (rest := [.int 8]) C hH hS (by decide) rfl (by decide) (m14_trayHalf l G a1 τ σ H 20 _ hw) (cwV 1 hts (lw_V q2329 q2331 qs105 q171 q2332) rfl rfl rfl kX14_trayHalf ⟨Nat.le_of_ble_eq_true rfl, Nat.le_of_ble_eq_true rfl⟩) rfl hl.1 rfl (Nat.le_of_ble_eq_true rfl) dX14_ipIn_129 ⟨Nat.le_of_ble_eq_true rfl, Nat.le_of_ble_eq_true rfl⟩) hS (fun r7 locs hw hS => ?_)
        refine lv_sipush (v := 8191) hx hb dX14_ipIn_132 (by decide) ?_
        refine lv_iand hx hb dX14_ipIn_135 ?_
        refine lv_imul hx hb dX14_ipIn_136 ?_
        refine lv_istore (lv' := [(5, .int (8 * (r7 &&& 8191))), (4, .int r4), (3, .int r1), (2, .int (4 * ((σ 50 0 (14 : Int32).toNatClampNeg) &&& 15))), (1, .int ((σ 14 0 1) - 14)), (0, .ref (ga G 14 0))]) hx hb dX14_ipIn_137 hl (by decide) rfl (fun ls hl => ?_)
        refine lv_aload_n hx hb dX14_ipIn_139 rfl (lv_at hl 5 rfl) ?_
        refine lv_bipush (v := 20) hx hb dX14_ipIn_140 (by decide) ?_
        refine kc_ip (rn_vp (As := [.int 20]) (rest := []) C hH hS (by decide) rfl (by decide) (m14_trayHalf l G a1 τ σ H 20 _ hw) (cwV 1 hts (lw_V q2329 q2331 qs105 q171 q2332) rfl rfl rfl kX14_trayHalf ⟨Nat.le_of_ble_eq_true rfl, Nat.le_of_ble_eq_true rfl⟩) rfl hl.1 rfl (Nat.le_of_ble_eq_true rfl) dX14_ipIn_142 ⟨Nat.le_of_ble_eq_true rfl, Nat.le_of_ble_eq_true rfl⟩) hS (fun r8 locs hw hS => ?_)
        refine lv_sipush (v := 8192) hx hb dX14_ipIn_145 (by decide) ?_
        refine lv_iand hx hb dX14_ipIn_148 ?_
        refine lv_if_eq (tgt := 156) hx hb dX14_ipIn_149 (by decide) (fun h => ?_) (fun h => ?_)
        · have hw := hw.1 h
          refine lv_iconst (v := 0) hx hb dX14_ipIn_156 (by decide) ?_
          exact k14_ipIn_J157 C σ (4 * ((σ 50 0 (14 : Int32).toNatClampNeg) &&& 15)) r1 r4 (8 * (r7 &&& 8191)) 0 hw H locs ls hH hS (lv_sub hl [5, 3, 2, 1, 0] rfl)
        have hw := hw.2 h
        refine lv_iconst (v := 1) hx hb dX14_ipIn_152 (by decide) ?_
        refine lv_goto (tgt := 157) hx hb dX14_ipIn_153 (by decide) ?_
        exact k14_ipIn_J157 C σ (4 * ((σ 50 0 (14 : Int32).toNatClampNeg) &&& 15)) r1 r4 (8 * (r7 &&& 8191)) 1 hw H locs ls hH hS (lv_sub hl [5, 3, 2, 1, 0] rfl)
      have hw := hw.2 h
      exact rt_v C hH hS hw dX14_ipIn_123
    have hw := hw.2 h
    exact rt_v C hH hS hw dX14_ipIn_84
  have hw := hw.2 h
  exact rt_v C hH hS hw dX14_ipIn_30
/-! WebHost.take()V -/
abbrev cX0_take : ByteArray := prog_1_method_17_code
def yX0_take : MethodName := ⟨RX0, "take", "()V"⟩
theorem dX0_take_0 : decode cX0_take 0 = .ok (.aload_n 0, 1) := by decide +kernel
theorem dX0_take_1 : decode cX0_take 1 = .ok (.getfield 80, 3) := by decide +kernel
theorem dX0_take_4 : decode cX0_take 4 = .ok (.astore_n 1, 1) := by decide +kernel
theorem dX0_take_5 : decode cX0_take 5 = .ok (.aload_n 1, 1) := by decide +kernel
theorem dX0_take_6 : decode cX0_take 6 = .ok (.getfield 254, 3) := by decide +kernel
theorem dX0_take_9 : decode cX0_take 9 = .ok (.bipush 80, 2) := by decide +kernel
theorem dX0_take_11 : decode cX0_take 11 = .ok (.if_icmp .ne 11, 3) := by decide +kernel
theorem dX0_take_14 : decode cX0_take 14 = .ok (.aload_n 0, 1) := by decide +kernel
theorem dX0_take_15 : decode cX0_take 15 = .ok (.aload_n 1, 1) := by decide +kernel
theorem dX0_take_16 : decode cX0_take 16 = .ok (.invokevirtual 257, 3) := by decide +kernel
theorem dX0_take_19 : decode cX0_take 19 = .ok (.goto 4, 3) := by decide +kernel
theorem dX0_take_22 : decode cX0_take 22 = .ok (.iconst (-1), 1) := by decide +kernel
theorem dX0_take_23 : decode cX0_take 23 = .ok (.istore_n 2, 1) := by decide +kernel
theorem dX0_take_24 : decode cX0_take 24 = .ok (.iload_n 2, 1) := by decide +kernel
theorem dX0_take_25 : decode cX0_take 25 = .ok (.ifCond .lt 14, 3) := by decide +kernel
theorem dX0_take_28 : decode cX0_take 28 = .ok (.aload_n 0, 1) := by decide +kernel
theorem dX0_take_29 : decode cX0_take 29 = .ok (.getfield 73, 3) := by decide +kernel
theorem dX0_take_32 : decode cX0_take 32 = .ok (.iload_n 2, 1) := by decide +kernel
theorem dX0_take_33 : decode cX0_take 33 = .ok (.aaload, 1) := by decide +kernel
theorem dX0_take_34 : decode cX0_take 34 = .ok (.aload_n 1, 1) := by decide +kernel
theorem dX0_take_35 : decode cX0_take 35 = .ok (.invokevirtual 261, 3) := by decide +kernel
theorem dX0_take_38 : decode cX0_take 38 = .ok (.return_, 1) := by decide +kernel
theorem dX0_take_39 : decode cX0_take 39 = .ok (.aload_n 1, 1) := by decide +kernel
theorem dX0_take_40 : decode cX0_take 40 = .ok (.iconst 4, 1) := by decide +kernel
theorem dX0_take_41 : decode cX0_take 41 = .ok (.invokevirtual 264, 3) := by decide +kernel
theorem dX0_take_44 : decode cX0_take 44 = .ok (.ifCond .eq 4, 3) := by decide +kernel
theorem dX0_take_47 : decode cX0_take 47 = .ok (.return_, 1) := by decide +kernel
theorem dX0_take_48 : decode cX0_take 48 = .ok (.aload_n 1, 1) := by decide +kernel
theorem dX0_take_49 : decode cX0_take 49 = .ok (.getfield 254, 3) := by decide +kernel
theorem dX0_take_52 : decode cX0_take 52 = .ok (.bipush 80, 2) := by decide +kernel
theorem dX0_take_54 : decode cX0_take 54 = .ok (.if_icmp .ne 12, 3) := by decide +kernel
theorem dX0_take_57 : decode cX0_take 57 = .ok (.aload_n 1, 1) := by decide +kernel
theorem dX0_take_58 : decode cX0_take 58 = .ok (.bipush 16, 2) := by decide +kernel
theorem dX0_take_60 : decode cX0_take 60 = .ok (.invokevirtual 264, 3) := by decide +kernel
theorem dX0_take_63 : decode cX0_take 63 = .ok (.ifCond .eq 12, 3) := by decide +kernel
theorem dX0_take_66 : decode cX0_take 66 = .ok (.aload_n 0, 1) := by decide +kernel
theorem dX0_take_67 : decode cX0_take 67 = .ok (.getfield 58, 3) := by decide +kernel
theorem dX0_take_70 : decode cX0_take 70 = .ok (.aload_n 1, 1) := by decide +kernel
theorem dX0_take_71 : decode cX0_take 71 = .ok (.invokevirtual 267, 3) := by decide +kernel
theorem dX0_take_74 : decode cX0_take 74 = .ok (.return_, 1) := by decide +kernel
theorem dX0_take_75 : decode cX0_take 75 = .ok (.aload_n 1, 1) := by decide +kernel
theorem dX0_take_76 : decode cX0_take 76 = .ok (.iconst 2, 1) := by decide +kernel
theorem dX0_take_77 : decode cX0_take 77 = .ok (.invokevirtual 264, 3) := by decide +kernel
theorem dX0_take_80 : decode cX0_take 80 = .ok (.ifCond .eq 11, 3) := by decide +kernel
theorem dX0_take_83 : decode cX0_take 83 = .ok (.aload_n 1, 1) := by decide +kernel
theorem dX0_take_84 : decode cX0_take 84 = .ok (.iconst 1, 1) := by decide +kernel
theorem dX0_take_85 : decode cX0_take 85 = .ok (.invokevirtual 264, 3) := by decide +kernel
theorem dX0_take_88 : decode cX0_take 88 = .ok (.ifCond .eq 4, 3) := by decide +kernel
theorem dX0_take_91 : decode cX0_take 91 = .ok (.return_, 1) := by decide +kernel
theorem dX0_take_92 : decode cX0_take 92 = .ok (.iconst 0, 1) := by decide +kernel
theorem dX0_take_93 : decode cX0_take 93 = .ok (.istore_n 2, 1) := by decide +kernel
theorem dX0_take_94 : decode cX0_take 94 = .ok (.iload_n 2, 1) := by decide +kernel
theorem dX0_take_95 : decode cX0_take 95 = .ok (.bipush 16, 2) := by decide +kernel
theorem dX0_take_97 : decode cX0_take 97 = .ok (.if_icmp .ge 21, 3) := by decide +kernel
theorem dX0_take_100 : decode cX0_take 100 = .ok (.aload_n 0, 1) := by decide +kernel
theorem dX0_take_101 : decode cX0_take 101 = .ok (.getfield 73, 3) := by decide +kernel
theorem dX0_take_104 : decode cX0_take 104 = .ok (.iload_n 2, 1) := by decide +kernel
theorem dX0_take_105 : decode cX0_take 105 = .ok (.aaload, 1) := by decide +kernel
theorem dX0_take_106 : decode cX0_take 106 = .ok (.getfield 243, 3) := by decide +kernel
theorem dX0_take_109 : decode cX0_take 109 = .ok (.ifCond .eq 9, 3) := by decide +kernel
theorem dX0_take_112 : decode cX0_take 112 = .ok (.iinc 2 1, 3) := by decide +kernel
theorem dX0_take_115 : decode cX0_take 115 = .ok (.goto (-21), 3) := by decide +kernel
theorem dX0_take_118 : decode cX0_take 118 = .ok (.iload_n 2, 1) := by decide +kernel
theorem dX0_take_119 : decode cX0_take 119 = .ok (.bipush 16, 2) := by decide +kernel
theorem dX0_take_121 : decode cX0_take 121 = .ok (.if_icmp .ne 4, 3) := by decide +kernel
theorem dX0_take_124 : decode cX0_take 124 = .ok (.return_, 1) := by decide +kernel
theorem dX0_take_125 : decode cX0_take 125 = .ok (.aload_n 0, 1) := by decide +kernel
theorem dX0_take_126 : decode cX0_take 126 = .ok (.getfield 58, 3) := by decide +kernel
theorem dX0_take_129 : decode cX0_take 129 = .ok (.dup, 1) := by decide +kernel
theorem dX0_take_130 : decode cX0_take 130 = .ok (.getfield 270, 3) := by decide +kernel
theorem dX0_take_133 : decode cX0_take 133 = .ok (.iconst 1, 1) := by decide +kernel
theorem dX0_take_134 : decode cX0_take 134 = .ok (.iadd, 1) := by decide +kernel
theorem dX0_take_135 : decode cX0_take 135 = .ok (.putfield 270, 3) := by decide +kernel
theorem dX0_take_138 : decode cX0_take 138 = .ok (.aload_n 0, 1) := by decide +kernel
theorem dX0_take_139 : decode cX0_take 139 = .ok (.getfield 73, 3) := by decide +kernel
theorem dX0_take_142 : decode cX0_take 142 = .ok (.iload_n 2, 1) := by decide +kernel
theorem dX0_take_143 : decode cX0_take 143 = .ok (.aaload, 1) := by decide +kernel
theorem dX0_take_144 : decode cX0_take 144 = .ok (.aload_n 1, 1) := by decide +kernel
theorem dX0_take_145 : decode cX0_take 145 = .ok (.aload_n 0, 1) := by decide +kernel
theorem dX0_take_146 : decode cX0_take 146 = .ok (.getfield 58, 3) := by decide +kernel
theorem dX0_take_149 : decode cX0_take 149 = .ok (.getfield 270, 3) := by decide +kernel
theorem dX0_take_152 : decode cX0_take 152 = .ok (.invokevirtual 273, 3) := by decide +kernel
theorem dX0_take_155 : decode cX0_take 155 = .ok (.return_, 1) := by decide +kernel
def rmX0_take : Room := { frames := 15, cells := 1, slots := 66047, locals := 331 }
theorem kX0_take : yX0_take.cls = "WebHost" ∧ yX0_take.cls ≠ "java/lang/invoke/MethodHandle" ∧ yX0_take.cls ≠ "java/lang/invoke/VarHandle" ∧ (parseMethodDescriptor yX0_take.desc).map (fun d => d.parameters.length) = some 0 := by decide +kernel
def w0_take_L94 (σ : St) (Q : St → Prop) (K118 : Int32 → Prop) : Nat → Int32 → Prop
  | 0, _ => False
  | n + 1, x2 => (16 ≤ x2 → K118 x2) ∧ (¬ 16 ≤ x2 → (vp_in x2 16 ∧ (((σ 11 x2.toNatClampNeg 2) = 0 → K118 x2) ∧ (¬ (σ 11 x2.toNatClampNeg 2) = 0 → (w0_take_L94 σ Q K118 n (x2 + 1))))))
set_option maxHeartbeats 4000000 in
theorem k0_take_L94 {p : Program} {l : Launch} {e : Env} {s : State} {m : MethodId} {args : Array Value} {below : List Frame} {meth : Method} {c : Code} {G : Gh} {a1 : Nat → Nat → Nat} {τ : St} {Q : St → Prop} {K118 : Int32 → Prop} (C : Cx p e s m args meth c cX0_take 3 none "WebHost" G) (σ : St) :
    ∀ (n : Nat) (x2 : Int32), w0_take_L94 σ Q K118 n x2 → ∀ (H : Heap) (locs : List Loc) (ls : Array Slot), Hd G a1 (cmb σ τ) H → va_S (gA G) s.heap H locs → lv_has ls 3 [(0, .ref (ga G 0 0)), (1, .ref (ga G 10 0)), (2, .int x2)] → (∀ (x2 : Int32), K118 x2 → ∀ (H : Heap) (locs : List Loc) (ls : Array Slot), Hd G a1 (cmb σ τ) H → va_S (gA G) s.heap H locs → lv_has ls 3 [(0, .ref (ga G 0 0)), (1, .ref (ga G 10 0)), (2, .int x2)] → W p l e rmX0_take s m args below meth c H locs 0 0 (MQ below (QVa G (fun u => cmb u τ) Q) args s 1 66047 (gA G)) (F0 m 118 ls [])) → W p l e rmX0_take s m args below meth c H locs 0 0 (MQ below (QVa G (fun u => cmb u τ) Q) args s 1 66047 (gA G)) (F0 m 94 ls []) := by
  have hx := C.1
  have hb := C.2.1
  have hown := C.2.2.2.2.2.1
  have hts := C.2.2.2.2.2.2.1
  intro n
  induction n with
  | zero =>
    intro x2 hw
    exact False.elim hw
  | succ n ih =>
    intro x2 hw H locs ls hH hS hl hK118
    refine lv_iload_n hx hb dX0_take_94 rfl (lv_at hl 2 rfl) ?_
    refine lv_bipush (v := 16) hx hb dX0_take_95 (by decide) ?_
    refine lv_icmp_ge (tgt := 118) hx hb dX0_take_97 (by decide) (fun h => ?_) (fun h => ?_)
    · have hw := hw.1 h
      exact hK118 x2 hw H locs ls hH hS (lv_sub hl [0, 1, 2] rfl)
    have hw := hw.2 h
    refine lv_aload_n hx hb dX0_take_100 rfl (lv_at hl 0 rfl) ?_
    refine g0_9 C hH q752 dX0_take_101 ?_
    refine lv_iload_n hx hb dX0_take_104 rfl (lv_at hl 2 rfl) ?_
    have hq6 := vp_lt hw.1
    refine l45 C hH hw.1 dX0_take_105 ?_
    have hw := hw.2
    refine g11_2 C hH hq6 q611 dX0_take_106 ?_
    refine lv_if_eq (tgt := 118) hx hb dX0_take_109 (by decide) (fun h => ?_) (fun h => ?_)
    · have hw := hw.1 h
      exact hK118 x2 hw H locs ls hH hS (lv_sub hl [0, 1, 2] rfl)
    have hw := hw.2 h
    refine lv_iinc (v := x2 + 1) (lv' := [(2, .int (x2 + 1)), (0, .ref (ga G 0 0)), (1, .ref (ga G 10 0))]) hx hb dX0_take_112 hl (k := 2) rfl rfl (by decide) rfl (fun ls hl => ?_)
    refine lv_goto (tgt := 94) hx hb dX0_take_115 (by decide) ?_
    exact ih (x2 + 1) hw H locs ls hH hS (lv_sub hl [1, 2, 0] rfl) hK118
def w0_take_J118 (σ : St) (x2 : Int32) (Q : St → Prop) : Prop := (¬ x2 = 16 → (∀ σ9, σ9 = up3 σ 8 0 6 ((σ 8 0 6) + 1) → (vp_in x2 16 ∧ (w11_begin σ9 x2.toNatClampNeg (σ9 8 0 6) (fun σ11 => (Q σ11)))))) ∧ (x2 = 16 → Q σ)
set_option maxHeartbeats 4000000 in
theorem k0_take_J118 {p : Program} {l : Launch} {e : Env} {s : State} {m : MethodId} {args : Array Value} {below : List Frame} {meth : Method} {c : Code} {G : Gh} {a1 : Nat → Nat → Nat} {τ : St} {Q : St → Prop} (C : Cx p e s m args meth c cX0_take 3 none "WebHost" G) (σ : St) (x2 : Int32) (hw : w0_take_J118 σ x2 Q) (H : Heap) (locs : List Loc) (ls : Array Slot) (hH : Hd G a1 (cmb σ τ) H) (hS : va_S (gA G) s.heap H locs) (hl : lv_has ls 3 [(0, .ref (ga G 0 0)), (1, .ref (ga G 10 0)), (2, .int x2)]) : W p l e rmX0_take s m args below meth c H locs 0 0 (MQ below (QVa G (fun u => cmb u τ) Q) args s 1 66047 (gA G)) (F0 m 118 ls []) := by
  have hx := C.1
  have hb := C.2.1
  have hown := C.2.2.2.2.2.1
  have hts := C.2.2.2.2.2.2.1
  refine lv_iload_n hx hb dX0_take_118 rfl (lv_at hl 2 rfl) ?_
  refine lv_bipush (v := 16) hx hb dX0_take_119 (by decide) ?_
  refine lv_icmp_ne (tgt := 125) hx hb dX0_take_121 (by decide) (fun h => ?_) (fun h => ?_)
  · have hw := hw.1 h
    refine lv_aload_n hx hb dX0_take_125 rfl (lv_at hl 0 rfl) ?_
    refine g0_7 C hH q750 dX0_take_126 ?_
    refine lv_dup hx hb dX0_take_129 rfl ?_
    refine g8_6 C hH q416 dX0_take_130 ?_
    refine lv_iconst (v := 1) hx hb dX0_take_133 (by decide) ?_
    refine lv_iadd hx hb dX0_take_134 ?_
    refine p8_6 C hH hS q416 dX0_take_135 (fun σ9 e9 H locs hH hS => ?_)
    have hw := hw σ9 e9
    refine lv_aload_n hx hb dX0_take_138 rfl (lv_at hl 0 rfl) ?_
    refine g0_9 C hH q752 dX0_take_139 ?_
    refine lv_iload_n hx hb dX0_take_142 rfl (lv_at hl 2 rfl) ?_
    have hq10 := vp_lt hw.1
    refine l45 C hH hw.1 dX0_take_143 ?_
    have hw := hw.2
    refine lv_aload_n hx hb dX0_take_144 rfl (lv_at hl 1 rfl) ?_
    refine lv_aload_n hx hb dX0_take_145 rfl (lv_at hl 0 rfl) ?_
    refine g0_7 C hH q750 dX0_take_146 ?_
    refine g8_6 C hH q416 dX0_take_149 ?_
    refine kc_v (rn_v (As := [.ref (ga G 10 0), .int (σ9 8 0 6)]) (rest := []) C hH hS (by decide) rfl hq10 (m11_begin l G a1 τ σ9 x2.toNatClampNeg (σ9 8 0 6) hq10 _ hw) (cwV 2 hts (lw_V q1566 q1567 q1568 q168 q1569) rfl rfl rfl kX11_begin ⟨Nat.le_of_ble_eq_true rfl, Nat.le_of_ble_eq_true rfl⟩) rfl hl.1 rfl (Nat.le_of_ble_eq_true rfl) dX0_take_152 ⟨Nat.le_of_ble_eq_true rfl, Nat.le_of_ble_eq_true rfl⟩) hS (fun σ11 H locs hw hH hS => ?_)
    refine W.widen (k := 1) (n := 66047) (Nat.zero_le _) (Nat.zero_le _) ?_
    exact rt_va C hH hS hw dX0_take_155
  have hw := hw.2 h
  refine W.widen (k := 1) (n := 66047) (Nat.zero_le _) (Nat.zero_le _) ?_
  exact rt_va C hH hS hw dX0_take_124
def w0_take_J23 (σ : St) (xs0 : Int32) (Q : St → Prop) : Prop := (xs0 < 0 → (w10_has σ 4 (fun r1 => ((r1 = 0 → ((¬ (σ 10 0 2) = 80 → (w8_reset σ (fun σ2 => (Q σ2)))) ∧ ((σ 10 0 2) = 80 → (w10_has σ 16 (fun r3 => ((r3 = 0 → (w10_has σ 2 (fun r4 => ((r4 = 0 → Q σ) ∧ (¬ r4 = 0 → (w10_has σ 1 (fun r5 => ((r5 = 0 → (∃ z7, w0_take_L94 σ Q (fun x2_8 => w0_take_J118 σ x2_8 Q) z7 0)) ∧ (¬ r5 = 0 → Q σ))))))))) ∧ (¬ r3 = 0 → (w8_reset σ (fun σ12 => (Q σ12)))))))))) ∧ (¬ r1 = 0 → Q σ))))) ∧ (¬ xs0 < 0 → (vp_in xs0 16 ∧ (w11_arrive σ xs0.toNatClampNeg (fun σ14 => (Q σ14)))))
set_option maxHeartbeats 4000000 in
theorem k0_take_J23 {p : Program} {l : Launch} {e : Env} {s : State} {m : MethodId} {args : Array Value} {below : List Frame} {meth : Method} {c : Code} {G : Gh} {a1 : Nat → Nat → Nat} {τ : St} {Q : St → Prop} (C : Cx p e s m args meth c cX0_take 3 none "WebHost" G) (σ : St) (xs0 : Int32) (hw : w0_take_J23 σ xs0 Q) (H : Heap) (locs : List Loc) (ls : Array Slot) (hH : Hd G a1 (cmb σ τ) H) (hS : va_S (gA G) s.heap H locs) (hl : lv_has ls 3 [(0, .ref (ga G 0 0)), (1, .ref (ga G 10 0))]) : W p l e rmX0_take s m args below meth c H locs 0 0 (MQ below (QVa G (fun u => cmb u τ) Q) args s 1 66047 (gA G)) (F0 m 23 ls [.int xs0]) := by
  have hx := C.1
  have hb := C.2.1
  have hown := C.2.2.2.2.2.1
  have hts := C.2.2.2.2.2.2.1
  refine lv_istore_n (lv' := [(2, .int xs0), (0, .ref (ga G 0 0)), (1, .ref (ga G 10 0))]) hx hb dX0_take_23 rfl hl (by decide) rfl (fun ls hl => ?_)
  refine lv_iload_n hx hb dX0_take_24 rfl (lv_at hl 0 rfl) ?_
  refine lv_if_lt (tgt := 39) hx hb dX0_take_25 (by decide) (fun h => ?_) (fun h => ?_)
  · have hw := hw.1 h
    refine lv_aload_n hx hb dX0_take_39 rfl (lv_at hl 2 rfl) ?_
    refine lv_iconst (v := 4) hx hb dX0_take_40 (by decide) ?_
    refine kc_ip (rn_vp (As := [.int 4]) (rest := []) C hH hS (by decide) rfl (by decide) (m10_has l G a1 τ σ H 4 _ hw) (cwV 1 hts (lw_V q1564 q1149 q1150 q167 q1151) rfl rfl rfl kX10_has ⟨Nat.le_of_ble_eq_true rfl, Nat.le_of_ble_eq_true rfl⟩) rfl hl.1 rfl (Nat.le_of_ble_eq_true rfl) dX0_take_41 ⟨Nat.le_of_ble_eq_true rfl, Nat.le_of_ble_eq_true rfl⟩) hS (fun r1 locs hw hS => ?_)
    refine lv_if_eq (tgt := 48) hx hb dX0_take_44 (by decide) (fun h => ?_) (fun h => ?_)
    · have hw := hw.1 h
      refine lv_aload_n hx hb dX0_take_48 rfl (lv_at hl 2 rfl) ?_
      refine g10_2 C hH q524 dX0_take_49 ?_
      refine lv_bipush (v := 80) hx hb dX0_take_52 (by decide) ?_
      refine lv_icmp_ne (tgt := 66) hx hb dX0_take_54 (by decide) (fun h => ?_) (fun h => ?_)
      · have hw := hw.1 h
        refine lv_aload_n hx hb dX0_take_66 rfl (lv_at hl 1 rfl) ?_
        refine g0_7 C hH q750 dX0_take_67 ?_
        refine lv_aload_n hx hb dX0_take_70 rfl (lv_at hl 2 rfl) ?_
        refine kc_v (rn_v (As := [.ref (ga G 10 0)]) (rest := []) C hH hS (by decide) rfl (by decide) (m8_reset l G a1 τ σ _ hw) (cwV 1 hts (lw_V q1565 q1166 q1167 q165 q1168) rfl rfl rfl kX8_reset ⟨Nat.le_of_ble_eq_true rfl, Nat.le_of_ble_eq_true rfl⟩) rfl hl.1 rfl (Nat.le_of_ble_eq_true rfl) dX0_take_71 ⟨Nat.le_of_ble_eq_true rfl, Nat.le_of_ble_eq_true rfl⟩) hS (fun σ2 H locs hw hH hS => ?_)
        refine W.widen (k := 1) (n := 66047) (Nat.zero_le _) (Nat.zero_le _) ?_
        exact rt_va C hH hS hw dX0_take_74
      have hw := hw.2 h
      refine lv_aload_n hx hb dX0_take_57 rfl (lv_at hl 2 rfl) ?_
      refine lv_bipush (v := 16) hx hb dX0_take_58 (by decide) ?_
      refine kc_ip (rn_vp (As := [.int 16]) (rest := []) C hH hS (by decide) rfl (by decide) (m10_has l G a1 τ σ H 16 _ hw) (cwV 1 hts (lw_V q1564 q1149 q1150 q167 q1151) rfl rfl rfl kX10_has ⟨Nat.le_of_ble_eq_true rfl, Nat.le_of_ble_eq_true rfl⟩) rfl hl.1 rfl (Nat.le_of_ble_eq_true rfl) dX0_take_60 ⟨Nat.le_of_ble_eq_true rfl, Nat.le_of_ble_eq_true rfl⟩) hS (fun r3 locs hw hS => ?_)
      refine lv_if_eq (tgt := 75) hx hb dX0_take_63 (by decide) (fun h => ?_) (fun h => ?_)
      · have hw := hw.1 h
        refine lv_aload_n hx hb dX0_take_75 rfl (lv_at hl 2 rfl) ?_
        refine lv_iconst (v := 2) hx hb dX0_take_76 (by decide) ?_
        refine kc_ip (rn_vp (As := [.int 2]) (rest := []) C hH hS (by decide) rfl (by decide) (m10_has l G a1 τ σ H 2 _ hw) (cwV 1 hts (lw_V q1564 q1149 q1150 q167 q1151) rfl rfl rfl kX10_has ⟨Nat.le_of_ble_eq_true rfl, Nat.le_of_ble_eq_true rfl⟩) rfl hl.1 rfl (Nat.le_of_ble_eq_true rfl) dX0_take_77 ⟨Nat.le_of_ble_eq_true rfl, Nat.le_of_ble_eq_true rfl⟩) hS (fun r4 locs hw hS => ?_)
        refine lv_if_eq (tgt := 91) hx hb dX0_take_80 (by decide) (fun h => ?_) (fun h => ?_)
        · have hw := hw.1 h
          refine W.widen (k := 1) (n := 66047) (Nat.zero_le _) (Nat.zero_le _) ?_
          exact rt_va C hH hS hw dX0_take_91
        have hw := hw.2 h
        refine lv_aload_n hx hb dX0_take_83 rfl (lv_at hl 2 rfl) ?_
        refine lv_iconst (v := 1) hx hb dX0_take_84 (by decide) ?_
        refine kc_ip (rn_vp (As := [.int 1]) (rest := []) C hH hS (by decide) rfl (by decide) (m10_has l G a1 τ σ H 1 _ hw) (cwV 1 hts (lw_V q1564 q1149 q1150 q167 q1151) rfl rfl rfl kX10_has ⟨Nat.le_of_ble_eq_true rfl, Nat.le_of_ble_eq_true rfl⟩) rfl hl.1 rfl (Nat.le_of_ble_eq_true rfl) dX0_take_85 ⟨Nat.le_of_ble_eq_true rfl, Nat.le_of_ble_eq_true rfl⟩) hS (fun r5 locs hw hS => ?_)
        refine lv_if_eq (tgt := 92) hx hb dX0_take_88 (by decide) (fun h => ?_) (fun h => ?_)
        · have hw := hw.1 h
          refine lv_iconst (v := 0) hx hb dX0_take_92 (by decide) ?_
          refine lv_istore_n (lv' := [(2, .int 0), (0, .ref (ga G 0 0)), (1, .ref (ga G 10 0))]) hx hb dX0_take_93 rfl hl (by decide) rfl (fun ls hl => ?_)
          obtain ⟨n7, hw⟩ := hw
          refine k0_take_L94 C σ n7 0 hw H locs ls hH hS (lv_sub hl [1, 2, 0] rfl) (fun x2_8 hw H locs ls hH hS hl => ?_)
          exact k0_take_J118 C σ x2_8 hw H locs ls hH hS (lv_sub hl [0, 1, 2] rfl)
        have hw := hw.2 h
        refine W.widen (k := 1) (n := 66047) (Nat.zero_le _) (Nat.zero_le _) ?_
        exact rt_va C hH hS hw dX0_take_91
      have hw := hw.2 h
      refine lv_aload_n hx hb dX0_take_66 rfl (lv_at hl 1 rfl) ?_
      refine g0_7 C hH q750 dX0_take_67 ?_
      refine lv_aload_n hx hb dX0_take_70 rfl (lv_at hl 2 rfl) ?_
      refine kc_v (rn_v (As := [.ref (ga G 10 0)]) (rest := []) C hH hS (by decide) rfl (by decide) (m8_reset l G a1 τ σ _ hw) (cwV 1 hts (lw_V q1565 q1166 q1167 q165 q1168) rfl rfl rfl kX8_reset ⟨Nat.le_of_ble_eq_true rfl, Nat.le_of_ble_eq_true rfl⟩) rfl hl.1 rfl (Nat.le_of_ble_eq_true rfl) dX0_take_71 ⟨Nat.le_of_ble_eq_true rfl, Nat.le_of_ble_eq_true rfl⟩) hS (fun σ12 H locs hw hH hS => ?_)
      refine W.widen (k := 1) (n := 66047) (Nat.zero_le _) (Nat.zero_le _) ?_
      exact rt_va C hH hS hw dX0_take_74
    have hw := hw.2 h
    refine W.widen (k := 1) (n := 66047) (Nat.zero_le _) (Nat.zero_le _) ?_
    exact rt_va C hH hS hw dX0_take_47
  have hw := hw.2 h
  refine lv_aload_n hx hb dX0_take_28 rfl (lv_at hl 1 rfl) ?_
  refine g0_9 C hH q752 dX0_take_29 ?_
  refine lv_iload_n hx hb dX0_take_32 rfl (lv_at hl 0 rfl) ?_
  have hq13 := vp_lt hw.1
  refine l45 C hH hw.1 dX0_take_33 ?_
  have hw := hw.2
  refine lv_aload_n hx hb dX0_take_34 rfl (lv_at hl 2 rfl) ?_
  refine kc_va (rn_v (As := [.ref (ga G 10 0)]) (rest := []) C hH hS (by decide) rfl hq13 (m11_arrive l G a1 τ σ xs0.toNatClampNeg hq13 _ hw) (cwV 1 hts (lw_V q1136 q1137 q1138 q168 q1139) rfl rfl rfl kX11_arrive ⟨Nat.le_of_ble_eq_true rfl, Nat.le_of_ble_eq_true rfl⟩) rfl hl.1 rfl (Nat.le_of_ble_eq_true rfl) dX0_take_35 ⟨Nat.le_of_ble_eq_true rfl, Nat.le_of_ble_eq_true rfl⟩) hS (fun σ14 a14 H locs hw hH hS => ?_)
  refine W.cs (cells' := 1) (slots' := 66047) rfl rfl ?_
  exact rt_va C hH hS hw dX0_take_38
def w0_take (σ : St) (Q : St → Prop) : Prop := (¬ (σ 10 0 2) = 80 → (w0_take_J23 σ (-1) Q)) ∧ ((σ 10 0 2) = 80 → (w0_find σ (fun r15 => (w0_take_J23 σ r15 Q))))
set_option maxHeartbeats 4000000 in
theorem m0_take (l : Launch) (G : Gh) (a1 : Nat → Nat → Nat) (τ : St) (σ : St) (Q : St → Prop) (hw : w0_take σ Q) : Met l yX0_take (ws_ yX0_take cX0_take 3 none) rmX0_take (PcS G a1 (cmb σ τ) [.ref (ga G 0 0)]) (QVa G (fun u => cmb u τ) Q) 1 66047 (gA G) := by
  refine met_w (by decide) (Nat.le_of_ble_eq_true rfl) ?_
  intro p e s m below meth c ls C hH hS hl
  have C : Cx p e s m _ meth c cX0_take 3 none "WebHost" G := C
  have hl : lv_has ls 3 [(0, .ref (ga G 0 0))] := hl
  have hx := C.1
  have hb := C.2.1
  have hown := C.2.2.2.2.2.1
  have hts := C.2.2.2.2.2.2.1
  obtain ⟨locs, hlocs⟩ : ∃ z : List Loc, z = [] := ⟨_, rfl⟩
  obtain ⟨H, hHe⟩ : ∃ z : Heap, z = s.heap := ⟨_, rfl⟩
  have hH : Hd G a1 (cmb σ τ) H := by rw [hHe]; exact hH
  have hS : va_S (gA G) s.heap H locs := by rw [hHe, hlocs]; exact hS
  refine W.heap0 hHe.symm hlocs.symm ?_
  refine lv_aload_n hx hb dX0_take_0 rfl (lv_at hl 0 rfl) ?_
  refine g0_10 C hH q753 dX0_take_1 ?_
  refine lv_astore_n (lv' := [(1, .ref (ga G 10 0)), (0, .ref (ga G 0 0))]) hx hb dX0_take_4 rfl hl (by decide) rfl (fun ls hl => ?_)
  refine lv_aload_n hx hb dX0_take_5 rfl (lv_at hl 0 rfl) ?_
  refine g10_2 C hH q524 dX0_take_6 ?_
  refine lv_bipush (v := 80) hx hb dX0_take_9 (by decide) ?_
  refine lv_icmp_ne (tgt := 22) hx hb dX0_take_11 (by decide) (fun h => ?_) (fun h => ?_)
  · have hw := hw.1 h
    refine lv_iconst (v := (-1)) hx hb dX0_take_22 (by decide) ?_
    exact k0_take_J23 C σ (-1) hw H locs ls hH hS (lv_sub hl [1, 0] rfl)
  have hw := hw.2 h
  refine lv_aload_n hx hb dX0_take_14 rfl (lv_at hl 1 rfl) ?_
  refine lv_aload_n hx hb dX0_take_15 rfl (lv_at hl 0 rfl) ?_
  refine kc_ip (rn_vp (As := [.ref (ga G 10 0)]) (rest := []) C hH hS (by decide) rfl (by decide) (m0_find l G a1 τ σ H _ hw) (cwV 1 hts (lw_V q1132 q1134 qs31 q157 q1135) rfl rfl rfl kX0_find ⟨Nat.le_of_ble_eq_true rfl, Nat.le_of_ble_eq_true rfl⟩) rfl hl.1 rfl (Nat.le_of_ble_eq_true rfl) dX0_take_16 ⟨Nat.le_of_ble_eq_true rfl, Nat.le_of_ble_eq_true rfl⟩) hS (fun r15 locs hw hS => ?_)
  refine lv_goto (tgt := 23) hx hb dX0_take_19 (by decide) ?_
  exact k0_take_J23 C σ r15 hw H locs ls hH hS (lv_sub hl [1, 0] rfl)
/-! WebHostModel.frameIn()V -/
abbrev cX14_frameIn : ByteArray := prog_17_method_73_code
def yX14_frameIn : MethodName := ⟨RX14, "frameIn", "()V"⟩
theorem dX14_frameIn_0 : decode cX14_frameIn 0 = .ok (.aload_n 0, 1) := by decide +kernel
theorem dX14_frameIn_1 : decode cX14_frameIn 1 = .ok (.getfield 84, 3) := by decide +kernel
theorem dX14_frameIn_4 : decode cX14_frameIn 4 = .ok (.bipush 14, 2) := by decide +kernel
theorem dX14_frameIn_6 : decode cX14_frameIn 6 = .ok (.if_icmp .ge 4, 3) := by decide +kernel
theorem dX14_frameIn_9 : decode cX14_frameIn 9 = .ok (.return_, 1) := by decide +kernel
theorem dX14_frameIn_10 : decode cX14_frameIn 10 = .ok (.aload_n 0, 1) := by decide +kernel
theorem dX14_frameIn_11 : decode cX14_frameIn 11 = .ok (.iconst 0, 1) := by decide +kernel
theorem dX14_frameIn_12 : decode cX14_frameIn 12 = .ok (.invokevirtual 210, 3) := by decide +kernel
theorem dX14_frameIn_15 : decode cX14_frameIn 15 = .ok (.aload_n 0, 1) := by decide +kernel
theorem dX14_frameIn_16 : decode cX14_frameIn 16 = .ok (.getfield 125, 3) := by decide +kernel
theorem dX14_frameIn_19 : decode cX14_frameIn 19 = .ok (.if_icmp .ne 19, 3) := by decide +kernel
theorem dX14_frameIn_22 : decode cX14_frameIn 22 = .ok (.aload_n 0, 1) := by decide +kernel
theorem dX14_frameIn_23 : decode cX14_frameIn 23 = .ok (.iconst 2, 1) := by decide +kernel
theorem dX14_frameIn_24 : decode cX14_frameIn 24 = .ok (.invokevirtual 206, 3) := by decide +kernel
theorem dX14_frameIn_27 : decode cX14_frameIn 27 = .ok (.aload_n 0, 1) := by decide +kernel
theorem dX14_frameIn_28 : decode cX14_frameIn 28 = .ok (.getfield 128, 3) := by decide +kernel
theorem dX14_frameIn_31 : decode cX14_frameIn 31 = .ok (.if_icmp .ne 7, 3) := by decide +kernel
theorem dX14_frameIn_34 : decode cX14_frameIn 34 = .ok (.iconst 1, 1) := by decide +kernel
theorem dX14_frameIn_35 : decode cX14_frameIn 35 = .ok (.goto 4, 3) := by decide +kernel
theorem dX14_frameIn_38 : decode cX14_frameIn 38 = .ok (.iconst 0, 1) := by decide +kernel
theorem dX14_frameIn_39 : decode cX14_frameIn 39 = .ok (.istore_n 1, 1) := by decide +kernel
theorem dX14_frameIn_40 : decode cX14_frameIn 40 = .ok (.aload_n 0, 1) := by decide +kernel
theorem dX14_frameIn_41 : decode cX14_frameIn 41 = .ok (.iconst 0, 1) := by decide +kernel
theorem dX14_frameIn_42 : decode cX14_frameIn 42 = .ok (.invokevirtual 210, 3) := by decide +kernel
theorem dX14_frameIn_45 : decode cX14_frameIn 45 = .ok (.ldc 14, 2) := by decide +kernel
theorem dX14_frameIn_47 : decode cX14_frameIn 47 = .ok (.if_icmp .ne 16, 3) := by decide +kernel
theorem dX14_frameIn_50 : decode cX14_frameIn 50 = .ok (.aload_n 0, 1) := by decide +kernel
theorem dX14_frameIn_51 : decode cX14_frameIn 51 = .ok (.iconst 2, 1) := by decide +kernel
theorem dX14_frameIn_52 : decode cX14_frameIn 52 = .ok (.invokevirtual 206, 3) := by decide +kernel
theorem dX14_frameIn_55 : decode cX14_frameIn 55 = .ok (.iconst (-1), 1) := by decide +kernel
theorem dX14_frameIn_56 : decode cX14_frameIn 56 = .ok (.if_icmp .ne 7, 3) := by decide +kernel
theorem dX14_frameIn_59 : decode cX14_frameIn 59 = .ok (.iconst 1, 1) := by decide +kernel
theorem dX14_frameIn_60 : decode cX14_frameIn 60 = .ok (.goto 4, 3) := by decide +kernel
theorem dX14_frameIn_63 : decode cX14_frameIn 63 = .ok (.iconst 0, 1) := by decide +kernel
theorem dX14_frameIn_64 : decode cX14_frameIn 64 = .ok (.istore_n 2, 1) := by decide +kernel
theorem dX14_frameIn_65 : decode cX14_frameIn 65 = .ok (.iload_n 1, 1) := by decide +kernel
theorem dX14_frameIn_66 : decode cX14_frameIn 66 = .ok (.ifCond .ne 8, 3) := by decide +kernel
theorem dX14_frameIn_69 : decode cX14_frameIn 69 = .ok (.iload_n 2, 1) := by decide +kernel
theorem dX14_frameIn_70 : decode cX14_frameIn 70 = .ok (.ifCond .ne 4, 3) := by decide +kernel
theorem dX14_frameIn_73 : decode cX14_frameIn 73 = .ok (.return_, 1) := by decide +kernel
theorem dX14_frameIn_74 : decode cX14_frameIn 74 = .ok (.aload_n 0, 1) := by decide +kernel
theorem dX14_frameIn_75 : decode cX14_frameIn 75 = .ok (.bipush 12, 2) := by decide +kernel
theorem dX14_frameIn_77 : decode cX14_frameIn 77 = .ok (.invokevirtual 210, 3) := by decide +kernel
theorem dX14_frameIn_80 : decode cX14_frameIn 80 = .ok (.sipush 2054, 3) := by decide +kernel
theorem dX14_frameIn_83 : decode cX14_frameIn 83 = .ok (.if_icmp .ne 10, 3) := by decide +kernel
theorem dX14_frameIn_86 : decode cX14_frameIn 86 = .ok (.aload_n 0, 1) := by decide +kernel
theorem dX14_frameIn_87 : decode cX14_frameIn 87 = .ok (.invokevirtual 606, 3) := by decide +kernel
theorem dX14_frameIn_90 : decode cX14_frameIn 90 = .ok (.goto 19, 3) := by decide +kernel
theorem dX14_frameIn_93 : decode cX14_frameIn 93 = .ok (.aload_n 0, 1) := by decide +kernel
theorem dX14_frameIn_94 : decode cX14_frameIn 94 = .ok (.bipush 12, 2) := by decide +kernel
theorem dX14_frameIn_96 : decode cX14_frameIn 96 = .ok (.invokevirtual 210, 3) := by decide +kernel
theorem dX14_frameIn_99 : decode cX14_frameIn 99 = .ok (.sipush 2048, 3) := by decide +kernel
theorem dX14_frameIn_102 : decode cX14_frameIn 102 = .ok (.if_icmp .ne 7, 3) := by decide +kernel
theorem dX14_frameIn_105 : decode cX14_frameIn 105 = .ok (.aload_n 0, 1) := by decide +kernel
theorem dX14_frameIn_106 : decode cX14_frameIn 106 = .ok (.invokevirtual 609, 3) := by decide +kernel
theorem dX14_frameIn_109 : decode cX14_frameIn 109 = .ok (.return_, 1) := by decide +kernel
def rmX14_frameIn : Room := { frames := 15, cells := 0, slots := 0, locals := 363 }
theorem kX14_frameIn : yX14_frameIn.cls = "WebHostModel" ∧ yX14_frameIn.cls ≠ "java/lang/invoke/MethodHandle" ∧ yX14_frameIn.cls ≠ "java/lang/invoke/VarHandle" ∧ (parseMethodDescriptor yX14_frameIn.desc).map (fun d => d.parameters.length) = some 0 := by decide +kernel
def w14_frameIn_J74 (σ : St) (Q : St → Prop) : Prop := w14_trayHalf σ 12 (fun r3 => ((¬ r3 = 2054 → (w14_trayHalf σ 12 (fun r4 => ((¬ r4 = 2048 → Q σ) ∧ (r4 = 2048 → (w14_ipIn σ (fun σ5 => (Q σ5)))))))) ∧ (r3 = 2054 → (w14_arp σ (fun σ6 => (Q σ6))))))
set_option maxHeartbeats 4000000 in
theorem k14_frameIn_J74 {p : Program} {l : Launch} {e : Env} {s : State} {m : MethodId} {args : Array Value} {below : List Frame} {meth : Method} {c : Code} {G : Gh} {a1 : Nat → Nat → Nat} {τ : St} {Q : St → Prop} (C : Cx p e s m args meth c cX14_frameIn 3 none "WebHostModel" G) (σ : St) (hw : w14_frameIn_J74 σ Q) (H : Heap) (locs : List Loc) (ls : Array Slot) (hH : Hd G a1 (cmb τ σ) H) (hS : va_S (gA G) s.heap H locs) (hl : lv_has ls 3 [(0, .ref (ga G 14 0))]) : W p l e rmX14_frameIn s m args below meth c H locs 0 0 (MQ below (QVs G a1 (fun u => cmb τ u) Q) args s 0 0 (gA G)) (F0 m 74 ls []) := by
  have hx := C.1
  have hb := C.2.1
  have hown := C.2.2.2.2.2.1
  have hts := C.2.2.2.2.2.2.1
  refine lv_aload_n hx hb dX14_frameIn_74 rfl (lv_at hl 0 rfl) ?_
  refine lv_bipush (v := 12) hx hb dX14_frameIn_75 (by decide) ?_
  refine kc_ip (rn_vp (As := [.int 12]) (rest := []) C hH hS (by decide) rfl (by decide) (m14_trayHalf l G a1 τ σ H 12 _ hw) (cwV 1 hts (lw_V q2329 q2331 qs105 q171 q2332) rfl rfl rfl kX14_trayHalf ⟨Nat.le_of_ble_eq_true rfl, Nat.le_of_ble_eq_true rfl⟩) rfl hl.1 rfl (Nat.le_of_ble_eq_true rfl) dX14_frameIn_77 ⟨Nat.le_of_ble_eq_true rfl, Nat.le_of_ble_eq_true rfl⟩) hS (fun r3 locs hw hS => ?_)
  refine lv_sipush (v := 2054) hx hb dX14_frameIn_80 (by decide) ?_
  refine lv_icmp_ne (tgt := 93) hx hb dX14_frameIn_83 (by decide) (fun h => ?_) (fun h => ?_)
  · have hw := hw.1 h
    refine lv_aload_n hx hb dX14_frameIn_93 rfl (lv_at hl 0 rfl) ?_
    refine lv_bipush (v := 12) hx hb dX14_frameIn_94 (by decide) ?_
    refine kc_ip (rn_vp (As := [.int 12]) (rest := []) C hH hS (by decide) rfl (by decide) (m14_trayHalf l G a1 τ σ H 12 _ hw) (cwV 1 hts (lw_V q2329 q2331 qs105 q171 q2332) rfl rfl rfl kX14_trayHalf ⟨Nat.le_of_ble_eq_true rfl, Nat.le_of_ble_eq_true rfl⟩) rfl hl.1 rfl (Nat.le_of_ble_eq_true rfl) dX14_frameIn_96 ⟨Nat.le_of_ble_eq_true rfl, Nat.le_of_ble_eq_true rfl⟩) hS (fun r4 locs hw hS => ?_)
    refine lv_sipush (v := 2048) hx hb dX14_frameIn_99 (by decide) ?_
    refine lv_icmp_ne (tgt := 109) hx hb dX14_frameIn_102 (by decide) (fun h => ?_) (fun h => ?_)
    · have hw := hw.1 h
      exact rt_v C hH hS hw dX14_frameIn_109
    have hw := hw.2 h
    refine lv_aload_n hx hb dX14_frameIn_105 rfl (lv_at hl 0 rfl) ?_
    refine kc_v (rn_v (As := []) (rest := []) C hH hS (by decide) rfl (by decide) (m14_ipIn l G a1 τ σ _ hw) (cwV 0 hts (lw_V q2345 q2347 qs109 q171 q2348) rfl rfl rfl kX14_ipIn ⟨Nat.le_of_ble_eq_true rfl, Nat.le_of_ble_eq_true rfl⟩) rfl hl.1 rfl (Nat.le_of_ble_eq_true rfl) dX14_frameIn_106 ⟨Nat.le_of_ble_eq_true rfl, Nat.le_of_ble_eq_true rfl⟩) hS (fun σ5 H locs hw hH hS => ?_)
    exact rt_v C hH hS hw dX14_frameIn_109
  have hw := hw.2 h
  refine lv_aload_n hx hb dX14_frameIn_86 rfl (lv_at hl 0 rfl) ?_
  refine kc_v (rn_v (As := []) (rest := []) C hH hS (by decide) rfl (by decide) (m14_arp l G a1 τ σ _ hw) (cwV 0 hts (lw_V q2337 q2339 qs107 q171 q2340) rfl rfl rfl kX14_arp ⟨Nat.le_of_ble_eq_true rfl, Nat.le_of_ble_eq_true rfl⟩) rfl hl.1 rfl (Nat.le_of_ble_eq_true rfl) dX14_frameIn_87 ⟨Nat.le_of_ble_eq_true rfl, Nat.le_of_ble_eq_true rfl⟩) hS (fun σ6 H locs hw hH hS => ?_)
  refine lv_goto (tgt := 109) hx hb dX14_frameIn_90 (by decide) ?_
  exact rt_v C hH hS hw dX14_frameIn_109
def w14_frameIn_J39 (σ : St) (xs0 : Int32) (Q : St → Prop) : Prop := w14_trayHalf σ 0 (fun r2 => ((¬ r2 = 65535 → ((¬ xs0 = 0 → w14_frameIn_J74 σ Q) ∧ (xs0 = 0 → ((¬ (0 : Int32) = 0 → w14_frameIn_J74 σ Q) ∧ ((0 : Int32) = 0 → Q σ))))) ∧ (r2 = 65535 → (w14_trayWord σ 2 (fun r7 => ((¬ r7 = (-1) → ((¬ xs0 = 0 → w14_frameIn_J74 σ Q) ∧ (xs0 = 0 → ((¬ (0 : Int32) = 0 → w14_frameIn_J74 σ Q) ∧ ((0 : Int32) = 0 → Q σ))))) ∧ (r7 = (-1) → ((¬ xs0 = 0 → w14_frameIn_J74 σ Q) ∧ (xs0 = 0 → ((¬ (1 : Int32) = 0 → w14_frameIn_J74 σ Q) ∧ ((1 : Int32) = 0 → Q σ)))))))))))
set_option maxHeartbeats 4000000 in
theorem k14_frameIn_J39 {p : Program} {l : Launch} {e : Env} {s : State} {m : MethodId} {args : Array Value} {below : List Frame} {meth : Method} {c : Code} {G : Gh} {a1 : Nat → Nat → Nat} {τ : St} {Q : St → Prop} (C : Cx p e s m args meth c cX14_frameIn 3 none "WebHostModel" G) (σ : St) (xs0 : Int32) (hw : w14_frameIn_J39 σ xs0 Q) (H : Heap) (locs : List Loc) (ls : Array Slot) (hH : Hd G a1 (cmb τ σ) H) (hS : va_S (gA G) s.heap H locs) (hl : lv_has ls 3 [(0, .ref (ga G 14 0))]) : W p l e rmX14_frameIn s m args below meth c H locs 0 0 (MQ below (QVs G a1 (fun u => cmb τ u) Q) args s 0 0 (gA G)) (F0 m 39 ls [.int xs0]) := by
  have hx := C.1
  have hb := C.2.1
  have hown := C.2.2.2.2.2.1
  have hts := C.2.2.2.2.2.2.1
  refine lv_istore_n (lv' := [(1, .int xs0), (0, .ref (ga G 14 0))]) hx hb dX14_frameIn_39 rfl hl (by decide) rfl (fun ls hl => ?_)
  refine lv_aload_n hx hb dX14_frameIn_40 rfl (lv_at hl 1 rfl) ?_
  refine lv_iconst (v := 0) hx hb dX14_frameIn_41 (by decide) ?_
  refine kc_ip (rn_vp (As := [.int 0]) (rest := []) C hH hS (by decide) rfl (by decide) (m14_trayHalf l G a1 τ σ H 0 _ hw) (cwV 1 hts (lw_V q2329 q2331 qs105 q171 q2332) rfl rfl rfl kX14_trayHalf ⟨Nat.le_of_ble_eq_true rfl, Nat.le_of_ble_eq_true rfl⟩) rfl hl.1 rfl (Nat.le_of_ble_eq_true rfl) dX14_frameIn_42 ⟨Nat.le_of_ble_eq_true rfl, Nat.le_of_ble_eq_true rfl⟩) hS (fun r2 locs hw hS => ?_)
  refine lv_ldc (v := 65535) hx hb hown (hts _ q1692) dX14_frameIn_45 ?_
  refine lv_icmp_ne (tgt := 63) hx hb dX14_frameIn_47 (by decide) (fun h => ?_) (fun h => ?_)
  · have hw := hw.1 h
    refine lv_iconst (v := 0) hx hb dX14_frameIn_63 (by decide) ?_
    refine lv_istore_n (lv' := [(2, .int 0), (1, .int xs0), (0, .ref (ga G 14 0))]) hx hb dX14_frameIn_64 rfl hl (by decide) rfl (fun ls hl => ?_)
    refine lv_iload_n hx hb dX14_frameIn_65 rfl (lv_at hl 1 rfl) ?_
    refine lv_if_ne (tgt := 74) hx hb dX14_frameIn_66 (by decide) (fun h => ?_) (fun h => ?_)
    · have hw := hw.1 h
      exact k14_frameIn_J74 C σ hw H locs ls hH hS (lv_sub hl [2] rfl)
    have hw := hw.2 h
    refine lv_iload_n hx hb dX14_frameIn_69 rfl (lv_at hl 0 rfl) ?_
    refine lv_if_ne (tgt := 74) hx hb dX14_frameIn_70 (by decide) (fun h => ?_) (fun h => ?_)
    · have hw := hw.1 h
      exact k14_frameIn_J74 C σ hw H locs ls hH hS (lv_sub hl [2] rfl)
    have hw := hw.2 h
    exact rt_v C hH hS hw dX14_frameIn_73
  have hw := hw.2 h
  refine lv_aload_n hx hb dX14_frameIn_50 rfl (lv_at hl 1 rfl) ?_
  refine lv_iconst (v := 2) hx hb dX14_frameIn_51 (by decide) ?_
  refine kc_ip (rn_vp (As := [.int 2]) (rest := []) C hH hS (by decide) rfl (by decide) (m14_trayWord l G a1 τ σ H 2 _ hw) (cwV 1 hts (lw_V q2333 q2335 qs106 q171 q2336) rfl rfl rfl kX14_trayWord ⟨Nat.le_of_ble_eq_true rfl, Nat.le_of_ble_eq_true rfl⟩) rfl hl.1 rfl (Nat.le_of_ble_eq_true rfl) dX14_frameIn_52 ⟨Nat.le_of_ble_eq_true rfl, Nat.le_of_ble_eq_true rfl⟩) hS (fun r7 locs hw hS => ?_)
  refine lv_iconst (v := (-1)) hx hb dX14_frameIn_55 (by decide) ?_
  refine lv_icmp_ne (tgt := 63) hx hb dX14_frameIn_56 (by decide) (fun h => ?_) (fun h => ?_)
  · have hw := hw.1 h
    refine lv_iconst (v := 0) hx hb dX14_frameIn_63 (by decide) ?_
    refine lv_istore_n (lv' := [(2, .int 0), (1, .int xs0), (0, .ref (ga G 14 0))]) hx hb dX14_frameIn_64 rfl hl (by decide) rfl (fun ls hl => ?_)
    refine lv_iload_n hx hb dX14_frameIn_65 rfl (lv_at hl 1 rfl) ?_
    refine lv_if_ne (tgt := 74) hx hb dX14_frameIn_66 (by decide) (fun h => ?_) (fun h => ?_)
    · have hw := hw.1 h
      exact k14_frameIn_J74 C σ hw H locs ls hH hS (lv_sub hl [2] rfl)
    have hw := hw.2 h
    refine lv_iload_n hx hb dX14_frameIn_69 rfl (lv_at hl 0 rfl) ?_
    refine lv_if_ne (tgt := 74) hx hb dX14_frameIn_70 (by decide) (fun h => ?_) (fun h => ?_)
    · have hw := hw.1 h
      exact k14_frameIn_J74 C σ hw H locs ls hH hS (lv_sub hl [2] rfl)
    have hw := hw.2 h
    exact rt_v C hH hS hw dX14_frameIn_73
  have hw := hw.2 h
  refine lv_iconst (v := 1) hx hb dX14_frameIn_59 (by decide) ?_
  refine lv_goto (tgt := 64) hx hb dX14_frameIn_60 (by decide) ?_
  refine lv_istore_n (lv' := [(2, .int 1), (1, .int xs0), (0, .ref (ga G 14 0))]) hx hb dX14_frameIn_64 rfl hl (by decide) rfl (fun ls hl => ?_)
  refine lv_iload_n hx hb dX14_frameIn_65 rfl (lv_at hl 1 rfl) ?_
  refine lv_if_ne (tgt := 74) hx hb dX14_frameIn_66 (by decide) (fun h => ?_) (fun h => ?_)
  · have hw := hw.1 h
    exact k14_frameIn_J74 C σ hw H locs ls hH hS (lv_sub hl [2] rfl)
  have hw := hw.2 h
  refine lv_iload_n hx hb dX14_frameIn_69 rfl (lv_at hl 0 rfl) ?_
  refine lv_if_ne (tgt := 74) hx hb dX14_frameIn_70 (by decide) (fun h => ?_) (fun h => ?_)
  · have hw := hw.1 h
    exact k14_frameIn_J74 C σ hw H locs ls hH hS (lv_sub hl [2] rfl)
  have hw := hw.2 h
  exact rt_v C hH hS hw dX14_frameIn_73
def w14_frameIn (σ : St) (Q : St → Prop) : Prop := (14 ≤ (σ 14 0 1) → (w14_trayHalf σ 0 (fun r1 => ((¬ r1 = (σ 14 0 8) → w14_frameIn_J39 σ 0 Q) ∧ (r1 = (σ 14 0 8) → (w14_trayWord σ 2 (fun r8 => ((¬ r8 = (σ 14 0 9) → w14_frameIn_J39 σ 0 Q) ∧ (r8 = (σ 14 0 9) → w14_frameIn_J39 σ 1 Q))))))))) ∧ (¬ 14 ≤ (σ 14 0 1) → Q σ)
set_option maxHeartbeats 4000000 in
theorem m14_frameIn (l : Launch) (G : Gh) (a1 : Nat → Nat → Nat) (τ : St) (σ : St) (Q : St → Prop) (hw : w14_frameIn σ Q) : Met l yX14_frameIn (ws_ yX14_frameIn cX14_frameIn 3 none) rmX14_frameIn (PcS G a1 (cmb τ σ) [.ref (ga G 14 0)]) (QVs G a1 (fun u => cmb τ u) Q) 0 0 (gA G) := by
  refine met_w (by decide) (Nat.le_of_ble_eq_true rfl) ?_
  intro p e s m below meth c ls C hH hS hl
  have C : Cx p e s m _ meth c cX14_frameIn 3 none "WebHostModel" G := C
  have hl : lv_has ls 3 [(0, .ref (ga G 14 0))] := hl
  have hx := C.1
  have hb := C.2.1
  have hown := C.2.2.2.2.2.1
  have hts := C.2.2.2.2.2.2.1
  obtain ⟨locs, hlocs⟩ : ∃ z : List Loc, z = [] := ⟨_, rfl⟩
  obtain ⟨H, hHe⟩ : ∃ z : Heap, z = s.heap := ⟨_, rfl⟩
  have hH : Hd G a1 (cmb τ σ) H := by rw [hHe]; exact hH
  have hS : va_S (gA G) s.heap H locs := by rw [hHe, hlocs]; exact hS
  refine W.heap0 hHe.symm hlocs.symm ?_
  refine lv_aload_n hx hb dX14_frameIn_0 rfl (lv_at hl 0 rfl) ?_
  refine g14_1 C hH q1941 dX14_frameIn_1 ?_
  refine lv_bipush (v := 14) hx hb dX14_frameIn_4 (by decide) ?_
  refine lv_icmp_ge (tgt := 10) hx hb dX14_frameIn_6 (by decide) (fun h => ?_) (fun h => ?_)
  · have hw := hw.1 h
    refine lv_aload_n hx hb dX14_frameIn_10 rfl (lv_at hl 0 rfl) ?_
    refine lv_iconst (v := 0) hx hb dX14_frameIn_11 (by decide) ?_
    refine kc_ip (rn_vp (As := [.int 0]) (rest := []) C hH hS (by decide) rfl (by decide) (m14_trayHalf l G a1 τ σ H 0 _ hw) (cwV 1 hts (lw_V q2329 q2331 qs105 q171 q2332) rfl rfl rfl kX14_trayHalf ⟨Nat.le_of_ble_eq_true rfl, Nat.le_of_ble_eq_true rfl⟩) rfl hl.1 rfl (Nat.le_of_ble_eq_true rfl) dX14_frameIn_12 ⟨Nat.le_of_ble_eq_true rfl, Nat.le_of_ble_eq_true rfl⟩) hS (fun r1 locs hw hS => ?_)
    refine lv_aload_n hx hb dX14_frameIn_15 rfl (lv_at hl 0 rfl) ?_
    refine g14_8 C hH q1948 dX14_frameIn_16 ?_
    refine lv_icmp_ne (tgt := 38) hx hb dX14_frameIn_19 (by decide) (fun h => ?_) (fun h => ?_)
    · have hw := hw.1 h
      refine lv_iconst (v := 0) hx hb dX14_frameIn_38 (by decide) ?_
      exact k14_frameIn_J39 C σ 0 hw H locs ls hH hS (lv_sub hl [0] rfl)
    have hw := hw.2 h
    refine lv_aload_n hx hb dX14_frameIn_22 rfl (lv_at hl 0 rfl) ?_
    refine lv_iconst (v := 2) hx hb dX14_frameIn_23 (by decide) ?_
    refine kc_ip (rn_vp (As := [.int 2]) (rest := []) C hH hS (by decide) rfl (by decide) (m14_trayWord l G a1 τ σ H 2 _ hw) (cwV 1 hts (lw_V q2333 q2335 qs106 q171 q2336) rfl rfl rfl kX14_trayWord ⟨Nat.le_of_ble_eq_true rfl, Nat.le_of_ble_eq_true rfl⟩) rfl hl.1 rfl (Nat.le_of_ble_eq_true rfl) dX14_frameIn_24 ⟨Nat.le_of_ble_eq_true rfl, Nat.le_of_ble_eq_true rfl⟩) hS (fun r8 locs hw hS => ?_)
    refine lv_aload_n hx hb dX14_frameIn_27 rfl (lv_at hl 0 rfl) ?_
    refine g14_9 C hH q1949 dX14_frameIn_28 ?_
    refine lv_icmp_ne (tgt := 38) hx hb dX14_frameIn_31 (by decide) (fun h => ?_) (fun h => ?_)
    · have hw := hw.1 h
      refine lv_iconst (v := 0) hx hb dX14_frameIn_38 (by decide) ?_
      exact k14_frameIn_J39 C σ 0 hw H locs ls hH hS (lv_sub hl [0] rfl)
    have hw := hw.2 h
    refine lv_iconst (v := 1) hx hb dX14_frameIn_34 (by decide) ?_
    refine lv_goto (tgt := 39) hx hb dX14_frameIn_35 (by decide) ?_
    exact k14_frameIn_J39 C σ 1 hw H locs ls hH hS (lv_sub hl [0] rfl)
  have hw := hw.2 h
  exact rt_v C hH hS hw dX14_frameIn_9
/-! WebHost.datagram([BIIII)V -/
abbrev cX0_datagram : ByteArray := prog_1_method_14_code
def yX0_datagram : MethodName := ⟨RX0, "datagram", "([BIIII)V"⟩
theorem dX0_datagram_0 : decode cX0_datagram 0 = .ok (.iload 5, 2) := by decide +kernel
theorem dX0_datagram_2 : decode cX0_datagram 2 = .ok (.iconst 1, 1) := by decide +kernel
theorem dX0_datagram_3 : decode cX0_datagram 3 = .ok (.if_icmp .ne 15, 3) := by decide +kernel
theorem dX0_datagram_6 : decode cX0_datagram 6 = .ok (.aload_n 0, 1) := by decide +kernel
theorem dX0_datagram_7 : decode cX0_datagram 7 = .ok (.aload_n 1, 1) := by decide +kernel
theorem dX0_datagram_8 : decode cX0_datagram 8 = .ok (.iload_n 2, 1) := by decide +kernel
theorem dX0_datagram_9 : decode cX0_datagram 9 = .ok (.iload_n 3, 1) := by decide +kernel
theorem dX0_datagram_10 : decode cX0_datagram 10 = .ok (.iload 4, 2) := by decide +kernel
theorem dX0_datagram_12 : decode cX0_datagram 12 = .ok (.invokevirtual 225, 3) := by decide +kernel
theorem dX0_datagram_15 : decode cX0_datagram 15 = .ok (.goto 33, 3) := by decide +kernel
theorem dX0_datagram_18 : decode cX0_datagram 18 = .ok (.iload 5, 2) := by decide +kernel
theorem dX0_datagram_20 : decode cX0_datagram 20 = .ok (.bipush 6, 2) := by decide +kernel
theorem dX0_datagram_22 : decode cX0_datagram 22 = .ok (.if_icmp .ne 26, 3) := by decide +kernel
theorem dX0_datagram_25 : decode cX0_datagram 25 = .ok (.aload_n 0, 1) := by decide +kernel
theorem dX0_datagram_26 : decode cX0_datagram 26 = .ok (.getfield 80, 3) := by decide +kernel
theorem dX0_datagram_29 : decode cX0_datagram 29 = .ok (.aload_n 1, 1) := by decide +kernel
theorem dX0_datagram_30 : decode cX0_datagram 30 = .ok (.iload_n 2, 1) := by decide +kernel
theorem dX0_datagram_31 : decode cX0_datagram 31 = .ok (.iload_n 3, 1) := by decide +kernel
theorem dX0_datagram_32 : decode cX0_datagram 32 = .ok (.iload 4, 2) := by decide +kernel
theorem dX0_datagram_34 : decode cX0_datagram 34 = .ok (.aload_n 0, 1) := by decide +kernel
theorem dX0_datagram_35 : decode cX0_datagram 35 = .ok (.getfield 117, 3) := by decide +kernel
theorem dX0_datagram_38 : decode cX0_datagram 38 = .ok (.invokevirtual 229, 3) := by decide +kernel
theorem dX0_datagram_41 : decode cX0_datagram 41 = .ok (.ifCond .eq 7, 3) := by decide +kernel
theorem dX0_datagram_44 : decode cX0_datagram 44 = .ok (.aload_n 0, 1) := by decide +kernel
theorem dX0_datagram_45 : decode cX0_datagram 45 = .ok (.invokevirtual 233, 3) := by decide +kernel
theorem dX0_datagram_48 : decode cX0_datagram 48 = .ok (.return_, 1) := by decide +kernel
def rmX0_datagram : Room := { frames := 16, cells := 1, slots := 66047, locals := 353 }
theorem kX0_datagram : yX0_datagram.cls = "WebHost" ∧ yX0_datagram.cls ≠ "java/lang/invoke/MethodHandle" ∧ yX0_datagram.cls ≠ "java/lang/invoke/VarHandle" ∧ (parseMethodDescriptor yX0_datagram.desc).map (fun d => d.parameters.length) = some 5 := by decide +kernel
def w0_datagram (σ : St) (k1 : Nat) (i1 : Nat) (x2 : Int32) (x3 : Int32) (x4 : Int32) (x5 : Int32) (Q : St → Prop) : Prop := (¬ x5 = 1 → ((¬ x5 = 6 → Q σ) ∧ (x5 = 6 → (w10_read σ k1 i1 x2 x3 x4 (σ 0 0 12) (fun r1 σ1 => ((r1 = 0 → Q σ1) ∧ (¬ r1 = 0 → (w0_take σ1 (fun σ2 => (Q σ2)))))))))) ∧ (x5 = 1 → (w0_echo σ k1 i1 x2 x3 x4 (fun σ3 => (Q σ3))))
set_option maxHeartbeats 4000000 in
theorem m0_datagram (l : Launch) (G : Gh) (a1 : Nat → Nat → Nat) (τ : St) (σ : St) (k1 : Nat) (i1 : Nat) (x2 : Int32) (x3 : Int32) (x4 : Int32) (x5 : Int32) (hk1 : abc k1 i1 = true) (Q : St → Prop) (hw : w0_datagram σ k1 i1 x2 x3 x4 x5 Q) : Met l yX0_datagram (ws_ yX0_datagram cX0_datagram 6 none) rmX0_datagram (PcS G a1 (cmb σ τ) [.ref (ga G 0 0), .ref (adr G a1 k1 i1), .int x2, .int x3, .int x4, .int x5]) (QVa G (fun u => cmb u τ) Q) 1 66047 (gA G) := by
  refine met_w (by decide) (Nat.le_of_ble_eq_true rfl) ?_
  intro p e s m below meth c ls C hH hS hl
  have C : Cx p e s m _ meth c cX0_datagram 6 none "WebHost" G := C
  have hl : lv_has ls 6 [(0, .ref (ga G 0 0)), (1, .ref (adr G a1 k1 i1)), (2, .int x2), (3, .int x3), (4, .int x4), (5, .int x5)] := hl
  have hx := C.1
  have hb := C.2.1
  have hown := C.2.2.2.2.2.1
  have hts := C.2.2.2.2.2.2.1
  obtain ⟨locs, hlocs⟩ : ∃ z : List Loc, z = [] := ⟨_, rfl⟩
  obtain ⟨H, hHe⟩ : ∃ z : Heap, z = s.heap := ⟨_, rfl⟩
  have hH : Hd G a1 (cmb σ τ) H := by rw [hHe]; exact hH
  have hS : va_S (gA G) s.heap H locs := by rw [hHe, hlocs]; exact hS
  refine W.heap0 hHe.symm hlocs.symm ?_
  refine lv_iload hx hb dX0_datagram_0 (lv_at hl 5 rfl) ?_
  refine lv_iconst (v := 1) hx hb dX0_datagram_2 (by decide) ?_
  refine lv_icmp_ne (tgt := 18) hx hb dX0_datagram_3 (by decide) (fun h => ?_) (fun h => ?_)
  · have hw := hw.1 h
    refine lv_iload hx hb dX0_datagram_18 (lv_at hl 5 rfl) ?_
    refine lv_bipush (v := 6) hx hb dX0_datagram_20 (by decide) ?_
    refine lv_icmp_ne (tgt := 48) hx hb dX0_datagram_22 (by decide) (fun h => ?_) (fun h => ?_)
    · have hw := hw.1 h
      refine W.widen (k := 1) (n := 66047) (Nat.zero_le _) (Nat.zero_le _) ?_
      exact rt_va C hH hS hw dX0_datagram_48
    have hw := hw.2 h
    refine lv_aload_n hx hb dX0_datagram_25 rfl (lv_at hl 0 rfl) ?_
    refine g0_10 C hH q753 dX0_datagram_26 ?_
    refine lv_aload_n hx hb dX0_datagram_29 rfl (lv_at hl 1 rfl) ?_
    refine lv_iload_n hx hb dX0_datagram_30 rfl (lv_at hl 2 rfl) ?_
    refine lv_iload_n hx hb dX0_datagram_31 rfl (lv_at hl 3 rfl) ?_
    refine lv_iload hx hb dX0_datagram_32 (lv_at hl 4 rfl) ?_
    refine lv_aload_n hx hb dX0_datagram_34 rfl (lv_at hl 0 rfl) ?_
    refine g0_12 C hH q755 dX0_datagram_35 ?_
    refine kc_i (rn_v (As := [.ref (adr G a1 k1 i1), .int x2, .int x3, .int x4, .int (σ 0 0 12)]) (rest := []) C hH hS (by decide) rfl (by decide) (m10_read l G a1 τ σ k1 i1 x2 x3 x4 (σ 0 0 12) hk1 _ hw) (cwV 5 hts (lw_V q1113 q1114 q1115 q167 q1116) rfl rfl rfl kX10_read ⟨Nat.le_of_ble_eq_true rfl, Nat.le_of_ble_eq_true rfl⟩) rfl hl.1 rfl (Nat.le_of_ble_eq_true rfl) dX0_datagram_38 ⟨Nat.le_of_ble_eq_true rfl, Nat.le_of_ble_eq_true rfl⟩) hS (fun r1 σ1 H locs hw hH hS => ?_)
    refine lv_if_eq (tgt := 48) hx hb dX0_datagram_41 (by decide) (fun h => ?_) (fun h => ?_)
    · have hw := hw.1 h
      refine W.widen (k := 1) (n := 66047) (Nat.zero_le _) (Nat.zero_le _) ?_
      exact rt_va C hH hS hw dX0_datagram_48
    have hw := hw.2 h
    refine lv_aload_n hx hb dX0_datagram_44 rfl (lv_at hl 0 rfl) ?_
    refine kc_va (rn_v (As := []) (rest := []) C hH hS (by decide) rfl (by decide) (m0_take l G a1 τ σ1 _ hw) (cwV 0 hts (lw_V q1128 q1130 qs30 q157 q1131) rfl rfl rfl kX0_take ⟨Nat.le_of_ble_eq_true rfl, Nat.le_of_ble_eq_true rfl⟩) rfl hl.1 rfl (Nat.le_of_ble_eq_true rfl) dX0_datagram_45 ⟨Nat.le_of_ble_eq_true rfl, Nat.le_of_ble_eq_true rfl⟩) hS (fun σ2 a2 H locs hw hH hS => ?_)
    refine W.cs (cells' := 1) (slots' := 66047) rfl rfl ?_
    exact rt_va C hH hS hw dX0_datagram_48
  have hw := hw.2 h
  refine lv_aload_n hx hb dX0_datagram_6 rfl (lv_at hl 0 rfl) ?_
  refine lv_aload_n hx hb dX0_datagram_7 rfl (lv_at hl 1 rfl) ?_
  refine lv_iload_n hx hb dX0_datagram_8 rfl (lv_at hl 2 rfl) ?_
  refine lv_iload_n hx hb dX0_datagram_9 rfl (lv_at hl 3 rfl) ?_
  refine lv_iload hx hb dX0_datagram_10 (lv_at hl 4 rfl) ?_
  refine kc_v (rn_v (As := [.ref (adr G a1 k1 i1), .int x2, .int x3, .int x4]) (rest := []) C hH hS (by decide) rfl (by decide) (m0_echo l G a1 τ σ k1 i1 x2 x3 x4 hk1 _ hw) (cwV 4 hts (lw_V q1107 q1109 qs28 q157 q1110) rfl rfl rfl kX0_echo ⟨Nat.le_of_ble_eq_true rfl, Nat.le_of_ble_eq_true rfl⟩) rfl hl.1 rfl (Nat.le_of_ble_eq_true rfl) dX0_datagram_12 ⟨Nat.le_of_ble_eq_true rfl, Nat.le_of_ble_eq_true rfl⟩) hS (fun σ3 H locs hw hH hS => ?_)
  refine lv_goto (tgt := 48) hx hb dX0_datagram_15 (by decide) ?_
  refine W.widen (k := 1) (n := 66047) (Nat.zero_le _) (Nat.zero_le _) ?_
  exact rt_va C hH hS hw dX0_datagram_48
/-! WebHostModel.arrive(I)I -/
abbrev cX14_arrive : ByteArray := prog_17_method_72_code
def yX14_arrive : MethodName := ⟨RX14, "arrive", "(I)I"⟩
theorem dX14_arrive_0 : decode cX14_arrive 0 = .ok (.aload_n 0, 1) := by decide +kernel
theorem dX14_arrive_1 : decode cX14_arrive 1 = .ok (.iload_n 1, 1) := by decide +kernel
theorem dX14_arrive_2 : decode cX14_arrive 2 = .ok (.invokevirtual 597, 3) := by decide +kernel
theorem dX14_arrive_5 : decode cX14_arrive 5 = .ok (.istore_n 2, 1) := by decide +kernel
theorem dX14_arrive_6 : decode cX14_arrive 6 = .ok (.iload_n 2, 1) := by decide +kernel
theorem dX14_arrive_7 : decode cX14_arrive 7 = .ok (.ifCond .ge 5, 3) := by decide +kernel
theorem dX14_arrive_10 : decode cX14_arrive 10 = .ok (.iload_n 2, 1) := by decide +kernel
theorem dX14_arrive_11 : decode cX14_arrive 11 = .ok (.ireturn, 1) := by decide +kernel
theorem dX14_arrive_12 : decode cX14_arrive 12 = .ok (.aload_n 0, 1) := by decide +kernel
theorem dX14_arrive_13 : decode cX14_arrive 13 = .ok (.getfield 84, 3) := by decide +kernel
theorem dX14_arrive_16 : decode cX14_arrive 16 = .ok (.ifCond .eq 13, 3) := by decide +kernel
theorem dX14_arrive_19 : decode cX14_arrive 19 = .ok (.aload_n 0, 1) := by decide +kernel
theorem dX14_arrive_20 : decode cX14_arrive 20 = .ok (.getfield 84, 3) := by decide +kernel
theorem dX14_arrive_23 : decode cX14_arrive 23 = .ok (.sipush 1514, 3) := by decide +kernel
theorem dX14_arrive_26 : decode cX14_arrive 26 = .ok (.if_icmp .le 6, 3) := by decide +kernel
theorem dX14_arrive_29 : decode cX14_arrive 29 = .ok (.bipush (-3), 2) := by decide +kernel
theorem dX14_arrive_31 : decode cX14_arrive 31 = .ok (.ireturn, 1) := by decide +kernel
theorem dX14_arrive_32 : decode cX14_arrive 32 = .ok (.aload_n 0, 1) := by decide +kernel
theorem dX14_arrive_33 : decode cX14_arrive 33 = .ok (.getfield 137, 3) := by decide +kernel
theorem dX14_arrive_36 : decode cX14_arrive 36 = .ok (.istore_n 3, 1) := by decide +kernel
theorem dX14_arrive_37 : decode cX14_arrive 37 = .ok (.aload_n 0, 1) := by decide +kernel
theorem dX14_arrive_38 : decode cX14_arrive 38 = .ok (.iload_n 1, 1) := by decide +kernel
theorem dX14_arrive_39 : decode cX14_arrive 39 = .ok (.invokevirtual 600, 3) := by decide +kernel
theorem dX14_arrive_42 : decode cX14_arrive 42 = .ok (.aload_n 0, 1) := by decide +kernel
theorem dX14_arrive_43 : decode cX14_arrive 43 = .ok (.getfield 31, 3) := by decide +kernel
theorem dX14_arrive_46 : decode cX14_arrive 46 = .ok (.iconst 0, 1) := by decide +kernel
theorem dX14_arrive_47 : decode cX14_arrive 47 = .ok (.dup2, 1) := by decide +kernel
theorem dX14_arrive_48 : decode cX14_arrive 48 = .ok (.iaload, 1) := by decide +kernel
theorem dX14_arrive_49 : decode cX14_arrive 49 = .ok (.iconst 1, 1) := by decide +kernel
theorem dX14_arrive_50 : decode cX14_arrive 50 = .ok (.iadd, 1) := by decide +kernel
theorem dX14_arrive_51 : decode cX14_arrive 51 = .ok (.iastore, 1) := by decide +kernel
theorem dX14_arrive_52 : decode cX14_arrive 52 = .ok (.aload_n 0, 1) := by decide +kernel
theorem dX14_arrive_53 : decode cX14_arrive 53 = .ok (.invokevirtual 603, 3) := by decide +kernel
theorem dX14_arrive_56 : decode cX14_arrive 56 = .ok (.aload_n 0, 1) := by decide +kernel
theorem dX14_arrive_57 : decode cX14_arrive 57 = .ok (.iconst 0, 1) := by decide +kernel
theorem dX14_arrive_58 : decode cX14_arrive 58 = .ok (.putfield 84, 3) := by decide +kernel
theorem dX14_arrive_61 : decode cX14_arrive 61 = .ok (.aload_n 0, 1) := by decide +kernel
theorem dX14_arrive_62 : decode cX14_arrive 62 = .ok (.getfield 137, 3) := by decide +kernel
theorem dX14_arrive_65 : decode cX14_arrive 65 = .ok (.iload_n 3, 1) := by decide +kernel
theorem dX14_arrive_66 : decode cX14_arrive 66 = .ok (.isub, 1) := by decide +kernel
theorem dX14_arrive_67 : decode cX14_arrive 67 = .ok (.ireturn, 1) := by decide +kernel
def rmX14_arrive : Room := { frames := 16, cells := 0, slots := 0, locals := 385 }
theorem kX14_arrive : yX14_arrive.cls = "WebHostModel" ∧ yX14_arrive.cls ≠ "java/lang/invoke/MethodHandle" ∧ yX14_arrive.cls ≠ "java/lang/invoke/VarHandle" ∧ (parseMethodDescriptor yX14_arrive.desc).map (fun d => d.parameters.length) = some 1 := by decide +kernel
def w14_arrive (σ : St) (x1 : Int32) (Q : Int32 → St → Prop) : Prop := w14_refused σ x1 (fun r1 => ((0 ≤ r1 → (((σ 14 0 1) = 0 → (Q (-3) σ)) ∧ (¬ (σ 14 0 1) = 0 → (((σ 14 0 1) ≤ 1514 → (w14_passTo σ x1 (fun σ2 => (vp_in 0 8 ∧ (vp_in 0 8 ∧ (∀ σ3, σ3 = up3 σ2 56 0 (0 : Int32).toNatClampNeg ((σ2 56 0 (0 : Int32).toNatClampNeg) + 1) → (w14_frameIn σ3 (fun σ4 => (∀ σ5, σ5 = up3 σ4 14 0 1 0 → (Q ((σ5 14 0 23) - (σ 14 0 23)) σ5)))))))))) ∧ (¬ (σ 14 0 1) ≤ 1514 → (Q (-3) σ)))))) ∧ (¬ 0 ≤ r1 → Q r1 σ)))
set_option maxHeartbeats 4000000 in
theorem m14_arrive (l : Launch) (G : Gh) (a1 : Nat → Nat → Nat) (τ : St) (σ : St) (x1 : Int32) (Q : Int32 → St → Prop) (hw : w14_arrive σ x1 Q) : Met l yX14_arrive (ws_ yX14_arrive cX14_arrive 4 (some .int)) rmX14_arrive (PcS G a1 (cmb τ σ) [.ref (ga G 14 0), .int x1]) (QIs G a1 (fun u => cmb τ u) Q) 0 0 (gA G) := by
  refine met_w (by decide) (Nat.le_of_ble_eq_true rfl) ?_
  intro p e s m below meth c ls C hH hS hl
  have C : Cx p e s m _ meth c cX14_arrive 4 (some .int) "WebHostModel" G := C
  have hl : lv_has ls 4 [(0, .ref (ga G 14 0)), (1, .int x1)] := hl
  have hx := C.1
  have hb := C.2.1
  have hown := C.2.2.2.2.2.1
  have hts := C.2.2.2.2.2.2.1
  obtain ⟨locs, hlocs⟩ : ∃ z : List Loc, z = [] := ⟨_, rfl⟩
  obtain ⟨H, hHe⟩ : ∃ z : Heap, z = s.heap := ⟨_, rfl⟩
  have hH : Hd G a1 (cmb τ σ) H := by rw [hHe]; exact hH
  have hS : va_S (gA G) s.heap H locs := by rw [hHe, hlocs]; exact hS
  refine W.heap0 hHe.symm hlocs.symm ?_
  refine lv_aload_n hx hb dX14_arrive_0 rfl (lv_at hl 0 rfl) ?_
  refine lv_iload_n hx hb dX14_arrive_1 rfl (lv_at hl 1 rfl) ?_
  refine kc_ip (rn_vp (As := [.int x1]) (rest := []) C hH hS (by decide) rfl (by decide) (m14_refused l G a1 τ σ H x1 _ hw) (cwV 1 hts (lw_V q2170 q2172 qs79 q171 q2173) rfl rfl rfl kX14_refused ⟨Nat.le_of_ble_eq_true rfl, Nat.le_of_ble_eq_true rfl⟩) rfl hl.1 rfl (Nat.le_of_ble_eq_true rfl) dX14_arrive_2 ⟨Nat.le_of_ble_eq_true rfl, Nat.le_of_ble_eq_true rfl⟩) hS (fun r1 locs hw hS => ?_)
  refine lv_istore_n (lv' := [(2, .int r1), (0, .ref (ga G 14 0)), (1, .int x1)]) hx hb dX14_arrive_5 rfl hl (by decide) rfl (fun ls hl => ?_)
  refine lv_iload_n hx hb dX14_arrive_6 rfl (lv_at hl 0 rfl) ?_
  refine lv_if_ge (tgt := 12) hx hb dX14_arrive_7 (by decide) (fun h => ?_) (fun h => ?_)
  · have hw := hw.1 h
    refine lv_aload_n hx hb dX14_arrive_12 rfl (lv_at hl 1 rfl) ?_
    refine g14_1 C hH q1941 dX14_arrive_13 ?_
    refine lv_if_eq (tgt := 29) hx hb dX14_arrive_16 (by decide) (fun h => ?_) (fun h => ?_)
    · have hw := hw.1 h
      refine lv_bipush (v := (-3)) hx hb dX14_arrive_29 (by decide) ?_
      exact rt_i C rfl hH hS hw dX14_arrive_31
    have hw := hw.2 h
    refine lv_aload_n hx hb dX14_arrive_19 rfl (lv_at hl 1 rfl) ?_
    refine g14_1 C hH q1941 dX14_arrive_20 ?_
    refine lv_sipush (v := 1514) hx hb dX14_arrive_23 (by decide) ?_
    refine lv_icmp_le (tgt := 32) hx hb dX14_arrive_26 (by decide) (fun h => ?_) (fun h => ?_)
    · have hw := hw.1 h
      refine lv_aload_n hx hb dX14_arrive_32 rfl (lv_at hl 1 rfl) ?_
      refine g14_23 C hH q1963 dX14_arrive_33 ?_
      refine lv_istore_n (lv' := [(3, .int (σ 14 0 23)), (2, .int r1), (0, .ref (ga G 14 0)), (1, .int x1)]) hx hb dX14_arrive_36 rfl hl (by decide) rfl (fun ls hl => ?_)
      refine lv_aload_n hx hb dX14_arrive_37 rfl (lv_at hl 2 rfl) ?_
      refine lv_iload_n hx hb dX14_arrive_38 rfl (lv_at hl 3 rfl) ?_
      refine kc_v (rn_v (As := [.int x1]) (rest := []) C hH hS (by decide) rfl (by decide) (m14_passTo l G a1 τ σ x1 _ hw) (cwV 1 hts (lw_V q2176 q2178 qs80 q171 q2179) rfl rfl rfl kX14_passTo ⟨Nat.le_of_ble_eq_true rfl, Nat.le_of_ble_eq_true rfl⟩) rfl hl.1 rfl (Nat.le_of_ble_eq_true rfl) dX14_arrive_39 ⟨Nat.le_of_ble_eq_true rfl, Nat.le_of_ble_eq_true rfl⟩) hS (fun σ2 H locs hw hH hS => ?_)
      refine lv_aload_n hx hb dX14_arrive_42 rfl (lv_at hl 2 rfl) ?_
      refine g14_17 C hH q1957 dX14_arrive_43 ?_
      refine lv_iconst (v := 0) hx hb dX14_arrive_46 (by decide) ?_
      refine lv_dup2_11 hx hb dX14_arrive_47 rfl rfl ?_
      refine l56 C hH hw.1 dX14_arrive_48 ?_
      have hw := hw.2
      refine lv_iconst (v := 1) hx hb dX14_arrive_49 (by decide) ?_
      refine lv_iadd hx hb dX14_arrive_50 ?_
      refine s56 C hH hS hw.1 dX14_arrive_51 (fun σ3 e3 H locs hH hS => ?_)
      have hw := hw.2 σ3 e3
      refine lv_aload_n hx hb dX14_arrive_52 rfl (lv_at hl 2 rfl) ?_
      refine kc_v (rn_v (As := []) (rest := []) C hH hS (by decide) rfl (by decide) (m14_frameIn l G a1 τ σ3 _ hw) (cwV 0 hts (lw_V q2325 q2327 qs104 q171 q2328) rfl rfl rfl kX14_frameIn ⟨Nat.le_of_ble_eq_true rfl, Nat.le_of_ble_eq_true rfl⟩) rfl hl.1 rfl (Nat.le_of_ble_eq_true rfl) dX14_arrive_53 ⟨Nat.le_of_ble_eq_true rfl, Nat.le_of_ble_eq_true rfl⟩) hS (fun σ4 H locs hw hH hS => ?_)
      refine lv_aload_n hx hb dX14_arrive_56 rfl (lv_at hl 2 rfl) ?_
      refine lv_iconst (v := 0) hx hb dX14_arrive_57 (by decide) ?_
      refine p14_1 C hH hS q1941 dX14_arrive_58 (fun σ5 e5 H locs hH hS => ?_)
      have hw := hw σ5 e5
      refine lv_aload_n hx hb dX14_arrive_61 rfl (lv_at hl 2 rfl) ?_
      refine g14_23 C hH q1963 dX14_arrive_62 ?_
      refine lv_iload_n hx hb dX14_arrive_65 rfl (lv_at hl 0 rfl) ?_
      refine lv_isub hx hb dX14_arrive_66 ?_
      exact rt_i C rfl hH hS hw dX14_arrive_67
    have hw := hw.2 h
    refine lv_bipush (v := (-3)) hx hb dX14_arrive_29 (by decide) ?_
    exact rt_i C rfl hH hS hw dX14_arrive_31
  have hw := hw.2 h
  refine lv_iload_n hx hb dX14_arrive_10 rfl (lv_at hl 0 rfl) ?_
  exact rt_i C rfl hH hS hw dX14_arrive_11
/-! WebHost.packet(II)V -/
abbrev cX0_packet : ByteArray := prog_1_method_13_code
def yX0_packet : MethodName := ⟨RX0, "packet", "(II)V"⟩
theorem dX0_packet_0 : decode cX0_packet 0 = .ok (.iload_n 2, 1) := by decide +kernel
theorem dX0_packet_1 : decode cX0_packet 1 = .ok (.bipush 20, 2) := by decide +kernel
theorem dX0_packet_3 : decode cX0_packet 3 = .ok (.if_icmp .lt 18, 3) := by decide +kernel
theorem dX0_packet_6 : decode cX0_packet 6 = .ok (.aload_n 0, 1) := by decide +kernel
theorem dX0_packet_7 : decode cX0_packet 7 = .ok (.getfield 8, 3) := by decide +kernel
theorem dX0_packet_10 : decode cX0_packet 10 = .ok (.iload_n 1, 1) := by decide +kernel
theorem dX0_packet_11 : decode cX0_packet 11 = .ok (.baload, 1) := by decide +kernel
theorem dX0_packet_12 : decode cX0_packet 12 = .ok (.iconst 4, 1) := by decide +kernel
theorem dX0_packet_13 : decode cX0_packet 13 = .ok (.ishr, 1) := by decide +kernel
theorem dX0_packet_14 : decode cX0_packet 14 = .ok (.bipush 15, 2) := by decide +kernel
theorem dX0_packet_16 : decode cX0_packet 16 = .ok (.iand, 1) := by decide +kernel
theorem dX0_packet_17 : decode cX0_packet 17 = .ok (.iconst 4, 1) := by decide +kernel
theorem dX0_packet_18 : decode cX0_packet 18 = .ok (.if_icmp .eq 4, 3) := by decide +kernel
theorem dX0_packet_21 : decode cX0_packet 21 = .ok (.return_, 1) := by decide +kernel
theorem dX0_packet_22 : decode cX0_packet 22 = .ok (.aload_n 0, 1) := by decide +kernel
theorem dX0_packet_23 : decode cX0_packet 23 = .ok (.getfield 8, 3) := by decide +kernel
theorem dX0_packet_26 : decode cX0_packet 26 = .ok (.iload_n 1, 1) := by decide +kernel
theorem dX0_packet_27 : decode cX0_packet 27 = .ok (.baload, 1) := by decide +kernel
theorem dX0_packet_28 : decode cX0_packet 28 = .ok (.bipush 15, 2) := by decide +kernel
theorem dX0_packet_30 : decode cX0_packet 30 = .ok (.iand, 1) := by decide +kernel
theorem dX0_packet_31 : decode cX0_packet 31 = .ok (.iconst 4, 1) := by decide +kernel
theorem dX0_packet_32 : decode cX0_packet 32 = .ok (.imul, 1) := by decide +kernel
theorem dX0_packet_33 : decode cX0_packet 33 = .ok (.istore_n 3, 1) := by decide +kernel
theorem dX0_packet_34 : decode cX0_packet 34 = .ok (.aload_n 0, 1) := by decide +kernel
theorem dX0_packet_35 : decode cX0_packet 35 = .ok (.getfield 8, 3) := by decide +kernel
theorem dX0_packet_38 : decode cX0_packet 38 = .ok (.iload_n 1, 1) := by decide +kernel
theorem dX0_packet_39 : decode cX0_packet 39 = .ok (.iconst 2, 1) := by decide +kernel
theorem dX0_packet_40 : decode cX0_packet 40 = .ok (.iadd, 1) := by decide +kernel
theorem dX0_packet_41 : decode cX0_packet 41 = .ok (.invokestatic 190, 3) := by decide +kernel
theorem dX0_packet_44 : decode cX0_packet 44 = .ok (.istore 4, 2) := by decide +kernel
theorem dX0_packet_46 : decode cX0_packet 46 = .ok (.iload_n 3, 1) := by decide +kernel
theorem dX0_packet_47 : decode cX0_packet 47 = .ok (.bipush 20, 2) := by decide +kernel
theorem dX0_packet_49 : decode cX0_packet 49 = .ok (.if_icmp .lt 31, 3) := by decide +kernel
theorem dX0_packet_52 : decode cX0_packet 52 = .ok (.iload 4, 2) := by decide +kernel
theorem dX0_packet_54 : decode cX0_packet 54 = .ok (.iload_n 3, 1) := by decide +kernel
theorem dX0_packet_55 : decode cX0_packet 55 = .ok (.if_icmp .lt 25, 3) := by decide +kernel
theorem dX0_packet_58 : decode cX0_packet 58 = .ok (.iload 4, 2) := by decide +kernel
theorem dX0_packet_60 : decode cX0_packet 60 = .ok (.iload_n 2, 1) := by decide +kernel
theorem dX0_packet_61 : decode cX0_packet 61 = .ok (.if_icmp .gt 19, 3) := by decide +kernel
theorem dX0_packet_64 : decode cX0_packet 64 = .ok (.iconst 0, 1) := by decide +kernel
theorem dX0_packet_65 : decode cX0_packet 65 = .ok (.aload_n 0, 1) := by decide +kernel
theorem dX0_packet_66 : decode cX0_packet 66 = .ok (.getfield 8, 3) := by decide +kernel
theorem dX0_packet_69 : decode cX0_packet 69 = .ok (.iload_n 1, 1) := by decide +kernel
theorem dX0_packet_70 : decode cX0_packet 70 = .ok (.iload_n 3, 1) := by decide +kernel
theorem dX0_packet_71 : decode cX0_packet 71 = .ok (.invokestatic 201, 3) := by decide +kernel
theorem dX0_packet_74 : decode cX0_packet 74 = .ok (.invokestatic 205, 3) := by decide +kernel
theorem dX0_packet_77 : decode cX0_packet 77 = .ok (.ifCond .eq 4, 3) := by decide +kernel
theorem dX0_packet_80 : decode cX0_packet 80 = .ok (.return_, 1) := by decide +kernel
theorem dX0_packet_81 : decode cX0_packet 81 = .ok (.aload_n 0, 1) := by decide +kernel
theorem dX0_packet_82 : decode cX0_packet 82 = .ok (.getfield 8, 3) := by decide +kernel
theorem dX0_packet_85 : decode cX0_packet 85 = .ok (.iload_n 1, 1) := by decide +kernel
theorem dX0_packet_86 : decode cX0_packet 86 = .ok (.bipush 12, 2) := by decide +kernel
theorem dX0_packet_88 : decode cX0_packet 88 = .ok (.iadd, 1) := by decide +kernel
theorem dX0_packet_89 : decode cX0_packet 89 = .ok (.invokestatic 208, 3) := by decide +kernel
theorem dX0_packet_92 : decode cX0_packet 92 = .ok (.istore 5, 2) := by decide +kernel
theorem dX0_packet_94 : decode cX0_packet 94 = .ok (.aload_n 0, 1) := by decide +kernel
theorem dX0_packet_95 : decode cX0_packet 95 = .ok (.getfield 8, 3) := by decide +kernel
theorem dX0_packet_98 : decode cX0_packet 98 = .ok (.iload_n 1, 1) := by decide +kernel
theorem dX0_packet_99 : decode cX0_packet 99 = .ok (.bipush 16, 2) := by decide +kernel
theorem dX0_packet_101 : decode cX0_packet 101 = .ok (.iadd, 1) := by decide +kernel
theorem dX0_packet_102 : decode cX0_packet 102 = .ok (.invokestatic 208, 3) := by decide +kernel
theorem dX0_packet_105 : decode cX0_packet 105 = .ok (.aload_n 0, 1) := by decide +kernel
theorem dX0_packet_106 : decode cX0_packet 106 = .ok (.getfield 117, 3) := by decide +kernel
theorem dX0_packet_109 : decode cX0_packet 109 = .ok (.if_icmp .ne 20, 3) := by decide +kernel
theorem dX0_packet_112 : decode cX0_packet 112 = .ok (.iload 5, 2) := by decide +kernel
theorem dX0_packet_114 : decode cX0_packet 114 = .ok (.aload_n 0, 1) := by decide +kernel
theorem dX0_packet_115 : decode cX0_packet 115 = .ok (.getfield 117, 3) := by decide +kernel
theorem dX0_packet_118 : decode cX0_packet 118 = .ok (.if_icmp .eq 11, 3) := by decide +kernel
theorem dX0_packet_121 : decode cX0_packet 121 = .ok (.iload 5, 2) := by decide +kernel
theorem dX0_packet_123 : decode cX0_packet 123 = .ok (.invokestatic 109, 3) := by decide +kernel
theorem dX0_packet_126 : decode cX0_packet 126 = .ok (.ifCond .ne 4, 3) := by decide +kernel
theorem dX0_packet_129 : decode cX0_packet 129 = .ok (.return_, 1) := by decide +kernel
theorem dX0_packet_130 : decode cX0_packet 130 = .ok (.aload_n 0, 1) := by decide +kernel
theorem dX0_packet_131 : decode cX0_packet 131 = .ok (.getfield 8, 3) := by decide +kernel
theorem dX0_packet_134 : decode cX0_packet 134 = .ok (.iload_n 1, 1) := by decide +kernel
theorem dX0_packet_135 : decode cX0_packet 135 = .ok (.bipush 6, 2) := by decide +kernel
theorem dX0_packet_137 : decode cX0_packet 137 = .ok (.iadd, 1) := by decide +kernel
theorem dX0_packet_138 : decode cX0_packet 138 = .ok (.invokestatic 190, 3) := by decide +kernel
theorem dX0_packet_141 : decode cX0_packet 141 = .ok (.istore 6, 2) := by decide +kernel
theorem dX0_packet_143 : decode cX0_packet 143 = .ok (.iload 6, 2) := by decide +kernel
theorem dX0_packet_145 : decode cX0_packet 145 = .ok (.sipush 8191, 3) := by decide +kernel
theorem dX0_packet_148 : decode cX0_packet 148 = .ok (.iand, 1) := by decide +kernel
theorem dX0_packet_149 : decode cX0_packet 149 = .ok (.bipush 8, 2) := by decide +kernel
theorem dX0_packet_151 : decode cX0_packet 151 = .ok (.imul, 1) := by decide +kernel
theorem dX0_packet_152 : decode cX0_packet 152 = .ok (.istore 7, 2) := by decide +kernel
theorem dX0_packet_154 : decode cX0_packet 154 = .ok (.iload 6, 2) := by decide +kernel
theorem dX0_packet_156 : decode cX0_packet 156 = .ok (.sipush 8192, 3) := by decide +kernel
theorem dX0_packet_159 : decode cX0_packet 159 = .ok (.iand, 1) := by decide +kernel
theorem dX0_packet_160 : decode cX0_packet 160 = .ok (.ifCond .ne 7, 3) := by decide +kernel
theorem dX0_packet_163 : decode cX0_packet 163 = .ok (.iconst 1, 1) := by decide +kernel
theorem dX0_packet_164 : decode cX0_packet 164 = .ok (.goto 4, 3) := by decide +kernel
theorem dX0_packet_167 : decode cX0_packet 167 = .ok (.iconst 0, 1) := by decide +kernel
theorem dX0_packet_168 : decode cX0_packet 168 = .ok (.istore 8, 2) := by decide +kernel
theorem dX0_packet_170 : decode cX0_packet 170 = .ok (.aload_n 0, 1) := by decide +kernel
theorem dX0_packet_171 : decode cX0_packet 171 = .ok (.getfield 8, 3) := by decide +kernel
theorem dX0_packet_174 : decode cX0_packet 174 = .ok (.iload_n 1, 1) := by decide +kernel
theorem dX0_packet_175 : decode cX0_packet 175 = .ok (.bipush 9, 2) := by decide +kernel
theorem dX0_packet_177 : decode cX0_packet 177 = .ok (.iadd, 1) := by decide +kernel
theorem dX0_packet_178 : decode cX0_packet 178 = .ok (.baload, 1) := by decide +kernel
theorem dX0_packet_179 : decode cX0_packet 179 = .ok (.sipush 255, 3) := by decide +kernel
theorem dX0_packet_182 : decode cX0_packet 182 = .ok (.iand, 1) := by decide +kernel
theorem dX0_packet_183 : decode cX0_packet 183 = .ok (.istore 9, 2) := by decide +kernel
theorem dX0_packet_185 : decode cX0_packet 185 = .ok (.iload 7, 2) := by decide +kernel
theorem dX0_packet_187 : decode cX0_packet 187 = .ok (.ifCond .ne 28, 3) := by decide +kernel
theorem dX0_packet_190 : decode cX0_packet 190 = .ok (.iload 8, 2) := by decide +kernel
theorem dX0_packet_192 : decode cX0_packet 192 = .ok (.ifCond .eq 23, 3) := by decide +kernel
theorem dX0_packet_195 : decode cX0_packet 195 = .ok (.aload_n 0, 1) := by decide +kernel
theorem dX0_packet_196 : decode cX0_packet 196 = .ok (.aload_n 0, 1) := by decide +kernel
theorem dX0_packet_197 : decode cX0_packet 197 = .ok (.getfield 8, 3) := by decide +kernel
theorem dX0_packet_200 : decode cX0_packet 200 = .ok (.iload_n 1, 1) := by decide +kernel
theorem dX0_packet_201 : decode cX0_packet 201 = .ok (.iload_n 3, 1) := by decide +kernel
theorem dX0_packet_202 : decode cX0_packet 202 = .ok (.iadd, 1) := by decide +kernel
theorem dX0_packet_203 : decode cX0_packet 203 = .ok (.iload 4, 2) := by decide +kernel
theorem dX0_packet_205 : decode cX0_packet 205 = .ok (.iload_n 3, 1) := by decide +kernel
theorem dX0_packet_206 : decode cX0_packet 206 = .ok (.isub, 1) := by decide +kernel
theorem dX0_packet_207 : decode cX0_packet 207 = .ok (.iload 5, 2) := by decide +kernel
theorem dX0_packet_209 : decode cX0_packet 209 = .ok (.iload 9, 2) := by decide +kernel
theorem dX0_packet_211 : decode cX0_packet 211 = .ok (.invokevirtual 211, 3) := by decide +kernel
theorem dX0_packet_214 : decode cX0_packet 214 = .ok (.return_, 1) := by decide +kernel
theorem dX0_packet_215 : decode cX0_packet 215 = .ok (.aload_n 0, 1) := by decide +kernel
theorem dX0_packet_216 : decode cX0_packet 216 = .ok (.getfield 49, 3) := by decide +kernel
theorem dX0_packet_219 : decode cX0_packet 219 = .ok (.aload_n 0, 1) := by decide +kernel
theorem dX0_packet_220 : decode cX0_packet 220 = .ok (.getfield 8, 3) := by decide +kernel
theorem dX0_packet_223 : decode cX0_packet 223 = .ok (.iload_n 1, 1) := by decide +kernel
theorem dX0_packet_224 : decode cX0_packet 224 = .ok (.iload_n 3, 1) := by decide +kernel
theorem dX0_packet_225 : decode cX0_packet 225 = .ok (.iadd, 1) := by decide +kernel
theorem dX0_packet_226 : decode cX0_packet 226 = .ok (.iload 4, 2) := by decide +kernel
theorem dX0_packet_228 : decode cX0_packet 228 = .ok (.iload_n 3, 1) := by decide +kernel
theorem dX0_packet_229 : decode cX0_packet 229 = .ok (.isub, 1) := by decide +kernel
theorem dX0_packet_230 : decode cX0_packet 230 = .ok (.iload 5, 2) := by decide +kernel
theorem dX0_packet_232 : decode cX0_packet 232 = .ok (.aload_n 0, 1) := by decide +kernel
theorem dX0_packet_233 : decode cX0_packet 233 = .ok (.getfield 8, 3) := by decide +kernel
theorem dX0_packet_236 : decode cX0_packet 236 = .ok (.iload_n 1, 1) := by decide +kernel
theorem dX0_packet_237 : decode cX0_packet 237 = .ok (.iconst 4, 1) := by decide +kernel
theorem dX0_packet_238 : decode cX0_packet 238 = .ok (.iadd, 1) := by decide +kernel
theorem dX0_packet_239 : decode cX0_packet 239 = .ok (.invokestatic 190, 3) := by decide +kernel
theorem dX0_packet_242 : decode cX0_packet 242 = .ok (.iload 9, 2) := by decide +kernel
theorem dX0_packet_244 : decode cX0_packet 244 = .ok (.iload 7, 2) := by decide +kernel
theorem dX0_packet_246 : decode cX0_packet 246 = .ok (.iload 8, 2) := by decide +kernel
theorem dX0_packet_248 : decode cX0_packet 248 = .ok (.aload_n 0, 1) := by decide +kernel
theorem dX0_packet_249 : decode cX0_packet 249 = .ok (.getfield 24, 3) := by decide +kernel
theorem dX0_packet_252 : decode cX0_packet 252 = .ok (.getfield 139, 3) := by decide +kernel
theorem dX0_packet_255 : decode cX0_packet 255 = .ok (.invokevirtual 215, 3) := by decide +kernel
theorem dX0_packet_258 : decode cX0_packet 258 = .ok (.astore 10, 2) := by decide +kernel
theorem dX0_packet_260 : decode cX0_packet 260 = .ok (.aload 10, 2) := by decide +kernel
theorem dX0_packet_262 : decode cX0_packet 262 = .ok (.ifnull 22, 3) := by decide +kernel
theorem dX0_packet_265 : decode cX0_packet 265 = .ok (.aload_n 0, 1) := by decide +kernel
theorem dX0_packet_266 : decode cX0_packet 266 = .ok (.aload 10, 2) := by decide +kernel
theorem dX0_packet_268 : decode cX0_packet 268 = .ok (.getfield 219, 3) := by decide +kernel
theorem dX0_packet_271 : decode cX0_packet 271 = .ok (.iconst 0, 1) := by decide +kernel
theorem dX0_packet_272 : decode cX0_packet 272 = .ok (.aload 10, 2) := by decide +kernel
theorem dX0_packet_274 : decode cX0_packet 274 = .ok (.getfield 222, 3) := by decide +kernel
theorem dX0_packet_277 : decode cX0_packet 277 = .ok (.iload 5, 2) := by decide +kernel
theorem dX0_packet_279 : decode cX0_packet 279 = .ok (.iload 9, 2) := by decide +kernel
theorem dX0_packet_281 : decode cX0_packet 281 = .ok (.invokevirtual 211, 3) := by decide +kernel
theorem dX0_packet_284 : decode cX0_packet 284 = .ok (.return_, 1) := by decide +kernel
def rmX0_packet : Room := { frames := 17, cells := 1, slots := 66047, locals := 378 }
theorem kX0_packet : yX0_packet.cls = "WebHost" ∧ yX0_packet.cls ≠ "java/lang/invoke/MethodHandle" ∧ yX0_packet.cls ≠ "java/lang/invoke/VarHandle" ∧ (parseMethodDescriptor yX0_packet.desc).map (fun d => d.parameters.length) = some 2 := by decide +kernel
def w0_packet_J215 (σ : St) (x1 : Int32) (x3 : Int32) (x4 : Int32) (x5 : Int32) (x7 : Int32) (x8 : Int32) (x9 : Int32) (Q : St → Prop) : Prop := w19_two σ 20 0 (x1 + 4) (fun r8 => (w6_take σ 20 0 (x1 + x3) (x4 - x3) x5 r8 x9 x7 x8 (σ 2 0 4) (fun p9 σ9 => ((p9 = none → Q σ9) ∧ (∀ i10, p9 = some i10 → (i10 < 4 ∧ (w0_datagram σ9 38 i10 0 (σ9 7 i10 7) x5 x9 (fun σ11 => (Q σ11)))))))))
set_option maxHeartbeats 4000000 in
theorem k0_packet_J215 {p : Program} {l : Launch} {e : Env} {s : State} {m : MethodId} {args : Array Value} {below : List Frame} {meth : Method} {c : Code} {G : Gh} {a1 : Nat → Nat → Nat} {τ : St} {Q : St → Prop} (C : Cx p e s m args meth c cX0_packet 11 none "WebHost" G) (σ : St) (x1 : Int32) (x3 : Int32) (x4 : Int32) (x5 : Int32) (x7 : Int32) (x8 : Int32) (x9 : Int32) (hw : w0_packet_J215 σ x1 x3 x4 x5 x7 x8 x9 Q) (H : Heap) (locs : List Loc) (ls : Array Slot) (hH : Hd G a1 (cmb σ τ) H) (hS : va_S (gA G) s.heap H locs) (hl : lv_has ls 11 [(0, .ref (ga G 0 0)), (1, .int x1), (3, .int x3), (4, .int x4), (5, .int x5), (7, .int x7), (8, .int x8), (9, .int x9)]) : W p l e rmX0_packet s m args below meth c H locs 0 0 (MQ below (QVa G (fun u => cmb u τ) Q) args s 1 66047 (gA G)) (F0 m 215 ls []) := by
  have hx := C.1
  have hb := C.2.1
  have hown := C.2.2.2.2.2.1
  have hts := C.2.2.2.2.2.2.1
  refine lv_aload_n hx hb dX0_packet_215 rfl (lv_at hl 0 rfl) ?_
  refine g0_6 C hH q749 dX0_packet_216 ?_
  refine lv_aload_n hx hb dX0_packet_219 rfl (lv_at hl 0 rfl) ?_
  refine g0_0 C hH q743 dX0_packet_220 ?_
  refine lv_iload_n hx hb dX0_packet_223 rfl (lv_at hl 1 rfl) ?_
  refine lv_iload_n hx hb dX0_packet_224 rfl (lv_at hl 2 rfl) ?_
  refine lv_iadd hx hb dX0_packet_225 ?_
  refine lv_iload hx hb dX0_packet_226 (lv_at hl 3 rfl) ?_
  refine lv_iload_n hx hb dX0_packet_228 rfl (lv_at hl 2 rfl) ?_
  refine lv_isub hx hb dX0_packet_229 ?_
  refine lv_iload hx hb dX0_packet_230 (lv_at hl 4 rfl) ?_
  refine lv_aload_n hx hb dX0_packet_232 rfl (lv_at hl 0 rfl) ?_
  refine g0_0 C hH q743 dX0_packet_233 ?_
  refine lv_iload_n hx hb dX0_packet_236 rfl (lv_at hl 1 rfl) ?_
  refine lv_iconst (v := 4) hx hb dX0_packet_237 (by decide) ?_
  refine lv_iadd hx hb dX0_packet_238 ?_
  refine kc_ip (rn_sp (As := [.ref (adr G a1 20 0), .int (x1 + 4)]) (rest := [.int x5, .int (x4 - x3), .int (x1 + x3), .ref (adr G a1 20 0), .ref (ga G 6 0)]) C hH hS (m19_two l G a1 τ σ H 20 0 (x1 + 4) (by decide) _ hw) (va_cwS 2 hts (lw_S q1077 q823 q176 q824) rfl rfl rfl kX19_two.2 ⟨Nat.le_of_ble_eq_true rfl, Nat.le_of_ble_eq_true rfl⟩) rfl hl.1 rfl (Nat.le_of_ble_eq_true rfl) dX0_packet_239 ⟨Nat.le_of_ble_eq_true rfl, Nat.le_of_ble_eq_true rfl⟩) hS (fun r8 locs hw hS => ?_)
  refine lv_iload hx hb dX0_packet_242 (lv_at hl 7 rfl) ?_
  refine lv_iload hx hb dX0_packet_244 (lv_at hl 5 rfl) ?_
  refine lv_iload hx hb dX0_packet_246 (lv_at hl 6 rfl) ?_
  refine lv_aload_n hx hb dX0_packet_248 rfl (lv_at hl 0 rfl) ?_
  refine g0_3 C hH q746 dX0_packet_249 ?_
  refine g2_4 C hH q230 dX0_packet_252 ?_
  refine kc_e (rn_v (As := [.ref (adr G a1 20 0), .int (x1 + x3), .int (x4 - x3), .int x5, .int r8, .int x9, .int x7, .int x8, .int (σ 2 0 4)]) (rest := []) C hH hS (by decide) rfl (by decide) (m6_take l G a1 τ σ 20 0 (x1 + x3) (x4 - x3) x5 r8 x9 x7 x8 (σ 2 0 4) (by decide) _ hw) (cwV 9 hts (lw_V q1575 q1576 q1577 q163 q1578) rfl rfl rfl kX6_take ⟨Nat.le_of_ble_eq_true rfl, Nat.le_of_ble_eq_true rfl⟩) rfl hl.1 rfl (Nat.le_of_ble_eq_true rfl) dX0_packet_255 ⟨Nat.le_of_ble_eq_true rfl, Nat.le_of_ble_eq_true rfl⟩) hS (fun p9 σ9 H locs hw hH hS => ?_)
  refine lv_astoreV (lv' := [(10, va_re (ga G 7) p9), (0, .ref (ga G 0 0)), (1, .int x1), (3, .int x3), (4, .int x4), (5, .int x5), (7, .int x7), (8, .int x8), (9, .int x9)]) hx hb dX0_packet_258 (va_re_or _ _) hl (by decide) rfl (fun ls hl => ?_)
  refine lv_aloadV hx hb dX0_packet_260 (va_re_or _ _) (lv_at hl 0 rfl) ?_
  rcases p9 with _ | i10
  · have hw := hw.1 rfl
    have hl : lv_has ls 11 [(10, .null), (0, .ref (ga G 0 0)), (1, .int x1), (3, .int x3), (4, .int x4), (5, .int x5), (7, .int x7), (8, .int x8), (9, .int x9)] := hl
    refine lv_ifnullN (tgt := 284) hx hb dX0_packet_262 (by decide) ?_
    refine W.widen (k := 1) (n := 66047) (Nat.zero_le _) (Nat.zero_le _) ?_
    exact rt_va C hH hS hw dX0_packet_284
  obtain ⟨hq10, hw⟩ := hw.2 i10 rfl
  have hl : lv_has ls 11 [(10, .ref (ga G 7 i10)), (0, .ref (ga G 0 0)), (1, .int x1), (3, .int x3), (4, .int x4), (5, .int x5), (7, .int x7), (8, .int x8), (9, .int x9)] := hl
  refine lv_ifnull hx hb dX0_packet_262 ?_
  refine lv_aload_n hx hb dX0_packet_265 rfl (lv_at hl 1 rfl) ?_
  refine lv_aload hx hb dX0_packet_266 (lv_at hl 0 rfl) ?_
  refine g7_4 C hH hq10 q363 dX0_packet_268 ?_
  refine lv_iconst (v := 0) hx hb dX0_packet_271 (by decide) ?_
  refine lv_aload hx hb dX0_packet_272 (lv_at hl 0 rfl) ?_
  refine g7_7 C hH hq10 q367 dX0_packet_274 ?_
  refine lv_iload hx hb dX0_packet_277 (lv_at hl 5 rfl) ?_
  refine lv_iload hx hb dX0_packet_279 (lv_at hl 8 rfl) ?_
  refine kc_va (rn_v (As := [.ref (adr G a1 38 i10), .int 0, .int (σ9 7 i10 7), .int x5, .int x9]) (rest := []) C hH hS (by decide) rfl (by decide) (m0_datagram l G a1 τ σ9 38 i10 0 (σ9 7 i10 7) x5 x9 (ok38 hq10) _ hw) (cwV 5 hts (lw_V q1103 q1105 qs27 q157 q1106) rfl rfl rfl kX0_datagram ⟨Nat.le_of_ble_eq_true rfl, Nat.le_of_ble_eq_true rfl⟩) rfl hl.1 rfl (Nat.le_of_ble_eq_true rfl) dX0_packet_281 ⟨Nat.le_of_ble_eq_true rfl, Nat.le_of_ble_eq_true rfl⟩) hS (fun σ11 a11 H locs hw hH hS => ?_)
  refine W.cs (cells' := 1) (slots' := 66047) rfl rfl ?_
  exact rt_va C hH hS hw dX0_packet_284
def w0_packet_J168 (σ : St) (x1 : Int32) (x3 : Int32) (x4 : Int32) (x5 : Int32) (x7 : Int32) (xs0 : Int32) (Q : St → Prop) : Prop := vp_in (x1 + 9) 65540 ∧ (by8 (σ 20 0 (x1 + 9).toNatClampNeg) → ((¬ x7 = 0 → (w0_packet_J215 σ x1 x3 x4 x5 x7 xs0 ((σ 20 0 (x1 + 9).toNatClampNeg) &&& 255) Q)) ∧ (x7 = 0 → ((xs0 = 0 → (w0_packet_J215 σ x1 x3 x4 x5 x7 xs0 ((σ 20 0 (x1 + 9).toNatClampNeg) &&& 255) Q)) ∧ (¬ xs0 = 0 → (w0_datagram σ 20 0 (x1 + x3) (x4 - x3) x5 ((σ 20 0 (x1 + 9).toNatClampNeg) &&& 255) (fun σ12 => (Q σ12))))))))
set_option maxHeartbeats 4000000 in
theorem k0_packet_J168 {p : Program} {l : Launch} {e : Env} {s : State} {m : MethodId} {args : Array Value} {below : List Frame} {meth : Method} {c : Code} {G : Gh} {a1 : Nat → Nat → Nat} {τ : St} {Q : St → Prop} (C : Cx p e s m args meth c cX0_packet 11 none "WebHost" G) (σ : St) (x1 : Int32) (x3 : Int32) (x4 : Int32) (x5 : Int32) (x7 : Int32) (xs0 : Int32) (hw : w0_packet_J168 σ x1 x3 x4 x5 x7 xs0 Q) (H : Heap) (locs : List Loc) (ls : Array Slot) (hH : Hd G a1 (cmb σ τ) H) (hS : va_S (gA G) s.heap H locs) (hl : lv_has ls 11 [(0, .ref (ga G 0 0)), (1, .int x1), (3, .int x3), (4, .int x4), (5, .int x5), (7, .int x7)]) : W p l e rmX0_packet s m args below meth c H locs 0 0 (MQ below (QVa G (fun u => cmb u τ) Q) args s 1 66047 (gA G)) (F0 m 168 ls [.int xs0]) := by
  have hx := C.1
  have hb := C.2.1
  have hown := C.2.2.2.2.2.1
  have hts := C.2.2.2.2.2.2.1
  refine lv_istore (lv' := [(8, .int xs0), (0, .ref (ga G 0 0)), (1, .int x1), (3, .int x3), (4, .int x4), (5, .int x5), (7, .int x7)]) hx hb dX0_packet_168 hl (by decide) rfl (fun ls hl => ?_)
  refine lv_aload_n hx hb dX0_packet_170 rfl (lv_at hl 1 rfl) ?_
  refine g0_0 C hH q743 dX0_packet_171 ?_
  refine lv_iload_n hx hb dX0_packet_174 rfl (lv_at hl 2 rfl) ?_
  refine lv_bipush (v := 9) hx hb dX0_packet_175 (by decide) ?_
  refine lv_iadd hx hb dX0_packet_177 ?_
  refine l20 C hH hw.1 dX0_packet_178 (fun hz => ?_)
  have hw := hw.2 hz
  refine lv_sipush (v := 255) hx hb dX0_packet_179 (by decide) ?_
  refine lv_iand hx hb dX0_packet_182 ?_
  refine lv_istore (lv' := [(9, .int ((σ 20 0 (x1 + 9).toNatClampNeg) &&& 255)), (8, .int xs0), (0, .ref (ga G 0 0)), (1, .int x1), (3, .int x3), (4, .int x4), (5, .int x5), (7, .int x7)]) hx hb dX0_packet_183 hl (by decide) rfl (fun ls hl => ?_)
  refine lv_iload hx hb dX0_packet_185 (lv_at hl 7 rfl) ?_
  refine lv_if_ne (tgt := 215) hx hb dX0_packet_187 (by decide) (fun h => ?_) (fun h => ?_)
  · have hw := hw.1 h
    exact k0_packet_J215 C σ x1 x3 x4 x5 x7 xs0 ((σ 20 0 (x1 + 9).toNatClampNeg) &&& 255) hw H locs ls hH hS (lv_sub hl [2, 3, 4, 5, 6, 7, 1, 0] rfl)
  have hw := hw.2 h
  refine lv_iload hx hb dX0_packet_190 (lv_at hl 1 rfl) ?_
  refine lv_if_eq (tgt := 215) hx hb dX0_packet_192 (by decide) (fun h => ?_) (fun h => ?_)
  · have hw := hw.1 h
    exact k0_packet_J215 C σ x1 x3 x4 x5 x7 xs0 ((σ 20 0 (x1 + 9).toNatClampNeg) &&& 255) hw H locs ls hH hS (lv_sub hl [2, 3, 4, 5, 6, 7, 1, 0] rfl)
  have hw := hw.2 h
  refine lv_aload_n hx hb dX0_packet_195 rfl (lv_at hl 2 rfl) ?_
  refine lv_aload_n hx hb dX0_packet_196 rfl (lv_at hl 2 rfl) ?_
  refine g0_0 C hH q743 dX0_packet_197 ?_
  refine lv_iload_n hx hb dX0_packet_200 rfl (lv_at hl 3 rfl) ?_
  refine lv_iload_n hx hb dX0_packet_201 rfl (lv_at hl 4 rfl) ?_
  refine lv_iadd hx hb dX0_packet_202 ?_
  refine lv_iload hx hb dX0_packet_203 (lv_at hl 5 rfl) ?_
  refine lv_iload_n hx hb dX0_packet_205 rfl (lv_at hl 4 rfl) ?_
  refine lv_isub hx hb dX0_packet_206 ?_
  refine lv_iload hx hb dX0_packet_207 (lv_at hl 6 rfl) ?_
  refine lv_iload hx hb dX0_packet_209 (lv_at hl 0 rfl) ?_
  refine kc_va (rn_v (As := [.ref (adr G a1 20 0), .int (x1 + x3), .int (x4 - x3), .int x5, .int ((σ 20 0 (x1 + 9).toNatClampNeg) &&& 255)]) (rest := []) C hH hS (by decide) rfl (by decide) (m0_datagram l G a1 τ σ 20 0 (x1 + x3) (x4 - x3) x5 ((σ 20 0 (x1 + 9).toNatClampNeg) &&& 255) (by decide) _ hw) (cwV 5 hts (lw_V q1103 q1105 qs27 q157 q1106) rfl rfl rfl kX0_datagram ⟨Nat.le_of_ble_eq_true rfl, Nat.le_of_ble_eq_true rfl⟩) rfl hl.1 rfl (Nat.le_of_ble_eq_true rfl) dX0_packet_211 ⟨Nat.le_of_ble_eq_true rfl, Nat.le_of_ble_eq_true rfl⟩) hS (fun σ12 a12 H locs hw hH hS => ?_)
  refine W.cs (cells' := 1) (slots' := 66047) rfl rfl ?_
  exact rt_va C hH hS hw dX0_packet_214
def w0_packet (σ : St) (x1 : Int32) (x2 : Int32) (Q : St → Prop) : Prop := (x2 < 20 → Q σ) ∧ (¬ x2 < 20 → (vp_in x1 65540 ∧ (by8 (σ 20 0 x1.toNatClampNeg) → (((((σ 20 0 x1.toNatClampNeg) >>> ((4 : Int32) &&& 31)) &&& 15) = 4 → (vp_in x1 65540 ∧ (by8 (σ 20 0 x1.toNatClampNeg) → (w19_two σ 20 0 (x1 + 2) (fun r1 => (((((σ 20 0 x1.toNatClampNeg) &&& 15) * 4) < 20 → Q σ) ∧ (¬ (((σ 20 0 x1.toNatClampNeg) &&& 15) * 4) < 20 → ((r1 < (((σ 20 0 x1.toNatClampNeg) &&& 15) * 4) → Q σ) ∧ (¬ r1 < (((σ 20 0 x1.toNatClampNeg) &&& 15) * 4) → ((x2 < r1 → Q σ) ∧ (¬ x2 < r1 → (w19_added σ 0 20 0 x1 (((σ 20 0 x1.toNatClampNeg) &&& 15) * 4) (fun r2 => (w19_folded σ r2 (fun r3 => ((r3 = 0 → (w19_four σ 20 0 (x1 + 12) (fun r4 => (w19_four σ 20 0 (x1 + 16) (fun r5 => ((¬ r5 = (σ 0 0 12) → Q σ) ∧ (r5 = (σ 0 0 12) → ((r4 = (σ 0 0 12) → Q σ) ∧ (¬ r4 = (σ 0 0 12) → (w19_isUsual σ r4 (fun r6 => ((¬ r6 = 0 → (w19_two σ 20 0 (x1 + 6) (fun r7 => ((¬ (r7 &&& 8192) = 0 → (w0_packet_J168 σ x1 (((σ 20 0 x1.toNatClampNeg) &&& 15) * 4) r1 r4 ((r7 &&& 8191) * 8) 0 Q)) ∧ ((r7 &&& 8192) = 0 → (w0_packet_J168 σ x1 (((σ 20 0 x1.toNatClampNeg) &&& 15) * 4) r1 r4 ((r7 &&& 8191) * 8) 1 Q)))))) ∧ (r6 = 0 → Q σ))))))))))))) ∧ (¬ r3 = 0 → Q σ))))))))))))))))) ∧ (¬ (((σ 20 0 x1.toNatClampNeg) >>> ((4 : Int32) &&& 31)) &&& 15) = 4 → Q σ)))))
set_option maxHeartbeats 4000000 in
theorem m0_packet (l : Launch) (G : Gh) (a1 : Nat → Nat → Nat) (τ : St) (σ : St) (x1 : Int32) (x2 : Int32) (Q : St → Prop) (hw : w0_packet σ x1 x2 Q) : Met l yX0_packet (ws_ yX0_packet cX0_packet 11 none) rmX0_packet (PcS G a1 (cmb σ τ) [.ref (ga G 0 0), .int x1, .int x2]) (QVa G (fun u => cmb u τ) Q) 1 66047 (gA G) := by
  refine met_w (by decide) (Nat.le_of_ble_eq_true rfl) ?_
  intro p e s m below meth c ls C hH hS hl
  have C : Cx p e s m _ meth c cX0_packet 11 none "WebHost" G := C
  have hl : lv_has ls 11 [(0, .ref (ga G 0 0)), (1, .int x1), (2, .int x2)] := hl
  have hx := C.1
  have hb := C.2.1
  have hown := C.2.2.2.2.2.1
  have hts := C.2.2.2.2.2.2.1
  obtain ⟨locs, hlocs⟩ : ∃ z : List Loc, z = [] := ⟨_, rfl⟩
  obtain ⟨H, hHe⟩ : ∃ z : Heap, z = s.heap := ⟨_, rfl⟩
  have hH : Hd G a1 (cmb σ τ) H := by rw [hHe]; exact hH
  have hS : va_S (gA G) s.heap H locs := by rw [hHe, hlocs]; exact hS
  refine W.heap0 hHe.symm hlocs.symm ?_
  refine lv_iload_n hx hb dX0_packet_0 rfl (lv_at hl 2 rfl) ?_
  refine lv_bipush (v := 20) hx hb dX0_packet_1 (by decide) ?_
  refine lv_icmp_lt (tgt := 21) hx hb dX0_packet_3 (by decide) (fun h => ?_) (fun h => ?_)
  · have hw := hw.1 h
    refine W.widen (k := 1) (n := 66047) (Nat.zero_le _) (Nat.zero_le _) ?_
    exact rt_va C hH hS hw dX0_packet_21
  have hw := hw.2 h
  refine lv_aload_n hx hb dX0_packet_6 rfl (lv_at hl 0 rfl) ?_
  refine g0_0 C hH q743 dX0_packet_7 ?_
  refine lv_iload_n hx hb dX0_packet_10 rfl (lv_at hl 1 rfl) ?_
  refine l20 C hH hw.1 dX0_packet_11 (fun hz => ?_)
  have hw := hw.2 hz
  refine lv_iconst (v := 4) hx hb dX0_packet_12 (by decide) ?_
  refine lv_ishr hx hb dX0_packet_13 ?_
  refine lv_bipush (v := 15) hx hb dX0_packet_14 (by decide) ?_
  refine lv_iand hx hb dX0_packet_16 ?_
  refine lv_iconst (v := 4) hx hb dX0_packet_17 (by decide) ?_
  refine lv_icmp_eq (tgt := 22) hx hb dX0_packet_18 (by decide) (fun h => ?_) (fun h => ?_)
  · have hw := hw.1 h
    refine lv_aload_n hx hb dX0_packet_22 rfl (lv_at hl 0 rfl) ?_
    refine g0_0 C hH q743 dX0_packet_23 ?_
    refine lv_iload_n hx hb dX0_packet_26 rfl (lv_at hl 1 rfl) ?_
    refine l20 C hH hw.1 dX0_packet_27 (fun hz => ?_)
    have hw := hw.2 hz
    refine lv_bipush (v := 15) hx hb dX0_packet_28 (by decide) ?_
    refine lv_iand hx hb dX0_packet_30 ?_
    refine lv_iconst (v := 4) hx hb dX0_packet_31 (by decide) ?_
    refine lv_imul hx hb dX0_packet_32 ?_
    refine lv_istore_n (lv' := [(3, .int (((σ 20 0 x1.toNatClampNeg) &&& 15) * 4)), (0, .ref (ga G 0 0)), (1, .int x1), (2, .int x2)]) hx hb dX0_packet_33 rfl hl (by decide) rfl (fun ls hl => ?_)
    refine lv_aload_n hx hb dX0_packet_34 rfl (lv_at hl 1 rfl) ?_
    refine g0_0 C hH q743 dX0_packet_35 ?_
    refine lv_iload_n hx hb dX0_packet_38 rfl (lv_at hl 2 rfl) ?_
    refine lv_iconst (v := 2) hx hb dX0_packet_39 (by decide) ?_
    refine lv_iadd hx hb dX0_packet_40 ?_
    refine kc_ip (rn_sp (As := [.ref (adr G a1 20 0), .int (x1 + 2)]) (rest := []) C hH hS (m19_two l G a1 τ σ H 20 0 (x1 + 2) (by decide) _ hw) (va_cwS 2 hts (lw_S q1077 q823 q176 q824) rfl rfl rfl kX19_two.2 ⟨Nat.le_of_ble_eq_true rfl, Nat.le_of_ble_eq_true rfl⟩) rfl hl.1 rfl (Nat.le_of_ble_eq_true rfl) dX0_packet_41 ⟨Nat.le_of_ble_eq_true rfl, Nat.le_of_ble_eq_true rfl⟩) hS (fun r1 locs hw hS => ?_)
    refine lv_istore (lv' := [(4, .int r1), (3, .int (((σ 20 0 x1.toNatClampNeg) &&& 15) * 4)), (0, .ref (ga G 0 0)), (1, .int x1), (2, .int x2)]) hx hb dX0_packet_44 hl (by decide) rfl (fun ls hl => ?_)
    refine lv_iload_n hx hb dX0_packet_46 rfl (lv_at hl 1 rfl) ?_
    refine lv_bipush (v := 20) hx hb dX0_packet_47 (by decide) ?_
    refine lv_icmp_lt (tgt := 80) hx hb dX0_packet_49 (by decide) (fun h => ?_) (fun h => ?_)
    · have hw := hw.1 h
      refine W.widen (k := 1) (n := 66047) (Nat.zero_le _) (Nat.zero_le _) ?_
      exact rt_va C hH hS hw dX0_packet_80
    have hw := hw.2 h
    refine lv_iload hx hb dX0_packet_52 (lv_at hl 0 rfl) ?_
    refine lv_iload_n hx hb dX0_packet_54 rfl (lv_at hl 1 rfl) ?_
    refine lv_icmp_lt (tgt := 80) hx hb dX0_packet_55 (by decide) (fun h => ?_) (fun h => ?_)
    · have hw := hw.1 h
      refine W.widen (k := 1) (n := 66047) (Nat.zero_le _) (Nat.zero_le _) ?_
      exact rt_va C hH hS hw dX0_packet_80
    have hw := hw.2 h
    refine lv_iload hx hb dX0_packet_58 (lv_at hl 0 rfl) ?_
    refine lv_iload_n hx hb dX0_packet_60 rfl (lv_at hl 4 rfl) ?_
    refine lv_icmp_gt (tgt := 80) hx hb dX0_packet_61 (by decide) (fun h => ?_) (fun h => ?_)
    · have hw := hw.1 h
      refine W.widen (k := 1) (n := 66047) (Nat.zero_le _) (Nat.zero_le _) ?_
      exact rt_va C hH hS hw dX0_packet_80
    have hw := hw.2 h
    refine lv_iconst (v := 0) hx hb dX0_packet_64 (by decide) ?_
    refine lv_aload_n hx hb dX0_packet_65 rfl (lv_at hl 2 rfl) ?_
    refine g0_0 C hH q743 dX0_packet_66 ?_
    refine lv_iload_n hx hb dX0_packet_69 rfl (lv_at hl 3 rfl) ?_
    refine lv_iload_n hx hb dX0_packet_70 rfl (lv_at hl 1 rfl) ?_
    refine kc_ip (rn_sp (As := [.int 0, .ref (adr G a1 20 0), .int x1, .int (((σ 20 0 x1.toNatClampNeg) &&& 15) * 4)]) (rest := []) C hH hS (m19_added l G a1 τ σ H 0 20 0 x1 (((σ 20 0 x1.toNatClampNeg) &&& 15) * 4) (by decide) _ hw) (va_cwS 4 hts (lw_S q1100 q990 q176 q991) rfl rfl rfl kX19_added.2 ⟨Nat.le_of_ble_eq_true rfl, Nat.le_of_ble_eq_true rfl⟩) rfl hl.1 rfl (Nat.le_of_ble_eq_true rfl) dX0_packet_71 ⟨Nat.le_of_ble_eq_true rfl, Nat.le_of_ble_eq_true rfl⟩) hS (fun r2 locs hw hS => ?_)
    refine kc_ip (rn_sp (As := [.int r2]) (rest := []) C hH hS (m19_folded l G a1 τ σ H r2 _ hw) (va_cwS 1 hts (lw_S q1101 q993 q176 q994) rfl rfl rfl kX19_folded.2 ⟨Nat.le_of_ble_eq_true rfl, Nat.le_of_ble_eq_true rfl⟩) rfl hl.1 rfl (Nat.le_of_ble_eq_true rfl) dX0_packet_74 ⟨Nat.le_of_ble_eq_true rfl, Nat.le_of_ble_eq_true rfl⟩) hS (fun r3 locs hw hS => ?_)
    refine lv_if_eq (tgt := 81) hx hb dX0_packet_77 (by decide) (fun h => ?_) (fun h => ?_)
    · have hw := hw.1 h
      refine lv_aload_n hx hb dX0_packet_81 rfl (lv_at hl 2 rfl) ?_
      refine g0_0 C hH q743 dX0_packet_82 ?_
      refine lv_iload_n hx hb dX0_packet_85 rfl (lv_at hl 3 rfl) ?_
      refine lv_bipush (v := 12) hx hb dX0_packet_86 (by decide) ?_
      refine lv_iadd hx hb dX0_packet_88 ?_
      refine kc_ip (rn_sp (As := [.ref (adr G a1 20 0), .int (x1 + 12)]) (rest := []) C hH hS (m19_four l G a1 τ σ H 20 0 (x1 + 12) (by decide) _ hw) (va_cwS 2 hts (lw_S q1102 q820 q176 q821) rfl rfl rfl kX19_four.2 ⟨Nat.le_of_ble_eq_true rfl, Nat.le_of_ble_eq_true rfl⟩) rfl hl.1 rfl (Nat.le_of_ble_eq_true rfl) dX0_packet_89 ⟨Nat.le_of_ble_eq_true rfl, Nat.le_of_ble_eq_true rfl⟩) hS (fun r4 locs hw hS => ?_)
      refine lv_istore (lv' := [(5, .int r4), (4, .int r1), (3, .int (((σ 20 0 x1.toNatClampNeg) &&& 15) * 4)), (0, .ref (ga G 0 0)), (1, .int x1), (2, .int x2)]) hx hb dX0_packet_92 hl (by decide) rfl (fun ls hl => ?_)
      refine lv_aload_n hx hb dX0_packet_94 rfl (lv_at hl 3 rfl) ?_
      refine g0_0 C hH q743 dX0_packet_95 ?_
      refine lv_iload_n hx hb dX0_packet_98 rfl (lv_at hl 4 rfl) ?_
      refine lv_bipush (v := 16) hx hb dX0_packet_99 (by decide) ?_
      refine lv_iadd hx hb dX0_packet_101 ?_
      refine kc_ip (rn_sp (As := [.ref (adr G a1 20 0), .int (x1 + 16)]) (rest := []) C hH hS (m19_four l G a1 τ σ H 20 0 (x1 + 16) (by decide) _ hw) (va_cwS 2 hts (lw_S q1102 q820 q176 q821) rfl rfl rfl kX19_four.2 ⟨Nat.le_of_ble_eq_true rfl, Nat.le_of_ble_eq_true rfl⟩) rfl hl.1 rfl (Nat.le_of_ble_eq_true rfl) dX0_packet_102 ⟨Nat.le_of_ble_eq_true rfl, Nat.le_of_ble_eq_true rfl⟩) hS (fun r5 locs hw hS => ?_)
      refine lv_aload_n hx hb dX0_packet_105 rfl (lv_at hl 3 rfl) ?_
      refine g0_12 C hH q755 dX0_packet_106 ?_
      refine lv_icmp_ne (tgt := 129) hx hb dX0_packet_109 (by decide) (fun h => ?_) (fun h => ?_)
      · have hw := hw.1 h
        refine W.widen (k := 1) (n := 66047) (Nat.zero_le _) (Nat.zero_le _) ?_
        exact rt_va C hH hS hw dX0_packet_129
      have hw := hw.2 h
      refine lv_iload hx hb dX0_packet_112 (lv_at hl 0 rfl) ?_
      refine lv_aload_n hx hb dX0_packet_114 rfl (lv_at hl 3 rfl) ?_
      refine g0_12 C hH q755 dX0_packet_115 ?_
      refine lv_icmp_eq (tgt := 129) hx hb dX0_packet_118 (by decide) (fun h => ?_) (fun h => ?_)
      · have hw := hw.1 h
        refine W.widen (k := 1) (n := 66047) (Nat.zero_le _) (Nat.zero_le _) ?_
        exact rt_va C hH hS hw dX0_packet_129
      have hw := hw.2 h
      refine lv_iload hx hb dX0_packet_121 (lv_at hl 0 rfl) ?_
      refine kc_ip (rn_sp (As := [.int r4]) (rest := []) C hH hS (m19_isUsual l G a1 τ σ H r4 _ hw) (va_cwS 1 hts (lw_S q812 q813 q176 q814) rfl rfl rfl kX19_isUsual.2 ⟨Nat.le_of_ble_eq_true rfl, Nat.le_of_ble_eq_true rfl⟩) rfl hl.1 rfl (Nat.le_of_ble_eq_true rfl) dX0_packet_123 ⟨Nat.le_of_ble_eq_true rfl, Nat.le_of_ble_eq_true rfl⟩) hS (fun r6 locs hw hS => ?_)
      refine lv_if_ne (tgt := 130) hx hb dX0_packet_126 (by decide) (fun h => ?_) (fun h => ?_)
      · have hw := hw.1 h
        refine lv_aload_n hx hb dX0_packet_130 rfl (lv_at hl 3 rfl) ?_
        refine g0_0 C hH q743 dX0_packet_131 ?_
        refine lv_iload_n hx hb dX0_packet_134 rfl (lv_at hl 4 rfl) ?_
        refine lv_bipush (v := 6) hx hb dX0_packet_135 (by decide) ?_
        refine lv_iadd hx hb dX0_packet_137 ?_
        refine kc_ip (rn_sp (As := [.ref (adr G a1 20 0), .int (x1 + 6)]) (rest := []) C hH hS (m19_two l G a1 τ σ H 20 0 (x1 + 6) (by decide) _ hw) (va_cwS 2 hts (lw_S q1077 q823 q176 q824) rfl rfl rfl kX19_two.2 ⟨Nat.le_of_ble_eq_true rfl, Nat.le_of_ble_eq_true rfl⟩) rfl hl.1 rfl (Nat.le_of_ble_eq_true rfl) dX0_packet_138 ⟨Nat.le_of_ble_eq_true rfl, Nat.le_of_ble_eq_true rfl⟩) hS (fun r7 locs hw hS => ?_)
        refine lv_istore (lv' := [(6, .int r7), (5, .int r4), (4, .int r1), (3, .int (((σ 20 0 x1.toNatClampNeg) &&& 15) * 4)), (0, .ref (ga G 0 0)), (1, .int x1), (2, .int x2)]) hx hb dX0_packet_141 hl (by decide) rfl (fun ls hl => ?_)
        refine lv_iload hx hb dX0_packet_143 (lv_at hl 0 rfl) ?_
        refine lv_sipush (v := 8191) hx hb dX0_packet_145 (by decide) ?_
        refine lv_iand hx hb dX0_packet_148 ?_
        refine lv_bipush (v := 8) hx hb dX0_packet_149 (by decide) ?_
        refine lv_imul hx hb dX0_packet_151 ?_
        refine lv_istore (lv' := [(7, .int ((r7 &&& 8191) * 8)), (6, .int r7), (5, .int r4), (4, .int r1), (3, .int (((σ 20 0 x1.toNatClampNeg) &&& 15) * 4)), (0, .ref (ga G 0 0)), (1, .int x1), (2, .int x2)]) hx hb dX0_packet_152 hl (by decide) rfl (fun ls hl => ?_)
        refine lv_iload hx hb dX0_packet_154 (lv_at hl 1 rfl) ?_
        refine lv_sipush (v := 8192) hx hb dX0_packet_156 (by decide) ?_
        refine lv_iand hx hb dX0_packet_159 ?_
        refine lv_if_ne (tgt := 167) hx hb dX0_packet_160 (by decide) (fun h => ?_) (fun h => ?_)
        · have hw := hw.1 h
          refine lv_iconst (v := 0) hx hb dX0_packet_167 (by decide) ?_
          exact k0_packet_J168 C σ x1 (((σ 20 0 x1.toNatClampNeg) &&& 15) * 4) r1 r4 ((r7 &&& 8191) * 8) 0 hw H locs ls hH hS (lv_sub hl [5, 6, 4, 3, 2, 0] rfl)
        have hw := hw.2 h
        refine lv_iconst (v := 1) hx hb dX0_packet_163 (by decide) ?_
        refine lv_goto (tgt := 168) hx hb dX0_packet_164 (by decide) ?_
        exact k0_packet_J168 C σ x1 (((σ 20 0 x1.toNatClampNeg) &&& 15) * 4) r1 r4 ((r7 &&& 8191) * 8) 1 hw H locs ls hH hS (lv_sub hl [5, 6, 4, 3, 2, 0] rfl)
      have hw := hw.2 h
      refine W.widen (k := 1) (n := 66047) (Nat.zero_le _) (Nat.zero_le _) ?_
      exact rt_va C hH hS hw dX0_packet_129
    have hw := hw.2 h
    refine W.widen (k := 1) (n := 66047) (Nat.zero_le _) (Nat.zero_le _) ?_
    exact rt_va C hH hS hw dX0_packet_80
  have hw := hw.2 h
  refine W.widen (k := 1) (n := 66047) (Nat.zero_le _) (Nat.zero_le _) ?_
  exact rt_va C hH hS hw dX0_packet_21
/-! WebHost.frame(I)V -/
abbrev cX0_frame : ByteArray := prog_1_method_12_code
def yX0_frame : MethodName := ⟨RX0, "frame", "(I)V"⟩
theorem dX0_frame_0 : decode cX0_frame 0 = .ok (.iload_n 1, 1) := by decide +kernel
theorem dX0_frame_1 : decode cX0_frame 1 = .ok (.bipush 14, 2) := by decide +kernel
theorem dX0_frame_3 : decode cX0_frame 3 = .ok (.if_icmp .lt 17, 3) := by decide +kernel
theorem dX0_frame_6 : decode cX0_frame 6 = .ok (.aload_n 0, 1) := by decide +kernel
theorem dX0_frame_7 : decode cX0_frame 7 = .ok (.getfield 24, 3) := by decide +kernel
theorem dX0_frame_10 : decode cX0_frame 10 = .ok (.aload_n 0, 1) := by decide +kernel
theorem dX0_frame_11 : decode cX0_frame 11 = .ok (.getfield 8, 3) := by decide +kernel
theorem dX0_frame_14 : decode cX0_frame 14 = .ok (.invokevirtual 186, 3) := by decide +kernel
theorem dX0_frame_17 : decode cX0_frame 17 = .ok (.ifCond .ne 4, 3) := by decide +kernel
theorem dX0_frame_20 : decode cX0_frame 20 = .ok (.return_, 1) := by decide +kernel
theorem dX0_frame_21 : decode cX0_frame 21 = .ok (.aload_n 0, 1) := by decide +kernel
theorem dX0_frame_22 : decode cX0_frame 22 = .ok (.getfield 8, 3) := by decide +kernel
theorem dX0_frame_25 : decode cX0_frame 25 = .ok (.bipush 12, 2) := by decide +kernel
theorem dX0_frame_27 : decode cX0_frame 27 = .ok (.invokestatic 190, 3) := by decide +kernel
theorem dX0_frame_30 : decode cX0_frame 30 = .ok (.istore_n 2, 1) := by decide +kernel
theorem dX0_frame_31 : decode cX0_frame 31 = .ok (.iload_n 2, 1) := by decide +kernel
theorem dX0_frame_32 : decode cX0_frame 32 = .ok (.sipush 2054, 3) := by decide +kernel
theorem dX0_frame_35 : decode cX0_frame 35 = .ok (.if_icmp .ne 18, 3) := by decide +kernel
theorem dX0_frame_38 : decode cX0_frame 38 = .ok (.aload_n 0, 1) := by decide +kernel
theorem dX0_frame_39 : decode cX0_frame 39 = .ok (.getfield 33, 3) := by decide +kernel
theorem dX0_frame_42 : decode cX0_frame 42 = .ok (.aload_n 0, 1) := by decide +kernel
theorem dX0_frame_43 : decode cX0_frame 43 = .ok (.getfield 8, 3) := by decide +kernel
theorem dX0_frame_46 : decode cX0_frame 46 = .ok (.iload_n 1, 1) := by decide +kernel
theorem dX0_frame_47 : decode cX0_frame 47 = .ok (.invokevirtual 194, 3) := by decide +kernel
theorem dX0_frame_50 : decode cX0_frame 50 = .ok (.goto 20, 3) := by decide +kernel
theorem dX0_frame_53 : decode cX0_frame 53 = .ok (.iload_n 2, 1) := by decide +kernel
theorem dX0_frame_54 : decode cX0_frame 54 = .ok (.sipush 2048, 3) := by decide +kernel
theorem dX0_frame_57 : decode cX0_frame 57 = .ok (.if_icmp .ne 13, 3) := by decide +kernel
theorem dX0_frame_60 : decode cX0_frame 60 = .ok (.aload_n 0, 1) := by decide +kernel
theorem dX0_frame_61 : decode cX0_frame 61 = .ok (.bipush 14, 2) := by decide +kernel
theorem dX0_frame_63 : decode cX0_frame 63 = .ok (.iload_n 1, 1) := by decide +kernel
theorem dX0_frame_64 : decode cX0_frame 64 = .ok (.bipush 14, 2) := by decide +kernel
theorem dX0_frame_66 : decode cX0_frame 66 = .ok (.isub, 1) := by decide +kernel
theorem dX0_frame_67 : decode cX0_frame 67 = .ok (.invokevirtual 198, 3) := by decide +kernel
theorem dX0_frame_70 : decode cX0_frame 70 = .ok (.return_, 1) := by decide +kernel
def rmX0_frame : Room := { frames := 18, cells := 1, slots := 66047, locals := 408 }
theorem kX0_frame : yX0_frame.cls = "WebHost" ∧ yX0_frame.cls ≠ "java/lang/invoke/MethodHandle" ∧ yX0_frame.cls ≠ "java/lang/invoke/VarHandle" ∧ (parseMethodDescriptor yX0_frame.desc).map (fun d => d.parameters.length) = some 1 := by decide +kernel
def w0_frame (σ : St) (x1 : Int32) (Q : St → Prop) : Prop := (x1 < 14 → Q σ) ∧ (¬ x1 < 14 → (w2_isForUs σ 20 0 (fun r1 => ((¬ r1 = 0 → (w19_two σ 20 0 12 (fun r2 => ((¬ r2 = 2054 → ((¬ r2 = 2048 → Q σ) ∧ (r2 = 2048 → (w0_packet σ 14 (x1 - 14) (fun σ3 => (Q σ3)))))) ∧ (r2 = 2054 → (w3_arrive σ 20 0 x1 (fun σ4 => (Q σ4)))))))) ∧ (r1 = 0 → Q σ)))))
set_option maxHeartbeats 4000000 in
theorem m0_frame (l : Launch) (G : Gh) (a1 : Nat → Nat → Nat) (τ : St) (σ : St) (x1 : Int32) (Q : St → Prop) (hw : w0_frame σ x1 Q) : Met l yX0_frame (ws_ yX0_frame cX0_frame 3 none) rmX0_frame (PcS G a1 (cmb σ τ) [.ref (ga G 0 0), .int x1]) (QVa G (fun u => cmb u τ) Q) 1 66047 (gA G) := by
  refine met_w (by decide) (Nat.le_of_ble_eq_true rfl) ?_
  intro p e s m below meth c ls C hH hS hl
  have C : Cx p e s m _ meth c cX0_frame 3 none "WebHost" G := C
  have hl : lv_has ls 3 [(0, .ref (ga G 0 0)), (1, .int x1)] := hl
  have hx := C.1
  have hb := C.2.1
  have hown := C.2.2.2.2.2.1
  have hts := C.2.2.2.2.2.2.1
  obtain ⟨locs, hlocs⟩ : ∃ z : List Loc, z = [] := ⟨_, rfl⟩
  obtain ⟨H, hHe⟩ : ∃ z : Heap, z = s.heap := ⟨_, rfl⟩
  have hH : Hd G a1 (cmb σ τ) H := by rw [hHe]; exact hH
  have hS : va_S (gA G) s.heap H locs := by rw [hHe, hlocs]; exact hS
  refine W.heap0 hHe.symm hlocs.symm ?_
  refine lv_iload_n hx hb dX0_frame_0 rfl (lv_at hl 1 rfl) ?_
  refine lv_bipush (v := 14) hx hb dX0_frame_1 (by decide) ?_
  refine lv_icmp_lt (tgt := 20) hx hb dX0_frame_3 (by decide) (fun h => ?_) (fun h => ?_)
  · have hw := hw.1 h
    refine W.widen (k := 1) (n := 66047) (Nat.zero_le _) (Nat.zero_le _) ?_
    exact rt_va C hH hS hw dX0_frame_20
  have hw := hw.2 h
  refine lv_aload_n hx hb dX0_frame_6 rfl (lv_at hl 0 rfl) ?_
  refine g0_3 C hH q746 dX0_frame_7 ?_
  refine lv_aload_n hx hb dX0_frame_10 rfl (lv_at hl 0 rfl) ?_
  refine g0_0 C hH q743 dX0_frame_11 ?_
  refine kc_ip (rn_vp (As := [.ref (adr G a1 20 0)]) (rest := []) C hH hS (by decide) rfl (by decide) (m2_isForUs l G a1 τ σ H 20 0 (by decide) _ hw) (cwV 1 hts (lw_V q1073 q1074 q1075 q159 q1076) rfl rfl rfl kX2_isForUs ⟨Nat.le_of_ble_eq_true rfl, Nat.le_of_ble_eq_true rfl⟩) rfl hl.1 rfl (Nat.le_of_ble_eq_true rfl) dX0_frame_14 ⟨Nat.le_of_ble_eq_true rfl, Nat.le_of_ble_eq_true rfl⟩) hS (fun r1 locs hw hS => ?_)
  refine lv_if_ne (tgt := 21) hx hb dX0_frame_17 (by decide) (fun h => ?_) (fun h => ?_)
  · have hw := hw.1 h
    refine lv_aload_n hx hb dX0_frame_21 rfl (lv_at hl 0 rfl) ?_
    refine g0_0 C hH q743 dX0_frame_22 ?_
    refine lv_bipush (v := 12) hx hb dX0_frame_25 (by decide) ?_
    refine kc_ip (rn_sp (As := [.ref (adr G a1 20 0), .int 12]) (rest := []) C hH hS (m19_two l G a1 τ σ H 20 0 12 (by decide) _ hw) (va_cwS 2 hts (lw_S q1077 q823 q176 q824) rfl rfl rfl kX19_two.2 ⟨Nat.le_of_ble_eq_true rfl, Nat.le_of_ble_eq_true rfl⟩) rfl hl.1 rfl (Nat.le_of_ble_eq_true rfl) dX0_frame_27 ⟨Nat.le_of_ble_eq_true rfl, Nat.le_of_ble_eq_true rfl⟩) hS (fun r2 locs hw hS => ?_)
    refine lv_istore_n (lv' := [(2, .int r2), (0, .ref (ga G 0 0)), (1, .int x1)]) hx hb dX0_frame_30 rfl hl (by decide) rfl (fun ls hl => ?_)
    refine lv_iload_n hx hb dX0_frame_31 rfl (lv_at hl 0 rfl) ?_
    refine lv_sipush (v := 2054) hx hb dX0_frame_32 (by decide) ?_
    refine lv_icmp_ne (tgt := 53) hx hb dX0_frame_35 (by decide) (fun h => ?_) (fun h => ?_)
    · have hw := hw.1 h
      refine lv_iload_n hx hb dX0_frame_53 rfl (lv_at hl 0 rfl) ?_
      refine lv_sipush (v := 2048) hx hb dX0_frame_54 (by decide) ?_
      refine lv_icmp_ne (tgt := 70) hx hb dX0_frame_57 (by decide) (fun h => ?_) (fun h => ?_)
      · have hw := hw.1 h
        refine W.widen (k := 1) (n := 66047) (Nat.zero_le _) (Nat.zero_le _) ?_
        exact rt_va C hH hS hw dX0_frame_70
      have hw := hw.2 h
      refine lv_aload_n hx hb dX0_frame_60 rfl (lv_at hl 1 rfl) ?_
      refine lv_bipush (v := 14) hx hb dX0_frame_61 (by decide) ?_
      refine lv_iload_n hx hb dX0_frame_63 rfl (lv_at hl 2 rfl) ?_
      refine lv_bipush (v := 14) hx hb dX0_frame_64 (by decide) ?_
      refine lv_isub hx hb dX0_frame_66 ?_
      refine kc_va (rn_v (As := [.int 14, .int (x1 - 14)]) (rest := []) C hH hS (by decide) rfl (by decide) (m0_packet l G a1 τ σ 14 (x1 - 14) _ hw) (cwV 2 hts (lw_V q1096 q1098 qs26 q157 q1099) rfl rfl rfl kX0_packet ⟨Nat.le_of_ble_eq_true rfl, Nat.le_of_ble_eq_true rfl⟩) rfl hl.1 rfl (Nat.le_of_ble_eq_true rfl) dX0_frame_67 ⟨Nat.le_of_ble_eq_true rfl, Nat.le_of_ble_eq_true rfl⟩) hS (fun σ3 a3 H locs hw hH hS => ?_)
      refine W.cs (cells' := 1) (slots' := 66047) rfl rfl ?_
      exact rt_va C hH hS hw dX0_frame_70
    have hw := hw.2 h
    refine lv_aload_n hx hb dX0_frame_38 rfl (lv_at hl 1 rfl) ?_
    refine g0_4 C hH q747 dX0_frame_39 ?_
    refine lv_aload_n hx hb dX0_frame_42 rfl (lv_at hl 1 rfl) ?_
    refine g0_0 C hH q743 dX0_frame_43 ?_
    refine lv_iload_n hx hb dX0_frame_46 rfl (lv_at hl 2 rfl) ?_
    refine kc_v (rn_v (As := [.ref (adr G a1 20 0), .int x1]) (rest := []) C hH hS (by decide) rfl (by decide) (m3_arrive l G a1 τ σ 20 0 x1 (by decide) _ hw) (cwV 2 hts (lw_V q1078 q1079 q1080 q160 q1081) rfl rfl rfl kX3_arrive ⟨Nat.le_of_ble_eq_true rfl, Nat.le_of_ble_eq_true rfl⟩) rfl hl.1 rfl (Nat.le_of_ble_eq_true rfl) dX0_frame_47 ⟨Nat.le_of_ble_eq_true rfl, Nat.le_of_ble_eq_true rfl⟩) hS (fun σ4 H locs hw hH hS => ?_)
    refine lv_goto (tgt := 70) hx hb dX0_frame_50 (by decide) ?_
    refine W.widen (k := 1) (n := 66047) (Nat.zero_le _) (Nat.zero_le _) ?_
    exact rt_va C hH hS hw dX0_frame_70
  have hw := hw.2 h
  refine W.widen (k := 1) (n := 66047) (Nat.zero_le _) (Nat.zero_le _) ?_
  exact rt_va C hH hS hw dX0_frame_20
