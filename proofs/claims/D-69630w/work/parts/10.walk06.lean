/-! walks -/
set_option maxRecDepth 100000
/-! WebHostModel.boot(IIIII)I -/
abbrev cX14_boot : ByteArray := prog_17_method_12_code
def yX14_boot : MethodName := ⟨RX14, "boot", "(IIIII)I"⟩
theorem dX14_boot_0 : decode cX14_boot 0 = .ok (.iload_n 2, 1) := by decide +kernel
theorem dX14_boot_1 : decode cX14_boot 1 = .ok (.bipush 8, 2) := by decide +kernel
theorem dX14_boot_3 : decode cX14_boot 3 = .ok (.if_icmp .lt 16, 3) := by decide +kernel
theorem dX14_boot_6 : decode cX14_boot 6 = .ok (.iload_n 2, 1) := by decide +kernel
theorem dX14_boot_7 : decode cX14_boot 7 = .ok (.bipush 30, 2) := by decide +kernel
theorem dX14_boot_9 : decode cX14_boot 9 = .ok (.if_icmp .gt 10, 3) := by decide +kernel
theorem dX14_boot_12 : decode cX14_boot 12 = .ok (.iload_n 1, 1) := by decide +kernel
theorem dX14_boot_13 : decode cX14_boot 13 = .ok (.invokestatic 111, 3) := by decide +kernel
theorem dX14_boot_16 : decode cX14_boot 16 = .ok (.ifCond .ne 5, 3) := by decide +kernel
theorem dX14_boot_19 : decode cX14_boot 19 = .ok (.iconst (-1), 1) := by decide +kernel
theorem dX14_boot_20 : decode cX14_boot 20 = .ok (.ireturn, 1) := by decide +kernel
theorem dX14_boot_21 : decode cX14_boot 21 = .ok (.bipush 32, 2) := by decide +kernel
theorem dX14_boot_23 : decode cX14_boot 23 = .ok (.iload_n 2, 1) := by decide +kernel
theorem dX14_boot_24 : decode cX14_boot 24 = .ok (.isub, 1) := by decide +kernel
theorem dX14_boot_25 : decode cX14_boot 25 = .ok (.istore 6, 2) := by decide +kernel
theorem dX14_boot_27 : decode cX14_boot 27 = .ok (.iload_n 3, 1) := by decide +kernel
theorem dX14_boot_28 : decode cX14_boot 28 = .ok (.iload 6, 2) := by decide +kernel
theorem dX14_boot_30 : decode cX14_boot 30 = .ok (.ishr, 1) := by decide +kernel
theorem dX14_boot_31 : decode cX14_boot 31 = .ok (.iload_n 1, 1) := by decide +kernel
theorem dX14_boot_32 : decode cX14_boot 32 = .ok (.iload 6, 2) := by decide +kernel
theorem dX14_boot_34 : decode cX14_boot 34 = .ok (.ishr, 1) := by decide +kernel
theorem dX14_boot_35 : decode cX14_boot 35 = .ok (.if_icmp .ne 19, 3) := by decide +kernel
theorem dX14_boot_38 : decode cX14_boot 38 = .ok (.iload_n 3, 1) := by decide +kernel
theorem dX14_boot_39 : decode cX14_boot 39 = .ok (.iload_n 1, 1) := by decide +kernel
theorem dX14_boot_40 : decode cX14_boot 40 = .ok (.if_icmp .eq 14, 3) := by decide +kernel
theorem dX14_boot_43 : decode cX14_boot 43 = .ok (.iload 4, 2) := by decide +kernel
theorem dX14_boot_45 : decode cX14_boot 45 = .ok (.bipush 8, 2) := by decide +kernel
theorem dX14_boot_47 : decode cX14_boot 47 = .ok (.ishr, 1) := by decide +kernel
theorem dX14_boot_48 : decode cX14_boot 48 = .ok (.iconst 1, 1) := by decide +kernel
theorem dX14_boot_49 : decode cX14_boot 49 = .ok (.iand, 1) := by decide +kernel
theorem dX14_boot_50 : decode cX14_boot 50 = .ok (.iconst 1, 1) := by decide +kernel
theorem dX14_boot_51 : decode cX14_boot 51 = .ok (.if_icmp .ne 6, 3) := by decide +kernel
theorem dX14_boot_54 : decode cX14_boot 54 = .ok (.bipush (-2), 2) := by decide +kernel
theorem dX14_boot_56 : decode cX14_boot 56 = .ok (.ireturn, 1) := by decide +kernel
theorem dX14_boot_57 : decode cX14_boot 57 = .ok (.aload_n 0, 1) := by decide +kernel
theorem dX14_boot_58 : decode cX14_boot 58 = .ok (.invokevirtual 115, 3) := by decide +kernel
theorem dX14_boot_61 : decode cX14_boot 61 = .ok (.istore 7, 2) := by decide +kernel
theorem dX14_boot_63 : decode cX14_boot 63 = .ok (.iload 7, 2) := by decide +kernel
theorem dX14_boot_65 : decode cX14_boot 65 = .ok (.ifCond .ge 6, 3) := by decide +kernel
theorem dX14_boot_68 : decode cX14_boot 68 = .ok (.bipush (-3), 2) := by decide +kernel
theorem dX14_boot_70 : decode cX14_boot 70 = .ok (.ireturn, 1) := by decide +kernel
theorem dX14_boot_71 : decode cX14_boot 71 = .ok (.aload_n 0, 1) := by decide +kernel
theorem dX14_boot_72 : decode cX14_boot 72 = .ok (.iload_n 1, 1) := by decide +kernel
theorem dX14_boot_73 : decode cX14_boot 73 = .ok (.putfield 119, 3) := by decide +kernel
theorem dX14_boot_76 : decode cX14_boot 76 = .ok (.aload_n 0, 1) := by decide +kernel
theorem dX14_boot_77 : decode cX14_boot 77 = .ok (.iload_n 2, 1) := by decide +kernel
theorem dX14_boot_78 : decode cX14_boot 78 = .ok (.putfield 108, 3) := by decide +kernel
theorem dX14_boot_81 : decode cX14_boot 81 = .ok (.aload_n 0, 1) := by decide +kernel
theorem dX14_boot_82 : decode cX14_boot 82 = .ok (.iload_n 3, 1) := by decide +kernel
theorem dX14_boot_83 : decode cX14_boot 83 = .ok (.putfield 122, 3) := by decide +kernel
theorem dX14_boot_86 : decode cX14_boot 86 = .ok (.aload_n 0, 1) := by decide +kernel
theorem dX14_boot_87 : decode cX14_boot 87 = .ok (.iload 4, 2) := by decide +kernel
theorem dX14_boot_89 : decode cX14_boot 89 = .ok (.ldc 14, 2) := by decide +kernel
theorem dX14_boot_91 : decode cX14_boot 91 = .ok (.iand, 1) := by decide +kernel
theorem dX14_boot_92 : decode cX14_boot 92 = .ok (.putfield 125, 3) := by decide +kernel
theorem dX14_boot_95 : decode cX14_boot 95 = .ok (.aload_n 0, 1) := by decide +kernel
theorem dX14_boot_96 : decode cX14_boot 96 = .ok (.iload 5, 2) := by decide +kernel
theorem dX14_boot_98 : decode cX14_boot 98 = .ok (.putfield 128, 3) := by decide +kernel
theorem dX14_boot_101 : decode cX14_boot 101 = .ok (.aload_n 0, 1) := by decide +kernel
theorem dX14_boot_102 : decode cX14_boot 102 = .ok (.iload 7, 2) := by decide +kernel
theorem dX14_boot_104 : decode cX14_boot 104 = .ok (.putfield 131, 3) := by decide +kernel
theorem dX14_boot_107 : decode cX14_boot 107 = .ok (.iconst 0, 1) := by decide +kernel
theorem dX14_boot_108 : decode cX14_boot 108 = .ok (.istore 8, 2) := by decide +kernel
theorem dX14_boot_110 : decode cX14_boot 110 = .ok (.iload 8, 2) := by decide +kernel
theorem dX14_boot_112 : decode cX14_boot 112 = .ok (.iload 7, 2) := by decide +kernel
theorem dX14_boot_114 : decode cX14_boot 114 = .ok (.if_icmp .ge 123, 3) := by decide +kernel
theorem dX14_boot_117 : decode cX14_boot 117 = .ok (.iconst 0, 1) := by decide +kernel
theorem dX14_boot_118 : decode cX14_boot 118 = .ok (.istore 9, 2) := by decide +kernel
theorem dX14_boot_120 : decode cX14_boot 120 = .ok (.iload 9, 2) := by decide +kernel
theorem dX14_boot_122 : decode cX14_boot 122 = .ok (.bipush 48, 2) := by decide +kernel
theorem dX14_boot_124 : decode cX14_boot 124 = .ok (.if_icmp .ge 38, 3) := by decide +kernel
theorem dX14_boot_127 : decode cX14_boot 127 = .ok (.aload_n 0, 1) := by decide +kernel
theorem dX14_boot_128 : decode cX14_boot 128 = .ok (.getfield 18, 3) := by decide +kernel
theorem dX14_boot_131 : decode cX14_boot 131 = .ok (.bipush 48, 2) := by decide +kernel
theorem dX14_boot_133 : decode cX14_boot 133 = .ok (.iload 8, 2) := by decide +kernel
theorem dX14_boot_135 : decode cX14_boot 135 = .ok (.imul, 1) := by decide +kernel
theorem dX14_boot_136 : decode cX14_boot 136 = .ok (.iload 9, 2) := by decide +kernel
theorem dX14_boot_138 : decode cX14_boot 138 = .ok (.iadd, 1) := by decide +kernel
theorem dX14_boot_139 : decode cX14_boot 139 = .ok (.aload_n 0, 1) := by decide +kernel
theorem dX14_boot_140 : decode cX14_boot 140 = .ok (.getfield 15, 3) := by decide +kernel
theorem dX14_boot_143 : decode cX14_boot 143 = .ok (.bipush 8, 2) := by decide +kernel
theorem dX14_boot_145 : decode cX14_boot 145 = .ok (.bipush 64, 2) := by decide +kernel
theorem dX14_boot_147 : decode cX14_boot 147 = .ok (.iload 8, 2) := by decide +kernel
theorem dX14_boot_149 : decode cX14_boot 149 = .ok (.imul, 1) := by decide +kernel
theorem dX14_boot_150 : decode cX14_boot 150 = .ok (.iadd, 1) := by decide +kernel
theorem dX14_boot_151 : decode cX14_boot 151 = .ok (.iload 9, 2) := by decide +kernel
theorem dX14_boot_153 : decode cX14_boot 153 = .ok (.iadd, 1) := by decide +kernel
theorem dX14_boot_154 : decode cX14_boot 154 = .ok (.baload, 1) := by decide +kernel
theorem dX14_boot_155 : decode cX14_boot 155 = .ok (.bastore, 1) := by decide +kernel
theorem dX14_boot_156 : decode cX14_boot 156 = .ok (.iinc 9 1, 3) := by decide +kernel
theorem dX14_boot_159 : decode cX14_boot 159 = .ok (.goto (-39), 3) := by decide +kernel
theorem dX14_boot_162 : decode cX14_boot 162 = .ok (.aload_n 0, 1) := by decide +kernel
theorem dX14_boot_163 : decode cX14_boot 163 = .ok (.getfield 21, 3) := by decide +kernel
theorem dX14_boot_166 : decode cX14_boot 166 = .ok (.iload 8, 2) := by decide +kernel
theorem dX14_boot_168 : decode cX14_boot 168 = .ok (.aload_n 0, 1) := by decide +kernel
theorem dX14_boot_169 : decode cX14_boot 169 = .ok (.bipush 8, 2) := by decide +kernel
theorem dX14_boot_171 : decode cX14_boot 171 = .ok (.bipush 64, 2) := by decide +kernel
theorem dX14_boot_173 : decode cX14_boot 173 = .ok (.iload 8, 2) := by decide +kernel
theorem dX14_boot_175 : decode cX14_boot 175 = .ok (.imul, 1) := by decide +kernel
theorem dX14_boot_176 : decode cX14_boot 176 = .ok (.iadd, 1) := by decide +kernel
theorem dX14_boot_177 : decode cX14_boot 177 = .ok (.bipush 48, 2) := by decide +kernel
theorem dX14_boot_179 : decode cX14_boot 179 = .ok (.iadd, 1) := by decide +kernel
theorem dX14_boot_180 : decode cX14_boot 180 = .ok (.invokevirtual 104, 3) := by decide +kernel
theorem dX14_boot_183 : decode cX14_boot 183 = .ok (.l2i, 1) := by decide +kernel
theorem dX14_boot_184 : decode cX14_boot 184 = .ok (.iastore, 1) := by decide +kernel
theorem dX14_boot_185 : decode cX14_boot 185 = .ok (.aload_n 0, 1) := by decide +kernel
theorem dX14_boot_186 : decode cX14_boot 186 = .ok (.getfield 25, 3) := by decide +kernel
theorem dX14_boot_189 : decode cX14_boot 189 = .ok (.iload 8, 2) := by decide +kernel
theorem dX14_boot_191 : decode cX14_boot 191 = .ok (.aload_n 0, 1) := by decide +kernel
theorem dX14_boot_192 : decode cX14_boot 192 = .ok (.bipush 8, 2) := by decide +kernel
theorem dX14_boot_194 : decode cX14_boot 194 = .ok (.bipush 64, 2) := by decide +kernel
theorem dX14_boot_196 : decode cX14_boot 196 = .ok (.iload 8, 2) := by decide +kernel
theorem dX14_boot_198 : decode cX14_boot 198 = .ok (.imul, 1) := by decide +kernel
theorem dX14_boot_199 : decode cX14_boot 199 = .ok (.iadd, 1) := by decide +kernel
theorem dX14_boot_200 : decode cX14_boot 200 = .ok (.bipush 52, 2) := by decide +kernel
theorem dX14_boot_202 : decode cX14_boot 202 = .ok (.iadd, 1) := by decide +kernel
theorem dX14_boot_203 : decode cX14_boot 203 = .ok (.invokevirtual 104, 3) := by decide +kernel
theorem dX14_boot_206 : decode cX14_boot 206 = .ok (.l2i, 1) := by decide +kernel
theorem dX14_boot_207 : decode cX14_boot 207 = .ok (.iastore, 1) := by decide +kernel
theorem dX14_boot_208 : decode cX14_boot 208 = .ok (.aload_n 0, 1) := by decide +kernel
theorem dX14_boot_209 : decode cX14_boot 209 = .ok (.getfield 28, 3) := by decide +kernel
theorem dX14_boot_212 : decode cX14_boot 212 = .ok (.iload 8, 2) := by decide +kernel
theorem dX14_boot_214 : decode cX14_boot 214 = .ok (.aload_n 0, 1) := by decide +kernel
theorem dX14_boot_215 : decode cX14_boot 215 = .ok (.bipush 8, 2) := by decide +kernel
theorem dX14_boot_217 : decode cX14_boot 217 = .ok (.bipush 64, 2) := by decide +kernel
theorem dX14_boot_219 : decode cX14_boot 219 = .ok (.iload 8, 2) := by decide +kernel
theorem dX14_boot_221 : decode cX14_boot 221 = .ok (.imul, 1) := by decide +kernel
theorem dX14_boot_222 : decode cX14_boot 222 = .ok (.iadd, 1) := by decide +kernel
theorem dX14_boot_223 : decode cX14_boot 223 = .ok (.bipush 56, 2) := by decide +kernel
theorem dX14_boot_225 : decode cX14_boot 225 = .ok (.iadd, 1) := by decide +kernel
theorem dX14_boot_226 : decode cX14_boot 226 = .ok (.invokevirtual 104, 3) := by decide +kernel
theorem dX14_boot_229 : decode cX14_boot 229 = .ok (.l2i, 1) := by decide +kernel
theorem dX14_boot_230 : decode cX14_boot 230 = .ok (.iastore, 1) := by decide +kernel
theorem dX14_boot_231 : decode cX14_boot 231 = .ok (.iinc 8 1, 3) := by decide +kernel
theorem dX14_boot_234 : decode cX14_boot 234 = .ok (.goto (-124), 3) := by decide +kernel
theorem dX14_boot_237 : decode cX14_boot 237 = .ok (.aload_n 0, 1) := by decide +kernel
theorem dX14_boot_238 : decode cX14_boot 238 = .ok (.iconst 1, 1) := by decide +kernel
theorem dX14_boot_239 : decode cX14_boot 239 = .ok (.putfield 95, 3) := by decide +kernel
theorem dX14_boot_242 : decode cX14_boot 242 = .ok (.aload_n 0, 1) := by decide +kernel
theorem dX14_boot_243 : decode cX14_boot 243 = .ok (.iconst 0, 1) := by decide +kernel
theorem dX14_boot_244 : decode cX14_boot 244 = .ok (.putfield 134, 3) := by decide +kernel
theorem dX14_boot_247 : decode cX14_boot 247 = .ok (.aload_n 0, 1) := by decide +kernel
theorem dX14_boot_248 : decode cX14_boot 248 = .ok (.iconst 0, 1) := by decide +kernel
theorem dX14_boot_249 : decode cX14_boot 249 = .ok (.putfield 137, 3) := by decide +kernel
theorem dX14_boot_252 : decode cX14_boot 252 = .ok (.aload_n 0, 1) := by decide +kernel
theorem dX14_boot_253 : decode cX14_boot 253 = .ok (.iconst 0, 1) := by decide +kernel
theorem dX14_boot_254 : decode cX14_boot 254 = .ok (.putfield 140, 3) := by decide +kernel
theorem dX14_boot_257 : decode cX14_boot 257 = .ok (.aload_n 0, 1) := by decide +kernel
theorem dX14_boot_258 : decode cX14_boot 258 = .ok (.iconst 0, 1) := by decide +kernel
theorem dX14_boot_259 : decode cX14_boot 259 = .ok (.putfield 143, 3) := by decide +kernel
theorem dX14_boot_262 : decode cX14_boot 262 = .ok (.aload_n 0, 1) := by decide +kernel
theorem dX14_boot_263 : decode cX14_boot 263 = .ok (.iconst 0, 1) := by decide +kernel
theorem dX14_boot_264 : decode cX14_boot 264 = .ok (.putfield 146, 3) := by decide +kernel
theorem dX14_boot_267 : decode cX14_boot 267 = .ok (.aload_n 0, 1) := by decide +kernel
theorem dX14_boot_268 : decode cX14_boot 268 = .ok (.iconst 0, 1) := by decide +kernel
theorem dX14_boot_269 : decode cX14_boot 269 = .ok (.putfield 149, 3) := by decide +kernel
theorem dX14_boot_272 : decode cX14_boot 272 = .ok (.iconst 0, 1) := by decide +kernel
theorem dX14_boot_273 : decode cX14_boot 273 = .ok (.istore 8, 2) := by decide +kernel
theorem dX14_boot_275 : decode cX14_boot 275 = .ok (.iload 8, 2) := by decide +kernel
theorem dX14_boot_277 : decode cX14_boot 277 = .ok (.bipush 8, 2) := by decide +kernel
theorem dX14_boot_279 : decode cX14_boot 279 = .ok (.if_icmp .ge 17, 3) := by decide +kernel
theorem dX14_boot_282 : decode cX14_boot 282 = .ok (.aload_n 0, 1) := by decide +kernel
theorem dX14_boot_283 : decode cX14_boot 283 = .ok (.getfield 31, 3) := by decide +kernel
theorem dX14_boot_286 : decode cX14_boot 286 = .ok (.iload 8, 2) := by decide +kernel
theorem dX14_boot_288 : decode cX14_boot 288 = .ok (.iconst 0, 1) := by decide +kernel
theorem dX14_boot_289 : decode cX14_boot 289 = .ok (.iastore, 1) := by decide +kernel
theorem dX14_boot_290 : decode cX14_boot 290 = .ok (.iinc 8 1, 3) := by decide +kernel
theorem dX14_boot_293 : decode cX14_boot 293 = .ok (.goto (-18), 3) := by decide +kernel
theorem dX14_boot_296 : decode cX14_boot 296 = .ok (.iconst 0, 1) := by decide +kernel
theorem dX14_boot_297 : decode cX14_boot 297 = .ok (.istore 8, 2) := by decide +kernel
theorem dX14_boot_299 : decode cX14_boot 299 = .ok (.iload 8, 2) := by decide +kernel
theorem dX14_boot_301 : decode cX14_boot 301 = .ok (.bipush 16, 2) := by decide +kernel
theorem dX14_boot_303 : decode cX14_boot 303 = .ok (.if_icmp .ge 20, 3) := by decide +kernel
theorem dX14_boot_306 : decode cX14_boot 306 = .ok (.aload_n 0, 1) := by decide +kernel
theorem dX14_boot_307 : decode cX14_boot 307 = .ok (.getfield 70, 3) := by decide +kernel
theorem dX14_boot_310 : decode cX14_boot 310 = .ok (.iload 8, 2) := by decide +kernel
theorem dX14_boot_312 : decode cX14_boot 312 = .ok (.aaload, 1) := by decide +kernel
theorem dX14_boot_313 : decode cX14_boot 313 = .ok (.iconst 0, 1) := by decide +kernel
theorem dX14_boot_314 : decode cX14_boot 314 = .ok (.putfield 152, 3) := by decide +kernel
theorem dX14_boot_317 : decode cX14_boot 317 = .ok (.iinc 8 1, 3) := by decide +kernel
theorem dX14_boot_320 : decode cX14_boot 320 = .ok (.goto (-21), 3) := by decide +kernel
theorem dX14_boot_323 : decode cX14_boot 323 = .ok (.iconst 0, 1) := by decide +kernel
theorem dX14_boot_324 : decode cX14_boot 324 = .ok (.istore 8, 2) := by decide +kernel
theorem dX14_boot_326 : decode cX14_boot 326 = .ok (.iload 8, 2) := by decide +kernel
theorem dX14_boot_328 : decode cX14_boot 328 = .ok (.bipush 16, 2) := by decide +kernel
theorem dX14_boot_330 : decode cX14_boot 330 = .ok (.if_icmp .ge 20, 3) := by decide +kernel
theorem dX14_boot_333 : decode cX14_boot 333 = .ok (.aload_n 0, 1) := by decide +kernel
theorem dX14_boot_334 : decode cX14_boot 334 = .ok (.getfield 49, 3) := by decide +kernel
theorem dX14_boot_337 : decode cX14_boot 337 = .ok (.iload 8, 2) := by decide +kernel
theorem dX14_boot_339 : decode cX14_boot 339 = .ok (.aaload, 1) := by decide +kernel
theorem dX14_boot_340 : decode cX14_boot 340 = .ok (.iconst 0, 1) := by decide +kernel
theorem dX14_boot_341 : decode cX14_boot 341 = .ok (.putfield 155, 3) := by decide +kernel
theorem dX14_boot_344 : decode cX14_boot 344 = .ok (.iinc 8 1, 3) := by decide +kernel
theorem dX14_boot_347 : decode cX14_boot 347 = .ok (.goto (-21), 3) := by decide +kernel
theorem dX14_boot_350 : decode cX14_boot 350 = .ok (.iconst 0, 1) := by decide +kernel
theorem dX14_boot_351 : decode cX14_boot 351 = .ok (.istore 8, 2) := by decide +kernel
theorem dX14_boot_353 : decode cX14_boot 353 = .ok (.iload 8, 2) := by decide +kernel
theorem dX14_boot_355 : decode cX14_boot 355 = .ok (.bipush 8, 2) := by decide +kernel
theorem dX14_boot_357 : decode cX14_boot 357 = .ok (.if_icmp .ge 20, 3) := by decide +kernel
theorem dX14_boot_360 : decode cX14_boot 360 = .ok (.aload_n 0, 1) := by decide +kernel
theorem dX14_boot_361 : decode cX14_boot 361 = .ok (.getfield 55, 3) := by decide +kernel
theorem dX14_boot_364 : decode cX14_boot 364 = .ok (.iload 8, 2) := by decide +kernel
theorem dX14_boot_366 : decode cX14_boot 366 = .ok (.aaload, 1) := by decide +kernel
theorem dX14_boot_367 : decode cX14_boot 367 = .ok (.iconst 0, 1) := by decide +kernel
theorem dX14_boot_368 : decode cX14_boot 368 = .ok (.putfield 158, 3) := by decide +kernel
theorem dX14_boot_371 : decode cX14_boot 371 = .ok (.iinc 8 1, 3) := by decide +kernel
theorem dX14_boot_374 : decode cX14_boot 374 = .ok (.goto (-21), 3) := by decide +kernel
theorem dX14_boot_377 : decode cX14_boot 377 = .ok (.iconst 0, 1) := by decide +kernel
theorem dX14_boot_378 : decode cX14_boot 378 = .ok (.istore 8, 2) := by decide +kernel
theorem dX14_boot_380 : decode cX14_boot 380 = .ok (.iload 8, 2) := by decide +kernel
theorem dX14_boot_382 : decode cX14_boot 382 = .ok (.iconst 4, 1) := by decide +kernel
theorem dX14_boot_383 : decode cX14_boot 383 = .ok (.if_icmp .ge 20, 3) := by decide +kernel
theorem dX14_boot_386 : decode cX14_boot 386 = .ok (.aload_n 0, 1) := by decide +kernel
theorem dX14_boot_387 : decode cX14_boot 387 = .ok (.getfield 61, 3) := by decide +kernel
theorem dX14_boot_390 : decode cX14_boot 390 = .ok (.iload 8, 2) := by decide +kernel
theorem dX14_boot_392 : decode cX14_boot 392 = .ok (.aaload, 1) := by decide +kernel
theorem dX14_boot_393 : decode cX14_boot 393 = .ok (.iconst 0, 1) := by decide +kernel
theorem dX14_boot_394 : decode cX14_boot 394 = .ok (.putfield 159, 3) := by decide +kernel
theorem dX14_boot_397 : decode cX14_boot 397 = .ok (.iinc 8 1, 3) := by decide +kernel
theorem dX14_boot_400 : decode cX14_boot 400 = .ok (.goto (-20), 3) := by decide +kernel
theorem dX14_boot_403 : decode cX14_boot 403 = .ok (.iload 7, 2) := by decide +kernel
theorem dX14_boot_405 : decode cX14_boot 405 = .ok (.ireturn, 1) := by decide +kernel
def rmX14_boot : Room := { frames := 2, cells := 0, slots := 0, locals := 52 }
theorem kX14_boot : yX14_boot.cls = "WebHostModel" ∧ yX14_boot.cls ≠ "java/lang/invoke/MethodHandle" ∧ yX14_boot.cls ≠ "java/lang/invoke/VarHandle" ∧ (parseMethodDescriptor yX14_boot.desc).map (fun d => d.parameters.length) = some 5 := by decide +kernel
def w14_boot_L120 (x7 : Int32) (x8 : Int32) (Q : Int32 → St → Prop) (K162 : St → Prop) : Nat → St → Int32 → Prop
  | 0, _, _ => False
  | n + 1, σ, x9 => (48 ≤ x9 → K162 σ) ∧ (¬ 48 ≤ x9 → (vp_in ((8 + (64 * x8)) + x9) 65535 ∧ (by8 (σ 51 0 ((8 + (64 * x8)) + x9).toNatClampNeg) → (vp_in ((48 * x8) + x9) 3072 ∧ (∀ σ9, σ9 = up3 σ 52 0 ((48 * x8) + x9).toNatClampNeg (σ 51 0 ((8 + (64 * x8)) + x9).toNatClampNeg).toInt8.toInt32 → (w14_boot_L120 x7 x8 Q K162 n σ9 (x9 + 1)))))))
set_option maxHeartbeats 4000000 in
theorem k14_boot_L120 {p : Program} {l : Launch} {e : Env} {s : State} {m : MethodId} {args : Array Value} {below : List Frame} {meth : Method} {c : Code} {G : Gh} {a1 : Nat → Nat → Nat} {τ : St} {Q : Int32 → St → Prop} {K162 : St → Prop} (C : Cx p e s m args meth c cX14_boot 10 (some .int) "WebHostModel" G) (x7 : Int32) (x8 : Int32) :
    ∀ (n : Nat) (σ : St) (x9 : Int32), w14_boot_L120 x7 x8 Q K162 n σ x9 → ∀ (H : Heap) (locs : List Loc) (ls : Array Slot), Hd G a1 (cmb τ σ) H → va_S (gA G) s.heap H locs → lv_has ls 10 [(0, .ref (ga G 14 0)), (7, .int x7), (8, .int x8), (9, .int x9)] → (∀ (σ : St) , K162 σ → ∀ (H : Heap) (locs : List Loc) (ls : Array Slot), Hd G a1 (cmb τ σ) H → va_S (gA G) s.heap H locs → lv_has ls 10 [(0, .ref (ga G 14 0)), (7, .int x7), (8, .int x8)] → W p l e rmX14_boot s m args below meth c H locs 0 0 (MQ below (QIs G a1 (fun u => cmb τ u) Q) args s 0 0 (gA G)) (F0 m 162 ls [])) → W p l e rmX14_boot s m args below meth c H locs 0 0 (MQ below (QIs G a1 (fun u => cmb τ u) Q) args s 0 0 (gA G)) (F0 m 120 ls []) := by
  have hx := C.1
  have hb := C.2.1
  have hown := C.2.2.2.2.2.1
  have hts := C.2.2.2.2.2.2.1
  intro n
  induction n with
  | zero =>
    intro σ x9 hw
    exact False.elim hw
  | succ n ih =>
    intro σ x9 hw H locs ls hH hS hl hK162
    refine lv_iload hx hb dX14_boot_120 (lv_at hl 3 rfl) ?_
    refine lv_bipush (v := 48) hx hb dX14_boot_122 (by decide) ?_
    refine lv_icmp_ge (tgt := 162) hx hb dX14_boot_124 (by decide) (fun h => ?_) (fun h => ?_)
    · have hw := hw.1 h
      exact hK162 σ hw H locs ls hH hS (lv_sub hl [0, 1, 2] rfl)
    have hw := hw.2 h
    refine lv_aload_n hx hb dX14_boot_127 rfl (lv_at hl 0 rfl) ?_
    refine g14_13 C hH q1953 dX14_boot_128 ?_
    refine lv_bipush (v := 48) hx hb dX14_boot_131 (by decide) ?_
    refine lv_iload hx hb dX14_boot_133 (lv_at hl 2 rfl) ?_
    refine lv_imul hx hb dX14_boot_135 ?_
    refine lv_iload hx hb dX14_boot_136 (lv_at hl 3 rfl) ?_
    refine lv_iadd hx hb dX14_boot_138 ?_
    refine lv_aload_n hx hb dX14_boot_139 rfl (lv_at hl 0 rfl) ?_
    refine g14_2 C hH q1942 dX14_boot_140 ?_
    refine lv_bipush (v := 8) hx hb dX14_boot_143 (by decide) ?_
    refine lv_bipush (v := 64) hx hb dX14_boot_145 (by decide) ?_
    refine lv_iload hx hb dX14_boot_147 (lv_at hl 2 rfl) ?_
    refine lv_imul hx hb dX14_boot_149 ?_
    refine lv_iadd hx hb dX14_boot_150 ?_
    refine lv_iload hx hb dX14_boot_151 (lv_at hl 3 rfl) ?_
    refine lv_iadd hx hb dX14_boot_153 ?_
    refine l51 C hH hw.1 dX14_boot_154 (fun hz => ?_)
    have hw := hw.2 hz
    refine s52 C hH hS hw.1 dX14_boot_155 (fun σ9 e9 H locs hH hS => ?_)
    have hw := hw.2 σ9 e9
    refine lv_iinc (v := x9 + 1) (lv' := [(9, .int (x9 + 1)), (0, .ref (ga G 14 0)), (7, .int x7), (8, .int x8)]) hx hb dX14_boot_156 hl (k := 3) rfl rfl (by decide) rfl (fun ls hl => ?_)
    refine lv_goto (tgt := 120) hx hb dX14_boot_159 (by decide) ?_
    exact ih σ9 (x9 + 1) hw H locs ls hH hS (lv_sub hl [1, 2, 3, 0] rfl) hK162
def w14_boot_L110 (x7 : Int32) (Q : Int32 → St → Prop) (K237 : St → Prop) : Nat → St → Int32 → Prop
  | 0, _, _ => False
  | n + 1, σ, x8 => (x7 ≤ x8 → K237 σ) ∧ (¬ x7 ≤ x8 → (∃ z10, w14_boot_L120 x7 x8 Q (fun σ11 => w14_imageWord σ11 ((8 + (64 * x8)) + 48) (fun r12 => (vp_in x8 64 ∧ (∀ σ13, σ13 = up3 σ11 53 0 x8.toNatClampNeg r12.toInt32 → (w14_imageWord σ13 ((8 + (64 * x8)) + 52) (fun r14 => (vp_in x8 64 ∧ (∀ σ15, σ15 = up3 σ13 54 0 x8.toNatClampNeg r14.toInt32 → (w14_imageWord σ15 ((8 + (64 * x8)) + 56) (fun r16 => (vp_in x8 64 ∧ (∀ σ17, σ17 = up3 σ15 55 0 x8.toNatClampNeg r16.toInt32 → (w14_boot_L110 x7 Q K237 n σ17 (x8 + 1)))))))))))))) z10 σ 0))
set_option maxHeartbeats 4000000 in
theorem k14_boot_L110 {p : Program} {l : Launch} {e : Env} {s : State} {m : MethodId} {args : Array Value} {below : List Frame} {meth : Method} {c : Code} {G : Gh} {a1 : Nat → Nat → Nat} {τ : St} {Q : Int32 → St → Prop} {K237 : St → Prop} (C : Cx p e s m args meth c cX14_boot 10 (some .int) "WebHostModel" G) (x7 : Int32) :
    ∀ (n : Nat) (σ : St) (x8 : Int32), w14_boot_L110 x7 Q K237 n σ x8 → ∀ (H : Heap) (locs : List Loc) (ls : Array Slot), Hd G a1 (cmb τ σ) H → va_S (gA G) s.heap H locs → lv_has ls 10 [(0, .ref (ga G 14 0)), (7, .int x7), (8, .int x8)] → (∀ (σ : St) , K237 σ → ∀ (H : Heap) (locs : List Loc) (ls : Array Slot), Hd G a1 (cmb τ σ) H → va_S (gA G) s.heap H locs → lv_has ls 10 [(0, .ref (ga G 14 0)), (7, .int x7)] → W p l e rmX14_boot s m args below meth c H locs 0 0 (MQ below (QIs G a1 (fun u => cmb τ u) Q) args s 0 0 (gA G)) (F0 m 237 ls [])) → W p l e rmX14_boot s m args below meth c H locs 0 0 (MQ below (QIs G a1 (fun u => cmb τ u) Q) args s 0 0 (gA G)) (F0 m 110 ls []) := by
  have hx := C.1
  have hb := C.2.1
  have hown := C.2.2.2.2.2.1
  have hts := C.2.2.2.2.2.2.1
  intro n
  induction n with
  | zero =>
    intro σ x8 hw
    exact False.elim hw
  | succ n ih =>
    intro σ x8 hw H locs ls hH hS hl hK237
    refine lv_iload hx hb dX14_boot_110 (lv_at hl 2 rfl) ?_
    refine lv_iload hx hb dX14_boot_112 (lv_at hl 1 rfl) ?_
    refine lv_icmp_ge (tgt := 237) hx hb dX14_boot_114 (by decide) (fun h => ?_) (fun h => ?_)
    · have hw := hw.1 h
      exact hK237 σ hw H locs ls hH hS (lv_sub hl [0, 1] rfl)
    have hw := hw.2 h
    refine lv_iconst (v := 0) hx hb dX14_boot_117 (by decide) ?_
    refine lv_istore (lv' := [(9, .int 0), (0, .ref (ga G 14 0)), (7, .int x7), (8, .int x8)]) hx hb dX14_boot_118 hl (by decide) rfl (fun ls hl => ?_)
    obtain ⟨n10, hw⟩ := hw
    refine k14_boot_L120 C x7 x8 n10 σ 0 hw H locs ls hH hS (lv_sub hl [1, 2, 3, 0] rfl) (fun σ11 hw H locs ls hH hS hl => ?_)
    refine lv_aload_n hx hb dX14_boot_162 rfl (lv_at hl 0 rfl) ?_
    refine g14_14 C hH q1954 dX14_boot_163 ?_
    refine lv_iload hx hb dX14_boot_166 (lv_at hl 2 rfl) ?_
    refine lv_aload_n hx hb dX14_boot_168 rfl (lv_at hl 0 rfl) ?_
    refine lv_bipush (v := 8) hx hb dX14_boot_169 (by decide) ?_
    refine lv_bipush (v := 64) hx hb dX14_boot_171 (by decide) ?_
    refine lv_iload hx hb dX14_boot_173 (lv_at hl 2 rfl) ?_
    refine lv_imul hx hb dX14_boot_175 ?_
    refine lv_iadd hx hb dX14_boot_176 ?_
    refine lv_bipush (v := 48) hx hb dX14_boot_177 (by decide) ?_
    refine lv_iadd hx hb dX14_boot_179 ?_
    refine kc_jp (rn_vp (As := [.int ((8 + (64 * x8)) + 48)]) (rest := [.int x8, .ref (adr G a1 53 0)]) C hH hS (by decide) rfl (by decide) (m14_imageWord l G a1 τ σ11 H ((8 + (64 * x8)) + 48) _ hw) (cwV 1 hts (lw_V q2162 q2164 qs78 q171 q2165) rfl rfl rfl kX14_imageWord ⟨Nat.le_of_ble_eq_true rfl, Nat.le_of_ble_eq_true rfl⟩) rfl hl.1 rfl (Nat.le_of_ble_eq_true rfl) dX14_boot_180 ⟨Nat.le_of_ble_eq_true rfl, Nat.le_of_ble_eq_true rfl⟩) hS (fun r12 locs hw hS => ?_)
    refine lv_l2i (v := r12.toInt32) hx hb dX14_boot_183 rfl ?_
    refine s53 C hH hS hw.1 dX14_boot_184 (fun σ13 e13 H locs hH hS => ?_)
    have hw := hw.2 σ13 e13
    refine lv_aload_n hx hb dX14_boot_185 rfl (lv_at hl 0 rfl) ?_
    refine g14_15 C hH q1955 dX14_boot_186 ?_
    refine lv_iload hx hb dX14_boot_189 (lv_at hl 2 rfl) ?_
    refine lv_aload_n hx hb dX14_boot_191 rfl (lv_at hl 0 rfl) ?_
    refine lv_bipush (v := 8) hx hb dX14_boot_192 (by decide) ?_
    refine lv_bipush (v := 64) hx hb dX14_boot_194 (by decide) ?_
    refine lv_iload hx hb dX14_boot_196 (lv_at hl 2 rfl) ?_
    refine lv_imul hx hb dX14_boot_198 ?_
    refine lv_iadd hx hb dX14_boot_199 ?_
    refine lv_bipush (v := 52) hx hb dX14_boot_200 (by decide) ?_
    refine lv_iadd hx hb dX14_boot_202 ?_
    refine kc_jp (rn_vp (As := [.int ((8 + (64 * x8)) + 52)]) (rest := [.int x8, .ref (adr G a1 54 0)]) C hH hS (by decide) rfl (by decide) (m14_imageWord l G a1 τ σ13 H ((8 + (64 * x8)) + 52) _ hw) (cwV 1 hts (lw_V q2162 q2164 qs78 q171 q2165) rfl rfl rfl kX14_imageWord ⟨Nat.le_of_ble_eq_true rfl, Nat.le_of_ble_eq_true rfl⟩) rfl hl.1 rfl (Nat.le_of_ble_eq_true rfl) dX14_boot_203 ⟨Nat.le_of_ble_eq_true rfl, Nat.le_of_ble_eq_true rfl⟩) hS (fun r14 locs hw hS => ?_)
    refine lv_l2i (v := r14.toInt32) hx hb dX14_boot_206 rfl ?_
    refine s54 C hH hS hw.1 dX14_boot_207 (fun σ15 e15 H locs hH hS => ?_)
    have hw := hw.2 σ15 e15
    refine lv_aload_n hx hb dX14_boot_208 rfl (lv_at hl 0 rfl) ?_
    refine g14_16 C hH q1956 dX14_boot_209 ?_
    refine lv_iload hx hb dX14_boot_212 (lv_at hl 2 rfl) ?_
    refine lv_aload_n hx hb dX14_boot_214 rfl (lv_at hl 0 rfl) ?_
    refine lv_bipush (v := 8) hx hb dX14_boot_215 (by decide) ?_
    refine lv_bipush (v := 64) hx hb dX14_boot_217 (by decide) ?_
    refine lv_iload hx hb dX14_boot_219 (lv_at hl 2 rfl) ?_
    refine lv_imul hx hb dX14_boot_221 ?_
    refine lv_iadd hx hb dX14_boot_222 ?_
    refine lv_bipush (v := 56) hx hb dX14_boot_223 (by decide) ?_
    refine lv_iadd hx hb dX14_boot_225 ?_
    refine kc_jp (rn_vp (As := [.int ((8 + (64 * x8)) + 56)]) (rest := [.int x8, .ref (adr G a1 55 0)]) C hH hS (by decide) rfl (by decide) (m14_imageWord l G a1 τ σ15 H ((8 + (64 * x8)) + 56) _ hw) (cwV 1 hts (lw_V q2162 q2164 qs78 q171 q2165) rfl rfl rfl kX14_imageWord ⟨Nat.le_of_ble_eq_true rfl, Nat.le_of_ble_eq_true rfl⟩) rfl hl.1 rfl (Nat.le_of_ble_eq_true rfl) dX14_boot_226 ⟨Nat.le_of_ble_eq_true rfl, Nat.le_of_ble_eq_true rfl⟩) hS (fun r16 locs hw hS => ?_)
    refine lv_l2i (v := r16.toInt32) hx hb dX14_boot_229 rfl ?_
    refine s55 C hH hS hw.1 dX14_boot_230 (fun σ17 e17 H locs hH hS => ?_)
    have hw := hw.2 σ17 e17
    refine lv_iinc (v := x8 + 1) (lv' := [(8, .int (x8 + 1)), (0, .ref (ga G 14 0)), (7, .int x7)]) hx hb dX14_boot_231 hl (k := 2) rfl rfl (by decide) rfl (fun ls hl => ?_)
    refine lv_goto (tgt := 110) hx hb dX14_boot_234 (by decide) ?_
    exact ih σ17 (x8 + 1) hw H locs ls hH hS (lv_sub hl [1, 2, 0] rfl) hK237
def w14_boot_L275 (x7 : Int32) (Q : Int32 → St → Prop) (K296 : St → Prop) : Nat → St → Int32 → Prop
  | 0, _, _ => False
  | n + 1, σ, x8 => (8 ≤ x8 → K296 σ) ∧ (¬ 8 ≤ x8 → (vp_in x8 8 ∧ (∀ σ27, σ27 = up3 σ 56 0 x8.toNatClampNeg 0 → (w14_boot_L275 x7 Q K296 n σ27 (x8 + 1)))))
set_option maxHeartbeats 4000000 in
theorem k14_boot_L275 {p : Program} {l : Launch} {e : Env} {s : State} {m : MethodId} {args : Array Value} {below : List Frame} {meth : Method} {c : Code} {G : Gh} {a1 : Nat → Nat → Nat} {τ : St} {Q : Int32 → St → Prop} {K296 : St → Prop} (C : Cx p e s m args meth c cX14_boot 10 (some .int) "WebHostModel" G) (x7 : Int32) :
    ∀ (n : Nat) (σ : St) (x8 : Int32), w14_boot_L275 x7 Q K296 n σ x8 → ∀ (H : Heap) (locs : List Loc) (ls : Array Slot), Hd G a1 (cmb τ σ) H → va_S (gA G) s.heap H locs → lv_has ls 10 [(0, .ref (ga G 14 0)), (7, .int x7), (8, .int x8)] → (∀ (σ : St) , K296 σ → ∀ (H : Heap) (locs : List Loc) (ls : Array Slot), Hd G a1 (cmb τ σ) H → va_S (gA G) s.heap H locs → lv_has ls 10 [(0, .ref (ga G 14 0)), (7, .int x7)] → W p l e rmX14_boot s m args below meth c H locs 0 0 (MQ below (QIs G a1 (fun u => cmb τ u) Q) args s 0 0 (gA G)) (F0 m 296 ls [])) → W p l e rmX14_boot s m args below meth c H locs 0 0 (MQ below (QIs G a1 (fun u => cmb τ u) Q) args s 0 0 (gA G)) (F0 m 275 ls []) := by
  have hx := C.1
  have hb := C.2.1
  have hown := C.2.2.2.2.2.1
  have hts := C.2.2.2.2.2.2.1
  intro n
  induction n with
  | zero =>
    intro σ x8 hw
    exact False.elim hw
  | succ n ih =>
    intro σ x8 hw H locs ls hH hS hl hK296
    refine lv_iload hx hb dX14_boot_275 (lv_at hl 2 rfl) ?_
    refine lv_bipush (v := 8) hx hb dX14_boot_277 (by decide) ?_
    refine lv_icmp_ge (tgt := 296) hx hb dX14_boot_279 (by decide) (fun h => ?_) (fun h => ?_)
    · have hw := hw.1 h
      exact hK296 σ hw H locs ls hH hS (lv_sub hl [0, 1] rfl)
    have hw := hw.2 h
    refine lv_aload_n hx hb dX14_boot_282 rfl (lv_at hl 0 rfl) ?_
    refine g14_17 C hH q1957 dX14_boot_283 ?_
    refine lv_iload hx hb dX14_boot_286 (lv_at hl 2 rfl) ?_
    refine lv_iconst (v := 0) hx hb dX14_boot_288 (by decide) ?_
    refine s56 C hH hS hw.1 dX14_boot_289 (fun σ27 e27 H locs hH hS => ?_)
    have hw := hw.2 σ27 e27
    refine lv_iinc (v := x8 + 1) (lv' := [(8, .int (x8 + 1)), (0, .ref (ga G 14 0)), (7, .int x7)]) hx hb dX14_boot_290 hl (k := 2) rfl rfl (by decide) rfl (fun ls hl => ?_)
    refine lv_goto (tgt := 275) hx hb dX14_boot_293 (by decide) ?_
    exact ih σ27 (x8 + 1) hw H locs ls hH hS (lv_sub hl [1, 2, 0] rfl) hK296
def w14_boot_L299 (x7 : Int32) (Q : Int32 → St → Prop) (K323 : St → Prop) : Nat → St → Int32 → Prop
  | 0, _, _ => False
  | n + 1, σ, x8 => (16 ≤ x8 → K323 σ) ∧ (¬ 16 ≤ x8 → (vp_in x8 16 ∧ (∀ σ31, σ31 = up3 σ 15 x8.toNatClampNeg 0 0 → (w14_boot_L299 x7 Q K323 n σ31 (x8 + 1)))))
set_option maxHeartbeats 4000000 in
theorem k14_boot_L299 {p : Program} {l : Launch} {e : Env} {s : State} {m : MethodId} {args : Array Value} {below : List Frame} {meth : Method} {c : Code} {G : Gh} {a1 : Nat → Nat → Nat} {τ : St} {Q : Int32 → St → Prop} {K323 : St → Prop} (C : Cx p e s m args meth c cX14_boot 10 (some .int) "WebHostModel" G) (x7 : Int32) :
    ∀ (n : Nat) (σ : St) (x8 : Int32), w14_boot_L299 x7 Q K323 n σ x8 → ∀ (H : Heap) (locs : List Loc) (ls : Array Slot), Hd G a1 (cmb τ σ) H → va_S (gA G) s.heap H locs → lv_has ls 10 [(0, .ref (ga G 14 0)), (7, .int x7), (8, .int x8)] → (∀ (σ : St) , K323 σ → ∀ (H : Heap) (locs : List Loc) (ls : Array Slot), Hd G a1 (cmb τ σ) H → va_S (gA G) s.heap H locs → lv_has ls 10 [(0, .ref (ga G 14 0)), (7, .int x7)] → W p l e rmX14_boot s m args below meth c H locs 0 0 (MQ below (QIs G a1 (fun u => cmb τ u) Q) args s 0 0 (gA G)) (F0 m 323 ls [])) → W p l e rmX14_boot s m args below meth c H locs 0 0 (MQ below (QIs G a1 (fun u => cmb τ u) Q) args s 0 0 (gA G)) (F0 m 299 ls []) := by
  have hx := C.1
  have hb := C.2.1
  have hown := C.2.2.2.2.2.1
  have hts := C.2.2.2.2.2.2.1
  intro n
  induction n with
  | zero =>
    intro σ x8 hw
    exact False.elim hw
  | succ n ih =>
    intro σ x8 hw H locs ls hH hS hl hK323
    refine lv_iload hx hb dX14_boot_299 (lv_at hl 2 rfl) ?_
    refine lv_bipush (v := 16) hx hb dX14_boot_301 (by decide) ?_
    refine lv_icmp_ge (tgt := 323) hx hb dX14_boot_303 (by decide) (fun h => ?_) (fun h => ?_)
    · have hw := hw.1 h
      exact hK323 σ hw H locs ls hH hS (lv_sub hl [0, 1] rfl)
    have hw := hw.2 h
    refine lv_aload_n hx hb dX14_boot_306 rfl (lv_at hl 0 rfl) ?_
    refine g14_31 C hH q1971 dX14_boot_307 ?_
    refine lv_iload hx hb dX14_boot_310 (lv_at hl 2 rfl) ?_
    have hq30 := vp_lt hw.1
    refine l65 C hH hw.1 dX14_boot_312 ?_
    have hw := hw.2
    refine lv_iconst (v := 0) hx hb dX14_boot_313 (by decide) ?_
    refine p15_0 C hH hS hq30 q1707 dX14_boot_314 (fun σ31 e31 H locs hH hS => ?_)
    have hw := hw σ31 e31
    refine lv_iinc (v := x8 + 1) (lv' := [(8, .int (x8 + 1)), (0, .ref (ga G 14 0)), (7, .int x7)]) hx hb dX14_boot_317 hl (k := 2) rfl rfl (by decide) rfl (fun ls hl => ?_)
    refine lv_goto (tgt := 299) hx hb dX14_boot_320 (by decide) ?_
    exact ih σ31 (x8 + 1) hw H locs ls hH hS (lv_sub hl [1, 2, 0] rfl) hK323
def w14_boot_L326 (x7 : Int32) (Q : Int32 → St → Prop) (K350 : St → Prop) : Nat → St → Int32 → Prop
  | 0, _, _ => False
  | n + 1, σ, x8 => (16 ≤ x8 → K350 σ) ∧ (¬ 16 ≤ x8 → (vp_in x8 16 ∧ (∀ σ35, σ35 = up3 σ 16 x8.toNatClampNeg 0 0 → (w14_boot_L326 x7 Q K350 n σ35 (x8 + 1)))))
set_option maxHeartbeats 4000000 in
theorem k14_boot_L326 {p : Program} {l : Launch} {e : Env} {s : State} {m : MethodId} {args : Array Value} {below : List Frame} {meth : Method} {c : Code} {G : Gh} {a1 : Nat → Nat → Nat} {τ : St} {Q : Int32 → St → Prop} {K350 : St → Prop} (C : Cx p e s m args meth c cX14_boot 10 (some .int) "WebHostModel" G) (x7 : Int32) :
    ∀ (n : Nat) (σ : St) (x8 : Int32), w14_boot_L326 x7 Q K350 n σ x8 → ∀ (H : Heap) (locs : List Loc) (ls : Array Slot), Hd G a1 (cmb τ σ) H → va_S (gA G) s.heap H locs → lv_has ls 10 [(0, .ref (ga G 14 0)), (7, .int x7), (8, .int x8)] → (∀ (σ : St) , K350 σ → ∀ (H : Heap) (locs : List Loc) (ls : Array Slot), Hd G a1 (cmb τ σ) H → va_S (gA G) s.heap H locs → lv_has ls 10 [(0, .ref (ga G 14 0)), (7, .int x7)] → W p l e rmX14_boot s m args below meth c H locs 0 0 (MQ below (QIs G a1 (fun u => cmb τ u) Q) args s 0 0 (gA G)) (F0 m 350 ls [])) → W p l e rmX14_boot s m args below meth c H locs 0 0 (MQ below (QIs G a1 (fun u => cmb τ u) Q) args s 0 0 (gA G)) (F0 m 326 ls []) := by
  have hx := C.1
  have hb := C.2.1
  have hown := C.2.2.2.2.2.1
  have hts := C.2.2.2.2.2.2.1
  intro n
  induction n with
  | zero =>
    intro σ x8 hw
    exact False.elim hw
  | succ n ih =>
    intro σ x8 hw H locs ls hH hS hl hK350
    refine lv_iload hx hb dX14_boot_326 (lv_at hl 2 rfl) ?_
    refine lv_bipush (v := 16) hx hb dX14_boot_328 (by decide) ?_
    refine lv_icmp_ge (tgt := 350) hx hb dX14_boot_330 (by decide) (fun h => ?_) (fun h => ?_)
    · have hw := hw.1 h
      exact hK350 σ hw H locs ls hH hS (lv_sub hl [0, 1] rfl)
    have hw := hw.2 h
    refine lv_aload_n hx hb dX14_boot_333 rfl (lv_at hl 0 rfl) ?_
    refine g14_26 C hH q1966 dX14_boot_334 ?_
    refine lv_iload hx hb dX14_boot_337 (lv_at hl 2 rfl) ?_
    have hq34 := vp_lt hw.1
    refine l61 C hH hw.1 dX14_boot_339 ?_
    have hw := hw.2
    refine lv_iconst (v := 0) hx hb dX14_boot_340 (by decide) ?_
    refine p16_0 C hH hS hq34 (Or.inl rfl) q1861 dX14_boot_341 (fun σ35 e35 H locs hH hS => ?_)
    have hw := hw σ35 e35
    refine lv_iinc (v := x8 + 1) (lv' := [(8, .int (x8 + 1)), (0, .ref (ga G 14 0)), (7, .int x7)]) hx hb dX14_boot_344 hl (k := 2) rfl rfl (by decide) rfl (fun ls hl => ?_)
    refine lv_goto (tgt := 326) hx hb dX14_boot_347 (by decide) ?_
    exact ih σ35 (x8 + 1) hw H locs ls hH hS (lv_sub hl [1, 2, 0] rfl) hK350
def w14_boot_L353 (x7 : Int32) (Q : Int32 → St → Prop) (K377 : St → Prop) : Nat → St → Int32 → Prop
  | 0, _, _ => False
  | n + 1, σ, x8 => (8 ≤ x8 → K377 σ) ∧ (¬ 8 ≤ x8 → (vp_in x8 8 ∧ (∀ σ39, σ39 = up3 σ 17 x8.toNatClampNeg 0 0 → (w14_boot_L353 x7 Q K377 n σ39 (x8 + 1)))))
set_option maxHeartbeats 4000000 in
theorem k14_boot_L353 {p : Program} {l : Launch} {e : Env} {s : State} {m : MethodId} {args : Array Value} {below : List Frame} {meth : Method} {c : Code} {G : Gh} {a1 : Nat → Nat → Nat} {τ : St} {Q : Int32 → St → Prop} {K377 : St → Prop} (C : Cx p e s m args meth c cX14_boot 10 (some .int) "WebHostModel" G) (x7 : Int32) :
    ∀ (n : Nat) (σ : St) (x8 : Int32), w14_boot_L353 x7 Q K377 n σ x8 → ∀ (H : Heap) (locs : List Loc) (ls : Array Slot), Hd G a1 (cmb τ σ) H → va_S (gA G) s.heap H locs → lv_has ls 10 [(0, .ref (ga G 14 0)), (7, .int x7), (8, .int x8)] → (∀ (σ : St) , K377 σ → ∀ (H : Heap) (locs : List Loc) (ls : Array Slot), Hd G a1 (cmb τ σ) H → va_S (gA G) s.heap H locs → lv_has ls 10 [(0, .ref (ga G 14 0)), (7, .int x7)] → W p l e rmX14_boot s m args below meth c H locs 0 0 (MQ below (QIs G a1 (fun u => cmb τ u) Q) args s 0 0 (gA G)) (F0 m 377 ls [])) → W p l e rmX14_boot s m args below meth c H locs 0 0 (MQ below (QIs G a1 (fun u => cmb τ u) Q) args s 0 0 (gA G)) (F0 m 353 ls []) := by
  have hx := C.1
  have hb := C.2.1
  have hown := C.2.2.2.2.2.1
  have hts := C.2.2.2.2.2.2.1
  intro n
  induction n with
  | zero =>
    intro σ x8 hw
    exact False.elim hw
  | succ n ih =>
    intro σ x8 hw H locs ls hH hS hl hK377
    refine lv_iload hx hb dX14_boot_353 (lv_at hl 2 rfl) ?_
    refine lv_bipush (v := 8) hx hb dX14_boot_355 (by decide) ?_
    refine lv_icmp_ge (tgt := 377) hx hb dX14_boot_357 (by decide) (fun h => ?_) (fun h => ?_)
    · have hw := hw.1 h
      exact hK377 σ hw H locs ls hH hS (lv_sub hl [0, 1] rfl)
    have hw := hw.2 h
    refine lv_aload_n hx hb dX14_boot_360 rfl (lv_at hl 0 rfl) ?_
    refine g14_27 C hH q1967 dX14_boot_361 ?_
    refine lv_iload hx hb dX14_boot_364 (lv_at hl 2 rfl) ?_
    have hq38 := vp_lt hw.1
    refine l62 C hH hw.1 dX14_boot_366 ?_
    have hw := hw.2
    refine lv_iconst (v := 0) hx hb dX14_boot_367 (by decide) ?_
    refine p17_0 C hH hS hq38 (Or.inl rfl) q1882 dX14_boot_368 (fun σ39 e39 H locs hH hS => ?_)
    have hw := hw σ39 e39
    refine lv_iinc (v := x8 + 1) (lv' := [(8, .int (x8 + 1)), (0, .ref (ga G 14 0)), (7, .int x7)]) hx hb dX14_boot_371 hl (k := 2) rfl rfl (by decide) rfl (fun ls hl => ?_)
    refine lv_goto (tgt := 353) hx hb dX14_boot_374 (by decide) ?_
    exact ih σ39 (x8 + 1) hw H locs ls hH hS (lv_sub hl [1, 2, 0] rfl) hK377
def w14_boot_L380 (x7 : Int32) (Q : Int32 → St → Prop) (K403 : St → Prop) : Nat → St → Int32 → Prop
  | 0, _, _ => False
  | n + 1, σ, x8 => (4 ≤ x8 → K403 σ) ∧ (¬ 4 ≤ x8 → (vp_in x8 4 ∧ (∀ σ43, σ43 = up3 σ 18 x8.toNatClampNeg 0 0 → (w14_boot_L380 x7 Q K403 n σ43 (x8 + 1)))))
set_option maxHeartbeats 4000000 in
theorem k14_boot_L380 {p : Program} {l : Launch} {e : Env} {s : State} {m : MethodId} {args : Array Value} {below : List Frame} {meth : Method} {c : Code} {G : Gh} {a1 : Nat → Nat → Nat} {τ : St} {Q : Int32 → St → Prop} {K403 : St → Prop} (C : Cx p e s m args meth c cX14_boot 10 (some .int) "WebHostModel" G) (x7 : Int32) :
    ∀ (n : Nat) (σ : St) (x8 : Int32), w14_boot_L380 x7 Q K403 n σ x8 → ∀ (H : Heap) (locs : List Loc) (ls : Array Slot), Hd G a1 (cmb τ σ) H → va_S (gA G) s.heap H locs → lv_has ls 10 [(0, .ref (ga G 14 0)), (7, .int x7), (8, .int x8)] → (∀ (σ : St) , K403 σ → ∀ (H : Heap) (locs : List Loc) (ls : Array Slot), Hd G a1 (cmb τ σ) H → va_S (gA G) s.heap H locs → lv_has ls 10 [(7, .int x7)] → W p l e rmX14_boot s m args below meth c H locs 0 0 (MQ below (QIs G a1 (fun u => cmb τ u) Q) args s 0 0 (gA G)) (F0 m 403 ls [])) → W p l e rmX14_boot s m args below meth c H locs 0 0 (MQ below (QIs G a1 (fun u => cmb τ u) Q) args s 0 0 (gA G)) (F0 m 380 ls []) := by
  have hx := C.1
  have hb := C.2.1
  have hown := C.2.2.2.2.2.1
  have hts := C.2.2.2.2.2.2.1
  intro n
  induction n with
  | zero =>
    intro σ x8 hw
    exact False.elim hw
  | succ n ih =>
    intro σ x8 hw H locs ls hH hS hl hK403
    refine lv_iload hx hb dX14_boot_380 (lv_at hl 2 rfl) ?_
    refine lv_iconst (v := 4) hx hb dX14_boot_382 (by decide) ?_
    refine lv_icmp_ge (tgt := 403) hx hb dX14_boot_383 (by decide) (fun h => ?_) (fun h => ?_)
    · have hw := hw.1 h
      exact hK403 σ hw H locs ls hH hS (lv_sub hl [1] rfl)
    have hw := hw.2 h
    refine lv_aload_n hx hb dX14_boot_386 rfl (lv_at hl 0 rfl) ?_
    refine g14_28 C hH q1968 dX14_boot_387 ?_
    refine lv_iload hx hb dX14_boot_390 (lv_at hl 2 rfl) ?_
    have hq42 := vp_lt hw.1
    refine l63 C hH hw.1 dX14_boot_392 ?_
    have hw := hw.2
    refine lv_iconst (v := 0) hx hb dX14_boot_393 (by decide) ?_
    refine p18_0 C hH hS hq42 (Or.inl rfl) q1910 dX14_boot_394 (fun σ43 e43 H locs hH hS => ?_)
    have hw := hw σ43 e43
    refine lv_iinc (v := x8 + 1) (lv' := [(8, .int (x8 + 1)), (0, .ref (ga G 14 0)), (7, .int x7)]) hx hb dX14_boot_397 hl (k := 2) rfl rfl (by decide) rfl (fun ls hl => ?_)
    refine lv_goto (tgt := 380) hx hb dX14_boot_400 (by decide) ?_
    exact ih σ43 (x8 + 1) hw H locs ls hH hS (lv_sub hl [1, 2, 0] rfl) hK403
def w14_boot (σ : St) (x1 : Int32) (x2 : Int32) (x3 : Int32) (x4 : Int32) (x5 : Int32) (Q : Int32 → St → Prop) : Prop := (x2 < 8 → (Q (-1) σ)) ∧ (¬ x2 < 8 → ((30 < x2 → (Q (-1) σ)) ∧ (¬ 30 < x2 → (w14_isHost σ x1 (fun r1 => ((¬ r1 = 0 → ((¬ (x3 >>> ((32 - x2) &&& 31)) = (x1 >>> ((32 - x2) &&& 31)) → (Q (-2) σ)) ∧ ((x3 >>> ((32 - x2) &&& 31)) = (x1 >>> ((32 - x2) &&& 31)) → ((x3 = x1 → (Q (-2) σ)) ∧ (¬ x3 = x1 → ((¬ ((x4 >>> ((8 : Int32) &&& 31)) &&& 1) = 1 → (w14_files σ (fun r2 => ((0 ≤ r2 → (∀ σ3, σ3 = up3 σ 14 0 5 x1 → (∀ σ4, σ4 = up3 σ3 14 0 6 x2 → (∀ σ5, σ5 = up3 σ4 14 0 7 x3 → (∀ σ6, σ6 = up3 σ5 14 0 8 (x4 &&& 65535) → (∀ σ7, σ7 = up3 σ6 14 0 9 x5 → (∀ σ8, σ8 = up3 σ7 14 0 11 r2 → (∃ z18, w14_boot_L110 r2 Q (fun σ19 => ∀ σ20, σ20 = up3 σ19 14 0 4 1 → (∀ σ21, σ21 = up3 σ20 14 0 10 0 → (∀ σ22, σ22 = up3 σ21 14 0 23 0 → (∀ σ23, σ23 = up3 σ22 14 0 24 0 → (∀ σ24, σ24 = up3 σ23 14 0 12 0 → (∀ σ25, σ25 = up3 σ24 14 0 18 0 → (∀ σ26, σ26 = up3 σ25 14 0 25 0 → (∃ z28, w14_boot_L275 r2 Q (fun σ29 => ∃ z32, w14_boot_L299 r2 Q (fun σ33 => ∃ z36, w14_boot_L326 r2 Q (fun σ37 => ∃ z40, w14_boot_L353 r2 Q (fun σ41 => ∃ z44, w14_boot_L380 r2 Q (fun σ45 => Q r2 σ45) z44 σ41 0) z40 σ37 0) z36 σ33 0) z32 σ29 0) z28 σ26 0)))))))) z18 σ8 0)))))))) ∧ (¬ 0 ≤ r2 → (Q (-3) σ)))))) ∧ (((x4 >>> ((8 : Int32) &&& 31)) &&& 1) = 1 → (Q (-2) σ)))))))) ∧ (r1 = 0 → (Q (-1) σ))))))))
set_option maxHeartbeats 4000000 in
theorem m14_boot (l : Launch) (G : Gh) (a1 : Nat → Nat → Nat) (τ : St) (σ : St) (x1 : Int32) (x2 : Int32) (x3 : Int32) (x4 : Int32) (x5 : Int32) (Q : Int32 → St → Prop) (hw : w14_boot σ x1 x2 x3 x4 x5 Q) : Met l yX14_boot (ws_ yX14_boot cX14_boot 10 (some .int)) rmX14_boot (PcS G a1 (cmb τ σ) [.ref (ga G 14 0), .int x1, .int x2, .int x3, .int x4, .int x5]) (QIs G a1 (fun u => cmb τ u) Q) 0 0 (gA G) := by
  refine met_w (by decide) (Nat.le_of_ble_eq_true rfl) ?_
  intro p e s m below meth c ls C hH hS hl
  have C : Cx p e s m _ meth c cX14_boot 10 (some .int) "WebHostModel" G := C
  have hl : lv_has ls 10 [(0, .ref (ga G 14 0)), (1, .int x1), (2, .int x2), (3, .int x3), (4, .int x4), (5, .int x5)] := hl
  have hx := C.1
  have hb := C.2.1
  have hown := C.2.2.2.2.2.1
  have hts := C.2.2.2.2.2.2.1
  obtain ⟨locs, hlocs⟩ : ∃ z : List Loc, z = [] := ⟨_, rfl⟩
  obtain ⟨H, hHe⟩ : ∃ z : Heap, z = s.heap := ⟨_, rfl⟩
  have hH : Hd G a1 (cmb τ σ) H := by rw [hHe]; exact hH
  have hS : va_S (gA G) s.heap H locs := by rw [hHe, hlocs]; exact hS
  refine W.heap0 hHe.symm hlocs.symm ?_
  refine lv_iload_n hx hb dX14_boot_0 rfl (lv_at hl 2 rfl) ?_
  refine lv_bipush (v := 8) hx hb dX14_boot_1 (by decide) ?_
  refine lv_icmp_lt (tgt := 19) hx hb dX14_boot_3 (by decide) (fun h => ?_) (fun h => ?_)
  · have hw := hw.1 h
    refine lv_iconst (v := (-1)) hx hb dX14_boot_19 (by decide) ?_
    exact rt_i C rfl hH hS hw dX14_boot_20
  have hw := hw.2 h
  refine lv_iload_n hx hb dX14_boot_6 rfl (lv_at hl 2 rfl) ?_
  refine lv_bipush (v := 30) hx hb dX14_boot_7 (by decide) ?_
  refine lv_icmp_gt (tgt := 19) hx hb dX14_boot_9 (by decide) (fun h => ?_) (fun h => ?_)
  · have hw := hw.1 h
    refine lv_iconst (v := (-1)) hx hb dX14_boot_19 (by decide) ?_
    exact rt_i C rfl hH hS hw dX14_boot_20
  have hw := hw.2 h
  refine lv_iload_n hx hb dX14_boot_12 rfl (lv_at hl 1 rfl) ?_
  refine kc_ip (rn_sp (As := [.int x1]) (rest := []) C hH hS (m14_isHost l G a1 τ σ H x1 _ hw) (va_cwS 1 hts (lw_S q2150 q2151 q171 q2152) rfl rfl rfl kX14_isHost.2 ⟨Nat.le_of_ble_eq_true rfl, Nat.le_of_ble_eq_true rfl⟩) rfl hl.1 rfl (Nat.le_of_ble_eq_true rfl) dX14_boot_13 ⟨Nat.le_of_ble_eq_true rfl, Nat.le_of_ble_eq_true rfl⟩) hS (fun r1 locs hw hS => ?_)
  refine lv_if_ne (tgt := 21) hx hb dX14_boot_16 (by decide) (fun h => ?_) (fun h => ?_)
  · have hw := hw.1 h
    refine lv_bipush (v := 32) hx hb dX14_boot_21 (by decide) ?_
    refine lv_iload_n hx hb dX14_boot_23 rfl (lv_at hl 2 rfl) ?_
    refine lv_isub hx hb dX14_boot_24 ?_
    refine lv_istore (lv' := [(6, .int (32 - x2)), (0, .ref (ga G 14 0)), (1, .int x1), (2, .int x2), (3, .int x3), (4, .int x4), (5, .int x5)]) hx hb dX14_boot_25 hl (by decide) rfl (fun ls hl => ?_)
    refine lv_iload_n hx hb dX14_boot_27 rfl (lv_at hl 4 rfl) ?_
    refine lv_iload hx hb dX14_boot_28 (lv_at hl 0 rfl) ?_
    refine lv_ishr hx hb dX14_boot_30 ?_
    refine lv_iload_n hx hb dX14_boot_31 rfl (lv_at hl 2 rfl) ?_
    refine lv_iload hx hb dX14_boot_32 (lv_at hl 0 rfl) ?_
    refine lv_ishr hx hb dX14_boot_34 ?_
    refine lv_icmp_ne (tgt := 54) hx hb dX14_boot_35 (by decide) (fun h => ?_) (fun h => ?_)
    · have hw := hw.1 h
      refine lv_bipush (v := (-2)) hx hb dX14_boot_54 (by decide) ?_
      exact rt_i C rfl hH hS hw dX14_boot_56
    have hw := hw.2 h
    refine lv_iload_n hx hb dX14_boot_38 rfl (lv_at hl 4 rfl) ?_
    refine lv_iload_n hx hb dX14_boot_39 rfl (lv_at hl 2 rfl) ?_
    refine lv_icmp_eq (tgt := 54) hx hb dX14_boot_40 (by decide) (fun h => ?_) (fun h => ?_)
    · have hw := hw.1 h
      refine lv_bipush (v := (-2)) hx hb dX14_boot_54 (by decide) ?_
      exact rt_i C rfl hH hS hw dX14_boot_56
    have hw := hw.2 h
    refine lv_iload hx hb dX14_boot_43 (lv_at hl 5 rfl) ?_
    refine lv_bipush (v := 8) hx hb dX14_boot_45 (by decide) ?_
    refine lv_ishr hx hb dX14_boot_47 ?_
    refine lv_iconst (v := 1) hx hb dX14_boot_48 (by decide) ?_
    refine lv_iand hx hb dX14_boot_49 ?_
    refine lv_iconst (v := 1) hx hb dX14_boot_50 (by decide) ?_
    refine lv_icmp_ne (tgt := 57) hx hb dX14_boot_51 (by decide) (fun h => ?_) (fun h => ?_)
    · have hw := hw.1 h
      refine lv_aload_n hx hb dX14_boot_57 rfl (lv_at hl 1 rfl) ?_
      refine kc_ip (rn_vp (As := []) (rest := []) C hH hS (by decide) rfl (by decide) (m14_files l G a1 τ σ H _ hw) (cwV 0 hts (lw_V q2153 q2155 qs76 q171 q2156) rfl rfl rfl kX14_files ⟨Nat.le_of_ble_eq_true rfl, Nat.le_of_ble_eq_true rfl⟩) rfl hl.1 rfl (Nat.le_of_ble_eq_true rfl) dX14_boot_58 ⟨Nat.le_of_ble_eq_true rfl, Nat.le_of_ble_eq_true rfl⟩) hS (fun r2 locs hw hS => ?_)
      refine lv_istore (lv' := [(7, .int r2), (6, .int (32 - x2)), (0, .ref (ga G 14 0)), (1, .int x1), (2, .int x2), (3, .int x3), (4, .int x4), (5, .int x5)]) hx hb dX14_boot_61 hl (by decide) rfl (fun ls hl => ?_)
      refine lv_iload hx hb dX14_boot_63 (lv_at hl 0 rfl) ?_
      refine lv_if_ge (tgt := 71) hx hb dX14_boot_65 (by decide) (fun h => ?_) (fun h => ?_)
      · have hw := hw.1 h
        refine lv_aload_n hx hb dX14_boot_71 rfl (lv_at hl 2 rfl) ?_
        refine lv_iload_n hx hb dX14_boot_72 rfl (lv_at hl 3 rfl) ?_
        refine p14_5 C hH hS q1945 dX14_boot_73 (fun σ3 e3 H locs hH hS => ?_)
        have hw := hw σ3 e3
        refine lv_aload_n hx hb dX14_boot_76 rfl (lv_at hl 2 rfl) ?_
        refine lv_iload_n hx hb dX14_boot_77 rfl (lv_at hl 4 rfl) ?_
        refine p14_6 C hH hS q1946 dX14_boot_78 (fun σ4 e4 H locs hH hS => ?_)
        have hw := hw σ4 e4
        refine lv_aload_n hx hb dX14_boot_81 rfl (lv_at hl 2 rfl) ?_
        refine lv_iload_n hx hb dX14_boot_82 rfl (lv_at hl 5 rfl) ?_
        refine p14_7 C hH hS q1947 dX14_boot_83 (fun σ5 e5 H locs hH hS => ?_)
        have hw := hw σ5 e5
        refine lv_aload_n hx hb dX14_boot_86 rfl (lv_at hl 2 rfl) ?_
        refine lv_iload hx hb dX14_boot_87 (lv_at hl 6 rfl) ?_
        refine lv_ldc (v := 65535) hx hb hown (hts _ q1692) dX14_boot_89 ?_
        refine lv_iand hx hb dX14_boot_91 ?_
        refine p14_8 C hH hS q1948 dX14_boot_92 (fun σ6 e6 H locs hH hS => ?_)
        have hw := hw σ6 e6
        refine lv_aload_n hx hb dX14_boot_95 rfl (lv_at hl 2 rfl) ?_
        refine lv_iload hx hb dX14_boot_96 (lv_at hl 7 rfl) ?_
        refine p14_9 C hH hS q1949 dX14_boot_98 (fun σ7 e7 H locs hH hS => ?_)
        have hw := hw σ7 e7
        refine lv_aload_n hx hb dX14_boot_101 rfl (lv_at hl 2 rfl) ?_
        refine lv_iload hx hb dX14_boot_102 (lv_at hl 0 rfl) ?_
        refine p14_11 C hH hS q1951 dX14_boot_104 (fun σ8 e8 H locs hH hS => ?_)
        have hw := hw σ8 e8
        refine lv_iconst (v := 0) hx hb dX14_boot_107 (by decide) ?_
        refine lv_istore (lv' := [(8, .int 0), (7, .int r2), (6, .int (32 - x2)), (0, .ref (ga G 14 0)), (1, .int x1), (2, .int x2), (3, .int x3), (4, .int x4), (5, .int x5)]) hx hb dX14_boot_108 hl (by decide) rfl (fun ls hl => ?_)
        obtain ⟨n18, hw⟩ := hw
        refine k14_boot_L110 C r2 n18 σ8 0 hw H locs ls hH hS (lv_sub hl [3, 1, 0] rfl) (fun σ19 hw H locs ls hH hS hl => ?_)
        refine lv_aload_n hx hb dX14_boot_237 rfl (lv_at hl 0 rfl) ?_
        refine lv_iconst (v := 1) hx hb dX14_boot_238 (by decide) ?_
        refine p14_4 C hH hS (Or.inr rfl) q1944 dX14_boot_239 (fun σ20 e20 H locs hH hS => ?_)
        have hw := hw σ20 e20
        refine lv_aload_n hx hb dX14_boot_242 rfl (lv_at hl 0 rfl) ?_
        refine lv_iconst (v := 0) hx hb dX14_boot_243 (by decide) ?_
        refine p14_10 C hH hS q1950 dX14_boot_244 (fun σ21 e21 H locs hH hS => ?_)
        have hw := hw σ21 e21
        refine lv_aload_n hx hb dX14_boot_247 rfl (lv_at hl 0 rfl) ?_
        refine lv_iconst (v := 0) hx hb dX14_boot_248 (by decide) ?_
        refine p14_23 C hH hS q1963 dX14_boot_249 (fun σ22 e22 H locs hH hS => ?_)
        have hw := hw σ22 e22
        refine lv_aload_n hx hb dX14_boot_252 rfl (lv_at hl 0 rfl) ?_
        refine lv_iconst (v := 0) hx hb dX14_boot_253 (by decide) ?_
        refine p14_24 C hH hS q1964 dX14_boot_254 (fun σ23 e23 H locs hH hS => ?_)
        have hw := hw σ23 e23
        refine lv_aload_n hx hb dX14_boot_257 rfl (lv_at hl 0 rfl) ?_
        refine lv_iconst (v := 0) hx hb dX14_boot_258 (by decide) ?_
        refine p14_12 C hH hS q1952 dX14_boot_259 (fun σ24 e24 H locs hH hS => ?_)
        have hw := hw σ24 e24
        refine lv_aload_n hx hb dX14_boot_262 rfl (lv_at hl 0 rfl) ?_
        refine lv_iconst (v := 0) hx hb dX14_boot_263 (by decide) ?_
        refine p14_18 C hH hS q1958 dX14_boot_264 (fun σ25 e25 H locs hH hS => ?_)
        have hw := hw σ25 e25
        refine lv_aload_n hx hb dX14_boot_267 rfl (lv_at hl 0 rfl) ?_
        refine lv_iconst (v := 0) hx hb dX14_boot_268 (by decide) ?_
        refine p14_25 C hH hS q1965 dX14_boot_269 (fun σ26 e26 H locs hH hS => ?_)
        have hw := hw σ26 e26
        refine lv_iconst (v := 0) hx hb dX14_boot_272 (by decide) ?_
        refine lv_istore (lv' := [(8, .int 0), (0, .ref (ga G 14 0)), (7, .int r2)]) hx hb dX14_boot_273 hl (by decide) rfl (fun ls hl => ?_)
        obtain ⟨n28, hw⟩ := hw
        refine k14_boot_L275 C r2 n28 σ26 0 hw H locs ls hH hS (lv_sub hl [1, 2, 0] rfl) (fun σ29 hw H locs ls hH hS hl => ?_)
        refine lv_iconst (v := 0) hx hb dX14_boot_296 (by decide) ?_
        refine lv_istore (lv' := [(8, .int 0), (0, .ref (ga G 14 0)), (7, .int r2)]) hx hb dX14_boot_297 hl (by decide) rfl (fun ls hl => ?_)
        obtain ⟨n32, hw⟩ := hw
        refine k14_boot_L299 C r2 n32 σ29 0 hw H locs ls hH hS (lv_sub hl [1, 2, 0] rfl) (fun σ33 hw H locs ls hH hS hl => ?_)
        refine lv_iconst (v := 0) hx hb dX14_boot_323 (by decide) ?_
        refine lv_istore (lv' := [(8, .int 0), (0, .ref (ga G 14 0)), (7, .int r2)]) hx hb dX14_boot_324 hl (by decide) rfl (fun ls hl => ?_)
        obtain ⟨n36, hw⟩ := hw
        refine k14_boot_L326 C r2 n36 σ33 0 hw H locs ls hH hS (lv_sub hl [1, 2, 0] rfl) (fun σ37 hw H locs ls hH hS hl => ?_)
        refine lv_iconst (v := 0) hx hb dX14_boot_350 (by decide) ?_
        refine lv_istore (lv' := [(8, .int 0), (0, .ref (ga G 14 0)), (7, .int r2)]) hx hb dX14_boot_351 hl (by decide) rfl (fun ls hl => ?_)
        obtain ⟨n40, hw⟩ := hw
        refine k14_boot_L353 C r2 n40 σ37 0 hw H locs ls hH hS (lv_sub hl [1, 2, 0] rfl) (fun σ41 hw H locs ls hH hS hl => ?_)
        refine lv_iconst (v := 0) hx hb dX14_boot_377 (by decide) ?_
        refine lv_istore (lv' := [(8, .int 0), (0, .ref (ga G 14 0)), (7, .int r2)]) hx hb dX14_boot_378 hl (by decide) rfl (fun ls hl => ?_)
        obtain ⟨n44, hw⟩ := hw
        refine k14_boot_L380 C r2 n44 σ41 0 hw H locs ls hH hS (lv_sub hl [1, 2, 0] rfl) (fun σ45 hw H locs ls hH hS hl => ?_)
        refine lv_iload hx hb dX14_boot_403 (lv_at hl 0 rfl) ?_
        exact rt_i C rfl hH hS hw dX14_boot_405
      have hw := hw.2 h
      refine lv_bipush (v := (-3)) hx hb dX14_boot_68 (by decide) ?_
      exact rt_i C rfl hH hS hw dX14_boot_70
    have hw := hw.2 h
    refine lv_bipush (v := (-2)) hx hb dX14_boot_54 (by decide) ?_
    exact rt_i C rfl hH hS hw dX14_boot_56
  have hw := hw.2 h
  refine lv_iconst (v := (-1)) hx hb dX14_boot_19 (by decide) ?_
  exact rt_i C rfl hH hS hw dX14_boot_20
/-! WebHostModel.cached(I)Z -/
abbrev cX14_cached : ByteArray := prog_17_method_117_code
def yX14_cached : MethodName := ⟨RX14, "cached", "(I)Z"⟩
theorem dX14_cached_0 : decode cX14_cached 0 = .ok (.aload_n 0, 1) := by decide +kernel
theorem dX14_cached_1 : decode cX14_cached 1 = .ok (.getfield 95, 3) := by decide +kernel
theorem dX14_cached_4 : decode cX14_cached 4 = .ok (.ifCond .eq 15, 3) := by decide +kernel
theorem dX14_cached_7 : decode cX14_cached 7 = .ok (.aload_n 0, 1) := by decide +kernel
theorem dX14_cached_8 : decode cX14_cached 8 = .ok (.iload_n 1, 1) := by decide +kernel
theorem dX14_cached_9 : decode cX14_cached 9 = .ok (.invokevirtual 227, 3) := by decide +kernel
theorem dX14_cached_12 : decode cX14_cached 12 = .ok (.ifnull 7, 3) := by decide +kernel
theorem dX14_cached_15 : decode cX14_cached 15 = .ok (.iconst 1, 1) := by decide +kernel
theorem dX14_cached_16 : decode cX14_cached 16 = .ok (.goto 4, 3) := by decide +kernel
theorem dX14_cached_19 : decode cX14_cached 19 = .ok (.iconst 0, 1) := by decide +kernel
theorem dX14_cached_20 : decode cX14_cached 20 = .ok (.ireturn, 1) := by decide +kernel
def rmX14_cached : Room := { frames := 2, cells := 0, slots := 0, locals := 44 }
theorem kX14_cached : yX14_cached.cls = "WebHostModel" ∧ yX14_cached.cls ≠ "java/lang/invoke/MethodHandle" ∧ yX14_cached.cls ≠ "java/lang/invoke/VarHandle" ∧ (parseMethodDescriptor yX14_cached.desc).map (fun d => d.parameters.length) = some 1 := by decide +kernel
def w14_cached (σ : St) (x1 : Int32) (Q : Int32 → Prop) : Prop := bo (σ 14 0 4) → (((σ 14 0 4) = 0 → Q 0) ∧ (¬ (σ 14 0 4) = 0 → (w14_counting σ x1 (fun p1 => ((p1 = none → Q 0) ∧ (∀ i2, p1 = some i2 → (i2 < 16 ∧ Q 1)))))))
set_option maxHeartbeats 4000000 in
theorem m14_cached (l : Launch) (G : Gh) (a1 : Nat → Nat → Nat) (τ : St) (σ : St) (H : Heap) (x1 : Int32) (Q : Int32 → Prop) (hw : w14_cached σ x1 Q) : Met l yX14_cached (ws_ yX14_cached cX14_cached 2 (some .boolean)) rmX14_cached (PcP G a1 (cmb τ σ) H [.ref (ga G 14 0), .int x1]) (QIp G H Q) 0 0 (gA G) := by
  refine met_p (by decide) (Nat.le_of_ble_eq_true rfl) ?_
  intro p e s m below meth c ls hHe C hH hS hl
  have C : Cx p e s m _ meth c cX14_cached 2 (some .boolean) "WebHostModel" G := C
  have hl : lv_has ls 2 [(0, .ref (ga G 14 0)), (1, .int x1)] := hl
  have hx := C.1
  have hb := C.2.1
  have hown := C.2.2.2.2.2.1
  have hts := C.2.2.2.2.2.2.1
  obtain ⟨locs, hlocs⟩ : ∃ z : List Loc, z = [] := ⟨_, rfl⟩
  rw [← hlocs] at hS ⊢
  refine lv_aload_n hx hb dX14_cached_0 rfl (lv_at hl 0 rfl) ?_
  refine g14_4 C hH q1944 dX14_cached_1 (fun hz => ?_)
  have hw := hw hz
  refine lv_if_eq (tgt := 19) hx hb dX14_cached_4 (by decide) (fun h => ?_) (fun h => ?_)
  · have hw := hw.1 h
    refine lv_iconst (v := 0) hx hb dX14_cached_19 (by decide) ?_
    exact rt_ip C rfl hS hw dX14_cached_20
  have hw := hw.2 h
  refine lv_aload_n hx hb dX14_cached_7 rfl (lv_at hl 0 rfl) ?_
  refine lv_iload_n hx hb dX14_cached_8 rfl (lv_at hl 1 rfl) ?_
  refine kc_ep (rn_vp (As := [.int x1]) (rest := []) C hH hS (by decide) rfl (by decide) (m14_counting l G a1 τ σ H x1 _ hw) (cwV 1 hts (lw_V q2264 q2266 qs91 q171 q2267) rfl rfl rfl kX14_counting ⟨Nat.le_of_ble_eq_true rfl, Nat.le_of_ble_eq_true rfl⟩) rfl hl.1 rfl (Nat.le_of_ble_eq_true rfl) dX14_cached_9 ⟨Nat.le_of_ble_eq_true rfl, Nat.le_of_ble_eq_true rfl⟩) hS (fun p1 locs hw hS => ?_)
  rcases p1 with _ | i2
  · have hw := hw.1 rfl
    have hl : lv_has ls 2 [(0, .ref (ga G 14 0)), (1, .int x1)] := hl
    refine lv_ifnullN (tgt := 19) hx hb dX14_cached_12 (by decide) ?_
    refine lv_iconst (v := 0) hx hb dX14_cached_19 (by decide) ?_
    exact rt_ip C rfl hS hw dX14_cached_20
  obtain ⟨hq2, hw⟩ := hw.2 i2 rfl
  have hl : lv_has ls 2 [(0, .ref (ga G 14 0)), (1, .int x1)] := hl
  refine lv_ifnull hx hb dX14_cached_12 ?_
  refine lv_iconst (v := 1) hx hb dX14_cached_15 (by decide) ?_
  refine lv_goto (tgt := 20) hx hb dX14_cached_16 (by decide) ?_
  exact rt_ip C rfl hS hw dX14_cached_20
/-! WebHostModel.damage(II)Z -/
abbrev cX14_damage : ByteArray := prog_17_method_120_code
def yX14_damage : MethodName := ⟨RX14, "damage", "(II)Z"⟩
theorem dX14_damage_0 : decode cX14_damage 0 = .ok (.iload_n 1, 1) := by decide +kernel
theorem dX14_damage_1 : decode cX14_damage 1 = .ok (.ifCond .lt 11, 3) := by decide +kernel
theorem dX14_damage_4 : decode cX14_damage 4 = .ok (.iload_n 1, 1) := by decide +kernel
theorem dX14_damage_5 : decode cX14_damage 5 = .ok (.aload_n 0, 1) := by decide +kernel
theorem dX14_damage_6 : decode cX14_damage 6 = .ok (.getfield 92, 3) := by decide +kernel
theorem dX14_damage_9 : decode cX14_damage 9 = .ok (.if_icmp .lt 5, 3) := by decide +kernel
theorem dX14_damage_12 : decode cX14_damage 12 = .ok (.iconst 0, 1) := by decide +kernel
theorem dX14_damage_13 : decode cX14_damage 13 = .ok (.ireturn, 1) := by decide +kernel
theorem dX14_damage_14 : decode cX14_damage 14 = .ok (.iconst 0, 1) := by decide +kernel
theorem dX14_damage_15 : decode cX14_damage 15 = .ok (.istore_n 3, 1) := by decide +kernel
theorem dX14_damage_16 : decode cX14_damage 16 = .ok (.iload_n 3, 1) := by decide +kernel
theorem dX14_damage_17 : decode cX14_damage 17 = .ok (.bipush 16, 2) := by decide +kernel
theorem dX14_damage_19 : decode cX14_damage 19 = .ok (.if_icmp .ge 60, 3) := by decide +kernel
theorem dX14_damage_22 : decode cX14_damage 22 = .ok (.aload_n 0, 1) := by decide +kernel
theorem dX14_damage_23 : decode cX14_damage 23 = .ok (.getfield 95, 3) := by decide +kernel
theorem dX14_damage_26 : decode cX14_damage 26 = .ok (.ifCond .eq 53, 3) := by decide +kernel
theorem dX14_damage_29 : decode cX14_damage 29 = .ok (.aload_n 0, 1) := by decide +kernel
theorem dX14_damage_30 : decode cX14_damage 30 = .ok (.getfield 70, 3) := by decide +kernel
theorem dX14_damage_33 : decode cX14_damage 33 = .ok (.iload_n 3, 1) := by decide +kernel
theorem dX14_damage_34 : decode cX14_damage 34 = .ok (.aaload, 1) := by decide +kernel
theorem dX14_damage_35 : decode cX14_damage 35 = .ok (.astore 4, 2) := by decide +kernel
theorem dX14_damage_37 : decode cX14_damage 37 = .ok (.aload 4, 2) := by decide +kernel
theorem dX14_damage_39 : decode cX14_damage 39 = .ok (.getfield 152, 3) := by decide +kernel
theorem dX14_damage_42 : decode cX14_damage 42 = .ok (.ifCond .eq 31, 3) := by decide +kernel
theorem dX14_damage_45 : decode cX14_damage 45 = .ok (.aload 4, 2) := by decide +kernel
theorem dX14_damage_47 : decode cX14_damage 47 = .ok (.getfield 428, 3) := by decide +kernel
theorem dX14_damage_50 : decode cX14_damage 50 = .ok (.aload 4, 2) := by decide +kernel
theorem dX14_damage_52 : decode cX14_damage 52 = .ok (.getfield 361, 3) := by decide +kernel
theorem dX14_damage_55 : decode cX14_damage 55 = .ok (.if_icmp .ne 16, 3) := by decide +kernel
theorem dX14_damage_58 : decode cX14_damage 58 = .ok (.aload 4, 2) := by decide +kernel
theorem dX14_damage_60 : decode cX14_damage 60 = .ok (.aload 4, 2) := by decide +kernel
theorem dX14_damage_62 : decode cX14_damage 62 = .ok (.getfield 345, 3) := by decide +kernel
theorem dX14_damage_65 : decode cX14_damage 65 = .ok (.invokevirtual 425, 3) := by decide +kernel
theorem dX14_damage_68 : decode cX14_damage 68 = .ok (.ifCond .le 5, 3) := by decide +kernel
theorem dX14_damage_71 : decode cX14_damage 71 = .ok (.iconst 0, 1) := by decide +kernel
theorem dX14_damage_72 : decode cX14_damage 72 = .ok (.ireturn, 1) := by decide +kernel
theorem dX14_damage_73 : decode cX14_damage 73 = .ok (.iinc 3 1, 3) := by decide +kernel
theorem dX14_damage_76 : decode cX14_damage 76 = .ok (.goto (-60), 3) := by decide +kernel
theorem dX14_damage_79 : decode cX14_damage 79 = .ok (.aload_n 0, 1) := by decide +kernel
theorem dX14_damage_80 : decode cX14_damage 80 = .ok (.getfield 15, 3) := by decide +kernel
theorem dX14_damage_83 : decode cX14_damage 83 = .ok (.iload_n 1, 1) := by decide +kernel
theorem dX14_damage_84 : decode cX14_damage 84 = .ok (.iload_n 2, 1) := by decide +kernel
theorem dX14_damage_85 : decode cX14_damage 85 = .ok (.i2b, 1) := by decide +kernel
theorem dX14_damage_86 : decode cX14_damage 86 = .ok (.bastore, 1) := by decide +kernel
theorem dX14_damage_87 : decode cX14_damage 87 = .ok (.iconst 1, 1) := by decide +kernel
theorem dX14_damage_88 : decode cX14_damage 88 = .ok (.ireturn, 1) := by decide +kernel
def rmX14_damage : Room := { frames := 2, cells := 0, slots := 0, locals := 41 }
theorem kX14_damage : yX14_damage.cls = "WebHostModel" ∧ yX14_damage.cls ≠ "java/lang/invoke/MethodHandle" ∧ yX14_damage.cls ≠ "java/lang/invoke/VarHandle" ∧ (parseMethodDescriptor yX14_damage.desc).map (fun d => d.parameters.length) = some 2 := by decide +kernel
def w14_damage_L16 (σ : St) (x1 : Int32) (x2 : Int32) (Q : Int32 → St → Prop) (K71 : Prop) (K79 : Prop) : Nat → Int32 → Prop
  | 0, _ => False
  | n + 1, x3 => (16 ≤ x3 → K79) ∧ (¬ 16 ≤ x3 → (bo (σ 14 0 4) → (((σ 14 0 4) = 0 → K79) ∧ (¬ (σ 14 0 4) = 0 → (vp_in x3 16 ∧ (((σ 15 x3.toNatClampNeg 0) = 0 → (w14_damage_L16 σ x1 x2 Q K71 K79 n (x3 + 1))) ∧ (¬ (σ 15 x3.toNatClampNeg 0) = 0 → ((¬ (σ 15 x3.toNatClampNeg 4) = (σ 15 x3.toNatClampNeg 6) → K71) ∧ ((σ 15 x3.toNatClampNeg 4) = (σ 15 x3.toNatClampNeg 6) → (w15_left σ x3.toNatClampNeg (σ 15 x3.toNatClampNeg 5) (fun r2 => ((r2 ≤ 0 → (w14_damage_L16 σ x1 x2 Q K71 K79 n (x3 + 1))) ∧ (¬ r2 ≤ 0 → K71)))))))))))))
set_option maxHeartbeats 4000000 in
theorem k14_damage_L16 {p : Program} {l : Launch} {e : Env} {s : State} {m : MethodId} {args : Array Value} {below : List Frame} {meth : Method} {c : Code} {G : Gh} {a1 : Nat → Nat → Nat} {τ : St} {Q : Int32 → St → Prop} {K71 : Prop} {K79 : Prop} (C : Cx p e s m args meth c cX14_damage 5 (some .boolean) "WebHostModel" G) (σ : St) (x1 : Int32) (x2 : Int32) :
    ∀ (n : Nat) (x3 : Int32), w14_damage_L16 σ x1 x2 Q K71 K79 n x3 → ∀ (H : Heap) (locs : List Loc) (ls : Array Slot), Hd G a1 (cmb τ σ) H → va_S (gA G) s.heap H locs → lv_has ls 5 [(0, .ref (ga G 14 0)), (1, .int x1), (2, .int x2), (3, .int x3)] → (K71 → ∀ (H : Heap) (locs : List Loc) (ls : Array Slot), Hd G a1 (cmb τ σ) H → va_S (gA G) s.heap H locs → lv_has ls 5 [] → W p l e rmX14_damage s m args below meth c H locs 0 0 (MQ below (QIs G a1 (fun u => cmb τ u) Q) args s 0 0 (gA G)) (F0 m 71 ls [])) → (K79 → ∀ (H : Heap) (locs : List Loc) (ls : Array Slot), Hd G a1 (cmb τ σ) H → va_S (gA G) s.heap H locs → lv_has ls 5 [(0, .ref (ga G 14 0)), (1, .int x1), (2, .int x2)] → W p l e rmX14_damage s m args below meth c H locs 0 0 (MQ below (QIs G a1 (fun u => cmb τ u) Q) args s 0 0 (gA G)) (F0 m 79 ls [])) → W p l e rmX14_damage s m args below meth c H locs 0 0 (MQ below (QIs G a1 (fun u => cmb τ u) Q) args s 0 0 (gA G)) (F0 m 16 ls []) := by
  have hx := C.1
  have hb := C.2.1
  have hown := C.2.2.2.2.2.1
  have hts := C.2.2.2.2.2.2.1
  intro n
  induction n with
  | zero =>
    intro x3 hw
    exact False.elim hw
  | succ n ih =>
    intro x3 hw H locs ls hH hS hl hK71 hK79
    refine lv_iload_n hx hb dX14_damage_16 rfl (lv_at hl 3 rfl) ?_
    refine lv_bipush (v := 16) hx hb dX14_damage_17 (by decide) ?_
    refine lv_icmp_ge (tgt := 79) hx hb dX14_damage_19 (by decide) (fun h => ?_) (fun h => ?_)
    · have hw := hw.1 h
      exact hK79 hw H locs ls hH hS (lv_sub hl [0, 1, 2] rfl)
    have hw := hw.2 h
    refine lv_aload_n hx hb dX14_damage_22 rfl (lv_at hl 0 rfl) ?_
    refine g14_4 C hH q1944 dX14_damage_23 (fun hz => ?_)
    have hw := hw hz
    refine lv_if_eq (tgt := 79) hx hb dX14_damage_26 (by decide) (fun h => ?_) (fun h => ?_)
    · have hw := hw.1 h
      exact hK79 hw H locs ls hH hS (lv_sub hl [0, 1, 2] rfl)
    have hw := hw.2 h
    refine lv_aload_n hx hb dX14_damage_29 rfl (lv_at hl 0 rfl) ?_
    refine g14_31 C hH q1971 dX14_damage_30 ?_
    refine lv_iload_n hx hb dX14_damage_33 rfl (lv_at hl 3 rfl) ?_
    have hq1 := vp_lt hw.1
    refine l65 C hH hw.1 dX14_damage_34 ?_
    have hw := hw.2
    refine lv_astore (lv' := [(4, .ref (ga G 15 x3.toNatClampNeg)), (0, .ref (ga G 14 0)), (1, .int x1), (2, .int x2), (3, .int x3)]) hx hb dX14_damage_35 hl (by decide) rfl (fun ls hl => ?_)
    refine lv_aload hx hb dX14_damage_37 (lv_at hl 0 rfl) ?_
    refine g15_0 C hH hq1 q1707 dX14_damage_39 ?_
    refine lv_if_eq (tgt := 73) hx hb dX14_damage_42 (by decide) (fun h => ?_) (fun h => ?_)
    · have hw := hw.1 h
      refine lv_iinc (v := x3 + 1) (lv' := [(3, .int (x3 + 1)), (4, .ref (ga G 15 x3.toNatClampNeg)), (0, .ref (ga G 14 0)), (1, .int x1), (2, .int x2)]) hx hb dX14_damage_73 hl (k := 4) rfl rfl (by decide) rfl (fun ls hl => ?_)
      refine lv_goto (tgt := 16) hx hb dX14_damage_76 (by decide) ?_
      exact ih (x3 + 1) hw H locs ls hH hS (lv_sub hl [2, 3, 4, 0] rfl) hK71 hK79
    have hw := hw.2 h
    refine lv_aload hx hb dX14_damage_45 (lv_at hl 0 rfl) ?_
    refine g15_4 C hH hq1 q1711 dX14_damage_47 ?_
    refine lv_aload hx hb dX14_damage_50 (lv_at hl 0 rfl) ?_
    refine g15_6 C hH hq1 q1713 dX14_damage_52 ?_
    refine lv_icmp_ne (tgt := 71) hx hb dX14_damage_55 (by decide) (fun h => ?_) (fun h => ?_)
    · have hw := hw.1 h
      exact hK71 hw H locs ls hH hS (lv_sub hl [] rfl)
    have hw := hw.2 h
    refine lv_aload hx hb dX14_damage_58 (lv_at hl 0 rfl) ?_
    refine lv_aload hx hb dX14_damage_60 (lv_at hl 0 rfl) ?_
    refine g15_5 C hH hq1 q1712 dX14_damage_62 ?_
    refine kc_ip (rn_vp (As := [.int (σ 15 x3.toNatClampNeg 5)]) (rest := []) C hH hS (by decide) rfl hq1 (m15_left l G a1 τ σ H x3.toNatClampNeg (σ 15 x3.toNatClampNeg 5) hq1 _ hw) (cwV 1 hts (lw_V q2193 q2194 q2195 q172 q2196) rfl rfl rfl kX15_left ⟨Nat.le_of_ble_eq_true rfl, Nat.le_of_ble_eq_true rfl⟩) rfl hl.1 rfl (Nat.le_of_ble_eq_true rfl) dX14_damage_65 ⟨Nat.le_of_ble_eq_true rfl, Nat.le_of_ble_eq_true rfl⟩) hS (fun r2 locs hw hS => ?_)
    refine lv_if_le (tgt := 73) hx hb dX14_damage_68 (by decide) (fun h => ?_) (fun h => ?_)
    · have hw := hw.1 h
      refine lv_iinc (v := x3 + 1) (lv' := [(3, .int (x3 + 1)), (4, .ref (ga G 15 x3.toNatClampNeg)), (0, .ref (ga G 14 0)), (1, .int x1), (2, .int x2)]) hx hb dX14_damage_73 hl (k := 4) rfl rfl (by decide) rfl (fun ls hl => ?_)
      refine lv_goto (tgt := 16) hx hb dX14_damage_76 (by decide) ?_
      exact ih (x3 + 1) hw H locs ls hH hS (lv_sub hl [2, 3, 4, 0] rfl) hK71 hK79
    have hw := hw.2 h
    exact hK71 hw H locs ls hH hS (lv_sub hl [] rfl)
def w14_damage (σ : St) (x1 : Int32) (x2 : Int32) (Q : Int32 → St → Prop) : Prop := (x1 < 0 → Q 0 σ) ∧ (¬ x1 < 0 → ((x1 < (σ 14 0 3) → (∃ z3, w14_damage_L16 σ x1 x2 Q (Q 0 σ) (vp_in x1 65535 ∧ (∀ σ6, σ6 = up3 σ 51 0 x1.toNatClampNeg x2.toInt8.toInt32.toInt8.toInt32 → (Q 1 σ6))) z3 0)) ∧ (¬ x1 < (σ 14 0 3) → Q 0 σ)))
set_option maxHeartbeats 4000000 in
theorem m14_damage (l : Launch) (G : Gh) (a1 : Nat → Nat → Nat) (τ : St) (σ : St) (x1 : Int32) (x2 : Int32) (Q : Int32 → St → Prop) (hw : w14_damage σ x1 x2 Q) : Met l yX14_damage (ws_ yX14_damage cX14_damage 5 (some .boolean)) rmX14_damage (PcS G a1 (cmb τ σ) [.ref (ga G 14 0), .int x1, .int x2]) (QIs G a1 (fun u => cmb τ u) Q) 0 0 (gA G) := by
  refine met_w (by decide) (Nat.le_of_ble_eq_true rfl) ?_
  intro p e s m below meth c ls C hH hS hl
  have C : Cx p e s m _ meth c cX14_damage 5 (some .boolean) "WebHostModel" G := C
  have hl : lv_has ls 5 [(0, .ref (ga G 14 0)), (1, .int x1), (2, .int x2)] := hl
  have hx := C.1
  have hb := C.2.1
  have hown := C.2.2.2.2.2.1
  have hts := C.2.2.2.2.2.2.1
  obtain ⟨locs, hlocs⟩ : ∃ z : List Loc, z = [] := ⟨_, rfl⟩
  obtain ⟨H, hHe⟩ : ∃ z : Heap, z = s.heap := ⟨_, rfl⟩
  have hH : Hd G a1 (cmb τ σ) H := by rw [hHe]; exact hH
  have hS : va_S (gA G) s.heap H locs := by rw [hHe, hlocs]; exact hS
  refine W.heap0 hHe.symm hlocs.symm ?_
  refine lv_iload_n hx hb dX14_damage_0 rfl (lv_at hl 1 rfl) ?_
  refine lv_if_lt (tgt := 12) hx hb dX14_damage_1 (by decide) (fun h => ?_) (fun h => ?_)
  · have hw := hw.1 h
    refine lv_iconst (v := 0) hx hb dX14_damage_12 (by decide) ?_
    exact rt_i C rfl hH hS hw dX14_damage_13
  have hw := hw.2 h
  refine lv_iload_n hx hb dX14_damage_4 rfl (lv_at hl 1 rfl) ?_
  refine lv_aload_n hx hb dX14_damage_5 rfl (lv_at hl 0 rfl) ?_
  refine g14_3 C hH q1943 dX14_damage_6 ?_
  refine lv_icmp_lt (tgt := 14) hx hb dX14_damage_9 (by decide) (fun h => ?_) (fun h => ?_)
  · have hw := hw.1 h
    refine lv_iconst (v := 0) hx hb dX14_damage_14 (by decide) ?_
    refine lv_istore_n (lv' := [(3, .int 0), (0, .ref (ga G 14 0)), (1, .int x1), (2, .int x2)]) hx hb dX14_damage_15 rfl hl (by decide) rfl (fun ls hl => ?_)
    obtain ⟨n3, hw⟩ := hw
    refine k14_damage_L16 C σ x1 x2 n3 0 hw H locs ls hH hS (lv_sub hl [1, 2, 3, 0] rfl) (fun hw H locs ls hH hS hl => ?_) (fun hw H locs ls hH hS hl => ?_)
    · refine lv_iconst (v := 0) hx hb dX14_damage_71 (by decide) ?_
      exact rt_i C rfl hH hS hw dX14_damage_72
    refine lv_aload_n hx hb dX14_damage_79 rfl (lv_at hl 0 rfl) ?_
    refine g14_2 C hH q1942 dX14_damage_80 ?_
    refine lv_iload_n hx hb dX14_damage_83 rfl (lv_at hl 1 rfl) ?_
    refine lv_iload_n hx hb dX14_damage_84 rfl (lv_at hl 2 rfl) ?_
    refine lv_i2b (v := x2.toInt8.toInt32) hx hb dX14_damage_85 rfl ?_
    refine s51 C hH hS hw.1 dX14_damage_86 (fun σ6 e6 H locs hH hS => ?_)
    have hw := hw.2 σ6 e6
    refine lv_iconst (v := 1) hx hb dX14_damage_87 (by decide) ?_
    exact rt_i C rfl hH hS hw dX14_damage_88
  have hw := hw.2 h
  refine lv_iconst (v := 0) hx hb dX14_damage_12 (by decide) ?_
  exact rt_i C rfl hH hS hw dX14_damage_13
/-! WebHostModel.headBytes(LWebHostModel$Connection;)I -/
abbrev cX14_headBytes : ByteArray := prog_17_method_79_code
def yX14_headBytes : MethodName := ⟨RX14, "headBytes", "(LWebHostModel$Connection;)I"⟩
theorem dX14_headBytes_0 : decode cX14_headBytes 0 = .ok (.iconst 0, 1) := by decide +kernel
theorem dX14_headBytes_1 : decode cX14_headBytes 1 = .ok (.istore_n 2, 1) := by decide +kernel
theorem dX14_headBytes_2 : decode cX14_headBytes 2 = .ok (.aload_n 1, 1) := by decide +kernel
theorem dX14_headBytes_3 : decode cX14_headBytes 3 = .ok (.invokevirtual 612, 3) := by decide +kernel
theorem dX14_headBytes_6 : decode cX14_headBytes 6 = .ok (.istore_n 3, 1) := by decide +kernel
theorem dX14_headBytes_7 : decode cX14_headBytes 7 = .ok (.iconst 0, 1) := by decide +kernel
theorem dX14_headBytes_8 : decode cX14_headBytes 8 = .ok (.istore 4, 2) := by decide +kernel
theorem dX14_headBytes_10 : decode cX14_headBytes 10 = .ok (.iload 4, 2) := by decide +kernel
theorem dX14_headBytes_12 : decode cX14_headBytes 12 = .ok (.iload_n 3, 1) := by decide +kernel
theorem dX14_headBytes_13 : decode cX14_headBytes 13 = .ok (.if_icmp .ge 66, 3) := by decide +kernel
theorem dX14_headBytes_16 : decode cX14_headBytes 16 = .ok (.aload_n 1, 1) := by decide +kernel
theorem dX14_headBytes_17 : decode cX14_headBytes 17 = .ok (.iload 4, 2) := by decide +kernel
theorem dX14_headBytes_19 : decode cX14_headBytes 19 = .ok (.invokestatic 621, 3) := by decide +kernel
theorem dX14_headBytes_22 : decode cX14_headBytes 22 = .ok (.bipush 10, 2) := by decide +kernel
theorem dX14_headBytes_24 : decode cX14_headBytes 24 = .ok (.if_icmp .ne 49, 3) := by decide +kernel
theorem dX14_headBytes_27 : decode cX14_headBytes 27 = .ok (.iload 4, 2) := by decide +kernel
theorem dX14_headBytes_29 : decode cX14_headBytes 29 = .ok (.iload_n 2, 1) := by decide +kernel
theorem dX14_headBytes_30 : decode cX14_headBytes 30 = .ok (.if_icmp .eq 21, 3) := by decide +kernel
theorem dX14_headBytes_33 : decode cX14_headBytes 33 = .ok (.iload 4, 2) := by decide +kernel
theorem dX14_headBytes_35 : decode cX14_headBytes 35 = .ok (.iload_n 2, 1) := by decide +kernel
theorem dX14_headBytes_36 : decode cX14_headBytes 36 = .ok (.iconst 1, 1) := by decide +kernel
theorem dX14_headBytes_37 : decode cX14_headBytes 37 = .ok (.iadd, 1) := by decide +kernel
theorem dX14_headBytes_38 : decode cX14_headBytes 38 = .ok (.if_icmp .ne 17, 3) := by decide +kernel
theorem dX14_headBytes_41 : decode cX14_headBytes 41 = .ok (.aload_n 1, 1) := by decide +kernel
theorem dX14_headBytes_42 : decode cX14_headBytes 42 = .ok (.iload_n 2, 1) := by decide +kernel
theorem dX14_headBytes_43 : decode cX14_headBytes 43 = .ok (.invokestatic 621, 3) := by decide +kernel
theorem dX14_headBytes_46 : decode cX14_headBytes 46 = .ok (.bipush 13, 2) := by decide +kernel
theorem dX14_headBytes_48 : decode cX14_headBytes 48 = .ok (.if_icmp .ne 7, 3) := by decide +kernel
theorem dX14_headBytes_51 : decode cX14_headBytes 51 = .ok (.iconst 1, 1) := by decide +kernel
theorem dX14_headBytes_52 : decode cX14_headBytes 52 = .ok (.goto 4, 3) := by decide +kernel
theorem dX14_headBytes_55 : decode cX14_headBytes 55 = .ok (.iconst 0, 1) := by decide +kernel
theorem dX14_headBytes_56 : decode cX14_headBytes 56 = .ok (.istore 5, 2) := by decide +kernel
theorem dX14_headBytes_58 : decode cX14_headBytes 58 = .ok (.iload 5, 2) := by decide +kernel
theorem dX14_headBytes_60 : decode cX14_headBytes 60 = .ok (.ifCond .eq 8, 3) := by decide +kernel
theorem dX14_headBytes_63 : decode cX14_headBytes 63 = .ok (.iload 4, 2) := by decide +kernel
theorem dX14_headBytes_65 : decode cX14_headBytes 65 = .ok (.iconst 1, 1) := by decide +kernel
theorem dX14_headBytes_66 : decode cX14_headBytes 66 = .ok (.iadd, 1) := by decide +kernel
theorem dX14_headBytes_67 : decode cX14_headBytes 67 = .ok (.ireturn, 1) := by decide +kernel
theorem dX14_headBytes_68 : decode cX14_headBytes 68 = .ok (.iload 4, 2) := by decide +kernel
theorem dX14_headBytes_70 : decode cX14_headBytes 70 = .ok (.iconst 1, 1) := by decide +kernel
theorem dX14_headBytes_71 : decode cX14_headBytes 71 = .ok (.iadd, 1) := by decide +kernel
theorem dX14_headBytes_72 : decode cX14_headBytes 72 = .ok (.istore_n 2, 1) := by decide +kernel
theorem dX14_headBytes_73 : decode cX14_headBytes 73 = .ok (.iinc 4 1, 3) := by decide +kernel
theorem dX14_headBytes_76 : decode cX14_headBytes 76 = .ok (.goto (-66), 3) := by decide +kernel
theorem dX14_headBytes_79 : decode cX14_headBytes 79 = .ok (.iconst 0, 1) := by decide +kernel
theorem dX14_headBytes_80 : decode cX14_headBytes 80 = .ok (.ireturn, 1) := by decide +kernel
def rmX14_headBytes : Room := { frames := 2, cells := 0, slots := 0, locals := 41 }
theorem kX14_headBytes : yX14_headBytes.cls = "WebHostModel" ∧ yX14_headBytes.cls ≠ "java/lang/invoke/MethodHandle" ∧ yX14_headBytes.cls ≠ "java/lang/invoke/VarHandle" ∧ (parseMethodDescriptor yX14_headBytes.desc).map (fun d => d.parameters.length) = some 1 := by decide +kernel
def w14_headBytes_J51 (σ : St) (o1 : Nat) (x3 : Int32) (x4 : Int32) (Q : Int32 → Prop) (K10 : Int32 → Int32 → Prop) (K63 : Int32 → Prop) : Prop := ((1 : Int32) = 0 → (K10 (x4 + 1) (x4 + 1))) ∧ (¬ (1 : Int32) = 0 → K63 x4)
set_option maxHeartbeats 4000000 in
theorem k14_headBytes_J51 {p : Program} {l : Launch} {e : Env} {s : State} {m : MethodId} {args : Array Value} {below : List Frame} {meth : Method} {c : Code} {G : Gh} {a1 : Nat → Nat → Nat} {τ : St} {H : Heap} {Q : Int32 → Prop} {K10 : Int32 → Int32 → Prop} {K63 : Int32 → Prop} (C : Cx p e s m args meth c cX14_headBytes 6 (some .int) "WebHostModel" G) (σ : St) (o1 : Nat) (x3 : Int32) (x4 : Int32) (ho1 : o1 < 16) (hH : Hd G a1 (cmb τ σ) H) (hw : w14_headBytes_J51 σ o1 x3 x4 Q K10 K63) (locs : List Loc) (ls : Array Slot) (hS : va_S (gA G) s.heap H locs) (hl : lv_has ls 6 [(1, .ref (ga G 15 o1)), (3, .int x3), (4, .int x4)]) (hK10 : ∀ (x2 : Int32) (x4 : Int32), K10 x2 x4 → ∀ (locs : List Loc) (ls : Array Slot), va_S (gA G) s.heap H locs → lv_has ls 6 [(1, .ref (ga G 15 o1)), (2, .int x2), (3, .int x3), (4, .int x4)] → W p l e rmX14_headBytes s m args below meth c H locs 0 0 (MQ below (QIp G H Q) args s 0 0 (gA G)) (F0 m 10 ls [])) (hK63 : ∀ (x4 : Int32), K63 x4 → ∀ (locs : List Loc) (ls : Array Slot), va_S (gA G) s.heap H locs → lv_has ls 6 [(4, .int x4)] → W p l e rmX14_headBytes s m args below meth c H locs 0 0 (MQ below (QIp G H Q) args s 0 0 (gA G)) (F0 m 63 ls [])) : W p l e rmX14_headBytes s m args below meth c H locs 0 0 (MQ below (QIp G H Q) args s 0 0 (gA G)) (F0 m 51 ls []) := by
  have hx := C.1
  have hb := C.2.1
  have hown := C.2.2.2.2.2.1
  have hts := C.2.2.2.2.2.2.1
  refine lv_iconst (v := 1) hx hb dX14_headBytes_51 (by decide) ?_
  refine lv_goto (tgt := 56) hx hb dX14_headBytes_52 (by decide) ?_
  refine lv_istore (lv' := [(5, .int 1), (1, .ref (ga G 15 o1)), (3, .int x3), (4, .int x4)]) hx hb dX14_headBytes_56 hl (by decide) rfl (fun ls hl => ?_)
  refine lv_iload hx hb dX14_headBytes_58 (lv_at hl 0 rfl) ?_
  refine lv_if_eq (tgt := 68) hx hb dX14_headBytes_60 (by decide) (fun h => ?_) (fun h => ?_)
  · have hw := hw.1 h
    refine lv_iload hx hb dX14_headBytes_68 (lv_at hl 3 rfl) ?_
    refine lv_iconst (v := 1) hx hb dX14_headBytes_70 (by decide) ?_
    refine lv_iadd hx hb dX14_headBytes_71 ?_
    refine lv_istore_n (lv' := [(2, .int (x4 + 1)), (5, .int 1), (1, .ref (ga G 15 o1)), (3, .int x3), (4, .int x4)]) hx hb dX14_headBytes_72 rfl hl (by decide) rfl (fun ls hl => ?_)
    refine lv_iinc (v := x4 + 1) (lv' := [(4, .int (x4 + 1)), (2, .int (x4 + 1)), (5, .int 1), (1, .ref (ga G 15 o1)), (3, .int x3)]) hx hb dX14_headBytes_73 hl (k := 4) rfl rfl (by decide) rfl (fun ls hl => ?_)
    refine lv_goto (tgt := 10) hx hb dX14_headBytes_76 (by decide) ?_
    exact hK10 (x4 + 1) (x4 + 1) hw locs ls hS (lv_sub hl [3, 1, 4, 0] rfl)
  have hw := hw.2 h
  exact hK63 x4 hw locs ls hS (lv_sub hl [3] rfl)
def w14_headBytes_J55 (σ : St) (o1 : Nat) (x3 : Int32) (x4 : Int32) (Q : Int32 → Prop) (K10 : Int32 → Int32 → Prop) (K63 : Int32 → Prop) : Prop := ((0 : Int32) = 0 → (K10 (x4 + 1) (x4 + 1))) ∧ (¬ (0 : Int32) = 0 → K63 x4)
set_option maxHeartbeats 4000000 in
theorem k14_headBytes_J55 {p : Program} {l : Launch} {e : Env} {s : State} {m : MethodId} {args : Array Value} {below : List Frame} {meth : Method} {c : Code} {G : Gh} {a1 : Nat → Nat → Nat} {τ : St} {H : Heap} {Q : Int32 → Prop} {K10 : Int32 → Int32 → Prop} {K63 : Int32 → Prop} (C : Cx p e s m args meth c cX14_headBytes 6 (some .int) "WebHostModel" G) (σ : St) (o1 : Nat) (x3 : Int32) (x4 : Int32) (ho1 : o1 < 16) (hH : Hd G a1 (cmb τ σ) H) (hw : w14_headBytes_J55 σ o1 x3 x4 Q K10 K63) (locs : List Loc) (ls : Array Slot) (hS : va_S (gA G) s.heap H locs) (hl : lv_has ls 6 [(1, .ref (ga G 15 o1)), (3, .int x3), (4, .int x4)]) (hK10 : ∀ (x2 : Int32) (x4 : Int32), K10 x2 x4 → ∀ (locs : List Loc) (ls : Array Slot), va_S (gA G) s.heap H locs → lv_has ls 6 [(1, .ref (ga G 15 o1)), (2, .int x2), (3, .int x3), (4, .int x4)] → W p l e rmX14_headBytes s m args below meth c H locs 0 0 (MQ below (QIp G H Q) args s 0 0 (gA G)) (F0 m 10 ls [])) (hK63 : ∀ (x4 : Int32), K63 x4 → ∀ (locs : List Loc) (ls : Array Slot), va_S (gA G) s.heap H locs → lv_has ls 6 [(4, .int x4)] → W p l e rmX14_headBytes s m args below meth c H locs 0 0 (MQ below (QIp G H Q) args s 0 0 (gA G)) (F0 m 63 ls [])) : W p l e rmX14_headBytes s m args below meth c H locs 0 0 (MQ below (QIp G H Q) args s 0 0 (gA G)) (F0 m 55 ls []) := by
  have hx := C.1
  have hb := C.2.1
  have hown := C.2.2.2.2.2.1
  have hts := C.2.2.2.2.2.2.1
  refine lv_iconst (v := 0) hx hb dX14_headBytes_55 (by decide) ?_
  refine lv_istore (lv' := [(5, .int 0), (1, .ref (ga G 15 o1)), (3, .int x3), (4, .int x4)]) hx hb dX14_headBytes_56 hl (by decide) rfl (fun ls hl => ?_)
  refine lv_iload hx hb dX14_headBytes_58 (lv_at hl 0 rfl) ?_
  refine lv_if_eq (tgt := 68) hx hb dX14_headBytes_60 (by decide) (fun h => ?_) (fun h => ?_)
  · have hw := hw.1 h
    refine lv_iload hx hb dX14_headBytes_68 (lv_at hl 3 rfl) ?_
    refine lv_iconst (v := 1) hx hb dX14_headBytes_70 (by decide) ?_
    refine lv_iadd hx hb dX14_headBytes_71 ?_
    refine lv_istore_n (lv' := [(2, .int (x4 + 1)), (5, .int 0), (1, .ref (ga G 15 o1)), (3, .int x3), (4, .int x4)]) hx hb dX14_headBytes_72 rfl hl (by decide) rfl (fun ls hl => ?_)
    refine lv_iinc (v := x4 + 1) (lv' := [(4, .int (x4 + 1)), (2, .int (x4 + 1)), (5, .int 0), (1, .ref (ga G 15 o1)), (3, .int x3)]) hx hb dX14_headBytes_73 hl (k := 4) rfl rfl (by decide) rfl (fun ls hl => ?_)
    refine lv_goto (tgt := 10) hx hb dX14_headBytes_76 (by decide) ?_
    exact hK10 (x4 + 1) (x4 + 1) hw locs ls hS (lv_sub hl [3, 1, 4, 0] rfl)
  have hw := hw.2 h
  exact hK63 x4 hw locs ls hS (lv_sub hl [3] rfl)
def w14_headBytes_L10 (σ : St) (o1 : Nat) (x3 : Int32) (Q : Int32 → Prop) (K63 : Int32 → Prop) (K79 : Prop) : Nat → Int32 → Int32 → Prop
  | 0, _, _ => False
  | n + 1, x2, x4 => (x3 ≤ x4 → K79) ∧ (¬ x3 ≤ x4 → (w14_byteAt σ o1 x4 (fun r2 => ((¬ r2 = 10 → (w14_headBytes_L10 σ o1 x3 Q K63 K79 n x2 (x4 + 1))) ∧ (r2 = 10 → ((x4 = x2 → (w14_headBytes_J51 σ o1 x3 x4 Q (fun x2z x4z => w14_headBytes_L10 σ o1 x3 Q K63 K79 n x2z x4z) K63)) ∧ (¬ x4 = x2 → ((¬ x4 = (x2 + 1) → (w14_headBytes_J55 σ o1 x3 x4 Q (fun x2z x4z => w14_headBytes_L10 σ o1 x3 Q K63 K79 n x2z x4z) K63)) ∧ (x4 = (x2 + 1) → (w14_byteAt σ o1 x2 (fun r3 => ((¬ r3 = 13 → (w14_headBytes_J55 σ o1 x3 x4 Q (fun x2z x4z => w14_headBytes_L10 σ o1 x3 Q K63 K79 n x2z x4z) K63)) ∧ (r3 = 13 → (w14_headBytes_J51 σ o1 x3 x4 Q (fun x2z x4z => w14_headBytes_L10 σ o1 x3 Q K63 K79 n x2z x4z) K63))))))))))))))
set_option maxHeartbeats 4000000 in
theorem k14_headBytes_L10 {p : Program} {l : Launch} {e : Env} {s : State} {m : MethodId} {args : Array Value} {below : List Frame} {meth : Method} {c : Code} {G : Gh} {a1 : Nat → Nat → Nat} {τ : St} {H : Heap} {Q : Int32 → Prop} {K63 : Int32 → Prop} {K79 : Prop} (C : Cx p e s m args meth c cX14_headBytes 6 (some .int) "WebHostModel" G) (σ : St) (o1 : Nat) (x3 : Int32) (ho1 : o1 < 16) (hH : Hd G a1 (cmb τ σ) H) :
    ∀ (n : Nat) (x2 : Int32) (x4 : Int32), w14_headBytes_L10 σ o1 x3 Q K63 K79 n x2 x4 → ∀ (locs : List Loc) (ls : Array Slot), va_S (gA G) s.heap H locs → lv_has ls 6 [(1, .ref (ga G 15 o1)), (2, .int x2), (3, .int x3), (4, .int x4)] → (∀ (x4 : Int32), K63 x4 → ∀ (locs : List Loc) (ls : Array Slot), va_S (gA G) s.heap H locs → lv_has ls 6 [(4, .int x4)] → W p l e rmX14_headBytes s m args below meth c H locs 0 0 (MQ below (QIp G H Q) args s 0 0 (gA G)) (F0 m 63 ls [])) → (K79 → ∀ (locs : List Loc) (ls : Array Slot), va_S (gA G) s.heap H locs → lv_has ls 6 [] → W p l e rmX14_headBytes s m args below meth c H locs 0 0 (MQ below (QIp G H Q) args s 0 0 (gA G)) (F0 m 79 ls [])) → W p l e rmX14_headBytes s m args below meth c H locs 0 0 (MQ below (QIp G H Q) args s 0 0 (gA G)) (F0 m 10 ls []) := by
  have hx := C.1
  have hb := C.2.1
  have hown := C.2.2.2.2.2.1
  have hts := C.2.2.2.2.2.2.1
  intro n
  induction n with
  | zero =>
    intro x2 x4 hw
    exact False.elim hw
  | succ n ih =>
    intro x2 x4 hw locs ls hS hl hK63 hK79
    refine lv_iload hx hb dX14_headBytes_10 (lv_at hl 3 rfl) ?_
    refine lv_iload_n hx hb dX14_headBytes_12 rfl (lv_at hl 2 rfl) ?_
    refine lv_icmp_ge (tgt := 79) hx hb dX14_headBytes_13 (by decide) (fun h => ?_) (fun h => ?_)
    · have hw := hw.1 h
      exact hK79 hw locs ls hS (lv_sub hl [] rfl)
    have hw := hw.2 h
    refine lv_aload_n hx hb dX14_headBytes_16 rfl (lv_at hl 0 rfl) ?_
    refine lv_iload hx hb dX14_headBytes_17 (lv_at hl 3 rfl) ?_
    refine kc_ip (rn_sp (As := [.ref (ga G 15 o1), .int x4]) (rest := []) C hH hS (m14_byteAt l G a1 τ σ H o1 x4 ho1 _ hw) (va_cwS 2 hts (lw_S q2452 q2453 q171 q2454) rfl rfl rfl kX14_byteAt.2 ⟨Nat.le_of_ble_eq_true rfl, Nat.le_of_ble_eq_true rfl⟩) rfl hl.1 rfl (Nat.le_of_ble_eq_true rfl) dX14_headBytes_19 ⟨Nat.le_of_ble_eq_true rfl, Nat.le_of_ble_eq_true rfl⟩) hS (fun r2 locs hw hS => ?_)
    refine lv_bipush (v := 10) hx hb dX14_headBytes_22 (by decide) ?_
    refine lv_icmp_ne (tgt := 73) hx hb dX14_headBytes_24 (by decide) (fun h => ?_) (fun h => ?_)
    · have hw := hw.1 h
      refine lv_iinc (v := x4 + 1) (lv' := [(4, .int (x4 + 1)), (1, .ref (ga G 15 o1)), (2, .int x2), (3, .int x3)]) hx hb dX14_headBytes_73 hl (k := 3) rfl rfl (by decide) rfl (fun ls hl => ?_)
      refine lv_goto (tgt := 10) hx hb dX14_headBytes_76 (by decide) ?_
      exact ih x2 (x4 + 1) hw locs ls hS (lv_sub hl [1, 2, 3, 0] rfl) hK63 hK79
    have hw := hw.2 h
    refine lv_iload hx hb dX14_headBytes_27 (lv_at hl 3 rfl) ?_
    refine lv_iload_n hx hb dX14_headBytes_29 rfl (lv_at hl 1 rfl) ?_
    refine lv_icmp_eq (tgt := 51) hx hb dX14_headBytes_30 (by decide) (fun h => ?_) (fun h => ?_)
    · have hw := hw.1 h
      exact k14_headBytes_J51 C σ o1 x3 x4 ho1 hH hw locs ls hS (lv_sub hl [0, 2, 3] rfl) (fun x2z x4z hw locs ls hS hl => ih x2z x4z hw locs ls hS hl hK63 hK79) hK63
    have hw := hw.2 h
    refine lv_iload hx hb dX14_headBytes_33 (lv_at hl 3 rfl) ?_
    refine lv_iload_n hx hb dX14_headBytes_35 rfl (lv_at hl 1 rfl) ?_
    refine lv_iconst (v := 1) hx hb dX14_headBytes_36 (by decide) ?_
    refine lv_iadd hx hb dX14_headBytes_37 ?_
    refine lv_icmp_ne (tgt := 55) hx hb dX14_headBytes_38 (by decide) (fun h => ?_) (fun h => ?_)
    · have hw := hw.1 h
      exact k14_headBytes_J55 C σ o1 x3 x4 ho1 hH hw locs ls hS (lv_sub hl [0, 2, 3] rfl) (fun x2z x4z hw locs ls hS hl => ih x2z x4z hw locs ls hS hl hK63 hK79) hK63
    have hw := hw.2 h
    refine lv_aload_n hx hb dX14_headBytes_41 rfl (lv_at hl 0 rfl) ?_
    refine lv_iload_n hx hb dX14_headBytes_42 rfl (lv_at hl 1 rfl) ?_
    refine kc_ip (rn_sp (As := [.ref (ga G 15 o1), .int x2]) (rest := []) C hH hS (m14_byteAt l G a1 τ σ H o1 x2 ho1 _ hw) (va_cwS 2 hts (lw_S q2452 q2453 q171 q2454) rfl rfl rfl kX14_byteAt.2 ⟨Nat.le_of_ble_eq_true rfl, Nat.le_of_ble_eq_true rfl⟩) rfl hl.1 rfl (Nat.le_of_ble_eq_true rfl) dX14_headBytes_43 ⟨Nat.le_of_ble_eq_true rfl, Nat.le_of_ble_eq_true rfl⟩) hS (fun r3 locs hw hS => ?_)
    refine lv_bipush (v := 13) hx hb dX14_headBytes_46 (by decide) ?_
    refine lv_icmp_ne (tgt := 55) hx hb dX14_headBytes_48 (by decide) (fun h => ?_) (fun h => ?_)
    · have hw := hw.1 h
      exact k14_headBytes_J55 C σ o1 x3 x4 ho1 hH hw locs ls hS (lv_sub hl [0, 2, 3] rfl) (fun x2z x4z hw locs ls hS hl => ih x2z x4z hw locs ls hS hl hK63 hK79) hK63
    have hw := hw.2 h
    exact k14_headBytes_J51 C σ o1 x3 x4 ho1 hH hw locs ls hS (lv_sub hl [0, 2, 3] rfl) (fun x2z x4z hw locs ls hS hl => ih x2z x4z hw locs ls hS hl hK63 hK79) hK63
def w14_headBytes (σ : St) (o1 : Nat) (Q : Int32 → Prop) : Prop := w15_held σ o1 (fun r1 => (∃ z4, w14_headBytes_L10 σ o1 r1 Q (fun x4_5 => Q (x4_5 + 1)) (Q 0) z4 0 0))
set_option maxHeartbeats 4000000 in
theorem m14_headBytes (l : Launch) (G : Gh) (a1 : Nat → Nat → Nat) (τ : St) (σ : St) (H : Heap) (o1 : Nat) (ho1 : o1 < 16) (Q : Int32 → Prop) (hw : w14_headBytes σ o1 Q) : Met l yX14_headBytes (ws_ yX14_headBytes cX14_headBytes 6 (some .int)) rmX14_headBytes (PcP G a1 (cmb τ σ) H [.ref (ga G 14 0), .ref (ga G 15 o1)]) (QIp G H Q) 0 0 (gA G) := by
  refine met_p (by decide) (Nat.le_of_ble_eq_true rfl) ?_
  intro p e s m below meth c ls hHe C hH hS hl
  have C : Cx p e s m _ meth c cX14_headBytes 6 (some .int) "WebHostModel" G := C
  have hl : lv_has ls 6 [(0, .ref (ga G 14 0)), (1, .ref (ga G 15 o1))] := hl
  have hx := C.1
  have hb := C.2.1
  have hown := C.2.2.2.2.2.1
  have hts := C.2.2.2.2.2.2.1
  obtain ⟨locs, hlocs⟩ : ∃ z : List Loc, z = [] := ⟨_, rfl⟩
  rw [← hlocs] at hS ⊢
  refine lv_iconst (v := 0) hx hb dX14_headBytes_0 (by decide) ?_
  refine lv_istore_n (lv' := [(2, .int 0), (0, .ref (ga G 14 0)), (1, .ref (ga G 15 o1))]) hx hb dX14_headBytes_1 rfl hl (by decide) rfl (fun ls hl => ?_)
  refine lv_aload_n hx hb dX14_headBytes_2 rfl (lv_at hl 2 rfl) ?_
  refine kc_ip (rn_vp (As := []) (rest := []) C hH hS (by decide) rfl ho1 (m15_held l G a1 τ σ H o1 ho1 _ hw) (cwV 0 hts (lw_V q2443 q2236 q2237 q172 q2238) rfl rfl rfl kX15_held ⟨Nat.le_of_ble_eq_true rfl, Nat.le_of_ble_eq_true rfl⟩) rfl hl.1 rfl (Nat.le_of_ble_eq_true rfl) dX14_headBytes_3 ⟨Nat.le_of_ble_eq_true rfl, Nat.le_of_ble_eq_true rfl⟩) hS (fun r1 locs hw hS => ?_)
  refine lv_istore_n (lv' := [(3, .int r1), (2, .int 0), (0, .ref (ga G 14 0)), (1, .ref (ga G 15 o1))]) hx hb dX14_headBytes_6 rfl hl (by decide) rfl (fun ls hl => ?_)
  refine lv_iconst (v := 0) hx hb dX14_headBytes_7 (by decide) ?_
  refine lv_istore (lv' := [(4, .int 0), (3, .int r1), (2, .int 0), (0, .ref (ga G 14 0)), (1, .ref (ga G 15 o1))]) hx hb dX14_headBytes_8 hl (by decide) rfl (fun ls hl => ?_)
  obtain ⟨n4, hw⟩ := hw
  refine k14_headBytes_L10 C σ o1 r1 ho1 hH n4 0 0 hw locs ls hS (lv_sub hl [4, 2, 1, 0] rfl) (fun x4_5 hw locs ls hS hl => ?_) (fun hw locs ls hS hl => ?_)
  · refine lv_iload hx hb dX14_headBytes_63 (lv_at hl 0 rfl) ?_
    refine lv_iconst (v := 1) hx hb dX14_headBytes_65 (by decide) ?_
    refine lv_iadd hx hb dX14_headBytes_66 ?_
    exact rt_ip C rfl hS hw dX14_headBytes_67
  refine lv_iconst (v := 0) hx hb dX14_headBytes_79 (by decide) ?_
  exact rt_ip C rfl hS hw dX14_headBytes_80
/-! WebHostModel.isAcceptable(LWebHostModel$Connection;)Z -/
abbrev cX14_isAcceptable : ByteArray := prog_17_method_55_code
def yX14_isAcceptable : MethodName := ⟨RX14, "isAcceptable", "(LWebHostModel$Connection;)Z"⟩
theorem dX14_isAcceptable_0 : decode cX14_isAcceptable 0 = .ok (.aload_n 1, 1) := by decide +kernel
theorem dX14_isAcceptable_1 : decode cX14_isAcceptable 1 = .ok (.invokevirtual 339, 3) := by decide +kernel
theorem dX14_isAcceptable_4 : decode cX14_isAcceptable 4 = .ok (.istore_n 2, 1) := by decide +kernel
theorem dX14_isAcceptable_5 : decode cX14_isAcceptable 5 = .ok (.aload_n 0, 1) := by decide +kernel
theorem dX14_isAcceptable_6 : decode cX14_isAcceptable 6 = .ok (.invokevirtual 333, 3) := by decide +kernel
theorem dX14_isAcceptable_9 : decode cX14_isAcceptable 9 = .ok (.istore_n 3, 1) := by decide +kernel
theorem dX14_isAcceptable_10 : decode cX14_isAcceptable 10 = .ok (.iload_n 2, 1) := by decide +kernel
theorem dX14_isAcceptable_11 : decode cX14_isAcceptable 11 = .ok (.ifCond .ne 24, 3) := by decide +kernel
theorem dX14_isAcceptable_14 : decode cX14_isAcceptable 14 = .ok (.iload_n 3, 1) := by decide +kernel
theorem dX14_isAcceptable_15 : decode cX14_isAcceptable 15 = .ok (.ifCond .ne 18, 3) := by decide +kernel
theorem dX14_isAcceptable_18 : decode cX14_isAcceptable 18 = .ok (.aload_n 0, 1) := by decide +kernel
theorem dX14_isAcceptable_19 : decode cX14_isAcceptable 19 = .ok (.getfield 298, 3) := by decide +kernel
theorem dX14_isAcceptable_22 : decode cX14_isAcceptable 22 = .ok (.aload_n 1, 1) := by decide +kernel
theorem dX14_isAcceptable_23 : decode cX14_isAcceptable 23 = .ok (.getfield 348, 3) := by decide +kernel
theorem dX14_isAcceptable_26 : decode cX14_isAcceptable 26 = .ok (.if_icmp .ne 7, 3) := by decide +kernel
theorem dX14_isAcceptable_29 : decode cX14_isAcceptable 29 = .ok (.iconst 1, 1) := by decide +kernel
theorem dX14_isAcceptable_30 : decode cX14_isAcceptable 30 = .ok (.goto 4, 3) := by decide +kernel
theorem dX14_isAcceptable_33 : decode cX14_isAcceptable 33 = .ok (.iconst 0, 1) := by decide +kernel
theorem dX14_isAcceptable_34 : decode cX14_isAcceptable 34 = .ok (.ireturn, 1) := by decide +kernel
theorem dX14_isAcceptable_35 : decode cX14_isAcceptable 35 = .ok (.aload_n 0, 1) := by decide +kernel
theorem dX14_isAcceptable_36 : decode cX14_isAcceptable 36 = .ok (.getfield 298, 3) := by decide +kernel
theorem dX14_isAcceptable_39 : decode cX14_isAcceptable 39 = .ok (.iload_n 3, 1) := by decide +kernel
theorem dX14_isAcceptable_40 : decode cX14_isAcceptable 40 = .ok (.iadd, 1) := by decide +kernel
theorem dX14_isAcceptable_41 : decode cX14_isAcceptable 41 = .ok (.iconst 1, 1) := by decide +kernel
theorem dX14_isAcceptable_42 : decode cX14_isAcceptable 42 = .ok (.isub, 1) := by decide +kernel
theorem dX14_isAcceptable_43 : decode cX14_isAcceptable 43 = .ok (.istore 4, 2) := by decide +kernel
theorem dX14_isAcceptable_45 : decode cX14_isAcceptable 45 = .ok (.aload_n 1, 1) := by decide +kernel
theorem dX14_isAcceptable_46 : decode cX14_isAcceptable 46 = .ok (.aload_n 0, 1) := by decide +kernel
theorem dX14_isAcceptable_47 : decode cX14_isAcceptable 47 = .ok (.getfield 298, 3) := by decide +kernel
theorem dX14_isAcceptable_50 : decode cX14_isAcceptable 50 = .ok (.iload_n 2, 1) := by decide +kernel
theorem dX14_isAcceptable_51 : decode cX14_isAcceptable 51 = .ok (.invokestatic 488, 3) := by decide +kernel
theorem dX14_isAcceptable_54 : decode cX14_isAcceptable 54 = .ok (.ifCond .ne 17, 3) := by decide +kernel
theorem dX14_isAcceptable_57 : decode cX14_isAcceptable 57 = .ok (.iload_n 3, 1) := by decide +kernel
theorem dX14_isAcceptable_58 : decode cX14_isAcceptable 58 = .ok (.ifCond .le 17, 3) := by decide +kernel
theorem dX14_isAcceptable_61 : decode cX14_isAcceptable 61 = .ok (.aload_n 1, 1) := by decide +kernel
theorem dX14_isAcceptable_62 : decode cX14_isAcceptable 62 = .ok (.iload 4, 2) := by decide +kernel
theorem dX14_isAcceptable_64 : decode cX14_isAcceptable 64 = .ok (.iload_n 2, 1) := by decide +kernel
theorem dX14_isAcceptable_65 : decode cX14_isAcceptable 65 = .ok (.invokestatic 488, 3) := by decide +kernel
theorem dX14_isAcceptable_68 : decode cX14_isAcceptable 68 = .ok (.ifCond .eq 7, 3) := by decide +kernel
theorem dX14_isAcceptable_71 : decode cX14_isAcceptable 71 = .ok (.iconst 1, 1) := by decide +kernel
theorem dX14_isAcceptable_72 : decode cX14_isAcceptable 72 = .ok (.goto 4, 3) := by decide +kernel
theorem dX14_isAcceptable_75 : decode cX14_isAcceptable 75 = .ok (.iconst 0, 1) := by decide +kernel
theorem dX14_isAcceptable_76 : decode cX14_isAcceptable 76 = .ok (.ireturn, 1) := by decide +kernel
def rmX14_isAcceptable : Room := { frames := 2, cells := 0, slots := 0, locals := 43 }
theorem kX14_isAcceptable : yX14_isAcceptable.cls = "WebHostModel" ∧ yX14_isAcceptable.cls ≠ "java/lang/invoke/MethodHandle" ∧ yX14_isAcceptable.cls ≠ "java/lang/invoke/VarHandle" ∧ (parseMethodDescriptor yX14_isAcceptable.desc).map (fun d => d.parameters.length) = some 1 := by decide +kernel
def w14_isAcceptable (σ : St) (o1 : Nat) (Q : Int32 → Prop) : Prop := w15_open σ o1 (fun r1 => (w14_extent σ (fun r2 => ((¬ r1 = 0 → (w14_lies σ o1 (σ 14 0 34) r1 (fun r3 => ((¬ r3 = 0 → Q 1) ∧ (r3 = 0 → ((r2 ≤ 0 → Q 0) ∧ (¬ r2 ≤ 0 → (w14_lies σ o1 (((σ 14 0 34) + r2) - 1) r1 (fun r4 => ((r4 = 0 → Q 0) ∧ (¬ r4 = 0 → Q 1))))))))))) ∧ (r1 = 0 → ((¬ r2 = 0 → Q 0) ∧ (r2 = 0 → ((¬ (σ 14 0 34) = (σ 15 o1 36) → Q 0) ∧ ((σ 14 0 34) = (σ 15 o1 36) → Q 1)))))))))
set_option maxHeartbeats 4000000 in
theorem m14_isAcceptable (l : Launch) (G : Gh) (a1 : Nat → Nat → Nat) (τ : St) (σ : St) (H : Heap) (o1 : Nat) (ho1 : o1 < 16) (Q : Int32 → Prop) (hw : w14_isAcceptable σ o1 Q) : Met l yX14_isAcceptable (ws_ yX14_isAcceptable cX14_isAcceptable 5 (some .boolean)) rmX14_isAcceptable (PcP G a1 (cmb τ σ) H [.ref (ga G 14 0), .ref (ga G 15 o1)]) (QIp G H Q) 0 0 (gA G) := by
  refine met_p (by decide) (Nat.le_of_ble_eq_true rfl) ?_
  intro p e s m below meth c ls hHe C hH hS hl
  have C : Cx p e s m _ meth c cX14_isAcceptable 5 (some .boolean) "WebHostModel" G := C
  have hl : lv_has ls 5 [(0, .ref (ga G 14 0)), (1, .ref (ga G 15 o1))] := hl
  have hx := C.1
  have hb := C.2.1
  have hown := C.2.2.2.2.2.1
  have hts := C.2.2.2.2.2.2.1
  obtain ⟨locs, hlocs⟩ : ∃ z : List Loc, z = [] := ⟨_, rfl⟩
  rw [← hlocs] at hS ⊢
  refine lv_aload_n hx hb dX14_isAcceptable_0 rfl (lv_at hl 1 rfl) ?_
  refine kc_ip (rn_vp (As := []) (rest := []) C hH hS (by decide) rfl ho1 (m15_open l G a1 τ σ H o1 ho1 _ hw) (cwV 0 hts (lw_V q2231 q2232 q2233 q172 q2234) rfl rfl rfl kX15_open ⟨Nat.le_of_ble_eq_true rfl, Nat.le_of_ble_eq_true rfl⟩) rfl hl.1 rfl (Nat.le_of_ble_eq_true rfl) dX14_isAcceptable_1 ⟨Nat.le_of_ble_eq_true rfl, Nat.le_of_ble_eq_true rfl⟩) hS (fun r1 locs hw hS => ?_)
  refine lv_istore_n (lv' := [(2, .int r1), (0, .ref (ga G 14 0)), (1, .ref (ga G 15 o1))]) hx hb dX14_isAcceptable_4 rfl hl (by decide) rfl (fun ls hl => ?_)
  refine lv_aload_n hx hb dX14_isAcceptable_5 rfl (lv_at hl 1 rfl) ?_
  refine kc_ip (rn_vp (As := []) (rest := []) C hH hS (by decide) rfl (by decide) (m14_extent l G a1 τ σ H _ hw) (cwV 0 hts (lw_V q2381 q2383 qs118 q171 q2384) rfl rfl rfl kX14_extent ⟨Nat.le_of_ble_eq_true rfl, Nat.le_of_ble_eq_true rfl⟩) rfl hl.1 rfl (Nat.le_of_ble_eq_true rfl) dX14_isAcceptable_6 ⟨Nat.le_of_ble_eq_true rfl, Nat.le_of_ble_eq_true rfl⟩) hS (fun r2 locs hw hS => ?_)
  refine lv_istore_n (lv' := [(3, .int r2), (2, .int r1), (0, .ref (ga G 14 0)), (1, .ref (ga G 15 o1))]) hx hb dX14_isAcceptable_9 rfl hl (by decide) rfl (fun ls hl => ?_)
  refine lv_iload_n hx hb dX14_isAcceptable_10 rfl (lv_at hl 1 rfl) ?_
  refine lv_if_ne (tgt := 35) hx hb dX14_isAcceptable_11 (by decide) (fun h => ?_) (fun h => ?_)
  · have hw := hw.1 h
    refine lv_aload_n hx hb dX14_isAcceptable_35 rfl (lv_at hl 2 rfl) ?_
    refine g14_34 C hH q1974 dX14_isAcceptable_36 ?_
    refine lv_iload_n hx hb dX14_isAcceptable_39 rfl (lv_at hl 0 rfl) ?_
    refine lv_iadd hx hb dX14_isAcceptable_40 ?_
    refine lv_iconst (v := 1) hx hb dX14_isAcceptable_41 (by decide) ?_
    refine lv_isub hx hb dX14_isAcceptable_42 ?_
    refine lv_istore (lv' := [(4, .int (((σ 14 0 34) + r2) - 1)), (3, .int r2), (2, .int r1), (0, .ref (ga G 14 0)), (1, .ref (ga G 15 o1))]) hx hb dX14_isAcceptable_43 hl (by decide) rfl (fun ls hl => ?_)
    refine lv_aload_n hx hb dX14_isAcceptable_45 rfl (lv_at hl 4 rfl) ?_
    refine lv_aload_n hx hb dX14_isAcceptable_46 rfl (lv_at hl 3 rfl) ?_
    refine g14_34 C hH q1974 dX14_isAcceptable_47 ?_
    refine lv_iload_n hx hb dX14_isAcceptable_50 rfl (lv_at hl 2 rfl) ?_
    refine kc_ip (rn_sp (As := [.ref (ga G 15 o1), .int (σ 14 0 34), .int r1]) (rest := []) C hH hS (m14_lies l G a1 τ σ H o1 (σ 14 0 34) r1 ho1 _ hw) (va_cwS 3 hts (lw_S q2398 q2399 q171 q2400) rfl rfl rfl kX14_lies.2 ⟨Nat.le_of_ble_eq_true rfl, Nat.le_of_ble_eq_true rfl⟩) rfl hl.1 rfl (Nat.le_of_ble_eq_true rfl) dX14_isAcceptable_51 ⟨Nat.le_of_ble_eq_true rfl, Nat.le_of_ble_eq_true rfl⟩) hS (fun r3 locs hw hS => ?_)
    refine lv_if_ne (tgt := 71) hx hb dX14_isAcceptable_54 (by decide) (fun h => ?_) (fun h => ?_)
    · have hw := hw.1 h
      refine lv_iconst (v := 1) hx hb dX14_isAcceptable_71 (by decide) ?_
      refine lv_goto (tgt := 76) hx hb dX14_isAcceptable_72 (by decide) ?_
      exact rt_ip C rfl hS hw dX14_isAcceptable_76
    have hw := hw.2 h
    refine lv_iload_n hx hb dX14_isAcceptable_57 rfl (lv_at hl 1 rfl) ?_
    refine lv_if_le (tgt := 75) hx hb dX14_isAcceptable_58 (by decide) (fun h => ?_) (fun h => ?_)
    · have hw := hw.1 h
      refine lv_iconst (v := 0) hx hb dX14_isAcceptable_75 (by decide) ?_
      exact rt_ip C rfl hS hw dX14_isAcceptable_76
    have hw := hw.2 h
    refine lv_aload_n hx hb dX14_isAcceptable_61 rfl (lv_at hl 4 rfl) ?_
    refine lv_iload hx hb dX14_isAcceptable_62 (lv_at hl 0 rfl) ?_
    refine lv_iload_n hx hb dX14_isAcceptable_64 rfl (lv_at hl 2 rfl) ?_
    refine kc_ip (rn_sp (As := [.ref (ga G 15 o1), .int (((σ 14 0 34) + r2) - 1), .int r1]) (rest := []) C hH hS (m14_lies l G a1 τ σ H o1 (((σ 14 0 34) + r2) - 1) r1 ho1 _ hw) (va_cwS 3 hts (lw_S q2398 q2399 q171 q2400) rfl rfl rfl kX14_lies.2 ⟨Nat.le_of_ble_eq_true rfl, Nat.le_of_ble_eq_true rfl⟩) rfl hl.1 rfl (Nat.le_of_ble_eq_true rfl) dX14_isAcceptable_65 ⟨Nat.le_of_ble_eq_true rfl, Nat.le_of_ble_eq_true rfl⟩) hS (fun r4 locs hw hS => ?_)
    refine lv_if_eq (tgt := 75) hx hb dX14_isAcceptable_68 (by decide) (fun h => ?_) (fun h => ?_)
    · have hw := hw.1 h
      refine lv_iconst (v := 0) hx hb dX14_isAcceptable_75 (by decide) ?_
      exact rt_ip C rfl hS hw dX14_isAcceptable_76
    have hw := hw.2 h
    refine lv_iconst (v := 1) hx hb dX14_isAcceptable_71 (by decide) ?_
    refine lv_goto (tgt := 76) hx hb dX14_isAcceptable_72 (by decide) ?_
    exact rt_ip C rfl hS hw dX14_isAcceptable_76
  have hw := hw.2 h
  refine lv_iload_n hx hb dX14_isAcceptable_14 rfl (lv_at hl 0 rfl) ?_
  refine lv_if_ne (tgt := 33) hx hb dX14_isAcceptable_15 (by decide) (fun h => ?_) (fun h => ?_)
  · have hw := hw.1 h
    refine lv_iconst (v := 0) hx hb dX14_isAcceptable_33 (by decide) ?_
    exact rt_ip C rfl hS hw dX14_isAcceptable_34
  have hw := hw.2 h
  refine lv_aload_n hx hb dX14_isAcceptable_18 rfl (lv_at hl 2 rfl) ?_
  refine g14_34 C hH q1974 dX14_isAcceptable_19 ?_
  refine lv_aload_n hx hb dX14_isAcceptable_22 rfl (lv_at hl 3 rfl) ?_
  refine g15_36 C hH ho1 q1752 dX14_isAcceptable_23 ?_
  refine lv_icmp_ne (tgt := 33) hx hb dX14_isAcceptable_26 (by decide) (fun h => ?_) (fun h => ?_)
  · have hw := hw.1 h
    refine lv_iconst (v := 0) hx hb dX14_isAcceptable_33 (by decide) ?_
    exact rt_ip C rfl hS hw dX14_isAcceptable_34
  have hw := hw.2 h
  refine lv_iconst (v := 1) hx hb dX14_isAcceptable_29 (by decide) ?_
  refine lv_goto (tgt := 34) hx hb dX14_isAcceptable_30 (by decide) ?_
  exact rt_ip C rfl hS hw dX14_isAcceptable_34
/-! WebHostModel.isIdle(LWebHostModel$Connection;)Z -/
abbrev cX14_isIdle : ByteArray := prog_17_method_66_code
def yX14_isIdle : MethodName := ⟨RX14, "isIdle", "(LWebHostModel$Connection;)Z"⟩
theorem dX14_isIdle_0 : decode cX14_isIdle 0 = .ok (.aload_n 0, 1) := by decide +kernel
theorem dX14_isIdle_1 : decode cX14_isIdle 1 = .ok (.getfield 152, 3) := by decide +kernel
theorem dX14_isIdle_4 : decode cX14_isIdle 4 = .ok (.iconst 2, 1) := by decide +kernel
theorem dX14_isIdle_5 : decode cX14_isIdle 5 = .ok (.if_icmp .ne 36, 3) := by decide +kernel
theorem dX14_isIdle_8 : decode cX14_isIdle 8 = .ok (.aload_n 0, 1) := by decide +kernel
theorem dX14_isIdle_9 : decode cX14_isIdle 9 = .ok (.getfield 418, 3) := by decide +kernel
theorem dX14_isIdle_12 : decode cX14_isIdle 12 = .ok (.ifCond .ne 29, 3) := by decide +kernel
theorem dX14_isIdle_15 : decode cX14_isIdle 15 = .ok (.aload_n 0, 1) := by decide +kernel
theorem dX14_isIdle_16 : decode cX14_isIdle 16 = .ok (.getfield 428, 3) := by decide +kernel
theorem dX14_isIdle_19 : decode cX14_isIdle 19 = .ok (.aload_n 0, 1) := by decide +kernel
theorem dX14_isIdle_20 : decode cX14_isIdle 20 = .ok (.getfield 361, 3) := by decide +kernel
theorem dX14_isIdle_23 : decode cX14_isIdle 23 = .ok (.if_icmp .ne 18, 3) := by decide +kernel
theorem dX14_isIdle_26 : decode cX14_isIdle 26 = .ok (.aload_n 0, 1) := by decide +kernel
theorem dX14_isIdle_27 : decode cX14_isIdle 27 = .ok (.aload_n 0, 1) := by decide +kernel
theorem dX14_isIdle_28 : decode cX14_isIdle 28 = .ok (.getfield 345, 3) := by decide +kernel
theorem dX14_isIdle_31 : decode cX14_isIdle 31 = .ok (.invokevirtual 425, 3) := by decide +kernel
theorem dX14_isIdle_34 : decode cX14_isIdle 34 = .ok (.ifCond .ne 7, 3) := by decide +kernel
theorem dX14_isIdle_37 : decode cX14_isIdle 37 = .ok (.iconst 1, 1) := by decide +kernel
theorem dX14_isIdle_38 : decode cX14_isIdle 38 = .ok (.goto 4, 3) := by decide +kernel
theorem dX14_isIdle_41 : decode cX14_isIdle 41 = .ok (.iconst 0, 1) := by decide +kernel
theorem dX14_isIdle_42 : decode cX14_isIdle 42 = .ok (.ireturn, 1) := by decide +kernel
def rmX14_isIdle : Room := { frames := 2, cells := 0, slots := 0, locals := 41 }
theorem kX14_isIdle : yX14_isIdle.cls = "WebHostModel" ∧ yX14_isIdle.cls ≠ "java/lang/invoke/MethodHandle" ∧ yX14_isIdle.cls ≠ "java/lang/invoke/VarHandle" ∧ (parseMethodDescriptor yX14_isIdle.desc).map (fun d => d.parameters.length) = some 1 := by decide +kernel
def w14_isIdle (σ : St) (o0 : Nat) (Q : Int32 → Prop) : Prop := (¬ (σ 15 o0 0) = 2 → Q 0) ∧ ((σ 15 o0 0) = 2 → (bo (σ 15 o0 30) → ((¬ (σ 15 o0 30) = 0 → Q 0) ∧ ((σ 15 o0 30) = 0 → ((¬ (σ 15 o0 4) = (σ 15 o0 6) → Q 0) ∧ ((σ 15 o0 4) = (σ 15 o0 6) → (w15_left σ o0 (σ 15 o0 5) (fun r1 => ((¬ r1 = 0 → Q 0) ∧ (r1 = 0 → Q 1))))))))))
set_option maxHeartbeats 4000000 in
theorem m14_isIdle (l : Launch) (G : Gh) (a1 : Nat → Nat → Nat) (τ : St) (σ : St) (H : Heap) (o0 : Nat) (ho0 : o0 < 16) (Q : Int32 → Prop) (hw : w14_isIdle σ o0 Q) : Met l yX14_isIdle (ws_ yX14_isIdle cX14_isIdle 1 (some .boolean)) rmX14_isIdle (PcP G a1 (cmb τ σ) H [.ref (ga G 15 o0)]) (QIp G H Q) 0 0 (gA G) := by
  refine met_p (by decide) (Nat.le_of_ble_eq_true rfl) ?_
  intro p e s m below meth c ls hHe C hH hS hl
  have C : Cx p e s m _ meth c cX14_isIdle 1 (some .boolean) "WebHostModel" G := C
  have hl : lv_has ls 1 [(0, .ref (ga G 15 o0))] := hl
  have hx := C.1
  have hb := C.2.1
  have hown := C.2.2.2.2.2.1
  have hts := C.2.2.2.2.2.2.1
  obtain ⟨locs, hlocs⟩ : ∃ z : List Loc, z = [] := ⟨_, rfl⟩
  rw [← hlocs] at hS ⊢
  refine lv_aload_n hx hb dX14_isIdle_0 rfl (lv_at hl 0 rfl) ?_
  refine g15_0 C hH ho0 q1707 dX14_isIdle_1 ?_
  refine lv_iconst (v := 2) hx hb dX14_isIdle_4 (by decide) ?_
  refine lv_icmp_ne (tgt := 41) hx hb dX14_isIdle_5 (by decide) (fun h => ?_) (fun h => ?_)
  · have hw := hw.1 h
    refine lv_iconst (v := 0) hx hb dX14_isIdle_41 (by decide) ?_
    exact rt_ip C rfl hS hw dX14_isIdle_42
  have hw := hw.2 h
  refine lv_aload_n hx hb dX14_isIdle_8 rfl (lv_at hl 0 rfl) ?_
  refine g15_30 C hH ho0 q1742 dX14_isIdle_9 (fun hz => ?_)
  have hw := hw hz
  refine lv_if_ne (tgt := 41) hx hb dX14_isIdle_12 (by decide) (fun h => ?_) (fun h => ?_)
  · have hw := hw.1 h
    refine lv_iconst (v := 0) hx hb dX14_isIdle_41 (by decide) ?_
    exact rt_ip C rfl hS hw dX14_isIdle_42
  have hw := hw.2 h
  refine lv_aload_n hx hb dX14_isIdle_15 rfl (lv_at hl 0 rfl) ?_
  refine g15_4 C hH ho0 q1711 dX14_isIdle_16 ?_
  refine lv_aload_n hx hb dX14_isIdle_19 rfl (lv_at hl 0 rfl) ?_
  refine g15_6 C hH ho0 q1713 dX14_isIdle_20 ?_
  refine lv_icmp_ne (tgt := 41) hx hb dX14_isIdle_23 (by decide) (fun h => ?_) (fun h => ?_)
  · have hw := hw.1 h
    refine lv_iconst (v := 0) hx hb dX14_isIdle_41 (by decide) ?_
    exact rt_ip C rfl hS hw dX14_isIdle_42
  have hw := hw.2 h
  refine lv_aload_n hx hb dX14_isIdle_26 rfl (lv_at hl 0 rfl) ?_
  refine lv_aload_n hx hb dX14_isIdle_27 rfl (lv_at hl 0 rfl) ?_
  refine g15_5 C hH ho0 q1712 dX14_isIdle_28 ?_
  refine kc_ip (rn_vp (As := [.int (σ 15 o0 5)]) (rest := []) C hH hS (by decide) rfl ho0 (m15_left l G a1 τ σ H o0 (σ 15 o0 5) ho0 _ hw) (cwV 1 hts (lw_V q2193 q2194 q2195 q172 q2196) rfl rfl rfl kX15_left ⟨Nat.le_of_ble_eq_true rfl, Nat.le_of_ble_eq_true rfl⟩) rfl hl.1 rfl (Nat.le_of_ble_eq_true rfl) dX14_isIdle_31 ⟨Nat.le_of_ble_eq_true rfl, Nat.le_of_ble_eq_true rfl⟩) hS (fun r1 locs hw hS => ?_)
  refine lv_if_ne (tgt := 41) hx hb dX14_isIdle_34 (by decide) (fun h => ?_) (fun h => ?_)
  · have hw := hw.1 h
    refine lv_iconst (v := 0) hx hb dX14_isIdle_41 (by decide) ?_
    exact rt_ip C rfl hS hw dX14_isIdle_42
  have hw := hw.2 h
  refine lv_iconst (v := 1) hx hb dX14_isIdle_37 (by decide) ?_
  refine lv_goto (tgt := 42) hx hb dX14_isIdle_38 (by decide) ?_
  exact rt_ip C rfl hS hw dX14_isIdle_42
/-! WebHostModel.look(II)J -/
abbrev cX14_look : ByteArray := prog_17_method_116_code
def yX14_look : MethodName := ⟨RX14, "look", "(II)J"⟩
theorem dX14_look_0 : decode cX14_look 0 = .ok (.aload_n 0, 1) := by decide +kernel
theorem dX14_look_1 : decode cX14_look 1 = .ok (.iload_n 1, 1) := by decide +kernel
theorem dX14_look_2 : decode cX14_look 2 = .ok (.invokevirtual 868, 3) := by decide +kernel
theorem dX14_look_5 : decode cX14_look 5 = .ok (.ifCond .gt 7, 3) := by decide +kernel
theorem dX14_look_8 : decode cX14_look 8 = .ok (.ldc2_w 870, 3) := by decide +kernel
theorem dX14_look_11 : decode cX14_look 11 = .ok (.lreturn, 1) := by decide +kernel
theorem dX14_look_12 : decode cX14_look 12 = .ok (.aload_n 0, 1) := by decide +kernel
theorem dX14_look_13 : decode cX14_look 13 = .ok (.getfield 70, 3) := by decide +kernel
theorem dX14_look_16 : decode cX14_look 16 = .ok (.iload_n 1, 1) := by decide +kernel
theorem dX14_look_17 : decode cX14_look 17 = .ok (.aaload, 1) := by decide +kernel
theorem dX14_look_18 : decode cX14_look 18 = .ok (.astore_n 3, 1) := by decide +kernel
theorem dX14_look_19 : decode cX14_look 19 = .ok (.iload_n 2, 1) := by decide +kernel
theorem dX14_look_20 : decode cX14_look 20 = .ok (.tableswitch 202 0 14 #[76, 86, 92, 102, 112, 122, 132, 138, 144, 150, 156, 162, 168, 190, 196], 76) := by decide +kernel
theorem dX14_look_96 : decode cX14_look 96 = .ok (.aload_n 3, 1) := by decide +kernel
theorem dX14_look_97 : decode cX14_look 97 = .ok (.getfield 314, 3) := by decide +kernel
theorem dX14_look_100 : decode cX14_look 100 = .ok (.i2l, 1) := by decide +kernel
theorem dX14_look_101 : decode cX14_look 101 = .ok (.ldc2_w 872, 3) := by decide +kernel
theorem dX14_look_104 : decode cX14_look 104 = .ok (.land, 1) := by decide +kernel
theorem dX14_look_105 : decode cX14_look 105 = .ok (.lreturn, 1) := by decide +kernel
theorem dX14_look_106 : decode cX14_look 106 = .ok (.aload_n 3, 1) := by decide +kernel
theorem dX14_look_107 : decode cX14_look 107 = .ok (.getfield 315, 3) := by decide +kernel
theorem dX14_look_110 : decode cX14_look 110 = .ok (.i2l, 1) := by decide +kernel
theorem dX14_look_111 : decode cX14_look 111 = .ok (.lreturn, 1) := by decide +kernel
theorem dX14_look_112 : decode cX14_look 112 = .ok (.aload_n 3, 1) := by decide +kernel
theorem dX14_look_113 : decode cX14_look 113 = .ok (.getfield 428, 3) := by decide +kernel
theorem dX14_look_116 : decode cX14_look 116 = .ok (.i2l, 1) := by decide +kernel
theorem dX14_look_117 : decode cX14_look 117 = .ok (.ldc2_w 872, 3) := by decide +kernel
theorem dX14_look_120 : decode cX14_look 120 = .ok (.land, 1) := by decide +kernel
theorem dX14_look_121 : decode cX14_look 121 = .ok (.lreturn, 1) := by decide +kernel
theorem dX14_look_122 : decode cX14_look 122 = .ok (.aload_n 3, 1) := by decide +kernel
theorem dX14_look_123 : decode cX14_look 123 = .ok (.getfield 345, 3) := by decide +kernel
theorem dX14_look_126 : decode cX14_look 126 = .ok (.i2l, 1) := by decide +kernel
theorem dX14_look_127 : decode cX14_look 127 = .ok (.ldc2_w 872, 3) := by decide +kernel
theorem dX14_look_130 : decode cX14_look 130 = .ok (.land, 1) := by decide +kernel
theorem dX14_look_131 : decode cX14_look 131 = .ok (.lreturn, 1) := by decide +kernel
theorem dX14_look_132 : decode cX14_look 132 = .ok (.aload_n 3, 1) := by decide +kernel
theorem dX14_look_133 : decode cX14_look 133 = .ok (.getfield 361, 3) := by decide +kernel
theorem dX14_look_136 : decode cX14_look 136 = .ok (.i2l, 1) := by decide +kernel
theorem dX14_look_137 : decode cX14_look 137 = .ok (.ldc2_w 872, 3) := by decide +kernel
theorem dX14_look_140 : decode cX14_look 140 = .ok (.land, 1) := by decide +kernel
theorem dX14_look_141 : decode cX14_look 141 = .ok (.lreturn, 1) := by decide +kernel
theorem dX14_look_142 : decode cX14_look 142 = .ok (.aload_n 3, 1) := by decide +kernel
theorem dX14_look_143 : decode cX14_look 143 = .ok (.getfield 348, 3) := by decide +kernel
theorem dX14_look_146 : decode cX14_look 146 = .ok (.i2l, 1) := by decide +kernel
theorem dX14_look_147 : decode cX14_look 147 = .ok (.ldc2_w 872, 3) := by decide +kernel
theorem dX14_look_150 : decode cX14_look 150 = .ok (.land, 1) := by decide +kernel
theorem dX14_look_151 : decode cX14_look 151 = .ok (.lreturn, 1) := by decide +kernel
theorem dX14_look_152 : decode cX14_look 152 = .ok (.aload_n 3, 1) := by decide +kernel
theorem dX14_look_153 : decode cX14_look 153 = .ok (.getfield 434, 3) := by decide +kernel
theorem dX14_look_156 : decode cX14_look 156 = .ok (.i2l, 1) := by decide +kernel
theorem dX14_look_157 : decode cX14_look 157 = .ok (.lreturn, 1) := by decide +kernel
theorem dX14_look_158 : decode cX14_look 158 = .ok (.aload_n 3, 1) := by decide +kernel
theorem dX14_look_159 : decode cX14_look 159 = .ok (.getfield 431, 3) := by decide +kernel
theorem dX14_look_162 : decode cX14_look 162 = .ok (.i2l, 1) := by decide +kernel
theorem dX14_look_163 : decode cX14_look 163 = .ok (.lreturn, 1) := by decide +kernel
theorem dX14_look_164 : decode cX14_look 164 = .ok (.aload_n 3, 1) := by decide +kernel
theorem dX14_look_165 : decode cX14_look 165 = .ok (.getfield 457, 3) := by decide +kernel
theorem dX14_look_168 : decode cX14_look 168 = .ok (.i2l, 1) := by decide +kernel
theorem dX14_look_169 : decode cX14_look 169 = .ok (.lreturn, 1) := by decide +kernel
theorem dX14_look_170 : decode cX14_look 170 = .ok (.aload_n 3, 1) := by decide +kernel
theorem dX14_look_171 : decode cX14_look 171 = .ok (.getfield 382, 3) := by decide +kernel
theorem dX14_look_174 : decode cX14_look 174 = .ok (.i2l, 1) := by decide +kernel
theorem dX14_look_175 : decode cX14_look 175 = .ok (.lreturn, 1) := by decide +kernel
theorem dX14_look_176 : decode cX14_look 176 = .ok (.aload_n 3, 1) := by decide +kernel
theorem dX14_look_177 : decode cX14_look 177 = .ok (.getfield 405, 3) := by decide +kernel
theorem dX14_look_180 : decode cX14_look 180 = .ok (.i2l, 1) := by decide +kernel
theorem dX14_look_181 : decode cX14_look 181 = .ok (.lreturn, 1) := by decide +kernel
theorem dX14_look_182 : decode cX14_look 182 = .ok (.aload_n 3, 1) := by decide +kernel
theorem dX14_look_183 : decode cX14_look 183 = .ok (.invokevirtual 612, 3) := by decide +kernel
theorem dX14_look_186 : decode cX14_look 186 = .ok (.i2l, 1) := by decide +kernel
theorem dX14_look_187 : decode cX14_look 187 = .ok (.lreturn, 1) := by decide +kernel
theorem dX14_look_188 : decode cX14_look 188 = .ok (.aload_n 3, 1) := by decide +kernel
theorem dX14_look_189 : decode cX14_look 189 = .ok (.getfield 152, 3) := by decide +kernel
theorem dX14_look_192 : decode cX14_look 192 = .ok (.iconst 1, 1) := by decide +kernel
theorem dX14_look_193 : decode cX14_look 193 = .ok (.if_icmp .ne 7, 3) := by decide +kernel
theorem dX14_look_196 : decode cX14_look 196 = .ok (.lconst 0, 1) := by decide +kernel
theorem dX14_look_197 : decode cX14_look 197 = .ok (.goto 12, 3) := by decide +kernel
theorem dX14_look_200 : decode cX14_look 200 = .ok (.aload_n 3, 1) := by decide +kernel
theorem dX14_look_201 : decode cX14_look 201 = .ok (.aload_n 3, 1) := by decide +kernel
theorem dX14_look_202 : decode cX14_look 202 = .ok (.getfield 345, 3) := by decide +kernel
theorem dX14_look_205 : decode cX14_look 205 = .ok (.invokevirtual 425, 3) := by decide +kernel
theorem dX14_look_208 : decode cX14_look 208 = .ok (.i2l, 1) := by decide +kernel
theorem dX14_look_209 : decode cX14_look 209 = .ok (.lreturn, 1) := by decide +kernel
theorem dX14_look_210 : decode cX14_look 210 = .ok (.aload_n 3, 1) := by decide +kernel
theorem dX14_look_211 : decode cX14_look 211 = .ok (.getfield 466, 3) := by decide +kernel
theorem dX14_look_214 : decode cX14_look 214 = .ok (.i2l, 1) := by decide +kernel
theorem dX14_look_215 : decode cX14_look 215 = .ok (.lreturn, 1) := by decide +kernel
theorem dX14_look_216 : decode cX14_look 216 = .ok (.aload_n 3, 1) := by decide +kernel
theorem dX14_look_217 : decode cX14_look 217 = .ok (.getfield 469, 3) := by decide +kernel
theorem dX14_look_220 : decode cX14_look 220 = .ok (.i2l, 1) := by decide +kernel
theorem dX14_look_221 : decode cX14_look 221 = .ok (.lreturn, 1) := by decide +kernel
theorem dX14_look_222 : decode cX14_look 222 = .ok (.ldc2_w 870, 3) := by decide +kernel
theorem dX14_look_225 : decode cX14_look 225 = .ok (.lreturn, 1) := by decide +kernel
def rmX14_look : Room := { frames := 2, cells := 0, slots := 0, locals := 41 }
theorem kX14_look : yX14_look.cls = "WebHostModel" ∧ yX14_look.cls ≠ "java/lang/invoke/MethodHandle" ∧ yX14_look.cls ≠ "java/lang/invoke/VarHandle" ∧ (parseMethodDescriptor yX14_look.desc).map (fun d => d.parameters.length) = some 2 := by decide +kernel
def w14_look (σ : St) (x1 : Int32) (x2 : Int32) (Q : Int64 → Prop) : Prop := w14_state σ x1 (fun r1 => ((0 < r1 → (vp_in x1 16 ∧ ((x2 = 0 → (Q (((σ 15 x1.toNatClampNeg 1).toInt64) &&& 4294967295))) ∧ (¬ x2 = 0 → ((x2 = 1 → (Q ((σ 15 x1.toNatClampNeg 2).toInt64))) ∧ (¬ x2 = 1 → ((x2 = 2 → (Q (((σ 15 x1.toNatClampNeg 4).toInt64) &&& 4294967295))) ∧ (¬ x2 = 2 → ((x2 = 3 → (Q (((σ 15 x1.toNatClampNeg 5).toInt64) &&& 4294967295))) ∧ (¬ x2 = 3 → ((x2 = 4 → (Q (((σ 15 x1.toNatClampNeg 6).toInt64) &&& 4294967295))) ∧ (¬ x2 = 4 → ((x2 = 5 → (Q (((σ 15 x1.toNatClampNeg 36).toInt64) &&& 4294967295))) ∧ (¬ x2 = 5 → ((x2 = 6 → (Q ((σ 15 x1.toNatClampNeg 7).toInt64))) ∧ (¬ x2 = 6 → ((x2 = 7 → (Q ((σ 15 x1.toNatClampNeg 11).toInt64))) ∧ (¬ x2 = 7 → ((x2 = 8 → (Q ((σ 15 x1.toNatClampNeg 12).toInt64))) ∧ (¬ x2 = 8 → ((x2 = 9 → (Q ((σ 15 x1.toNatClampNeg 13).toInt64))) ∧ (¬ x2 = 9 → ((x2 = 10 → (Q ((σ 15 x1.toNatClampNeg 10).toInt64))) ∧ (¬ x2 = 10 → ((x2 = 11 → (w15_held σ x1.toNatClampNeg (fun r3 => (Q r3.toInt64)))) ∧ (¬ x2 = 11 → ((x2 = 12 → ((¬ (σ 15 x1.toNatClampNeg 0) = 1 → (w15_left σ x1.toNatClampNeg (σ 15 x1.toNatClampNeg 5) (fun r4 => (Q r4.toInt64)))) ∧ ((σ 15 x1.toNatClampNeg 0) = 1 → Q 0))) ∧ (¬ x2 = 12 → ((x2 = 13 → (Q ((σ 15 x1.toNatClampNeg 23).toInt64))) ∧ (¬ x2 = 13 → ((x2 = 14 → (Q ((σ 15 x1.toNatClampNeg 24).toInt64))) ∧ (¬ x2 = 14 → Q 4294967296)))))))))))))))))))))))))))))))) ∧ (¬ 0 < r1 → Q 4294967296)))
set_option maxHeartbeats 4000000 in
theorem m14_look (l : Launch) (G : Gh) (a1 : Nat → Nat → Nat) (τ : St) (σ : St) (H : Heap) (x1 : Int32) (x2 : Int32) (Q : Int64 → Prop) (hw : w14_look σ x1 x2 Q) : Met l yX14_look (ws_ yX14_look cX14_look 4 (some .long)) rmX14_look (PcP G a1 (cmb τ σ) H [.ref (ga G 14 0), .int x1, .int x2]) (QJp G H Q) 0 0 (gA G) := by
  refine met_p (by decide) (Nat.le_of_ble_eq_true rfl) ?_
  intro p e s m below meth c ls hHe C hH hS hl
  have C : Cx p e s m _ meth c cX14_look 4 (some .long) "WebHostModel" G := C
  have hl : lv_has ls 4 [(0, .ref (ga G 14 0)), (1, .int x1), (2, .int x2)] := hl
  have hx := C.1
  have hb := C.2.1
  have hown := C.2.2.2.2.2.1
  have hts := C.2.2.2.2.2.2.1
  obtain ⟨locs, hlocs⟩ : ∃ z : List Loc, z = [] := ⟨_, rfl⟩
  rw [← hlocs] at hS ⊢
  refine lv_aload_n hx hb dX14_look_0 rfl (lv_at hl 0 rfl) ?_
  refine lv_iload_n hx hb dX14_look_1 rfl (lv_at hl 1 rfl) ?_
  refine kc_ip (rn_vp (As := [.int x1]) (rest := []) C hH hS (by decide) rfl (by decide) (m14_state l G a1 τ σ H x1 _ hw) (cwV 1 hts (lw_V q2650 q2643 q2644 q171 q2645) rfl rfl rfl kX14_state ⟨Nat.le_of_ble_eq_true rfl, Nat.le_of_ble_eq_true rfl⟩) rfl hl.1 rfl (Nat.le_of_ble_eq_true rfl) dX14_look_2 ⟨Nat.le_of_ble_eq_true rfl, Nat.le_of_ble_eq_true rfl⟩) hS (fun r1 locs hw hS => ?_)
  refine lv_if_gt (tgt := 12) hx hb dX14_look_5 (by decide) (fun h => ?_) (fun h => ?_)
  · have hw := hw.1 h
    refine lv_aload_n hx hb dX14_look_12 rfl (lv_at hl 0 rfl) ?_
    refine g14_31 C hH q1971 dX14_look_13 ?_
    refine lv_iload_n hx hb dX14_look_16 rfl (lv_at hl 1 rfl) ?_
    have hq2 := vp_lt hw.1
    refine l65 C hH hw.1 dX14_look_17 ?_
    have hw := hw.2
    refine lv_astore_n (lv' := [(3, .ref (ga G 15 x1.toNatClampNeg)), (0, .ref (ga G 14 0)), (1, .int x1), (2, .int x2)]) hx hb dX14_look_18 rfl hl (by decide) rfl (fun ls hl => ?_)
    refine lv_iload_n hx hb dX14_look_19 rfl (lv_at hl 3 rfl) ?_
    by_cases hs0 : x2 = 0
    · have hw := hw.1 hs0
      refine lv_tableIn (off := 76) (tgt := 96) hx hb dX14_look_20 (by rw [hs0]; decide) (by rw [hs0]; decide) (by rw [hs0]; decide) (by decide) ?_
      refine lv_aload_n hx hb dX14_look_96 rfl (lv_at hl 0 rfl) ?_
      refine g15_1 C hH hq2 q1708 dX14_look_97 ?_
      refine lv_i2l (v := (σ 15 x1.toNatClampNeg 1).toInt64) hx hb dX14_look_100 rfl ?_
      refine lv_ldc2 (v := 4294967295) hx hb hown (hts _ q2652) dX14_look_101 ?_
      refine lv_land hx hb dX14_look_104 ?_
      exact rt_jp C hS hw dX14_look_105
    have hw := hw.2 hs0
    by_cases hs1 : x2 = 1
    · have hw := hw.1 hs1
      refine lv_tableIn (off := 86) (tgt := 106) hx hb dX14_look_20 (by rw [hs1]; decide) (by rw [hs1]; decide) (by rw [hs1]; decide) (by decide) ?_
      refine lv_aload_n hx hb dX14_look_106 rfl (lv_at hl 0 rfl) ?_
      refine g15_2 C hH hq2 q1709 dX14_look_107 ?_
      refine lv_i2l (v := (σ 15 x1.toNatClampNeg 2).toInt64) hx hb dX14_look_110 rfl ?_
      exact rt_jp C hS hw dX14_look_111
    have hw := hw.2 hs1
    by_cases hs2 : x2 = 2
    · have hw := hw.1 hs2
      refine lv_tableIn (off := 92) (tgt := 112) hx hb dX14_look_20 (by rw [hs2]; decide) (by rw [hs2]; decide) (by rw [hs2]; decide) (by decide) ?_
      refine lv_aload_n hx hb dX14_look_112 rfl (lv_at hl 0 rfl) ?_
      refine g15_4 C hH hq2 q1711 dX14_look_113 ?_
      refine lv_i2l (v := (σ 15 x1.toNatClampNeg 4).toInt64) hx hb dX14_look_116 rfl ?_
      refine lv_ldc2 (v := 4294967295) hx hb hown (hts _ q2652) dX14_look_117 ?_
      refine lv_land hx hb dX14_look_120 ?_
      exact rt_jp C hS hw dX14_look_121
    have hw := hw.2 hs2
    by_cases hs3 : x2 = 3
    · have hw := hw.1 hs3
      refine lv_tableIn (off := 102) (tgt := 122) hx hb dX14_look_20 (by rw [hs3]; decide) (by rw [hs3]; decide) (by rw [hs3]; decide) (by decide) ?_
      refine lv_aload_n hx hb dX14_look_122 rfl (lv_at hl 0 rfl) ?_
      refine g15_5 C hH hq2 q1712 dX14_look_123 ?_
      refine lv_i2l (v := (σ 15 x1.toNatClampNeg 5).toInt64) hx hb dX14_look_126 rfl ?_
      refine lv_ldc2 (v := 4294967295) hx hb hown (hts _ q2652) dX14_look_127 ?_
      refine lv_land hx hb dX14_look_130 ?_
      exact rt_jp C hS hw dX14_look_131
    have hw := hw.2 hs3
    by_cases hs4 : x2 = 4
    · have hw := hw.1 hs4
      refine lv_tableIn (off := 112) (tgt := 132) hx hb dX14_look_20 (by rw [hs4]; decide) (by rw [hs4]; decide) (by rw [hs4]; decide) (by decide) ?_
      refine lv_aload_n hx hb dX14_look_132 rfl (lv_at hl 0 rfl) ?_
      refine g15_6 C hH hq2 q1713 dX14_look_133 ?_
      refine lv_i2l (v := (σ 15 x1.toNatClampNeg 6).toInt64) hx hb dX14_look_136 rfl ?_
      refine lv_ldc2 (v := 4294967295) hx hb hown (hts _ q2652) dX14_look_137 ?_
      refine lv_land hx hb dX14_look_140 ?_
      exact rt_jp C hS hw dX14_look_141
    have hw := hw.2 hs4
    by_cases hs5 : x2 = 5
    · have hw := hw.1 hs5
      refine lv_tableIn (off := 122) (tgt := 142) hx hb dX14_look_20 (by rw [hs5]; decide) (by rw [hs5]; decide) (by rw [hs5]; decide) (by decide) ?_
      refine lv_aload_n hx hb dX14_look_142 rfl (lv_at hl 0 rfl) ?_
      refine g15_36 C hH hq2 q1752 dX14_look_143 ?_
      refine lv_i2l (v := (σ 15 x1.toNatClampNeg 36).toInt64) hx hb dX14_look_146 rfl ?_
      refine lv_ldc2 (v := 4294967295) hx hb hown (hts _ q2652) dX14_look_147 ?_
      refine lv_land hx hb dX14_look_150 ?_
      exact rt_jp C hS hw dX14_look_151
    have hw := hw.2 hs5
    by_cases hs6 : x2 = 6
    · have hw := hw.1 hs6
      refine lv_tableIn (off := 132) (tgt := 152) hx hb dX14_look_20 (by rw [hs6]; decide) (by rw [hs6]; decide) (by rw [hs6]; decide) (by decide) ?_
      refine lv_aload_n hx hb dX14_look_152 rfl (lv_at hl 0 rfl) ?_
      refine g15_7 C hH hq2 q1714 dX14_look_153 ?_
      refine lv_i2l (v := (σ 15 x1.toNatClampNeg 7).toInt64) hx hb dX14_look_156 rfl ?_
      exact rt_jp C hS hw dX14_look_157
    have hw := hw.2 hs6
    by_cases hs7 : x2 = 7
    · have hw := hw.1 hs7
      refine lv_tableIn (off := 138) (tgt := 158) hx hb dX14_look_20 (by rw [hs7]; decide) (by rw [hs7]; decide) (by rw [hs7]; decide) (by decide) ?_
      refine lv_aload_n hx hb dX14_look_158 rfl (lv_at hl 0 rfl) ?_
      refine g15_11 C hH hq2 q1718 dX14_look_159 ?_
      refine lv_i2l (v := (σ 15 x1.toNatClampNeg 11).toInt64) hx hb dX14_look_162 rfl ?_
      exact rt_jp C hS hw dX14_look_163
    have hw := hw.2 hs7
    by_cases hs8 : x2 = 8
    · have hw := hw.1 hs8
      refine lv_tableIn (off := 144) (tgt := 164) hx hb dX14_look_20 (by rw [hs8]; decide) (by rw [hs8]; decide) (by rw [hs8]; decide) (by decide) ?_
      refine lv_aload_n hx hb dX14_look_164 rfl (lv_at hl 0 rfl) ?_
      refine g15_12 C hH hq2 q1719 dX14_look_165 ?_
      refine lv_i2l (v := (σ 15 x1.toNatClampNeg 12).toInt64) hx hb dX14_look_168 rfl ?_
      exact rt_jp C hS hw dX14_look_169
    have hw := hw.2 hs8
    by_cases hs9 : x2 = 9
    · have hw := hw.1 hs9
      refine lv_tableIn (off := 150) (tgt := 170) hx hb dX14_look_20 (by rw [hs9]; decide) (by rw [hs9]; decide) (by rw [hs9]; decide) (by decide) ?_
      refine lv_aload_n hx hb dX14_look_170 rfl (lv_at hl 0 rfl) ?_
      refine g15_13 C hH hq2 q1720 dX14_look_171 ?_
      refine lv_i2l (v := (σ 15 x1.toNatClampNeg 13).toInt64) hx hb dX14_look_174 rfl ?_
      exact rt_jp C hS hw dX14_look_175
    have hw := hw.2 hs9
    by_cases hs10 : x2 = 10
    · have hw := hw.1 hs10
      refine lv_tableIn (off := 156) (tgt := 176) hx hb dX14_look_20 (by rw [hs10]; decide) (by rw [hs10]; decide) (by rw [hs10]; decide) (by decide) ?_
      refine lv_aload_n hx hb dX14_look_176 rfl (lv_at hl 0 rfl) ?_
      refine g15_10 C hH hq2 q1717 dX14_look_177 ?_
      refine lv_i2l (v := (σ 15 x1.toNatClampNeg 10).toInt64) hx hb dX14_look_180 rfl ?_
      exact rt_jp C hS hw dX14_look_181
    have hw := hw.2 hs10
    by_cases hs11 : x2 = 11
    · have hw := hw.1 hs11
      refine lv_tableIn (off := 162) (tgt := 182) hx hb dX14_look_20 (by rw [hs11]; decide) (by rw [hs11]; decide) (by rw [hs11]; decide) (by decide) ?_
      refine lv_aload_n hx hb dX14_look_182 rfl (lv_at hl 0 rfl) ?_
      refine kc_ip (rn_vp (As := []) (rest := []) C hH hS (by decide) rfl hq2 (m15_held l G a1 τ σ H x1.toNatClampNeg hq2 _ hw) (cwV 0 hts (lw_V q2443 q2236 q2237 q172 q2238) rfl rfl rfl kX15_held ⟨Nat.le_of_ble_eq_true rfl, Nat.le_of_ble_eq_true rfl⟩) rfl hl.1 rfl (Nat.le_of_ble_eq_true rfl) dX14_look_183 ⟨Nat.le_of_ble_eq_true rfl, Nat.le_of_ble_eq_true rfl⟩) hS (fun r3 locs hw hS => ?_)
      refine lv_i2l (v := r3.toInt64) hx hb dX14_look_186 rfl ?_
      exact rt_jp C hS hw dX14_look_187
    have hw := hw.2 hs11
    by_cases hs12 : x2 = 12
    · have hw := hw.1 hs12
      refine lv_tableIn (off := 168) (tgt := 188) hx hb dX14_look_20 (by rw [hs12]; decide) (by rw [hs12]; decide) (by rw [hs12]; decide) (by decide) ?_
      refine lv_aload_n hx hb dX14_look_188 rfl (lv_at hl 0 rfl) ?_
      refine g15_0 C hH hq2 q1707 dX14_look_189 ?_
      refine lv_iconst (v := 1) hx hb dX14_look_192 (by decide) ?_
      refine lv_icmp_ne (tgt := 200) hx hb dX14_look_193 (by decide) (fun h => ?_) (fun h => ?_)
      · have hw := hw.1 h
        refine lv_aload_n hx hb dX14_look_200 rfl (lv_at hl 0 rfl) ?_
        refine lv_aload_n hx hb dX14_look_201 rfl (lv_at hl 0 rfl) ?_
        refine g15_5 C hH hq2 q1712 dX14_look_202 ?_
        refine kc_ip (rn_vp (As := [.int (σ 15 x1.toNatClampNeg 5)]) (rest := []) C hH hS (by decide) rfl hq2 (m15_left l G a1 τ σ H x1.toNatClampNeg (σ 15 x1.toNatClampNeg 5) hq2 _ hw) (cwV 1 hts (lw_V q2193 q2194 q2195 q172 q2196) rfl rfl rfl kX15_left ⟨Nat.le_of_ble_eq_true rfl, Nat.le_of_ble_eq_true rfl⟩) rfl hl.1 rfl (Nat.le_of_ble_eq_true rfl) dX14_look_205 ⟨Nat.le_of_ble_eq_true rfl, Nat.le_of_ble_eq_true rfl⟩) hS (fun r4 locs hw hS => ?_)
        refine lv_i2l (v := r4.toInt64) hx hb dX14_look_208 rfl ?_
        exact rt_jp C hS hw dX14_look_209
      have hw := hw.2 h
      refine lv_lconst (v := 0) hx hb dX14_look_196 (by decide) ?_
      refine lv_goto (tgt := 209) hx hb dX14_look_197 (by decide) ?_
      exact rt_jp C hS hw dX14_look_209
    have hw := hw.2 hs12
    by_cases hs13 : x2 = 13
    · have hw := hw.1 hs13
      refine lv_tableIn (off := 190) (tgt := 210) hx hb dX14_look_20 (by rw [hs13]; decide) (by rw [hs13]; decide) (by rw [hs13]; decide) (by decide) ?_
      refine lv_aload_n hx hb dX14_look_210 rfl (lv_at hl 0 rfl) ?_
      refine g15_23 C hH hq2 q1730 dX14_look_211 ?_
      refine lv_i2l (v := (σ 15 x1.toNatClampNeg 23).toInt64) hx hb dX14_look_214 rfl ?_
      exact rt_jp C hS hw dX14_look_215
    have hw := hw.2 hs13
    by_cases hs14 : x2 = 14
    · have hw := hw.1 hs14
      refine lv_tableIn (off := 196) (tgt := 216) hx hb dX14_look_20 (by rw [hs14]; decide) (by rw [hs14]; decide) (by rw [hs14]; decide) (by decide) ?_
      refine lv_aload_n hx hb dX14_look_216 rfl (lv_at hl 0 rfl) ?_
      refine g15_24 C hH hq2 q1731 dX14_look_217 ?_
      refine lv_i2l (v := (σ 15 x1.toNatClampNeg 24).toInt64) hx hb dX14_look_220 rfl ?_
      exact rt_jp C hS hw dX14_look_221
    have hw := hw.2 hs14
    refine lv_tableOut (tgt := 222) hx hb dX14_look_20 (sw_out15 hs0 hs1 hs2 hs3 hs4 hs5 hs6 hs7 hs8 hs9 hs10 hs11 hs12 hs13 hs14) (by decide) ?_
    refine lv_ldc2 (v := 4294967296) hx hb hown (hts _ q2651) dX14_look_222 ?_
    exact rt_jp C hS hw dX14_look_225
  have hw := hw.2 h
  refine lv_ldc2 (v := 4294967296) hx hb hown (hts _ q2651) dX14_look_8 ?_
  exact rt_jp C hS hw dX14_look_11
/-! WebHostModel.pays(LWebHostModel$Connection;)V -/
abbrev cX14_pays : ByteArray := prog_17_method_42_code
def yX14_pays : MethodName := ⟨RX14, "pays", "(LWebHostModel$Connection;)V"⟩
theorem dX14_pays_0 : decode cX14_pays 0 = .ok (.aload_n 1, 1) := by decide +kernel
theorem dX14_pays_1 : decode cX14_pays 1 = .ok (.iconst 0, 1) := by decide +kernel
theorem dX14_pays_2 : decode cX14_pays 2 = .ok (.putfield 336, 3) := by decide +kernel
theorem dX14_pays_5 : decode cX14_pays 5 = .ok (.aload_n 1, 1) := by decide +kernel
theorem dX14_pays_6 : decode cX14_pays 6 = .ok (.aload_n 1, 1) := by decide +kernel
theorem dX14_pays_7 : decode cX14_pays 7 = .ok (.invokevirtual 339, 3) := by decide +kernel
theorem dX14_pays_10 : decode cX14_pays 10 = .ok (.putfield 342, 3) := by decide +kernel
theorem dX14_pays_13 : decode cX14_pays 13 = .ok (.return_, 1) := by decide +kernel
def rmX14_pays : Room := { frames := 2, cells := 0, slots := 0, locals := 40 }
theorem kX14_pays : yX14_pays.cls = "WebHostModel" ∧ yX14_pays.cls ≠ "java/lang/invoke/MethodHandle" ∧ yX14_pays.cls ≠ "java/lang/invoke/VarHandle" ∧ (parseMethodDescriptor yX14_pays.desc).map (fun d => d.parameters.length) = some 1 := by decide +kernel
def w14_pays (σ : St) (o1 : Nat) (Q : St → Prop) : Prop := ∀ σ1, σ1 = up3 σ 15 o1 39 0 → (w15_open σ1 o1 (fun r2 => (∀ σ3, σ3 = up3 σ1 15 o1 37 r2 → (Q σ3))))
set_option maxHeartbeats 4000000 in
theorem m14_pays (l : Launch) (G : Gh) (a1 : Nat → Nat → Nat) (τ : St) (σ : St) (o1 : Nat) (ho1 : o1 < 16) (Q : St → Prop) (hw : w14_pays σ o1 Q) : Met l yX14_pays (ws_ yX14_pays cX14_pays 2 none) rmX14_pays (PcS G a1 (cmb τ σ) [.ref (ga G 14 0), .ref (ga G 15 o1)]) (QVs G a1 (fun u => cmb τ u) Q) 0 0 (gA G) := by
  refine met_w (by decide) (Nat.le_of_ble_eq_true rfl) ?_
  intro p e s m below meth c ls C hH hS hl
  have C : Cx p e s m _ meth c cX14_pays 2 none "WebHostModel" G := C
  have hl : lv_has ls 2 [(0, .ref (ga G 14 0)), (1, .ref (ga G 15 o1))] := hl
  have hx := C.1
  have hb := C.2.1
  have hown := C.2.2.2.2.2.1
  have hts := C.2.2.2.2.2.2.1
  obtain ⟨locs, hlocs⟩ : ∃ z : List Loc, z = [] := ⟨_, rfl⟩
  obtain ⟨H, hHe⟩ : ∃ z : Heap, z = s.heap := ⟨_, rfl⟩
  have hH : Hd G a1 (cmb τ σ) H := by rw [hHe]; exact hH
  have hS : va_S (gA G) s.heap H locs := by rw [hHe, hlocs]; exact hS
  refine W.heap0 hHe.symm hlocs.symm ?_
  refine lv_aload_n hx hb dX14_pays_0 rfl (lv_at hl 1 rfl) ?_
  refine lv_iconst (v := 0) hx hb dX14_pays_1 (by decide) ?_
  refine p15_39 C hH hS ho1 (Or.inl rfl) q1755 dX14_pays_2 (fun σ1 e1 H locs hH hS => ?_)
  have hw := hw σ1 e1
  refine lv_aload_n hx hb dX14_pays_5 rfl (lv_at hl 1 rfl) ?_
  refine lv_aload_n hx hb dX14_pays_6 rfl (lv_at hl 1 rfl) ?_
  refine kc_ip (rn_vp (As := []) (rest := [.ref (ga G 15 o1)]) C hH hS (by decide) rfl ho1 (m15_open l G a1 τ σ1 H o1 ho1 _ hw) (cwV 0 hts (lw_V q2231 q2232 q2233 q172 q2234) rfl rfl rfl kX15_open ⟨Nat.le_of_ble_eq_true rfl, Nat.le_of_ble_eq_true rfl⟩) rfl hl.1 rfl (Nat.le_of_ble_eq_true rfl) dX14_pays_7 ⟨Nat.le_of_ble_eq_true rfl, Nat.le_of_ble_eq_true rfl⟩) hS (fun r2 locs hw hS => ?_)
  refine p15_37 C hH hS ho1 q1753 dX14_pays_10 (fun σ3 e3 H locs hH hS => ?_)
  have hw := hw σ3 e3
  exact rt_v C hH hS hw dX14_pays_13
/-! WebHostModel.remember(III)V -/
abbrev cX14_remember : ByteArray := prog_17_method_20_code
def yX14_remember : MethodName := ⟨RX14, "remember", "(III)V"⟩
theorem dX14_remember_0 : decode cX14_remember 0 = .ok (.aload_n 0, 1) := by decide +kernel
theorem dX14_remember_1 : decode cX14_remember 1 = .ok (.iload_n 1, 1) := by decide +kernel
theorem dX14_remember_2 : decode cX14_remember 2 = .ok (.invokevirtual 174, 3) := by decide +kernel
theorem dX14_remember_5 : decode cX14_remember 5 = .ok (.astore 4, 2) := by decide +kernel
theorem dX14_remember_7 : decode cX14_remember 7 = .ok (.aload 4, 2) := by decide +kernel
theorem dX14_remember_9 : decode cX14_remember 9 = .ok (.ifnonnull 87, 3) := by decide +kernel
theorem dX14_remember_12 : decode cX14_remember 12 = .ok (.aload_n 0, 1) := by decide +kernel
theorem dX14_remember_13 : decode cX14_remember 13 = .ok (.getfield 49, 3) := by decide +kernel
theorem dX14_remember_16 : decode cX14_remember 16 = .ok (.iconst 0, 1) := by decide +kernel
theorem dX14_remember_17 : decode cX14_remember 17 = .ok (.aaload, 1) := by decide +kernel
theorem dX14_remember_18 : decode cX14_remember 18 = .ok (.astore 4, 2) := by decide +kernel
theorem dX14_remember_20 : decode cX14_remember 20 = .ok (.iconst 1, 1) := by decide +kernel
theorem dX14_remember_21 : decode cX14_remember 21 = .ok (.istore 5, 2) := by decide +kernel
theorem dX14_remember_23 : decode cX14_remember 23 = .ok (.iload 5, 2) := by decide +kernel
theorem dX14_remember_25 : decode cX14_remember 25 = .ok (.bipush 16, 2) := by decide +kernel
theorem dX14_remember_27 : decode cX14_remember 27 = .ok (.if_icmp .ge 69, 3) := by decide +kernel
theorem dX14_remember_30 : decode cX14_remember 30 = .ok (.aload_n 0, 1) := by decide +kernel
theorem dX14_remember_31 : decode cX14_remember 31 = .ok (.getfield 49, 3) := by decide +kernel
theorem dX14_remember_34 : decode cX14_remember 34 = .ok (.iload 5, 2) := by decide +kernel
theorem dX14_remember_36 : decode cX14_remember 36 = .ok (.aaload, 1) := by decide +kernel
theorem dX14_remember_37 : decode cX14_remember 37 = .ok (.getfield 155, 3) := by decide +kernel
theorem dX14_remember_40 : decode cX14_remember 40 = .ok (.ifCond .ne 7, 3) := by decide +kernel
theorem dX14_remember_43 : decode cX14_remember 43 = .ok (.iconst 1, 1) := by decide +kernel
theorem dX14_remember_44 : decode cX14_remember 44 = .ok (.goto 4, 3) := by decide +kernel
theorem dX14_remember_47 : decode cX14_remember 47 = .ok (.iconst 0, 1) := by decide +kernel
theorem dX14_remember_48 : decode cX14_remember 48 = .ok (.istore 6, 2) := by decide +kernel
theorem dX14_remember_50 : decode cX14_remember 50 = .ok (.aload 4, 2) := by decide +kernel
theorem dX14_remember_52 : decode cX14_remember 52 = .ok (.getfield 155, 3) := by decide +kernel
theorem dX14_remember_55 : decode cX14_remember 55 = .ok (.ifCond .eq 35, 3) := by decide +kernel
theorem dX14_remember_58 : decode cX14_remember 58 = .ok (.iload 6, 2) := by decide +kernel
theorem dX14_remember_60 : decode cX14_remember 60 = .ok (.ifCond .ne 21, 3) := by decide +kernel
theorem dX14_remember_63 : decode cX14_remember 63 = .ok (.aload_n 0, 1) := by decide +kernel
theorem dX14_remember_64 : decode cX14_remember 64 = .ok (.getfield 49, 3) := by decide +kernel
theorem dX14_remember_67 : decode cX14_remember 67 = .ok (.iload 5, 2) := by decide +kernel
theorem dX14_remember_69 : decode cX14_remember 69 = .ok (.aaload, 1) := by decide +kernel
theorem dX14_remember_70 : decode cX14_remember 70 = .ok (.getfield 178, 3) := by decide +kernel
theorem dX14_remember_73 : decode cX14_remember 73 = .ok (.aload 4, 2) := by decide +kernel
theorem dX14_remember_75 : decode cX14_remember 75 = .ok (.getfield 178, 3) := by decide +kernel
theorem dX14_remember_78 : decode cX14_remember 78 = .ok (.if_icmp .ge 12, 3) := by decide +kernel
theorem dX14_remember_81 : decode cX14_remember 81 = .ok (.aload_n 0, 1) := by decide +kernel
theorem dX14_remember_82 : decode cX14_remember 82 = .ok (.getfield 49, 3) := by decide +kernel
theorem dX14_remember_85 : decode cX14_remember 85 = .ok (.iload 5, 2) := by decide +kernel
theorem dX14_remember_87 : decode cX14_remember 87 = .ok (.aaload, 1) := by decide +kernel
theorem dX14_remember_88 : decode cX14_remember 88 = .ok (.astore 4, 2) := by decide +kernel
theorem dX14_remember_90 : decode cX14_remember 90 = .ok (.iinc 5 1, 3) := by decide +kernel
theorem dX14_remember_93 : decode cX14_remember 93 = .ok (.goto (-70), 3) := by decide +kernel
theorem dX14_remember_96 : decode cX14_remember 96 = .ok (.aload 4, 2) := by decide +kernel
theorem dX14_remember_98 : decode cX14_remember 98 = .ok (.iconst 1, 1) := by decide +kernel
theorem dX14_remember_99 : decode cX14_remember 99 = .ok (.putfield 155, 3) := by decide +kernel
theorem dX14_remember_102 : decode cX14_remember 102 = .ok (.aload 4, 2) := by decide +kernel
theorem dX14_remember_104 : decode cX14_remember 104 = .ok (.iload_n 1, 1) := by decide +kernel
theorem dX14_remember_105 : decode cX14_remember 105 = .ok (.putfield 171, 3) := by decide +kernel
theorem dX14_remember_108 : decode cX14_remember 108 = .ok (.aload 4, 2) := by decide +kernel
theorem dX14_remember_110 : decode cX14_remember 110 = .ok (.iload_n 2, 1) := by decide +kernel
theorem dX14_remember_111 : decode cX14_remember 111 = .ok (.putfield 185, 3) := by decide +kernel
theorem dX14_remember_114 : decode cX14_remember 114 = .ok (.aload 4, 2) := by decide +kernel
theorem dX14_remember_116 : decode cX14_remember 116 = .ok (.iload_n 3, 1) := by decide +kernel
theorem dX14_remember_117 : decode cX14_remember 117 = .ok (.putfield 186, 3) := by decide +kernel
theorem dX14_remember_120 : decode cX14_remember 120 = .ok (.aload 4, 2) := by decide +kernel
theorem dX14_remember_122 : decode cX14_remember 122 = .ok (.aload_n 0, 1) := by decide +kernel
theorem dX14_remember_123 : decode cX14_remember 123 = .ok (.getfield 134, 3) := by decide +kernel
theorem dX14_remember_126 : decode cX14_remember 126 = .ok (.putfield 178, 3) := by decide +kernel
theorem dX14_remember_129 : decode cX14_remember 129 = .ok (.aload_n 0, 1) := by decide +kernel
theorem dX14_remember_130 : decode cX14_remember 130 = .ok (.iload_n 1, 1) := by decide +kernel
theorem dX14_remember_131 : decode cX14_remember 131 = .ok (.invokevirtual 187, 3) := by decide +kernel
theorem dX14_remember_134 : decode cX14_remember 134 = .ok (.astore 5, 2) := by decide +kernel
theorem dX14_remember_136 : decode cX14_remember 136 = .ok (.aload 5, 2) := by decide +kernel
theorem dX14_remember_138 : decode cX14_remember 138 = .ok (.ifnonnull 4, 3) := by decide +kernel
theorem dX14_remember_141 : decode cX14_remember 141 = .ok (.return_, 1) := by decide +kernel
theorem dX14_remember_142 : decode cX14_remember 142 = .ok (.aload 5, 2) := by decide +kernel
theorem dX14_remember_144 : decode cX14_remember 144 = .ok (.iconst 0, 1) := by decide +kernel
theorem dX14_remember_145 : decode cX14_remember 145 = .ok (.putfield 158, 3) := by decide +kernel
theorem dX14_remember_148 : decode cX14_remember 148 = .ok (.iconst 0, 1) := by decide +kernel
theorem dX14_remember_149 : decode cX14_remember 149 = .ok (.istore 6, 2) := by decide +kernel
theorem dX14_remember_151 : decode cX14_remember 151 = .ok (.iload 6, 2) := by decide +kernel
theorem dX14_remember_153 : decode cX14_remember 153 = .ok (.aload 5, 2) := by decide +kernel
theorem dX14_remember_155 : decode cX14_remember 155 = .ok (.getfield 191, 3) := by decide +kernel
theorem dX14_remember_158 : decode cX14_remember 158 = .ok (.if_icmp .ge 27, 3) := by decide +kernel
theorem dX14_remember_161 : decode cX14_remember 161 = .ok (.aload_n 0, 1) := by decide +kernel
theorem dX14_remember_162 : decode cX14_remember 162 = .ok (.getfield 34, 3) := by decide +kernel
theorem dX14_remember_165 : decode cX14_remember 165 = .ok (.bipush 14, 2) := by decide +kernel
theorem dX14_remember_167 : decode cX14_remember 167 = .ok (.iload 6, 2) := by decide +kernel
theorem dX14_remember_169 : decode cX14_remember 169 = .ok (.iadd, 1) := by decide +kernel
theorem dX14_remember_170 : decode cX14_remember 170 = .ok (.aload 5, 2) := by decide +kernel
theorem dX14_remember_172 : decode cX14_remember 172 = .ok (.getfield 194, 3) := by decide +kernel
theorem dX14_remember_175 : decode cX14_remember 175 = .ok (.iload 6, 2) := by decide +kernel
theorem dX14_remember_177 : decode cX14_remember 177 = .ok (.baload, 1) := by decide +kernel
theorem dX14_remember_178 : decode cX14_remember 178 = .ok (.bastore, 1) := by decide +kernel
theorem dX14_remember_179 : decode cX14_remember 179 = .ok (.iinc 6 1, 3) := by decide +kernel
theorem dX14_remember_182 : decode cX14_remember 182 = .ok (.goto (-31), 3) := by decide +kernel
theorem dX14_remember_185 : decode cX14_remember 185 = .ok (.aload_n 0, 1) := by decide +kernel
theorem dX14_remember_186 : decode cX14_remember 186 = .ok (.iload_n 2, 1) := by decide +kernel
theorem dX14_remember_187 : decode cX14_remember 187 = .ok (.iload_n 3, 1) := by decide +kernel
theorem dX14_remember_188 : decode cX14_remember 188 = .ok (.sipush 2048, 3) := by decide +kernel
theorem dX14_remember_191 : decode cX14_remember 191 = .ok (.aload 5, 2) := by decide +kernel
theorem dX14_remember_193 : decode cX14_remember 193 = .ok (.getfield 191, 3) := by decide +kernel
theorem dX14_remember_196 : decode cX14_remember 196 = .ok (.invokevirtual 197, 3) := by decide +kernel
theorem dX14_remember_199 : decode cX14_remember 199 = .ok (.return_, 1) := by decide +kernel
def rmX14_remember : Room := { frames := 2, cells := 0, slots := 0, locals := 51 }
theorem kX14_remember : yX14_remember.cls = "WebHostModel" ∧ yX14_remember.cls ≠ "java/lang/invoke/MethodHandle" ∧ yX14_remember.cls ≠ "java/lang/invoke/VarHandle" ∧ (parseMethodDescriptor yX14_remember.desc).map (fun d => d.parameters.length) = some 3 := by decide +kernel
def w14_remember_J48 (σ : St) (x1 : Int32) (x2 : Int32) (x3 : Int32) (o4 : Nat) (x5 : Int32) (xs0 : Int32) (Q : St → Prop) (K23 : Nat → Int32 → Prop) : Prop := bo (σ 16 o4 0) → (((σ 16 o4 0) = 0 → (K23 o4 (x5 + 1))) ∧ (¬ (σ 16 o4 0) = 0 → ((¬ xs0 = 0 → (vp_in x5 16 ∧ (K23 x5.toNatClampNeg (x5 + 1)))) ∧ (xs0 = 0 → (vp_in x5 16 ∧ (((σ 16 o4 4) ≤ (σ 16 x5.toNatClampNeg 4) → (K23 o4 (x5 + 1))) ∧ (¬ (σ 16 o4 4) ≤ (σ 16 x5.toNatClampNeg 4) → (vp_in x5 16 ∧ (K23 x5.toNatClampNeg (x5 + 1))))))))))
set_option maxHeartbeats 4000000 in
theorem k14_remember_J48 {p : Program} {l : Launch} {e : Env} {s : State} {m : MethodId} {args : Array Value} {below : List Frame} {meth : Method} {c : Code} {G : Gh} {a1 : Nat → Nat → Nat} {τ : St} {Q : St → Prop} {K23 : Nat → Int32 → Prop} (C : Cx p e s m args meth c cX14_remember 7 none "WebHostModel" G) (σ : St) (x1 : Int32) (x2 : Int32) (x3 : Int32) (o4 : Nat) (x5 : Int32) (xs0 : Int32) (ho4 : o4 < 16) (hw : w14_remember_J48 σ x1 x2 x3 o4 x5 xs0 Q K23) (H : Heap) (locs : List Loc) (ls : Array Slot) (hH : Hd G a1 (cmb τ σ) H) (hS : va_S (gA G) s.heap H locs) (hl : lv_has ls 7 [(0, .ref (ga G 14 0)), (1, .int x1), (2, .int x2), (3, .int x3), (4, .ref (ga G 16 o4)), (5, .int x5)]) (hK23 : ∀ (o4 : Nat) (x5 : Int32) (ho4 : o4 < 16), K23 o4 x5 → ∀ (H : Heap) (locs : List Loc) (ls : Array Slot), Hd G a1 (cmb τ σ) H → va_S (gA G) s.heap H locs → lv_has ls 7 [(0, .ref (ga G 14 0)), (1, .int x1), (2, .int x2), (3, .int x3), (4, .ref (ga G 16 o4)), (5, .int x5)] → W p l e rmX14_remember s m args below meth c H locs 0 0 (MQ below (QVs G a1 (fun u => cmb τ u) Q) args s 0 0 (gA G)) (F0 m 23 ls [])) : W p l e rmX14_remember s m args below meth c H locs 0 0 (MQ below (QVs G a1 (fun u => cmb τ u) Q) args s 0 0 (gA G)) (F0 m 48 ls [.int xs0]) := by
  have hx := C.1
  have hb := C.2.1
  have hown := C.2.2.2.2.2.1
  have hts := C.2.2.2.2.2.2.1
  refine lv_istore (lv' := [(6, .int xs0), (0, .ref (ga G 14 0)), (1, .int x1), (2, .int x2), (3, .int x3), (4, .ref (ga G 16 o4)), (5, .int x5)]) hx hb dX14_remember_48 hl (by decide) rfl (fun ls hl => ?_)
  refine lv_aload hx hb dX14_remember_50 (lv_at hl 5 rfl) ?_
  refine g16_0 C hH ho4 q1861 dX14_remember_52 (fun hz => ?_)
  have hw := hw hz
  refine lv_if_eq (tgt := 90) hx hb dX14_remember_55 (by decide) (fun h => ?_) (fun h => ?_)
  · have hw := hw.1 h
    refine lv_iinc (v := x5 + 1) (lv' := [(5, .int (x5 + 1)), (6, .int xs0), (0, .ref (ga G 14 0)), (1, .int x1), (2, .int x2), (3, .int x3), (4, .ref (ga G 16 o4))]) hx hb dX14_remember_90 hl (k := 6) rfl rfl (by decide) rfl (fun ls hl => ?_)
    refine lv_goto (tgt := 23) hx hb dX14_remember_93 (by decide) ?_
    exact hK23 o4 (x5 + 1) ho4 hw H locs ls hH hS (lv_sub hl [2, 3, 4, 5, 6, 0] rfl)
  have hw := hw.2 h
  refine lv_iload hx hb dX14_remember_58 (lv_at hl 0 rfl) ?_
  refine lv_if_ne (tgt := 81) hx hb dX14_remember_60 (by decide) (fun h => ?_) (fun h => ?_)
  · have hw := hw.1 h
    refine lv_aload_n hx hb dX14_remember_81 rfl (lv_at hl 1 rfl) ?_
    refine g14_26 C hH q1966 dX14_remember_82 ?_
    refine lv_iload hx hb dX14_remember_85 (lv_at hl 6 rfl) ?_
    have hq5 := vp_lt hw.1
    refine l61 C hH hw.1 dX14_remember_87 ?_
    have hw := hw.2
    refine lv_astore (lv' := [(4, .ref (ga G 16 x5.toNatClampNeg)), (6, .int xs0), (0, .ref (ga G 14 0)), (1, .int x1), (2, .int x2), (3, .int x3), (5, .int x5)]) hx hb dX14_remember_88 hl (by decide) rfl (fun ls hl => ?_)
    refine lv_iinc (v := x5 + 1) (lv' := [(5, .int (x5 + 1)), (4, .ref (ga G 16 x5.toNatClampNeg)), (6, .int xs0), (0, .ref (ga G 14 0)), (1, .int x1), (2, .int x2), (3, .int x3)]) hx hb dX14_remember_90 hl (k := 6) rfl rfl (by decide) rfl (fun ls hl => ?_)
    refine lv_goto (tgt := 23) hx hb dX14_remember_93 (by decide) ?_
    exact hK23 x5.toNatClampNeg (x5 + 1) hq5 hw H locs ls hH hS (lv_sub hl [3, 4, 5, 6, 1, 0] rfl)
  have hw := hw.2 h
  refine lv_aload_n hx hb dX14_remember_63 rfl (lv_at hl 1 rfl) ?_
  refine g14_26 C hH q1966 dX14_remember_64 ?_
  refine lv_iload hx hb dX14_remember_67 (lv_at hl 6 rfl) ?_
  have hq6 := vp_lt hw.1
  refine l61 C hH hw.1 dX14_remember_69 ?_
  have hw := hw.2
  refine g16_4 C hH hq6 q1865 dX14_remember_70 ?_
  refine lv_aload hx hb dX14_remember_73 (lv_at hl 5 rfl) ?_
  refine g16_4 C hH ho4 q1865 dX14_remember_75 ?_
  refine lv_icmp_ge (tgt := 90) hx hb dX14_remember_78 (by decide) (fun h => ?_) (fun h => ?_)
  · have hw := hw.1 h
    refine lv_iinc (v := x5 + 1) (lv' := [(5, .int (x5 + 1)), (6, .int xs0), (0, .ref (ga G 14 0)), (1, .int x1), (2, .int x2), (3, .int x3), (4, .ref (ga G 16 o4))]) hx hb dX14_remember_90 hl (k := 6) rfl rfl (by decide) rfl (fun ls hl => ?_)
    refine lv_goto (tgt := 23) hx hb dX14_remember_93 (by decide) ?_
    exact hK23 o4 (x5 + 1) ho4 hw H locs ls hH hS (lv_sub hl [2, 3, 4, 5, 6, 0] rfl)
  have hw := hw.2 h
  refine lv_aload_n hx hb dX14_remember_81 rfl (lv_at hl 1 rfl) ?_
  refine g14_26 C hH q1966 dX14_remember_82 ?_
  refine lv_iload hx hb dX14_remember_85 (lv_at hl 6 rfl) ?_
  have hq7 := vp_lt hw.1
  refine l61 C hH hw.1 dX14_remember_87 ?_
  have hw := hw.2
  refine lv_astore (lv' := [(4, .ref (ga G 16 x5.toNatClampNeg)), (6, .int xs0), (0, .ref (ga G 14 0)), (1, .int x1), (2, .int x2), (3, .int x3), (5, .int x5)]) hx hb dX14_remember_88 hl (by decide) rfl (fun ls hl => ?_)
  refine lv_iinc (v := x5 + 1) (lv' := [(5, .int (x5 + 1)), (4, .ref (ga G 16 x5.toNatClampNeg)), (6, .int xs0), (0, .ref (ga G 14 0)), (1, .int x1), (2, .int x2), (3, .int x3)]) hx hb dX14_remember_90 hl (k := 6) rfl rfl (by decide) rfl (fun ls hl => ?_)
  refine lv_goto (tgt := 23) hx hb dX14_remember_93 (by decide) ?_
  exact hK23 x5.toNatClampNeg (x5 + 1) hq7 hw H locs ls hH hS (lv_sub hl [3, 4, 5, 6, 1, 0] rfl)
def w14_remember_L23 (σ : St) (x1 : Int32) (x2 : Int32) (x3 : Int32) (Q : St → Prop) (K96 : Nat → Prop) : Nat → Nat → Int32 → Prop
  | 0, _, _ => False
  | n + 1, o4, x5 => (16 ≤ x5 → K96 o4) ∧ (¬ 16 ≤ x5 → (vp_in x5 16 ∧ (bo (σ 16 x5.toNatClampNeg 0) → ((¬ (σ 16 x5.toNatClampNeg 0) = 0 → (w14_remember_J48 σ x1 x2 x3 o4 x5 0 Q (fun o4z x5z => w14_remember_L23 σ x1 x2 x3 Q K96 n o4z x5z))) ∧ ((σ 16 x5.toNatClampNeg 0) = 0 → (w14_remember_J48 σ x1 x2 x3 o4 x5 1 Q (fun o4z x5z => w14_remember_L23 σ x1 x2 x3 Q K96 n o4z x5z)))))))
set_option maxHeartbeats 4000000 in
theorem k14_remember_L23 {p : Program} {l : Launch} {e : Env} {s : State} {m : MethodId} {args : Array Value} {below : List Frame} {meth : Method} {c : Code} {G : Gh} {a1 : Nat → Nat → Nat} {τ : St} {Q : St → Prop} {K96 : Nat → Prop} (C : Cx p e s m args meth c cX14_remember 7 none "WebHostModel" G) (σ : St) (x1 : Int32) (x2 : Int32) (x3 : Int32) :
    ∀ (n : Nat) (o4 : Nat) (x5 : Int32) (ho4 : o4 < 16), w14_remember_L23 σ x1 x2 x3 Q K96 n o4 x5 → ∀ (H : Heap) (locs : List Loc) (ls : Array Slot), Hd G a1 (cmb τ σ) H → va_S (gA G) s.heap H locs → lv_has ls 7 [(0, .ref (ga G 14 0)), (1, .int x1), (2, .int x2), (3, .int x3), (4, .ref (ga G 16 o4)), (5, .int x5)] → (∀ (o4 : Nat) (ho4 : o4 < 16), K96 o4 → ∀ (H : Heap) (locs : List Loc) (ls : Array Slot), Hd G a1 (cmb τ σ) H → va_S (gA G) s.heap H locs → lv_has ls 7 [(0, .ref (ga G 14 0)), (1, .int x1), (2, .int x2), (3, .int x3), (4, .ref (ga G 16 o4))] → W p l e rmX14_remember s m args below meth c H locs 0 0 (MQ below (QVs G a1 (fun u => cmb τ u) Q) args s 0 0 (gA G)) (F0 m 96 ls [])) → W p l e rmX14_remember s m args below meth c H locs 0 0 (MQ below (QVs G a1 (fun u => cmb τ u) Q) args s 0 0 (gA G)) (F0 m 23 ls []) := by
  have hx := C.1
  have hb := C.2.1
  have hown := C.2.2.2.2.2.1
  have hts := C.2.2.2.2.2.2.1
  intro n
  induction n with
  | zero =>
    intro o4 x5 ho4 hw
    exact False.elim hw
  | succ n ih =>
    intro o4 x5 ho4 hw H locs ls hH hS hl hK96
    refine lv_iload hx hb dX14_remember_23 (lv_at hl 5 rfl) ?_
    refine lv_bipush (v := 16) hx hb dX14_remember_25 (by decide) ?_
    refine lv_icmp_ge (tgt := 96) hx hb dX14_remember_27 (by decide) (fun h => ?_) (fun h => ?_)
    · have hw := hw.1 h
      exact hK96 o4 ho4 hw H locs ls hH hS (lv_sub hl [0, 1, 2, 3, 4] rfl)
    have hw := hw.2 h
    refine lv_aload_n hx hb dX14_remember_30 rfl (lv_at hl 0 rfl) ?_
    refine g14_26 C hH q1966 dX14_remember_31 ?_
    refine lv_iload hx hb dX14_remember_34 (lv_at hl 5 rfl) ?_
    have hq4 := vp_lt hw.1
    refine l61 C hH hw.1 dX14_remember_36 ?_
    have hw := hw.2
    refine g16_0 C hH hq4 q1861 dX14_remember_37 (fun hz => ?_)
    have hw := hw hz
    refine lv_if_ne (tgt := 47) hx hb dX14_remember_40 (by decide) (fun h => ?_) (fun h => ?_)
    · have hw := hw.1 h
      refine lv_iconst (v := 0) hx hb dX14_remember_47 (by decide) ?_
      exact k14_remember_J48 C σ x1 x2 x3 o4 x5 0 ho4 hw H locs ls hH hS (lv_sub hl [0, 1, 2, 3, 4, 5] rfl) (fun o4z x5z ho4z hw H locs ls hH hS hl => ih o4z x5z ho4z hw H locs ls hH hS hl hK96)
    have hw := hw.2 h
    refine lv_iconst (v := 1) hx hb dX14_remember_43 (by decide) ?_
    refine lv_goto (tgt := 48) hx hb dX14_remember_44 (by decide) ?_
    exact k14_remember_J48 C σ x1 x2 x3 o4 x5 1 ho4 hw H locs ls hH hS (lv_sub hl [0, 1, 2, 3, 4, 5] rfl) (fun o4z x5z ho4z hw H locs ls hH hS hl => ih o4z x5z ho4z hw H locs ls hH hS hl hK96)
def w14_remember_L151 (x2 : Int32) (x3 : Int32) (o5 : Nat) (Q : St → Prop) (K185 : St → Prop) : Nat → St → Int32 → Prop
  | 0, _, _ => False
  | n + 1, σ, x6 => ((σ 17 o5 2) ≤ x6 → K185 σ) ∧ (¬ (σ 17 o5 2) ≤ x6 → (vp_in x6 1500 ∧ (by8 (σ 68 o5 x6.toNatClampNeg) → (vp_in (14 + x6) 1514 ∧ (∀ σ18, σ18 = up3 σ 57 0 (14 + x6).toNatClampNeg (σ 68 o5 x6.toNatClampNeg).toInt8.toInt32 → (w14_remember_L151 x2 x3 o5 Q K185 n σ18 (x6 + 1)))))))
set_option maxHeartbeats 4000000 in
theorem k14_remember_L151 {p : Program} {l : Launch} {e : Env} {s : State} {m : MethodId} {args : Array Value} {below : List Frame} {meth : Method} {c : Code} {G : Gh} {a1 : Nat → Nat → Nat} {τ : St} {Q : St → Prop} {K185 : St → Prop} (C : Cx p e s m args meth c cX14_remember 7 none "WebHostModel" G) (x2 : Int32) (x3 : Int32) (o5 : Nat) (ho5 : o5 < 8) :
    ∀ (n : Nat) (σ : St) (x6 : Int32), w14_remember_L151 x2 x3 o5 Q K185 n σ x6 → ∀ (H : Heap) (locs : List Loc) (ls : Array Slot), Hd G a1 (cmb τ σ) H → va_S (gA G) s.heap H locs → lv_has ls 7 [(0, .ref (ga G 14 0)), (2, .int x2), (3, .int x3), (5, .ref (ga G 17 o5)), (6, .int x6)] → (∀ (σ : St) , K185 σ → ∀ (H : Heap) (locs : List Loc) (ls : Array Slot), Hd G a1 (cmb τ σ) H → va_S (gA G) s.heap H locs → lv_has ls 7 [(0, .ref (ga G 14 0)), (2, .int x2), (3, .int x3), (5, .ref (ga G 17 o5))] → W p l e rmX14_remember s m args below meth c H locs 0 0 (MQ below (QVs G a1 (fun u => cmb τ u) Q) args s 0 0 (gA G)) (F0 m 185 ls [])) → W p l e rmX14_remember s m args below meth c H locs 0 0 (MQ below (QVs G a1 (fun u => cmb τ u) Q) args s 0 0 (gA G)) (F0 m 151 ls []) := by
  have hx := C.1
  have hb := C.2.1
  have hown := C.2.2.2.2.2.1
  have hts := C.2.2.2.2.2.2.1
  intro n
  induction n with
  | zero =>
    intro σ x6 hw
    exact False.elim hw
  | succ n ih =>
    intro σ x6 hw H locs ls hH hS hl hK185
    refine lv_iload hx hb dX14_remember_151 (lv_at hl 4 rfl) ?_
    refine lv_aload hx hb dX14_remember_153 (lv_at hl 3 rfl) ?_
    refine g17_2 C hH ho5 q1884 dX14_remember_155 ?_
    refine lv_icmp_ge (tgt := 185) hx hb dX14_remember_158 (by decide) (fun h => ?_) (fun h => ?_)
    · have hw := hw.1 h
      exact hK185 σ hw H locs ls hH hS (lv_sub hl [0, 1, 2, 3] rfl)
    have hw := hw.2 h
    refine lv_aload_n hx hb dX14_remember_161 rfl (lv_at hl 0 rfl) ?_
    refine g14_19 C hH q1959 dX14_remember_162 ?_
    refine lv_bipush (v := 14) hx hb dX14_remember_165 (by decide) ?_
    refine lv_iload hx hb dX14_remember_167 (lv_at hl 4 rfl) ?_
    refine lv_iadd hx hb dX14_remember_169 ?_
    refine lv_aload hx hb dX14_remember_170 (lv_at hl 3 rfl) ?_
    refine g17_6 C hH ho5 q1889 dX14_remember_172 ?_
    refine lv_iload hx hb dX14_remember_175 (lv_at hl 4 rfl) ?_
    refine l68 C hH ho5 hw.1 dX14_remember_177 (fun hz => ?_)
    have hw := hw.2 hz
    refine s57 C hH hS hw.1 dX14_remember_178 (fun σ18 e18 H locs hH hS => ?_)
    have hw := hw.2 σ18 e18
    refine lv_iinc (v := x6 + 1) (lv' := [(6, .int (x6 + 1)), (0, .ref (ga G 14 0)), (2, .int x2), (3, .int x3), (5, .ref (ga G 17 o5))]) hx hb dX14_remember_179 hl (k := 4) rfl rfl (by decide) rfl (fun ls hl => ?_)
    refine lv_goto (tgt := 151) hx hb dX14_remember_182 (by decide) ?_
    exact ih σ18 (x6 + 1) hw H locs ls hH hS (lv_sub hl [1, 2, 3, 4, 0] rfl) hK185
def w14_remember_J96 (σ : St) (x1 : Int32) (x2 : Int32) (x3 : Int32) (o4 : Nat) (Q : St → Prop) : Prop := ∀ σ10, σ10 = up3 σ 16 o4 0 1 → (∀ σ11, σ11 = up3 σ10 16 o4 1 x1 → (∀ σ12, σ12 = up3 σ11 16 o4 2 x2 → (∀ σ13, σ13 = up3 σ12 16 o4 3 x3 → (∀ σ14, σ14 = up3 σ13 16 o4 4 (σ13 14 0 10) → (w14_packet σ14 x1 (fun p15 => ((p15 = none → Q σ14) ∧ (∀ i16, p15 = some i16 → (i16 < 8 ∧ (∀ σ17, σ17 = up3 σ14 17 i16 0 0 → (∃ z19, w14_remember_L151 x2 x3 i16 Q (fun σ20 => w14_send σ20 x2 x3 2048 (σ20 17 i16 2) (fun σ21 => (Q σ21))) z19 σ17 0)))))))))))
set_option maxHeartbeats 4000000 in
theorem k14_remember_J96 {p : Program} {l : Launch} {e : Env} {s : State} {m : MethodId} {args : Array Value} {below : List Frame} {meth : Method} {c : Code} {G : Gh} {a1 : Nat → Nat → Nat} {τ : St} {Q : St → Prop} (C : Cx p e s m args meth c cX14_remember 7 none "WebHostModel" G) (σ : St) (x1 : Int32) (x2 : Int32) (x3 : Int32) (o4 : Nat) (ho4 : o4 < 16) (hw : w14_remember_J96 σ x1 x2 x3 o4 Q) (H : Heap) (locs : List Loc) (ls : Array Slot) (hH : Hd G a1 (cmb τ σ) H) (hS : va_S (gA G) s.heap H locs) (hl : lv_has ls 7 [(0, .ref (ga G 14 0)), (1, .int x1), (2, .int x2), (3, .int x3), (4, .ref (ga G 16 o4))]) : W p l e rmX14_remember s m args below meth c H locs 0 0 (MQ below (QVs G a1 (fun u => cmb τ u) Q) args s 0 0 (gA G)) (F0 m 96 ls []) := by
  have hx := C.1
  have hb := C.2.1
  have hown := C.2.2.2.2.2.1
  have hts := C.2.2.2.2.2.2.1
  refine lv_aload hx hb dX14_remember_96 (lv_at hl 4 rfl) ?_
  refine lv_iconst (v := 1) hx hb dX14_remember_98 (by decide) ?_
  refine p16_0 C hH hS ho4 (Or.inr rfl) q1861 dX14_remember_99 (fun σ10 e10 H locs hH hS => ?_)
  have hw := hw σ10 e10
  refine lv_aload hx hb dX14_remember_102 (lv_at hl 4 rfl) ?_
  refine lv_iload_n hx hb dX14_remember_104 rfl (lv_at hl 1 rfl) ?_
  refine p16_1 C hH hS ho4 q1862 dX14_remember_105 (fun σ11 e11 H locs hH hS => ?_)
  have hw := hw σ11 e11
  refine lv_aload hx hb dX14_remember_108 (lv_at hl 4 rfl) ?_
  refine lv_iload_n hx hb dX14_remember_110 rfl (lv_at hl 2 rfl) ?_
  refine p16_2 C hH hS ho4 q1863 dX14_remember_111 (fun σ12 e12 H locs hH hS => ?_)
  have hw := hw σ12 e12
  refine lv_aload hx hb dX14_remember_114 (lv_at hl 4 rfl) ?_
  refine lv_iload_n hx hb dX14_remember_116 rfl (lv_at hl 3 rfl) ?_
  refine p16_3 C hH hS ho4 q1864 dX14_remember_117 (fun σ13 e13 H locs hH hS => ?_)
  have hw := hw σ13 e13
  refine lv_aload hx hb dX14_remember_120 (lv_at hl 4 rfl) ?_
  refine lv_aload_n hx hb dX14_remember_122 rfl (lv_at hl 0 rfl) ?_
  refine g14_10 C hH q1950 dX14_remember_123 ?_
  refine p16_4 C hH hS ho4 q1865 dX14_remember_126 (fun σ14 e14 H locs hH hS => ?_)
  have hw := hw σ14 e14
  refine lv_aload_n hx hb dX14_remember_129 rfl (lv_at hl 0 rfl) ?_
  refine lv_iload_n hx hb dX14_remember_130 rfl (lv_at hl 1 rfl) ?_
  refine kc_ep (rn_vp (As := [.int x1]) (rest := []) C hH hS (by decide) rfl (by decide) (m14_packet l G a1 τ σ14 H x1 _ hw) (cwV 1 hts (lw_V q2273 q2275 qs93 q171 q2276) rfl rfl rfl kX14_packet ⟨Nat.le_of_ble_eq_true rfl, Nat.le_of_ble_eq_true rfl⟩) rfl hl.1 rfl (Nat.le_of_ble_eq_true rfl) dX14_remember_131 ⟨Nat.le_of_ble_eq_true rfl, Nat.le_of_ble_eq_true rfl⟩) hS (fun p15 locs hw hS => ?_)
  refine lv_astoreV (lv' := [(5, va_re (ga G 17) p15), (0, .ref (ga G 14 0)), (1, .int x1), (2, .int x2), (3, .int x3), (4, .ref (ga G 16 o4))]) hx hb dX14_remember_134 (va_re_or _ _) hl (by decide) rfl (fun ls hl => ?_)
  refine lv_aloadV hx hb dX14_remember_136 (va_re_or _ _) (lv_at hl 0 rfl) ?_
  rcases p15 with _ | i16
  · have hw := hw.1 rfl
    have hl : lv_has ls 7 [(5, .null), (0, .ref (ga G 14 0)), (1, .int x1), (2, .int x2), (3, .int x3), (4, .ref (ga G 16 o4))] := hl
    refine lv_ifnonnullN hx hb dX14_remember_138 ?_
    exact rt_v C hH hS hw dX14_remember_141
  obtain ⟨hq16, hw⟩ := hw.2 i16 rfl
  have hl : lv_has ls 7 [(5, .ref (ga G 17 i16)), (0, .ref (ga G 14 0)), (1, .int x1), (2, .int x2), (3, .int x3), (4, .ref (ga G 16 o4))] := hl
  refine lv_ifnonnull (tgt := 142) hx hb dX14_remember_138 (by decide) ?_
  refine lv_aload hx hb dX14_remember_142 (lv_at hl 0 rfl) ?_
  refine lv_iconst (v := 0) hx hb dX14_remember_144 (by decide) ?_
  refine p17_0 C hH hS hq16 (Or.inl rfl) q1882 dX14_remember_145 (fun σ17 e17 H locs hH hS => ?_)
  have hw := hw σ17 e17
  refine lv_iconst (v := 0) hx hb dX14_remember_148 (by decide) ?_
  refine lv_istore (lv' := [(6, .int 0), (5, .ref (ga G 17 i16)), (0, .ref (ga G 14 0)), (1, .int x1), (2, .int x2), (3, .int x3), (4, .ref (ga G 16 o4))]) hx hb dX14_remember_149 hl (by decide) rfl (fun ls hl => ?_)
  obtain ⟨n19, hw⟩ := hw
  refine k14_remember_L151 C x2 x3 i16 hq16 n19 σ17 0 hw H locs ls hH hS (lv_sub hl [2, 4, 5, 1, 0] rfl) (fun σ20 hw H locs ls hH hS hl => ?_)
  refine lv_aload_n hx hb dX14_remember_185 rfl (lv_at hl 0 rfl) ?_
  refine lv_iload_n hx hb dX14_remember_186 rfl (lv_at hl 1 rfl) ?_
  refine lv_iload_n hx hb dX14_remember_187 rfl (lv_at hl 2 rfl) ?_
  refine lv_sipush (v := 2048) hx hb dX14_remember_188 (by decide) ?_
  refine lv_aload hx hb dX14_remember_191 (lv_at hl 3 rfl) ?_
  refine g17_2 C hH hq16 q1884 dX14_remember_193 ?_
  refine kc_v (rn_v (As := [.int x2, .int x3, .int 2048, .int (σ20 17 i16 2)]) (rest := []) C hH hS (by decide) rfl (by decide) (m14_send l G a1 τ σ20 x2 x3 2048 (σ20 17 i16 2) _ hw) (cwV 4 hts (lw_V q2222 q2224 qs85 q171 q2225) rfl rfl rfl kX14_send ⟨Nat.le_of_ble_eq_true rfl, Nat.le_of_ble_eq_true rfl⟩) rfl hl.1 rfl (Nat.le_of_ble_eq_true rfl) dX14_remember_196 ⟨Nat.le_of_ble_eq_true rfl, Nat.le_of_ble_eq_true rfl⟩) hS (fun σ21 H locs hw hH hS => ?_)
  exact rt_v C hH hS hw dX14_remember_199
def w14_remember (σ : St) (x1 : Int32) (x2 : Int32) (x3 : Int32) (Q : St → Prop) : Prop := w14_entry σ x1 (fun p1 => ((p1 = none → (vp_in 0 16 ∧ (∃ z8, w14_remember_L23 σ x1 x2 x3 Q (fun o4_9 => w14_remember_J96 σ x1 x2 x3 o4_9 Q) z8 ((0 : Int32).toNatClampNeg) 1))) ∧ (∀ i2, p1 = some i2 → (i2 < 16 ∧ w14_remember_J96 σ x1 x2 x3 i2 Q))))
set_option maxHeartbeats 4000000 in
theorem m14_remember (l : Launch) (G : Gh) (a1 : Nat → Nat → Nat) (τ : St) (σ : St) (x1 : Int32) (x2 : Int32) (x3 : Int32) (Q : St → Prop) (hw : w14_remember σ x1 x2 x3 Q) : Met l yX14_remember (ws_ yX14_remember cX14_remember 7 none) rmX14_remember (PcS G a1 (cmb τ σ) [.ref (ga G 14 0), .int x1, .int x2, .int x3]) (QVs G a1 (fun u => cmb τ u) Q) 0 0 (gA G) := by
  refine met_w (by decide) (Nat.le_of_ble_eq_true rfl) ?_
  intro p e s m below meth c ls C hH hS hl
  have C : Cx p e s m _ meth c cX14_remember 7 none "WebHostModel" G := C
  have hl : lv_has ls 7 [(0, .ref (ga G 14 0)), (1, .int x1), (2, .int x2), (3, .int x3)] := hl
  have hx := C.1
  have hb := C.2.1
  have hown := C.2.2.2.2.2.1
  have hts := C.2.2.2.2.2.2.1
  obtain ⟨locs, hlocs⟩ : ∃ z : List Loc, z = [] := ⟨_, rfl⟩
  obtain ⟨H, hHe⟩ : ∃ z : Heap, z = s.heap := ⟨_, rfl⟩
  have hH : Hd G a1 (cmb τ σ) H := by rw [hHe]; exact hH
  have hS : va_S (gA G) s.heap H locs := by rw [hHe, hlocs]; exact hS
  refine W.heap0 hHe.symm hlocs.symm ?_
  refine lv_aload_n hx hb dX14_remember_0 rfl (lv_at hl 0 rfl) ?_
  refine lv_iload_n hx hb dX14_remember_1 rfl (lv_at hl 1 rfl) ?_
  refine kc_ep (rn_vp (As := [.int x1]) (rest := []) C hH hS (by decide) rfl (by decide) (m14_entry l G a1 τ σ H x1 _ hw) (cwV 1 hts (lw_V q2268 q2270 qs92 q171 q2271) rfl rfl rfl kX14_entry ⟨Nat.le_of_ble_eq_true rfl, Nat.le_of_ble_eq_true rfl⟩) rfl hl.1 rfl (Nat.le_of_ble_eq_true rfl) dX14_remember_2 ⟨Nat.le_of_ble_eq_true rfl, Nat.le_of_ble_eq_true rfl⟩) hS (fun p1 locs hw hS => ?_)
  refine lv_astoreV (lv' := [(4, va_re (ga G 16) p1), (0, .ref (ga G 14 0)), (1, .int x1), (2, .int x2), (3, .int x3)]) hx hb dX14_remember_5 (va_re_or _ _) hl (by decide) rfl (fun ls hl => ?_)
  refine lv_aloadV hx hb dX14_remember_7 (va_re_or _ _) (lv_at hl 0 rfl) ?_
  rcases p1 with _ | i2
  · have hw := hw.1 rfl
    have hl : lv_has ls 7 [(4, .null), (0, .ref (ga G 14 0)), (1, .int x1), (2, .int x2), (3, .int x3)] := hl
    refine lv_ifnonnullN hx hb dX14_remember_9 ?_
    refine lv_aload_n hx hb dX14_remember_12 rfl (lv_at hl 1 rfl) ?_
    refine g14_26 C hH q1966 dX14_remember_13 ?_
    refine lv_iconst (v := 0) hx hb dX14_remember_16 (by decide) ?_
    have hq3 := vp_lt hw.1
    refine l61 C hH hw.1 dX14_remember_17 ?_
    have hw := hw.2
    refine lv_astore (lv' := [(4, .ref (ga G 16 ((0 : Int32).toNatClampNeg))), (0, .ref (ga G 14 0)), (1, .int x1), (2, .int x2), (3, .int x3)]) hx hb dX14_remember_18 hl (by decide) rfl (fun ls hl => ?_)
    refine lv_iconst (v := 1) hx hb dX14_remember_20 (by decide) ?_
    refine lv_istore (lv' := [(5, .int 1), (4, .ref (ga G 16 ((0 : Int32).toNatClampNeg))), (0, .ref (ga G 14 0)), (1, .int x1), (2, .int x2), (3, .int x3)]) hx hb dX14_remember_21 hl (by decide) rfl (fun ls hl => ?_)
    obtain ⟨n8, hw⟩ := hw
    refine k14_remember_L23 C σ x1 x2 x3 n8 ((0 : Int32).toNatClampNeg) 1 hq3 hw H locs ls hH hS (lv_sub hl [2, 3, 4, 5, 1, 0] rfl) (fun o4_9 ho4_9 hw H locs ls hH hS hl => ?_)
    exact k14_remember_J96 C σ x1 x2 x3 o4_9 ho4_9 hw H locs ls hH hS (lv_sub hl [0, 1, 2, 3, 4] rfl)
  obtain ⟨hq2, hw⟩ := hw.2 i2 rfl
  have hl : lv_has ls 7 [(4, .ref (ga G 16 i2)), (0, .ref (ga G 14 0)), (1, .int x1), (2, .int x2), (3, .int x3)] := hl
  refine lv_ifnonnull (tgt := 96) hx hb dX14_remember_9 (by decide) ?_
  exact k14_remember_J96 C σ x1 x2 x3 i2 hq2 hw H locs ls hH hS (lv_sub hl [1, 2, 3, 4, 0] rfl)
/-! WebHostModel.take(LWebHostModel$Connection;I)V -/
abbrev cX14_take : ByteArray := prog_17_method_75_code
def yX14_take : MethodName := ⟨RX14, "take", "(LWebHostModel$Connection;I)V"⟩
theorem dX14_take_0 : decode cX14_take 0 = .ok (.iconst 0, 1) := by decide +kernel
theorem dX14_take_1 : decode cX14_take 1 = .ok (.istore_n 3, 1) := by decide +kernel
theorem dX14_take_2 : decode cX14_take 2 = .ok (.iload_n 3, 1) := by decide +kernel
theorem dX14_take_3 : decode cX14_take 3 = .ok (.sipush 4096, 3) := by decide +kernel
theorem dX14_take_6 : decode cX14_take 6 = .ok (.if_icmp .ge 71, 3) := by decide +kernel
theorem dX14_take_9 : decode cX14_take 9 = .ok (.iload_n 3, 1) := by decide +kernel
theorem dX14_take_10 : decode cX14_take 10 = .ok (.iload_n 2, 1) := by decide +kernel
theorem dX14_take_11 : decode cX14_take 11 = .ok (.iadd, 1) := by decide +kernel
theorem dX14_take_12 : decode cX14_take 12 = .ok (.sipush 4096, 3) := by decide +kernel
theorem dX14_take_15 : decode cX14_take 15 = .ok (.if_icmp .ge 7, 3) := by decide +kernel
theorem dX14_take_18 : decode cX14_take 18 = .ok (.iconst 1, 1) := by decide +kernel
theorem dX14_take_19 : decode cX14_take 19 = .ok (.goto 4, 3) := by decide +kernel
theorem dX14_take_22 : decode cX14_take 22 = .ok (.iconst 0, 1) := by decide +kernel
theorem dX14_take_23 : decode cX14_take 23 = .ok (.istore 4, 2) := by decide +kernel
theorem dX14_take_25 : decode cX14_take 25 = .ok (.aload_n 1, 1) := by decide +kernel
theorem dX14_take_26 : decode cX14_take 26 = .ok (.getfield 484, 3) := by decide +kernel
theorem dX14_take_29 : decode cX14_take 29 = .ok (.iload_n 3, 1) := by decide +kernel
theorem dX14_take_30 : decode cX14_take 30 = .ok (.iload 4, 2) := by decide +kernel
theorem dX14_take_32 : decode cX14_take 32 = .ok (.ifCond .eq 18, 3) := by decide +kernel
theorem dX14_take_35 : decode cX14_take 35 = .ok (.aload_n 1, 1) := by decide +kernel
theorem dX14_take_36 : decode cX14_take 36 = .ok (.getfield 484, 3) := by decide +kernel
theorem dX14_take_39 : decode cX14_take 39 = .ok (.iload_n 3, 1) := by decide +kernel
theorem dX14_take_40 : decode cX14_take 40 = .ok (.iload_n 2, 1) := by decide +kernel
theorem dX14_take_41 : decode cX14_take 41 = .ok (.iadd, 1) := by decide +kernel
theorem dX14_take_42 : decode cX14_take 42 = .ok (.baload, 1) := by decide +kernel
theorem dX14_take_43 : decode cX14_take 43 = .ok (.ifCond .eq 7, 3) := by decide +kernel
theorem dX14_take_46 : decode cX14_take 46 = .ok (.iconst 1, 1) := by decide +kernel
theorem dX14_take_47 : decode cX14_take 47 = .ok (.goto 4, 3) := by decide +kernel
theorem dX14_take_50 : decode cX14_take 50 = .ok (.iconst 0, 1) := by decide +kernel
theorem dX14_take_51 : decode cX14_take 51 = .ok (.bastore, 1) := by decide +kernel
theorem dX14_take_52 : decode cX14_take 52 = .ok (.iload 4, 2) := by decide +kernel
theorem dX14_take_54 : decode cX14_take 54 = .ok (.ifCond .eq 17, 3) := by decide +kernel
theorem dX14_take_57 : decode cX14_take 57 = .ok (.aload_n 1, 1) := by decide +kernel
theorem dX14_take_58 : decode cX14_take 58 = .ok (.getfield 560, 3) := by decide +kernel
theorem dX14_take_61 : decode cX14_take 61 = .ok (.iload_n 3, 1) := by decide +kernel
theorem dX14_take_62 : decode cX14_take 62 = .ok (.aload_n 1, 1) := by decide +kernel
theorem dX14_take_63 : decode cX14_take 63 = .ok (.getfield 560, 3) := by decide +kernel
theorem dX14_take_66 : decode cX14_take 66 = .ok (.iload_n 3, 1) := by decide +kernel
theorem dX14_take_67 : decode cX14_take 67 = .ok (.iload_n 2, 1) := by decide +kernel
theorem dX14_take_68 : decode cX14_take 68 = .ok (.iadd, 1) := by decide +kernel
theorem dX14_take_69 : decode cX14_take 69 = .ok (.baload, 1) := by decide +kernel
theorem dX14_take_70 : decode cX14_take 70 = .ok (.bastore, 1) := by decide +kernel
theorem dX14_take_71 : decode cX14_take 71 = .ok (.iinc 3 1, 3) := by decide +kernel
theorem dX14_take_74 : decode cX14_take 74 = .ok (.goto (-72), 3) := by decide +kernel
theorem dX14_take_77 : decode cX14_take 77 = .ok (.aload_n 1, 1) := by decide +kernel
theorem dX14_take_78 : decode cX14_take 78 = .ok (.aload_n 1, 1) := by decide +kernel
theorem dX14_take_79 : decode cX14_take 79 = .ok (.getfield 444, 3) := by decide +kernel
theorem dX14_take_82 : decode cX14_take 82 = .ok (.iload_n 2, 1) := by decide +kernel
theorem dX14_take_83 : decode cX14_take 83 = .ok (.iadd, 1) := by decide +kernel
theorem dX14_take_84 : decode cX14_take 84 = .ok (.putfield 444, 3) := by decide +kernel
theorem dX14_take_87 : decode cX14_take 87 = .ok (.aload_n 1, 1) := by decide +kernel
theorem dX14_take_88 : decode cX14_take 88 = .ok (.invokevirtual 339, 3) := by decide +kernel
theorem dX14_take_91 : decode cX14_take 91 = .ok (.aload_n 1, 1) := by decide +kernel
theorem dX14_take_92 : decode cX14_take 92 = .ok (.getfield 342, 3) := by decide +kernel
theorem dX14_take_95 : decode cX14_take 95 = .ok (.isub, 1) := by decide +kernel
theorem dX14_take_96 : decode cX14_take 96 = .ok (.sipush 2048, 3) := by decide +kernel
theorem dX14_take_99 : decode cX14_take 99 = .ok (.if_icmp .lt 8, 3) := by decide +kernel
theorem dX14_take_102 : decode cX14_take 102 = .ok (.aload_n 1, 1) := by decide +kernel
theorem dX14_take_103 : decode cX14_take 103 = .ok (.iconst 1, 1) := by decide +kernel
theorem dX14_take_104 : decode cX14_take 104 = .ok (.putfield 336, 3) := by decide +kernel
theorem dX14_take_107 : decode cX14_take 107 = .ok (.return_, 1) := by decide +kernel
def rmX14_take : Room := { frames := 2, cells := 0, slots := 0, locals := 40 }
theorem kX14_take : yX14_take.cls = "WebHostModel" ∧ yX14_take.cls ≠ "java/lang/invoke/MethodHandle" ∧ yX14_take.cls ≠ "java/lang/invoke/VarHandle" ∧ (parseMethodDescriptor yX14_take.desc).map (fun d => d.parameters.length) = some 2 := by decide +kernel
def w14_take_J51 (σ : St) (o1 : Nat) (x2 : Int32) (x3 : Int32) (x4 : Int32) (xs0 : Int32) (xs1 : Int32) (os2 : Nat) (Q : St → Prop) (K2 : St → Int32 → Prop) : Prop := vp_in xs1 4096 ∧ (bo xs0 ∧ (∀ σ1, σ1 = up3 σ 73 os2 xs1.toNatClampNeg xs0 → ((x4 = 0 → (K2 σ1 (x3 + 1))) ∧ (¬ x4 = 0 → (vp_in (x3 + x2) 4096 ∧ (by8 (σ1 72 o1 (x3 + x2).toNatClampNeg) → (vp_in x3 4096 ∧ (∀ σ2, σ2 = up3 σ1 72 o1 x3.toNatClampNeg (σ1 72 o1 (x3 + x2).toNatClampNeg).toInt8.toInt32 → (K2 σ2 (x3 + 1))))))))))
set_option maxHeartbeats 4000000 in
theorem k14_take_J51 {p : Program} {l : Launch} {e : Env} {s : State} {m : MethodId} {args : Array Value} {below : List Frame} {meth : Method} {c : Code} {G : Gh} {a1 : Nat → Nat → Nat} {τ : St} {Q : St → Prop} {K2 : St → Int32 → Prop} (C : Cx p e s m args meth c cX14_take 5 none "WebHostModel" G) (σ : St) (o1 : Nat) (x2 : Int32) (x3 : Int32) (x4 : Int32) (xs0 : Int32) (xs1 : Int32) (os2 : Nat) (ho1 : o1 < 16) (hos2 : os2 < 16) (hw : w14_take_J51 σ o1 x2 x3 x4 xs0 xs1 os2 Q K2) (H : Heap) (locs : List Loc) (ls : Array Slot) (hH : Hd G a1 (cmb τ σ) H) (hS : va_S (gA G) s.heap H locs) (hl : lv_has ls 5 [(1, .ref (ga G 15 o1)), (2, .int x2), (3, .int x3), (4, .int x4)]) (hK2 : ∀ (σ : St) (x3 : Int32), K2 σ x3 → ∀ (H : Heap) (locs : List Loc) (ls : Array Slot), Hd G a1 (cmb τ σ) H → va_S (gA G) s.heap H locs → lv_has ls 5 [(1, .ref (ga G 15 o1)), (2, .int x2), (3, .int x3)] → W p l e rmX14_take s m args below meth c H locs 0 0 (MQ below (QVs G a1 (fun u => cmb τ u) Q) args s 0 0 (gA G)) (F0 m 2 ls [])) : W p l e rmX14_take s m args below meth c H locs 0 0 (MQ below (QVs G a1 (fun u => cmb τ u) Q) args s 0 0 (gA G)) (F0 m 51 ls [.int xs0, .int xs1, .ref (adr G a1 73 os2)]) := by
  have hx := C.1
  have hb := C.2.1
  have hown := C.2.2.2.2.2.1
  have hts := C.2.2.2.2.2.2.1
  refine s73 C hH hS hos2 hw.1 hw.2.1 dX14_take_51 (fun σ1 e1 H locs hH hS => ?_)
  have hw := hw.2.2 σ1 e1
  refine lv_iload hx hb dX14_take_52 (lv_at hl 3 rfl) ?_
  refine lv_if_eq (tgt := 71) hx hb dX14_take_54 (by decide) (fun h => ?_) (fun h => ?_)
  · have hw := hw.1 h
    refine lv_iinc (v := x3 + 1) (lv' := [(3, .int (x3 + 1)), (1, .ref (ga G 15 o1)), (2, .int x2), (4, .int x4)]) hx hb dX14_take_71 hl (k := 2) rfl rfl (by decide) rfl (fun ls hl => ?_)
    refine lv_goto (tgt := 2) hx hb dX14_take_74 (by decide) ?_
    exact hK2 σ1 (x3 + 1) hw H locs ls hH hS (lv_sub hl [1, 2, 0] rfl)
  have hw := hw.2 h
  refine lv_aload_n hx hb dX14_take_57 rfl (lv_at hl 0 rfl) ?_
  refine g15_32 C hH ho1 q1745 dX14_take_58 ?_
  refine lv_iload_n hx hb dX14_take_61 rfl (lv_at hl 2 rfl) ?_
  refine lv_aload_n hx hb dX14_take_62 rfl (lv_at hl 0 rfl) ?_
  refine g15_32 C hH ho1 q1745 dX14_take_63 ?_
  refine lv_iload_n hx hb dX14_take_66 rfl (lv_at hl 2 rfl) ?_
  refine lv_iload_n hx hb dX14_take_67 rfl (lv_at hl 1 rfl) ?_
  refine lv_iadd hx hb dX14_take_68 ?_
  refine l72 C hH ho1 hw.1 dX14_take_69 (fun hz => ?_)
  have hw := hw.2 hz
  refine s72 C hH hS ho1 hw.1 dX14_take_70 (fun σ2 e2 H locs hH hS => ?_)
  have hw := hw.2 σ2 e2
  refine lv_iinc (v := x3 + 1) (lv' := [(3, .int (x3 + 1)), (1, .ref (ga G 15 o1)), (2, .int x2), (4, .int x4)]) hx hb dX14_take_71 hl (k := 2) rfl rfl (by decide) rfl (fun ls hl => ?_)
  refine lv_goto (tgt := 2) hx hb dX14_take_74 (by decide) ?_
  exact hK2 σ2 (x3 + 1) hw H locs ls hH hS (lv_sub hl [1, 2, 0] rfl)
def w14_take_J23 (σ : St) (o1 : Nat) (x2 : Int32) (x3 : Int32) (xs0 : Int32) (Q : St → Prop) (K2 : St → Int32 → Prop) : Prop := (xs0 = 0 → w14_take_J51 σ o1 x2 x3 xs0 0 x3 o1 Q K2) ∧ (¬ xs0 = 0 → (vp_in (x3 + x2) 4096 ∧ (bo (σ 73 o1 (x3 + x2).toNatClampNeg) → (((σ 73 o1 (x3 + x2).toNatClampNeg) = 0 → w14_take_J51 σ o1 x2 x3 xs0 0 x3 o1 Q K2) ∧ (¬ (σ 73 o1 (x3 + x2).toNatClampNeg) = 0 → w14_take_J51 σ o1 x2 x3 xs0 1 x3 o1 Q K2)))))
set_option maxHeartbeats 4000000 in
theorem k14_take_J23 {p : Program} {l : Launch} {e : Env} {s : State} {m : MethodId} {args : Array Value} {below : List Frame} {meth : Method} {c : Code} {G : Gh} {a1 : Nat → Nat → Nat} {τ : St} {Q : St → Prop} {K2 : St → Int32 → Prop} (C : Cx p e s m args meth c cX14_take 5 none "WebHostModel" G) (σ : St) (o1 : Nat) (x2 : Int32) (x3 : Int32) (xs0 : Int32) (ho1 : o1 < 16) (hw : w14_take_J23 σ o1 x2 x3 xs0 Q K2) (H : Heap) (locs : List Loc) (ls : Array Slot) (hH : Hd G a1 (cmb τ σ) H) (hS : va_S (gA G) s.heap H locs) (hl : lv_has ls 5 [(1, .ref (ga G 15 o1)), (2, .int x2), (3, .int x3)]) (hK2 : ∀ (σ : St) (x3 : Int32), K2 σ x3 → ∀ (H : Heap) (locs : List Loc) (ls : Array Slot), Hd G a1 (cmb τ σ) H → va_S (gA G) s.heap H locs → lv_has ls 5 [(1, .ref (ga G 15 o1)), (2, .int x2), (3, .int x3)] → W p l e rmX14_take s m args below meth c H locs 0 0 (MQ below (QVs G a1 (fun u => cmb τ u) Q) args s 0 0 (gA G)) (F0 m 2 ls [])) : W p l e rmX14_take s m args below meth c H locs 0 0 (MQ below (QVs G a1 (fun u => cmb τ u) Q) args s 0 0 (gA G)) (F0 m 23 ls [.int xs0]) := by
  have hx := C.1
  have hb := C.2.1
  have hown := C.2.2.2.2.2.1
  have hts := C.2.2.2.2.2.2.1
  refine lv_istore (lv' := [(4, .int xs0), (1, .ref (ga G 15 o1)), (2, .int x2), (3, .int x3)]) hx hb dX14_take_23 hl (by decide) rfl (fun ls hl => ?_)
  refine lv_aload_n hx hb dX14_take_25 rfl (lv_at hl 1 rfl) ?_
  refine g15_33 C hH ho1 q1747 dX14_take_26 ?_
  refine lv_iload_n hx hb dX14_take_29 rfl (lv_at hl 3 rfl) ?_
  refine lv_iload hx hb dX14_take_30 (lv_at hl 0 rfl) ?_
  refine lv_if_eq (tgt := 50) hx hb dX14_take_32 (by decide) (fun h => ?_) (fun h => ?_)
  · have hw := hw.1 h
    refine lv_iconst (v := 0) hx hb dX14_take_50 (by decide) ?_
    exact k14_take_J51 C σ o1 x2 x3 xs0 0 x3 o1 ho1 ho1 hw H locs ls hH hS (lv_sub hl [1, 2, 3, 0] rfl) hK2
  have hw := hw.2 h
  refine lv_aload_n hx hb dX14_take_35 rfl (lv_at hl 1 rfl) ?_
  refine g15_33 C hH ho1 q1747 dX14_take_36 ?_
  refine lv_iload_n hx hb dX14_take_39 rfl (lv_at hl 3 rfl) ?_
  refine lv_iload_n hx hb dX14_take_40 rfl (lv_at hl 2 rfl) ?_
  refine lv_iadd hx hb dX14_take_41 ?_
  refine l73 C hH ho1 hw.1 dX14_take_42 (fun hz => ?_)
  have hw := hw.2 hz
  refine lv_if_eq (tgt := 50) hx hb dX14_take_43 (by decide) (fun h => ?_) (fun h => ?_)
  · have hw := hw.1 h
    refine lv_iconst (v := 0) hx hb dX14_take_50 (by decide) ?_
    exact k14_take_J51 C σ o1 x2 x3 xs0 0 x3 o1 ho1 ho1 hw H locs ls hH hS (lv_sub hl [1, 2, 3, 0] rfl) hK2
  have hw := hw.2 h
  refine lv_iconst (v := 1) hx hb dX14_take_46 (by decide) ?_
  refine lv_goto (tgt := 51) hx hb dX14_take_47 (by decide) ?_
  exact k14_take_J51 C σ o1 x2 x3 xs0 1 x3 o1 ho1 ho1 hw H locs ls hH hS (lv_sub hl [1, 2, 3, 0] rfl) hK2
def w14_take_L2 (o1 : Nat) (x2 : Int32) (Q : St → Prop) (K77 : St → Prop) : Nat → St → Int32 → Prop
  | 0, _, _ => False
  | n + 1, σ, x3 => (4096 ≤ x3 → K77 σ) ∧ (¬ 4096 ≤ x3 → ((4096 ≤ (x3 + x2) → (w14_take_J23 σ o1 x2 x3 0 Q (fun σz x3z => w14_take_L2 o1 x2 Q K77 n σz x3z))) ∧ (¬ 4096 ≤ (x3 + x2) → (w14_take_J23 σ o1 x2 x3 1 Q (fun σz x3z => w14_take_L2 o1 x2 Q K77 n σz x3z)))))
set_option maxHeartbeats 4000000 in
theorem k14_take_L2 {p : Program} {l : Launch} {e : Env} {s : State} {m : MethodId} {args : Array Value} {below : List Frame} {meth : Method} {c : Code} {G : Gh} {a1 : Nat → Nat → Nat} {τ : St} {Q : St → Prop} {K77 : St → Prop} (C : Cx p e s m args meth c cX14_take 5 none "WebHostModel" G) (o1 : Nat) (x2 : Int32) (ho1 : o1 < 16) :
    ∀ (n : Nat) (σ : St) (x3 : Int32), w14_take_L2 o1 x2 Q K77 n σ x3 → ∀ (H : Heap) (locs : List Loc) (ls : Array Slot), Hd G a1 (cmb τ σ) H → va_S (gA G) s.heap H locs → lv_has ls 5 [(1, .ref (ga G 15 o1)), (2, .int x2), (3, .int x3)] → (∀ (σ : St) , K77 σ → ∀ (H : Heap) (locs : List Loc) (ls : Array Slot), Hd G a1 (cmb τ σ) H → va_S (gA G) s.heap H locs → lv_has ls 5 [(1, .ref (ga G 15 o1)), (2, .int x2)] → W p l e rmX14_take s m args below meth c H locs 0 0 (MQ below (QVs G a1 (fun u => cmb τ u) Q) args s 0 0 (gA G)) (F0 m 77 ls [])) → W p l e rmX14_take s m args below meth c H locs 0 0 (MQ below (QVs G a1 (fun u => cmb τ u) Q) args s 0 0 (gA G)) (F0 m 2 ls []) := by
  have hx := C.1
  have hb := C.2.1
  have hown := C.2.2.2.2.2.1
  have hts := C.2.2.2.2.2.2.1
  intro n
  induction n with
  | zero =>
    intro σ x3 hw
    exact False.elim hw
  | succ n ih =>
    intro σ x3 hw H locs ls hH hS hl hK77
    refine lv_iload_n hx hb dX14_take_2 rfl (lv_at hl 2 rfl) ?_
    refine lv_sipush (v := 4096) hx hb dX14_take_3 (by decide) ?_
    refine lv_icmp_ge (tgt := 77) hx hb dX14_take_6 (by decide) (fun h => ?_) (fun h => ?_)
    · have hw := hw.1 h
      exact hK77 σ hw H locs ls hH hS (lv_sub hl [0, 1] rfl)
    have hw := hw.2 h
    refine lv_iload_n hx hb dX14_take_9 rfl (lv_at hl 2 rfl) ?_
    refine lv_iload_n hx hb dX14_take_10 rfl (lv_at hl 1 rfl) ?_
    refine lv_iadd hx hb dX14_take_11 ?_
    refine lv_sipush (v := 4096) hx hb dX14_take_12 (by decide) ?_
    refine lv_icmp_ge (tgt := 22) hx hb dX14_take_15 (by decide) (fun h => ?_) (fun h => ?_)
    · have hw := hw.1 h
      refine lv_iconst (v := 0) hx hb dX14_take_22 (by decide) ?_
      exact k14_take_J23 C σ o1 x2 x3 0 ho1 hw H locs ls hH hS (lv_sub hl [0, 1, 2] rfl) (fun σz x3z hw H locs ls hH hS hl => ih σz x3z hw H locs ls hH hS hl hK77)
    have hw := hw.2 h
    refine lv_iconst (v := 1) hx hb dX14_take_18 (by decide) ?_
    refine lv_goto (tgt := 23) hx hb dX14_take_19 (by decide) ?_
    exact k14_take_J23 C σ o1 x2 x3 1 ho1 hw H locs ls hH hS (lv_sub hl [0, 1, 2] rfl) (fun σz x3z hw H locs ls hH hS hl => ih σz x3z hw H locs ls hH hS hl hK77)
def w14_take (σ : St) (o1 : Nat) (x2 : Int32) (Q : St → Prop) : Prop := ∃ z3, w14_take_L2 o1 x2 Q (fun σ4 => ∀ σ5, σ5 = up3 σ4 15 o1 35 ((σ4 15 o1 35) + x2) → (w15_open σ5 o1 (fun r6 => (((r6 - (σ5 15 o1 37)) < 2048 → Q σ5) ∧ (¬ (r6 - (σ5 15 o1 37)) < 2048 → (∀ σ7, σ7 = up3 σ5 15 o1 39 1 → (Q σ7))))))) z3 σ 0
set_option maxHeartbeats 4000000 in
theorem m14_take (l : Launch) (G : Gh) (a1 : Nat → Nat → Nat) (τ : St) (σ : St) (o1 : Nat) (x2 : Int32) (ho1 : o1 < 16) (Q : St → Prop) (hw : w14_take σ o1 x2 Q) : Met l yX14_take (ws_ yX14_take cX14_take 5 none) rmX14_take (PcS G a1 (cmb τ σ) [.ref (ga G 14 0), .ref (ga G 15 o1), .int x2]) (QVs G a1 (fun u => cmb τ u) Q) 0 0 (gA G) := by
  refine met_w (by decide) (Nat.le_of_ble_eq_true rfl) ?_
  intro p e s m below meth c ls C hH hS hl
  have C : Cx p e s m _ meth c cX14_take 5 none "WebHostModel" G := C
  have hl : lv_has ls 5 [(0, .ref (ga G 14 0)), (1, .ref (ga G 15 o1)), (2, .int x2)] := hl
  have hx := C.1
  have hb := C.2.1
  have hown := C.2.2.2.2.2.1
  have hts := C.2.2.2.2.2.2.1
  obtain ⟨locs, hlocs⟩ : ∃ z : List Loc, z = [] := ⟨_, rfl⟩
  obtain ⟨H, hHe⟩ : ∃ z : Heap, z = s.heap := ⟨_, rfl⟩
  have hH : Hd G a1 (cmb τ σ) H := by rw [hHe]; exact hH
  have hS : va_S (gA G) s.heap H locs := by rw [hHe, hlocs]; exact hS
  refine W.heap0 hHe.symm hlocs.symm ?_
  refine lv_iconst (v := 0) hx hb dX14_take_0 (by decide) ?_
  refine lv_istore_n (lv' := [(3, .int 0), (0, .ref (ga G 14 0)), (1, .ref (ga G 15 o1)), (2, .int x2)]) hx hb dX14_take_1 rfl hl (by decide) rfl (fun ls hl => ?_)
  obtain ⟨n3, hw⟩ := hw
  refine k14_take_L2 C o1 x2 ho1 n3 σ 0 hw H locs ls hH hS (lv_sub hl [2, 3, 0] rfl) (fun σ4 hw H locs ls hH hS hl => ?_)
  refine lv_aload_n hx hb dX14_take_77 rfl (lv_at hl 0 rfl) ?_
  refine lv_aload_n hx hb dX14_take_78 rfl (lv_at hl 0 rfl) ?_
  refine g15_35 C hH ho1 q1750 dX14_take_79 ?_
  refine lv_iload_n hx hb dX14_take_82 rfl (lv_at hl 1 rfl) ?_
  refine lv_iadd hx hb dX14_take_83 ?_
  refine p15_35 C hH hS ho1 q1750 dX14_take_84 (fun σ5 e5 H locs hH hS => ?_)
  have hw := hw σ5 e5
  refine lv_aload_n hx hb dX14_take_87 rfl (lv_at hl 0 rfl) ?_
  refine kc_ip (rn_vp (As := []) (rest := []) C hH hS (by decide) rfl ho1 (m15_open l G a1 τ σ5 H o1 ho1 _ hw) (cwV 0 hts (lw_V q2231 q2232 q2233 q172 q2234) rfl rfl rfl kX15_open ⟨Nat.le_of_ble_eq_true rfl, Nat.le_of_ble_eq_true rfl⟩) rfl hl.1 rfl (Nat.le_of_ble_eq_true rfl) dX14_take_88 ⟨Nat.le_of_ble_eq_true rfl, Nat.le_of_ble_eq_true rfl⟩) hS (fun r6 locs hw hS => ?_)
  refine lv_aload_n hx hb dX14_take_91 rfl (lv_at hl 0 rfl) ?_
  refine g15_37 C hH ho1 q1753 dX14_take_92 ?_
  refine lv_isub hx hb dX14_take_95 ?_
  refine lv_sipush (v := 2048) hx hb dX14_take_96 (by decide) ?_
  refine lv_icmp_lt (tgt := 107) hx hb dX14_take_99 (by decide) (fun h => ?_) (fun h => ?_)
  · have hw := hw.1 h
    exact rt_v C hH hS hw dX14_take_107
  have hw := hw.2 h
  refine lv_aload_n hx hb dX14_take_102 rfl (lv_at hl 0 rfl) ?_
  refine lv_iconst (v := 1) hx hb dX14_take_103 (by decide) ?_
  refine p15_39 C hH hS ho1 (Or.inr rfl) q1755 dX14_take_104 (fun σ7 e7 H locs hH hS => ?_)
  have hw := hw σ7 e7
  exact rt_v C hH hS hw dX14_take_107
/-! WebHost.at(II)I -/
abbrev cX0_at : ByteArray := prog_1_method_22_code
def yX0_at : MethodName := ⟨RX0, "at", "(II)I"⟩
theorem dX0_at_0 : decode cX0_at 0 = .ok (.aload_n 0, 1) := by decide +kernel
theorem dX0_at_1 : decode cX0_at 1 = .ok (.iload_n 1, 1) := by decide +kernel
theorem dX0_at_2 : decode cX0_at 2 = .ok (.invokevirtual 279, 3) := by decide +kernel
theorem dX0_at_5 : decode cX0_at 5 = .ok (.ifCond .eq 15, 3) := by decide +kernel
theorem dX0_at_8 : decode cX0_at 8 = .ok (.aload_n 0, 1) := by decide +kernel
theorem dX0_at_9 : decode cX0_at 9 = .ok (.getfield 24, 3) := by decide +kernel
theorem dX0_at_12 : decode cX0_at 12 = .ok (.iload_n 1, 1) := by decide +kernel
theorem dX0_at_13 : decode cX0_at 13 = .ok (.iload_n 2, 1) := by decide +kernel
theorem dX0_at_14 : decode cX0_at 14 = .ok (.invokevirtual 283, 3) := by decide +kernel
theorem dX0_at_17 : decode cX0_at 17 = .ok (.goto 4, 3) := by decide +kernel
theorem dX0_at_20 : decode cX0_at 20 = .ok (.iconst (-1), 1) := by decide +kernel
theorem dX0_at_21 : decode cX0_at 21 = .ok (.ireturn, 1) := by decide +kernel
def rmX0_at : Room := { frames := 3, cells := 0, slots := 0, locals := 64 }
theorem kX0_at : yX0_at.cls = "WebHost" ∧ yX0_at.cls ≠ "java/lang/invoke/MethodHandle" ∧ yX0_at.cls ≠ "java/lang/invoke/VarHandle" ∧ (parseMethodDescriptor yX0_at.desc).map (fun d => d.parameters.length) = some 2 := by decide +kernel
def w0_at (σ : St) (x1 : Int32) (x2 : Int32) (Q : Int32 → Prop) : Prop := w0_isKept σ x1 (fun r1 => ((r1 = 0 → (Q (-1))) ∧ (¬ r1 = 0 → (w2_at σ x1 x2 (fun r2 => (Q r2))))))
set_option maxHeartbeats 4000000 in
theorem m0_at (l : Launch) (G : Gh) (a1 : Nat → Nat → Nat) (τ : St) (σ : St) (H : Heap) (x1 : Int32) (x2 : Int32) (Q : Int32 → Prop) (hw : w0_at σ x1 x2 Q) : Met l yX0_at (ws_ yX0_at cX0_at 3 (some .int)) rmX0_at (PcP G a1 (cmb σ τ) H [.ref (ga G 0 0), .int x1, .int x2]) (QIp G H Q) 0 0 (gA G) := by
  refine met_p (by decide) (Nat.le_of_ble_eq_true rfl) ?_
  intro p e s m below meth c ls hHe C hH hS hl
  have C : Cx p e s m _ meth c cX0_at 3 (some .int) "WebHost" G := C
  have hl : lv_has ls 3 [(0, .ref (ga G 0 0)), (1, .int x1), (2, .int x2)] := hl
  have hx := C.1
  have hb := C.2.1
  have hown := C.2.2.2.2.2.1
  have hts := C.2.2.2.2.2.2.1
  obtain ⟨locs, hlocs⟩ : ∃ z : List Loc, z = [] := ⟨_, rfl⟩
  rw [← hlocs] at hS ⊢
  refine lv_aload_n hx hb dX0_at_0 rfl (lv_at hl 0 rfl) ?_
  refine lv_iload_n hx hb dX0_at_1 rfl (lv_at hl 1 rfl) ?_
  refine kc_ip (rn_vp (As := [.int x1]) (rest := []) C hH hS (by decide) rfl (by decide) (m0_isKept l G a1 τ σ H x1 _ hw) (cwV 1 hts (lw_V q1608 q1610 qs73 q157 q1611) rfl rfl rfl kX0_isKept ⟨Nat.le_of_ble_eq_true rfl, Nat.le_of_ble_eq_true rfl⟩) rfl hl.1 rfl (Nat.le_of_ble_eq_true rfl) dX0_at_2 ⟨Nat.le_of_ble_eq_true rfl, Nat.le_of_ble_eq_true rfl⟩) hS (fun r1 locs hw hS => ?_)
  refine lv_if_eq (tgt := 20) hx hb dX0_at_5 (by decide) (fun h => ?_) (fun h => ?_)
  · have hw := hw.1 h
    refine lv_iconst (v := (-1)) hx hb dX0_at_20 (by decide) ?_
    exact rt_ip C rfl hS hw dX0_at_21
  have hw := hw.2 h
  refine lv_aload_n hx hb dX0_at_8 rfl (lv_at hl 0 rfl) ?_
  refine g0_3 C hH q746 dX0_at_9 ?_
  refine lv_iload_n hx hb dX0_at_12 rfl (lv_at hl 1 rfl) ?_
  refine lv_iload_n hx hb dX0_at_13 rfl (lv_at hl 2 rfl) ?_
  refine kc_ip (rn_vp (As := [.int x1, .int x2]) (rest := []) C hH hS (by decide) rfl (by decide) (m2_at l G a1 τ σ H x1 x2 _ hw) (cwV 2 hts (lw_V q1628 q1629 q1630 q159 q1631) rfl rfl rfl kX2_at ⟨Nat.le_of_ble_eq_true rfl, Nat.le_of_ble_eq_true rfl⟩) rfl hl.1 rfl (Nat.le_of_ble_eq_true rfl) dX0_at_14 ⟨Nat.le_of_ble_eq_true rfl, Nat.le_of_ble_eq_true rfl⟩) hS (fun r2 locs hw hS => ?_)
  refine lv_goto (tgt := 21) hx hb dX0_at_17 (by decide) ?_
  exact rt_ip C rfl hS hw dX0_at_21
/-! WebHost.damage(II)Z -/
abbrev cX0_damage : ByteArray := prog_1_method_30_code
def yX0_damage : MethodName := ⟨RX0, "damage", "(II)Z"⟩
theorem dX0_damage_0 : decode cX0_damage 0 = .ok (.iload_n 1, 1) := by decide +kernel
theorem dX0_damage_1 : decode cX0_damage 1 = .ok (.ifCond .lt 15, 3) := by decide +kernel
theorem dX0_damage_4 : decode cX0_damage 4 = .ok (.iload_n 1, 1) := by decide +kernel
theorem dX0_damage_5 : decode cX0_damage 5 = .ok (.aload_n 0, 1) := by decide +kernel
theorem dX0_damage_6 : decode cX0_damage 6 = .ok (.getfield 17, 3) := by decide +kernel
theorem dX0_damage_9 : decode cX0_damage 9 = .ok (.getfield 98, 3) := by decide +kernel
theorem dX0_damage_12 : decode cX0_damage 12 = .ok (.arraylength, 1) := by decide +kernel
theorem dX0_damage_13 : decode cX0_damage 13 = .ok (.if_icmp .lt 5, 3) := by decide +kernel
theorem dX0_damage_16 : decode cX0_damage 16 = .ok (.iconst 0, 1) := by decide +kernel
theorem dX0_damage_17 : decode cX0_damage 17 = .ok (.ireturn, 1) := by decide +kernel
theorem dX0_damage_18 : decode cX0_damage 18 = .ok (.iconst 0, 1) := by decide +kernel
theorem dX0_damage_19 : decode cX0_damage 19 = .ok (.istore_n 3, 1) := by decide +kernel
theorem dX0_damage_20 : decode cX0_damage 20 = .ok (.iload_n 3, 1) := by decide +kernel
theorem dX0_damage_21 : decode cX0_damage 21 = .ok (.bipush 16, 2) := by decide +kernel
theorem dX0_damage_23 : decode cX0_damage 23 = .ok (.if_icmp .ge 30, 3) := by decide +kernel
theorem dX0_damage_26 : decode cX0_damage 26 = .ok (.aload_n 0, 1) := by decide +kernel
theorem dX0_damage_27 : decode cX0_damage 27 = .ok (.getfield 105, 3) := by decide +kernel
theorem dX0_damage_30 : decode cX0_damage 30 = .ok (.ifCond .eq 17, 3) := by decide +kernel
theorem dX0_damage_33 : decode cX0_damage 33 = .ok (.aload_n 0, 1) := by decide +kernel
theorem dX0_damage_34 : decode cX0_damage 34 = .ok (.getfield 73, 3) := by decide +kernel
theorem dX0_damage_37 : decode cX0_damage 37 = .ok (.iload_n 3, 1) := by decide +kernel
theorem dX0_damage_38 : decode cX0_damage 38 = .ok (.aaload, 1) := by decide +kernel
theorem dX0_damage_39 : decode cX0_damage 39 = .ok (.invokevirtual 365, 3) := by decide +kernel
theorem dX0_damage_42 : decode cX0_damage 42 = .ok (.ifCond .eq 5, 3) := by decide +kernel
theorem dX0_damage_45 : decode cX0_damage 45 = .ok (.iconst 0, 1) := by decide +kernel
theorem dX0_damage_46 : decode cX0_damage 46 = .ok (.ireturn, 1) := by decide +kernel
theorem dX0_damage_47 : decode cX0_damage 47 = .ok (.iinc 3 1, 3) := by decide +kernel
theorem dX0_damage_50 : decode cX0_damage 50 = .ok (.goto (-30), 3) := by decide +kernel
theorem dX0_damage_53 : decode cX0_damage 53 = .ok (.aload_n 0, 1) := by decide +kernel
theorem dX0_damage_54 : decode cX0_damage 54 = .ok (.getfield 17, 3) := by decide +kernel
theorem dX0_damage_57 : decode cX0_damage 57 = .ok (.getfield 98, 3) := by decide +kernel
theorem dX0_damage_60 : decode cX0_damage 60 = .ok (.iload_n 1, 1) := by decide +kernel
theorem dX0_damage_61 : decode cX0_damage 61 = .ok (.iload_n 2, 1) := by decide +kernel
theorem dX0_damage_62 : decode cX0_damage 62 = .ok (.i2b, 1) := by decide +kernel
theorem dX0_damage_63 : decode cX0_damage 63 = .ok (.bastore, 1) := by decide +kernel
theorem dX0_damage_64 : decode cX0_damage 64 = .ok (.iconst 1, 1) := by decide +kernel
theorem dX0_damage_65 : decode cX0_damage 65 = .ok (.ireturn, 1) := by decide +kernel
def rmX0_damage : Room := { frames := 3, cells := 0, slots := 0, locals := 60 }
theorem kX0_damage : yX0_damage.cls = "WebHost" ∧ yX0_damage.cls ≠ "java/lang/invoke/MethodHandle" ∧ yX0_damage.cls ≠ "java/lang/invoke/VarHandle" ∧ (parseMethodDescriptor yX0_damage.desc).map (fun d => d.parameters.length) = some 2 := by decide +kernel
def w0_damage_L20 (σ : St) (x1 : Int32) (x2 : Int32) (Q : Int32 → St → Prop) (K45 : Prop) (K53 : Prop) : Nat → Int32 → Prop
  | 0, _ => False
  | n + 1, x3 => (16 ≤ x3 → K53) ∧ (¬ 16 ≤ x3 → (bo (σ 0 0 11) → (((σ 0 0 11) = 0 → (w0_damage_L20 σ x1 x2 Q K45 K53 n (x3 + 1))) ∧ (¬ (σ 0 0 11) = 0 → (vp_in x3 16 ∧ (w11_isBusy σ x3.toNatClampNeg (fun r2 => ((r2 = 0 → (w0_damage_L20 σ x1 x2 Q K45 K53 n (x3 + 1))) ∧ (¬ r2 = 0 → K45)))))))))
set_option maxHeartbeats 4000000 in
theorem k0_damage_L20 {p : Program} {l : Launch} {e : Env} {s : State} {m : MethodId} {args : Array Value} {below : List Frame} {meth : Method} {c : Code} {G : Gh} {a1 : Nat → Nat → Nat} {τ : St} {Q : Int32 → St → Prop} {K45 : Prop} {K53 : Prop} (C : Cx p e s m args meth c cX0_damage 4 (some .boolean) "WebHost" G) (σ : St) (x1 : Int32) (x2 : Int32) :
    ∀ (n : Nat) (x3 : Int32), w0_damage_L20 σ x1 x2 Q K45 K53 n x3 → ∀ (H : Heap) (locs : List Loc) (ls : Array Slot), Hd G a1 (cmb σ τ) H → va_S (gA G) s.heap H locs → lv_has ls 4 [(0, .ref (ga G 0 0)), (1, .int x1), (2, .int x2), (3, .int x3)] → (K45 → ∀ (H : Heap) (locs : List Loc) (ls : Array Slot), Hd G a1 (cmb σ τ) H → va_S (gA G) s.heap H locs → lv_has ls 4 [] → W p l e rmX0_damage s m args below meth c H locs 0 0 (MQ below (QIs G a1 (fun u => cmb u τ) Q) args s 0 0 (gA G)) (F0 m 45 ls [])) → (K53 → ∀ (H : Heap) (locs : List Loc) (ls : Array Slot), Hd G a1 (cmb σ τ) H → va_S (gA G) s.heap H locs → lv_has ls 4 [(0, .ref (ga G 0 0)), (1, .int x1), (2, .int x2)] → W p l e rmX0_damage s m args below meth c H locs 0 0 (MQ below (QIs G a1 (fun u => cmb u τ) Q) args s 0 0 (gA G)) (F0 m 53 ls [])) → W p l e rmX0_damage s m args below meth c H locs 0 0 (MQ below (QIs G a1 (fun u => cmb u τ) Q) args s 0 0 (gA G)) (F0 m 20 ls []) := by
  have hx := C.1
  have hb := C.2.1
  have hown := C.2.2.2.2.2.1
  have hts := C.2.2.2.2.2.2.1
  intro n
  induction n with
  | zero =>
    intro x3 hw
    exact False.elim hw
  | succ n ih =>
    intro x3 hw H locs ls hH hS hl hK45 hK53
    refine lv_iload_n hx hb dX0_damage_20 rfl (lv_at hl 3 rfl) ?_
    refine lv_bipush (v := 16) hx hb dX0_damage_21 (by decide) ?_
    refine lv_icmp_ge (tgt := 53) hx hb dX0_damage_23 (by decide) (fun h => ?_) (fun h => ?_)
    · have hw := hw.1 h
      exact hK53 hw H locs ls hH hS (lv_sub hl [0, 1, 2] rfl)
    have hw := hw.2 h
    refine lv_aload_n hx hb dX0_damage_26 rfl (lv_at hl 0 rfl) ?_
    refine g0_11 C hH q754 dX0_damage_27 (fun hz => ?_)
    have hw := hw hz
    refine lv_if_eq (tgt := 47) hx hb dX0_damage_30 (by decide) (fun h => ?_) (fun h => ?_)
    · have hw := hw.1 h
      refine lv_iinc (v := x3 + 1) (lv' := [(3, .int (x3 + 1)), (0, .ref (ga G 0 0)), (1, .int x1), (2, .int x2)]) hx hb dX0_damage_47 hl (k := 3) rfl rfl (by decide) rfl (fun ls hl => ?_)
      refine lv_goto (tgt := 20) hx hb dX0_damage_50 (by decide) ?_
      exact ih (x3 + 1) hw H locs ls hH hS (lv_sub hl [1, 2, 3, 0] rfl) hK45 hK53
    have hw := hw.2 h
    refine lv_aload_n hx hb dX0_damage_33 rfl (lv_at hl 0 rfl) ?_
    refine g0_9 C hH q752 dX0_damage_34 ?_
    refine lv_iload_n hx hb dX0_damage_37 rfl (lv_at hl 3 rfl) ?_
    have hq1 := vp_lt hw.1
    refine l45 C hH hw.1 dX0_damage_38 ?_
    have hw := hw.2
    refine kc_ip (rn_vp (As := []) (rest := []) C hH hS (by decide) rfl hq1 (m11_isBusy l G a1 τ σ H x3.toNatClampNeg hq1 _ hw) (cwV 0 hts (lw_V q1677 q1678 q1679 q168 q1680) rfl rfl rfl kX11_isBusy ⟨Nat.le_of_ble_eq_true rfl, Nat.le_of_ble_eq_true rfl⟩) rfl hl.1 rfl (Nat.le_of_ble_eq_true rfl) dX0_damage_39 ⟨Nat.le_of_ble_eq_true rfl, Nat.le_of_ble_eq_true rfl⟩) hS (fun r2 locs hw hS => ?_)
    refine lv_if_eq (tgt := 47) hx hb dX0_damage_42 (by decide) (fun h => ?_) (fun h => ?_)
    · have hw := hw.1 h
      refine lv_iinc (v := x3 + 1) (lv' := [(3, .int (x3 + 1)), (0, .ref (ga G 0 0)), (1, .int x1), (2, .int x2)]) hx hb dX0_damage_47 hl (k := 3) rfl rfl (by decide) rfl (fun ls hl => ?_)
      refine lv_goto (tgt := 20) hx hb dX0_damage_50 (by decide) ?_
      exact ih (x3 + 1) hw H locs ls hH hS (lv_sub hl [1, 2, 3, 0] rfl) hK45 hK53
    have hw := hw.2 h
    exact hK45 hw H locs ls hH hS (lv_sub hl [] rfl)
def w0_damage (σ : St) (x1 : Int32) (x2 : Int32) (Q : Int32 → St → Prop) : Prop := (x1 < 0 → Q 0 σ) ∧ (¬ x1 < 0 → ((x1 < (nI (σ 90 0 0).toNatClampNeg) → (∃ z3, w0_damage_L20 σ x1 x2 Q (Q 0 σ) (vp_in x1 (σ 90 0 0).toNatClampNeg ∧ (∀ σ6, σ6 = up3 σ 21 0 x1.toNatClampNeg x2.toInt8.toInt32.toInt8.toInt32 → (Q 1 σ6))) z3 0)) ∧ (¬ x1 < (nI (σ 90 0 0).toNatClampNeg) → Q 0 σ)))
set_option maxHeartbeats 4000000 in
theorem m0_damage (l : Launch) (G : Gh) (a1 : Nat → Nat → Nat) (τ : St) (σ : St) (x1 : Int32) (x2 : Int32) (Q : Int32 → St → Prop) (hw : w0_damage σ x1 x2 Q) : Met l yX0_damage (ws_ yX0_damage cX0_damage 4 (some .boolean)) rmX0_damage (PcS G a1 (cmb σ τ) [.ref (ga G 0 0), .int x1, .int x2]) (QIs G a1 (fun u => cmb u τ) Q) 0 0 (gA G) := by
  refine met_w (by decide) (Nat.le_of_ble_eq_true rfl) ?_
  intro p e s m below meth c ls C hH hS hl
  have C : Cx p e s m _ meth c cX0_damage 4 (some .boolean) "WebHost" G := C
  have hl : lv_has ls 4 [(0, .ref (ga G 0 0)), (1, .int x1), (2, .int x2)] := hl
  have hx := C.1
  have hb := C.2.1
  have hown := C.2.2.2.2.2.1
  have hts := C.2.2.2.2.2.2.1
  obtain ⟨locs, hlocs⟩ : ∃ z : List Loc, z = [] := ⟨_, rfl⟩
  obtain ⟨H, hHe⟩ : ∃ z : Heap, z = s.heap := ⟨_, rfl⟩
  have hH : Hd G a1 (cmb σ τ) H := by rw [hHe]; exact hH
  have hS : va_S (gA G) s.heap H locs := by rw [hHe, hlocs]; exact hS
  refine W.heap0 hHe.symm hlocs.symm ?_
  refine lv_iload_n hx hb dX0_damage_0 rfl (lv_at hl 1 rfl) ?_
  refine lv_if_lt (tgt := 16) hx hb dX0_damage_1 (by decide) (fun h => ?_) (fun h => ?_)
  · have hw := hw.1 h
    refine lv_iconst (v := 0) hx hb dX0_damage_16 (by decide) ?_
    exact rt_i C rfl hH hS hw dX0_damage_17
  have hw := hw.2 h
  refine lv_iload_n hx hb dX0_damage_4 rfl (lv_at hl 1 rfl) ?_
  refine lv_aload_n hx hb dX0_damage_5 rfl (lv_at hl 0 rfl) ?_
  refine g0_2 C hH q745 dX0_damage_6 ?_
  refine g1_0 C hH q199 dX0_damage_9 ?_
  refine al21 C hH dX0_damage_12 ?_
  refine lv_icmp_lt (tgt := 18) hx hb dX0_damage_13 (by decide) (fun h => ?_) (fun h => ?_)
  · have hw := hw.1 h
    refine lv_iconst (v := 0) hx hb dX0_damage_18 (by decide) ?_
    refine lv_istore_n (lv' := [(3, .int 0), (0, .ref (ga G 0 0)), (1, .int x1), (2, .int x2)]) hx hb dX0_damage_19 rfl hl (by decide) rfl (fun ls hl => ?_)
    obtain ⟨n3, hw⟩ := hw
    refine k0_damage_L20 C σ x1 x2 n3 0 hw H locs ls hH hS (lv_sub hl [1, 2, 3, 0] rfl) (fun hw H locs ls hH hS hl => ?_) (fun hw H locs ls hH hS hl => ?_)
    · refine lv_iconst (v := 0) hx hb dX0_damage_45 (by decide) ?_
      exact rt_i C rfl hH hS hw dX0_damage_46
    refine lv_aload_n hx hb dX0_damage_53 rfl (lv_at hl 0 rfl) ?_
    refine g0_2 C hH q745 dX0_damage_54 ?_
    refine g1_0 C hH q199 dX0_damage_57 ?_
    refine lv_iload_n hx hb dX0_damage_60 rfl (lv_at hl 1 rfl) ?_
    refine lv_iload_n hx hb dX0_damage_61 rfl (lv_at hl 2 rfl) ?_
    refine lv_i2b (v := x2.toInt8.toInt32) hx hb dX0_damage_62 rfl ?_
    refine s21 C hH hS hw.1 dX0_damage_63 (fun σ6 e6 H locs hH hS => ?_)
    have hw := hw.2 σ6 e6
    refine lv_iconst (v := 1) hx hb dX0_damage_64 (by decide) ?_
    exact rt_i C rfl hH hS hw dX0_damage_65
  have hw := hw.2 h
  refine lv_iconst (v := 0) hx hb dX0_damage_16 (by decide) ?_
  exact rt_i C rfl hH hS hw dX0_damage_17
/-! WebHost$Store.find([BI)I -/
abbrev cX1_find : ByteArray := prog_13_method_12_code
def yX1_find : MethodName := ⟨RX1, "find", "([BI)I"⟩
theorem dX1_find_0 : decode cX1_find 0 = .ok (.iconst 0, 1) := by decide +kernel
theorem dX1_find_1 : decode cX1_find 1 = .ok (.istore_n 3, 1) := by decide +kernel
theorem dX1_find_2 : decode cX1_find 2 = .ok (.iload_n 3, 1) := by decide +kernel
theorem dX1_find_3 : decode cX1_find 3 = .ok (.aload_n 0, 1) := by decide +kernel
theorem dX1_find_4 : decode cX1_find 4 = .ok (.getfield 49, 3) := by decide +kernel
theorem dX1_find_7 : decode cX1_find 7 = .ok (.if_icmp .ge 22, 3) := by decide +kernel
theorem dX1_find_10 : decode cX1_find 10 = .ok (.aload_n 0, 1) := by decide +kernel
theorem dX1_find_11 : decode cX1_find 11 = .ok (.iload_n 3, 1) := by decide +kernel
theorem dX1_find_12 : decode cX1_find 12 = .ok (.aload_n 1, 1) := by decide +kernel
theorem dX1_find_13 : decode cX1_find 13 = .ok (.iconst 0, 1) := by decide +kernel
theorem dX1_find_14 : decode cX1_find 14 = .ok (.iload_n 2, 1) := by decide +kernel
theorem dX1_find_15 : decode cX1_find 15 = .ok (.invokevirtual 62, 3) := by decide +kernel
theorem dX1_find_18 : decode cX1_find 18 = .ok (.ifCond .eq 5, 3) := by decide +kernel
theorem dX1_find_21 : decode cX1_find 21 = .ok (.iload_n 3, 1) := by decide +kernel
theorem dX1_find_22 : decode cX1_find 22 = .ok (.ireturn, 1) := by decide +kernel
theorem dX1_find_23 : decode cX1_find 23 = .ok (.iinc 3 1, 3) := by decide +kernel
theorem dX1_find_26 : decode cX1_find 26 = .ok (.goto (-24), 3) := by decide +kernel
theorem dX1_find_29 : decode cX1_find 29 = .ok (.iconst (-1), 1) := by decide +kernel
theorem dX1_find_30 : decode cX1_find 30 = .ok (.ireturn, 1) := by decide +kernel
def rmX1_find : Room := { frames := 3, cells := 0, slots := 0, locals := 68 }
theorem kX1_find : yX1_find.cls = "WebHost$Store" ∧ yX1_find.cls ≠ "java/lang/invoke/MethodHandle" ∧ yX1_find.cls ≠ "java/lang/invoke/VarHandle" ∧ (parseMethodDescriptor yX1_find.desc).map (fun d => d.parameters.length) = some 2 := by decide +kernel
def w1_find_L2 (σ : St) (k1 : Nat) (i1 : Nat) (x2 : Int32) (Q : Int32 → Prop) (K21 : Int32 → Prop) (K29 : Prop) : Nat → Int32 → Prop
  | 0, _ => False
  | n + 1, x3 => ((σ 1 0 1) ≤ x3 → K29) ∧ (¬ (σ 1 0 1) ≤ x3 → (w1_isNamed σ x3 k1 i1 0 x2 (fun r1 => ((r1 = 0 → (w1_find_L2 σ k1 i1 x2 Q K21 K29 n (x3 + 1))) ∧ (¬ r1 = 0 → K21 x3)))))
set_option maxHeartbeats 4000000 in
theorem k1_find_L2 {p : Program} {l : Launch} {e : Env} {s : State} {m : MethodId} {args : Array Value} {below : List Frame} {meth : Method} {c : Code} {G : Gh} {a1 : Nat → Nat → Nat} {τ : St} {H : Heap} {Q : Int32 → Prop} {K21 : Int32 → Prop} {K29 : Prop} (C : Cx p e s m args meth c cX1_find 4 (some .int) "WebHost$Store" G) (σ : St) (k1 : Nat) (i1 : Nat) (x2 : Int32) (hk1 : abc k1 i1 = true) (hH : Hd G a1 (cmb σ τ) H) :
    ∀ (n : Nat) (x3 : Int32), w1_find_L2 σ k1 i1 x2 Q K21 K29 n x3 → ∀ (locs : List Loc) (ls : Array Slot), va_S (gA G) s.heap H locs → lv_has ls 4 [(0, .ref (ga G 1 0)), (1, .ref (adr G a1 k1 i1)), (2, .int x2), (3, .int x3)] → (∀ (x3 : Int32), K21 x3 → ∀ (locs : List Loc) (ls : Array Slot), va_S (gA G) s.heap H locs → lv_has ls 4 [(3, .int x3)] → W p l e rmX1_find s m args below meth c H locs 0 0 (MQ below (QIp G H Q) args s 0 0 (gA G)) (F0 m 21 ls [])) → (K29 → ∀ (locs : List Loc) (ls : Array Slot), va_S (gA G) s.heap H locs → lv_has ls 4 [] → W p l e rmX1_find s m args below meth c H locs 0 0 (MQ below (QIp G H Q) args s 0 0 (gA G)) (F0 m 29 ls [])) → W p l e rmX1_find s m args below meth c H locs 0 0 (MQ below (QIp G H Q) args s 0 0 (gA G)) (F0 m 2 ls []) := by
  have hx := C.1
  have hb := C.2.1
  have hown := C.2.2.2.2.2.1
  have hts := C.2.2.2.2.2.2.1
  intro n
  induction n with
  | zero =>
    intro x3 hw
    exact False.elim hw
  | succ n ih =>
    intro x3 hw locs ls hS hl hK21 hK29
    refine lv_iload_n hx hb dX1_find_2 rfl (lv_at hl 3 rfl) ?_
    refine lv_aload_n hx hb dX1_find_3 rfl (lv_at hl 0 rfl) ?_
    refine g1_1 C hH q201 dX1_find_4 ?_
    refine lv_icmp_ge (tgt := 29) hx hb dX1_find_7 (by decide) (fun h => ?_) (fun h => ?_)
    · have hw := hw.1 h
      exact hK29 hw locs ls hS (lv_sub hl [] rfl)
    have hw := hw.2 h
    refine lv_aload_n hx hb dX1_find_10 rfl (lv_at hl 0 rfl) ?_
    refine lv_iload_n hx hb dX1_find_11 rfl (lv_at hl 3 rfl) ?_
    refine lv_aload_n hx hb dX1_find_12 rfl (lv_at hl 1 rfl) ?_
    refine lv_iconst (v := 0) hx hb dX1_find_13 (by decide) ?_
    refine lv_iload_n hx hb dX1_find_14 rfl (lv_at hl 2 rfl) ?_
    refine kc_ip (rn_vp (As := [.int x3, .ref (adr G a1 k1 i1), .int 0, .int x2]) (rest := []) C hH hS (by decide) rfl (by decide) (m1_isNamed l G a1 τ σ H x3 k1 i1 0 x2 hk1 _ hw) (cwV 4 hts (lw_V q856 q858 qs4 q158 q859) rfl rfl rfl kX1_isNamed ⟨Nat.le_of_ble_eq_true rfl, Nat.le_of_ble_eq_true rfl⟩) rfl hl.1 rfl (Nat.le_of_ble_eq_true rfl) dX1_find_15 ⟨Nat.le_of_ble_eq_true rfl, Nat.le_of_ble_eq_true rfl⟩) hS (fun r1 locs hw hS => ?_)
    refine lv_if_eq (tgt := 23) hx hb dX1_find_18 (by decide) (fun h => ?_) (fun h => ?_)
    · have hw := hw.1 h
      refine lv_iinc (v := x3 + 1) (lv' := [(3, .int (x3 + 1)), (0, .ref (ga G 1 0)), (1, .ref (adr G a1 k1 i1)), (2, .int x2)]) hx hb dX1_find_23 hl (k := 3) rfl rfl (by decide) rfl (fun ls hl => ?_)
      refine lv_goto (tgt := 2) hx hb dX1_find_26 (by decide) ?_
      exact ih (x3 + 1) hw locs ls hS (lv_sub hl [1, 2, 3, 0] rfl) hK21 hK29
    have hw := hw.2 h
    exact hK21 x3 hw locs ls hS (lv_sub hl [3] rfl)
def w1_find (σ : St) (k1 : Nat) (i1 : Nat) (x2 : Int32) (Q : Int32 → Prop) : Prop := ∃ z2, w1_find_L2 σ k1 i1 x2 Q (fun x3_3 => Q x3_3) (Q (-1)) z2 0
set_option maxHeartbeats 4000000 in
theorem m1_find (l : Launch) (G : Gh) (a1 : Nat → Nat → Nat) (τ : St) (σ : St) (H : Heap) (k1 : Nat) (i1 : Nat) (x2 : Int32) (hk1 : abc k1 i1 = true) (Q : Int32 → Prop) (hw : w1_find σ k1 i1 x2 Q) : Met l yX1_find (ws_ yX1_find cX1_find 4 (some .int)) rmX1_find (PcP G a1 (cmb σ τ) H [.ref (ga G 1 0), .ref (adr G a1 k1 i1), .int x2]) (QIp G H Q) 0 0 (gA G) := by
  refine met_p (by decide) (Nat.le_of_ble_eq_true rfl) ?_
  intro p e s m below meth c ls hHe C hH hS hl
  have C : Cx p e s m _ meth c cX1_find 4 (some .int) "WebHost$Store" G := C
  have hl : lv_has ls 4 [(0, .ref (ga G 1 0)), (1, .ref (adr G a1 k1 i1)), (2, .int x2)] := hl
  have hx := C.1
  have hb := C.2.1
  have hown := C.2.2.2.2.2.1
  have hts := C.2.2.2.2.2.2.1
  obtain ⟨locs, hlocs⟩ : ∃ z : List Loc, z = [] := ⟨_, rfl⟩
  rw [← hlocs] at hS ⊢
  refine lv_iconst (v := 0) hx hb dX1_find_0 (by decide) ?_
  refine lv_istore_n (lv' := [(3, .int 0), (0, .ref (ga G 1 0)), (1, .ref (adr G a1 k1 i1)), (2, .int x2)]) hx hb dX1_find_1 rfl hl (by decide) rfl (fun ls hl => ?_)
  obtain ⟨n2, hw⟩ := hw
  refine k1_find_L2 C σ k1 i1 x2 hk1 hH n2 0 hw locs ls hS (lv_sub hl [1, 2, 3, 0] rfl) (fun x3_3 hw locs ls hS hl => ?_) (fun hw locs ls hS hl => ?_)
  · refine lv_iload_n hx hb dX1_find_21 rfl (lv_at hl 0 rfl) ?_
    exact rt_ip C rfl hS hw dX1_find_22
  refine lv_iconst (v := (-1)) hx hb dX1_find_29 (by decide) ?_
  exact rt_ip C rfl hS hw dX1_find_30
/-! WebHost$Store.isRight(I)Z -/
abbrev cX1_isRight : ByteArray := prog_13_method_10_code
def yX1_isRight : MethodName := ⟨RX1, "isRight", "(I)Z"⟩
theorem dX1_isRight_0 : decode cX1_isRight 0 = .ok (.aload_n 0, 1) := by decide +kernel
theorem dX1_isRight_1 : decode cX1_isRight 1 = .ok (.iload_n 1, 1) := by decide +kernel
theorem dX1_isRight_2 : decode cX1_isRight 2 = .ok (.invokevirtual 53, 3) := by decide +kernel
theorem dX1_isRight_5 : decode cX1_isRight 5 = .ok (.istore_n 2, 1) := by decide +kernel
theorem dX1_isRight_6 : decode cX1_isRight 6 = .ok (.iload_n 2, 1) := by decide +kernel
theorem dX1_isRight_7 : decode cX1_isRight 7 = .ok (.ifCond .eq 23, 3) := by decide +kernel
theorem dX1_isRight_10 : decode cX1_isRight 10 = .ok (.iload_n 2, 1) := by decide +kernel
theorem dX1_isRight_11 : decode cX1_isRight 11 = .ok (.bipush 48, 2) := by decide +kernel
theorem dX1_isRight_13 : decode cX1_isRight 13 = .ok (.if_icmp .eq 17, 3) := by decide +kernel
theorem dX1_isRight_16 : decode cX1_isRight 16 = .ok (.aload_n 0, 1) := by decide +kernel
theorem dX1_isRight_17 : decode cX1_isRight 17 = .ok (.aload_n 0, 1) := by decide +kernel
theorem dX1_isRight_18 : decode cX1_isRight 18 = .ok (.iload_n 1, 1) := by decide +kernel
theorem dX1_isRight_19 : decode cX1_isRight 19 = .ok (.invokevirtual 20, 3) := by decide +kernel
theorem dX1_isRight_22 : decode cX1_isRight 22 = .ok (.invokevirtual 24, 3) := by decide +kernel
theorem dX1_isRight_25 : decode cX1_isRight 25 = .ok (.bipush 47, 2) := by decide +kernel
theorem dX1_isRight_27 : decode cX1_isRight 27 = .ok (.if_icmp .eq 5, 3) := by decide +kernel
theorem dX1_isRight_30 : decode cX1_isRight 30 = .ok (.iconst 0, 1) := by decide +kernel
theorem dX1_isRight_31 : decode cX1_isRight 31 = .ok (.ireturn, 1) := by decide +kernel
theorem dX1_isRight_32 : decode cX1_isRight 32 = .ok (.iconst 0, 1) := by decide +kernel
theorem dX1_isRight_33 : decode cX1_isRight 33 = .ok (.istore_n 3, 1) := by decide +kernel
theorem dX1_isRight_34 : decode cX1_isRight 34 = .ok (.iload_n 3, 1) := by decide +kernel
theorem dX1_isRight_35 : decode cX1_isRight 35 = .ok (.iload_n 2, 1) := by decide +kernel
theorem dX1_isRight_36 : decode cX1_isRight 36 = .ok (.if_icmp .ge 43, 3) := by decide +kernel
theorem dX1_isRight_39 : decode cX1_isRight 39 = .ok (.aload_n 0, 1) := by decide +kernel
theorem dX1_isRight_40 : decode cX1_isRight 40 = .ok (.aload_n 0, 1) := by decide +kernel
theorem dX1_isRight_41 : decode cX1_isRight 41 = .ok (.iload_n 1, 1) := by decide +kernel
theorem dX1_isRight_42 : decode cX1_isRight 42 = .ok (.invokevirtual 20, 3) := by decide +kernel
theorem dX1_isRight_45 : decode cX1_isRight 45 = .ok (.iload_n 3, 1) := by decide +kernel
theorem dX1_isRight_46 : decode cX1_isRight 46 = .ok (.iadd, 1) := by decide +kernel
theorem dX1_isRight_47 : decode cX1_isRight 47 = .ok (.invokevirtual 24, 3) := by decide +kernel
theorem dX1_isRight_50 : decode cX1_isRight 50 = .ok (.bipush 33, 2) := by decide +kernel
theorem dX1_isRight_52 : decode cX1_isRight 52 = .ok (.if_icmp .lt 19, 3) := by decide +kernel
theorem dX1_isRight_55 : decode cX1_isRight 55 = .ok (.aload_n 0, 1) := by decide +kernel
theorem dX1_isRight_56 : decode cX1_isRight 56 = .ok (.aload_n 0, 1) := by decide +kernel
theorem dX1_isRight_57 : decode cX1_isRight 57 = .ok (.iload_n 1, 1) := by decide +kernel
theorem dX1_isRight_58 : decode cX1_isRight 58 = .ok (.invokevirtual 20, 3) := by decide +kernel
theorem dX1_isRight_61 : decode cX1_isRight 61 = .ok (.iload_n 3, 1) := by decide +kernel
theorem dX1_isRight_62 : decode cX1_isRight 62 = .ok (.iadd, 1) := by decide +kernel
theorem dX1_isRight_63 : decode cX1_isRight 63 = .ok (.invokevirtual 24, 3) := by decide +kernel
theorem dX1_isRight_66 : decode cX1_isRight 66 = .ok (.bipush 126, 2) := by decide +kernel
theorem dX1_isRight_68 : decode cX1_isRight 68 = .ok (.if_icmp .le 5, 3) := by decide +kernel
theorem dX1_isRight_71 : decode cX1_isRight 71 = .ok (.iconst 0, 1) := by decide +kernel
theorem dX1_isRight_72 : decode cX1_isRight 72 = .ok (.ireturn, 1) := by decide +kernel
theorem dX1_isRight_73 : decode cX1_isRight 73 = .ok (.iinc 3 1, 3) := by decide +kernel
theorem dX1_isRight_76 : decode cX1_isRight 76 = .ok (.goto (-42), 3) := by decide +kernel
theorem dX1_isRight_79 : decode cX1_isRight 79 = .ok (.iload_n 2, 1) := by decide +kernel
theorem dX1_isRight_80 : decode cX1_isRight 80 = .ok (.istore_n 3, 1) := by decide +kernel
theorem dX1_isRight_81 : decode cX1_isRight 81 = .ok (.iload_n 3, 1) := by decide +kernel
theorem dX1_isRight_82 : decode cX1_isRight 82 = .ok (.bipush 48, 2) := by decide +kernel
theorem dX1_isRight_84 : decode cX1_isRight 84 = .ok (.if_icmp .ge 25, 3) := by decide +kernel
theorem dX1_isRight_87 : decode cX1_isRight 87 = .ok (.aload_n 0, 1) := by decide +kernel
theorem dX1_isRight_88 : decode cX1_isRight 88 = .ok (.aload_n 0, 1) := by decide +kernel
theorem dX1_isRight_89 : decode cX1_isRight 89 = .ok (.iload_n 1, 1) := by decide +kernel
theorem dX1_isRight_90 : decode cX1_isRight 90 = .ok (.invokevirtual 20, 3) := by decide +kernel
theorem dX1_isRight_93 : decode cX1_isRight 93 = .ok (.iload_n 3, 1) := by decide +kernel
theorem dX1_isRight_94 : decode cX1_isRight 94 = .ok (.iadd, 1) := by decide +kernel
theorem dX1_isRight_95 : decode cX1_isRight 95 = .ok (.invokevirtual 24, 3) := by decide +kernel
theorem dX1_isRight_98 : decode cX1_isRight 98 = .ok (.ifCond .eq 5, 3) := by decide +kernel
theorem dX1_isRight_101 : decode cX1_isRight 101 = .ok (.iconst 0, 1) := by decide +kernel
theorem dX1_isRight_102 : decode cX1_isRight 102 = .ok (.ireturn, 1) := by decide +kernel
theorem dX1_isRight_103 : decode cX1_isRight 103 = .ok (.iinc 3 1, 3) := by decide +kernel
theorem dX1_isRight_106 : decode cX1_isRight 106 = .ok (.goto (-25), 3) := by decide +kernel
theorem dX1_isRight_109 : decode cX1_isRight 109 = .ok (.aload_n 0, 1) := by decide +kernel
theorem dX1_isRight_110 : decode cX1_isRight 110 = .ok (.iload_n 1, 1) := by decide +kernel
theorem dX1_isRight_111 : decode cX1_isRight 111 = .ok (.invokevirtual 56, 3) := by decide +kernel
theorem dX1_isRight_114 : decode cX1_isRight 114 = .ok (.istore_n 3, 1) := by decide +kernel
theorem dX1_isRight_115 : decode cX1_isRight 115 = .ok (.aload_n 0, 1) := by decide +kernel
theorem dX1_isRight_116 : decode cX1_isRight 116 = .ok (.iload_n 1, 1) := by decide +kernel
theorem dX1_isRight_117 : decode cX1_isRight 117 = .ok (.invokevirtual 59, 3) := by decide +kernel
theorem dX1_isRight_120 : decode cX1_isRight 120 = .ok (.istore 4, 2) := by decide +kernel
theorem dX1_isRight_122 : decode cX1_isRight 122 = .ok (.iload_n 3, 1) := by decide +kernel
theorem dX1_isRight_123 : decode cX1_isRight 123 = .ok (.ifCond .lt 50, 3) := by decide +kernel
theorem dX1_isRight_126 : decode cX1_isRight 126 = .ok (.iload 4, 2) := by decide +kernel
theorem dX1_isRight_128 : decode cX1_isRight 128 = .ok (.ifCond .lt 45, 3) := by decide +kernel
theorem dX1_isRight_131 : decode cX1_isRight 131 = .ok (.iload_n 3, 1) := by decide +kernel
theorem dX1_isRight_132 : decode cX1_isRight 132 = .ok (.aload_n 0, 1) := by decide +kernel
theorem dX1_isRight_133 : decode cX1_isRight 133 = .ok (.getfield 7, 3) := by decide +kernel
theorem dX1_isRight_136 : decode cX1_isRight 136 = .ok (.arraylength, 1) := by decide +kernel
theorem dX1_isRight_137 : decode cX1_isRight 137 = .ok (.if_icmp .gt 36, 3) := by decide +kernel
theorem dX1_isRight_140 : decode cX1_isRight 140 = .ok (.iload 4, 2) := by decide +kernel
theorem dX1_isRight_142 : decode cX1_isRight 142 = .ok (.aload_n 0, 1) := by decide +kernel
theorem dX1_isRight_143 : decode cX1_isRight 143 = .ok (.getfield 7, 3) := by decide +kernel
theorem dX1_isRight_146 : decode cX1_isRight 146 = .ok (.arraylength, 1) := by decide +kernel
theorem dX1_isRight_147 : decode cX1_isRight 147 = .ok (.iload_n 3, 1) := by decide +kernel
theorem dX1_isRight_148 : decode cX1_isRight 148 = .ok (.isub, 1) := by decide +kernel
theorem dX1_isRight_149 : decode cX1_isRight 149 = .ok (.if_icmp .gt 24, 3) := by decide +kernel
theorem dX1_isRight_152 : decode cX1_isRight 152 = .ok (.aload_n 0, 1) := by decide +kernel
theorem dX1_isRight_153 : decode cX1_isRight 153 = .ok (.getfield 16, 3) := by decide +kernel
theorem dX1_isRight_156 : decode cX1_isRight 156 = .ok (.aload_n 0, 1) := by decide +kernel
theorem dX1_isRight_157 : decode cX1_isRight 157 = .ok (.iload_n 1, 1) := by decide +kernel
theorem dX1_isRight_158 : decode cX1_isRight 158 = .ok (.invokevirtual 20, 3) := by decide +kernel
theorem dX1_isRight_161 : decode cX1_isRight 161 = .ok (.bipush 48, 2) := by decide +kernel
theorem dX1_isRight_163 : decode cX1_isRight 163 = .ok (.iadd, 1) := by decide +kernel
theorem dX1_isRight_164 : decode cX1_isRight 164 = .ok (.bipush 12, 2) := by decide +kernel
theorem dX1_isRight_166 : decode cX1_isRight 166 = .ok (.iadd, 1) := by decide +kernel
theorem dX1_isRight_167 : decode cX1_isRight 167 = .ok (.invokestatic 27, 3) := by decide +kernel
theorem dX1_isRight_170 : decode cX1_isRight 170 = .ok (.ifCond .eq 5, 3) := by decide +kernel
theorem dX1_isRight_173 : decode cX1_isRight 173 = .ok (.iconst 0, 1) := by decide +kernel
theorem dX1_isRight_174 : decode cX1_isRight 174 = .ok (.ireturn, 1) := by decide +kernel
theorem dX1_isRight_175 : decode cX1_isRight 175 = .ok (.iconst 0, 1) := by decide +kernel
theorem dX1_isRight_176 : decode cX1_isRight 176 = .ok (.istore 5, 2) := by decide +kernel
theorem dX1_isRight_178 : decode cX1_isRight 178 = .ok (.iload 5, 2) := by decide +kernel
theorem dX1_isRight_180 : decode cX1_isRight 180 = .ok (.iload_n 1, 1) := by decide +kernel
theorem dX1_isRight_181 : decode cX1_isRight 181 = .ok (.if_icmp .ge 30, 3) := by decide +kernel
theorem dX1_isRight_184 : decode cX1_isRight 184 = .ok (.aload_n 0, 1) := by decide +kernel
theorem dX1_isRight_185 : decode cX1_isRight 185 = .ok (.iload 5, 2) := by decide +kernel
theorem dX1_isRight_187 : decode cX1_isRight 187 = .ok (.aload_n 0, 1) := by decide +kernel
theorem dX1_isRight_188 : decode cX1_isRight 188 = .ok (.getfield 16, 3) := by decide +kernel
theorem dX1_isRight_191 : decode cX1_isRight 191 = .ok (.aload_n 0, 1) := by decide +kernel
theorem dX1_isRight_192 : decode cX1_isRight 192 = .ok (.iload_n 1, 1) := by decide +kernel
theorem dX1_isRight_193 : decode cX1_isRight 193 = .ok (.invokevirtual 20, 3) := by decide +kernel
theorem dX1_isRight_196 : decode cX1_isRight 196 = .ok (.iload_n 2, 1) := by decide +kernel
theorem dX1_isRight_197 : decode cX1_isRight 197 = .ok (.invokevirtual 62, 3) := by decide +kernel
theorem dX1_isRight_200 : decode cX1_isRight 200 = .ok (.ifCond .eq 5, 3) := by decide +kernel
theorem dX1_isRight_203 : decode cX1_isRight 203 = .ok (.iconst 0, 1) := by decide +kernel
theorem dX1_isRight_204 : decode cX1_isRight 204 = .ok (.ireturn, 1) := by decide +kernel
theorem dX1_isRight_205 : decode cX1_isRight 205 = .ok (.iinc 5 1, 3) := by decide +kernel
theorem dX1_isRight_208 : decode cX1_isRight 208 = .ok (.goto (-30), 3) := by decide +kernel
theorem dX1_isRight_211 : decode cX1_isRight 211 = .ok (.iconst 1, 1) := by decide +kernel
theorem dX1_isRight_212 : decode cX1_isRight 212 = .ok (.ireturn, 1) := by decide +kernel
def rmX1_isRight : Room := { frames := 3, cells := 0, slots := 0, locals := 68 }
theorem kX1_isRight : yX1_isRight.cls = "WebHost$Store" ∧ yX1_isRight.cls ≠ "java/lang/invoke/MethodHandle" ∧ yX1_isRight.cls ≠ "java/lang/invoke/VarHandle" ∧ (parseMethodDescriptor yX1_isRight.desc).map (fun d => d.parameters.length) = some 1 := by decide +kernel
def w1_isRight_L34 (σ : St) (x1 : Int32) (x2 : Int32) (Q : Int32 → Prop) (K71 : Prop) (K79 : Prop) : Nat → Int32 → Prop
  | 0, _ => False
  | n + 1, x3 => (x2 ≤ x3 → K79) ∧ (¬ x2 ≤ x3 → (w1_entry σ x1 (fun r4 => (w1_look σ (r4 + x3) (fun r5 => ((r5 < 33 → K71) ∧ (¬ r5 < 33 → (w1_entry σ x1 (fun r6 => (w1_look σ (r6 + x3) (fun r7 => ((r7 ≤ 126 → (w1_isRight_L34 σ x1 x2 Q K71 K79 n (x3 + 1))) ∧ (¬ r7 ≤ 126 → K71)))))))))))))
set_option maxHeartbeats 4000000 in
theorem k1_isRight_L34 {p : Program} {l : Launch} {e : Env} {s : State} {m : MethodId} {args : Array Value} {below : List Frame} {meth : Method} {c : Code} {G : Gh} {a1 : Nat → Nat → Nat} {τ : St} {H : Heap} {Q : Int32 → Prop} {K71 : Prop} {K79 : Prop} (C : Cx p e s m args meth c cX1_isRight 6 (some .boolean) "WebHost$Store" G) (σ : St) (x1 : Int32) (x2 : Int32) (hH : Hd G a1 (cmb σ τ) H) :
    ∀ (n : Nat) (x3 : Int32), w1_isRight_L34 σ x1 x2 Q K71 K79 n x3 → ∀ (locs : List Loc) (ls : Array Slot), va_S (gA G) s.heap H locs → lv_has ls 6 [(0, .ref (ga G 1 0)), (1, .int x1), (2, .int x2), (3, .int x3)] → (K71 → ∀ (locs : List Loc) (ls : Array Slot), va_S (gA G) s.heap H locs → lv_has ls 6 [] → W p l e rmX1_isRight s m args below meth c H locs 0 0 (MQ below (QIp G H Q) args s 0 0 (gA G)) (F0 m 71 ls [])) → (K79 → ∀ (locs : List Loc) (ls : Array Slot), va_S (gA G) s.heap H locs → lv_has ls 6 [(0, .ref (ga G 1 0)), (1, .int x1), (2, .int x2)] → W p l e rmX1_isRight s m args below meth c H locs 0 0 (MQ below (QIp G H Q) args s 0 0 (gA G)) (F0 m 79 ls [])) → W p l e rmX1_isRight s m args below meth c H locs 0 0 (MQ below (QIp G H Q) args s 0 0 (gA G)) (F0 m 34 ls []) := by
  have hx := C.1
  have hb := C.2.1
  have hown := C.2.2.2.2.2.1
  have hts := C.2.2.2.2.2.2.1
  intro n
  induction n with
  | zero =>
    intro x3 hw
    exact False.elim hw
  | succ n ih =>
    intro x3 hw locs ls hS hl hK71 hK79
    refine lv_iload_n hx hb dX1_isRight_34 rfl (lv_at hl 3 rfl) ?_
    refine lv_iload_n hx hb dX1_isRight_35 rfl (lv_at hl 2 rfl) ?_
    refine lv_icmp_ge (tgt := 79) hx hb dX1_isRight_36 (by decide) (fun h => ?_) (fun h => ?_)
    · have hw := hw.1 h
      exact hK79 hw locs ls hS (lv_sub hl [0, 1, 2] rfl)
    have hw := hw.2 h
    refine lv_aload_n hx hb dX1_isRight_39 rfl (lv_at hl 0 rfl) ?_
    refine lv_aload_n hx hb dX1_isRight_40 rfl (lv_at hl 0 rfl) ?_
    refine lv_iload_n hx hb dX1_isRight_41 rfl (lv_at hl 1 rfl) ?_
    refine kc_ip (rn_vp (As := [.int x1]) (rest := [.ref (ga G 1 0)]) C hH hS (by decide) rfl (by decide) (m1_entry l G a1 τ σ H x1 _ hw) (cwV 1 hts (lw_V q827 q829 qs0 q158 q830) rfl rfl rfl kX1_entry ⟨Nat.le_of_ble_eq_true rfl, Nat.le_of_ble_eq_true rfl⟩) rfl hl.1 rfl (Nat.le_of_ble_eq_true rfl) dX1_isRight_42 ⟨Nat.le_of_ble_eq_true rfl, Nat.le_of_ble_eq_true rfl⟩) hS (fun r4 locs hw hS => ?_)
    refine lv_iload_n hx hb dX1_isRight_45 rfl (lv_at hl 3 rfl) ?_
    refine lv_iadd hx hb dX1_isRight_46 ?_
    refine kc_ip (rn_vp (As := [.int (r4 + x3)]) (rest := []) C hH hS (by decide) rfl (by decide) (m1_look l G a1 τ σ H (r4 + x3) _ hw) (cwV 1 hts (lw_V q844 q846 qs3 q158 q847) rfl rfl rfl kX1_look ⟨Nat.le_of_ble_eq_true rfl, Nat.le_of_ble_eq_true rfl⟩) rfl hl.1 rfl (Nat.le_of_ble_eq_true rfl) dX1_isRight_47 ⟨Nat.le_of_ble_eq_true rfl, Nat.le_of_ble_eq_true rfl⟩) hS (fun r5 locs hw hS => ?_)
    refine lv_bipush (v := 33) hx hb dX1_isRight_50 (by decide) ?_
    refine lv_icmp_lt (tgt := 71) hx hb dX1_isRight_52 (by decide) (fun h => ?_) (fun h => ?_)
    · have hw := hw.1 h
      exact hK71 hw locs ls hS (lv_sub hl [] rfl)
    have hw := hw.2 h
    refine lv_aload_n hx hb dX1_isRight_55 rfl (lv_at hl 0 rfl) ?_
    refine lv_aload_n hx hb dX1_isRight_56 rfl (lv_at hl 0 rfl) ?_
    refine lv_iload_n hx hb dX1_isRight_57 rfl (lv_at hl 1 rfl) ?_
    refine kc_ip (rn_vp (As := [.int x1]) (rest := [.ref (ga G 1 0)]) C hH hS (by decide) rfl (by decide) (m1_entry l G a1 τ σ H x1 _ hw) (cwV 1 hts (lw_V q827 q829 qs0 q158 q830) rfl rfl rfl kX1_entry ⟨Nat.le_of_ble_eq_true rfl, Nat.le_of_ble_eq_true rfl⟩) rfl hl.1 rfl (Nat.le_of_ble_eq_true rfl) dX1_isRight_58 ⟨Nat.le_of_ble_eq_true rfl, Nat.le_of_ble_eq_true rfl⟩) hS (fun r6 locs hw hS => ?_)
    refine lv_iload_n hx hb dX1_isRight_61 rfl (lv_at hl 3 rfl) ?_
    refine lv_iadd hx hb dX1_isRight_62 ?_
    refine kc_ip (rn_vp (As := [.int (r6 + x3)]) (rest := []) C hH hS (by decide) rfl (by decide) (m1_look l G a1 τ σ H (r6 + x3) _ hw) (cwV 1 hts (lw_V q844 q846 qs3 q158 q847) rfl rfl rfl kX1_look ⟨Nat.le_of_ble_eq_true rfl, Nat.le_of_ble_eq_true rfl⟩) rfl hl.1 rfl (Nat.le_of_ble_eq_true rfl) dX1_isRight_63 ⟨Nat.le_of_ble_eq_true rfl, Nat.le_of_ble_eq_true rfl⟩) hS (fun r7 locs hw hS => ?_)
    refine lv_bipush (v := 126) hx hb dX1_isRight_66 (by decide) ?_
    refine lv_icmp_le (tgt := 73) hx hb dX1_isRight_68 (by decide) (fun h => ?_) (fun h => ?_)
    · have hw := hw.1 h
      refine lv_iinc (v := x3 + 1) (lv' := [(3, .int (x3 + 1)), (0, .ref (ga G 1 0)), (1, .int x1), (2, .int x2)]) hx hb dX1_isRight_73 hl (k := 3) rfl rfl (by decide) rfl (fun ls hl => ?_)
      refine lv_goto (tgt := 34) hx hb dX1_isRight_76 (by decide) ?_
      exact ih (x3 + 1) hw locs ls hS (lv_sub hl [1, 2, 3, 0] rfl) hK71 hK79
    have hw := hw.2 h
    exact hK71 hw locs ls hS (lv_sub hl [] rfl)
def w1_isRight_L81 (σ : St) (x1 : Int32) (x2 : Int32) (Q : Int32 → Prop) (K101 : Prop) (K109 : Prop) : Nat → Int32 → Prop
  | 0, _ => False
  | n + 1, x3 => (48 ≤ x3 → K109) ∧ (¬ 48 ≤ x3 → (w1_entry σ x1 (fun r11 => (w1_look σ (r11 + x3) (fun r12 => ((r12 = 0 → (w1_isRight_L81 σ x1 x2 Q K101 K109 n (x3 + 1))) ∧ (¬ r12 = 0 → K101)))))))
set_option maxHeartbeats 4000000 in
theorem k1_isRight_L81 {p : Program} {l : Launch} {e : Env} {s : State} {m : MethodId} {args : Array Value} {below : List Frame} {meth : Method} {c : Code} {G : Gh} {a1 : Nat → Nat → Nat} {τ : St} {H : Heap} {Q : Int32 → Prop} {K101 : Prop} {K109 : Prop} (C : Cx p e s m args meth c cX1_isRight 6 (some .boolean) "WebHost$Store" G) (σ : St) (x1 : Int32) (x2 : Int32) (hH : Hd G a1 (cmb σ τ) H) :
    ∀ (n : Nat) (x3 : Int32), w1_isRight_L81 σ x1 x2 Q K101 K109 n x3 → ∀ (locs : List Loc) (ls : Array Slot), va_S (gA G) s.heap H locs → lv_has ls 6 [(0, .ref (ga G 1 0)), (1, .int x1), (2, .int x2), (3, .int x3)] → (K101 → ∀ (locs : List Loc) (ls : Array Slot), va_S (gA G) s.heap H locs → lv_has ls 6 [] → W p l e rmX1_isRight s m args below meth c H locs 0 0 (MQ below (QIp G H Q) args s 0 0 (gA G)) (F0 m 101 ls [])) → (K109 → ∀ (locs : List Loc) (ls : Array Slot), va_S (gA G) s.heap H locs → lv_has ls 6 [(0, .ref (ga G 1 0)), (1, .int x1), (2, .int x2)] → W p l e rmX1_isRight s m args below meth c H locs 0 0 (MQ below (QIp G H Q) args s 0 0 (gA G)) (F0 m 109 ls [])) → W p l e rmX1_isRight s m args below meth c H locs 0 0 (MQ below (QIp G H Q) args s 0 0 (gA G)) (F0 m 81 ls []) := by
  have hx := C.1
  have hb := C.2.1
  have hown := C.2.2.2.2.2.1
  have hts := C.2.2.2.2.2.2.1
  intro n
  induction n with
  | zero =>
    intro x3 hw
    exact False.elim hw
  | succ n ih =>
    intro x3 hw locs ls hS hl hK101 hK109
    refine lv_iload_n hx hb dX1_isRight_81 rfl (lv_at hl 3 rfl) ?_
    refine lv_bipush (v := 48) hx hb dX1_isRight_82 (by decide) ?_
    refine lv_icmp_ge (tgt := 109) hx hb dX1_isRight_84 (by decide) (fun h => ?_) (fun h => ?_)
    · have hw := hw.1 h
      exact hK109 hw locs ls hS (lv_sub hl [0, 1, 2] rfl)
    have hw := hw.2 h
    refine lv_aload_n hx hb dX1_isRight_87 rfl (lv_at hl 0 rfl) ?_
    refine lv_aload_n hx hb dX1_isRight_88 rfl (lv_at hl 0 rfl) ?_
    refine lv_iload_n hx hb dX1_isRight_89 rfl (lv_at hl 1 rfl) ?_
    refine kc_ip (rn_vp (As := [.int x1]) (rest := [.ref (ga G 1 0)]) C hH hS (by decide) rfl (by decide) (m1_entry l G a1 τ σ H x1 _ hw) (cwV 1 hts (lw_V q827 q829 qs0 q158 q830) rfl rfl rfl kX1_entry ⟨Nat.le_of_ble_eq_true rfl, Nat.le_of_ble_eq_true rfl⟩) rfl hl.1 rfl (Nat.le_of_ble_eq_true rfl) dX1_isRight_90 ⟨Nat.le_of_ble_eq_true rfl, Nat.le_of_ble_eq_true rfl⟩) hS (fun r11 locs hw hS => ?_)
    refine lv_iload_n hx hb dX1_isRight_93 rfl (lv_at hl 3 rfl) ?_
    refine lv_iadd hx hb dX1_isRight_94 ?_
    refine kc_ip (rn_vp (As := [.int (r11 + x3)]) (rest := []) C hH hS (by decide) rfl (by decide) (m1_look l G a1 τ σ H (r11 + x3) _ hw) (cwV 1 hts (lw_V q844 q846 qs3 q158 q847) rfl rfl rfl kX1_look ⟨Nat.le_of_ble_eq_true rfl, Nat.le_of_ble_eq_true rfl⟩) rfl hl.1 rfl (Nat.le_of_ble_eq_true rfl) dX1_isRight_95 ⟨Nat.le_of_ble_eq_true rfl, Nat.le_of_ble_eq_true rfl⟩) hS (fun r12 locs hw hS => ?_)
    refine lv_if_eq (tgt := 103) hx hb dX1_isRight_98 (by decide) (fun h => ?_) (fun h => ?_)
    · have hw := hw.1 h
      refine lv_iinc (v := x3 + 1) (lv' := [(3, .int (x3 + 1)), (0, .ref (ga G 1 0)), (1, .int x1), (2, .int x2)]) hx hb dX1_isRight_103 hl (k := 3) rfl rfl (by decide) rfl (fun ls hl => ?_)
      refine lv_goto (tgt := 81) hx hb dX1_isRight_106 (by decide) ?_
      exact ih (x3 + 1) hw locs ls hS (lv_sub hl [1, 2, 3, 0] rfl) hK101 hK109
    have hw := hw.2 h
    exact hK101 hw locs ls hS (lv_sub hl [] rfl)
def w1_isRight_L178 (σ : St) (x1 : Int32) (x2 : Int32) (Q : Int32 → Prop) (K203 : Prop) (K211 : Prop) : Nat → Int32 → Prop
  | 0, _ => False
  | n + 1, x5 => (x1 ≤ x5 → K211) ∧ (¬ x1 ≤ x5 → (abc (σ 1 0 3).toNatClampNeg (σ 1 0 103).toNatClampNeg = true ∧ (w1_entry σ x1 (fun r22 => (w1_isNamed σ x5 ((σ 1 0 3).toNatClampNeg) ((σ 1 0 103).toNatClampNeg) r22 x2 (fun r23 => ((r23 = 0 → (w1_isRight_L178 σ x1 x2 Q K203 K211 n (x5 + 1))) ∧ (¬ r23 = 0 → K203))))))))
set_option maxHeartbeats 4000000 in
theorem k1_isRight_L178 {p : Program} {l : Launch} {e : Env} {s : State} {m : MethodId} {args : Array Value} {below : List Frame} {meth : Method} {c : Code} {G : Gh} {a1 : Nat → Nat → Nat} {τ : St} {H : Heap} {Q : Int32 → Prop} {K203 : Prop} {K211 : Prop} (C : Cx p e s m args meth c cX1_isRight 6 (some .boolean) "WebHost$Store" G) (σ : St) (x1 : Int32) (x2 : Int32) (hH : Hd G a1 (cmb σ τ) H) :
    ∀ (n : Nat) (x5 : Int32), w1_isRight_L178 σ x1 x2 Q K203 K211 n x5 → ∀ (locs : List Loc) (ls : Array Slot), va_S (gA G) s.heap H locs → lv_has ls 6 [(0, .ref (ga G 1 0)), (1, .int x1), (2, .int x2), (5, .int x5)] → (K203 → ∀ (locs : List Loc) (ls : Array Slot), va_S (gA G) s.heap H locs → lv_has ls 6 [] → W p l e rmX1_isRight s m args below meth c H locs 0 0 (MQ below (QIp G H Q) args s 0 0 (gA G)) (F0 m 203 ls [])) → (K211 → ∀ (locs : List Loc) (ls : Array Slot), va_S (gA G) s.heap H locs → lv_has ls 6 [] → W p l e rmX1_isRight s m args below meth c H locs 0 0 (MQ below (QIp G H Q) args s 0 0 (gA G)) (F0 m 211 ls [])) → W p l e rmX1_isRight s m args below meth c H locs 0 0 (MQ below (QIp G H Q) args s 0 0 (gA G)) (F0 m 178 ls []) := by
  have hx := C.1
  have hb := C.2.1
  have hown := C.2.2.2.2.2.1
  have hts := C.2.2.2.2.2.2.1
  intro n
  induction n with
  | zero =>
    intro x5 hw
    exact False.elim hw
  | succ n ih =>
    intro x5 hw locs ls hS hl hK203 hK211
    refine lv_iload hx hb dX1_isRight_178 (lv_at hl 3 rfl) ?_
    refine lv_iload_n hx hb dX1_isRight_180 rfl (lv_at hl 1 rfl) ?_
    refine lv_icmp_ge (tgt := 211) hx hb dX1_isRight_181 (by decide) (fun h => ?_) (fun h => ?_)
    · have hw := hw.1 h
      exact hK211 hw locs ls hS (lv_sub hl [] rfl)
    have hw := hw.2 h
    refine lv_aload_n hx hb dX1_isRight_184 rfl (lv_at hl 0 rfl) ?_
    refine lv_iload hx hb dX1_isRight_185 (lv_at hl 3 rfl) ?_
    refine lv_aload_n hx hb dX1_isRight_187 rfl (lv_at hl 0 rfl) ?_
    obtain ⟨hq21, hw⟩ := hw
    refine g1_3 C hH hq21 q203 dX1_isRight_188 ?_
    refine lv_aload_n hx hb dX1_isRight_191 rfl (lv_at hl 0 rfl) ?_
    refine lv_iload_n hx hb dX1_isRight_192 rfl (lv_at hl 1 rfl) ?_
    refine kc_ip (rn_vp (As := [.int x1]) (rest := [.ref (adr G a1 ((σ 1 0 3).toNatClampNeg) ((σ 1 0 103).toNatClampNeg)), .int x5, .ref (ga G 1 0)]) C hH hS (by decide) rfl (by decide) (m1_entry l G a1 τ σ H x1 _ hw) (cwV 1 hts (lw_V q827 q829 qs0 q158 q830) rfl rfl rfl kX1_entry ⟨Nat.le_of_ble_eq_true rfl, Nat.le_of_ble_eq_true rfl⟩) rfl hl.1 rfl (Nat.le_of_ble_eq_true rfl) dX1_isRight_193 ⟨Nat.le_of_ble_eq_true rfl, Nat.le_of_ble_eq_true rfl⟩) hS (fun r22 locs hw hS => ?_)
    refine lv_iload_n hx hb dX1_isRight_196 rfl (lv_at hl 2 rfl) ?_
    refine kc_ip (rn_vp (As := [.int x5, .ref (adr G a1 ((σ 1 0 3).toNatClampNeg) ((σ 1 0 103).toNatClampNeg)), .int r22, .int x2]) (rest := []) C hH hS (by decide) rfl (by decide) (m1_isNamed l G a1 τ σ H x5 ((σ 1 0 3).toNatClampNeg) ((σ 1 0 103).toNatClampNeg) r22 x2 hq21 _ hw) (cwV 4 hts (lw_V q856 q858 qs4 q158 q859) rfl rfl rfl kX1_isNamed ⟨Nat.le_of_ble_eq_true rfl, Nat.le_of_ble_eq_true rfl⟩) rfl hl.1 rfl (Nat.le_of_ble_eq_true rfl) dX1_isRight_197 ⟨Nat.le_of_ble_eq_true rfl, Nat.le_of_ble_eq_true rfl⟩) hS (fun r23 locs hw hS => ?_)
    refine lv_if_eq (tgt := 205) hx hb dX1_isRight_200 (by decide) (fun h => ?_) (fun h => ?_)
    · have hw := hw.1 h
      refine lv_iinc (v := x5 + 1) (lv' := [(5, .int (x5 + 1)), (0, .ref (ga G 1 0)), (1, .int x1), (2, .int x2)]) hx hb dX1_isRight_205 hl (k := 3) rfl rfl (by decide) rfl (fun ls hl => ?_)
      refine lv_goto (tgt := 178) hx hb dX1_isRight_208 (by decide) ?_
      exact ih (x5 + 1) hw locs ls hS (lv_sub hl [1, 2, 3, 0] rfl) hK203 hK211
    have hw := hw.2 h
    exact hK203 hw locs ls hS (lv_sub hl [] rfl)
def w1_isRight (σ : St) (x1 : Int32) (Q : Int32 → Prop) : Prop := w1_nameLength σ x1 (fun r1 => ((r1 = 0 → Q 0) ∧ (¬ r1 = 0 → ((r1 = 48 → Q 0) ∧ (¬ r1 = 48 → (w1_entry σ x1 (fun r2 => (w1_look σ r2 (fun r3 => ((r3 = 47 → (∃ z8, w1_isRight_L34 σ x1 r1 Q (Q 0) (∃ z13, w1_isRight_L81 σ x1 r1 Q (Q 0) (w1_place σ x1 (fun r16 => (w1_length σ x1 (fun r17 => ((r16 < 0 → Q 0) ∧ (¬ r16 < 0 → ((r17 < 0 → Q 0) ∧ (¬ r17 < 0 → (((nI (σ 90 0 0).toNatClampNeg) < r16 → Q 0) ∧ (¬ (nI (σ 90 0 0).toNatClampNeg) < r16 → ((((nI (σ 90 0 0).toNatClampNeg) - r16) < r17 → Q 0) ∧ (¬ ((nI (σ 90 0 0).toNatClampNeg) - r16) < r17 → (abc (σ 1 0 3).toNatClampNeg (σ 1 0 103).toNatClampNeg = true ∧ (w1_entry σ x1 (fun r19 => (w19_four σ ((σ 1 0 3).toNatClampNeg) ((σ 1 0 103).toNatClampNeg) ((r19 + 48) + 12) (fun r20 => ((r20 = 0 → (∃ z24, w1_isRight_L178 σ x1 r1 Q (Q 0) (Q 1) z24 0)) ∧ (¬ r20 = 0 → Q 0))))))))))))))))))) z13 r1) z8 0)) ∧ (¬ r3 = 47 → Q 0)))))))))))
set_option maxHeartbeats 4000000 in
theorem m1_isRight (l : Launch) (G : Gh) (a1 : Nat → Nat → Nat) (τ : St) (σ : St) (H : Heap) (x1 : Int32) (Q : Int32 → Prop) (hw : w1_isRight σ x1 Q) : Met l yX1_isRight (ws_ yX1_isRight cX1_isRight 6 (some .boolean)) rmX1_isRight (PcP G a1 (cmb σ τ) H [.ref (ga G 1 0), .int x1]) (QIp G H Q) 0 0 (gA G) := by
  refine met_p (by decide) (Nat.le_of_ble_eq_true rfl) ?_
  intro p e s m below meth c ls hHe C hH hS hl
  have C : Cx p e s m _ meth c cX1_isRight 6 (some .boolean) "WebHost$Store" G := C
  have hl : lv_has ls 6 [(0, .ref (ga G 1 0)), (1, .int x1)] := hl
  have hx := C.1
  have hb := C.2.1
  have hown := C.2.2.2.2.2.1
  have hts := C.2.2.2.2.2.2.1
  obtain ⟨locs, hlocs⟩ : ∃ z : List Loc, z = [] := ⟨_, rfl⟩
  rw [← hlocs] at hS ⊢
  refine lv_aload_n hx hb dX1_isRight_0 rfl (lv_at hl 0 rfl) ?_
  refine lv_iload_n hx hb dX1_isRight_1 rfl (lv_at hl 1 rfl) ?_
  refine kc_ip (rn_vp (As := [.int x1]) (rest := []) C hH hS (by decide) rfl (by decide) (m1_nameLength l G a1 τ σ H x1 _ hw) (cwV 1 hts (lw_V q840 q842 qs2 q158 q843) rfl rfl rfl kX1_nameLength ⟨Nat.le_of_ble_eq_true rfl, Nat.le_of_ble_eq_true rfl⟩) rfl hl.1 rfl (Nat.le_of_ble_eq_true rfl) dX1_isRight_2 ⟨Nat.le_of_ble_eq_true rfl, Nat.le_of_ble_eq_true rfl⟩) hS (fun r1 locs hw hS => ?_)
  refine lv_istore_n (lv' := [(2, .int r1), (0, .ref (ga G 1 0)), (1, .int x1)]) hx hb dX1_isRight_5 rfl hl (by decide) rfl (fun ls hl => ?_)
  refine lv_iload_n hx hb dX1_isRight_6 rfl (lv_at hl 0 rfl) ?_
  refine lv_if_eq (tgt := 30) hx hb dX1_isRight_7 (by decide) (fun h => ?_) (fun h => ?_)
  · have hw := hw.1 h
    refine lv_iconst (v := 0) hx hb dX1_isRight_30 (by decide) ?_
    exact rt_ip C rfl hS hw dX1_isRight_31
  have hw := hw.2 h
  refine lv_iload_n hx hb dX1_isRight_10 rfl (lv_at hl 0 rfl) ?_
  refine lv_bipush (v := 48) hx hb dX1_isRight_11 (by decide) ?_
  refine lv_icmp_eq (tgt := 30) hx hb dX1_isRight_13 (by decide) (fun h => ?_) (fun h => ?_)
  · have hw := hw.1 h
    refine lv_iconst (v := 0) hx hb dX1_isRight_30 (by decide) ?_
    exact rt_ip C rfl hS hw dX1_isRight_31
  have hw := hw.2 h
  refine lv_aload_n hx hb dX1_isRight_16 rfl (lv_at hl 1 rfl) ?_
  refine lv_aload_n hx hb dX1_isRight_17 rfl (lv_at hl 1 rfl) ?_
  refine lv_iload_n hx hb dX1_isRight_18 rfl (lv_at hl 2 rfl) ?_
  refine kc_ip (rn_vp (As := [.int x1]) (rest := [.ref (ga G 1 0)]) C hH hS (by decide) rfl (by decide) (m1_entry l G a1 τ σ H x1 _ hw) (cwV 1 hts (lw_V q827 q829 qs0 q158 q830) rfl rfl rfl kX1_entry ⟨Nat.le_of_ble_eq_true rfl, Nat.le_of_ble_eq_true rfl⟩) rfl hl.1 rfl (Nat.le_of_ble_eq_true rfl) dX1_isRight_19 ⟨Nat.le_of_ble_eq_true rfl, Nat.le_of_ble_eq_true rfl⟩) hS (fun r2 locs hw hS => ?_)
  refine kc_ip (rn_vp (As := [.int r2]) (rest := []) C hH hS (by decide) rfl (by decide) (m1_look l G a1 τ σ H r2 _ hw) (cwV 1 hts (lw_V q844 q846 qs3 q158 q847) rfl rfl rfl kX1_look ⟨Nat.le_of_ble_eq_true rfl, Nat.le_of_ble_eq_true rfl⟩) rfl hl.1 rfl (Nat.le_of_ble_eq_true rfl) dX1_isRight_22 ⟨Nat.le_of_ble_eq_true rfl, Nat.le_of_ble_eq_true rfl⟩) hS (fun r3 locs hw hS => ?_)
  refine lv_bipush (v := 47) hx hb dX1_isRight_25 (by decide) ?_
  refine lv_icmp_eq (tgt := 32) hx hb dX1_isRight_27 (by decide) (fun h => ?_) (fun h => ?_)
  · have hw := hw.1 h
    refine lv_iconst (v := 0) hx hb dX1_isRight_32 (by decide) ?_
    refine lv_istore_n (lv' := [(3, .int 0), (2, .int r1), (0, .ref (ga G 1 0)), (1, .int x1)]) hx hb dX1_isRight_33 rfl hl (by decide) rfl (fun ls hl => ?_)
    obtain ⟨n8, hw⟩ := hw
    refine k1_isRight_L34 C σ x1 r1 hH n8 0 hw locs ls hS (lv_sub hl [2, 3, 1, 0] rfl) (fun hw locs ls hS hl => ?_) (fun hw locs ls hS hl => ?_)
    · refine lv_iconst (v := 0) hx hb dX1_isRight_71 (by decide) ?_
      exact rt_ip C rfl hS hw dX1_isRight_72
    refine lv_iload_n hx hb dX1_isRight_79 rfl (lv_at hl 2 rfl) ?_
    refine lv_istore_n (lv' := [(3, .int r1), (0, .ref (ga G 1 0)), (1, .int x1), (2, .int r1)]) hx hb dX1_isRight_80 rfl hl (by decide) rfl (fun ls hl => ?_)
    obtain ⟨n13, hw⟩ := hw
    refine k1_isRight_L81 C σ x1 r1 hH n13 r1 hw locs ls hS (lv_sub hl [1, 2, 3, 0] rfl) (fun hw locs ls hS hl => ?_) (fun hw locs ls hS hl => ?_)
    · refine lv_iconst (v := 0) hx hb dX1_isRight_101 (by decide) ?_
      exact rt_ip C rfl hS hw dX1_isRight_102
    refine lv_aload_n hx hb dX1_isRight_109 rfl (lv_at hl 0 rfl) ?_
    refine lv_iload_n hx hb dX1_isRight_110 rfl (lv_at hl 1 rfl) ?_
    refine kc_ip (rn_vp (As := [.int x1]) (rest := []) C hH hS (by decide) rfl (by decide) (m1_place l G a1 τ σ H x1 _ hw) (cwV 1 hts (lw_V q848 q849 q850 q158 q851) rfl rfl rfl kX1_place ⟨Nat.le_of_ble_eq_true rfl, Nat.le_of_ble_eq_true rfl⟩) rfl hl.1 rfl (Nat.le_of_ble_eq_true rfl) dX1_isRight_111 ⟨Nat.le_of_ble_eq_true rfl, Nat.le_of_ble_eq_true rfl⟩) hS (fun r16 locs hw hS => ?_)
    refine lv_istore_n (lv' := [(3, .int r16), (0, .ref (ga G 1 0)), (1, .int x1), (2, .int r1)]) hx hb dX1_isRight_114 rfl hl (by decide) rfl (fun ls hl => ?_)
    refine lv_aload_n hx hb dX1_isRight_115 rfl (lv_at hl 1 rfl) ?_
    refine lv_iload_n hx hb dX1_isRight_116 rfl (lv_at hl 2 rfl) ?_
    refine kc_ip (rn_vp (As := [.int x1]) (rest := []) C hH hS (by decide) rfl (by decide) (m1_length l G a1 τ σ H x1 _ hw) (cwV 1 hts (lw_V q852 q853 q854 q158 q855) rfl rfl rfl kX1_length ⟨Nat.le_of_ble_eq_true rfl, Nat.le_of_ble_eq_true rfl⟩) rfl hl.1 rfl (Nat.le_of_ble_eq_true rfl) dX1_isRight_117 ⟨Nat.le_of_ble_eq_true rfl, Nat.le_of_ble_eq_true rfl⟩) hS (fun r17 locs hw hS => ?_)
    refine lv_istore (lv' := [(4, .int r17), (3, .int r16), (0, .ref (ga G 1 0)), (1, .int x1), (2, .int r1)]) hx hb dX1_isRight_120 hl (by decide) rfl (fun ls hl => ?_)
    refine lv_iload_n hx hb dX1_isRight_122 rfl (lv_at hl 1 rfl) ?_
    refine lv_if_lt (tgt := 173) hx hb dX1_isRight_123 (by decide) (fun h => ?_) (fun h => ?_)
    · have hw := hw.1 h
      refine lv_iconst (v := 0) hx hb dX1_isRight_173 (by decide) ?_
      exact rt_ip C rfl hS hw dX1_isRight_174
    have hw := hw.2 h
    refine lv_iload hx hb dX1_isRight_126 (lv_at hl 0 rfl) ?_
    refine lv_if_lt (tgt := 173) hx hb dX1_isRight_128 (by decide) (fun h => ?_) (fun h => ?_)
    · have hw := hw.1 h
      refine lv_iconst (v := 0) hx hb dX1_isRight_173 (by decide) ?_
      exact rt_ip C rfl hS hw dX1_isRight_174
    have hw := hw.2 h
    refine lv_iload_n hx hb dX1_isRight_131 rfl (lv_at hl 1 rfl) ?_
    refine lv_aload_n hx hb dX1_isRight_132 rfl (lv_at hl 2 rfl) ?_
    refine g1_0 C hH q198 dX1_isRight_133 ?_
    refine al21 C hH dX1_isRight_136 ?_
    refine lv_icmp_gt (tgt := 173) hx hb dX1_isRight_137 (by decide) (fun h => ?_) (fun h => ?_)
    · have hw := hw.1 h
      refine lv_iconst (v := 0) hx hb dX1_isRight_173 (by decide) ?_
      exact rt_ip C rfl hS hw dX1_isRight_174
    have hw := hw.2 h
    refine lv_iload hx hb dX1_isRight_140 (lv_at hl 0 rfl) ?_
    refine lv_aload_n hx hb dX1_isRight_142 rfl (lv_at hl 2 rfl) ?_
    refine g1_0 C hH q198 dX1_isRight_143 ?_
    refine al21 C hH dX1_isRight_146 ?_
    refine lv_iload_n hx hb dX1_isRight_147 rfl (lv_at hl 1 rfl) ?_
    refine lv_isub hx hb dX1_isRight_148 ?_
    refine lv_icmp_gt (tgt := 173) hx hb dX1_isRight_149 (by decide) (fun h => ?_) (fun h => ?_)
    · have hw := hw.1 h
      refine lv_iconst (v := 0) hx hb dX1_isRight_173 (by decide) ?_
      exact rt_ip C rfl hS hw dX1_isRight_174
    have hw := hw.2 h
    refine lv_aload_n hx hb dX1_isRight_152 rfl (lv_at hl 2 rfl) ?_
    obtain ⟨hq18, hw⟩ := hw
    refine g1_3 C hH hq18 q203 dX1_isRight_153 ?_
    refine lv_aload_n hx hb dX1_isRight_156 rfl (lv_at hl 2 rfl) ?_
    refine lv_iload_n hx hb dX1_isRight_157 rfl (lv_at hl 3 rfl) ?_
    refine kc_ip (rn_vp (As := [.int x1]) (rest := [.ref (adr G a1 ((σ 1 0 3).toNatClampNeg) ((σ 1 0 103).toNatClampNeg))]) C hH hS (by decide) rfl (by decide) (m1_entry l G a1 τ σ H x1 _ hw) (cwV 1 hts (lw_V q827 q829 qs0 q158 q830) rfl rfl rfl kX1_entry ⟨Nat.le_of_ble_eq_true rfl, Nat.le_of_ble_eq_true rfl⟩) rfl hl.1 rfl (Nat.le_of_ble_eq_true rfl) dX1_isRight_158 ⟨Nat.le_of_ble_eq_true rfl, Nat.le_of_ble_eq_true rfl⟩) hS (fun r19 locs hw hS => ?_)
    refine lv_bipush (v := 48) hx hb dX1_isRight_161 (by decide) ?_
    refine lv_iadd hx hb dX1_isRight_163 ?_
    refine lv_bipush (v := 12) hx hb dX1_isRight_164 (by decide) ?_
    refine lv_iadd hx hb dX1_isRight_166 ?_
    refine kc_ip (rn_sp (As := [.ref (adr G a1 ((σ 1 0 3).toNatClampNeg) ((σ 1 0 103).toNatClampNeg)), .int ((r19 + 48) + 12)]) (rest := []) C hH hS (m19_four l G a1 τ σ H ((σ 1 0 3).toNatClampNeg) ((σ 1 0 103).toNatClampNeg) ((r19 + 48) + 12) hq18 _ hw) (va_cwS 2 hts (lw_S q819 q820 q176 q821) rfl rfl rfl kX19_four.2 ⟨Nat.le_of_ble_eq_true rfl, Nat.le_of_ble_eq_true rfl⟩) rfl hl.1 rfl (Nat.le_of_ble_eq_true rfl) dX1_isRight_167 ⟨Nat.le_of_ble_eq_true rfl, Nat.le_of_ble_eq_true rfl⟩) hS (fun r20 locs hw hS => ?_)
    refine lv_if_eq (tgt := 175) hx hb dX1_isRight_170 (by decide) (fun h => ?_) (fun h => ?_)
    · have hw := hw.1 h
      refine lv_iconst (v := 0) hx hb dX1_isRight_175 (by decide) ?_
      refine lv_istore (lv' := [(5, .int 0), (4, .int r17), (3, .int r16), (0, .ref (ga G 1 0)), (1, .int x1), (2, .int r1)]) hx hb dX1_isRight_176 hl (by decide) rfl (fun ls hl => ?_)
      obtain ⟨n24, hw⟩ := hw
      refine k1_isRight_L178 C σ x1 r1 hH n24 0 hw locs ls hS (lv_sub hl [3, 4, 5, 0] rfl) (fun hw locs ls hS hl => ?_) (fun hw locs ls hS hl => ?_)
      · refine lv_iconst (v := 0) hx hb dX1_isRight_203 (by decide) ?_
        exact rt_ip C rfl hS hw dX1_isRight_204
      refine lv_iconst (v := 1) hx hb dX1_isRight_211 (by decide) ?_
      exact rt_ip C rfl hS hw dX1_isRight_212
    have hw := hw.2 h
    refine lv_iconst (v := 0) hx hb dX1_isRight_173 (by decide) ?_
    exact rt_ip C rfl hS hw dX1_isRight_174
  have hw := hw.2 h
  refine lv_iconst (v := 0) hx hb dX1_isRight_30 (by decide) ?_
  exact rt_ip C rfl hS hw dX1_isRight_31
/-! WebHost$Store.isWhole(I)Z -/
abbrev cX1_isWhole : ByteArray := prog_13_method_13_code
def yX1_isWhole : MethodName := ⟨RX1, "isWhole", "(I)Z"⟩
theorem dX1_isWhole_0 : decode cX1_isWhole 0 = .ok (.aload_n 0, 1) := by decide +kernel
theorem dX1_isWhole_1 : decode cX1_isWhole 1 = .ok (.aload_n 0, 1) := by decide +kernel
theorem dX1_isWhole_2 : decode cX1_isWhole 2 = .ok (.iload_n 1, 1) := by decide +kernel
theorem dX1_isWhole_3 : decode cX1_isWhole 3 = .ok (.invokevirtual 56, 3) := by decide +kernel
theorem dX1_isWhole_6 : decode cX1_isWhole 6 = .ok (.aload_n 0, 1) := by decide +kernel
theorem dX1_isWhole_7 : decode cX1_isWhole 7 = .ok (.iload_n 1, 1) := by decide +kernel
theorem dX1_isWhole_8 : decode cX1_isWhole 8 = .ok (.invokevirtual 59, 3) := by decide +kernel
theorem dX1_isWhole_11 : decode cX1_isWhole 11 = .ok (.invokevirtual 37, 3) := by decide +kernel
theorem dX1_isWhole_14 : decode cX1_isWhole 14 = .ok (.aload_n 0, 1) := by decide +kernel
theorem dX1_isWhole_15 : decode cX1_isWhole 15 = .ok (.iload_n 1, 1) := by decide +kernel
theorem dX1_isWhole_16 : decode cX1_isWhole 16 = .ok (.invokevirtual 66, 3) := by decide +kernel
theorem dX1_isWhole_19 : decode cX1_isWhole 19 = .ok (.if_icmp .ne 7, 3) := by decide +kernel
theorem dX1_isWhole_22 : decode cX1_isWhole 22 = .ok (.iconst 1, 1) := by decide +kernel
theorem dX1_isWhole_23 : decode cX1_isWhole 23 = .ok (.goto 4, 3) := by decide +kernel
theorem dX1_isWhole_26 : decode cX1_isWhole 26 = .ok (.iconst 0, 1) := by decide +kernel
theorem dX1_isWhole_27 : decode cX1_isWhole 27 = .ok (.ireturn, 1) := by decide +kernel
def rmX1_isWhole : Room := { frames := 3, cells := 0, slots := 0, locals := 63 }
theorem kX1_isWhole : yX1_isWhole.cls = "WebHost$Store" ∧ yX1_isWhole.cls ≠ "java/lang/invoke/MethodHandle" ∧ yX1_isWhole.cls ≠ "java/lang/invoke/VarHandle" ∧ (parseMethodDescriptor yX1_isWhole.desc).map (fun d => d.parameters.length) = some 1 := by decide +kernel
def w1_isWhole (σ : St) (x1 : Int32) (Q : Int32 → Prop) : Prop := w1_place σ x1 (fun r1 => (w1_length σ x1 (fun r2 => (w1_check σ r1 r2 (fun r3 => (w1_mark σ x1 (fun r4 => ((¬ r3 = r4 → Q 0) ∧ (r3 = r4 → Q 1)))))))))
set_option maxHeartbeats 4000000 in
theorem m1_isWhole (l : Launch) (G : Gh) (a1 : Nat → Nat → Nat) (τ : St) (σ : St) (H : Heap) (x1 : Int32) (Q : Int32 → Prop) (hw : w1_isWhole σ x1 Q) : Met l yX1_isWhole (ws_ yX1_isWhole cX1_isWhole 2 (some .boolean)) rmX1_isWhole (PcP G a1 (cmb σ τ) H [.ref (ga G 1 0), .int x1]) (QIp G H Q) 0 0 (gA G) := by
  refine met_p (by decide) (Nat.le_of_ble_eq_true rfl) ?_
  intro p e s m below meth c ls hHe C hH hS hl
  have C : Cx p e s m _ meth c cX1_isWhole 2 (some .boolean) "WebHost$Store" G := C
  have hl : lv_has ls 2 [(0, .ref (ga G 1 0)), (1, .int x1)] := hl
  have hx := C.1
  have hb := C.2.1
  have hown := C.2.2.2.2.2.1
  have hts := C.2.2.2.2.2.2.1
  obtain ⟨locs, hlocs⟩ : ∃ z : List Loc, z = [] := ⟨_, rfl⟩
  rw [← hlocs] at hS ⊢
  refine lv_aload_n hx hb dX1_isWhole_0 rfl (lv_at hl 0 rfl) ?_
  refine lv_aload_n hx hb dX1_isWhole_1 rfl (lv_at hl 0 rfl) ?_
  refine lv_iload_n hx hb dX1_isWhole_2 rfl (lv_at hl 1 rfl) ?_
  refine kc_ip (rn_vp (As := [.int x1]) (rest := [.ref (ga G 1 0)]) C hH hS (by decide) rfl (by decide) (m1_place l G a1 τ σ H x1 _ hw) (cwV 1 hts (lw_V q848 q849 q850 q158 q851) rfl rfl rfl kX1_place ⟨Nat.le_of_ble_eq_true rfl, Nat.le_of_ble_eq_true rfl⟩) rfl hl.1 rfl (Nat.le_of_ble_eq_true rfl) dX1_isWhole_3 ⟨Nat.le_of_ble_eq_true rfl, Nat.le_of_ble_eq_true rfl⟩) hS (fun r1 locs hw hS => ?_)
  refine lv_aload_n hx hb dX1_isWhole_6 rfl (lv_at hl 0 rfl) ?_
  refine lv_iload_n hx hb dX1_isWhole_7 rfl (lv_at hl 1 rfl) ?_
  refine kc_ip (rn_vp (As := [.int x1]) (rest := [.int r1, .ref (ga G 1 0)]) C hH hS (by decide) rfl (by decide) (m1_length l G a1 τ σ H x1 _ hw) (cwV 1 hts (lw_V q852 q853 q854 q158 q855) rfl rfl rfl kX1_length ⟨Nat.le_of_ble_eq_true rfl, Nat.le_of_ble_eq_true rfl⟩) rfl hl.1 rfl (Nat.le_of_ble_eq_true rfl) dX1_isWhole_8 ⟨Nat.le_of_ble_eq_true rfl, Nat.le_of_ble_eq_true rfl⟩) hS (fun r2 locs hw hS => ?_)
  refine kc_ip (rn_vp (As := [.int r1, .int r2]) (rest := []) C hH hS (by decide) rfl (by decide) (m1_check l G a1 τ σ H r1 r2 _ hw) (cwV 2 hts (lw_V q831 q832 q833 q158 q834) rfl rfl rfl kX1_check ⟨Nat.le_of_ble_eq_true rfl, Nat.le_of_ble_eq_true rfl⟩) rfl hl.1 rfl (Nat.le_of_ble_eq_true rfl) dX1_isWhole_11 ⟨Nat.le_of_ble_eq_true rfl, Nat.le_of_ble_eq_true rfl⟩) hS (fun r3 locs hw hS => ?_)
  refine lv_aload_n hx hb dX1_isWhole_14 rfl (lv_at hl 0 rfl) ?_
  refine lv_iload_n hx hb dX1_isWhole_15 rfl (lv_at hl 1 rfl) ?_
  refine kc_ip (rn_vp (As := [.int x1]) (rest := [.int r3]) C hH hS (by decide) rfl (by decide) (m1_mark l G a1 τ σ H x1 _ hw) (cwV 1 hts (lw_V q1508 q1509 q1510 q158 q1511) rfl rfl rfl kX1_mark ⟨Nat.le_of_ble_eq_true rfl, Nat.le_of_ble_eq_true rfl⟩) rfl hl.1 rfl (Nat.le_of_ble_eq_true rfl) dX1_isWhole_16 ⟨Nat.le_of_ble_eq_true rfl, Nat.le_of_ble_eq_true rfl⟩) hS (fun r4 locs hw hS => ?_)
  refine lv_icmp_ne (tgt := 26) hx hb dX1_isWhole_19 (by decide) (fun h => ?_) (fun h => ?_)
  · have hw := hw.1 h
    refine lv_iconst (v := 0) hx hb dX1_isWhole_26 (by decide) ?_
    exact rt_ip C rfl hS hw dX1_isWhole_27
  have hw := hw.2 h
  refine lv_iconst (v := 1) hx hb dX1_isWhole_22 (by decide) ?_
  refine lv_goto (tgt := 27) hx hb dX1_isWhole_23 (by decide) ?_
  exact rt_ip C rfl hS hw dX1_isWhole_27
/-! WebHost$Hops.act()V -/
abbrev cX3_act : ByteArray := prog_6_method_13_code
def yX3_act : MethodName := ⟨RX3, "act", "()V"⟩
theorem dX3_act_0 : decode cX3_act 0 = .ok (.iconst 0, 1) := by decide +kernel
theorem dX3_act_1 : decode cX3_act 1 = .ok (.istore_n 1, 1) := by decide +kernel
theorem dX3_act_2 : decode cX3_act 2 = .ok (.aload_n 0, 1) := by decide +kernel
theorem dX3_act_3 : decode cX3_act 3 = .ok (.getfield 22, 3) := by decide +kernel
theorem dX3_act_6 : decode cX3_act 6 = .ok (.iload_n 1, 1) := by decide +kernel
theorem dX3_act_7 : decode cX3_act 7 = .ok (.aaload, 1) := by decide +kernel
theorem dX3_act_8 : decode cX3_act 8 = .ok (.invokevirtual 134, 3) := by decide +kernel
theorem dX3_act_11 : decode cX3_act 11 = .ok (.aload_n 0, 1) := by decide +kernel
theorem dX3_act_12 : decode cX3_act 12 = .ok (.getfield 35, 3) := by decide +kernel
theorem dX3_act_15 : decode cX3_act 15 = .ok (.getfield 60, 3) := by decide +kernel
theorem dX3_act_18 : decode cX3_act 18 = .ok (.if_icmp .eq 9, 3) := by decide +kernel
theorem dX3_act_21 : decode cX3_act 21 = .ok (.iinc 1 1, 3) := by decide +kernel
theorem dX3_act_24 : decode cX3_act 24 = .ok (.goto (-22), 3) := by decide +kernel
theorem dX3_act_27 : decode cX3_act 27 = .ok (.aload_n 0, 1) := by decide +kernel
theorem dX3_act_28 : decode cX3_act 28 = .ok (.getfield 22, 3) := by decide +kernel
theorem dX3_act_31 : decode cX3_act 31 = .ok (.iload_n 1, 1) := by decide +kernel
theorem dX3_act_32 : decode cX3_act 32 = .ok (.aaload, 1) := by decide +kernel
theorem dX3_act_33 : decode cX3_act 33 = .ok (.getfield 128, 3) := by decide +kernel
theorem dX3_act_36 : decode cX3_act 36 = .ok (.iconst 3, 1) := by decide +kernel
theorem dX3_act_37 : decode cX3_act 37 = .ok (.if_icmp .ne 11, 3) := by decide +kernel
theorem dX3_act_40 : decode cX3_act 40 = .ok (.aload_n 0, 1) := by decide +kernel
theorem dX3_act_41 : decode cX3_act 41 = .ok (.iload_n 1, 1) := by decide +kernel
theorem dX3_act_42 : decode cX3_act 42 = .ok (.invokevirtual 99, 3) := by decide +kernel
theorem dX3_act_45 : decode cX3_act 45 = .ok (.goto 37, 3) := by decide +kernel
theorem dX3_act_48 : decode cX3_act 48 = .ok (.aload_n 0, 1) := by decide +kernel
theorem dX3_act_49 : decode cX3_act 49 = .ok (.getfield 22, 3) := by decide +kernel
theorem dX3_act_52 : decode cX3_act 52 = .ok (.iload_n 1, 1) := by decide +kernel
theorem dX3_act_53 : decode cX3_act 53 = .ok (.aaload, 1) := by decide +kernel
theorem dX3_act_54 : decode cX3_act 54 = .ok (.dup, 1) := by decide +kernel
theorem dX3_act_55 : decode cX3_act 55 = .ok (.getfield 128, 3) := by decide +kernel
theorem dX3_act_58 : decode cX3_act 58 = .ok (.iconst 1, 1) := by decide +kernel
theorem dX3_act_59 : decode cX3_act 59 = .ok (.iadd, 1) := by decide +kernel
theorem dX3_act_60 : decode cX3_act 60 = .ok (.putfield 128, 3) := by decide +kernel
theorem dX3_act_63 : decode cX3_act 63 = .ok (.aload_n 0, 1) := by decide +kernel
theorem dX3_act_64 : decode cX3_act 64 = .ok (.iconst 1, 1) := by decide +kernel
theorem dX3_act_65 : decode cX3_act 65 = .ok (.aload_n 0, 1) := by decide +kernel
theorem dX3_act_66 : decode cX3_act 66 = .ok (.getfield 32, 3) := by decide +kernel
theorem dX3_act_69 : decode cX3_act 69 = .ok (.iconst 0, 1) := by decide +kernel
theorem dX3_act_70 : decode cX3_act 70 = .ok (.aload_n 0, 1) := by decide +kernel
theorem dX3_act_71 : decode cX3_act 71 = .ok (.getfield 22, 3) := by decide +kernel
theorem dX3_act_74 : decode cX3_act 74 = .ok (.iload_n 1, 1) := by decide +kernel
theorem dX3_act_75 : decode cX3_act 75 = .ok (.aaload, 1) := by decide +kernel
theorem dX3_act_76 : decode cX3_act 76 = .ok (.getfield 96, 3) := by decide +kernel
theorem dX3_act_79 : decode cX3_act 79 = .ok (.invokevirtual 80, 3) := by decide +kernel
theorem dX3_act_82 : decode cX3_act 82 = .ok (.return_, 1) := by decide +kernel
def rmX3_act : Room := { frames := 3, cells := 0, slots := 0, locals := 78 }
theorem kX3_act : yX3_act.cls = "WebHost$Hops" ∧ yX3_act.cls ≠ "java/lang/invoke/MethodHandle" ∧ yX3_act.cls ≠ "java/lang/invoke/VarHandle" ∧ (parseMethodDescriptor yX3_act.desc).map (fun d => d.parameters.length) = some 0 := by decide +kernel
def w3_act_L2 (σ : St) (Q : St → Prop) (K27 : Int32 → Prop) : Nat → Int32 → Prop
  | 0, _ => False
  | n + 1, x1 => vp_in x1 8 ∧ ((σ 31 0 x1.toNatClampNeg).toNatClampNeg < 8 ∧ (w4_due σ ((σ 31 0 x1.toNatClampNeg).toNatClampNeg) (fun r2 => ((r2 = (σ 2 0 4) → K27 x1) ∧ (¬ r2 = (σ 2 0 4) → (w3_act_L2 σ Q K27 n (x1 + 1)))))))
set_option maxHeartbeats 4000000 in
theorem k3_act_L2 {p : Program} {l : Launch} {e : Env} {s : State} {m : MethodId} {args : Array Value} {below : List Frame} {meth : Method} {c : Code} {G : Gh} {a1 : Nat → Nat → Nat} {τ : St} {Q : St → Prop} {K27 : Int32 → Prop} (C : Cx p e s m args meth c cX3_act 2 none "WebHost$Hops" G) (σ : St) :
    ∀ (n : Nat) (x1 : Int32), w3_act_L2 σ Q K27 n x1 → ∀ (H : Heap) (locs : List Loc) (ls : Array Slot), Hd G a1 (cmb σ τ) H → va_S (gA G) s.heap H locs → lv_has ls 2 [(0, .ref (ga G 3 0)), (1, .int x1)] → (∀ (x1 : Int32), K27 x1 → ∀ (H : Heap) (locs : List Loc) (ls : Array Slot), Hd G a1 (cmb σ τ) H → va_S (gA G) s.heap H locs → lv_has ls 2 [(0, .ref (ga G 3 0)), (1, .int x1)] → W p l e rmX3_act s m args below meth c H locs 0 0 (MQ below (QVs G a1 (fun u => cmb u τ) Q) args s 0 0 (gA G)) (F0 m 27 ls [])) → W p l e rmX3_act s m args below meth c H locs 0 0 (MQ below (QVs G a1 (fun u => cmb u τ) Q) args s 0 0 (gA G)) (F0 m 2 ls []) := by
  have hx := C.1
  have hb := C.2.1
  have hown := C.2.2.2.2.2.1
  have hts := C.2.2.2.2.2.2.1
  intro n
  induction n with
  | zero =>
    intro x1 hw
    exact False.elim hw
  | succ n ih =>
    intro x1 hw H locs ls hH hS hl hK27
    refine lv_aload_n hx hb dX3_act_2 rfl (lv_at hl 0 rfl) ?_
    refine g3_8 C hH q287 dX3_act_3 ?_
    refine lv_iload_n hx hb dX3_act_6 rfl (lv_at hl 1 rfl) ?_
    refine l31 C hH hw.1 dX3_act_7 ?_
    obtain ⟨hq1, hw⟩ := hw.2
    refine kc_ip (rn_vp (As := []) (rest := []) C hH hS (by decide) rfl hq1 (m4_due l G a1 τ σ H ((σ 31 0 x1.toNatClampNeg).toNatClampNeg) hq1 _ hw) (cwV 0 hts (lw_V q910 q911 q912 q161 q913) rfl rfl rfl kX4_due ⟨Nat.le_of_ble_eq_true rfl, Nat.le_of_ble_eq_true rfl⟩) rfl hl.1 rfl (Nat.le_of_ble_eq_true rfl) dX3_act_8 ⟨Nat.le_of_ble_eq_true rfl, Nat.le_of_ble_eq_true rfl⟩) hS (fun r2 locs hw hS => ?_)
    refine lv_aload_n hx hb dX3_act_11 rfl (lv_at hl 0 rfl) ?_
    refine g3_0 C hH q279 dX3_act_12 ?_
    refine g2_4 C hH q229 dX3_act_15 ?_
    refine lv_icmp_eq (tgt := 27) hx hb dX3_act_18 (by decide) (fun h => ?_) (fun h => ?_)
    · have hw := hw.1 h
      exact hK27 x1 hw H locs ls hH hS (lv_sub hl [0, 1] rfl)
    have hw := hw.2 h
    refine lv_iinc (v := x1 + 1) (lv' := [(1, .int (x1 + 1)), (0, .ref (ga G 3 0))]) hx hb dX3_act_21 hl (k := 1) rfl rfl (by decide) rfl (fun ls hl => ?_)
    refine lv_goto (tgt := 2) hx hb dX3_act_24 (by decide) ?_
    exact ih (x1 + 1) hw H locs ls hH hS (lv_sub hl [1, 0] rfl) hK27
def w3_act (σ : St) (Q : St → Prop) : Prop := ∃ z3, w3_act_L2 σ Q (fun x1_4 => vp_in x1_4 8 ∧ ((σ 31 0 x1_4.toNatClampNeg).toNatClampNeg < 8 ∧ ((¬ (σ 4 ((σ 31 0 x1_4.toNatClampNeg).toNatClampNeg) 2) = 3 → (vp_in x1_4 8 ∧ ((σ 31 0 x1_4.toNatClampNeg).toNatClampNeg < 8 ∧ (∀ σ7, σ7 = up3 σ 4 ((σ 31 0 x1_4.toNatClampNeg).toNatClampNeg) 2 ((σ 4 ((σ 31 0 x1_4.toNatClampNeg).toNatClampNeg) 2) + 1) → (vp_in x1_4 8 ∧ ((σ7 31 0 x1_4.toNatClampNeg).toNatClampNeg < 8 ∧ (w3_tell σ7 1 34 0 0 (σ7 4 ((σ7 31 0 x1_4.toNatClampNeg).toNatClampNeg) 0) (fun σ9 => (Q σ9))))))))) ∧ ((σ 4 ((σ 31 0 x1_4.toNatClampNeg).toNatClampNeg) 2) = 3 → (w3_remove σ x1_4 (fun σ10 => (Q σ10))))))) z3 0
set_option maxHeartbeats 4000000 in
theorem m3_act (l : Launch) (G : Gh) (a1 : Nat → Nat → Nat) (τ : St) (σ : St) (Q : St → Prop) (hw : w3_act σ Q) : Met l yX3_act (ws_ yX3_act cX3_act 2 none) rmX3_act (PcS G a1 (cmb σ τ) [.ref (ga G 3 0)]) (QVs G a1 (fun u => cmb u τ) Q) 0 0 (gA G) := by
  refine met_w (by decide) (Nat.le_of_ble_eq_true rfl) ?_
  intro p e s m below meth c ls C hH hS hl
  have C : Cx p e s m _ meth c cX3_act 2 none "WebHost$Hops" G := C
  have hl : lv_has ls 2 [(0, .ref (ga G 3 0))] := hl
  have hx := C.1
  have hb := C.2.1
  have hown := C.2.2.2.2.2.1
  have hts := C.2.2.2.2.2.2.1
  obtain ⟨locs, hlocs⟩ : ∃ z : List Loc, z = [] := ⟨_, rfl⟩
  obtain ⟨H, hHe⟩ : ∃ z : Heap, z = s.heap := ⟨_, rfl⟩
  have hH : Hd G a1 (cmb σ τ) H := by rw [hHe]; exact hH
  have hS : va_S (gA G) s.heap H locs := by rw [hHe, hlocs]; exact hS
  refine W.heap0 hHe.symm hlocs.symm ?_
  refine lv_iconst (v := 0) hx hb dX3_act_0 (by decide) ?_
  refine lv_istore_n (lv' := [(1, .int 0), (0, .ref (ga G 3 0))]) hx hb dX3_act_1 rfl hl (by decide) rfl (fun ls hl => ?_)
  obtain ⟨n3, hw⟩ := hw
  refine k3_act_L2 C σ n3 0 hw H locs ls hH hS (lv_sub hl [1, 0] rfl) (fun x1_4 hw H locs ls hH hS hl => ?_)
  refine lv_aload_n hx hb dX3_act_27 rfl (lv_at hl 0 rfl) ?_
  refine g3_8 C hH q287 dX3_act_28 ?_
  refine lv_iload_n hx hb dX3_act_31 rfl (lv_at hl 1 rfl) ?_
  refine l31 C hH hw.1 dX3_act_32 ?_
  obtain ⟨hq5, hw⟩ := hw.2
  refine g4_2 C hH hq5 q264 dX3_act_33 ?_
  refine lv_iconst (v := 3) hx hb dX3_act_36 (by decide) ?_
  refine lv_icmp_ne (tgt := 48) hx hb dX3_act_37 (by decide) (fun h => ?_) (fun h => ?_)
  · have hw := hw.1 h
    refine lv_aload_n hx hb dX3_act_48 rfl (lv_at hl 0 rfl) ?_
    refine g3_8 C hH q287 dX3_act_49 ?_
    refine lv_iload_n hx hb dX3_act_52 rfl (lv_at hl 1 rfl) ?_
    refine l31 C hH hw.1 dX3_act_53 ?_
    obtain ⟨hq6, hw⟩ := hw.2
    refine lv_dup hx hb dX3_act_54 rfl ?_
    refine g4_2 C hH hq6 q264 dX3_act_55 ?_
    refine lv_iconst (v := 1) hx hb dX3_act_58 (by decide) ?_
    refine lv_iadd hx hb dX3_act_59 ?_
    refine p4_2 C hH hS hq6 q264 dX3_act_60 (fun σ7 e7 H locs hH hS => ?_)
    have hw := hw σ7 e7
    refine lv_aload_n hx hb dX3_act_63 rfl (lv_at hl 0 rfl) ?_
    refine lv_iconst (v := 1) hx hb dX3_act_64 (by decide) ?_
    refine lv_aload_n hx hb dX3_act_65 rfl (lv_at hl 0 rfl) ?_
    refine g3_12 C hH q292 dX3_act_66 ?_
    refine lv_iconst (v := 0) hx hb dX3_act_69 (by decide) ?_
    refine lv_aload_n hx hb dX3_act_70 rfl (lv_at hl 0 rfl) ?_
    refine g3_8 C hH q287 dX3_act_71 ?_
    refine lv_iload_n hx hb dX3_act_74 rfl (lv_at hl 1 rfl) ?_
    refine l31 C hH hw.1 dX3_act_75 ?_
    obtain ⟨hq8, hw⟩ := hw.2
    refine g4_0 C hH hq8 q260 dX3_act_76 ?_
    refine kc_v (rn_v (As := [.int 1, .ref (adr G a1 34 0), .int 0, .int (σ7 4 ((σ7 31 0 x1_4.toNatClampNeg).toNatClampNeg) 0)]) (rest := []) C hH hS (by decide) rfl (by decide) (m3_tell l G a1 τ σ7 1 34 0 0 (σ7 4 ((σ7 31 0 x1_4.toNatClampNeg).toNatClampNeg) 0) (by decide) _ hw) (cwV 4 hts (lw_V q944 q946 qs11 q160 q947) rfl rfl rfl kX3_tell ⟨Nat.le_of_ble_eq_true rfl, Nat.le_of_ble_eq_true rfl⟩) rfl hl.1 rfl (Nat.le_of_ble_eq_true rfl) dX3_act_79 ⟨Nat.le_of_ble_eq_true rfl, Nat.le_of_ble_eq_true rfl⟩) hS (fun σ9 H locs hw hH hS => ?_)
    exact rt_v C hH hS hw dX3_act_82
  have hw := hw.2 h
  refine lv_aload_n hx hb dX3_act_40 rfl (lv_at hl 0 rfl) ?_
  refine lv_iload_n hx hb dX3_act_41 rfl (lv_at hl 1 rfl) ?_
  refine kc_v (rn_v (As := [.int x1_4]) (rest := []) C hH hS (by decide) rfl (by decide) (m3_remove l G a1 τ σ x1_4 _ hw) (cwV 1 hts (lw_V q940 q942 qs10 q160 q943) rfl rfl rfl kX3_remove ⟨Nat.le_of_ble_eq_true rfl, Nat.le_of_ble_eq_true rfl⟩) rfl hl.1 rfl (Nat.le_of_ble_eq_true rfl) dX3_act_42 ⟨Nat.le_of_ble_eq_true rfl, Nat.le_of_ble_eq_true rfl⟩) hS (fun σ10 H locs hw hH hS => ?_)
  refine lv_goto (tgt := 82) hx hb dX3_act_45 (by decide) ?_
  exact rt_v C hH hS hw dX3_act_82
