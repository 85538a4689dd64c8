/-! walks -/
set_option maxRecDepth 100000
/-! WebHostModel.acknowledgement(LWebHostModel$Connection;)Z -/
abbrev cX14_acknowledgement : ByteArray := prog_17_method_58_code
def yX14_acknowledgement : MethodName := ⟨RX14, "acknowledgement", "(LWebHostModel$Connection;)Z"⟩
theorem dX14_acknowledgement_0 : decode cX14_acknowledgement 0 = .ok (.aload_n 1, 1) := by decide +kernel
theorem dX14_acknowledgement_1 : decode cX14_acknowledgement 1 = .ok (.getfield 152, 3) := by decide +kernel
theorem dX14_acknowledgement_4 : decode cX14_acknowledgement 4 = .ok (.iconst 1, 1) := by decide +kernel
theorem dX14_acknowledgement_5 : decode cX14_acknowledgement 5 = .ok (.if_icmp .ne 55, 3) := by decide +kernel
theorem dX14_acknowledgement_8 : decode cX14_acknowledgement 8 = .ok (.aload_n 0, 1) := by decide +kernel
theorem dX14_acknowledgement_9 : decode cX14_acknowledgement 9 = .ok (.getfield 299, 3) := by decide +kernel
theorem dX14_acknowledgement_12 : decode cX14_acknowledgement 12 = .ok (.aload_n 1, 1) := by decide +kernel
theorem dX14_acknowledgement_13 : decode cX14_acknowledgement 13 = .ok (.getfield 354, 3) := by decide +kernel
theorem dX14_acknowledgement_16 : decode cX14_acknowledgement 16 = .ok (.iconst 1, 1) := by decide +kernel
theorem dX14_acknowledgement_17 : decode cX14_acknowledgement 17 = .ok (.iadd, 1) := by decide +kernel
theorem dX14_acknowledgement_18 : decode cX14_acknowledgement 18 = .ok (.if_icmp .eq 9, 3) := by decide +kernel
theorem dX14_acknowledgement_21 : decode cX14_acknowledgement 21 = .ok (.aload_n 0, 1) := by decide +kernel
theorem dX14_acknowledgement_22 : decode cX14_acknowledgement 22 = .ok (.invokevirtual 438, 3) := by decide +kernel
theorem dX14_acknowledgement_25 : decode cX14_acknowledgement 25 = .ok (.iconst 0, 1) := by decide +kernel
theorem dX14_acknowledgement_26 : decode cX14_acknowledgement 26 = .ok (.ireturn, 1) := by decide +kernel
theorem dX14_acknowledgement_27 : decode cX14_acknowledgement 27 = .ok (.aload_n 0, 1) := by decide +kernel
theorem dX14_acknowledgement_28 : decode cX14_acknowledgement 28 = .ok (.aload_n 1, 1) := by decide +kernel
theorem dX14_acknowledgement_29 : decode cX14_acknowledgement 29 = .ok (.invokevirtual 517, 3) := by decide +kernel
theorem dX14_acknowledgement_32 : decode cX14_acknowledgement 32 = .ok (.aload_n 1, 1) := by decide +kernel
theorem dX14_acknowledgement_33 : decode cX14_acknowledgement 33 = .ok (.iconst 2, 1) := by decide +kernel
theorem dX14_acknowledgement_34 : decode cX14_acknowledgement 34 = .ok (.putfield 152, 3) := by decide +kernel
theorem dX14_acknowledgement_37 : decode cX14_acknowledgement 37 = .ok (.aload_n 1, 1) := by decide +kernel
theorem dX14_acknowledgement_38 : decode cX14_acknowledgement 38 = .ok (.aload_n 0, 1) := by decide +kernel
theorem dX14_acknowledgement_39 : decode cX14_acknowledgement 39 = .ok (.getfield 134, 3) := by decide +kernel
theorem dX14_acknowledgement_42 : decode cX14_acknowledgement 42 = .ok (.putfield 520, 3) := by decide +kernel
theorem dX14_acknowledgement_45 : decode cX14_acknowledgement 45 = .ok (.aload_n 1, 1) := by decide +kernel
theorem dX14_acknowledgement_46 : decode cX14_acknowledgement 46 = .ok (.aload_n 0, 1) := by decide +kernel
theorem dX14_acknowledgement_47 : decode cX14_acknowledgement 47 = .ok (.getfield 134, 3) := by decide +kernel
theorem dX14_acknowledgement_50 : decode cX14_acknowledgement 50 = .ok (.putfield 523, 3) := by decide +kernel
theorem dX14_acknowledgement_53 : decode cX14_acknowledgement 53 = .ok (.aload_n 0, 1) := by decide +kernel
theorem dX14_acknowledgement_54 : decode cX14_acknowledgement 54 = .ok (.aload_n 1, 1) := by decide +kernel
theorem dX14_acknowledgement_55 : decode cX14_acknowledgement 55 = .ok (.invokevirtual 526, 3) := by decide +kernel
theorem dX14_acknowledgement_58 : decode cX14_acknowledgement 58 = .ok (.iconst 1, 1) := by decide +kernel
theorem dX14_acknowledgement_59 : decode cX14_acknowledgement 59 = .ok (.ireturn, 1) := by decide +kernel
theorem dX14_acknowledgement_60 : decode cX14_acknowledgement 60 = .ok (.aload_n 0, 1) := by decide +kernel
theorem dX14_acknowledgement_61 : decode cX14_acknowledgement 61 = .ok (.getfield 299, 3) := by decide +kernel
theorem dX14_acknowledgement_64 : decode cX14_acknowledgement 64 = .ok (.aload_n 1, 1) := by decide +kernel
theorem dX14_acknowledgement_65 : decode cX14_acknowledgement 65 = .ok (.getfield 361, 3) := by decide +kernel
theorem dX14_acknowledgement_68 : decode cX14_acknowledgement 68 = .ok (.invokestatic 529, 3) := by decide +kernel
theorem dX14_acknowledgement_71 : decode cX14_acknowledgement 71 = .ok (.ifCond .eq 10, 3) := by decide +kernel
theorem dX14_acknowledgement_74 : decode cX14_acknowledgement 74 = .ok (.aload_n 0, 1) := by decide +kernel
theorem dX14_acknowledgement_75 : decode cX14_acknowledgement 75 = .ok (.aload_n 1, 1) := by decide +kernel
theorem dX14_acknowledgement_76 : decode cX14_acknowledgement 76 = .ok (.invokevirtual 496, 3) := by decide +kernel
theorem dX14_acknowledgement_79 : decode cX14_acknowledgement 79 = .ok (.iconst 0, 1) := by decide +kernel
theorem dX14_acknowledgement_80 : decode cX14_acknowledgement 80 = .ok (.ireturn, 1) := by decide +kernel
theorem dX14_acknowledgement_81 : decode cX14_acknowledgement 81 = .ok (.aload_n 0, 1) := by decide +kernel
theorem dX14_acknowledgement_82 : decode cX14_acknowledgement 82 = .ok (.getfield 299, 3) := by decide +kernel
theorem dX14_acknowledgement_85 : decode cX14_acknowledgement 85 = .ok (.aload_n 1, 1) := by decide +kernel
theorem dX14_acknowledgement_86 : decode cX14_acknowledgement 86 = .ok (.getfield 428, 3) := by decide +kernel
theorem dX14_acknowledgement_89 : decode cX14_acknowledgement 89 = .ok (.invokestatic 529, 3) := by decide +kernel
theorem dX14_acknowledgement_92 : decode cX14_acknowledgement 92 = .ok (.ifCond .eq 11, 3) := by decide +kernel
theorem dX14_acknowledgement_95 : decode cX14_acknowledgement 95 = .ok (.aload_n 0, 1) := by decide +kernel
theorem dX14_acknowledgement_96 : decode cX14_acknowledgement 96 = .ok (.aload_n 1, 1) := by decide +kernel
theorem dX14_acknowledgement_97 : decode cX14_acknowledgement 97 = .ok (.invokevirtual 517, 3) := by decide +kernel
theorem dX14_acknowledgement_100 : decode cX14_acknowledgement 100 = .ok (.goto 51, 3) := by decide +kernel
theorem dX14_acknowledgement_103 : decode cX14_acknowledgement 103 = .ok (.aload_n 0, 1) := by decide +kernel
theorem dX14_acknowledgement_104 : decode cX14_acknowledgement 104 = .ok (.getfield 299, 3) := by decide +kernel
theorem dX14_acknowledgement_107 : decode cX14_acknowledgement 107 = .ok (.aload_n 1, 1) := by decide +kernel
theorem dX14_acknowledgement_108 : decode cX14_acknowledgement 108 = .ok (.getfield 428, 3) := by decide +kernel
theorem dX14_acknowledgement_111 : decode cX14_acknowledgement 111 = .ok (.if_icmp .ne 40, 3) := by decide +kernel
theorem dX14_acknowledgement_114 : decode cX14_acknowledgement 114 = .ok (.aload_n 0, 1) := by decide +kernel
theorem dX14_acknowledgement_115 : decode cX14_acknowledgement 115 = .ok (.invokevirtual 333, 3) := by decide +kernel
theorem dX14_acknowledgement_118 : decode cX14_acknowledgement 118 = .ok (.ifCond .ne 33, 3) := by decide +kernel
theorem dX14_acknowledgement_121 : decode cX14_acknowledgement 121 = .ok (.aload_n 0, 1) := by decide +kernel
theorem dX14_acknowledgement_122 : decode cX14_acknowledgement 122 = .ok (.getfield 305, 3) := by decide +kernel
theorem dX14_acknowledgement_125 : decode cX14_acknowledgement 125 = .ok (.aload_n 1, 1) := by decide +kernel
theorem dX14_acknowledgement_126 : decode cX14_acknowledgement 126 = .ok (.getfield 434, 3) := by decide +kernel
theorem dX14_acknowledgement_129 : decode cX14_acknowledgement 129 = .ok (.if_icmp .ne 22, 3) := by decide +kernel
theorem dX14_acknowledgement_132 : decode cX14_acknowledgement 132 = .ok (.aload_n 1, 1) := by decide +kernel
theorem dX14_acknowledgement_133 : decode cX14_acknowledgement 133 = .ok (.getfield 428, 3) := by decide +kernel
theorem dX14_acknowledgement_136 : decode cX14_acknowledgement 136 = .ok (.aload_n 1, 1) := by decide +kernel
theorem dX14_acknowledgement_137 : decode cX14_acknowledgement 137 = .ok (.getfield 361, 3) := by decide +kernel
theorem dX14_acknowledgement_140 : decode cX14_acknowledgement 140 = .ok (.invokestatic 363, 3) := by decide +kernel
theorem dX14_acknowledgement_143 : decode cX14_acknowledgement 143 = .ok (.ifCond .eq 8, 3) := by decide +kernel
theorem dX14_acknowledgement_146 : decode cX14_acknowledgement 146 = .ok (.aload_n 0, 1) := by decide +kernel
theorem dX14_acknowledgement_147 : decode cX14_acknowledgement 147 = .ok (.aload_n 1, 1) := by decide +kernel
theorem dX14_acknowledgement_148 : decode cX14_acknowledgement 148 = .ok (.invokevirtual 532, 3) := by decide +kernel
theorem dX14_acknowledgement_151 : decode cX14_acknowledgement 151 = .ok (.aload_n 0, 1) := by decide +kernel
theorem dX14_acknowledgement_152 : decode cX14_acknowledgement 152 = .ok (.getfield 299, 3) := by decide +kernel
theorem dX14_acknowledgement_155 : decode cX14_acknowledgement 155 = .ok (.aload_n 1, 1) := by decide +kernel
theorem dX14_acknowledgement_156 : decode cX14_acknowledgement 156 = .ok (.getfield 428, 3) := by decide +kernel
theorem dX14_acknowledgement_159 : decode cX14_acknowledgement 159 = .ok (.invokestatic 363, 3) := by decide +kernel
theorem dX14_acknowledgement_162 : decode cX14_acknowledgement 162 = .ok (.ifCond .ne 47, 3) := by decide +kernel
theorem dX14_acknowledgement_165 : decode cX14_acknowledgement 165 = .ok (.aload_n 1, 1) := by decide +kernel
theorem dX14_acknowledgement_166 : decode cX14_acknowledgement 166 = .ok (.getfield 448, 3) := by decide +kernel
theorem dX14_acknowledgement_169 : decode cX14_acknowledgement 169 = .ok (.aload_n 0, 1) := by decide +kernel
theorem dX14_acknowledgement_170 : decode cX14_acknowledgement 170 = .ok (.getfield 298, 3) := by decide +kernel
theorem dX14_acknowledgement_173 : decode cX14_acknowledgement 173 = .ok (.invokestatic 363, 3) := by decide +kernel
theorem dX14_acknowledgement_176 : decode cX14_acknowledgement 176 = .ok (.ifCond .ne 28, 3) := by decide +kernel
theorem dX14_acknowledgement_179 : decode cX14_acknowledgement 179 = .ok (.aload_n 1, 1) := by decide +kernel
theorem dX14_acknowledgement_180 : decode cX14_acknowledgement 180 = .ok (.getfield 448, 3) := by decide +kernel
theorem dX14_acknowledgement_183 : decode cX14_acknowledgement 183 = .ok (.aload_n 0, 1) := by decide +kernel
theorem dX14_acknowledgement_184 : decode cX14_acknowledgement 184 = .ok (.getfield 298, 3) := by decide +kernel
theorem dX14_acknowledgement_187 : decode cX14_acknowledgement 187 = .ok (.if_icmp .ne 22, 3) := by decide +kernel
theorem dX14_acknowledgement_190 : decode cX14_acknowledgement 190 = .ok (.aload_n 0, 1) := by decide +kernel
theorem dX14_acknowledgement_191 : decode cX14_acknowledgement 191 = .ok (.getfield 299, 3) := by decide +kernel
theorem dX14_acknowledgement_194 : decode cX14_acknowledgement 194 = .ok (.aload_n 1, 1) := by decide +kernel
theorem dX14_acknowledgement_195 : decode cX14_acknowledgement 195 = .ok (.getfield 451, 3) := by decide +kernel
theorem dX14_acknowledgement_198 : decode cX14_acknowledgement 198 = .ok (.invokestatic 363, 3) := by decide +kernel
theorem dX14_acknowledgement_201 : decode cX14_acknowledgement 201 = .ok (.ifCond .ne 8, 3) := by decide +kernel
theorem dX14_acknowledgement_204 : decode cX14_acknowledgement 204 = .ok (.aload_n 0, 1) := by decide +kernel
theorem dX14_acknowledgement_205 : decode cX14_acknowledgement 205 = .ok (.aload_n 1, 1) := by decide +kernel
theorem dX14_acknowledgement_206 : decode cX14_acknowledgement 206 = .ok (.invokevirtual 526, 3) := by decide +kernel
theorem dX14_acknowledgement_209 : decode cX14_acknowledgement 209 = .ok (.aload_n 0, 1) := by decide +kernel
theorem dX14_acknowledgement_210 : decode cX14_acknowledgement 210 = .ok (.getfield 299, 3) := by decide +kernel
theorem dX14_acknowledgement_213 : decode cX14_acknowledgement 213 = .ok (.aload_n 1, 1) := by decide +kernel
theorem dX14_acknowledgement_214 : decode cX14_acknowledgement 214 = .ok (.getfield 428, 3) := by decide +kernel
theorem dX14_acknowledgement_217 : decode cX14_acknowledgement 217 = .ok (.invokestatic 363, 3) := by decide +kernel
theorem dX14_acknowledgement_220 : decode cX14_acknowledgement 220 = .ok (.ifCond .ne 15, 3) := by decide +kernel
theorem dX14_acknowledgement_223 : decode cX14_acknowledgement 223 = .ok (.aload_n 1, 1) := by decide +kernel
theorem dX14_acknowledgement_224 : decode cX14_acknowledgement 224 = .ok (.getfield 434, 3) := by decide +kernel
theorem dX14_acknowledgement_227 : decode cX14_acknowledgement 227 = .ok (.ifCond .ne 8, 3) := by decide +kernel
theorem dX14_acknowledgement_230 : decode cX14_acknowledgement 230 = .ok (.aload_n 1, 1) := by decide +kernel
theorem dX14_acknowledgement_231 : decode cX14_acknowledgement 231 = .ok (.iconst 0, 1) := by decide +kernel
theorem dX14_acknowledgement_232 : decode cX14_acknowledgement 232 = .ok (.putfield 466, 3) := by decide +kernel
theorem dX14_acknowledgement_235 : decode cX14_acknowledgement 235 = .ok (.aload_n 1, 1) := by decide +kernel
theorem dX14_acknowledgement_236 : decode cX14_acknowledgement 236 = .ok (.getfield 408, 3) := by decide +kernel
theorem dX14_acknowledgement_239 : decode cX14_acknowledgement 239 = .ok (.ifCond .eq 20, 3) := by decide +kernel
theorem dX14_acknowledgement_242 : decode cX14_acknowledgement 242 = .ok (.aload_n 1, 1) := by decide +kernel
theorem dX14_acknowledgement_243 : decode cX14_acknowledgement 243 = .ok (.getfield 428, 3) := by decide +kernel
theorem dX14_acknowledgement_246 : decode cX14_acknowledgement 246 = .ok (.aload_n 1, 1) := by decide +kernel
theorem dX14_acknowledgement_247 : decode cX14_acknowledgement 247 = .ok (.invokevirtual 402, 3) := by decide +kernel
theorem dX14_acknowledgement_250 : decode cX14_acknowledgement 250 = .ok (.iconst 1, 1) := by decide +kernel
theorem dX14_acknowledgement_251 : decode cX14_acknowledgement 251 = .ok (.iadd, 1) := by decide +kernel
theorem dX14_acknowledgement_252 : decode cX14_acknowledgement 252 = .ok (.if_icmp .ne 7, 3) := by decide +kernel
theorem dX14_acknowledgement_255 : decode cX14_acknowledgement 255 = .ok (.iconst 1, 1) := by decide +kernel
theorem dX14_acknowledgement_256 : decode cX14_acknowledgement 256 = .ok (.goto 4, 3) := by decide +kernel
theorem dX14_acknowledgement_259 : decode cX14_acknowledgement 259 = .ok (.iconst 0, 1) := by decide +kernel
theorem dX14_acknowledgement_260 : decode cX14_acknowledgement 260 = .ok (.istore_n 2, 1) := by decide +kernel
theorem dX14_acknowledgement_261 : decode cX14_acknowledgement 261 = .ok (.iload_n 2, 1) := by decide +kernel
theorem dX14_acknowledgement_262 : decode cX14_acknowledgement 262 = .ok (.ifCond .eq 27, 3) := by decide +kernel
theorem dX14_acknowledgement_265 : decode cX14_acknowledgement 265 = .ok (.aload_n 1, 1) := by decide +kernel
theorem dX14_acknowledgement_266 : decode cX14_acknowledgement 266 = .ok (.getfield 152, 3) := by decide +kernel
theorem dX14_acknowledgement_269 : decode cX14_acknowledgement 269 = .ok (.iconst 3, 1) := by decide +kernel
theorem dX14_acknowledgement_270 : decode cX14_acknowledgement 270 = .ok (.if_icmp .ne 19, 3) := by decide +kernel
theorem dX14_acknowledgement_273 : decode cX14_acknowledgement 273 = .ok (.aload_n 1, 1) := by decide +kernel
theorem dX14_acknowledgement_274 : decode cX14_acknowledgement 274 = .ok (.iconst 4, 1) := by decide +kernel
theorem dX14_acknowledgement_275 : decode cX14_acknowledgement 275 = .ok (.putfield 152, 3) := by decide +kernel
theorem dX14_acknowledgement_278 : decode cX14_acknowledgement 278 = .ok (.aload_n 1, 1) := by decide +kernel
theorem dX14_acknowledgement_279 : decode cX14_acknowledgement 279 = .ok (.aload_n 0, 1) := by decide +kernel
theorem dX14_acknowledgement_280 : decode cX14_acknowledgement 280 = .ok (.getfield 134, 3) := by decide +kernel
theorem dX14_acknowledgement_283 : decode cX14_acknowledgement 283 = .ok (.putfield 499, 3) := by decide +kernel
theorem dX14_acknowledgement_286 : decode cX14_acknowledgement 286 = .ok (.goto 52, 3) := by decide +kernel
theorem dX14_acknowledgement_289 : decode cX14_acknowledgement 289 = .ok (.iload_n 2, 1) := by decide +kernel
theorem dX14_acknowledgement_290 : decode cX14_acknowledgement 290 = .ok (.ifCond .eq 28, 3) := by decide +kernel
theorem dX14_acknowledgement_293 : decode cX14_acknowledgement 293 = .ok (.aload_n 1, 1) := by decide +kernel
theorem dX14_acknowledgement_294 : decode cX14_acknowledgement 294 = .ok (.getfield 152, 3) := by decide +kernel
theorem dX14_acknowledgement_297 : decode cX14_acknowledgement 297 = .ok (.iconst 5, 1) := by decide +kernel
theorem dX14_acknowledgement_298 : decode cX14_acknowledgement 298 = .ok (.if_icmp .ne 20, 3) := by decide +kernel
theorem dX14_acknowledgement_301 : decode cX14_acknowledgement 301 = .ok (.aload_n 1, 1) := by decide +kernel
theorem dX14_acknowledgement_302 : decode cX14_acknowledgement 302 = .ok (.bipush 6, 2) := by decide +kernel
theorem dX14_acknowledgement_304 : decode cX14_acknowledgement 304 = .ok (.putfield 152, 3) := by decide +kernel
theorem dX14_acknowledgement_307 : decode cX14_acknowledgement 307 = .ok (.aload_n 1, 1) := by decide +kernel
theorem dX14_acknowledgement_308 : decode cX14_acknowledgement 308 = .ok (.aload_n 0, 1) := by decide +kernel
theorem dX14_acknowledgement_309 : decode cX14_acknowledgement 309 = .ok (.getfield 134, 3) := by decide +kernel
theorem dX14_acknowledgement_312 : decode cX14_acknowledgement 312 = .ok (.putfield 499, 3) := by decide +kernel
theorem dX14_acknowledgement_315 : decode cX14_acknowledgement 315 = .ok (.goto 23, 3) := by decide +kernel
theorem dX14_acknowledgement_318 : decode cX14_acknowledgement 318 = .ok (.iload_n 2, 1) := by decide +kernel
theorem dX14_acknowledgement_319 : decode cX14_acknowledgement 319 = .ok (.ifCond .eq 19, 3) := by decide +kernel
theorem dX14_acknowledgement_322 : decode cX14_acknowledgement 322 = .ok (.aload_n 1, 1) := by decide +kernel
theorem dX14_acknowledgement_323 : decode cX14_acknowledgement 323 = .ok (.getfield 152, 3) := by decide +kernel
theorem dX14_acknowledgement_326 : decode cX14_acknowledgement 326 = .ok (.bipush 8, 2) := by decide +kernel
theorem dX14_acknowledgement_328 : decode cX14_acknowledgement 328 = .ok (.if_icmp .ne 10, 3) := by decide +kernel
theorem dX14_acknowledgement_331 : decode cX14_acknowledgement 331 = .ok (.aload_n 0, 1) := by decide +kernel
theorem dX14_acknowledgement_332 : decode cX14_acknowledgement 332 = .ok (.aload_n 1, 1) := by decide +kernel
theorem dX14_acknowledgement_333 : decode cX14_acknowledgement 333 = .ok (.invokevirtual 502, 3) := by decide +kernel
theorem dX14_acknowledgement_336 : decode cX14_acknowledgement 336 = .ok (.iconst 0, 1) := by decide +kernel
theorem dX14_acknowledgement_337 : decode cX14_acknowledgement 337 = .ok (.ireturn, 1) := by decide +kernel
theorem dX14_acknowledgement_338 : decode cX14_acknowledgement 338 = .ok (.iconst 1, 1) := by decide +kernel
theorem dX14_acknowledgement_339 : decode cX14_acknowledgement 339 = .ok (.ireturn, 1) := by decide +kernel
def rmX14_acknowledgement : Room := { frames := 8, cells := 0, slots := 0, locals := 205 }
theorem kX14_acknowledgement : yX14_acknowledgement.cls = "WebHostModel" ∧ yX14_acknowledgement.cls ≠ "java/lang/invoke/MethodHandle" ∧ yX14_acknowledgement.cls ≠ "java/lang/invoke/VarHandle" ∧ (parseMethodDescriptor yX14_acknowledgement.desc).map (fun d => d.parameters.length) = some 1 := by decide +kernel
def w14_acknowledgement_J318 (σ : St) (o1 : Nat) (x2 : Int32) (Q : Int32 → St → Prop) : Prop := (x2 = 0 → Q 1 σ) ∧ (¬ x2 = 0 → ((¬ (σ 15 o1 0) = 8 → Q 1 σ) ∧ ((σ 15 o1 0) = 8 → (w14_gone σ o1 (fun σ5 => (Q 0 σ5))))))
set_option maxHeartbeats 4000000 in
theorem k14_acknowledgement_J318 {p : Program} {l : Launch} {e : Env} {s : State} {m : MethodId} {args : Array Value} {below : List Frame} {meth : Method} {c : Code} {G : Gh} {a1 : Nat → Nat → Nat} {τ : St} {Q : Int32 → St → Prop} (C : Cx p e s m args meth c cX14_acknowledgement 3 (some .boolean) "WebHostModel" G) (σ : St) (o1 : Nat) (x2 : Int32) (ho1 : o1 < 16) (hw : w14_acknowledgement_J318 σ o1 x2 Q) (H : Heap) (locs : List Loc) (ls : Array Slot) (hH : Hd G a1 (cmb τ σ) H) (hS : va_S (gA G) s.heap H locs) (hl : lv_has ls 3 [(0, .ref (ga G 14 0)), (1, .ref (ga G 15 o1)), (2, .int x2)]) : W p l e rmX14_acknowledgement s m args below meth c H locs 0 0 (MQ below (QIs G a1 (fun u => cmb τ u) Q) args s 0 0 (gA G)) (F0 m 318 ls []) := by
  have hx := C.1
  have hb := C.2.1
  have hown := C.2.2.2.2.2.1
  have hts := C.2.2.2.2.2.2.1
  refine lv_iload_n hx hb dX14_acknowledgement_318 rfl (lv_at hl 2 rfl) ?_
  refine lv_if_eq (tgt := 338) hx hb dX14_acknowledgement_319 (by decide) (fun h => ?_) (fun h => ?_)
  · have hw := hw.1 h
    refine lv_iconst (v := 1) hx hb dX14_acknowledgement_338 (by decide) ?_
    exact rt_i C rfl hH hS hw dX14_acknowledgement_339
  have hw := hw.2 h
  refine lv_aload_n hx hb dX14_acknowledgement_322 rfl (lv_at hl 1 rfl) ?_
  refine g15_0 C hH ho1 q1707 dX14_acknowledgement_323 ?_
  refine lv_bipush (v := 8) hx hb dX14_acknowledgement_326 (by decide) ?_
  refine lv_icmp_ne (tgt := 338) hx hb dX14_acknowledgement_328 (by decide) (fun h => ?_) (fun h => ?_)
  · have hw := hw.1 h
    refine lv_iconst (v := 1) hx hb dX14_acknowledgement_338 (by decide) ?_
    exact rt_i C rfl hH hS hw dX14_acknowledgement_339
  have hw := hw.2 h
  refine lv_aload_n hx hb dX14_acknowledgement_331 rfl (lv_at hl 0 rfl) ?_
  refine lv_aload_n hx hb dX14_acknowledgement_332 rfl (lv_at hl 1 rfl) ?_
  refine kc_v (rn_v (As := [.ref (ga G 15 o1)]) (rest := []) C hH hS (by decide) rfl (by decide) (m14_gone l G a1 τ σ o1 ho1 _ hw) (cwV 1 hts (lw_V q2277 q2279 qs94 q171 q2280) rfl rfl rfl kX14_gone ⟨Nat.le_of_ble_eq_true rfl, Nat.le_of_ble_eq_true rfl⟩) rfl hl.1 rfl (Nat.le_of_ble_eq_true rfl) dX14_acknowledgement_333 ⟨Nat.le_of_ble_eq_true rfl, Nat.le_of_ble_eq_true rfl⟩) hS (fun σ5 H locs hw hH hS => ?_)
  refine lv_iconst (v := 0) hx hb dX14_acknowledgement_336 (by decide) ?_
  exact rt_i C rfl hH hS hw dX14_acknowledgement_337
def w14_acknowledgement_J289 (σ : St) (o1 : Nat) (x2 : Int32) (Q : Int32 → St → Prop) : Prop := (x2 = 0 → w14_acknowledgement_J318 σ o1 x2 Q) ∧ (¬ x2 = 0 → ((¬ (σ 15 o1 0) = 5 → w14_acknowledgement_J318 σ o1 x2 Q) ∧ ((σ 15 o1 0) = 5 → (∀ σ6, σ6 = up3 σ 15 o1 0 6 → (∀ σ7, σ7 = up3 σ6 15 o1 45 (σ6 14 0 10) → (Q 1 σ7))))))
set_option maxHeartbeats 4000000 in
theorem k14_acknowledgement_J289 {p : Program} {l : Launch} {e : Env} {s : State} {m : MethodId} {args : Array Value} {below : List Frame} {meth : Method} {c : Code} {G : Gh} {a1 : Nat → Nat → Nat} {τ : St} {Q : Int32 → St → Prop} (C : Cx p e s m args meth c cX14_acknowledgement 3 (some .boolean) "WebHostModel" G) (σ : St) (o1 : Nat) (x2 : Int32) (ho1 : o1 < 16) (hw : w14_acknowledgement_J289 σ o1 x2 Q) (H : Heap) (locs : List Loc) (ls : Array Slot) (hH : Hd G a1 (cmb τ σ) H) (hS : va_S (gA G) s.heap H locs) (hl : lv_has ls 3 [(0, .ref (ga G 14 0)), (1, .ref (ga G 15 o1)), (2, .int x2)]) : W p l e rmX14_acknowledgement s m args below meth c H locs 0 0 (MQ below (QIs G a1 (fun u => cmb τ u) Q) args s 0 0 (gA G)) (F0 m 289 ls []) := by
  have hx := C.1
  have hb := C.2.1
  have hown := C.2.2.2.2.2.1
  have hts := C.2.2.2.2.2.2.1
  refine lv_iload_n hx hb dX14_acknowledgement_289 rfl (lv_at hl 2 rfl) ?_
  refine lv_if_eq (tgt := 318) hx hb dX14_acknowledgement_290 (by decide) (fun h => ?_) (fun h => ?_)
  · have hw := hw.1 h
    exact k14_acknowledgement_J318 C σ o1 x2 ho1 hw H locs ls hH hS (lv_sub hl [0, 1, 2] rfl)
  have hw := hw.2 h
  refine lv_aload_n hx hb dX14_acknowledgement_293 rfl (lv_at hl 1 rfl) ?_
  refine g15_0 C hH ho1 q1707 dX14_acknowledgement_294 ?_
  refine lv_iconst (v := 5) hx hb dX14_acknowledgement_297 (by decide) ?_
  refine lv_icmp_ne (tgt := 318) hx hb dX14_acknowledgement_298 (by decide) (fun h => ?_) (fun h => ?_)
  · have hw := hw.1 h
    exact k14_acknowledgement_J318 C σ o1 x2 ho1 hw H locs ls hH hS (lv_sub hl [0, 1, 2] rfl)
  have hw := hw.2 h
  refine lv_aload_n hx hb dX14_acknowledgement_301 rfl (lv_at hl 1 rfl) ?_
  refine lv_bipush (v := 6) hx hb dX14_acknowledgement_302 (by decide) ?_
  refine p15_0 C hH hS ho1 q1707 dX14_acknowledgement_304 (fun σ6 e6 H locs hH hS => ?_)
  have hw := hw σ6 e6
  refine lv_aload_n hx hb dX14_acknowledgement_307 rfl (lv_at hl 1 rfl) ?_
  refine lv_aload_n hx hb dX14_acknowledgement_308 rfl (lv_at hl 0 rfl) ?_
  refine g14_10 C hH q1950 dX14_acknowledgement_309 ?_
  refine p15_45 C hH hS ho1 q1762 dX14_acknowledgement_312 (fun σ7 e7 H locs hH hS => ?_)
  have hw := hw σ7 e7
  refine lv_goto (tgt := 338) hx hb dX14_acknowledgement_315 (by decide) ?_
  refine lv_iconst (v := 1) hx hb dX14_acknowledgement_338 (by decide) ?_
  exact rt_i C rfl hH hS hw dX14_acknowledgement_339
def w14_acknowledgement_J260 (σ : St) (o1 : Nat) (xs0 : Int32) (Q : Int32 → St → Prop) : Prop := (xs0 = 0 → w14_acknowledgement_J289 σ o1 xs0 Q) ∧ (¬ xs0 = 0 → ((¬ (σ 15 o1 0) = 3 → w14_acknowledgement_J289 σ o1 xs0 Q) ∧ ((σ 15 o1 0) = 3 → (∀ σ8, σ8 = up3 σ 15 o1 0 4 → (∀ σ9, σ9 = up3 σ8 15 o1 45 (σ8 14 0 10) → (Q 1 σ9))))))
set_option maxHeartbeats 4000000 in
theorem k14_acknowledgement_J260 {p : Program} {l : Launch} {e : Env} {s : State} {m : MethodId} {args : Array Value} {below : List Frame} {meth : Method} {c : Code} {G : Gh} {a1 : Nat → Nat → Nat} {τ : St} {Q : Int32 → St → Prop} (C : Cx p e s m args meth c cX14_acknowledgement 3 (some .boolean) "WebHostModel" G) (σ : St) (o1 : Nat) (xs0 : Int32) (ho1 : o1 < 16) (hw : w14_acknowledgement_J260 σ o1 xs0 Q) (H : Heap) (locs : List Loc) (ls : Array Slot) (hH : Hd G a1 (cmb τ σ) H) (hS : va_S (gA G) s.heap H locs) (hl : lv_has ls 3 [(0, .ref (ga G 14 0)), (1, .ref (ga G 15 o1))]) : W p l e rmX14_acknowledgement s m args below meth c H locs 0 0 (MQ below (QIs G a1 (fun u => cmb τ u) Q) args s 0 0 (gA G)) (F0 m 260 ls [.int xs0]) := by
  have hx := C.1
  have hb := C.2.1
  have hown := C.2.2.2.2.2.1
  have hts := C.2.2.2.2.2.2.1
  refine lv_istore_n (lv' := [(2, .int xs0), (0, .ref (ga G 14 0)), (1, .ref (ga G 15 o1))]) hx hb dX14_acknowledgement_260 rfl hl (by decide) rfl (fun ls hl => ?_)
  refine lv_iload_n hx hb dX14_acknowledgement_261 rfl (lv_at hl 0 rfl) ?_
  refine lv_if_eq (tgt := 289) hx hb dX14_acknowledgement_262 (by decide) (fun h => ?_) (fun h => ?_)
  · have hw := hw.1 h
    exact k14_acknowledgement_J289 C σ o1 xs0 ho1 hw H locs ls hH hS (lv_sub hl [1, 2, 0] rfl)
  have hw := hw.2 h
  refine lv_aload_n hx hb dX14_acknowledgement_265 rfl (lv_at hl 2 rfl) ?_
  refine g15_0 C hH ho1 q1707 dX14_acknowledgement_266 ?_
  refine lv_iconst (v := 3) hx hb dX14_acknowledgement_269 (by decide) ?_
  refine lv_icmp_ne (tgt := 289) hx hb dX14_acknowledgement_270 (by decide) (fun h => ?_) (fun h => ?_)
  · have hw := hw.1 h
    exact k14_acknowledgement_J289 C σ o1 xs0 ho1 hw H locs ls hH hS (lv_sub hl [1, 2, 0] rfl)
  have hw := hw.2 h
  refine lv_aload_n hx hb dX14_acknowledgement_273 rfl (lv_at hl 2 rfl) ?_
  refine lv_iconst (v := 4) hx hb dX14_acknowledgement_274 (by decide) ?_
  refine p15_0 C hH hS ho1 q1707 dX14_acknowledgement_275 (fun σ8 e8 H locs hH hS => ?_)
  have hw := hw σ8 e8
  refine lv_aload_n hx hb dX14_acknowledgement_278 rfl (lv_at hl 2 rfl) ?_
  refine lv_aload_n hx hb dX14_acknowledgement_279 rfl (lv_at hl 1 rfl) ?_
  refine g14_10 C hH q1950 dX14_acknowledgement_280 ?_
  refine p15_45 C hH hS ho1 q1762 dX14_acknowledgement_283 (fun σ9 e9 H locs hH hS => ?_)
  have hw := hw σ9 e9
  refine lv_goto (tgt := 338) hx hb dX14_acknowledgement_286 (by decide) ?_
  refine lv_iconst (v := 1) hx hb dX14_acknowledgement_338 (by decide) ?_
  exact rt_i C rfl hH hS hw dX14_acknowledgement_339
def w14_acknowledgement_J235 (σ : St) (o1 : Nat) (Q : Int32 → St → Prop) : Prop := bo (σ 15 o1 31) → (((σ 15 o1 31) = 0 → w14_acknowledgement_J260 σ o1 0 Q) ∧ (¬ (σ 15 o1 31) = 0 → (w15_behind σ o1 (fun r10 => ((¬ (σ 15 o1 4) = (r10 + 1) → w14_acknowledgement_J260 σ o1 0 Q) ∧ ((σ 15 o1 4) = (r10 + 1) → w14_acknowledgement_J260 σ o1 1 Q))))))
set_option maxHeartbeats 4000000 in
theorem k14_acknowledgement_J235 {p : Program} {l : Launch} {e : Env} {s : State} {m : MethodId} {args : Array Value} {below : List Frame} {meth : Method} {c : Code} {G : Gh} {a1 : Nat → Nat → Nat} {τ : St} {Q : Int32 → St → Prop} (C : Cx p e s m args meth c cX14_acknowledgement 3 (some .boolean) "WebHostModel" G) (σ : St) (o1 : Nat) (ho1 : o1 < 16) (hw : w14_acknowledgement_J235 σ o1 Q) (H : Heap) (locs : List Loc) (ls : Array Slot) (hH : Hd G a1 (cmb τ σ) H) (hS : va_S (gA G) s.heap H locs) (hl : lv_has ls 3 [(0, .ref (ga G 14 0)), (1, .ref (ga G 15 o1))]) : W p l e rmX14_acknowledgement s m args below meth c H locs 0 0 (MQ below (QIs G a1 (fun u => cmb τ u) Q) args s 0 0 (gA G)) (F0 m 235 ls []) := by
  have hx := C.1
  have hb := C.2.1
  have hown := C.2.2.2.2.2.1
  have hts := C.2.2.2.2.2.2.1
  refine lv_aload_n hx hb dX14_acknowledgement_235 rfl (lv_at hl 1 rfl) ?_
  refine g15_31 C hH ho1 q1743 dX14_acknowledgement_236 (fun hz => ?_)
  have hw := hw hz
  refine lv_if_eq (tgt := 259) hx hb dX14_acknowledgement_239 (by decide) (fun h => ?_) (fun h => ?_)
  · have hw := hw.1 h
    refine lv_iconst (v := 0) hx hb dX14_acknowledgement_259 (by decide) ?_
    exact k14_acknowledgement_J260 C σ o1 0 ho1 hw H locs ls hH hS (lv_sub hl [0, 1] rfl)
  have hw := hw.2 h
  refine lv_aload_n hx hb dX14_acknowledgement_242 rfl (lv_at hl 1 rfl) ?_
  refine g15_4 C hH ho1 q1711 dX14_acknowledgement_243 ?_
  refine lv_aload_n hx hb dX14_acknowledgement_246 rfl (lv_at hl 1 rfl) ?_
  refine kc_ip (rn_vp (As := []) (rest := [.int (σ 15 o1 4)]) C hH hS (by decide) rfl ho1 (m15_behind l G a1 τ σ H o1 ho1 _ hw) (cwV 0 hts (lw_V q2308 q2198 q2199 q172 q2200) rfl rfl rfl kX15_behind ⟨Nat.le_of_ble_eq_true rfl, Nat.le_of_ble_eq_true rfl⟩) rfl hl.1 rfl (Nat.le_of_ble_eq_true rfl) dX14_acknowledgement_247 ⟨Nat.le_of_ble_eq_true rfl, Nat.le_of_ble_eq_true rfl⟩) hS (fun r10 locs hw hS => ?_)
  refine lv_iconst (v := 1) hx hb dX14_acknowledgement_250 (by decide) ?_
  refine lv_iadd hx hb dX14_acknowledgement_251 ?_
  refine lv_icmp_ne (tgt := 259) hx hb dX14_acknowledgement_252 (by decide) (fun h => ?_) (fun h => ?_)
  · have hw := hw.1 h
    refine lv_iconst (v := 0) hx hb dX14_acknowledgement_259 (by decide) ?_
    exact k14_acknowledgement_J260 C σ o1 0 ho1 hw H locs ls hH hS (lv_sub hl [0, 1] rfl)
  have hw := hw.2 h
  refine lv_iconst (v := 1) hx hb dX14_acknowledgement_255 (by decide) ?_
  refine lv_goto (tgt := 260) hx hb dX14_acknowledgement_256 (by decide) ?_
  exact k14_acknowledgement_J260 C σ o1 1 ho1 hw H locs ls hH hS (lv_sub hl [0, 1] rfl)
def w14_acknowledgement_J209 (σ : St) (o1 : Nat) (Q : Int32 → St → Prop) : Prop := w14_before σ (σ 14 0 35) (σ 15 o1 4) (fun r4 => ((¬ r4 = 0 → w14_acknowledgement_J235 σ o1 Q) ∧ (r4 = 0 → ((¬ (σ 15 o1 7) = 0 → w14_acknowledgement_J235 σ o1 Q) ∧ ((σ 15 o1 7) = 0 → (∀ σ11, σ11 = up3 σ 15 o1 23 0 → (w14_acknowledgement_J235 σ11 o1 Q)))))))
set_option maxHeartbeats 4000000 in
theorem k14_acknowledgement_J209 {p : Program} {l : Launch} {e : Env} {s : State} {m : MethodId} {args : Array Value} {below : List Frame} {meth : Method} {c : Code} {G : Gh} {a1 : Nat → Nat → Nat} {τ : St} {Q : Int32 → St → Prop} (C : Cx p e s m args meth c cX14_acknowledgement 3 (some .boolean) "WebHostModel" G) (σ : St) (o1 : Nat) (ho1 : o1 < 16) (hw : w14_acknowledgement_J209 σ o1 Q) (H : Heap) (locs : List Loc) (ls : Array Slot) (hH : Hd G a1 (cmb τ σ) H) (hS : va_S (gA G) s.heap H locs) (hl : lv_has ls 3 [(0, .ref (ga G 14 0)), (1, .ref (ga G 15 o1))]) : W p l e rmX14_acknowledgement s m args below meth c H locs 0 0 (MQ below (QIs G a1 (fun u => cmb τ u) Q) args s 0 0 (gA G)) (F0 m 209 ls []) := by
  have hx := C.1
  have hb := C.2.1
  have hown := C.2.2.2.2.2.1
  have hts := C.2.2.2.2.2.2.1
  refine lv_aload_n hx hb dX14_acknowledgement_209 rfl (lv_at hl 0 rfl) ?_
  refine g14_35 C hH q1975 dX14_acknowledgement_210 ?_
  refine lv_aload_n hx hb dX14_acknowledgement_213 rfl (lv_at hl 1 rfl) ?_
  refine g15_4 C hH ho1 q1711 dX14_acknowledgement_214 ?_
  refine kc_ip (rn_sp (As := [.int (σ 14 0 35), .int (σ 15 o1 4)]) (rest := []) C hH hS (m14_before l G a1 τ σ H (σ 14 0 35) (σ 15 o1 4) _ hw) (va_cwS 2 hts (lw_S q2294 q2295 q171 q2296) rfl rfl rfl kX14_before.2 ⟨Nat.le_of_ble_eq_true rfl, Nat.le_of_ble_eq_true rfl⟩) rfl hl.1 rfl (Nat.le_of_ble_eq_true rfl) dX14_acknowledgement_217 ⟨Nat.le_of_ble_eq_true rfl, Nat.le_of_ble_eq_true rfl⟩) hS (fun r4 locs hw hS => ?_)
  refine lv_if_ne (tgt := 235) hx hb dX14_acknowledgement_220 (by decide) (fun h => ?_) (fun h => ?_)
  · have hw := hw.1 h
    exact k14_acknowledgement_J235 C σ o1 ho1 hw H locs ls hH hS (lv_sub hl [0, 1] rfl)
  have hw := hw.2 h
  refine lv_aload_n hx hb dX14_acknowledgement_223 rfl (lv_at hl 1 rfl) ?_
  refine g15_7 C hH ho1 q1714 dX14_acknowledgement_224 ?_
  refine lv_if_ne (tgt := 235) hx hb dX14_acknowledgement_227 (by decide) (fun h => ?_) (fun h => ?_)
  · have hw := hw.1 h
    exact k14_acknowledgement_J235 C σ o1 ho1 hw H locs ls hH hS (lv_sub hl [0, 1] rfl)
  have hw := hw.2 h
  refine lv_aload_n hx hb dX14_acknowledgement_230 rfl (lv_at hl 1 rfl) ?_
  refine lv_iconst (v := 0) hx hb dX14_acknowledgement_231 (by decide) ?_
  refine p15_23 C hH hS ho1 q1730 dX14_acknowledgement_232 (fun σ11 e11 H locs hH hS => ?_)
  have hw := hw σ11 e11
  exact k14_acknowledgement_J235 C σ11 o1 ho1 hw H locs ls hH hS (lv_sub hl [0, 1] rfl)
def w14_acknowledgement_J151 (σ : St) (o1 : Nat) (Q : Int32 → St → Prop) : Prop := w14_before σ (σ 14 0 35) (σ 15 o1 4) (fun r3 => ((¬ r3 = 0 → w14_acknowledgement_J209 σ o1 Q) ∧ (r3 = 0 → (w14_before σ (σ 15 o1 8) (σ 14 0 34) (fun r12 => ((¬ r12 = 0 → (w14_takeWindow σ o1 (fun σ13 => (w14_acknowledgement_J209 σ13 o1 Q)))) ∧ (r12 = 0 → ((¬ (σ 15 o1 8) = (σ 14 0 34) → w14_acknowledgement_J209 σ o1 Q) ∧ ((σ 15 o1 8) = (σ 14 0 34) → (w14_before σ (σ 14 0 35) (σ 15 o1 9) (fun r14 => ((¬ r14 = 0 → w14_acknowledgement_J209 σ o1 Q) ∧ (r14 = 0 → (w14_takeWindow σ o1 (fun σ15 => (w14_acknowledgement_J209 σ15 o1 Q))))))))))))))))
set_option maxHeartbeats 4000000 in
theorem k14_acknowledgement_J151 {p : Program} {l : Launch} {e : Env} {s : State} {m : MethodId} {args : Array Value} {below : List Frame} {meth : Method} {c : Code} {G : Gh} {a1 : Nat → Nat → Nat} {τ : St} {Q : Int32 → St → Prop} (C : Cx p e s m args meth c cX14_acknowledgement 3 (some .boolean) "WebHostModel" G) (σ : St) (o1 : Nat) (ho1 : o1 < 16) (hw : w14_acknowledgement_J151 σ o1 Q) (H : Heap) (locs : List Loc) (ls : Array Slot) (hH : Hd G a1 (cmb τ σ) H) (hS : va_S (gA G) s.heap H locs) (hl : lv_has ls 3 [(0, .ref (ga G 14 0)), (1, .ref (ga G 15 o1))]) : W p l e rmX14_acknowledgement s m args below meth c H locs 0 0 (MQ below (QIs G a1 (fun u => cmb τ u) Q) args s 0 0 (gA G)) (F0 m 151 ls []) := by
  have hx := C.1
  have hb := C.2.1
  have hown := C.2.2.2.2.2.1
  have hts := C.2.2.2.2.2.2.1
  refine lv_aload_n hx hb dX14_acknowledgement_151 rfl (lv_at hl 0 rfl) ?_
  refine g14_35 C hH q1975 dX14_acknowledgement_152 ?_
  refine lv_aload_n hx hb dX14_acknowledgement_155 rfl (lv_at hl 1 rfl) ?_
  refine g15_4 C hH ho1 q1711 dX14_acknowledgement_156 ?_
  refine kc_ip (rn_sp (As := [.int (σ 14 0 35), .int (σ 15 o1 4)]) (rest := []) C hH hS (m14_before l G a1 τ σ H (σ 14 0 35) (σ 15 o1 4) _ hw) (va_cwS 2 hts (lw_S q2294 q2295 q171 q2296) rfl rfl rfl kX14_before.2 ⟨Nat.le_of_ble_eq_true rfl, Nat.le_of_ble_eq_true rfl⟩) rfl hl.1 rfl (Nat.le_of_ble_eq_true rfl) dX14_acknowledgement_159 ⟨Nat.le_of_ble_eq_true rfl, Nat.le_of_ble_eq_true rfl⟩) hS (fun r3 locs hw hS => ?_)
  refine lv_if_ne (tgt := 209) hx hb dX14_acknowledgement_162 (by decide) (fun h => ?_) (fun h => ?_)
  · have hw := hw.1 h
    exact k14_acknowledgement_J209 C σ o1 ho1 hw H locs ls hH hS (lv_sub hl [0, 1] rfl)
  have hw := hw.2 h
  refine lv_aload_n hx hb dX14_acknowledgement_165 rfl (lv_at hl 1 rfl) ?_
  refine g15_8 C hH ho1 q1715 dX14_acknowledgement_166 ?_
  refine lv_aload_n hx hb dX14_acknowledgement_169 rfl (lv_at hl 0 rfl) ?_
  refine g14_34 C hH q1974 dX14_acknowledgement_170 ?_
  refine kc_ip (rn_sp (As := [.int (σ 15 o1 8), .int (σ 14 0 34)]) (rest := []) C hH hS (m14_before l G a1 τ σ H (σ 15 o1 8) (σ 14 0 34) _ hw) (va_cwS 2 hts (lw_S q2294 q2295 q171 q2296) rfl rfl rfl kX14_before.2 ⟨Nat.le_of_ble_eq_true rfl, Nat.le_of_ble_eq_true rfl⟩) rfl hl.1 rfl (Nat.le_of_ble_eq_true rfl) dX14_acknowledgement_173 ⟨Nat.le_of_ble_eq_true rfl, Nat.le_of_ble_eq_true rfl⟩) hS (fun r12 locs hw hS => ?_)
  refine lv_if_ne (tgt := 204) hx hb dX14_acknowledgement_176 (by decide) (fun h => ?_) (fun h => ?_)
  · have hw := hw.1 h
    refine lv_aload_n hx hb dX14_acknowledgement_204 rfl (lv_at hl 0 rfl) ?_
    refine lv_aload_n hx hb dX14_acknowledgement_205 rfl (lv_at hl 1 rfl) ?_
    refine kc_v (rn_v (As := [.ref (ga G 15 o1)]) (rest := []) C hH hS (by decide) rfl (by decide) (m14_takeWindow l G a1 τ σ o1 ho1 _ hw) (cwV 1 hts (lw_V q2424 q2426 qs125 q171 q2427) rfl rfl rfl kX14_takeWindow ⟨Nat.le_of_ble_eq_true rfl, Nat.le_of_ble_eq_true rfl⟩) rfl hl.1 rfl (Nat.le_of_ble_eq_true rfl) dX14_acknowledgement_206 ⟨Nat.le_of_ble_eq_true rfl, Nat.le_of_ble_eq_true rfl⟩) hS (fun σ13 H locs hw hH hS => ?_)
    exact k14_acknowledgement_J209 C σ13 o1 ho1 hw H locs ls hH hS (lv_sub hl [0, 1] rfl)
  have hw := hw.2 h
  refine lv_aload_n hx hb dX14_acknowledgement_179 rfl (lv_at hl 1 rfl) ?_
  refine g15_8 C hH ho1 q1715 dX14_acknowledgement_180 ?_
  refine lv_aload_n hx hb dX14_acknowledgement_183 rfl (lv_at hl 0 rfl) ?_
  refine g14_34 C hH q1974 dX14_acknowledgement_184 ?_
  refine lv_icmp_ne (tgt := 209) hx hb dX14_acknowledgement_187 (by decide) (fun h => ?_) (fun h => ?_)
  · have hw := hw.1 h
    exact k14_acknowledgement_J209 C σ o1 ho1 hw H locs ls hH hS (lv_sub hl [0, 1] rfl)
  have hw := hw.2 h
  refine lv_aload_n hx hb dX14_acknowledgement_190 rfl (lv_at hl 0 rfl) ?_
  refine g14_35 C hH q1975 dX14_acknowledgement_191 ?_
  refine lv_aload_n hx hb dX14_acknowledgement_194 rfl (lv_at hl 1 rfl) ?_
  refine g15_9 C hH ho1 q1716 dX14_acknowledgement_195 ?_
  refine kc_ip (rn_sp (As := [.int (σ 14 0 35), .int (σ 15 o1 9)]) (rest := []) C hH hS (m14_before l G a1 τ σ H (σ 14 0 35) (σ 15 o1 9) _ hw) (va_cwS 2 hts (lw_S q2294 q2295 q171 q2296) rfl rfl rfl kX14_before.2 ⟨Nat.le_of_ble_eq_true rfl, Nat.le_of_ble_eq_true rfl⟩) rfl hl.1 rfl (Nat.le_of_ble_eq_true rfl) dX14_acknowledgement_198 ⟨Nat.le_of_ble_eq_true rfl, Nat.le_of_ble_eq_true rfl⟩) hS (fun r14 locs hw hS => ?_)
  refine lv_if_ne (tgt := 209) hx hb dX14_acknowledgement_201 (by decide) (fun h => ?_) (fun h => ?_)
  · have hw := hw.1 h
    exact k14_acknowledgement_J209 C σ o1 ho1 hw H locs ls hH hS (lv_sub hl [0, 1] rfl)
  have hw := hw.2 h
  refine lv_aload_n hx hb dX14_acknowledgement_204 rfl (lv_at hl 0 rfl) ?_
  refine lv_aload_n hx hb dX14_acknowledgement_205 rfl (lv_at hl 1 rfl) ?_
  refine kc_v (rn_v (As := [.ref (ga G 15 o1)]) (rest := []) C hH hS (by decide) rfl (by decide) (m14_takeWindow l G a1 τ σ o1 ho1 _ hw) (cwV 1 hts (lw_V q2424 q2426 qs125 q171 q2427) rfl rfl rfl kX14_takeWindow ⟨Nat.le_of_ble_eq_true rfl, Nat.le_of_ble_eq_true rfl⟩) rfl hl.1 rfl (Nat.le_of_ble_eq_true rfl) dX14_acknowledgement_206 ⟨Nat.le_of_ble_eq_true rfl, Nat.le_of_ble_eq_true rfl⟩) hS (fun σ15 H locs hw hH hS => ?_)
  exact k14_acknowledgement_J209 C σ15 o1 ho1 hw H locs ls hH hS (lv_sub hl [0, 1] rfl)
def w14_acknowledgement (σ : St) (o1 : Nat) (Q : Int32 → St → Prop) : Prop := (¬ (σ 15 o1 0) = 1 → (w14_isBehind σ (σ 14 0 35) (σ 15 o1 6) (fun r1 => ((r1 = 0 → (w14_isBehind σ (σ 14 0 35) (σ 15 o1 4) (fun r2 => ((r2 = 0 → ((¬ (σ 14 0 35) = (σ 15 o1 4) → w14_acknowledgement_J151 σ o1 Q) ∧ ((σ 14 0 35) = (σ 15 o1 4) → (w14_extent σ (fun r16 => ((¬ r16 = 0 → w14_acknowledgement_J151 σ o1 Q) ∧ (r16 = 0 → ((¬ (σ 14 0 37) = (σ 15 o1 7) → w14_acknowledgement_J151 σ o1 Q) ∧ ((σ 14 0 37) = (σ 15 o1 7) → (w14_before σ (σ 15 o1 4) (σ 15 o1 6) (fun r17 => ((r17 = 0 → w14_acknowledgement_J151 σ o1 Q) ∧ (¬ r17 = 0 → (w14_duplicate σ o1 (fun σ18 => (w14_acknowledgement_J151 σ18 o1 Q)))))))))))))))) ∧ (¬ r2 = 0 → (w14_fresh σ o1 (fun σ19 => (w14_acknowledgement_J151 σ19 o1 Q)))))))) ∧ (¬ r1 = 0 → (w14_acknowledge σ o1 (fun σ20 => (Q 0 σ20)))))))) ∧ ((σ 15 o1 0) = 1 → (((σ 14 0 35) = ((σ 15 o1 3) + 1) → (w14_fresh σ o1 (fun σ21 => (∀ σ22, σ22 = up3 σ21 15 o1 0 2 → (∀ σ23, σ23 = up3 σ22 15 o1 43 (σ22 14 0 10) → (∀ σ24, σ24 = up3 σ23 15 o1 44 (σ23 14 0 10) → (w14_takeWindow σ24 o1 (fun σ25 => (Q 1 σ25))))))))) ∧ (¬ (σ 14 0 35) = ((σ 15 o1 3) + 1) → (w14_reset σ (fun σ26 => (Q 0 σ26))))))
set_option maxHeartbeats 4000000 in
theorem m14_acknowledgement (l : Launch) (G : Gh) (a1 : Nat → Nat → Nat) (τ : St) (σ : St) (o1 : Nat) (ho1 : o1 < 16) (Q : Int32 → St → Prop) (hw : w14_acknowledgement σ o1 Q) : Met l yX14_acknowledgement (ws_ yX14_acknowledgement cX14_acknowledgement 3 (some .boolean)) rmX14_acknowledgement (PcS G a1 (cmb τ σ) [.ref (ga G 14 0), .ref (ga G 15 o1)]) (QIs G a1 (fun u => cmb τ u) Q) 0 0 (gA G) := by
  refine met_w (by decide) (Nat.le_of_ble_eq_true rfl) ?_
  intro p e s m below meth c ls C hH hS hl
  have C : Cx p e s m _ meth c cX14_acknowledgement 3 (some .boolean) "WebHostModel" G := C
  have hl : lv_has ls 3 [(0, .ref (ga G 14 0)), (1, .ref (ga G 15 o1))] := hl
  have hx := C.1
  have hb := C.2.1
  have hown := C.2.2.2.2.2.1
  have hts := C.2.2.2.2.2.2.1
  obtain ⟨locs, hlocs⟩ : ∃ z : List Loc, z = [] := ⟨_, rfl⟩
  obtain ⟨H, hHe⟩ : ∃ z : Heap, z = s.heap := ⟨_, rfl⟩
  have hH : Hd G a1 (cmb τ σ) H := by rw [hHe]; exact hH
  have hS : va_S (gA G) s.heap H locs := by rw [hHe, hlocs]; exact hS
  refine W.heap0 hHe.symm hlocs.symm ?_
  refine lv_aload_n hx hb dX14_acknowledgement_0 rfl (lv_at hl 1 rfl) ?_
  refine g15_0 C hH ho1 q1707 dX14_acknowledgement_1 ?_
  refine lv_iconst (v := 1) hx hb dX14_acknowledgement_4 (by decide) ?_
  refine lv_icmp_ne (tgt := 60) hx hb dX14_acknowledgement_5 (by decide) (fun h => ?_) (fun h => ?_)
  · have hw := hw.1 h
    refine lv_aload_n hx hb dX14_acknowledgement_60 rfl (lv_at hl 0 rfl) ?_
    refine g14_35 C hH q1975 dX14_acknowledgement_61 ?_
    refine lv_aload_n hx hb dX14_acknowledgement_64 rfl (lv_at hl 1 rfl) ?_
    refine g15_6 C hH ho1 q1713 dX14_acknowledgement_65 ?_
    refine kc_ip (rn_sp (As := [.int (σ 14 0 35), .int (σ 15 o1 6)]) (rest := []) C hH hS (m14_isBehind l G a1 τ σ H (σ 14 0 35) (σ 15 o1 6) _ hw) (va_cwS 2 hts (lw_S q2413 q2414 q171 q2415) rfl rfl rfl kX14_isBehind.2 ⟨Nat.le_of_ble_eq_true rfl, Nat.le_of_ble_eq_true rfl⟩) rfl hl.1 rfl (Nat.le_of_ble_eq_true rfl) dX14_acknowledgement_68 ⟨Nat.le_of_ble_eq_true rfl, Nat.le_of_ble_eq_true rfl⟩) hS (fun r1 locs hw hS => ?_)
    refine lv_if_eq (tgt := 81) hx hb dX14_acknowledgement_71 (by decide) (fun h => ?_) (fun h => ?_)
    · have hw := hw.1 h
      refine lv_aload_n hx hb dX14_acknowledgement_81 rfl (lv_at hl 0 rfl) ?_
      refine g14_35 C hH q1975 dX14_acknowledgement_82 ?_
      refine lv_aload_n hx hb dX14_acknowledgement_85 rfl (lv_at hl 1 rfl) ?_
      refine g15_4 C hH ho1 q1711 dX14_acknowledgement_86 ?_
      refine kc_ip (rn_sp (As := [.int (σ 14 0 35), .int (σ 15 o1 4)]) (rest := []) C hH hS (m14_isBehind l G a1 τ σ H (σ 14 0 35) (σ 15 o1 4) _ hw) (va_cwS 2 hts (lw_S q2413 q2414 q171 q2415) rfl rfl rfl kX14_isBehind.2 ⟨Nat.le_of_ble_eq_true rfl, Nat.le_of_ble_eq_true rfl⟩) rfl hl.1 rfl (Nat.le_of_ble_eq_true rfl) dX14_acknowledgement_89 ⟨Nat.le_of_ble_eq_true rfl, Nat.le_of_ble_eq_true rfl⟩) hS (fun r2 locs hw hS => ?_)
      refine lv_if_eq (tgt := 103) hx hb dX14_acknowledgement_92 (by decide) (fun h => ?_) (fun h => ?_)
      · have hw := hw.1 h
        refine lv_aload_n hx hb dX14_acknowledgement_103 rfl (lv_at hl 0 rfl) ?_
        refine g14_35 C hH q1975 dX14_acknowledgement_104 ?_
        refine lv_aload_n hx hb dX14_acknowledgement_107 rfl (lv_at hl 1 rfl) ?_
        refine g15_4 C hH ho1 q1711 dX14_acknowledgement_108 ?_
        refine lv_icmp_ne (tgt := 151) hx hb dX14_acknowledgement_111 (by decide) (fun h => ?_) (fun h => ?_)
        · have hw := hw.1 h
          exact k14_acknowledgement_J151 C σ o1 ho1 hw H locs ls hH hS (lv_sub hl [0, 1] rfl)
        have hw := hw.2 h
        refine lv_aload_n hx hb dX14_acknowledgement_114 rfl (lv_at hl 0 rfl) ?_
        refine kc_ip (rn_vp (As := []) (rest := []) C hH hS (by decide) rfl (by decide) (m14_extent l G a1 τ σ H _ hw) (cwV 0 hts (lw_V q2381 q2383 qs118 q171 q2384) rfl rfl rfl kX14_extent ⟨Nat.le_of_ble_eq_true rfl, Nat.le_of_ble_eq_true rfl⟩) rfl hl.1 rfl (Nat.le_of_ble_eq_true rfl) dX14_acknowledgement_115 ⟨Nat.le_of_ble_eq_true rfl, Nat.le_of_ble_eq_true rfl⟩) hS (fun r16 locs hw hS => ?_)
        refine lv_if_ne (tgt := 151) hx hb dX14_acknowledgement_118 (by decide) (fun h => ?_) (fun h => ?_)
        · have hw := hw.1 h
          exact k14_acknowledgement_J151 C σ o1 ho1 hw H locs ls hH hS (lv_sub hl [0, 1] rfl)
        have hw := hw.2 h
        refine lv_aload_n hx hb dX14_acknowledgement_121 rfl (lv_at hl 0 rfl) ?_
        refine g14_37 C hH q1977 dX14_acknowledgement_122 ?_
        refine lv_aload_n hx hb dX14_acknowledgement_125 rfl (lv_at hl 1 rfl) ?_
        refine g15_7 C hH ho1 q1714 dX14_acknowledgement_126 ?_
        refine lv_icmp_ne (tgt := 151) hx hb dX14_acknowledgement_129 (by decide) (fun h => ?_) (fun h => ?_)
        · have hw := hw.1 h
          exact k14_acknowledgement_J151 C σ o1 ho1 hw H locs ls hH hS (lv_sub hl [0, 1] rfl)
        have hw := hw.2 h
        refine lv_aload_n hx hb dX14_acknowledgement_132 rfl (lv_at hl 1 rfl) ?_
        refine g15_4 C hH ho1 q1711 dX14_acknowledgement_133 ?_
        refine lv_aload_n hx hb dX14_acknowledgement_136 rfl (lv_at hl 1 rfl) ?_
        refine g15_6 C hH ho1 q1713 dX14_acknowledgement_137 ?_
        refine kc_ip (rn_sp (As := [.int (σ 15 o1 4), .int (σ 15 o1 6)]) (rest := []) C hH hS (m14_before l G a1 τ σ H (σ 15 o1 4) (σ 15 o1 6) _ hw) (va_cwS 2 hts (lw_S q2294 q2295 q171 q2296) rfl rfl rfl kX14_before.2 ⟨Nat.le_of_ble_eq_true rfl, Nat.le_of_ble_eq_true rfl⟩) rfl hl.1 rfl (Nat.le_of_ble_eq_true rfl) dX14_acknowledgement_140 ⟨Nat.le_of_ble_eq_true rfl, Nat.le_of_ble_eq_true rfl⟩) hS (fun r17 locs hw hS => ?_)
        refine lv_if_eq (tgt := 151) hx hb dX14_acknowledgement_143 (by decide) (fun h => ?_) (fun h => ?_)
        · have hw := hw.1 h
          exact k14_acknowledgement_J151 C σ o1 ho1 hw H locs ls hH hS (lv_sub hl [0, 1] rfl)
        have hw := hw.2 h
        refine lv_aload_n hx hb dX14_acknowledgement_146 rfl (lv_at hl 0 rfl) ?_
        refine lv_aload_n hx hb dX14_acknowledgement_147 rfl (lv_at hl 1 rfl) ?_
        refine kc_v (rn_v (As := [.ref (ga G 15 o1)]) (rest := []) C hH hS (by decide) rfl (by decide) (m14_duplicate l G a1 τ σ o1 ho1 _ hw) (cwV 1 hts (lw_V q2428 q2430 qs126 q171 q2431) rfl rfl rfl kX14_duplicate ⟨Nat.le_of_ble_eq_true rfl, Nat.le_of_ble_eq_true rfl⟩) rfl hl.1 rfl (Nat.le_of_ble_eq_true rfl) dX14_acknowledgement_148 ⟨Nat.le_of_ble_eq_true rfl, Nat.le_of_ble_eq_true rfl⟩) hS (fun σ18 H locs hw hH hS => ?_)
        exact k14_acknowledgement_J151 C σ18 o1 ho1 hw H locs ls hH hS (lv_sub hl [0, 1] rfl)
      have hw := hw.2 h
      refine lv_aload_n hx hb dX14_acknowledgement_95 rfl (lv_at hl 0 rfl) ?_
      refine lv_aload_n hx hb dX14_acknowledgement_96 rfl (lv_at hl 1 rfl) ?_
      refine kc_v (rn_v (As := [.ref (ga G 15 o1)]) (rest := []) C hH hS (by decide) rfl (by decide) (m14_fresh l G a1 τ σ o1 ho1 _ hw) (cwV 1 hts (lw_V q2409 q2411 qs124 q171 q2412) rfl rfl rfl kX14_fresh ⟨Nat.le_of_ble_eq_true rfl, Nat.le_of_ble_eq_true rfl⟩) rfl hl.1 rfl (Nat.le_of_ble_eq_true rfl) dX14_acknowledgement_97 ⟨Nat.le_of_ble_eq_true rfl, Nat.le_of_ble_eq_true rfl⟩) hS (fun σ19 H locs hw hH hS => ?_)
      refine lv_goto (tgt := 151) hx hb dX14_acknowledgement_100 (by decide) ?_
      exact k14_acknowledgement_J151 C σ19 o1 ho1 hw H locs ls hH hS (lv_sub hl [0, 1] rfl)
    have hw := hw.2 h
    refine lv_aload_n hx hb dX14_acknowledgement_74 rfl (lv_at hl 0 rfl) ?_
    refine lv_aload_n hx hb dX14_acknowledgement_75 rfl (lv_at hl 1 rfl) ?_
    refine kc_v (rn_v (As := [.ref (ga G 15 o1)]) (rest := []) C hH hS (by decide) rfl (by decide) (m14_acknowledge l G a1 τ σ o1 ho1 _ hw) (cwV 1 hts (lw_V q2401 q2403 qs122 q171 q2404) rfl rfl rfl kX14_acknowledge ⟨Nat.le_of_ble_eq_true rfl, Nat.le_of_ble_eq_true rfl⟩) rfl hl.1 rfl (Nat.le_of_ble_eq_true rfl) dX14_acknowledgement_76 ⟨Nat.le_of_ble_eq_true rfl, Nat.le_of_ble_eq_true rfl⟩) hS (fun σ20 H locs hw hH hS => ?_)
    refine lv_iconst (v := 0) hx hb dX14_acknowledgement_79 (by decide) ?_
    exact rt_i C rfl hH hS hw dX14_acknowledgement_80
  have hw := hw.2 h
  refine lv_aload_n hx hb dX14_acknowledgement_8 rfl (lv_at hl 0 rfl) ?_
  refine g14_35 C hH q1975 dX14_acknowledgement_9 ?_
  refine lv_aload_n hx hb dX14_acknowledgement_12 rfl (lv_at hl 1 rfl) ?_
  refine g15_3 C hH ho1 q1710 dX14_acknowledgement_13 ?_
  refine lv_iconst (v := 1) hx hb dX14_acknowledgement_16 (by decide) ?_
  refine lv_iadd hx hb dX14_acknowledgement_17 ?_
  refine lv_icmp_eq (tgt := 27) hx hb dX14_acknowledgement_18 (by decide) (fun h => ?_) (fun h => ?_)
  · have hw := hw.1 h
    refine lv_aload_n hx hb dX14_acknowledgement_27 rfl (lv_at hl 0 rfl) ?_
    refine lv_aload_n hx hb dX14_acknowledgement_28 rfl (lv_at hl 1 rfl) ?_
    refine kc_v (rn_v (As := [.ref (ga G 15 o1)]) (rest := []) C hH hS (by decide) rfl (by decide) (m14_fresh l G a1 τ σ o1 ho1 _ hw) (cwV 1 hts (lw_V q2409 q2411 qs124 q171 q2412) rfl rfl rfl kX14_fresh ⟨Nat.le_of_ble_eq_true rfl, Nat.le_of_ble_eq_true rfl⟩) rfl hl.1 rfl (Nat.le_of_ble_eq_true rfl) dX14_acknowledgement_29 ⟨Nat.le_of_ble_eq_true rfl, Nat.le_of_ble_eq_true rfl⟩) hS (fun σ21 H locs hw hH hS => ?_)
    refine lv_aload_n hx hb dX14_acknowledgement_32 rfl (lv_at hl 1 rfl) ?_
    refine lv_iconst (v := 2) hx hb dX14_acknowledgement_33 (by decide) ?_
    refine p15_0 C hH hS ho1 q1707 dX14_acknowledgement_34 (fun σ22 e22 H locs hH hS => ?_)
    have hw := hw σ22 e22
    refine lv_aload_n hx hb dX14_acknowledgement_37 rfl (lv_at hl 1 rfl) ?_
    refine lv_aload_n hx hb dX14_acknowledgement_38 rfl (lv_at hl 0 rfl) ?_
    refine g14_10 C hH q1950 dX14_acknowledgement_39 ?_
    refine p15_43 C hH hS ho1 q1760 dX14_acknowledgement_42 (fun σ23 e23 H locs hH hS => ?_)
    have hw := hw σ23 e23
    refine lv_aload_n hx hb dX14_acknowledgement_45 rfl (lv_at hl 1 rfl) ?_
    refine lv_aload_n hx hb dX14_acknowledgement_46 rfl (lv_at hl 0 rfl) ?_
    refine g14_10 C hH q1950 dX14_acknowledgement_47 ?_
    refine p15_44 C hH hS ho1 q1761 dX14_acknowledgement_50 (fun σ24 e24 H locs hH hS => ?_)
    have hw := hw σ24 e24
    refine lv_aload_n hx hb dX14_acknowledgement_53 rfl (lv_at hl 0 rfl) ?_
    refine lv_aload_n hx hb dX14_acknowledgement_54 rfl (lv_at hl 1 rfl) ?_
    refine kc_v (rn_v (As := [.ref (ga G 15 o1)]) (rest := []) C hH hS (by decide) rfl (by decide) (m14_takeWindow l G a1 τ σ24 o1 ho1 _ hw) (cwV 1 hts (lw_V q2424 q2426 qs125 q171 q2427) rfl rfl rfl kX14_takeWindow ⟨Nat.le_of_ble_eq_true rfl, Nat.le_of_ble_eq_true rfl⟩) rfl hl.1 rfl (Nat.le_of_ble_eq_true rfl) dX14_acknowledgement_55 ⟨Nat.le_of_ble_eq_true rfl, Nat.le_of_ble_eq_true rfl⟩) hS (fun σ25 H locs hw hH hS => ?_)
    refine lv_iconst (v := 1) hx hb dX14_acknowledgement_58 (by decide) ?_
    exact rt_i C rfl hH hS hw dX14_acknowledgement_59
  have hw := hw.2 h
  refine lv_aload_n hx hb dX14_acknowledgement_21 rfl (lv_at hl 0 rfl) ?_
  refine kc_v (rn_v (As := []) (rest := []) C hH hS (by decide) rfl (by decide) (m14_reset l G a1 τ σ _ hw) (cwV 0 hts (lw_V q2377 q2379 qs117 q171 q2380) rfl rfl rfl kX14_reset ⟨Nat.le_of_ble_eq_true rfl, Nat.le_of_ble_eq_true rfl⟩) rfl hl.1 rfl (Nat.le_of_ble_eq_true rfl) dX14_acknowledgement_22 ⟨Nat.le_of_ble_eq_true rfl, Nat.le_of_ble_eq_true rfl⟩) hS (fun σ26 H locs hw hH hS => ?_)
  refine lv_iconst (v := 0) hx hb dX14_acknowledgement_25 (by decide) ?_
  exact rt_i C rfl hH hS hw dX14_acknowledgement_26
/-! WebHostModel.runOut(LWebHostModel$Connection;)V -/
abbrev cX14_runOut : ByteArray := prog_17_method_65_code
def yX14_runOut : MethodName := ⟨RX14, "runOut", "(LWebHostModel$Connection;)V"⟩
theorem dX14_runOut_0 : decode cX14_runOut 0 = .ok (.aload_n 1, 1) := by decide +kernel
theorem dX14_runOut_1 : decode cX14_runOut 1 = .ok (.iconst 0, 1) := by decide +kernel
theorem dX14_runOut_2 : decode cX14_runOut 2 = .ok (.putfield 376, 3) := by decide +kernel
theorem dX14_runOut_5 : decode cX14_runOut 5 = .ok (.aload_n 1, 1) := by decide +kernel
theorem dX14_runOut_6 : decode cX14_runOut 6 = .ok (.dup, 1) := by decide +kernel
theorem dX14_runOut_7 : decode cX14_runOut 7 = .ok (.getfield 466, 3) := by decide +kernel
theorem dX14_runOut_10 : decode cX14_runOut 10 = .ok (.iconst 1, 1) := by decide +kernel
theorem dX14_runOut_11 : decode cX14_runOut 11 = .ok (.iadd, 1) := by decide +kernel
theorem dX14_runOut_12 : decode cX14_runOut 12 = .ok (.putfield 466, 3) := by decide +kernel
theorem dX14_runOut_15 : decode cX14_runOut 15 = .ok (.aload_n 1, 1) := by decide +kernel
theorem dX14_runOut_16 : decode cX14_runOut 16 = .ok (.getfield 466, 3) := by decide +kernel
theorem dX14_runOut_19 : decode cX14_runOut 19 = .ok (.aload_n 1, 1) := by decide +kernel
theorem dX14_runOut_20 : decode cX14_runOut 20 = .ok (.getfield 152, 3) := by decide +kernel
theorem dX14_runOut_23 : decode cX14_runOut 23 = .ok (.iconst 1, 1) := by decide +kernel
theorem dX14_runOut_24 : decode cX14_runOut 24 = .ok (.if_icmp .ne 7, 3) := by decide +kernel
theorem dX14_runOut_27 : decode cX14_runOut 27 = .ok (.iconst 5, 1) := by decide +kernel
theorem dX14_runOut_28 : decode cX14_runOut 28 = .ok (.goto 5, 3) := by decide +kernel
theorem dX14_runOut_31 : decode cX14_runOut 31 = .ok (.bipush 8, 2) := by decide +kernel
theorem dX14_runOut_33 : decode cX14_runOut 33 = .ok (.if_icmp .le 49, 3) := by decide +kernel
theorem dX14_runOut_36 : decode cX14_runOut 36 = .ok (.aload_n 0, 1) := by decide +kernel
theorem dX14_runOut_37 : decode cX14_runOut 37 = .ok (.getfield 31, 3) := by decide +kernel
theorem dX14_runOut_40 : decode cX14_runOut 40 = .ok (.iconst 2, 1) := by decide +kernel
theorem dX14_runOut_41 : decode cX14_runOut 41 = .ok (.dup2, 1) := by decide +kernel
theorem dX14_runOut_42 : decode cX14_runOut 42 = .ok (.iaload, 1) := by decide +kernel
theorem dX14_runOut_43 : decode cX14_runOut 43 = .ok (.iconst 1, 1) := by decide +kernel
theorem dX14_runOut_44 : decode cX14_runOut 44 = .ok (.iadd, 1) := by decide +kernel
theorem dX14_runOut_45 : decode cX14_runOut 45 = .ok (.iastore, 1) := by decide +kernel
theorem dX14_runOut_46 : decode cX14_runOut 46 = .ok (.aload_n 0, 1) := by decide +kernel
theorem dX14_runOut_47 : decode cX14_runOut 47 = .ok (.aload_n 1, 1) := by decide +kernel
theorem dX14_runOut_48 : decode cX14_runOut 48 = .ok (.getfield 314, 3) := by decide +kernel
theorem dX14_runOut_51 : decode cX14_runOut 51 = .ok (.bipush 80, 2) := by decide +kernel
theorem dX14_runOut_53 : decode cX14_runOut 53 = .ok (.aload_n 1, 1) := by decide +kernel
theorem dX14_runOut_54 : decode cX14_runOut 54 = .ok (.getfield 315, 3) := by decide +kernel
theorem dX14_runOut_57 : decode cX14_runOut 57 = .ok (.aload_n 1, 1) := by decide +kernel
theorem dX14_runOut_58 : decode cX14_runOut 58 = .ok (.getfield 345, 3) := by decide +kernel
theorem dX14_runOut_61 : decode cX14_runOut 61 = .ok (.aload_n 1, 1) := by decide +kernel
theorem dX14_runOut_62 : decode cX14_runOut 62 = .ok (.getfield 348, 3) := by decide +kernel
theorem dX14_runOut_65 : decode cX14_runOut 65 = .ok (.bipush 20, 2) := by decide +kernel
theorem dX14_runOut_67 : decode cX14_runOut 67 = .ok (.aload_n 1, 1) := by decide +kernel
theorem dX14_runOut_68 : decode cX14_runOut 68 = .ok (.invokevirtual 339, 3) := by decide +kernel
theorem dX14_runOut_71 : decode cX14_runOut 71 = .ok (.iconst 0, 1) := by decide +kernel
theorem dX14_runOut_72 : decode cX14_runOut 72 = .ok (.iconst 0, 1) := by decide +kernel
theorem dX14_runOut_73 : decode cX14_runOut 73 = .ok (.invokevirtual 329, 3) := by decide +kernel
theorem dX14_runOut_76 : decode cX14_runOut 76 = .ok (.aload_n 0, 1) := by decide +kernel
theorem dX14_runOut_77 : decode cX14_runOut 77 = .ok (.aload_n 1, 1) := by decide +kernel
theorem dX14_runOut_78 : decode cX14_runOut 78 = .ok (.invokevirtual 502, 3) := by decide +kernel
theorem dX14_runOut_81 : decode cX14_runOut 81 = .ok (.return_, 1) := by decide +kernel
theorem dX14_runOut_82 : decode cX14_runOut 82 = .ok (.aload_n 1, 1) := by decide +kernel
theorem dX14_runOut_83 : decode cX14_runOut 83 = .ok (.getfield 152, 3) := by decide +kernel
theorem dX14_runOut_86 : decode cX14_runOut 86 = .ok (.iconst 1, 1) := by decide +kernel
theorem dX14_runOut_87 : decode cX14_runOut 87 = .ok (.if_icmp .eq 27, 3) := by decide +kernel
theorem dX14_runOut_90 : decode cX14_runOut 90 = .ok (.aload_n 1, 1) := by decide +kernel
theorem dX14_runOut_91 : decode cX14_runOut 91 = .ok (.aload_n 1, 1) := by decide +kernel
theorem dX14_runOut_92 : decode cX14_runOut 92 = .ok (.getfield 361, 3) := by decide +kernel
theorem dX14_runOut_95 : decode cX14_runOut 95 = .ok (.aload_n 1, 1) := by decide +kernel
theorem dX14_runOut_96 : decode cX14_runOut 96 = .ok (.getfield 428, 3) := by decide +kernel
theorem dX14_runOut_99 : decode cX14_runOut 99 = .ok (.isub, 1) := by decide +kernel
theorem dX14_runOut_100 : decode cX14_runOut 100 = .ok (.iconst 2, 1) := by decide +kernel
theorem dX14_runOut_101 : decode cX14_runOut 101 = .ok (.idiv, 1) := by decide +kernel
theorem dX14_runOut_102 : decode cX14_runOut 102 = .ok (.iconst 2, 1) := by decide +kernel
theorem dX14_runOut_103 : decode cX14_runOut 103 = .ok (.aload_n 1, 1) := by decide +kernel
theorem dX14_runOut_104 : decode cX14_runOut 104 = .ok (.getfield 405, 3) := by decide +kernel
theorem dX14_runOut_107 : decode cX14_runOut 107 = .ok (.imul, 1) := by decide +kernel
theorem dX14_runOut_108 : decode cX14_runOut 108 = .ok (.invokestatic 164, 3) := by decide +kernel
theorem dX14_runOut_111 : decode cX14_runOut 111 = .ok (.putfield 457, 3) := by decide +kernel
theorem dX14_runOut_114 : decode cX14_runOut 114 = .ok (.aload_n 1, 1) := by decide +kernel
theorem dX14_runOut_115 : decode cX14_runOut 115 = .ok (.aload_n 1, 1) := by decide +kernel
theorem dX14_runOut_116 : decode cX14_runOut 116 = .ok (.getfield 405, 3) := by decide +kernel
theorem dX14_runOut_119 : decode cX14_runOut 119 = .ok (.putfield 431, 3) := by decide +kernel
theorem dX14_runOut_122 : decode cX14_runOut 122 = .ok (.aload_n 1, 1) := by decide +kernel
theorem dX14_runOut_123 : decode cX14_runOut 123 = .ok (.iconst 0, 1) := by decide +kernel
theorem dX14_runOut_124 : decode cX14_runOut 124 = .ok (.putfield 463, 3) := by decide +kernel
theorem dX14_runOut_127 : decode cX14_runOut 127 = .ok (.aload_n 1, 1) := by decide +kernel
theorem dX14_runOut_128 : decode cX14_runOut 128 = .ok (.iconst 0, 1) := by decide +kernel
theorem dX14_runOut_129 : decode cX14_runOut 129 = .ok (.putfield 469, 3) := by decide +kernel
theorem dX14_runOut_132 : decode cX14_runOut 132 = .ok (.aload_n 1, 1) := by decide +kernel
theorem dX14_runOut_133 : decode cX14_runOut 133 = .ok (.ldc 181, 2) := by decide +kernel
theorem dX14_runOut_135 : decode cX14_runOut 135 = .ok (.iconst 2, 1) := by decide +kernel
theorem dX14_runOut_136 : decode cX14_runOut 136 = .ok (.aload_n 1, 1) := by decide +kernel
theorem dX14_runOut_137 : decode cX14_runOut 137 = .ok (.getfield 382, 3) := by decide +kernel
theorem dX14_runOut_140 : decode cX14_runOut 140 = .ok (.imul, 1) := by decide +kernel
theorem dX14_runOut_141 : decode cX14_runOut 141 = .ok (.invokestatic 411, 3) := by decide +kernel
theorem dX14_runOut_144 : decode cX14_runOut 144 = .ok (.putfield 382, 3) := by decide +kernel
theorem dX14_runOut_147 : decode cX14_runOut 147 = .ok (.aload_n 1, 1) := by decide +kernel
theorem dX14_runOut_148 : decode cX14_runOut 148 = .ok (.aload_n 1, 1) := by decide +kernel
theorem dX14_runOut_149 : decode cX14_runOut 149 = .ok (.getfield 428, 3) := by decide +kernel
theorem dX14_runOut_152 : decode cX14_runOut 152 = .ok (.putfield 345, 3) := by decide +kernel
theorem dX14_runOut_155 : decode cX14_runOut 155 = .ok (.aload_n 1, 1) := by decide +kernel
theorem dX14_runOut_156 : decode cX14_runOut 156 = .ok (.getfield 152, 3) := by decide +kernel
theorem dX14_runOut_159 : decode cX14_runOut 159 = .ok (.iconst 1, 1) := by decide +kernel
theorem dX14_runOut_160 : decode cX14_runOut 160 = .ok (.if_icmp .ne 11, 3) := by decide +kernel
theorem dX14_runOut_163 : decode cX14_runOut 163 = .ok (.aload_n 0, 1) := by decide +kernel
theorem dX14_runOut_164 : decode cX14_runOut 164 = .ok (.aload_n 1, 1) := by decide +kernel
theorem dX14_runOut_165 : decode cX14_runOut 165 = .ok (.invokevirtual 485, 3) := by decide +kernel
theorem dX14_runOut_168 : decode cX14_runOut 168 = .ok (.goto 30, 3) := by decide +kernel
theorem dX14_runOut_171 : decode cX14_runOut 171 = .ok (.aload_n 0, 1) := by decide +kernel
theorem dX14_runOut_172 : decode cX14_runOut 172 = .ok (.aload_n 1, 1) := by decide +kernel
theorem dX14_runOut_173 : decode cX14_runOut 173 = .ok (.aload_n 1, 1) := by decide +kernel
theorem dX14_runOut_174 : decode cX14_runOut 174 = .ok (.getfield 434, 3) := by decide +kernel
theorem dX14_runOut_177 : decode cX14_runOut 177 = .ok (.ifCond .ne 7, 3) := by decide +kernel
theorem dX14_runOut_180 : decode cX14_runOut 180 = .ok (.iconst 1, 1) := by decide +kernel
theorem dX14_runOut_181 : decode cX14_runOut 181 = .ok (.goto 14, 3) := by decide +kernel
theorem dX14_runOut_184 : decode cX14_runOut 184 = .ok (.aload_n 1, 1) := by decide +kernel
theorem dX14_runOut_185 : decode cX14_runOut 185 = .ok (.getfield 431, 3) := by decide +kernel
theorem dX14_runOut_188 : decode cX14_runOut 188 = .ok (.aload_n 1, 1) := by decide +kernel
theorem dX14_runOut_189 : decode cX14_runOut 189 = .ok (.getfield 434, 3) := by decide +kernel
theorem dX14_runOut_192 : decode cX14_runOut 192 = .ok (.invokestatic 411, 3) := by decide +kernel
theorem dX14_runOut_195 : decode cX14_runOut 195 = .ok (.invokevirtual 435, 3) := by decide +kernel
theorem dX14_runOut_198 : decode cX14_runOut 198 = .ok (.aload_n 0, 1) := by decide +kernel
theorem dX14_runOut_199 : decode cX14_runOut 199 = .ok (.aload_n 1, 1) := by decide +kernel
theorem dX14_runOut_200 : decode cX14_runOut 200 = .ok (.invokevirtual 379, 3) := by decide +kernel
theorem dX14_runOut_203 : decode cX14_runOut 203 = .ok (.return_, 1) := by decide +kernel
def rmX14_runOut : Room := { frames := 8, cells := 0, slots := 0, locals := 206 }
theorem kX14_runOut : yX14_runOut.cls = "WebHostModel" ∧ yX14_runOut.cls ≠ "java/lang/invoke/MethodHandle" ∧ yX14_runOut.cls ≠ "java/lang/invoke/VarHandle" ∧ (parseMethodDescriptor yX14_runOut.desc).map (fun d => d.parameters.length) = some 1 := by decide +kernel
def w14_runOut_J114 (σ : St) (o1 : Nat) (Q : St → Prop) : Prop := ∀ σ3, σ3 = up3 σ 15 o1 11 (σ 15 o1 10) → (∀ σ4, σ4 = up3 σ3 15 o1 18 0 → (∀ σ5, σ5 = up3 σ4 15 o1 24 0 → (∀ σ6, σ6 = up3 σ5 15 o1 13 (imin 60000 (2 * (σ5 15 o1 13))) → (∀ σ7, σ7 = up3 σ6 15 o1 5 (σ6 15 o1 4) → ((¬ (σ7 15 o1 0) = 1 → ((¬ (σ7 15 o1 7) = 0 → (w14_one σ7 o1 (imin (σ7 15 o1 11) (σ7 15 o1 7)) (fun σ8 => (w14_timerSet σ8 o1 (fun σ9 => (Q σ9)))))) ∧ ((σ7 15 o1 7) = 0 → (w14_one σ7 o1 1 (fun σ10 => (w14_timerSet σ10 o1 (fun σ11 => (Q σ11)))))))) ∧ ((σ7 15 o1 0) = 1 → (w14_synAck σ7 o1 (fun σ12 => (w14_timerSet σ12 o1 (fun σ13 => (Q σ13)))))))))))
set_option maxHeartbeats 4000000 in
theorem k14_runOut_J114 {p : Program} {l : Launch} {e : Env} {s : State} {m : MethodId} {args : Array Value} {below : List Frame} {meth : Method} {c : Code} {G : Gh} {a1 : Nat → Nat → Nat} {τ : St} {Q : St → Prop} (C : Cx p e s m args meth c cX14_runOut 2 none "WebHostModel" G) (σ : St) (o1 : Nat) (ho1 : o1 < 16) (hw : w14_runOut_J114 σ o1 Q) (H : Heap) (locs : List Loc) (ls : Array Slot) (hH : Hd G a1 (cmb τ σ) H) (hS : va_S (gA G) s.heap H locs) (hl : lv_has ls 2 [(0, .ref (ga G 14 0)), (1, .ref (ga G 15 o1))]) : W p l e rmX14_runOut s m args below meth c H locs 0 0 (MQ below (QVs G a1 (fun u => cmb τ u) Q) args s 0 0 (gA G)) (F0 m 114 ls []) := by
  have hx := C.1
  have hb := C.2.1
  have hown := C.2.2.2.2.2.1
  have hts := C.2.2.2.2.2.2.1
  refine lv_aload_n hx hb dX14_runOut_114 rfl (lv_at hl 1 rfl) ?_
  refine lv_aload_n hx hb dX14_runOut_115 rfl (lv_at hl 1 rfl) ?_
  refine g15_10 C hH ho1 q1717 dX14_runOut_116 ?_
  refine p15_11 C hH hS ho1 q1718 dX14_runOut_119 (fun σ3 e3 H locs hH hS => ?_)
  have hw := hw σ3 e3
  refine lv_aload_n hx hb dX14_runOut_122 rfl (lv_at hl 1 rfl) ?_
  refine lv_iconst (v := 0) hx hb dX14_runOut_123 (by decide) ?_
  refine p15_18 C hH hS ho1 (Or.inl rfl) q1725 dX14_runOut_124 (fun σ4 e4 H locs hH hS => ?_)
  have hw := hw σ4 e4
  refine lv_aload_n hx hb dX14_runOut_127 rfl (lv_at hl 1 rfl) ?_
  refine lv_iconst (v := 0) hx hb dX14_runOut_128 (by decide) ?_
  refine p15_24 C hH hS ho1 q1731 dX14_runOut_129 (fun σ5 e5 H locs hH hS => ?_)
  have hw := hw σ5 e5
  refine lv_aload_n hx hb dX14_runOut_132 rfl (lv_at hl 1 rfl) ?_
  refine lv_ldc (v := 60000) hx hb hown (hts _ q2272) dX14_runOut_133 ?_
  refine lv_iconst (v := 2) hx hb dX14_runOut_135 (by decide) ?_
  refine lv_aload_n hx hb dX14_runOut_136 rfl (lv_at hl 1 rfl) ?_
  refine g15_13 C hH ho1 q1720 dX14_runOut_137 ?_
  refine lv_imul hx hb dX14_runOut_140 ?_
  refine r_imin C hl.1 q2281 (Nat.le_of_ble_eq_true rfl) (Nat.le_of_ble_eq_true rfl) (Nat.zero_le _) (Nat.zero_le _) dX14_runOut_141 ?_
  refine p15_13 C hH hS ho1 q1720 dX14_runOut_144 (fun σ6 e6 H locs hH hS => ?_)
  have hw := hw σ6 e6
  refine lv_aload_n hx hb dX14_runOut_147 rfl (lv_at hl 1 rfl) ?_
  refine lv_aload_n hx hb dX14_runOut_148 rfl (lv_at hl 1 rfl) ?_
  refine g15_4 C hH ho1 q1711 dX14_runOut_149 ?_
  refine p15_5 C hH hS ho1 q1712 dX14_runOut_152 (fun σ7 e7 H locs hH hS => ?_)
  have hw := hw σ7 e7
  refine lv_aload_n hx hb dX14_runOut_155 rfl (lv_at hl 1 rfl) ?_
  refine g15_0 C hH ho1 q1707 dX14_runOut_156 ?_
  refine lv_iconst (v := 1) hx hb dX14_runOut_159 (by decide) ?_
  refine lv_icmp_ne (tgt := 171) hx hb dX14_runOut_160 (by decide) (fun h => ?_) (fun h => ?_)
  · have hw := hw.1 h
    refine lv_aload_n hx hb dX14_runOut_171 rfl (lv_at hl 0 rfl) ?_
    refine lv_aload_n hx hb dX14_runOut_172 rfl (lv_at hl 1 rfl) ?_
    refine lv_aload_n hx hb dX14_runOut_173 rfl (lv_at hl 1 rfl) ?_
    refine g15_7 C hH ho1 q1714 dX14_runOut_174 ?_
    refine lv_if_ne (tgt := 184) hx hb dX14_runOut_177 (by decide) (fun h => ?_) (fun h => ?_)
    · have hw := hw.1 h
      refine lv_aload_n hx hb dX14_runOut_184 rfl (lv_at hl 1 rfl) ?_
      refine g15_11 C hH ho1 q1718 dX14_runOut_185 ?_
      refine lv_aload_n hx hb dX14_runOut_188 rfl (lv_at hl 1 rfl) ?_
      refine g15_7 C hH ho1 q1714 dX14_runOut_189 ?_
      refine r_imin C hl.1 q2281 (Nat.le_of_ble_eq_true rfl) (Nat.le_of_ble_eq_true rfl) (Nat.zero_le _) (Nat.zero_le _) dX14_runOut_192 ?_
      refine kc_v (rn_v (As := [.ref (ga G 15 o1), .int (imin (σ7 15 o1 11) (σ7 15 o1 7))]) (rest := []) C hH hS (by decide) rfl (by decide) (m14_one l G a1 τ σ7 o1 (imin (σ7 15 o1 11) (σ7 15 o1 7)) ho1 _ hw) (cwV 2 hts (lw_V q2301 q2303 qs99 q171 q2304) rfl rfl rfl kX14_one ⟨Nat.le_of_ble_eq_true rfl, Nat.le_of_ble_eq_true rfl⟩) rfl hl.1 rfl (Nat.le_of_ble_eq_true rfl) dX14_runOut_195 ⟨Nat.le_of_ble_eq_true rfl, Nat.le_of_ble_eq_true rfl⟩) hS (fun σ8 H locs hw hH hS => ?_)
      refine lv_aload_n hx hb dX14_runOut_198 rfl (lv_at hl 0 rfl) ?_
      refine lv_aload_n hx hb dX14_runOut_199 rfl (lv_at hl 1 rfl) ?_
      refine kc_v (rn_v (As := [.ref (ga G 15 o1)]) (rest := []) C hH hS (by decide) rfl (by decide) (m14_timerSet l G a1 τ σ8 o1 ho1 _ hw) (cwV 1 hts (lw_V q2297 q2299 qs98 q171 q2300) rfl rfl rfl kX14_timerSet ⟨Nat.le_of_ble_eq_true rfl, Nat.le_of_ble_eq_true rfl⟩) rfl hl.1 rfl (Nat.le_of_ble_eq_true rfl) dX14_runOut_200 ⟨Nat.le_of_ble_eq_true rfl, Nat.le_of_ble_eq_true rfl⟩) hS (fun σ9 H locs hw hH hS => ?_)
      exact rt_v C hH hS hw dX14_runOut_203
    have hw := hw.2 h
    refine lv_iconst (v := 1) hx hb dX14_runOut_180 (by decide) ?_
    refine lv_goto (tgt := 195) hx hb dX14_runOut_181 (by decide) ?_
    refine kc_v (rn_v (As := [.ref (ga G 15 o1), .int 1]) (rest := []) C hH hS (by decide) rfl (by decide) (m14_one l G a1 τ σ7 o1 1 ho1 _ hw) (cwV 2 hts (lw_V q2301 q2303 qs99 q171 q2304) rfl rfl rfl kX14_one ⟨Nat.le_of_ble_eq_true rfl, Nat.le_of_ble_eq_true rfl⟩) rfl hl.1 rfl (Nat.le_of_ble_eq_true rfl) dX14_runOut_195 ⟨Nat.le_of_ble_eq_true rfl, Nat.le_of_ble_eq_true rfl⟩) hS (fun σ10 H locs hw hH hS => ?_)
    refine lv_aload_n hx hb dX14_runOut_198 rfl (lv_at hl 0 rfl) ?_
    refine lv_aload_n hx hb dX14_runOut_199 rfl (lv_at hl 1 rfl) ?_
    refine kc_v (rn_v (As := [.ref (ga G 15 o1)]) (rest := []) C hH hS (by decide) rfl (by decide) (m14_timerSet l G a1 τ σ10 o1 ho1 _ hw) (cwV 1 hts (lw_V q2297 q2299 qs98 q171 q2300) rfl rfl rfl kX14_timerSet ⟨Nat.le_of_ble_eq_true rfl, Nat.le_of_ble_eq_true rfl⟩) rfl hl.1 rfl (Nat.le_of_ble_eq_true rfl) dX14_runOut_200 ⟨Nat.le_of_ble_eq_true rfl, Nat.le_of_ble_eq_true rfl⟩) hS (fun σ11 H locs hw hH hS => ?_)
    exact rt_v C hH hS hw dX14_runOut_203
  have hw := hw.2 h
  refine lv_aload_n hx hb dX14_runOut_163 rfl (lv_at hl 0 rfl) ?_
  refine lv_aload_n hx hb dX14_runOut_164 rfl (lv_at hl 1 rfl) ?_
  refine kc_v (rn_v (As := [.ref (ga G 15 o1)]) (rest := []) C hH hS (by decide) rfl (by decide) (m14_synAck l G a1 τ σ7 o1 ho1 _ hw) (cwV 1 hts (lw_V q2282 q2284 qs95 q171 q2285) rfl rfl rfl kX14_synAck ⟨Nat.le_of_ble_eq_true rfl, Nat.le_of_ble_eq_true rfl⟩) rfl hl.1 rfl (Nat.le_of_ble_eq_true rfl) dX14_runOut_165 ⟨Nat.le_of_ble_eq_true rfl, Nat.le_of_ble_eq_true rfl⟩) hS (fun σ12 H locs hw hH hS => ?_)
  refine lv_goto (tgt := 198) hx hb dX14_runOut_168 (by decide) ?_
  refine lv_aload_n hx hb dX14_runOut_198 rfl (lv_at hl 0 rfl) ?_
  refine lv_aload_n hx hb dX14_runOut_199 rfl (lv_at hl 1 rfl) ?_
  refine kc_v (rn_v (As := [.ref (ga G 15 o1)]) (rest := []) C hH hS (by decide) rfl (by decide) (m14_timerSet l G a1 τ σ12 o1 ho1 _ hw) (cwV 1 hts (lw_V q2297 q2299 qs98 q171 q2300) rfl rfl rfl kX14_timerSet ⟨Nat.le_of_ble_eq_true rfl, Nat.le_of_ble_eq_true rfl⟩) rfl hl.1 rfl (Nat.le_of_ble_eq_true rfl) dX14_runOut_200 ⟨Nat.le_of_ble_eq_true rfl, Nat.le_of_ble_eq_true rfl⟩) hS (fun σ13 H locs hw hH hS => ?_)
  exact rt_v C hH hS hw dX14_runOut_203
def w14_runOut_J33 (σ : St) (o1 : Nat) (xs0 : Int32) (xs1 : Int32) (Q : St → Prop) : Prop := (xs1 ≤ xs0 → (((σ 15 o1 0) = 1 → w14_runOut_J114 σ o1 Q) ∧ (¬ (σ 15 o1 0) = 1 → (∀ σ14, σ14 = up3 σ 15 o1 12 (imax (((σ 15 o1 6) - (σ 15 o1 4)) / 2) (2 * (σ 15 o1 10))) → (w14_runOut_J114 σ14 o1 Q))))) ∧ (¬ xs1 ≤ xs0 → (vp_in 2 8 ∧ (vp_in 2 8 ∧ (∀ σ15, σ15 = up3 σ 56 0 (2 : Int32).toNatClampNeg ((σ 56 0 (2 : Int32).toNatClampNeg) + 1) → (w15_open σ15 o1 (fun r16 => (w14_segmentOut σ15 (σ15 15 o1 1) 80 (σ15 15 o1 2) (σ15 15 o1 5) (σ15 15 o1 36) 20 r16 0 0 (fun σ17 => (w14_gone σ17 o1 (fun σ18 => (Q σ18)))))))))))
set_option maxHeartbeats 4000000 in
theorem k14_runOut_J33 {p : Program} {l : Launch} {e : Env} {s : State} {m : MethodId} {args : Array Value} {below : List Frame} {meth : Method} {c : Code} {G : Gh} {a1 : Nat → Nat → Nat} {τ : St} {Q : St → Prop} (C : Cx p e s m args meth c cX14_runOut 2 none "WebHostModel" G) (σ : St) (o1 : Nat) (xs0 : Int32) (xs1 : Int32) (ho1 : o1 < 16) (hw : w14_runOut_J33 σ o1 xs0 xs1 Q) (H : Heap) (locs : List Loc) (ls : Array Slot) (hH : Hd G a1 (cmb τ σ) H) (hS : va_S (gA G) s.heap H locs) (hl : lv_has ls 2 [(0, .ref (ga G 14 0)), (1, .ref (ga G 15 o1))]) : W p l e rmX14_runOut s m args below meth c H locs 0 0 (MQ below (QVs G a1 (fun u => cmb τ u) Q) args s 0 0 (gA G)) (F0 m 33 ls [.int xs0, .int xs1]) := by
  have hx := C.1
  have hb := C.2.1
  have hown := C.2.2.2.2.2.1
  have hts := C.2.2.2.2.2.2.1
  refine lv_icmp_le (tgt := 82) hx hb dX14_runOut_33 (by decide) (fun h => ?_) (fun h => ?_)
  · have hw := hw.1 h
    refine lv_aload_n hx hb dX14_runOut_82 rfl (lv_at hl 1 rfl) ?_
    refine g15_0 C hH ho1 q1707 dX14_runOut_83 ?_
    refine lv_iconst (v := 1) hx hb dX14_runOut_86 (by decide) ?_
    refine lv_icmp_eq (tgt := 114) hx hb dX14_runOut_87 (by decide) (fun h => ?_) (fun h => ?_)
    · have hw := hw.1 h
      exact k14_runOut_J114 C σ o1 ho1 hw H locs ls hH hS (lv_sub hl [0, 1] rfl)
    have hw := hw.2 h
    refine lv_aload_n hx hb dX14_runOut_90 rfl (lv_at hl 1 rfl) ?_
    refine lv_aload_n hx hb dX14_runOut_91 rfl (lv_at hl 1 rfl) ?_
    refine g15_6 C hH ho1 q1713 dX14_runOut_92 ?_
    refine lv_aload_n hx hb dX14_runOut_95 rfl (lv_at hl 1 rfl) ?_
    refine g15_4 C hH ho1 q1711 dX14_runOut_96 ?_
    refine lv_isub hx hb dX14_runOut_99 ?_
    refine lv_iconst (v := 2) hx hb dX14_runOut_100 (by decide) ?_
    refine lv_idiv hx hb dX14_runOut_101 (by decide) ?_
    refine lv_iconst (v := 2) hx hb dX14_runOut_102 (by decide) ?_
    refine lv_aload_n hx hb dX14_runOut_103 rfl (lv_at hl 1 rfl) ?_
    refine g15_10 C hH ho1 q1717 dX14_runOut_104 ?_
    refine lv_imul hx hb dX14_runOut_107 ?_
    refine r_imax C hl.1 q2226 (Nat.le_of_ble_eq_true rfl) (Nat.le_of_ble_eq_true rfl) (Nat.zero_le _) (Nat.zero_le _) dX14_runOut_108 ?_
    refine p15_12 C hH hS ho1 q1719 dX14_runOut_111 (fun σ14 e14 H locs hH hS => ?_)
    have hw := hw σ14 e14
    exact k14_runOut_J114 C σ14 o1 ho1 hw H locs ls hH hS (lv_sub hl [0, 1] rfl)
  have hw := hw.2 h
  refine lv_aload_n hx hb dX14_runOut_36 rfl (lv_at hl 0 rfl) ?_
  refine g14_17 C hH q1957 dX14_runOut_37 ?_
  refine lv_iconst (v := 2) hx hb dX14_runOut_40 (by decide) ?_
  refine lv_dup2_11 hx hb dX14_runOut_41 rfl rfl ?_
  refine l56 C hH hw.1 dX14_runOut_42 ?_
  have hw := hw.2
  refine lv_iconst (v := 1) hx hb dX14_runOut_43 (by decide) ?_
  refine lv_iadd hx hb dX14_runOut_44 ?_
  refine s56 C hH hS hw.1 dX14_runOut_45 (fun σ15 e15 H locs hH hS => ?_)
  have hw := hw.2 σ15 e15
  refine lv_aload_n hx hb dX14_runOut_46 rfl (lv_at hl 0 rfl) ?_
  refine lv_aload_n hx hb dX14_runOut_47 rfl (lv_at hl 1 rfl) ?_
  refine g15_1 C hH ho1 q1708 dX14_runOut_48 ?_
  refine lv_bipush (v := 80) hx hb dX14_runOut_51 (by decide) ?_
  refine lv_aload_n hx hb dX14_runOut_53 rfl (lv_at hl 1 rfl) ?_
  refine g15_2 C hH ho1 q1709 dX14_runOut_54 ?_
  refine lv_aload_n hx hb dX14_runOut_57 rfl (lv_at hl 1 rfl) ?_
  refine g15_5 C hH ho1 q1712 dX14_runOut_58 ?_
  refine lv_aload_n hx hb dX14_runOut_61 rfl (lv_at hl 1 rfl) ?_
  refine g15_36 C hH ho1 q1752 dX14_runOut_62 ?_
  refine lv_bipush (v := 20) hx hb dX14_runOut_65 (by decide) ?_
  refine lv_aload_n hx hb dX14_runOut_67 rfl (lv_at hl 1 rfl) ?_
  refine kc_ip (rn_vp (As := []) (rest := [.int 20, .int (σ15 15 o1 36), .int (σ15 15 o1 5), .int (σ15 15 o1 2), .int 80, .int (σ15 15 o1 1), .ref (ga G 14 0)]) C hH hS (by decide) rfl ho1 (m15_open l G a1 τ σ15 H o1 ho1 _ hw) (cwV 0 hts (lw_V q2231 q2232 q2233 q172 q2234) rfl rfl rfl kX15_open ⟨Nat.le_of_ble_eq_true rfl, Nat.le_of_ble_eq_true rfl⟩) rfl hl.1 rfl (Nat.le_of_ble_eq_true rfl) dX14_runOut_68 ⟨Nat.le_of_ble_eq_true rfl, Nat.le_of_ble_eq_true rfl⟩) hS (fun r16 locs hw hS => ?_)
  refine lv_iconst (v := 0) hx hb dX14_runOut_71 (by decide) ?_
  refine lv_iconst (v := 0) hx hb dX14_runOut_72 (by decide) ?_
  refine kc_v (rn_v (As := [.int (σ15 15 o1 1), .int 80, .int (σ15 15 o1 2), .int (σ15 15 o1 5), .int (σ15 15 o1 36), .int 20, .int r16, .int 0, .int 0]) (rest := []) C hH hS (by decide) rfl (by decide) (m14_segmentOut l G a1 τ σ15 (σ15 15 o1 1) 80 (σ15 15 o1 2) (σ15 15 o1 5) (σ15 15 o1 36) 20 r16 0 0 _ hw) (cwV 9 hts (lw_V q2239 q2241 qs87 q171 q2242) rfl rfl rfl kX14_segmentOut ⟨Nat.le_of_ble_eq_true rfl, Nat.le_of_ble_eq_true rfl⟩) rfl hl.1 rfl (Nat.le_of_ble_eq_true rfl) dX14_runOut_73 ⟨Nat.le_of_ble_eq_true rfl, Nat.le_of_ble_eq_true rfl⟩) hS (fun σ17 H locs hw hH hS => ?_)
  refine lv_aload_n hx hb dX14_runOut_76 rfl (lv_at hl 0 rfl) ?_
  refine lv_aload_n hx hb dX14_runOut_77 rfl (lv_at hl 1 rfl) ?_
  refine kc_v (rn_v (As := [.ref (ga G 15 o1)]) (rest := []) C hH hS (by decide) rfl (by decide) (m14_gone l G a1 τ σ17 o1 ho1 _ hw) (cwV 1 hts (lw_V q2277 q2279 qs94 q171 q2280) rfl rfl rfl kX14_gone ⟨Nat.le_of_ble_eq_true rfl, Nat.le_of_ble_eq_true rfl⟩) rfl hl.1 rfl (Nat.le_of_ble_eq_true rfl) dX14_runOut_78 ⟨Nat.le_of_ble_eq_true rfl, Nat.le_of_ble_eq_true rfl⟩) hS (fun σ18 H locs hw hH hS => ?_)
  exact rt_v C hH hS hw dX14_runOut_81
def w14_runOut (σ : St) (o1 : Nat) (Q : St → Prop) : Prop := ∀ σ1, σ1 = up3 σ 15 o1 21 0 → (∀ σ2, σ2 = up3 σ1 15 o1 23 ((σ1 15 o1 23) + 1) → ((¬ (σ2 15 o1 0) = 1 → (w14_runOut_J33 σ2 o1 8 (σ2 15 o1 23) Q)) ∧ ((σ2 15 o1 0) = 1 → (w14_runOut_J33 σ2 o1 5 (σ2 15 o1 23) Q))))
set_option maxHeartbeats 4000000 in
theorem m14_runOut (l : Launch) (G : Gh) (a1 : Nat → Nat → Nat) (τ : St) (σ : St) (o1 : Nat) (ho1 : o1 < 16) (Q : St → Prop) (hw : w14_runOut σ o1 Q) : Met l yX14_runOut (ws_ yX14_runOut cX14_runOut 2 none) rmX14_runOut (PcS G a1 (cmb τ σ) [.ref (ga G 14 0), .ref (ga G 15 o1)]) (QVs G a1 (fun u => cmb τ u) Q) 0 0 (gA G) := by
  refine met_w (by decide) (Nat.le_of_ble_eq_true rfl) ?_
  intro p e s m below meth c ls C hH hS hl
  have C : Cx p e s m _ meth c cX14_runOut 2 none "WebHostModel" G := C
  have hl : lv_has ls 2 [(0, .ref (ga G 14 0)), (1, .ref (ga G 15 o1))] := hl
  have hx := C.1
  have hb := C.2.1
  have hown := C.2.2.2.2.2.1
  have hts := C.2.2.2.2.2.2.1
  obtain ⟨locs, hlocs⟩ : ∃ z : List Loc, z = [] := ⟨_, rfl⟩
  obtain ⟨H, hHe⟩ : ∃ z : Heap, z = s.heap := ⟨_, rfl⟩
  have hH : Hd G a1 (cmb τ σ) H := by rw [hHe]; exact hH
  have hS : va_S (gA G) s.heap H locs := by rw [hHe, hlocs]; exact hS
  refine W.heap0 hHe.symm hlocs.symm ?_
  refine lv_aload_n hx hb dX14_runOut_0 rfl (lv_at hl 1 rfl) ?_
  refine lv_iconst (v := 0) hx hb dX14_runOut_1 (by decide) ?_
  refine p15_21 C hH hS ho1 (Or.inl rfl) q1728 dX14_runOut_2 (fun σ1 e1 H locs hH hS => ?_)
  have hw := hw σ1 e1
  refine lv_aload_n hx hb dX14_runOut_5 rfl (lv_at hl 1 rfl) ?_
  refine lv_dup hx hb dX14_runOut_6 rfl ?_
  refine g15_23 C hH ho1 q1730 dX14_runOut_7 ?_
  refine lv_iconst (v := 1) hx hb dX14_runOut_10 (by decide) ?_
  refine lv_iadd hx hb dX14_runOut_11 ?_
  refine p15_23 C hH hS ho1 q1730 dX14_runOut_12 (fun σ2 e2 H locs hH hS => ?_)
  have hw := hw σ2 e2
  refine lv_aload_n hx hb dX14_runOut_15 rfl (lv_at hl 1 rfl) ?_
  refine g15_23 C hH ho1 q1730 dX14_runOut_16 ?_
  refine lv_aload_n hx hb dX14_runOut_19 rfl (lv_at hl 1 rfl) ?_
  refine g15_0 C hH ho1 q1707 dX14_runOut_20 ?_
  refine lv_iconst (v := 1) hx hb dX14_runOut_23 (by decide) ?_
  refine lv_icmp_ne (tgt := 31) hx hb dX14_runOut_24 (by decide) (fun h => ?_) (fun h => ?_)
  · have hw := hw.1 h
    refine lv_bipush (v := 8) hx hb dX14_runOut_31 (by decide) ?_
    exact k14_runOut_J33 C σ2 o1 8 (σ2 15 o1 23) ho1 hw H locs ls hH hS (lv_sub hl [0, 1] rfl)
  have hw := hw.2 h
  refine lv_iconst (v := 5) hx hb dX14_runOut_27 (by decide) ?_
  refine lv_goto (tgt := 33) hx hb dX14_runOut_28 (by decide) ?_
  exact k14_runOut_J33 C σ2 o1 5 (σ2 15 o1 23) ho1 hw H locs ls hH hS (lv_sub hl [0, 1] rfl)
/-! WebHostModel.sendAll(LWebHostModel$Connection;)V -/
abbrev cX14_sendAll : ByteArray := prog_17_method_51_code
def yX14_sendAll : MethodName := ⟨RX14, "sendAll", "(LWebHostModel$Connection;)V"⟩
theorem dX14_sendAll_0 : decode cX14_sendAll 0 = .ok (.aload_n 1, 1) := by decide +kernel
theorem dX14_sendAll_1 : decode cX14_sendAll 1 = .ok (.aload_n 1, 1) := by decide +kernel
theorem dX14_sendAll_2 : decode cX14_sendAll 2 = .ok (.getfield 345, 3) := by decide +kernel
theorem dX14_sendAll_5 : decode cX14_sendAll 5 = .ok (.invokevirtual 425, 3) := by decide +kernel
theorem dX14_sendAll_8 : decode cX14_sendAll 8 = .ok (.ifCond .le 7, 3) := by decide +kernel
theorem dX14_sendAll_11 : decode cX14_sendAll 11 = .ok (.iconst 1, 1) := by decide +kernel
theorem dX14_sendAll_12 : decode cX14_sendAll 12 = .ok (.goto 4, 3) := by decide +kernel
theorem dX14_sendAll_15 : decode cX14_sendAll 15 = .ok (.iconst 0, 1) := by decide +kernel
theorem dX14_sendAll_16 : decode cX14_sendAll 16 = .ok (.istore_n 2, 1) := by decide +kernel
theorem dX14_sendAll_17 : decode cX14_sendAll 17 = .ok (.iload_n 2, 1) := by decide +kernel
theorem dX14_sendAll_18 : decode cX14_sendAll 18 = .ok (.ifCond .eq 158, 3) := by decide +kernel
theorem dX14_sendAll_21 : decode cX14_sendAll 21 = .ok (.aload_n 1, 1) := by decide +kernel
theorem dX14_sendAll_22 : decode cX14_sendAll 22 = .ok (.getfield 345, 3) := by decide +kernel
theorem dX14_sendAll_25 : decode cX14_sendAll 25 = .ok (.aload_n 1, 1) := by decide +kernel
theorem dX14_sendAll_26 : decode cX14_sendAll 26 = .ok (.getfield 428, 3) := by decide +kernel
theorem dX14_sendAll_29 : decode cX14_sendAll 29 = .ok (.isub, 1) := by decide +kernel
theorem dX14_sendAll_30 : decode cX14_sendAll 30 = .ok (.istore_n 3, 1) := by decide +kernel
theorem dX14_sendAll_31 : decode cX14_sendAll 31 = .ok (.aload_n 1, 1) := by decide +kernel
theorem dX14_sendAll_32 : decode cX14_sendAll 32 = .ok (.getfield 431, 3) := by decide +kernel
theorem dX14_sendAll_35 : decode cX14_sendAll 35 = .ok (.aload_n 1, 1) := by decide +kernel
theorem dX14_sendAll_36 : decode cX14_sendAll 36 = .ok (.getfield 434, 3) := by decide +kernel
theorem dX14_sendAll_39 : decode cX14_sendAll 39 = .ok (.invokestatic 411, 3) := by decide +kernel
theorem dX14_sendAll_42 : decode cX14_sendAll 42 = .ok (.iload_n 3, 1) := by decide +kernel
theorem dX14_sendAll_43 : decode cX14_sendAll 43 = .ok (.isub, 1) := by decide +kernel
theorem dX14_sendAll_44 : decode cX14_sendAll 44 = .ok (.istore 4, 2) := by decide +kernel
theorem dX14_sendAll_46 : decode cX14_sendAll 46 = .ok (.aload_n 1, 1) := by decide +kernel
theorem dX14_sendAll_47 : decode cX14_sendAll 47 = .ok (.iload 4, 2) := by decide +kernel
theorem dX14_sendAll_49 : decode cX14_sendAll 49 = .ok (.invokestatic 414, 3) := by decide +kernel
theorem dX14_sendAll_52 : decode cX14_sendAll 52 = .ok (.istore 5, 2) := by decide +kernel
theorem dX14_sendAll_54 : decode cX14_sendAll 54 = .ok (.aload_n 1, 1) := by decide +kernel
theorem dX14_sendAll_55 : decode cX14_sendAll 55 = .ok (.getfield 418, 3) := by decide +kernel
theorem dX14_sendAll_58 : decode cX14_sendAll 58 = .ok (.ifCond .eq 28, 3) := by decide +kernel
theorem dX14_sendAll_61 : decode cX14_sendAll 61 = .ok (.aload_n 1, 1) := by decide +kernel
theorem dX14_sendAll_62 : decode cX14_sendAll 62 = .ok (.getfield 345, 3) := by decide +kernel
theorem dX14_sendAll_65 : decode cX14_sendAll 65 = .ok (.iload 5, 2) := by decide +kernel
theorem dX14_sendAll_67 : decode cX14_sendAll 67 = .ok (.iadd, 1) := by decide +kernel
theorem dX14_sendAll_68 : decode cX14_sendAll 68 = .ok (.aload_n 1, 1) := by decide +kernel
theorem dX14_sendAll_69 : decode cX14_sendAll 69 = .ok (.invokevirtual 402, 3) := by decide +kernel
theorem dX14_sendAll_72 : decode cX14_sendAll 72 = .ok (.if_icmp .ne 14, 3) := by decide +kernel
theorem dX14_sendAll_75 : decode cX14_sendAll 75 = .ok (.iload 5, 2) := by decide +kernel
theorem dX14_sendAll_77 : decode cX14_sendAll 77 = .ok (.iload 4, 2) := by decide +kernel
theorem dX14_sendAll_79 : decode cX14_sendAll 79 = .ok (.if_icmp .ge 7, 3) := by decide +kernel
theorem dX14_sendAll_82 : decode cX14_sendAll 82 = .ok (.iconst 1, 1) := by decide +kernel
theorem dX14_sendAll_83 : decode cX14_sendAll 83 = .ok (.goto 4, 3) := by decide +kernel
theorem dX14_sendAll_86 : decode cX14_sendAll 86 = .ok (.iconst 0, 1) := by decide +kernel
theorem dX14_sendAll_87 : decode cX14_sendAll 87 = .ok (.istore 6, 2) := by decide +kernel
theorem dX14_sendAll_89 : decode cX14_sendAll 89 = .ok (.iload 5, 2) := by decide +kernel
theorem dX14_sendAll_91 : decode cX14_sendAll 91 = .ok (.iload 6, 2) := by decide +kernel
theorem dX14_sendAll_93 : decode cX14_sendAll 93 = .ok (.ifCond .eq 7, 3) := by decide +kernel
theorem dX14_sendAll_96 : decode cX14_sendAll 96 = .ok (.iconst 1, 1) := by decide +kernel
theorem dX14_sendAll_97 : decode cX14_sendAll 97 = .ok (.goto 4, 3) := by decide +kernel
theorem dX14_sendAll_100 : decode cX14_sendAll 100 = .ok (.iconst 0, 1) := by decide +kernel
theorem dX14_sendAll_101 : decode cX14_sendAll 101 = .ok (.iadd, 1) := by decide +kernel
theorem dX14_sendAll_102 : decode cX14_sendAll 102 = .ok (.istore 7, 2) := by decide +kernel
theorem dX14_sendAll_104 : decode cX14_sendAll 104 = .ok (.iload 7, 2) := by decide +kernel
theorem dX14_sendAll_106 : decode cX14_sendAll 106 = .ok (.ifCond .le 33, 3) := by decide +kernel
theorem dX14_sendAll_109 : decode cX14_sendAll 109 = .ok (.iload 5, 2) := by decide +kernel
theorem dX14_sendAll_111 : decode cX14_sendAll 111 = .ok (.aload_n 1, 1) := by decide +kernel
theorem dX14_sendAll_112 : decode cX14_sendAll 112 = .ok (.getfield 405, 3) := by decide +kernel
theorem dX14_sendAll_115 : decode cX14_sendAll 115 = .ok (.if_icmp .eq 20, 3) := by decide +kernel
theorem dX14_sendAll_118 : decode cX14_sendAll 118 = .ok (.iload 7, 2) := by decide +kernel
theorem dX14_sendAll_120 : decode cX14_sendAll 120 = .ok (.aload_n 1, 1) := by decide +kernel
theorem dX14_sendAll_121 : decode cX14_sendAll 121 = .ok (.aload_n 1, 1) := by decide +kernel
theorem dX14_sendAll_122 : decode cX14_sendAll 122 = .ok (.getfield 345, 3) := by decide +kernel
theorem dX14_sendAll_125 : decode cX14_sendAll 125 = .ok (.invokevirtual 425, 3) := by decide +kernel
theorem dX14_sendAll_128 : decode cX14_sendAll 128 = .ok (.if_icmp .eq 7, 3) := by decide +kernel
theorem dX14_sendAll_131 : decode cX14_sendAll 131 = .ok (.iload_n 3, 1) := by decide +kernel
theorem dX14_sendAll_132 : decode cX14_sendAll 132 = .ok (.ifCond .ne 7, 3) := by decide +kernel
theorem dX14_sendAll_135 : decode cX14_sendAll 135 = .ok (.iconst 1, 1) := by decide +kernel
theorem dX14_sendAll_136 : decode cX14_sendAll 136 = .ok (.goto 4, 3) := by decide +kernel
theorem dX14_sendAll_139 : decode cX14_sendAll 139 = .ok (.iconst 0, 1) := by decide +kernel
theorem dX14_sendAll_140 : decode cX14_sendAll 140 = .ok (.istore_n 2, 1) := by decide +kernel
theorem dX14_sendAll_141 : decode cX14_sendAll 141 = .ok (.iload_n 2, 1) := by decide +kernel
theorem dX14_sendAll_142 : decode cX14_sendAll 142 = .ok (.ifCond .eq 10, 3) := by decide +kernel
theorem dX14_sendAll_145 : decode cX14_sendAll 145 = .ok (.aload_n 0, 1) := by decide +kernel
theorem dX14_sendAll_146 : decode cX14_sendAll 146 = .ok (.aload_n 1, 1) := by decide +kernel
theorem dX14_sendAll_147 : decode cX14_sendAll 147 = .ok (.iload 4, 2) := by decide +kernel
theorem dX14_sendAll_149 : decode cX14_sendAll 149 = .ok (.invokevirtual 435, 3) := by decide +kernel
theorem dX14_sendAll_152 : decode cX14_sendAll 152 = .ok (.iload_n 2, 1) := by decide +kernel
theorem dX14_sendAll_153 : decode cX14_sendAll 153 = .ok (.ifCond .eq 18, 3) := by decide +kernel
theorem dX14_sendAll_156 : decode cX14_sendAll 156 = .ok (.aload_n 1, 1) := by decide +kernel
theorem dX14_sendAll_157 : decode cX14_sendAll 157 = .ok (.aload_n 1, 1) := by decide +kernel
theorem dX14_sendAll_158 : decode cX14_sendAll 158 = .ok (.getfield 345, 3) := by decide +kernel
theorem dX14_sendAll_161 : decode cX14_sendAll 161 = .ok (.invokevirtual 425, 3) := by decide +kernel
theorem dX14_sendAll_164 : decode cX14_sendAll 164 = .ok (.ifCond .le 7, 3) := by decide +kernel
theorem dX14_sendAll_167 : decode cX14_sendAll 167 = .ok (.iconst 1, 1) := by decide +kernel
theorem dX14_sendAll_168 : decode cX14_sendAll 168 = .ok (.goto 4, 3) := by decide +kernel
theorem dX14_sendAll_171 : decode cX14_sendAll 171 = .ok (.iconst 0, 1) := by decide +kernel
theorem dX14_sendAll_172 : decode cX14_sendAll 172 = .ok (.istore_n 2, 1) := by decide +kernel
theorem dX14_sendAll_173 : decode cX14_sendAll 173 = .ok (.goto (-156), 3) := by decide +kernel
theorem dX14_sendAll_176 : decode cX14_sendAll 176 = .ok (.aload_n 1, 1) := by decide +kernel
theorem dX14_sendAll_177 : decode cX14_sendAll 177 = .ok (.aload_n 1, 1) := by decide +kernel
theorem dX14_sendAll_178 : decode cX14_sendAll 178 = .ok (.getfield 345, 3) := by decide +kernel
theorem dX14_sendAll_181 : decode cX14_sendAll 181 = .ok (.invokevirtual 425, 3) := by decide +kernel
theorem dX14_sendAll_184 : decode cX14_sendAll 184 = .ok (.ifCond .le 33, 3) := by decide +kernel
theorem dX14_sendAll_187 : decode cX14_sendAll 187 = .ok (.aload_n 1, 1) := by decide +kernel
theorem dX14_sendAll_188 : decode cX14_sendAll 188 = .ok (.getfield 345, 3) := by decide +kernel
theorem dX14_sendAll_191 : decode cX14_sendAll 191 = .ok (.aload_n 1, 1) := by decide +kernel
theorem dX14_sendAll_192 : decode cX14_sendAll 192 = .ok (.getfield 428, 3) := by decide +kernel
theorem dX14_sendAll_195 : decode cX14_sendAll 195 = .ok (.if_icmp .ne 22, 3) := by decide +kernel
theorem dX14_sendAll_198 : decode cX14_sendAll 198 = .ok (.aload_n 1, 1) := by decide +kernel
theorem dX14_sendAll_199 : decode cX14_sendAll 199 = .ok (.getfield 434, 3) := by decide +kernel
theorem dX14_sendAll_202 : decode cX14_sendAll 202 = .ok (.ifCond .ne 15, 3) := by decide +kernel
theorem dX14_sendAll_205 : decode cX14_sendAll 205 = .ok (.aload_n 1, 1) := by decide +kernel
theorem dX14_sendAll_206 : decode cX14_sendAll 206 = .ok (.getfield 376, 3) := by decide +kernel
theorem dX14_sendAll_209 : decode cX14_sendAll 209 = .ok (.ifCond .ne 8, 3) := by decide +kernel
theorem dX14_sendAll_212 : decode cX14_sendAll 212 = .ok (.aload_n 0, 1) := by decide +kernel
theorem dX14_sendAll_213 : decode cX14_sendAll 213 = .ok (.aload_n 1, 1) := by decide +kernel
theorem dX14_sendAll_214 : decode cX14_sendAll 214 = .ok (.invokevirtual 379, 3) := by decide +kernel
theorem dX14_sendAll_217 : decode cX14_sendAll 217 = .ok (.return_, 1) := by decide +kernel
def rmX14_sendAll : Room := { frames := 8, cells := 0, slots := 0, locals := 206 }
theorem kX14_sendAll : yX14_sendAll.cls = "WebHostModel" ∧ yX14_sendAll.cls ≠ "java/lang/invoke/MethodHandle" ∧ yX14_sendAll.cls ≠ "java/lang/invoke/VarHandle" ∧ (parseMethodDescriptor yX14_sendAll.desc).map (fun d => d.parameters.length) = some 1 := by decide +kernel
def w14_sendAll_J152 (σ : St) (o1 : Nat) (x2 : Int32) (Q : St → Prop) (K17 : St → Int32 → Prop) : Prop := (x2 = 0 → K17 σ 0) ∧ (¬ x2 = 0 → (w15_left σ o1 (σ 15 o1 5) (fun r3 => ((r3 ≤ 0 → K17 σ 0) ∧ (¬ r3 ≤ 0 → K17 σ 1)))))
set_option maxHeartbeats 4000000 in
theorem k14_sendAll_J152 {p : Program} {l : Launch} {e : Env} {s : State} {m : MethodId} {args : Array Value} {below : List Frame} {meth : Method} {c : Code} {G : Gh} {a1 : Nat → Nat → Nat} {τ : St} {Q : St → Prop} {K17 : St → Int32 → Prop} (C : Cx p e s m args meth c cX14_sendAll 8 none "WebHostModel" G) (σ : St) (o1 : Nat) (x2 : Int32) (ho1 : o1 < 16) (hw : w14_sendAll_J152 σ o1 x2 Q K17) (H : Heap) (locs : List Loc) (ls : Array Slot) (hH : Hd G a1 (cmb τ σ) H) (hS : va_S (gA G) s.heap H locs) (hl : lv_has ls 8 [(0, .ref (ga G 14 0)), (1, .ref (ga G 15 o1)), (2, .int x2)]) (hK17 : ∀ (σ : St) (x2 : Int32), K17 σ x2 → ∀ (H : Heap) (locs : List Loc) (ls : Array Slot), Hd G a1 (cmb τ σ) H → va_S (gA G) s.heap H locs → lv_has ls 8 [(0, .ref (ga G 14 0)), (1, .ref (ga G 15 o1)), (2, .int x2)] → W p l e rmX14_sendAll s m args below meth c H locs 0 0 (MQ below (QVs G a1 (fun u => cmb τ u) Q) args s 0 0 (gA G)) (F0 m 17 ls [])) : W p l e rmX14_sendAll s m args below meth c H locs 0 0 (MQ below (QVs G a1 (fun u => cmb τ u) Q) args s 0 0 (gA G)) (F0 m 152 ls []) := by
  have hx := C.1
  have hb := C.2.1
  have hown := C.2.2.2.2.2.1
  have hts := C.2.2.2.2.2.2.1
  refine lv_iload_n hx hb dX14_sendAll_152 rfl (lv_at hl 2 rfl) ?_
  refine lv_if_eq (tgt := 171) hx hb dX14_sendAll_153 (by decide) (fun h => ?_) (fun h => ?_)
  · have hw := hw.1 h
    refine lv_iconst (v := 0) hx hb dX14_sendAll_171 (by decide) ?_
    refine lv_istore_n (lv' := [(2, .int 0), (0, .ref (ga G 14 0)), (1, .ref (ga G 15 o1))]) hx hb dX14_sendAll_172 rfl hl (by decide) rfl (fun ls hl => ?_)
    refine lv_goto (tgt := 17) hx hb dX14_sendAll_173 (by decide) ?_
    exact hK17 σ 0 hw H locs ls hH hS (lv_sub hl [1, 2, 0] rfl)
  have hw := hw.2 h
  refine lv_aload_n hx hb dX14_sendAll_156 rfl (lv_at hl 1 rfl) ?_
  refine lv_aload_n hx hb dX14_sendAll_157 rfl (lv_at hl 1 rfl) ?_
  refine g15_5 C hH ho1 q1712 dX14_sendAll_158 ?_
  refine kc_ip (rn_vp (As := [.int (σ 15 o1 5)]) (rest := []) C hH hS (by decide) rfl ho1 (m15_left l G a1 τ σ H o1 (σ 15 o1 5) ho1 _ hw) (cwV 1 hts (lw_V q2193 q2194 q2195 q172 q2196) rfl rfl rfl kX15_left ⟨Nat.le_of_ble_eq_true rfl, Nat.le_of_ble_eq_true rfl⟩) rfl hl.1 rfl (Nat.le_of_ble_eq_true rfl) dX14_sendAll_161 ⟨Nat.le_of_ble_eq_true rfl, Nat.le_of_ble_eq_true rfl⟩) hS (fun r3 locs hw hS => ?_)
  refine lv_if_le (tgt := 171) hx hb dX14_sendAll_164 (by decide) (fun h => ?_) (fun h => ?_)
  · have hw := hw.1 h
    refine lv_iconst (v := 0) hx hb dX14_sendAll_171 (by decide) ?_
    refine lv_istore_n (lv' := [(2, .int 0), (0, .ref (ga G 14 0)), (1, .ref (ga G 15 o1))]) hx hb dX14_sendAll_172 rfl hl (by decide) rfl (fun ls hl => ?_)
    refine lv_goto (tgt := 17) hx hb dX14_sendAll_173 (by decide) ?_
    exact hK17 σ 0 hw H locs ls hH hS (lv_sub hl [1, 2, 0] rfl)
  have hw := hw.2 h
  refine lv_iconst (v := 1) hx hb dX14_sendAll_167 (by decide) ?_
  refine lv_goto (tgt := 172) hx hb dX14_sendAll_168 (by decide) ?_
  refine lv_istore_n (lv' := [(2, .int 1), (0, .ref (ga G 14 0)), (1, .ref (ga G 15 o1))]) hx hb dX14_sendAll_172 rfl hl (by decide) rfl (fun ls hl => ?_)
  refine lv_goto (tgt := 17) hx hb dX14_sendAll_173 (by decide) ?_
  exact hK17 σ 1 hw H locs ls hH hS (lv_sub hl [1, 2, 0] rfl)
def w14_sendAll_J101 (σ : St) (o1 : Nat) (x3 : Int32) (x4 : Int32) (x5 : Int32) (xs0 : Int32) (xs1 : Int32) (Q : St → Prop) (K17 : St → Int32 → Prop) : Prop := ((xs1 + xs0) ≤ 0 → (((0 : Int32) = 0 → w14_sendAll_J152 σ o1 0 Q K17) ∧ (¬ (0 : Int32) = 0 → (w14_one σ o1 x4 (fun σ4 => (w14_sendAll_J152 σ4 o1 0 Q K17)))))) ∧ (¬ (xs1 + xs0) ≤ 0 → ((x5 = (σ 15 o1 10) → (((1 : Int32) = 0 → w14_sendAll_J152 σ o1 1 Q K17) ∧ (¬ (1 : Int32) = 0 → (w14_one σ o1 x4 (fun σ5 => (w14_sendAll_J152 σ5 o1 1 Q K17)))))) ∧ (¬ x5 = (σ 15 o1 10) → (w15_left σ o1 (σ 15 o1 5) (fun r6 => (((xs1 + xs0) = r6 → (((1 : Int32) = 0 → w14_sendAll_J152 σ o1 1 Q K17) ∧ (¬ (1 : Int32) = 0 → (w14_one σ o1 x4 (fun σ7 => (w14_sendAll_J152 σ7 o1 1 Q K17)))))) ∧ (¬ (xs1 + xs0) = r6 → ((¬ x3 = 0 → (((0 : Int32) = 0 → w14_sendAll_J152 σ o1 0 Q K17) ∧ (¬ (0 : Int32) = 0 → (w14_one σ o1 x4 (fun σ8 => (w14_sendAll_J152 σ8 o1 0 Q K17)))))) ∧ (x3 = 0 → (((1 : Int32) = 0 → w14_sendAll_J152 σ o1 1 Q K17) ∧ (¬ (1 : Int32) = 0 → (w14_one σ o1 x4 (fun σ9 => (w14_sendAll_J152 σ9 o1 1 Q K17))))))))))))))
set_option maxHeartbeats 4000000 in
theorem k14_sendAll_J101 {p : Program} {l : Launch} {e : Env} {s : State} {m : MethodId} {args : Array Value} {below : List Frame} {meth : Method} {c : Code} {G : Gh} {a1 : Nat → Nat → Nat} {τ : St} {Q : St → Prop} {K17 : St → Int32 → Prop} (C : Cx p e s m args meth c cX14_sendAll 8 none "WebHostModel" G) (σ : St) (o1 : Nat) (x3 : Int32) (x4 : Int32) (x5 : Int32) (xs0 : Int32) (xs1 : Int32) (ho1 : o1 < 16) (hw : w14_sendAll_J101 σ o1 x3 x4 x5 xs0 xs1 Q K17) (H : Heap) (locs : List Loc) (ls : Array Slot) (hH : Hd G a1 (cmb τ σ) H) (hS : va_S (gA G) s.heap H locs) (hl : lv_has ls 8 [(0, .ref (ga G 14 0)), (1, .ref (ga G 15 o1)), (3, .int x3), (4, .int x4), (5, .int x5)]) (hK17 : ∀ (σ : St) (x2 : Int32), K17 σ x2 → ∀ (H : Heap) (locs : List Loc) (ls : Array Slot), Hd G a1 (cmb τ σ) H → va_S (gA G) s.heap H locs → lv_has ls 8 [(0, .ref (ga G 14 0)), (1, .ref (ga G 15 o1)), (2, .int x2)] → W p l e rmX14_sendAll s m args below meth c H locs 0 0 (MQ below (QVs G a1 (fun u => cmb τ u) Q) args s 0 0 (gA G)) (F0 m 17 ls [])) : W p l e rmX14_sendAll s m args below meth c H locs 0 0 (MQ below (QVs G a1 (fun u => cmb τ u) Q) args s 0 0 (gA G)) (F0 m 101 ls [.int xs0, .int xs1]) := by
  have hx := C.1
  have hb := C.2.1
  have hown := C.2.2.2.2.2.1
  have hts := C.2.2.2.2.2.2.1
  refine lv_iadd hx hb dX14_sendAll_101 ?_
  refine lv_istore (lv' := [(7, .int (xs1 + xs0)), (0, .ref (ga G 14 0)), (1, .ref (ga G 15 o1)), (3, .int x3), (4, .int x4), (5, .int x5)]) hx hb dX14_sendAll_102 hl (by decide) rfl (fun ls hl => ?_)
  refine lv_iload hx hb dX14_sendAll_104 (lv_at hl 0 rfl) ?_
  refine lv_if_le (tgt := 139) hx hb dX14_sendAll_106 (by decide) (fun h => ?_) (fun h => ?_)
  · have hw := hw.1 h
    refine lv_iconst (v := 0) hx hb dX14_sendAll_139 (by decide) ?_
    refine lv_istore_n (lv' := [(2, .int 0), (7, .int (xs1 + xs0)), (0, .ref (ga G 14 0)), (1, .ref (ga G 15 o1)), (3, .int x3), (4, .int x4), (5, .int x5)]) hx hb dX14_sendAll_140 rfl hl (by decide) rfl (fun ls hl => ?_)
    refine lv_iload_n hx hb dX14_sendAll_141 rfl (lv_at hl 0 rfl) ?_
    refine lv_if_eq (tgt := 152) hx hb dX14_sendAll_142 (by decide) (fun h => ?_) (fun h => ?_)
    · have hw := hw.1 h
      exact k14_sendAll_J152 C σ o1 0 ho1 hw H locs ls hH hS (lv_sub hl [2, 3, 0] rfl) hK17
    have hw := hw.2 h
    refine lv_aload_n hx hb dX14_sendAll_145 rfl (lv_at hl 2 rfl) ?_
    refine lv_aload_n hx hb dX14_sendAll_146 rfl (lv_at hl 3 rfl) ?_
    refine lv_iload hx hb dX14_sendAll_147 (lv_at hl 5 rfl) ?_
    refine kc_v (rn_v (As := [.ref (ga G 15 o1), .int x4]) (rest := []) C hH hS (by decide) rfl (by decide) (m14_one l G a1 τ σ o1 x4 ho1 _ hw) (cwV 2 hts (lw_V q2301 q2303 qs99 q171 q2304) rfl rfl rfl kX14_one ⟨Nat.le_of_ble_eq_true rfl, Nat.le_of_ble_eq_true rfl⟩) rfl hl.1 rfl (Nat.le_of_ble_eq_true rfl) dX14_sendAll_149 ⟨Nat.le_of_ble_eq_true rfl, Nat.le_of_ble_eq_true rfl⟩) hS (fun σ4 H locs hw hH hS => ?_)
    exact k14_sendAll_J152 C σ4 o1 0 ho1 hw H locs ls hH hS (lv_sub hl [2, 3, 0] rfl) hK17
  have hw := hw.2 h
  refine lv_iload hx hb dX14_sendAll_109 (lv_at hl 5 rfl) ?_
  refine lv_aload_n hx hb dX14_sendAll_111 rfl (lv_at hl 2 rfl) ?_
  refine g15_10 C hH ho1 q1717 dX14_sendAll_112 ?_
  refine lv_icmp_eq (tgt := 135) hx hb dX14_sendAll_115 (by decide) (fun h => ?_) (fun h => ?_)
  · have hw := hw.1 h
    refine lv_iconst (v := 1) hx hb dX14_sendAll_135 (by decide) ?_
    refine lv_goto (tgt := 140) hx hb dX14_sendAll_136 (by decide) ?_
    refine lv_istore_n (lv' := [(2, .int 1), (7, .int (xs1 + xs0)), (0, .ref (ga G 14 0)), (1, .ref (ga G 15 o1)), (3, .int x3), (4, .int x4), (5, .int x5)]) hx hb dX14_sendAll_140 rfl hl (by decide) rfl (fun ls hl => ?_)
    refine lv_iload_n hx hb dX14_sendAll_141 rfl (lv_at hl 0 rfl) ?_
    refine lv_if_eq (tgt := 152) hx hb dX14_sendAll_142 (by decide) (fun h => ?_) (fun h => ?_)
    · have hw := hw.1 h
      exact k14_sendAll_J152 C σ o1 1 ho1 hw H locs ls hH hS (lv_sub hl [2, 3, 0] rfl) hK17
    have hw := hw.2 h
    refine lv_aload_n hx hb dX14_sendAll_145 rfl (lv_at hl 2 rfl) ?_
    refine lv_aload_n hx hb dX14_sendAll_146 rfl (lv_at hl 3 rfl) ?_
    refine lv_iload hx hb dX14_sendAll_147 (lv_at hl 5 rfl) ?_
    refine kc_v (rn_v (As := [.ref (ga G 15 o1), .int x4]) (rest := []) C hH hS (by decide) rfl (by decide) (m14_one l G a1 τ σ o1 x4 ho1 _ hw) (cwV 2 hts (lw_V q2301 q2303 qs99 q171 q2304) rfl rfl rfl kX14_one ⟨Nat.le_of_ble_eq_true rfl, Nat.le_of_ble_eq_true rfl⟩) rfl hl.1 rfl (Nat.le_of_ble_eq_true rfl) dX14_sendAll_149 ⟨Nat.le_of_ble_eq_true rfl, Nat.le_of_ble_eq_true rfl⟩) hS (fun σ5 H locs hw hH hS => ?_)
    exact k14_sendAll_J152 C σ5 o1 1 ho1 hw H locs ls hH hS (lv_sub hl [2, 3, 0] rfl) hK17
  have hw := hw.2 h
  refine lv_iload hx hb dX14_sendAll_118 (lv_at hl 0 rfl) ?_
  refine lv_aload_n hx hb dX14_sendAll_120 rfl (lv_at hl 2 rfl) ?_
  refine lv_aload_n hx hb dX14_sendAll_121 rfl (lv_at hl 2 rfl) ?_
  refine g15_5 C hH ho1 q1712 dX14_sendAll_122 ?_
  refine kc_ip (rn_vp (As := [.int (σ 15 o1 5)]) (rest := [.int (xs1 + xs0)]) C hH hS (by decide) rfl ho1 (m15_left l G a1 τ σ H o1 (σ 15 o1 5) ho1 _ hw) (cwV 1 hts (lw_V q2193 q2194 q2195 q172 q2196) rfl rfl rfl kX15_left ⟨Nat.le_of_ble_eq_true rfl, Nat.le_of_ble_eq_true rfl⟩) rfl hl.1 rfl (Nat.le_of_ble_eq_true rfl) dX14_sendAll_125 ⟨Nat.le_of_ble_eq_true rfl, Nat.le_of_ble_eq_true rfl⟩) hS (fun r6 locs hw hS => ?_)
  refine lv_icmp_eq (tgt := 135) hx hb dX14_sendAll_128 (by decide) (fun h => ?_) (fun h => ?_)
  · have hw := hw.1 h
    refine lv_iconst (v := 1) hx hb dX14_sendAll_135 (by decide) ?_
    refine lv_goto (tgt := 140) hx hb dX14_sendAll_136 (by decide) ?_
    refine lv_istore_n (lv' := [(2, .int 1), (7, .int (xs1 + xs0)), (0, .ref (ga G 14 0)), (1, .ref (ga G 15 o1)), (3, .int x3), (4, .int x4), (5, .int x5)]) hx hb dX14_sendAll_140 rfl hl (by decide) rfl (fun ls hl => ?_)
    refine lv_iload_n hx hb dX14_sendAll_141 rfl (lv_at hl 0 rfl) ?_
    refine lv_if_eq (tgt := 152) hx hb dX14_sendAll_142 (by decide) (fun h => ?_) (fun h => ?_)
    · have hw := hw.1 h
      exact k14_sendAll_J152 C σ o1 1 ho1 hw H locs ls hH hS (lv_sub hl [2, 3, 0] rfl) hK17
    have hw := hw.2 h
    refine lv_aload_n hx hb dX14_sendAll_145 rfl (lv_at hl 2 rfl) ?_
    refine lv_aload_n hx hb dX14_sendAll_146 rfl (lv_at hl 3 rfl) ?_
    refine lv_iload hx hb dX14_sendAll_147 (lv_at hl 5 rfl) ?_
    refine kc_v (rn_v (As := [.ref (ga G 15 o1), .int x4]) (rest := []) C hH hS (by decide) rfl (by decide) (m14_one l G a1 τ σ o1 x4 ho1 _ hw) (cwV 2 hts (lw_V q2301 q2303 qs99 q171 q2304) rfl rfl rfl kX14_one ⟨Nat.le_of_ble_eq_true rfl, Nat.le_of_ble_eq_true rfl⟩) rfl hl.1 rfl (Nat.le_of_ble_eq_true rfl) dX14_sendAll_149 ⟨Nat.le_of_ble_eq_true rfl, Nat.le_of_ble_eq_true rfl⟩) hS (fun σ7 H locs hw hH hS => ?_)
    exact k14_sendAll_J152 C σ7 o1 1 ho1 hw H locs ls hH hS (lv_sub hl [2, 3, 0] rfl) hK17
  have hw := hw.2 h
  refine lv_iload_n hx hb dX14_sendAll_131 rfl (lv_at hl 3 rfl) ?_
  refine lv_if_ne (tgt := 139) hx hb dX14_sendAll_132 (by decide) (fun h => ?_) (fun h => ?_)
  · have hw := hw.1 h
    refine lv_iconst (v := 0) hx hb dX14_sendAll_139 (by decide) ?_
    refine lv_istore_n (lv' := [(2, .int 0), (7, .int (xs1 + xs0)), (0, .ref (ga G 14 0)), (1, .ref (ga G 15 o1)), (3, .int x3), (4, .int x4), (5, .int x5)]) hx hb dX14_sendAll_140 rfl hl (by decide) rfl (fun ls hl => ?_)
    refine lv_iload_n hx hb dX14_sendAll_141 rfl (lv_at hl 0 rfl) ?_
    refine lv_if_eq (tgt := 152) hx hb dX14_sendAll_142 (by decide) (fun h => ?_) (fun h => ?_)
    · have hw := hw.1 h
      exact k14_sendAll_J152 C σ o1 0 ho1 hw H locs ls hH hS (lv_sub hl [2, 3, 0] rfl) hK17
    have hw := hw.2 h
    refine lv_aload_n hx hb dX14_sendAll_145 rfl (lv_at hl 2 rfl) ?_
    refine lv_aload_n hx hb dX14_sendAll_146 rfl (lv_at hl 3 rfl) ?_
    refine lv_iload hx hb dX14_sendAll_147 (lv_at hl 5 rfl) ?_
    refine kc_v (rn_v (As := [.ref (ga G 15 o1), .int x4]) (rest := []) C hH hS (by decide) rfl (by decide) (m14_one l G a1 τ σ o1 x4 ho1 _ hw) (cwV 2 hts (lw_V q2301 q2303 qs99 q171 q2304) rfl rfl rfl kX14_one ⟨Nat.le_of_ble_eq_true rfl, Nat.le_of_ble_eq_true rfl⟩) rfl hl.1 rfl (Nat.le_of_ble_eq_true rfl) dX14_sendAll_149 ⟨Nat.le_of_ble_eq_true rfl, Nat.le_of_ble_eq_true rfl⟩) hS (fun σ8 H locs hw hH hS => ?_)
    exact k14_sendAll_J152 C σ8 o1 0 ho1 hw H locs ls hH hS (lv_sub hl [2, 3, 0] rfl) hK17
  have hw := hw.2 h
  refine lv_iconst (v := 1) hx hb dX14_sendAll_135 (by decide) ?_
  refine lv_goto (tgt := 140) hx hb dX14_sendAll_136 (by decide) ?_
  refine lv_istore_n (lv' := [(2, .int 1), (7, .int (xs1 + xs0)), (0, .ref (ga G 14 0)), (1, .ref (ga G 15 o1)), (3, .int x3), (4, .int x4), (5, .int x5)]) hx hb dX14_sendAll_140 rfl hl (by decide) rfl (fun ls hl => ?_)
  refine lv_iload_n hx hb dX14_sendAll_141 rfl (lv_at hl 0 rfl) ?_
  refine lv_if_eq (tgt := 152) hx hb dX14_sendAll_142 (by decide) (fun h => ?_) (fun h => ?_)
  · have hw := hw.1 h
    exact k14_sendAll_J152 C σ o1 1 ho1 hw H locs ls hH hS (lv_sub hl [2, 3, 0] rfl) hK17
  have hw := hw.2 h
  refine lv_aload_n hx hb dX14_sendAll_145 rfl (lv_at hl 2 rfl) ?_
  refine lv_aload_n hx hb dX14_sendAll_146 rfl (lv_at hl 3 rfl) ?_
  refine lv_iload hx hb dX14_sendAll_147 (lv_at hl 5 rfl) ?_
  refine kc_v (rn_v (As := [.ref (ga G 15 o1), .int x4]) (rest := []) C hH hS (by decide) rfl (by decide) (m14_one l G a1 τ σ o1 x4 ho1 _ hw) (cwV 2 hts (lw_V q2301 q2303 qs99 q171 q2304) rfl rfl rfl kX14_one ⟨Nat.le_of_ble_eq_true rfl, Nat.le_of_ble_eq_true rfl⟩) rfl hl.1 rfl (Nat.le_of_ble_eq_true rfl) dX14_sendAll_149 ⟨Nat.le_of_ble_eq_true rfl, Nat.le_of_ble_eq_true rfl⟩) hS (fun σ9 H locs hw hH hS => ?_)
  exact k14_sendAll_J152 C σ9 o1 1 ho1 hw H locs ls hH hS (lv_sub hl [2, 3, 0] rfl) hK17
def w14_sendAll_L17 (o1 : Nat) (Q : St → Prop) (K176 : St → Prop) : Nat → St → Int32 → Prop
  | 0, _, _ => False
  | n + 1, σ, x2 => (x2 = 0 → K176 σ) ∧ (¬ x2 = 0 → (w14_dataWithin σ o1 ((imin (σ 15 o1 11) (σ 15 o1 7)) - ((σ 15 o1 5) - (σ 15 o1 4))) (fun r2 => (bo (σ 15 o1 30) → (((σ 15 o1 30) = 0 → (((0 : Int32) = 0 → (w14_sendAll_J101 σ o1 ((σ 15 o1 5) - (σ 15 o1 4)) ((imin (σ 15 o1 11) (σ 15 o1 7)) - ((σ 15 o1 5) - (σ 15 o1 4))) r2 0 r2 Q (fun σz x2z => w14_sendAll_L17 o1 Q K176 n σz x2z))) ∧ (¬ (0 : Int32) = 0 → (w14_sendAll_J101 σ o1 ((σ 15 o1 5) - (σ 15 o1 4)) ((imin (σ 15 o1 11) (σ 15 o1 7)) - ((σ 15 o1 5) - (σ 15 o1 4))) r2 1 r2 Q (fun σz x2z => w14_sendAll_L17 o1 Q K176 n σz x2z))))) ∧ (¬ (σ 15 o1 30) = 0 → (w15_behind σ o1 (fun r10 => ((¬ ((σ 15 o1 5) + r2) = r10 → (((0 : Int32) = 0 → (w14_sendAll_J101 σ o1 ((σ 15 o1 5) - (σ 15 o1 4)) ((imin (σ 15 o1 11) (σ 15 o1 7)) - ((σ 15 o1 5) - (σ 15 o1 4))) r2 0 r2 Q (fun σz x2z => w14_sendAll_L17 o1 Q K176 n σz x2z))) ∧ (¬ (0 : Int32) = 0 → (w14_sendAll_J101 σ o1 ((σ 15 o1 5) - (σ 15 o1 4)) ((imin (σ 15 o1 11) (σ 15 o1 7)) - ((σ 15 o1 5) - (σ 15 o1 4))) r2 1 r2 Q (fun σz x2z => w14_sendAll_L17 o1 Q K176 n σz x2z))))) ∧ (((σ 15 o1 5) + r2) = r10 → ((((imin (σ 15 o1 11) (σ 15 o1 7)) - ((σ 15 o1 5) - (σ 15 o1 4))) ≤ r2 → (((0 : Int32) = 0 → (w14_sendAll_J101 σ o1 ((σ 15 o1 5) - (σ 15 o1 4)) ((imin (σ 15 o1 11) (σ 15 o1 7)) - ((σ 15 o1 5) - (σ 15 o1 4))) r2 0 r2 Q (fun σz x2z => w14_sendAll_L17 o1 Q K176 n σz x2z))) ∧ (¬ (0 : Int32) = 0 → (w14_sendAll_J101 σ o1 ((σ 15 o1 5) - (σ 15 o1 4)) ((imin (σ 15 o1 11) (σ 15 o1 7)) - ((σ 15 o1 5) - (σ 15 o1 4))) r2 1 r2 Q (fun σz x2z => w14_sendAll_L17 o1 Q K176 n σz x2z))))) ∧ (¬ ((imin (σ 15 o1 11) (σ 15 o1 7)) - ((σ 15 o1 5) - (σ 15 o1 4))) ≤ r2 → (((1 : Int32) = 0 → (w14_sendAll_J101 σ o1 ((σ 15 o1 5) - (σ 15 o1 4)) ((imin (σ 15 o1 11) (σ 15 o1 7)) - ((σ 15 o1 5) - (σ 15 o1 4))) r2 0 r2 Q (fun σz x2z => w14_sendAll_L17 o1 Q K176 n σz x2z))) ∧ (¬ (1 : Int32) = 0 → (w14_sendAll_J101 σ o1 ((σ 15 o1 5) - (σ 15 o1 4)) ((imin (σ 15 o1 11) (σ 15 o1 7)) - ((σ 15 o1 5) - (σ 15 o1 4))) r2 1 r2 Q (fun σz x2z => w14_sendAll_L17 o1 Q K176 n σz x2z))))))))))))))))
set_option maxHeartbeats 4000000 in
theorem k14_sendAll_L17 {p : Program} {l : Launch} {e : Env} {s : State} {m : MethodId} {args : Array Value} {below : List Frame} {meth : Method} {c : Code} {G : Gh} {a1 : Nat → Nat → Nat} {τ : St} {Q : St → Prop} {K176 : St → Prop} (C : Cx p e s m args meth c cX14_sendAll 8 none "WebHostModel" G) (o1 : Nat) (ho1 : o1 < 16) :
    ∀ (n : Nat) (σ : St) (x2 : Int32), w14_sendAll_L17 o1 Q K176 n σ x2 → ∀ (H : Heap) (locs : List Loc) (ls : Array Slot), Hd G a1 (cmb τ σ) H → va_S (gA G) s.heap H locs → lv_has ls 8 [(0, .ref (ga G 14 0)), (1, .ref (ga G 15 o1)), (2, .int x2)] → (∀ (σ : St) , K176 σ → ∀ (H : Heap) (locs : List Loc) (ls : Array Slot), Hd G a1 (cmb τ σ) H → va_S (gA G) s.heap H locs → lv_has ls 8 [(0, .ref (ga G 14 0)), (1, .ref (ga G 15 o1))] → W p l e rmX14_sendAll s m args below meth c H locs 0 0 (MQ below (QVs G a1 (fun u => cmb τ u) Q) args s 0 0 (gA G)) (F0 m 176 ls [])) → W p l e rmX14_sendAll s m args below meth c H locs 0 0 (MQ below (QVs G a1 (fun u => cmb τ u) Q) args s 0 0 (gA G)) (F0 m 17 ls []) := by
  have hx := C.1
  have hb := C.2.1
  have hown := C.2.2.2.2.2.1
  have hts := C.2.2.2.2.2.2.1
  intro n
  induction n with
  | zero =>
    intro σ x2 hw
    exact False.elim hw
  | succ n ih =>
    intro σ x2 hw H locs ls hH hS hl hK176
    refine lv_iload_n hx hb dX14_sendAll_17 rfl (lv_at hl 2 rfl) ?_
    refine lv_if_eq (tgt := 176) hx hb dX14_sendAll_18 (by decide) (fun h => ?_) (fun h => ?_)
    · have hw := hw.1 h
      exact hK176 σ hw H locs ls hH hS (lv_sub hl [0, 1] rfl)
    have hw := hw.2 h
    refine lv_aload_n hx hb dX14_sendAll_21 rfl (lv_at hl 1 rfl) ?_
    refine g15_5 C hH ho1 q1712 dX14_sendAll_22 ?_
    refine lv_aload_n hx hb dX14_sendAll_25 rfl (lv_at hl 1 rfl) ?_
    refine g15_4 C hH ho1 q1711 dX14_sendAll_26 ?_
    refine lv_isub hx hb dX14_sendAll_29 ?_
    refine lv_istore_n (lv' := [(3, .int ((σ 15 o1 5) - (σ 15 o1 4))), (0, .ref (ga G 14 0)), (1, .ref (ga G 15 o1)), (2, .int x2)]) hx hb dX14_sendAll_30 rfl hl (by decide) rfl (fun ls hl => ?_)
    refine lv_aload_n hx hb dX14_sendAll_31 rfl (lv_at hl 2 rfl) ?_
    refine g15_11 C hH ho1 q1718 dX14_sendAll_32 ?_
    refine lv_aload_n hx hb dX14_sendAll_35 rfl (lv_at hl 2 rfl) ?_
    refine g15_7 C hH ho1 q1714 dX14_sendAll_36 ?_
    refine r_imin C hl.1 q2281 (Nat.le_of_ble_eq_true rfl) (Nat.le_of_ble_eq_true rfl) (Nat.zero_le _) (Nat.zero_le _) dX14_sendAll_39 ?_
    refine lv_iload_n hx hb dX14_sendAll_42 rfl (lv_at hl 0 rfl) ?_
    refine lv_isub hx hb dX14_sendAll_43 ?_
    refine lv_istore (lv' := [(4, .int ((imin (σ 15 o1 11) (σ 15 o1 7)) - ((σ 15 o1 5) - (σ 15 o1 4)))), (3, .int ((σ 15 o1 5) - (σ 15 o1 4))), (0, .ref (ga G 14 0)), (1, .ref (ga G 15 o1)), (2, .int x2)]) hx hb dX14_sendAll_44 hl (by decide) rfl (fun ls hl => ?_)
    refine lv_aload_n hx hb dX14_sendAll_46 rfl (lv_at hl 3 rfl) ?_
    refine lv_iload hx hb dX14_sendAll_47 (lv_at hl 0 rfl) ?_
    refine kc_ip (rn_sp (As := [.ref (ga G 15 o1), .int ((imin (σ 15 o1 11) (σ 15 o1 7)) - ((σ 15 o1 5) - (σ 15 o1 4)))]) (rest := []) C hH hS (m14_dataWithin l G a1 τ σ H o1 ((imin (σ 15 o1 11) (σ 15 o1 7)) - ((σ 15 o1 5) - (σ 15 o1 4))) ho1 _ hw) (va_cwS 2 hts (lw_S q2305 q2306 q171 q2307) rfl rfl rfl kX14_dataWithin.2 ⟨Nat.le_of_ble_eq_true rfl, Nat.le_of_ble_eq_true rfl⟩) rfl hl.1 rfl (Nat.le_of_ble_eq_true rfl) dX14_sendAll_49 ⟨Nat.le_of_ble_eq_true rfl, Nat.le_of_ble_eq_true rfl⟩) hS (fun r2 locs hw hS => ?_)
    refine lv_istore (lv' := [(5, .int r2), (4, .int ((imin (σ 15 o1 11) (σ 15 o1 7)) - ((σ 15 o1 5) - (σ 15 o1 4)))), (3, .int ((σ 15 o1 5) - (σ 15 o1 4))), (0, .ref (ga G 14 0)), (1, .ref (ga G 15 o1)), (2, .int x2)]) hx hb dX14_sendAll_52 hl (by decide) rfl (fun ls hl => ?_)
    refine lv_aload_n hx hb dX14_sendAll_54 rfl (lv_at hl 4 rfl) ?_
    refine g15_30 C hH ho1 q1742 dX14_sendAll_55 (fun hz => ?_)
    have hw := hw hz
    refine lv_if_eq (tgt := 86) hx hb dX14_sendAll_58 (by decide) (fun h => ?_) (fun h => ?_)
    · have hw := hw.1 h
      refine lv_iconst (v := 0) hx hb dX14_sendAll_86 (by decide) ?_
      refine lv_istore (lv' := [(6, .int 0), (5, .int r2), (4, .int ((imin (σ 15 o1 11) (σ 15 o1 7)) - ((σ 15 o1 5) - (σ 15 o1 4)))), (3, .int ((σ 15 o1 5) - (σ 15 o1 4))), (0, .ref (ga G 14 0)), (1, .ref (ga G 15 o1)), (2, .int x2)]) hx hb dX14_sendAll_87 hl (by decide) rfl (fun ls hl => ?_)
      refine lv_iload hx hb dX14_sendAll_89 (lv_at hl 1 rfl) ?_
      refine lv_iload hx hb dX14_sendAll_91 (lv_at hl 0 rfl) ?_
      refine lv_if_eq (tgt := 100) hx hb dX14_sendAll_93 (by decide) (fun h => ?_) (fun h => ?_)
      · have hw := hw.1 h
        refine lv_iconst (v := 0) hx hb dX14_sendAll_100 (by decide) ?_
        exact k14_sendAll_J101 C σ o1 ((σ 15 o1 5) - (σ 15 o1 4)) ((imin (σ 15 o1 11) (σ 15 o1 7)) - ((σ 15 o1 5) - (σ 15 o1 4))) r2 0 r2 ho1 hw H locs ls hH hS (lv_sub hl [4, 5, 3, 2, 1] rfl) (fun σz x2z hw H locs ls hH hS hl => ih σz x2z hw H locs ls hH hS hl hK176)
      have hw := hw.2 h
      refine lv_iconst (v := 1) hx hb dX14_sendAll_96 (by decide) ?_
      refine lv_goto (tgt := 101) hx hb dX14_sendAll_97 (by decide) ?_
      exact k14_sendAll_J101 C σ o1 ((σ 15 o1 5) - (σ 15 o1 4)) ((imin (σ 15 o1 11) (σ 15 o1 7)) - ((σ 15 o1 5) - (σ 15 o1 4))) r2 1 r2 ho1 hw H locs ls hH hS (lv_sub hl [4, 5, 3, 2, 1] rfl) (fun σz x2z hw H locs ls hH hS hl => ih σz x2z hw H locs ls hH hS hl hK176)
    have hw := hw.2 h
    refine lv_aload_n hx hb dX14_sendAll_61 rfl (lv_at hl 4 rfl) ?_
    refine g15_5 C hH ho1 q1712 dX14_sendAll_62 ?_
    refine lv_iload hx hb dX14_sendAll_65 (lv_at hl 0 rfl) ?_
    refine lv_iadd hx hb dX14_sendAll_67 ?_
    refine lv_aload_n hx hb dX14_sendAll_68 rfl (lv_at hl 4 rfl) ?_
    refine kc_ip (rn_vp (As := []) (rest := [.int ((σ 15 o1 5) + r2)]) C hH hS (by decide) rfl ho1 (m15_behind l G a1 τ σ H o1 ho1 _ hw) (cwV 0 hts (lw_V q2308 q2198 q2199 q172 q2200) rfl rfl rfl kX15_behind ⟨Nat.le_of_ble_eq_true rfl, Nat.le_of_ble_eq_true rfl⟩) rfl hl.1 rfl (Nat.le_of_ble_eq_true rfl) dX14_sendAll_69 ⟨Nat.le_of_ble_eq_true rfl, Nat.le_of_ble_eq_true rfl⟩) hS (fun r10 locs hw hS => ?_)
    refine lv_icmp_ne (tgt := 86) hx hb dX14_sendAll_72 (by decide) (fun h => ?_) (fun h => ?_)
    · have hw := hw.1 h
      refine lv_iconst (v := 0) hx hb dX14_sendAll_86 (by decide) ?_
      refine lv_istore (lv' := [(6, .int 0), (5, .int r2), (4, .int ((imin (σ 15 o1 11) (σ 15 o1 7)) - ((σ 15 o1 5) - (σ 15 o1 4)))), (3, .int ((σ 15 o1 5) - (σ 15 o1 4))), (0, .ref (ga G 14 0)), (1, .ref (ga G 15 o1)), (2, .int x2)]) hx hb dX14_sendAll_87 hl (by decide) rfl (fun ls hl => ?_)
      refine lv_iload hx hb dX14_sendAll_89 (lv_at hl 1 rfl) ?_
      refine lv_iload hx hb dX14_sendAll_91 (lv_at hl 0 rfl) ?_
      refine lv_if_eq (tgt := 100) hx hb dX14_sendAll_93 (by decide) (fun h => ?_) (fun h => ?_)
      · have hw := hw.1 h
        refine lv_iconst (v := 0) hx hb dX14_sendAll_100 (by decide) ?_
        exact k14_sendAll_J101 C σ o1 ((σ 15 o1 5) - (σ 15 o1 4)) ((imin (σ 15 o1 11) (σ 15 o1 7)) - ((σ 15 o1 5) - (σ 15 o1 4))) r2 0 r2 ho1 hw H locs ls hH hS (lv_sub hl [4, 5, 3, 2, 1] rfl) (fun σz x2z hw H locs ls hH hS hl => ih σz x2z hw H locs ls hH hS hl hK176)
      have hw := hw.2 h
      refine lv_iconst (v := 1) hx hb dX14_sendAll_96 (by decide) ?_
      refine lv_goto (tgt := 101) hx hb dX14_sendAll_97 (by decide) ?_
      exact k14_sendAll_J101 C σ o1 ((σ 15 o1 5) - (σ 15 o1 4)) ((imin (σ 15 o1 11) (σ 15 o1 7)) - ((σ 15 o1 5) - (σ 15 o1 4))) r2 1 r2 ho1 hw H locs ls hH hS (lv_sub hl [4, 5, 3, 2, 1] rfl) (fun σz x2z hw H locs ls hH hS hl => ih σz x2z hw H locs ls hH hS hl hK176)
    have hw := hw.2 h
    refine lv_iload hx hb dX14_sendAll_75 (lv_at hl 0 rfl) ?_
    refine lv_iload hx hb dX14_sendAll_77 (lv_at hl 1 rfl) ?_
    refine lv_icmp_ge (tgt := 86) hx hb dX14_sendAll_79 (by decide) (fun h => ?_) (fun h => ?_)
    · have hw := hw.1 h
      refine lv_iconst (v := 0) hx hb dX14_sendAll_86 (by decide) ?_
      refine lv_istore (lv' := [(6, .int 0), (5, .int r2), (4, .int ((imin (σ 15 o1 11) (σ 15 o1 7)) - ((σ 15 o1 5) - (σ 15 o1 4)))), (3, .int ((σ 15 o1 5) - (σ 15 o1 4))), (0, .ref (ga G 14 0)), (1, .ref (ga G 15 o1)), (2, .int x2)]) hx hb dX14_sendAll_87 hl (by decide) rfl (fun ls hl => ?_)
      refine lv_iload hx hb dX14_sendAll_89 (lv_at hl 1 rfl) ?_
      refine lv_iload hx hb dX14_sendAll_91 (lv_at hl 0 rfl) ?_
      refine lv_if_eq (tgt := 100) hx hb dX14_sendAll_93 (by decide) (fun h => ?_) (fun h => ?_)
      · have hw := hw.1 h
        refine lv_iconst (v := 0) hx hb dX14_sendAll_100 (by decide) ?_
        exact k14_sendAll_J101 C σ o1 ((σ 15 o1 5) - (σ 15 o1 4)) ((imin (σ 15 o1 11) (σ 15 o1 7)) - ((σ 15 o1 5) - (σ 15 o1 4))) r2 0 r2 ho1 hw H locs ls hH hS (lv_sub hl [4, 5, 3, 2, 1] rfl) (fun σz x2z hw H locs ls hH hS hl => ih σz x2z hw H locs ls hH hS hl hK176)
      have hw := hw.2 h
      refine lv_iconst (v := 1) hx hb dX14_sendAll_96 (by decide) ?_
      refine lv_goto (tgt := 101) hx hb dX14_sendAll_97 (by decide) ?_
      exact k14_sendAll_J101 C σ o1 ((σ 15 o1 5) - (σ 15 o1 4)) ((imin (σ 15 o1 11) (σ 15 o1 7)) - ((σ 15 o1 5) - (σ 15 o1 4))) r2 1 r2 ho1 hw H locs ls hH hS (lv_sub hl [4, 5, 3, 2, 1] rfl) (fun σz x2z hw H locs ls hH hS hl => ih σz x2z hw H locs ls hH hS hl hK176)
    have hw := hw.2 h
    refine lv_iconst (v := 1) hx hb dX14_sendAll_82 (by decide) ?_
    refine lv_goto (tgt := 87) hx hb dX14_sendAll_83 (by decide) ?_
    refine lv_istore (lv' := [(6, .int 1), (5, .int r2), (4, .int ((imin (σ 15 o1 11) (σ 15 o1 7)) - ((σ 15 o1 5) - (σ 15 o1 4)))), (3, .int ((σ 15 o1 5) - (σ 15 o1 4))), (0, .ref (ga G 14 0)), (1, .ref (ga G 15 o1)), (2, .int x2)]) hx hb dX14_sendAll_87 hl (by decide) rfl (fun ls hl => ?_)
    refine lv_iload hx hb dX14_sendAll_89 (lv_at hl 1 rfl) ?_
    refine lv_iload hx hb dX14_sendAll_91 (lv_at hl 0 rfl) ?_
    refine lv_if_eq (tgt := 100) hx hb dX14_sendAll_93 (by decide) (fun h => ?_) (fun h => ?_)
    · have hw := hw.1 h
      refine lv_iconst (v := 0) hx hb dX14_sendAll_100 (by decide) ?_
      exact k14_sendAll_J101 C σ o1 ((σ 15 o1 5) - (σ 15 o1 4)) ((imin (σ 15 o1 11) (σ 15 o1 7)) - ((σ 15 o1 5) - (σ 15 o1 4))) r2 0 r2 ho1 hw H locs ls hH hS (lv_sub hl [4, 5, 3, 2, 1] rfl) (fun σz x2z hw H locs ls hH hS hl => ih σz x2z hw H locs ls hH hS hl hK176)
    have hw := hw.2 h
    refine lv_iconst (v := 1) hx hb dX14_sendAll_96 (by decide) ?_
    refine lv_goto (tgt := 101) hx hb dX14_sendAll_97 (by decide) ?_
    exact k14_sendAll_J101 C σ o1 ((σ 15 o1 5) - (σ 15 o1 4)) ((imin (σ 15 o1 11) (σ 15 o1 7)) - ((σ 15 o1 5) - (σ 15 o1 4))) r2 1 r2 ho1 hw H locs ls hH hS (lv_sub hl [4, 5, 3, 2, 1] rfl) (fun σz x2z hw H locs ls hH hS hl => ih σz x2z hw H locs ls hH hS hl hK176)
def w14_sendAll (σ : St) (o1 : Nat) (Q : St → Prop) : Prop := w15_left σ o1 (σ 15 o1 5) (fun r1 => ((r1 ≤ 0 → (∃ z11, w14_sendAll_L17 o1 Q (fun σ12 => w15_left σ12 o1 (σ12 15 o1 5) (fun r13 => ((r13 ≤ 0 → Q σ12) ∧ (¬ r13 ≤ 0 → ((¬ (σ12 15 o1 5) = (σ12 15 o1 4) → Q σ12) ∧ ((σ12 15 o1 5) = (σ12 15 o1 4) → ((¬ (σ12 15 o1 7) = 0 → Q σ12) ∧ ((σ12 15 o1 7) = 0 → (bo (σ12 15 o1 21) → ((¬ (σ12 15 o1 21) = 0 → Q σ12) ∧ ((σ12 15 o1 21) = 0 → (w14_timerSet σ12 o1 (fun σ14 => (Q σ14)))))))))))))) z11 σ 0)) ∧ (¬ r1 ≤ 0 → (∃ z15, w14_sendAll_L17 o1 Q (fun σ16 => w15_left σ16 o1 (σ16 15 o1 5) (fun r17 => ((r17 ≤ 0 → Q σ16) ∧ (¬ r17 ≤ 0 → ((¬ (σ16 15 o1 5) = (σ16 15 o1 4) → Q σ16) ∧ ((σ16 15 o1 5) = (σ16 15 o1 4) → ((¬ (σ16 15 o1 7) = 0 → Q σ16) ∧ ((σ16 15 o1 7) = 0 → (bo (σ16 15 o1 21) → ((¬ (σ16 15 o1 21) = 0 → Q σ16) ∧ ((σ16 15 o1 21) = 0 → (w14_timerSet σ16 o1 (fun σ18 => (Q σ18)))))))))))))) z15 σ 1))))
set_option maxHeartbeats 4000000 in
theorem m14_sendAll (l : Launch) (G : Gh) (a1 : Nat → Nat → Nat) (τ : St) (σ : St) (o1 : Nat) (ho1 : o1 < 16) (Q : St → Prop) (hw : w14_sendAll σ o1 Q) : Met l yX14_sendAll (ws_ yX14_sendAll cX14_sendAll 8 none) rmX14_sendAll (PcS G a1 (cmb τ σ) [.ref (ga G 14 0), .ref (ga G 15 o1)]) (QVs G a1 (fun u => cmb τ u) Q) 0 0 (gA G) := by
  refine met_w (by decide) (Nat.le_of_ble_eq_true rfl) ?_
  intro p e s m below meth c ls C hH hS hl
  have C : Cx p e s m _ meth c cX14_sendAll 8 none "WebHostModel" G := C
  have hl : lv_has ls 8 [(0, .ref (ga G 14 0)), (1, .ref (ga G 15 o1))] := hl
  have hx := C.1
  have hb := C.2.1
  have hown := C.2.2.2.2.2.1
  have hts := C.2.2.2.2.2.2.1
  obtain ⟨locs, hlocs⟩ : ∃ z : List Loc, z = [] := ⟨_, rfl⟩
  obtain ⟨H, hHe⟩ : ∃ z : Heap, z = s.heap := ⟨_, rfl⟩
  have hH : Hd G a1 (cmb τ σ) H := by rw [hHe]; exact hH
  have hS : va_S (gA G) s.heap H locs := by rw [hHe, hlocs]; exact hS
  refine W.heap0 hHe.symm hlocs.symm ?_
  refine lv_aload_n hx hb dX14_sendAll_0 rfl (lv_at hl 1 rfl) ?_
  refine lv_aload_n hx hb dX14_sendAll_1 rfl (lv_at hl 1 rfl) ?_
  refine g15_5 C hH ho1 q1712 dX14_sendAll_2 ?_
  refine kc_ip (rn_vp (As := [.int (σ 15 o1 5)]) (rest := []) C hH hS (by decide) rfl ho1 (m15_left l G a1 τ σ H o1 (σ 15 o1 5) ho1 _ hw) (cwV 1 hts (lw_V q2193 q2194 q2195 q172 q2196) rfl rfl rfl kX15_left ⟨Nat.le_of_ble_eq_true rfl, Nat.le_of_ble_eq_true rfl⟩) rfl hl.1 rfl (Nat.le_of_ble_eq_true rfl) dX14_sendAll_5 ⟨Nat.le_of_ble_eq_true rfl, Nat.le_of_ble_eq_true rfl⟩) hS (fun r1 locs hw hS => ?_)
  refine lv_if_le (tgt := 15) hx hb dX14_sendAll_8 (by decide) (fun h => ?_) (fun h => ?_)
  · have hw := hw.1 h
    refine lv_iconst (v := 0) hx hb dX14_sendAll_15 (by decide) ?_
    refine lv_istore_n (lv' := [(2, .int 0), (0, .ref (ga G 14 0)), (1, .ref (ga G 15 o1))]) hx hb dX14_sendAll_16 rfl hl (by decide) rfl (fun ls hl => ?_)
    obtain ⟨n11, hw⟩ := hw
    refine k14_sendAll_L17 C o1 ho1 n11 σ 0 hw H locs ls hH hS (lv_sub hl [1, 2, 0] rfl) (fun σ12 hw H locs ls hH hS hl => ?_)
    refine lv_aload_n hx hb dX14_sendAll_176 rfl (lv_at hl 1 rfl) ?_
    refine lv_aload_n hx hb dX14_sendAll_177 rfl (lv_at hl 1 rfl) ?_
    refine g15_5 C hH ho1 q1712 dX14_sendAll_178 ?_
    refine kc_ip (rn_vp (As := [.int (σ12 15 o1 5)]) (rest := []) C hH hS (by decide) rfl ho1 (m15_left l G a1 τ σ12 H o1 (σ12 15 o1 5) ho1 _ hw) (cwV 1 hts (lw_V q2193 q2194 q2195 q172 q2196) rfl rfl rfl kX15_left ⟨Nat.le_of_ble_eq_true rfl, Nat.le_of_ble_eq_true rfl⟩) rfl hl.1 rfl (Nat.le_of_ble_eq_true rfl) dX14_sendAll_181 ⟨Nat.le_of_ble_eq_true rfl, Nat.le_of_ble_eq_true rfl⟩) hS (fun r13 locs hw hS => ?_)
    refine lv_if_le (tgt := 217) hx hb dX14_sendAll_184 (by decide) (fun h => ?_) (fun h => ?_)
    · have hw := hw.1 h
      exact rt_v C hH hS hw dX14_sendAll_217
    have hw := hw.2 h
    refine lv_aload_n hx hb dX14_sendAll_187 rfl (lv_at hl 1 rfl) ?_
    refine g15_5 C hH ho1 q1712 dX14_sendAll_188 ?_
    refine lv_aload_n hx hb dX14_sendAll_191 rfl (lv_at hl 1 rfl) ?_
    refine g15_4 C hH ho1 q1711 dX14_sendAll_192 ?_
    refine lv_icmp_ne (tgt := 217) hx hb dX14_sendAll_195 (by decide) (fun h => ?_) (fun h => ?_)
    · have hw := hw.1 h
      exact rt_v C hH hS hw dX14_sendAll_217
    have hw := hw.2 h
    refine lv_aload_n hx hb dX14_sendAll_198 rfl (lv_at hl 1 rfl) ?_
    refine g15_7 C hH ho1 q1714 dX14_sendAll_199 ?_
    refine lv_if_ne (tgt := 217) hx hb dX14_sendAll_202 (by decide) (fun h => ?_) (fun h => ?_)
    · have hw := hw.1 h
      exact rt_v C hH hS hw dX14_sendAll_217
    have hw := hw.2 h
    refine lv_aload_n hx hb dX14_sendAll_205 rfl (lv_at hl 1 rfl) ?_
    refine g15_21 C hH ho1 q1728 dX14_sendAll_206 (fun hz => ?_)
    have hw := hw hz
    refine lv_if_ne (tgt := 217) hx hb dX14_sendAll_209 (by decide) (fun h => ?_) (fun h => ?_)
    · have hw := hw.1 h
      exact rt_v C hH hS hw dX14_sendAll_217
    have hw := hw.2 h
    refine lv_aload_n hx hb dX14_sendAll_212 rfl (lv_at hl 0 rfl) ?_
    refine lv_aload_n hx hb dX14_sendAll_213 rfl (lv_at hl 1 rfl) ?_
    refine kc_v (rn_v (As := [.ref (ga G 15 o1)]) (rest := []) C hH hS (by decide) rfl (by decide) (m14_timerSet l G a1 τ σ12 o1 ho1 _ hw) (cwV 1 hts (lw_V q2297 q2299 qs98 q171 q2300) rfl rfl rfl kX14_timerSet ⟨Nat.le_of_ble_eq_true rfl, Nat.le_of_ble_eq_true rfl⟩) rfl hl.1 rfl (Nat.le_of_ble_eq_true rfl) dX14_sendAll_214 ⟨Nat.le_of_ble_eq_true rfl, Nat.le_of_ble_eq_true rfl⟩) hS (fun σ14 H locs hw hH hS => ?_)
    exact rt_v C hH hS hw dX14_sendAll_217
  have hw := hw.2 h
  refine lv_iconst (v := 1) hx hb dX14_sendAll_11 (by decide) ?_
  refine lv_goto (tgt := 16) hx hb dX14_sendAll_12 (by decide) ?_
  refine lv_istore_n (lv' := [(2, .int 1), (0, .ref (ga G 14 0)), (1, .ref (ga G 15 o1))]) hx hb dX14_sendAll_16 rfl hl (by decide) rfl (fun ls hl => ?_)
  obtain ⟨n15, hw⟩ := hw
  refine k14_sendAll_L17 C o1 ho1 n15 σ 1 hw H locs ls hH hS (lv_sub hl [1, 2, 0] rfl) (fun σ16 hw H locs ls hH hS hl => ?_)
  refine lv_aload_n hx hb dX14_sendAll_176 rfl (lv_at hl 1 rfl) ?_
  refine lv_aload_n hx hb dX14_sendAll_177 rfl (lv_at hl 1 rfl) ?_
  refine g15_5 C hH ho1 q1712 dX14_sendAll_178 ?_
  refine kc_ip (rn_vp (As := [.int (σ16 15 o1 5)]) (rest := []) C hH hS (by decide) rfl ho1 (m15_left l G a1 τ σ16 H o1 (σ16 15 o1 5) ho1 _ hw) (cwV 1 hts (lw_V q2193 q2194 q2195 q172 q2196) rfl rfl rfl kX15_left ⟨Nat.le_of_ble_eq_true rfl, Nat.le_of_ble_eq_true rfl⟩) rfl hl.1 rfl (Nat.le_of_ble_eq_true rfl) dX14_sendAll_181 ⟨Nat.le_of_ble_eq_true rfl, Nat.le_of_ble_eq_true rfl⟩) hS (fun r17 locs hw hS => ?_)
  refine lv_if_le (tgt := 217) hx hb dX14_sendAll_184 (by decide) (fun h => ?_) (fun h => ?_)
  · have hw := hw.1 h
    exact rt_v C hH hS hw dX14_sendAll_217
  have hw := hw.2 h
  refine lv_aload_n hx hb dX14_sendAll_187 rfl (lv_at hl 1 rfl) ?_
  refine g15_5 C hH ho1 q1712 dX14_sendAll_188 ?_
  refine lv_aload_n hx hb dX14_sendAll_191 rfl (lv_at hl 1 rfl) ?_
  refine g15_4 C hH ho1 q1711 dX14_sendAll_192 ?_
  refine lv_icmp_ne (tgt := 217) hx hb dX14_sendAll_195 (by decide) (fun h => ?_) (fun h => ?_)
  · have hw := hw.1 h
    exact rt_v C hH hS hw dX14_sendAll_217
  have hw := hw.2 h
  refine lv_aload_n hx hb dX14_sendAll_198 rfl (lv_at hl 1 rfl) ?_
  refine g15_7 C hH ho1 q1714 dX14_sendAll_199 ?_
  refine lv_if_ne (tgt := 217) hx hb dX14_sendAll_202 (by decide) (fun h => ?_) (fun h => ?_)
  · have hw := hw.1 h
    exact rt_v C hH hS hw dX14_sendAll_217
  have hw := hw.2 h
  refine lv_aload_n hx hb dX14_sendAll_205 rfl (lv_at hl 1 rfl) ?_
  refine g15_21 C hH ho1 q1728 dX14_sendAll_206 (fun hz => ?_)
  have hw := hw hz
  refine lv_if_ne (tgt := 217) hx hb dX14_sendAll_209 (by decide) (fun h => ?_) (fun h => ?_)
  · have hw := hw.1 h
    exact rt_v C hH hS hw dX14_sendAll_217
  have hw := hw.2 h
  refine lv_aload_n hx hb dX14_sendAll_212 rfl (lv_at hl 0 rfl) ?_
  refine lv_aload_n hx hb dX14_sendAll_213 rfl (lv_at hl 1 rfl) ?_
  refine kc_v (rn_v (As := [.ref (ga G 15 o1)]) (rest := []) C hH hS (by decide) rfl (by decide) (m14_timerSet l G a1 τ σ16 o1 ho1 _ hw) (cwV 1 hts (lw_V q2297 q2299 qs98 q171 q2300) rfl rfl rfl kX14_timerSet ⟨Nat.le_of_ble_eq_true rfl, Nat.le_of_ble_eq_true rfl⟩) rfl hl.1 rfl (Nat.le_of_ble_eq_true rfl) dX14_sendAll_214 ⟨Nat.le_of_ble_eq_true rfl, Nat.le_of_ble_eq_true rfl⟩) hS (fun σ18 H locs hw hH hS => ?_)
  exact rt_v C hH hS hw dX14_sendAll_217
/-! WebHost$Connection.lifeOut()V -/
abbrev cX11_lifeOut : ByteArray := prog_3_method_35_code
def yX11_lifeOut : MethodName := ⟨RX11, "lifeOut", "()V"⟩
theorem dX11_lifeOut_0 : decode cX11_lifeOut 0 = .ok (.aload_n 0, 1) := by decide +kernel
theorem dX11_lifeOut_1 : decode cX11_lifeOut 1 = .ok (.iconst 0, 1) := by decide +kernel
theorem dX11_lifeOut_2 : decode cX11_lifeOut 2 = .ok (.putfield 116, 3) := by decide +kernel
theorem dX11_lifeOut_5 : decode cX11_lifeOut 5 = .ok (.aload_n 0, 1) := by decide +kernel
theorem dX11_lifeOut_6 : decode cX11_lifeOut 6 = .ok (.getfield 73, 3) := by decide +kernel
theorem dX11_lifeOut_9 : decode cX11_lifeOut 9 = .ok (.iconst 2, 1) := by decide +kernel
theorem dX11_lifeOut_10 : decode cX11_lifeOut 10 = .ok (.if_icmp .eq 8, 3) := by decide +kernel
theorem dX11_lifeOut_13 : decode cX11_lifeOut 13 = .ok (.aload_n 0, 1) := by decide +kernel
theorem dX11_lifeOut_14 : decode cX11_lifeOut 14 = .ok (.invokevirtual 225, 3) := by decide +kernel
theorem dX11_lifeOut_17 : decode cX11_lifeOut 17 = .ok (.return_, 1) := by decide +kernel
theorem dX11_lifeOut_18 : decode cX11_lifeOut 18 = .ok (.aload_n 0, 1) := by decide +kernel
theorem dX11_lifeOut_19 : decode cX11_lifeOut 19 = .ok (.iconst 1, 1) := by decide +kernel
theorem dX11_lifeOut_20 : decode cX11_lifeOut 20 = .ok (.putfield 79, 3) := by decide +kernel
theorem dX11_lifeOut_23 : decode cX11_lifeOut 23 = .ok (.aload_n 0, 1) := by decide +kernel
theorem dX11_lifeOut_24 : decode cX11_lifeOut 24 = .ok (.invokevirtual 247, 3) := by decide +kernel
theorem dX11_lifeOut_27 : decode cX11_lifeOut 27 = .ok (.return_, 1) := by decide +kernel
def rmX11_lifeOut : Room := { frames := 9, cells := 0, slots := 0, locals := 236 }
theorem kX11_lifeOut : yX11_lifeOut.cls = "WebHost$Connection" ∧ yX11_lifeOut.cls ≠ "java/lang/invoke/MethodHandle" ∧ yX11_lifeOut.cls ≠ "java/lang/invoke/VarHandle" ∧ (parseMethodDescriptor yX11_lifeOut.desc).map (fun d => d.parameters.length) = some 0 := by decide +kernel
def w11_lifeOut (σ : St) (o0 : Nat) (Q : St → Prop) : Prop := ∀ σ1, σ1 = up3 σ 11 o0 33 0 → (((σ1 11 o0 2) = 2 → (∀ σ2, σ2 = up3 σ1 11 o0 27 1 → (w11_output σ2 o0 (fun σ3 => (Q σ3))))) ∧ (¬ (σ1 11 o0 2) = 2 → (w11_gone σ1 o0 (fun σ4 => (Q σ4)))))
set_option maxHeartbeats 4000000 in
theorem m11_lifeOut (l : Launch) (G : Gh) (a1 : Nat → Nat → Nat) (τ : St) (σ : St) (o0 : Nat) (ho0 : o0 < 16) (Q : St → Prop) (hw : w11_lifeOut σ o0 Q) : Met l yX11_lifeOut (ws_ yX11_lifeOut cX11_lifeOut 1 none) rmX11_lifeOut (PcS G a1 (cmb σ τ) [.ref (ga G 11 o0)]) (QVs G a1 (fun u => cmb u τ) Q) 0 0 (gA G) := by
  refine met_w (by decide) (Nat.le_of_ble_eq_true rfl) ?_
  intro p e s m below meth c ls C hH hS hl
  have C : Cx p e s m _ meth c cX11_lifeOut 1 none "WebHost$Connection" G := C
  have hl : lv_has ls 1 [(0, .ref (ga G 11 o0))] := hl
  have hx := C.1
  have hb := C.2.1
  have hown := C.2.2.2.2.2.1
  have hts := C.2.2.2.2.2.2.1
  obtain ⟨locs, hlocs⟩ : ∃ z : List Loc, z = [] := ⟨_, rfl⟩
  obtain ⟨H, hHe⟩ : ∃ z : Heap, z = s.heap := ⟨_, rfl⟩
  have hH : Hd G a1 (cmb σ τ) H := by rw [hHe]; exact hH
  have hS : va_S (gA G) s.heap H locs := by rw [hHe, hlocs]; exact hS
  refine W.heap0 hHe.symm hlocs.symm ?_
  refine lv_aload_n hx hb dX11_lifeOut_0 rfl (lv_at hl 0 rfl) ?_
  refine lv_iconst (v := 0) hx hb dX11_lifeOut_1 (by decide) ?_
  refine p11_33 C hH hS ho0 (Or.inl rfl) q655 dX11_lifeOut_2 (fun σ1 e1 H locs hH hS => ?_)
  have hw := hw σ1 e1
  refine lv_aload_n hx hb dX11_lifeOut_5 rfl (lv_at hl 0 rfl) ?_
  refine g11_2 C hH ho0 q610 dX11_lifeOut_6 ?_
  refine lv_iconst (v := 2) hx hb dX11_lifeOut_9 (by decide) ?_
  refine lv_icmp_eq (tgt := 18) hx hb dX11_lifeOut_10 (by decide) (fun h => ?_) (fun h => ?_)
  · have hw := hw.1 h
    refine lv_aload_n hx hb dX11_lifeOut_18 rfl (lv_at hl 0 rfl) ?_
    refine lv_iconst (v := 1) hx hb dX11_lifeOut_19 (by decide) ?_
    refine p11_27 C hH hS ho0 (Or.inr rfl) q649 dX11_lifeOut_20 (fun σ2 e2 H locs hH hS => ?_)
    have hw := hw σ2 e2
    refine lv_aload_n hx hb dX11_lifeOut_23 rfl (lv_at hl 0 rfl) ?_
    refine kc_v (rn_v (As := []) (rest := []) C hH hS (by decide) rfl ho0 (m11_output l G a1 τ σ2 o0 ho0 _ hw) (cwV 0 hts (lw_V q1057 q1059 qs20 q168 q1060) rfl rfl rfl kX11_output ⟨Nat.le_of_ble_eq_true rfl, Nat.le_of_ble_eq_true rfl⟩) rfl hl.1 rfl (Nat.le_of_ble_eq_true rfl) dX11_lifeOut_24 ⟨Nat.le_of_ble_eq_true rfl, Nat.le_of_ble_eq_true rfl⟩) hS (fun σ3 H locs hw hH hS => ?_)
    exact rt_v C hH hS hw dX11_lifeOut_27
  have hw := hw.2 h
  refine lv_aload_n hx hb dX11_lifeOut_13 rfl (lv_at hl 0 rfl) ?_
  refine kc_v (rn_v (As := []) (rest := []) C hH hS (by decide) rfl ho0 (m11_gone l G a1 τ σ1 o0 ho0 _ hw) (cwV 0 hts (lw_V q1018 q885 qs5 q168 q886) rfl rfl rfl kX11_gone ⟨Nat.le_of_ble_eq_true rfl, Nat.le_of_ble_eq_true rfl⟩) rfl hl.1 rfl (Nat.le_of_ble_eq_true rfl) dX11_lifeOut_14 ⟨Nat.le_of_ble_eq_true rfl, Nat.le_of_ble_eq_true rfl⟩) hS (fun σ4 H locs hw hH hS => ?_)
  exact rt_v C hH hS hw dX11_lifeOut_17
/-! WebHostModel.lifeEnds(LWebHostModel$Connection;)V -/
abbrev cX14_lifeEnds : ByteArray := prog_17_method_68_code
def yX14_lifeEnds : MethodName := ⟨RX14, "lifeEnds", "(LWebHostModel$Connection;)V"⟩
theorem dX14_lifeEnds_0 : decode cX14_lifeEnds 0 = .ok (.aload_n 1, 1) := by decide +kernel
theorem dX14_lifeEnds_1 : decode cX14_lifeEnds 1 = .ok (.getfield 152, 3) := by decide +kernel
theorem dX14_lifeEnds_4 : decode cX14_lifeEnds 4 = .ok (.iconst 2, 1) := by decide +kernel
theorem dX14_lifeEnds_5 : decode cX14_lifeEnds 5 = .ok (.if_icmp .ne 16, 3) := by decide +kernel
theorem dX14_lifeEnds_8 : decode cX14_lifeEnds 8 = .ok (.aload_n 1, 1) := by decide +kernel
theorem dX14_lifeEnds_9 : decode cX14_lifeEnds 9 = .ok (.iconst 1, 1) := by decide +kernel
theorem dX14_lifeEnds_10 : decode cX14_lifeEnds 10 = .ok (.putfield 418, 3) := by decide +kernel
theorem dX14_lifeEnds_13 : decode cX14_lifeEnds 13 = .ok (.aload_n 0, 1) := by decide +kernel
theorem dX14_lifeEnds_14 : decode cX14_lifeEnds 14 = .ok (.aload_n 1, 1) := by decide +kernel
theorem dX14_lifeEnds_15 : decode cX14_lifeEnds 15 = .ok (.invokevirtual 514, 3) := by decide +kernel
theorem dX14_lifeEnds_18 : decode cX14_lifeEnds 18 = .ok (.goto 8, 3) := by decide +kernel
theorem dX14_lifeEnds_21 : decode cX14_lifeEnds 21 = .ok (.aload_n 0, 1) := by decide +kernel
theorem dX14_lifeEnds_22 : decode cX14_lifeEnds 22 = .ok (.aload_n 1, 1) := by decide +kernel
theorem dX14_lifeEnds_23 : decode cX14_lifeEnds 23 = .ok (.invokevirtual 502, 3) := by decide +kernel
theorem dX14_lifeEnds_26 : decode cX14_lifeEnds 26 = .ok (.return_, 1) := by decide +kernel
def rmX14_lifeEnds : Room := { frames := 9, cells := 0, slots := 0, locals := 233 }
theorem kX14_lifeEnds : yX14_lifeEnds.cls = "WebHostModel" ∧ yX14_lifeEnds.cls ≠ "java/lang/invoke/MethodHandle" ∧ yX14_lifeEnds.cls ≠ "java/lang/invoke/VarHandle" ∧ (parseMethodDescriptor yX14_lifeEnds.desc).map (fun d => d.parameters.length) = some 1 := by decide +kernel
def w14_lifeEnds (σ : St) (o1 : Nat) (Q : St → Prop) : Prop := (¬ (σ 15 o1 0) = 2 → (w14_gone σ o1 (fun σ1 => (Q σ1)))) ∧ ((σ 15 o1 0) = 2 → (∀ σ2, σ2 = up3 σ 15 o1 30 1 → (w14_sendAll σ2 o1 (fun σ3 => (Q σ3)))))
set_option maxHeartbeats 4000000 in
theorem m14_lifeEnds (l : Launch) (G : Gh) (a1 : Nat → Nat → Nat) (τ : St) (σ : St) (o1 : Nat) (ho1 : o1 < 16) (Q : St → Prop) (hw : w14_lifeEnds σ o1 Q) : Met l yX14_lifeEnds (ws_ yX14_lifeEnds cX14_lifeEnds 2 none) rmX14_lifeEnds (PcS G a1 (cmb τ σ) [.ref (ga G 14 0), .ref (ga G 15 o1)]) (QVs G a1 (fun u => cmb τ u) Q) 0 0 (gA G) := by
  refine met_w (by decide) (Nat.le_of_ble_eq_true rfl) ?_
  intro p e s m below meth c ls C hH hS hl
  have C : Cx p e s m _ meth c cX14_lifeEnds 2 none "WebHostModel" G := C
  have hl : lv_has ls 2 [(0, .ref (ga G 14 0)), (1, .ref (ga G 15 o1))] := hl
  have hx := C.1
  have hb := C.2.1
  have hown := C.2.2.2.2.2.1
  have hts := C.2.2.2.2.2.2.1
  obtain ⟨locs, hlocs⟩ : ∃ z : List Loc, z = [] := ⟨_, rfl⟩
  obtain ⟨H, hHe⟩ : ∃ z : Heap, z = s.heap := ⟨_, rfl⟩
  have hH : Hd G a1 (cmb τ σ) H := by rw [hHe]; exact hH
  have hS : va_S (gA G) s.heap H locs := by rw [hHe, hlocs]; exact hS
  refine W.heap0 hHe.symm hlocs.symm ?_
  refine lv_aload_n hx hb dX14_lifeEnds_0 rfl (lv_at hl 1 rfl) ?_
  refine g15_0 C hH ho1 q1707 dX14_lifeEnds_1 ?_
  refine lv_iconst (v := 2) hx hb dX14_lifeEnds_4 (by decide) ?_
  refine lv_icmp_ne (tgt := 21) hx hb dX14_lifeEnds_5 (by decide) (fun h => ?_) (fun h => ?_)
  · have hw := hw.1 h
    refine lv_aload_n hx hb dX14_lifeEnds_21 rfl (lv_at hl 0 rfl) ?_
    refine lv_aload_n hx hb dX14_lifeEnds_22 rfl (lv_at hl 1 rfl) ?_
    refine kc_v (rn_v (As := [.ref (ga G 15 o1)]) (rest := []) C hH hS (by decide) rfl (by decide) (m14_gone l G a1 τ σ o1 ho1 _ hw) (cwV 1 hts (lw_V q2277 q2279 qs94 q171 q2280) rfl rfl rfl kX14_gone ⟨Nat.le_of_ble_eq_true rfl, Nat.le_of_ble_eq_true rfl⟩) rfl hl.1 rfl (Nat.le_of_ble_eq_true rfl) dX14_lifeEnds_23 ⟨Nat.le_of_ble_eq_true rfl, Nat.le_of_ble_eq_true rfl⟩) hS (fun σ1 H locs hw hH hS => ?_)
    exact rt_v C hH hS hw dX14_lifeEnds_26
  have hw := hw.2 h
  refine lv_aload_n hx hb dX14_lifeEnds_8 rfl (lv_at hl 1 rfl) ?_
  refine lv_iconst (v := 1) hx hb dX14_lifeEnds_9 (by decide) ?_
  refine p15_30 C hH hS ho1 (Or.inr rfl) q1742 dX14_lifeEnds_10 (fun σ2 e2 H locs hH hS => ?_)
  have hw := hw σ2 e2
  refine lv_aload_n hx hb dX14_lifeEnds_13 rfl (lv_at hl 0 rfl) ?_
  refine lv_aload_n hx hb dX14_lifeEnds_14 rfl (lv_at hl 1 rfl) ?_
  refine kc_v (rn_v (As := [.ref (ga G 15 o1)]) (rest := []) C hH hS (by decide) rfl (by decide) (m14_sendAll l G a1 τ σ2 o1 ho1 _ hw) (cwV 1 hts (lw_V q2321 q2323 qs103 q171 q2324) rfl rfl rfl kX14_sendAll ⟨Nat.le_of_ble_eq_true rfl, Nat.le_of_ble_eq_true rfl⟩) rfl hl.1 rfl (Nat.le_of_ble_eq_true rfl) dX14_lifeEnds_15 ⟨Nat.le_of_ble_eq_true rfl, Nat.le_of_ble_eq_true rfl⟩) hS (fun σ3 H locs hw hH hS => ?_)
  refine lv_goto (tgt := 26) hx hb dX14_lifeEnds_18 (by decide) ?_
  exact rt_v C hH hS hw dX14_lifeEnds_26
/-! WebHost.act(I)V -/
abbrev cX0_act : ByteArray := prog_1_method_9_code
def yX0_act : MethodName := ⟨RX0, "act", "(I)V"⟩
theorem dX0_act_0 : decode cX0_act 0 = .ok (.aload_n 0, 1) := by decide +kernel
theorem dX0_act_1 : decode cX0_act 1 = .ok (.getfield 33, 3) := by decide +kernel
theorem dX0_act_4 : decode cX0_act 4 = .ok (.invokevirtual 144, 3) := by decide +kernel
theorem dX0_act_7 : decode cX0_act 7 = .ok (.iload_n 1, 1) := by decide +kernel
theorem dX0_act_8 : decode cX0_act 8 = .ok (.if_icmp .ne 13, 3) := by decide +kernel
theorem dX0_act_11 : decode cX0_act 11 = .ok (.aload_n 0, 1) := by decide +kernel
theorem dX0_act_12 : decode cX0_act 12 = .ok (.getfield 33, 3) := by decide +kernel
theorem dX0_act_15 : decode cX0_act 15 = .ok (.invokevirtual 164, 3) := by decide +kernel
theorem dX0_act_18 : decode cX0_act 18 = .ok (.goto 92, 3) := by decide +kernel
theorem dX0_act_21 : decode cX0_act 21 = .ok (.aload_n 0, 1) := by decide +kernel
theorem dX0_act_22 : decode cX0_act 22 = .ok (.getfield 49, 3) := by decide +kernel
theorem dX0_act_25 : decode cX0_act 25 = .ok (.invokevirtual 147, 3) := by decide +kernel
theorem dX0_act_28 : decode cX0_act 28 = .ok (.iload_n 1, 1) := by decide +kernel
theorem dX0_act_29 : decode cX0_act 29 = .ok (.if_icmp .ne 13, 3) := by decide +kernel
theorem dX0_act_32 : decode cX0_act 32 = .ok (.aload_n 0, 1) := by decide +kernel
theorem dX0_act_33 : decode cX0_act 33 = .ok (.getfield 49, 3) := by decide +kernel
theorem dX0_act_36 : decode cX0_act 36 = .ok (.invokevirtual 166, 3) := by decide +kernel
theorem dX0_act_39 : decode cX0_act 39 = .ok (.goto 71, 3) := by decide +kernel
theorem dX0_act_42 : decode cX0_act 42 = .ok (.iconst 0, 1) := by decide +kernel
theorem dX0_act_43 : decode cX0_act 43 = .ok (.istore_n 2, 1) := by decide +kernel
theorem dX0_act_44 : decode cX0_act 44 = .ok (.aload_n 0, 1) := by decide +kernel
theorem dX0_act_45 : decode cX0_act 45 = .ok (.getfield 73, 3) := by decide +kernel
theorem dX0_act_48 : decode cX0_act 48 = .ok (.iload_n 2, 1) := by decide +kernel
theorem dX0_act_49 : decode cX0_act 49 = .ok (.aaload, 1) := by decide +kernel
theorem dX0_act_50 : decode cX0_act 50 = .ok (.invokevirtual 154, 3) := by decide +kernel
theorem dX0_act_53 : decode cX0_act 53 = .ok (.iload_n 1, 1) := by decide +kernel
theorem dX0_act_54 : decode cX0_act 54 = .ok (.if_icmp .eq 22, 3) := by decide +kernel
theorem dX0_act_57 : decode cX0_act 57 = .ok (.aload_n 0, 1) := by decide +kernel
theorem dX0_act_58 : decode cX0_act 58 = .ok (.getfield 73, 3) := by decide +kernel
theorem dX0_act_61 : decode cX0_act 61 = .ok (.iload_n 2, 1) := by decide +kernel
theorem dX0_act_62 : decode cX0_act 62 = .ok (.aaload, 1) := by decide +kernel
theorem dX0_act_63 : decode cX0_act 63 = .ok (.invokevirtual 157, 3) := by decide +kernel
theorem dX0_act_66 : decode cX0_act 66 = .ok (.iload_n 1, 1) := by decide +kernel
theorem dX0_act_67 : decode cX0_act 67 = .ok (.if_icmp .eq 9, 3) := by decide +kernel
theorem dX0_act_70 : decode cX0_act 70 = .ok (.iinc 2 1, 3) := by decide +kernel
theorem dX0_act_73 : decode cX0_act 73 = .ok (.goto (-29), 3) := by decide +kernel
theorem dX0_act_76 : decode cX0_act 76 = .ok (.aload_n 0, 1) := by decide +kernel
theorem dX0_act_77 : decode cX0_act 77 = .ok (.getfield 73, 3) := by decide +kernel
theorem dX0_act_80 : decode cX0_act 80 = .ok (.iload_n 2, 1) := by decide +kernel
theorem dX0_act_81 : decode cX0_act 81 = .ok (.aaload, 1) := by decide +kernel
theorem dX0_act_82 : decode cX0_act 82 = .ok (.invokevirtual 154, 3) := by decide +kernel
theorem dX0_act_85 : decode cX0_act 85 = .ok (.iload_n 1, 1) := by decide +kernel
theorem dX0_act_86 : decode cX0_act 86 = .ok (.if_icmp .ne 15, 3) := by decide +kernel
theorem dX0_act_89 : decode cX0_act 89 = .ok (.aload_n 0, 1) := by decide +kernel
theorem dX0_act_90 : decode cX0_act 90 = .ok (.getfield 73, 3) := by decide +kernel
theorem dX0_act_93 : decode cX0_act 93 = .ok (.iload_n 2, 1) := by decide +kernel
theorem dX0_act_94 : decode cX0_act 94 = .ok (.aaload, 1) := by decide +kernel
theorem dX0_act_95 : decode cX0_act 95 = .ok (.invokevirtual 167, 3) := by decide +kernel
theorem dX0_act_98 : decode cX0_act 98 = .ok (.goto 12, 3) := by decide +kernel
theorem dX0_act_101 : decode cX0_act 101 = .ok (.aload_n 0, 1) := by decide +kernel
theorem dX0_act_102 : decode cX0_act 102 = .ok (.getfield 73, 3) := by decide +kernel
theorem dX0_act_105 : decode cX0_act 105 = .ok (.iload_n 2, 1) := by decide +kernel
theorem dX0_act_106 : decode cX0_act 106 = .ok (.aaload, 1) := by decide +kernel
theorem dX0_act_107 : decode cX0_act 107 = .ok (.invokevirtual 170, 3) := by decide +kernel
theorem dX0_act_110 : decode cX0_act 110 = .ok (.return_, 1) := by decide +kernel
def rmX0_act : Room := { frames := 10, cells := 0, slots := 0, locals := 256 }
theorem kX0_act : yX0_act.cls = "WebHost" ∧ yX0_act.cls ≠ "java/lang/invoke/MethodHandle" ∧ yX0_act.cls ≠ "java/lang/invoke/VarHandle" ∧ (parseMethodDescriptor yX0_act.desc).map (fun d => d.parameters.length) = some 1 := by decide +kernel
def w0_act_L44 (σ : St) (x1 : Int32) (Q : St → Prop) (K76 : Int32 → Prop) : Nat → Int32 → Prop
  | 0, _ => False
  | n + 1, x2 => vp_in x2 16 ∧ (w11_timerDue σ x2.toNatClampNeg (fun r4 => ((r4 = x1 → K76 x2) ∧ (¬ r4 = x1 → (vp_in x2 16 ∧ (w11_lifeDue σ x2.toNatClampNeg (fun r6 => ((r6 = x1 → K76 x2) ∧ (¬ r6 = x1 → (w0_act_L44 σ x1 Q K76 n (x2 + 1)))))))))))
set_option maxHeartbeats 4000000 in
theorem k0_act_L44 {p : Program} {l : Launch} {e : Env} {s : State} {m : MethodId} {args : Array Value} {below : List Frame} {meth : Method} {c : Code} {G : Gh} {a1 : Nat → Nat → Nat} {τ : St} {Q : St → Prop} {K76 : Int32 → Prop} (C : Cx p e s m args meth c cX0_act 3 none "WebHost" G) (σ : St) (x1 : Int32) :
    ∀ (n : Nat) (x2 : Int32), w0_act_L44 σ x1 Q K76 n x2 → ∀ (H : Heap) (locs : List Loc) (ls : Array Slot), Hd G a1 (cmb σ τ) H → va_S (gA G) s.heap H locs → lv_has ls 3 [(0, .ref (ga G 0 0)), (1, .int x1), (2, .int x2)] → (∀ (x2 : Int32), K76 x2 → ∀ (H : Heap) (locs : List Loc) (ls : Array Slot), Hd G a1 (cmb σ τ) H → va_S (gA G) s.heap H locs → lv_has ls 3 [(0, .ref (ga G 0 0)), (1, .int x1), (2, .int x2)] → W p l e rmX0_act s m args below meth c H locs 0 0 (MQ below (QVs G a1 (fun u => cmb u τ) Q) args s 0 0 (gA G)) (F0 m 76 ls [])) → W p l e rmX0_act s m args below meth c H locs 0 0 (MQ below (QVs G a1 (fun u => cmb u τ) Q) args s 0 0 (gA G)) (F0 m 44 ls []) := by
  have hx := C.1
  have hb := C.2.1
  have hown := C.2.2.2.2.2.1
  have hts := C.2.2.2.2.2.2.1
  intro n
  induction n with
  | zero =>
    intro x2 hw
    exact False.elim hw
  | succ n ih =>
    intro x2 hw H locs ls hH hS hl hK76
    refine lv_aload_n hx hb dX0_act_44 rfl (lv_at hl 0 rfl) ?_
    refine g0_9 C hH q752 dX0_act_45 ?_
    refine lv_iload_n hx hb dX0_act_48 rfl (lv_at hl 2 rfl) ?_
    have hq3 := vp_lt hw.1
    refine l45 C hH hw.1 dX0_act_49 ?_
    have hw := hw.2
    refine kc_ip (rn_vp (As := []) (rest := []) C hH hS (by decide) rfl hq3 (m11_timerDue l G a1 τ σ H x2.toNatClampNeg hq3 _ hw) (cwV 0 hts (lw_V q923 q924 q925 q168 q926) rfl rfl rfl kX11_timerDue ⟨Nat.le_of_ble_eq_true rfl, Nat.le_of_ble_eq_true rfl⟩) rfl hl.1 rfl (Nat.le_of_ble_eq_true rfl) dX0_act_50 ⟨Nat.le_of_ble_eq_true rfl, Nat.le_of_ble_eq_true rfl⟩) hS (fun r4 locs hw hS => ?_)
    refine lv_iload_n hx hb dX0_act_53 rfl (lv_at hl 1 rfl) ?_
    refine lv_icmp_eq (tgt := 76) hx hb dX0_act_54 (by decide) (fun h => ?_) (fun h => ?_)
    · have hw := hw.1 h
      exact hK76 x2 hw H locs ls hH hS (lv_sub hl [0, 1, 2] rfl)
    have hw := hw.2 h
    refine lv_aload_n hx hb dX0_act_57 rfl (lv_at hl 0 rfl) ?_
    refine g0_9 C hH q752 dX0_act_58 ?_
    refine lv_iload_n hx hb dX0_act_61 rfl (lv_at hl 2 rfl) ?_
    have hq5 := vp_lt hw.1
    refine l45 C hH hw.1 dX0_act_62 ?_
    have hw := hw.2
    refine kc_ip (rn_vp (As := []) (rest := []) C hH hS (by decide) rfl hq5 (m11_lifeDue l G a1 τ σ H x2.toNatClampNeg hq5 _ hw) (cwV 0 hts (lw_V q928 q929 q930 q168 q931) rfl rfl rfl kX11_lifeDue ⟨Nat.le_of_ble_eq_true rfl, Nat.le_of_ble_eq_true rfl⟩) rfl hl.1 rfl (Nat.le_of_ble_eq_true rfl) dX0_act_63 ⟨Nat.le_of_ble_eq_true rfl, Nat.le_of_ble_eq_true rfl⟩) hS (fun r6 locs hw hS => ?_)
    refine lv_iload_n hx hb dX0_act_66 rfl (lv_at hl 1 rfl) ?_
    refine lv_icmp_eq (tgt := 76) hx hb dX0_act_67 (by decide) (fun h => ?_) (fun h => ?_)
    · have hw := hw.1 h
      exact hK76 x2 hw H locs ls hH hS (lv_sub hl [0, 1, 2] rfl)
    have hw := hw.2 h
    refine lv_iinc (v := x2 + 1) (lv' := [(2, .int (x2 + 1)), (0, .ref (ga G 0 0)), (1, .int x1)]) hx hb dX0_act_70 hl (k := 2) rfl rfl (by decide) rfl (fun ls hl => ?_)
    refine lv_goto (tgt := 44) hx hb dX0_act_73 (by decide) ?_
    exact ih (x2 + 1) hw H locs ls hH hS (lv_sub hl [1, 2, 0] rfl) hK76
def w0_act_J76 (σ : St) (x1 : Int32) (x2 : Int32) (Q : St → Prop) : Prop := vp_in x2 16 ∧ (w11_timerDue σ x2.toNatClampNeg (fun r10 => ((¬ r10 = x1 → (vp_in x2 16 ∧ (w11_lifeOut σ x2.toNatClampNeg (fun σ12 => (Q σ12))))) ∧ (r10 = x1 → (vp_in x2 16 ∧ (w11_timerOut σ x2.toNatClampNeg (fun σ14 => (Q σ14))))))))
set_option maxHeartbeats 4000000 in
theorem k0_act_J76 {p : Program} {l : Launch} {e : Env} {s : State} {m : MethodId} {args : Array Value} {below : List Frame} {meth : Method} {c : Code} {G : Gh} {a1 : Nat → Nat → Nat} {τ : St} {Q : St → Prop} (C : Cx p e s m args meth c cX0_act 3 none "WebHost" G) (σ : St) (x1 : Int32) (x2 : Int32) (hw : w0_act_J76 σ x1 x2 Q) (H : Heap) (locs : List Loc) (ls : Array Slot) (hH : Hd G a1 (cmb σ τ) H) (hS : va_S (gA G) s.heap H locs) (hl : lv_has ls 3 [(0, .ref (ga G 0 0)), (1, .int x1), (2, .int x2)]) : W p l e rmX0_act s m args below meth c H locs 0 0 (MQ below (QVs G a1 (fun u => cmb u τ) Q) args s 0 0 (gA G)) (F0 m 76 ls []) := by
  have hx := C.1
  have hb := C.2.1
  have hown := C.2.2.2.2.2.1
  have hts := C.2.2.2.2.2.2.1
  refine lv_aload_n hx hb dX0_act_76 rfl (lv_at hl 0 rfl) ?_
  refine g0_9 C hH q752 dX0_act_77 ?_
  refine lv_iload_n hx hb dX0_act_80 rfl (lv_at hl 2 rfl) ?_
  have hq9 := vp_lt hw.1
  refine l45 C hH hw.1 dX0_act_81 ?_
  have hw := hw.2
  refine kc_ip (rn_vp (As := []) (rest := []) C hH hS (by decide) rfl hq9 (m11_timerDue l G a1 τ σ H x2.toNatClampNeg hq9 _ hw) (cwV 0 hts (lw_V q923 q924 q925 q168 q926) rfl rfl rfl kX11_timerDue ⟨Nat.le_of_ble_eq_true rfl, Nat.le_of_ble_eq_true rfl⟩) rfl hl.1 rfl (Nat.le_of_ble_eq_true rfl) dX0_act_82 ⟨Nat.le_of_ble_eq_true rfl, Nat.le_of_ble_eq_true rfl⟩) hS (fun r10 locs hw hS => ?_)
  refine lv_iload_n hx hb dX0_act_85 rfl (lv_at hl 1 rfl) ?_
  refine lv_icmp_ne (tgt := 101) hx hb dX0_act_86 (by decide) (fun h => ?_) (fun h => ?_)
  · have hw := hw.1 h
    refine lv_aload_n hx hb dX0_act_101 rfl (lv_at hl 0 rfl) ?_
    refine g0_9 C hH q752 dX0_act_102 ?_
    refine lv_iload_n hx hb dX0_act_105 rfl (lv_at hl 2 rfl) ?_
    have hq11 := vp_lt hw.1
    refine l45 C hH hw.1 dX0_act_106 ?_
    have hw := hw.2
    refine kc_v (rn_v (As := []) (rest := []) C hH hS (by decide) rfl hq11 (m11_lifeOut l G a1 τ σ x2.toNatClampNeg hq11 _ hw) (cwV 0 hts (lw_V q1053 q1054 q1055 q168 q1056) rfl rfl rfl kX11_lifeOut ⟨Nat.le_of_ble_eq_true rfl, Nat.le_of_ble_eq_true rfl⟩) rfl hl.1 rfl (Nat.le_of_ble_eq_true rfl) dX0_act_107 ⟨Nat.le_of_ble_eq_true rfl, Nat.le_of_ble_eq_true rfl⟩) hS (fun σ12 H locs hw hH hS => ?_)
    exact rt_v C hH hS hw dX0_act_110
  have hw := hw.2 h
  refine lv_aload_n hx hb dX0_act_89 rfl (lv_at hl 0 rfl) ?_
  refine g0_9 C hH q752 dX0_act_90 ?_
  refine lv_iload_n hx hb dX0_act_93 rfl (lv_at hl 2 rfl) ?_
  have hq13 := vp_lt hw.1
  refine l45 C hH hw.1 dX0_act_94 ?_
  have hw := hw.2
  refine kc_v (rn_v (As := []) (rest := []) C hH hS (by decide) rfl hq13 (m11_timerOut l G a1 τ σ x2.toNatClampNeg hq13 _ hw) (cwV 0 hts (lw_V q968 q969 q970 q168 q971) rfl rfl rfl kX11_timerOut ⟨Nat.le_of_ble_eq_true rfl, Nat.le_of_ble_eq_true rfl⟩) rfl hl.1 rfl (Nat.le_of_ble_eq_true rfl) dX0_act_95 ⟨Nat.le_of_ble_eq_true rfl, Nat.le_of_ble_eq_true rfl⟩) hS (fun σ14 H locs hw hH hS => ?_)
  refine lv_goto (tgt := 110) hx hb dX0_act_98 (by decide) ?_
  exact rt_v C hH hS hw dX0_act_110
def w0_act (σ : St) (x1 : Int32) (Q : St → Prop) : Prop := w3_due σ (fun r1 => ((¬ r1 = x1 → (w6_due σ (fun r2 => ((¬ r2 = x1 → (∃ z7, w0_act_L44 σ x1 Q (fun x2_8 => w0_act_J76 σ x1 x2_8 Q) z7 0)) ∧ (r2 = x1 → (w6_act σ (fun σ15 => (Q σ15)))))))) ∧ (r1 = x1 → (w3_act σ (fun σ16 => (Q σ16))))))
set_option maxHeartbeats 4000000 in
theorem m0_act (l : Launch) (G : Gh) (a1 : Nat → Nat → Nat) (τ : St) (σ : St) (x1 : Int32) (Q : St → Prop) (hw : w0_act σ x1 Q) : Met l yX0_act (ws_ yX0_act cX0_act 3 none) rmX0_act (PcS G a1 (cmb σ τ) [.ref (ga G 0 0), .int x1]) (QVs G a1 (fun u => cmb u τ) Q) 0 0 (gA G) := by
  refine met_w (by decide) (Nat.le_of_ble_eq_true rfl) ?_
  intro p e s m below meth c ls C hH hS hl
  have C : Cx p e s m _ meth c cX0_act 3 none "WebHost" G := C
  have hl : lv_has ls 3 [(0, .ref (ga G 0 0)), (1, .int x1)] := hl
  have hx := C.1
  have hb := C.2.1
  have hown := C.2.2.2.2.2.1
  have hts := C.2.2.2.2.2.2.1
  obtain ⟨locs, hlocs⟩ : ∃ z : List Loc, z = [] := ⟨_, rfl⟩
  obtain ⟨H, hHe⟩ : ∃ z : Heap, z = s.heap := ⟨_, rfl⟩
  have hH : Hd G a1 (cmb σ τ) H := by rw [hHe]; exact hH
  have hS : va_S (gA G) s.heap H locs := by rw [hHe, hlocs]; exact hS
  refine W.heap0 hHe.symm hlocs.symm ?_
  refine lv_aload_n hx hb dX0_act_0 rfl (lv_at hl 0 rfl) ?_
  refine g0_4 C hH q747 dX0_act_1 ?_
  refine kc_ip (rn_vp (As := []) (rest := []) C hH hS (by decide) rfl (by decide) (m3_due l G a1 τ σ H _ hw) (cwV 0 hts (lw_V q905 q906 q907 q160 q908) rfl rfl rfl kX3_due ⟨Nat.le_of_ble_eq_true rfl, Nat.le_of_ble_eq_true rfl⟩) rfl hl.1 rfl (Nat.le_of_ble_eq_true rfl) dX0_act_4 ⟨Nat.le_of_ble_eq_true rfl, Nat.le_of_ble_eq_true rfl⟩) hS (fun r1 locs hw hS => ?_)
  refine lv_iload_n hx hb dX0_act_7 rfl (lv_at hl 1 rfl) ?_
  refine lv_icmp_ne (tgt := 21) hx hb dX0_act_8 (by decide) (fun h => ?_) (fun h => ?_)
  · have hw := hw.1 h
    refine lv_aload_n hx hb dX0_act_21 rfl (lv_at hl 0 rfl) ?_
    refine g0_6 C hH q749 dX0_act_22 ?_
    refine kc_ip (rn_vp (As := []) (rest := []) C hH hS (by decide) rfl (by decide) (m6_due l G a1 τ σ H _ hw) (cwV 0 hts (lw_V q917 q918 q919 q163 q920) rfl rfl rfl kX6_due ⟨Nat.le_of_ble_eq_true rfl, Nat.le_of_ble_eq_true rfl⟩) rfl hl.1 rfl (Nat.le_of_ble_eq_true rfl) dX0_act_25 ⟨Nat.le_of_ble_eq_true rfl, Nat.le_of_ble_eq_true rfl⟩) hS (fun r2 locs hw hS => ?_)
    refine lv_iload_n hx hb dX0_act_28 rfl (lv_at hl 1 rfl) ?_
    refine lv_icmp_ne (tgt := 42) hx hb dX0_act_29 (by decide) (fun h => ?_) (fun h => ?_)
    · have hw := hw.1 h
      refine lv_iconst (v := 0) hx hb dX0_act_42 (by decide) ?_
      refine lv_istore_n (lv' := [(2, .int 0), (0, .ref (ga G 0 0)), (1, .int x1)]) hx hb dX0_act_43 rfl hl (by decide) rfl (fun ls hl => ?_)
      obtain ⟨n7, hw⟩ := hw
      refine k0_act_L44 C σ x1 n7 0 hw H locs ls hH hS (lv_sub hl [1, 2, 0] rfl) (fun x2_8 hw H locs ls hH hS hl => ?_)
      exact k0_act_J76 C σ x1 x2_8 hw H locs ls hH hS (lv_sub hl [0, 1, 2] rfl)
    have hw := hw.2 h
    refine lv_aload_n hx hb dX0_act_32 rfl (lv_at hl 0 rfl) ?_
    refine g0_6 C hH q749 dX0_act_33 ?_
    refine kc_v (rn_v (As := []) (rest := []) C hH hS (by decide) rfl (by decide) (m6_act l G a1 τ σ _ hw) (cwV 0 hts (lw_V q960 q961 q962 q163 q963) rfl rfl rfl kX6_act ⟨Nat.le_of_ble_eq_true rfl, Nat.le_of_ble_eq_true rfl⟩) rfl hl.1 rfl (Nat.le_of_ble_eq_true rfl) dX0_act_36 ⟨Nat.le_of_ble_eq_true rfl, Nat.le_of_ble_eq_true rfl⟩) hS (fun σ15 H locs hw hH hS => ?_)
    refine lv_goto (tgt := 110) hx hb dX0_act_39 (by decide) ?_
    exact rt_v C hH hS hw dX0_act_110
  have hw := hw.2 h
  refine lv_aload_n hx hb dX0_act_11 rfl (lv_at hl 0 rfl) ?_
  refine g0_4 C hH q747 dX0_act_12 ?_
  refine kc_v (rn_v (As := []) (rest := []) C hH hS (by decide) rfl (by decide) (m3_act l G a1 τ σ _ hw) (cwV 0 hts (lw_V q936 q937 q938 q160 q939) rfl rfl rfl kX3_act ⟨Nat.le_of_ble_eq_true rfl, Nat.le_of_ble_eq_true rfl⟩) rfl hl.1 rfl (Nat.le_of_ble_eq_true rfl) dX0_act_15 ⟨Nat.le_of_ble_eq_true rfl, Nat.le_of_ble_eq_true rfl⟩) hS (fun σ16 H locs hw hH hS => ?_)
  refine lv_goto (tgt := 110) hx hb dX0_act_18 (by decide) ?_
  exact rt_v C hH hS hw dX0_act_110
/-! WebHostModel.passTo(I)V -/
abbrev cX14_passTo : ByteArray := prog_17_method_70_code
def yX14_passTo : MethodName := ⟨RX14, "passTo", "(I)V"⟩
theorem dX14_passTo_0 : decode cX14_passTo 0 = .ok (.iconst 1, 1) := by decide +kernel
theorem dX14_passTo_1 : decode cX14_passTo 1 = .ok (.istore_n 2, 1) := by decide +kernel
theorem dX14_passTo_2 : decode cX14_passTo 2 = .ok (.iload_n 2, 1) := by decide +kernel
theorem dX14_passTo_3 : decode cX14_passTo 3 = .ok (.ifCond .eq 385, 3) := by decide +kernel
theorem dX14_passTo_6 : decode cX14_passTo 6 = .ok (.ldc2_w 573, 3) := by decide +kernel
theorem dX14_passTo_9 : decode cX14_passTo 9 = .ok (.lstore_n 3, 1) := by decide +kernel
theorem dX14_passTo_10 : decode cX14_passTo 10 = .ok (.iconst (-1), 1) := by decide +kernel
theorem dX14_passTo_11 : decode cX14_passTo 11 = .ok (.istore 5, 2) := by decide +kernel
theorem dX14_passTo_13 : decode cX14_passTo 13 = .ok (.iconst 0, 1) := by decide +kernel
theorem dX14_passTo_14 : decode cX14_passTo 14 = .ok (.istore 6, 2) := by decide +kernel
theorem dX14_passTo_16 : decode cX14_passTo 16 = .ok (.iconst 0, 1) := by decide +kernel
theorem dX14_passTo_17 : decode cX14_passTo 17 = .ok (.istore 7, 2) := by decide +kernel
theorem dX14_passTo_19 : decode cX14_passTo 19 = .ok (.iload 7, 2) := by decide +kernel
theorem dX14_passTo_21 : decode cX14_passTo 21 = .ok (.bipush 8, 2) := by decide +kernel
theorem dX14_passTo_23 : decode cX14_passTo 23 = .ok (.if_icmp .ge 77, 3) := by decide +kernel
theorem dX14_passTo_26 : decode cX14_passTo 26 = .ok (.aload_n 0, 1) := by decide +kernel
theorem dX14_passTo_27 : decode cX14_passTo 27 = .ok (.getfield 55, 3) := by decide +kernel
theorem dX14_passTo_30 : decode cX14_passTo 30 = .ok (.iload 7, 2) := by decide +kernel
theorem dX14_passTo_32 : decode cX14_passTo 32 = .ok (.aaload, 1) := by decide +kernel
theorem dX14_passTo_33 : decode cX14_passTo 33 = .ok (.astore 8, 2) := by decide +kernel
theorem dX14_passTo_35 : decode cX14_passTo 35 = .ok (.aload 8, 2) := by decide +kernel
theorem dX14_passTo_37 : decode cX14_passTo 37 = .ok (.getfield 158, 3) := by decide +kernel
theorem dX14_passTo_40 : decode cX14_passTo 40 = .ok (.ifCond .eq 54, 3) := by decide +kernel
theorem dX14_passTo_43 : decode cX14_passTo 43 = .ok (.aload 8, 2) := by decide +kernel
theorem dX14_passTo_45 : decode cX14_passTo 45 = .ok (.invokestatic 575, 3) := by decide +kernel
theorem dX14_passTo_48 : decode cX14_passTo 48 = .ok (.lload_n 3, 1) := by decide +kernel
theorem dX14_passTo_49 : decode cX14_passTo 49 = .ok (.lcmp, 1) := by decide +kernel
theorem dX14_passTo_50 : decode cX14_passTo 50 = .ok (.ifCond .lt 31, 3) := by decide +kernel
theorem dX14_passTo_53 : decode cX14_passTo 53 = .ok (.aload 8, 2) := by decide +kernel
theorem dX14_passTo_55 : decode cX14_passTo 55 = .ok (.invokestatic 575, 3) := by decide +kernel
theorem dX14_passTo_58 : decode cX14_passTo 58 = .ok (.lload_n 3, 1) := by decide +kernel
theorem dX14_passTo_59 : decode cX14_passTo 59 = .ok (.lcmp, 1) := by decide +kernel
theorem dX14_passTo_60 : decode cX14_passTo 60 = .ok (.ifCond .ne 34, 3) := by decide +kernel
theorem dX14_passTo_63 : decode cX14_passTo 63 = .ok (.aload 8, 2) := by decide +kernel
theorem dX14_passTo_65 : decode cX14_passTo 65 = .ok (.getfield 236, 3) := by decide +kernel
theorem dX14_passTo_68 : decode cX14_passTo 68 = .ok (.aload_n 0, 1) := by decide +kernel
theorem dX14_passTo_69 : decode cX14_passTo 69 = .ok (.getfield 55, 3) := by decide +kernel
theorem dX14_passTo_72 : decode cX14_passTo 72 = .ok (.iload 6, 2) := by decide +kernel
theorem dX14_passTo_74 : decode cX14_passTo 74 = .ok (.aaload, 1) := by decide +kernel
theorem dX14_passTo_75 : decode cX14_passTo 75 = .ok (.getfield 236, 3) := by decide +kernel
theorem dX14_passTo_78 : decode cX14_passTo 78 = .ok (.if_icmp .ge 16, 3) := by decide +kernel
theorem dX14_passTo_81 : decode cX14_passTo 81 = .ok (.aload 8, 2) := by decide +kernel
theorem dX14_passTo_83 : decode cX14_passTo 83 = .ok (.invokestatic 575, 3) := by decide +kernel
theorem dX14_passTo_86 : decode cX14_passTo 86 = .ok (.lstore_n 3, 1) := by decide +kernel
theorem dX14_passTo_87 : decode cX14_passTo 87 = .ok (.iconst 0, 1) := by decide +kernel
theorem dX14_passTo_88 : decode cX14_passTo 88 = .ok (.istore 5, 2) := by decide +kernel
theorem dX14_passTo_90 : decode cX14_passTo 90 = .ok (.iload 7, 2) := by decide +kernel
theorem dX14_passTo_92 : decode cX14_passTo 92 = .ok (.istore 6, 2) := by decide +kernel
theorem dX14_passTo_94 : decode cX14_passTo 94 = .ok (.iinc 7 1, 3) := by decide +kernel
theorem dX14_passTo_97 : decode cX14_passTo 97 = .ok (.goto (-78), 3) := by decide +kernel
theorem dX14_passTo_100 : decode cX14_passTo 100 = .ok (.iconst 0, 1) := by decide +kernel
theorem dX14_passTo_101 : decode cX14_passTo 101 = .ok (.istore 7, 2) := by decide +kernel
theorem dX14_passTo_103 : decode cX14_passTo 103 = .ok (.iload 7, 2) := by decide +kernel
theorem dX14_passTo_105 : decode cX14_passTo 105 = .ok (.iconst 4, 1) := by decide +kernel
theorem dX14_passTo_106 : decode cX14_passTo 106 = .ok (.if_icmp .ge 86, 3) := by decide +kernel
theorem dX14_passTo_109 : decode cX14_passTo 109 = .ok (.aload_n 0, 1) := by decide +kernel
theorem dX14_passTo_110 : decode cX14_passTo 110 = .ok (.getfield 61, 3) := by decide +kernel
theorem dX14_passTo_113 : decode cX14_passTo 113 = .ok (.iload 7, 2) := by decide +kernel
theorem dX14_passTo_115 : decode cX14_passTo 115 = .ok (.aaload, 1) := by decide +kernel
theorem dX14_passTo_116 : decode cX14_passTo 116 = .ok (.astore 8, 2) := by decide +kernel
theorem dX14_passTo_118 : decode cX14_passTo 118 = .ok (.aload 8, 2) := by decide +kernel
theorem dX14_passTo_120 : decode cX14_passTo 120 = .ok (.getfield 259, 3) := by decide +kernel
theorem dX14_passTo_123 : decode cX14_passTo 123 = .ok (.i2l, 1) := by decide +kernel
theorem dX14_passTo_124 : decode cX14_passTo 124 = .ok (.ldc2_w 579, 3) := by decide +kernel
theorem dX14_passTo_127 : decode cX14_passTo 127 = .ok (.ladd, 1) := by decide +kernel
theorem dX14_passTo_128 : decode cX14_passTo 128 = .ok (.lstore 9, 2) := by decide +kernel
theorem dX14_passTo_130 : decode cX14_passTo 130 = .ok (.aload 8, 2) := by decide +kernel
theorem dX14_passTo_132 : decode cX14_passTo 132 = .ok (.getfield 159, 3) := by decide +kernel
theorem dX14_passTo_135 : decode cX14_passTo 135 = .ok (.ifCond .eq 51, 3) := by decide +kernel
theorem dX14_passTo_138 : decode cX14_passTo 138 = .ok (.lload 9, 2) := by decide +kernel
theorem dX14_passTo_140 : decode cX14_passTo 140 = .ok (.lload_n 3, 1) := by decide +kernel
theorem dX14_passTo_141 : decode cX14_passTo 141 = .ok (.lcmp, 1) := by decide +kernel
theorem dX14_passTo_142 : decode cX14_passTo 142 = .ok (.ifCond .lt 34, 3) := by decide +kernel
theorem dX14_passTo_145 : decode cX14_passTo 145 = .ok (.lload 9, 2) := by decide +kernel
theorem dX14_passTo_147 : decode cX14_passTo 147 = .ok (.lload_n 3, 1) := by decide +kernel
theorem dX14_passTo_148 : decode cX14_passTo 148 = .ok (.lcmp, 1) := by decide +kernel
theorem dX14_passTo_149 : decode cX14_passTo 149 = .ok (.ifCond .ne 37, 3) := by decide +kernel
theorem dX14_passTo_152 : decode cX14_passTo 152 = .ok (.iload 5, 2) := by decide +kernel
theorem dX14_passTo_154 : decode cX14_passTo 154 = .ok (.iconst 1, 1) := by decide +kernel
theorem dX14_passTo_155 : decode cX14_passTo 155 = .ok (.if_icmp .ne 31, 3) := by decide +kernel
theorem dX14_passTo_158 : decode cX14_passTo 158 = .ok (.aload 8, 2) := by decide +kernel
theorem dX14_passTo_160 : decode cX14_passTo 160 = .ok (.getfield 262, 3) := by decide +kernel
theorem dX14_passTo_163 : decode cX14_passTo 163 = .ok (.aload_n 0, 1) := by decide +kernel
theorem dX14_passTo_164 : decode cX14_passTo 164 = .ok (.getfield 61, 3) := by decide +kernel
theorem dX14_passTo_167 : decode cX14_passTo 167 = .ok (.iload 6, 2) := by decide +kernel
theorem dX14_passTo_169 : decode cX14_passTo 169 = .ok (.aaload, 1) := by decide +kernel
theorem dX14_passTo_170 : decode cX14_passTo 170 = .ok (.getfield 262, 3) := by decide +kernel
theorem dX14_passTo_173 : decode cX14_passTo 173 = .ok (.if_icmp .ge 13, 3) := by decide +kernel
theorem dX14_passTo_176 : decode cX14_passTo 176 = .ok (.lload 9, 2) := by decide +kernel
theorem dX14_passTo_178 : decode cX14_passTo 178 = .ok (.lstore_n 3, 1) := by decide +kernel
theorem dX14_passTo_179 : decode cX14_passTo 179 = .ok (.iconst 1, 1) := by decide +kernel
theorem dX14_passTo_180 : decode cX14_passTo 180 = .ok (.istore 5, 2) := by decide +kernel
theorem dX14_passTo_182 : decode cX14_passTo 182 = .ok (.iload 7, 2) := by decide +kernel
theorem dX14_passTo_184 : decode cX14_passTo 184 = .ok (.istore 6, 2) := by decide +kernel
theorem dX14_passTo_186 : decode cX14_passTo 186 = .ok (.iinc 7 1, 3) := by decide +kernel
theorem dX14_passTo_189 : decode cX14_passTo 189 = .ok (.goto (-86), 3) := by decide +kernel
theorem dX14_passTo_192 : decode cX14_passTo 192 = .ok (.iconst 0, 1) := by decide +kernel
theorem dX14_passTo_193 : decode cX14_passTo 193 = .ok (.istore 7, 2) := by decide +kernel
theorem dX14_passTo_195 : decode cX14_passTo 195 = .ok (.iload 7, 2) := by decide +kernel
theorem dX14_passTo_197 : decode cX14_passTo 197 = .ok (.bipush 16, 2) := by decide +kernel
theorem dX14_passTo_199 : decode cX14_passTo 199 = .ok (.if_icmp .ge 85, 3) := by decide +kernel
theorem dX14_passTo_202 : decode cX14_passTo 202 = .ok (.aload_n 0, 1) := by decide +kernel
theorem dX14_passTo_203 : decode cX14_passTo 203 = .ok (.getfield 70, 3) := by decide +kernel
theorem dX14_passTo_206 : decode cX14_passTo 206 = .ok (.iload 7, 2) := by decide +kernel
theorem dX14_passTo_208 : decode cX14_passTo 208 = .ok (.aaload, 1) := by decide +kernel
theorem dX14_passTo_209 : decode cX14_passTo 209 = .ok (.astore 8, 2) := by decide +kernel
theorem dX14_passTo_211 : decode cX14_passTo 211 = .ok (.aload 8, 2) := by decide +kernel
theorem dX14_passTo_213 : decode cX14_passTo 213 = .ok (.getfield 152, 3) := by decide +kernel
theorem dX14_passTo_216 : decode cX14_passTo 216 = .ok (.ifCond .ne 6, 3) := by decide +kernel
theorem dX14_passTo_219 : decode cX14_passTo 219 = .ok (.goto 59, 3) := by decide +kernel
theorem dX14_passTo_222 : decode cX14_passTo 222 = .ok (.aload 8, 2) := by decide +kernel
theorem dX14_passTo_224 : decode cX14_passTo 224 = .ok (.getfield 376, 3) := by decide +kernel
theorem dX14_passTo_227 : decode cX14_passTo 227 = .ok (.ifCond .eq 28, 3) := by decide +kernel
theorem dX14_passTo_230 : decode cX14_passTo 230 = .ok (.aload 8, 2) := by decide +kernel
theorem dX14_passTo_232 : decode cX14_passTo 232 = .ok (.getfield 385, 3) := by decide +kernel
theorem dX14_passTo_235 : decode cX14_passTo 235 = .ok (.i2l, 1) := by decide +kernel
theorem dX14_passTo_236 : decode cX14_passTo 236 = .ok (.lload_n 3, 1) := by decide +kernel
theorem dX14_passTo_237 : decode cX14_passTo 237 = .ok (.lcmp, 1) := by decide +kernel
theorem dX14_passTo_238 : decode cX14_passTo 238 = .ok (.ifCond .ge 17, 3) := by decide +kernel
theorem dX14_passTo_241 : decode cX14_passTo 241 = .ok (.aload 8, 2) := by decide +kernel
theorem dX14_passTo_243 : decode cX14_passTo 243 = .ok (.getfield 385, 3) := by decide +kernel
theorem dX14_passTo_246 : decode cX14_passTo 246 = .ok (.i2l, 1) := by decide +kernel
theorem dX14_passTo_247 : decode cX14_passTo 247 = .ok (.lstore_n 3, 1) := by decide +kernel
theorem dX14_passTo_248 : decode cX14_passTo 248 = .ok (.iconst 2, 1) := by decide +kernel
theorem dX14_passTo_249 : decode cX14_passTo 249 = .ok (.istore 5, 2) := by decide +kernel
theorem dX14_passTo_251 : decode cX14_passTo 251 = .ok (.iload 7, 2) := by decide +kernel
theorem dX14_passTo_253 : decode cX14_passTo 253 = .ok (.istore 6, 2) := by decide +kernel
theorem dX14_passTo_255 : decode cX14_passTo 255 = .ok (.aload 8, 2) := by decide +kernel
theorem dX14_passTo_257 : decode cX14_passTo 257 = .ok (.invokestatic 581, 3) := by decide +kernel
theorem dX14_passTo_260 : decode cX14_passTo 260 = .ok (.lload_n 3, 1) := by decide +kernel
theorem dX14_passTo_261 : decode cX14_passTo 261 = .ok (.lcmp, 1) := by decide +kernel
theorem dX14_passTo_262 : decode cX14_passTo 262 = .ok (.ifCond .ge 16, 3) := by decide +kernel
theorem dX14_passTo_265 : decode cX14_passTo 265 = .ok (.aload 8, 2) := by decide +kernel
theorem dX14_passTo_267 : decode cX14_passTo 267 = .ok (.invokestatic 581, 3) := by decide +kernel
theorem dX14_passTo_270 : decode cX14_passTo 270 = .ok (.lstore_n 3, 1) := by decide +kernel
theorem dX14_passTo_271 : decode cX14_passTo 271 = .ok (.iconst 3, 1) := by decide +kernel
theorem dX14_passTo_272 : decode cX14_passTo 272 = .ok (.istore 5, 2) := by decide +kernel
theorem dX14_passTo_274 : decode cX14_passTo 274 = .ok (.iload 7, 2) := by decide +kernel
theorem dX14_passTo_276 : decode cX14_passTo 276 = .ok (.istore 6, 2) := by decide +kernel
theorem dX14_passTo_278 : decode cX14_passTo 278 = .ok (.iinc 7 1, 3) := by decide +kernel
theorem dX14_passTo_281 : decode cX14_passTo 281 = .ok (.goto (-86), 3) := by decide +kernel
theorem dX14_passTo_284 : decode cX14_passTo 284 = .ok (.lload_n 3, 1) := by decide +kernel
theorem dX14_passTo_285 : decode cX14_passTo 285 = .ok (.iload_n 1, 1) := by decide +kernel
theorem dX14_passTo_286 : decode cX14_passTo 286 = .ok (.i2l, 1) := by decide +kernel
theorem dX14_passTo_287 : decode cX14_passTo 287 = .ok (.lcmp, 1) := by decide +kernel
theorem dX14_passTo_288 : decode cX14_passTo 288 = .ok (.ifCond .gt 7, 3) := by decide +kernel
theorem dX14_passTo_291 : decode cX14_passTo 291 = .ok (.iconst 1, 1) := by decide +kernel
theorem dX14_passTo_292 : decode cX14_passTo 292 = .ok (.goto 4, 3) := by decide +kernel
theorem dX14_passTo_295 : decode cX14_passTo 295 = .ok (.iconst 0, 1) := by decide +kernel
theorem dX14_passTo_296 : decode cX14_passTo 296 = .ok (.istore_n 2, 1) := by decide +kernel
theorem dX14_passTo_297 : decode cX14_passTo 297 = .ok (.iload_n 2, 1) := by decide +kernel
theorem dX14_passTo_298 : decode cX14_passTo 298 = .ok (.ifCond .eq 87, 3) := by decide +kernel
theorem dX14_passTo_301 : decode cX14_passTo 301 = .ok (.aload_n 0, 1) := by decide +kernel
theorem dX14_passTo_302 : decode cX14_passTo 302 = .ok (.aload_n 0, 1) := by decide +kernel
theorem dX14_passTo_303 : decode cX14_passTo 303 = .ok (.getfield 134, 3) := by decide +kernel
theorem dX14_passTo_306 : decode cX14_passTo 306 = .ok (.i2l, 1) := by decide +kernel
theorem dX14_passTo_307 : decode cX14_passTo 307 = .ok (.lload_n 3, 1) := by decide +kernel
theorem dX14_passTo_308 : decode cX14_passTo 308 = .ok (.invokestatic 548, 3) := by decide +kernel
theorem dX14_passTo_311 : decode cX14_passTo 311 = .ok (.l2i, 1) := by decide +kernel
theorem dX14_passTo_312 : decode cX14_passTo 312 = .ok (.putfield 134, 3) := by decide +kernel
theorem dX14_passTo_315 : decode cX14_passTo 315 = .ok (.iload 5, 2) := by decide +kernel
theorem dX14_passTo_317 : decode cX14_passTo 317 = .ok (.ifCond .ne 17, 3) := by decide +kernel
theorem dX14_passTo_320 : decode cX14_passTo 320 = .ok (.aload_n 0, 1) := by decide +kernel
theorem dX14_passTo_321 : decode cX14_passTo 321 = .ok (.aload_n 0, 1) := by decide +kernel
theorem dX14_passTo_322 : decode cX14_passTo 322 = .ok (.getfield 55, 3) := by decide +kernel
theorem dX14_passTo_325 : decode cX14_passTo 325 = .ok (.iload 6, 2) := by decide +kernel
theorem dX14_passTo_327 : decode cX14_passTo 327 = .ok (.aaload, 1) := by decide +kernel
theorem dX14_passTo_328 : decode cX14_passTo 328 = .ok (.invokevirtual 585, 3) := by decide +kernel
theorem dX14_passTo_331 : decode cX14_passTo 331 = .ok (.goto 54, 3) := by decide +kernel
theorem dX14_passTo_334 : decode cX14_passTo 334 = .ok (.iload 5, 2) := by decide +kernel
theorem dX14_passTo_336 : decode cX14_passTo 336 = .ok (.iconst 1, 1) := by decide +kernel
theorem dX14_passTo_337 : decode cX14_passTo 337 = .ok (.if_icmp .ne 17, 3) := by decide +kernel
theorem dX14_passTo_340 : decode cX14_passTo 340 = .ok (.aload_n 0, 1) := by decide +kernel
theorem dX14_passTo_341 : decode cX14_passTo 341 = .ok (.getfield 61, 3) := by decide +kernel
theorem dX14_passTo_344 : decode cX14_passTo 344 = .ok (.iload 6, 2) := by decide +kernel
theorem dX14_passTo_346 : decode cX14_passTo 346 = .ok (.aaload, 1) := by decide +kernel
theorem dX14_passTo_347 : decode cX14_passTo 347 = .ok (.iconst 0, 1) := by decide +kernel
theorem dX14_passTo_348 : decode cX14_passTo 348 = .ok (.putfield 159, 3) := by decide +kernel
theorem dX14_passTo_351 : decode cX14_passTo 351 = .ok (.goto 34, 3) := by decide +kernel
theorem dX14_passTo_354 : decode cX14_passTo 354 = .ok (.iload 5, 2) := by decide +kernel
theorem dX14_passTo_356 : decode cX14_passTo 356 = .ok (.iconst 2, 1) := by decide +kernel
theorem dX14_passTo_357 : decode cX14_passTo 357 = .ok (.if_icmp .ne 17, 3) := by decide +kernel
theorem dX14_passTo_360 : decode cX14_passTo 360 = .ok (.aload_n 0, 1) := by decide +kernel
theorem dX14_passTo_361 : decode cX14_passTo 361 = .ok (.aload_n 0, 1) := by decide +kernel
theorem dX14_passTo_362 : decode cX14_passTo 362 = .ok (.getfield 70, 3) := by decide +kernel
theorem dX14_passTo_365 : decode cX14_passTo 365 = .ok (.iload 6, 2) := by decide +kernel
theorem dX14_passTo_367 : decode cX14_passTo 367 = .ok (.aaload, 1) := by decide +kernel
theorem dX14_passTo_368 : decode cX14_passTo 368 = .ok (.invokevirtual 589, 3) := by decide +kernel
theorem dX14_passTo_371 : decode cX14_passTo 371 = .ok (.goto 14, 3) := by decide +kernel
theorem dX14_passTo_374 : decode cX14_passTo 374 = .ok (.aload_n 0, 1) := by decide +kernel
theorem dX14_passTo_375 : decode cX14_passTo 375 = .ok (.aload_n 0, 1) := by decide +kernel
theorem dX14_passTo_376 : decode cX14_passTo 376 = .ok (.getfield 70, 3) := by decide +kernel
theorem dX14_passTo_379 : decode cX14_passTo 379 = .ok (.iload 6, 2) := by decide +kernel
theorem dX14_passTo_381 : decode cX14_passTo 381 = .ok (.aaload, 1) := by decide +kernel
theorem dX14_passTo_382 : decode cX14_passTo 382 = .ok (.invokevirtual 592, 3) := by decide +kernel
theorem dX14_passTo_385 : decode cX14_passTo 385 = .ok (.goto (-383), 3) := by decide +kernel
theorem dX14_passTo_388 : decode cX14_passTo 388 = .ok (.aload_n 0, 1) := by decide +kernel
theorem dX14_passTo_389 : decode cX14_passTo 389 = .ok (.iload_n 1, 1) := by decide +kernel
theorem dX14_passTo_390 : decode cX14_passTo 390 = .ok (.putfield 134, 3) := by decide +kernel
theorem dX14_passTo_393 : decode cX14_passTo 393 = .ok (.return_, 1) := by decide +kernel
def rmX14_passTo : Room := { frames := 10, cells := 0, slots := 0, locals := 254 }
theorem kX14_passTo : yX14_passTo.cls = "WebHostModel" ∧ yX14_passTo.cls ≠ "java/lang/invoke/MethodHandle" ∧ yX14_passTo.cls ≠ "java/lang/invoke/VarHandle" ∧ (parseMethodDescriptor yX14_passTo.desc).map (fun d => d.parameters.length) = some 1 := by decide +kernel
def w14_passTo_L19 (σ : St) (x1 : Int32) (Q : St → Prop) (K100 : Int64 → Int32 → Int32 → Prop) : Nat → Int64 → Int32 → Int32 → Int32 → Prop
  | 0, _, _, _, _ => False
  | n + 1, y3, x5, x6, x7 => (8 ≤ x7 → K100 y3 x5 x6) ∧ (¬ 8 ≤ x7 → (vp_in x7 8 ∧ (bo (σ 17 x7.toNatClampNeg 0) → (((σ 17 x7.toNatClampNeg 0) = 0 → (w14_passTo_L19 σ x1 Q K100 n y3 x5 x6 (x7 + 1))) ∧ (¬ (σ 17 x7.toNatClampNeg 0) = 0 → (w14_askDue σ x7.toNatClampNeg (fun r2 => (((lg_cmp r2 y3) < 0 → (w14_askDue σ x7.toNatClampNeg (fun r3 => (w14_passTo_L19 σ x1 Q K100 n r3 0 x7 (x7 + 1))))) ∧ (¬ (lg_cmp r2 y3) < 0 → (w14_askDue σ x7.toNatClampNeg (fun r4 => ((¬ (lg_cmp r4 y3) = 0 → (w14_passTo_L19 σ x1 Q K100 n y3 x5 x6 (x7 + 1))) ∧ ((lg_cmp r4 y3) = 0 → (vp_in x6 8 ∧ (((σ 17 x6.toNatClampNeg 5) ≤ (σ 17 x7.toNatClampNeg 5) → (w14_passTo_L19 σ x1 Q K100 n y3 x5 x6 (x7 + 1))) ∧ (¬ (σ 17 x6.toNatClampNeg 5) ≤ (σ 17 x7.toNatClampNeg 5) → (w14_askDue σ x7.toNatClampNeg (fun r6 => (w14_passTo_L19 σ x1 Q K100 n r6 0 x7 (x7 + 1))))))))))))))))))))
set_option maxHeartbeats 4000000 in
theorem k14_passTo_L19 {p : Program} {l : Launch} {e : Env} {s : State} {m : MethodId} {args : Array Value} {below : List Frame} {meth : Method} {c : Code} {G : Gh} {a1 : Nat → Nat → Nat} {τ : St} {Q : St → Prop} {K100 : Int64 → Int32 → Int32 → Prop} (C : Cx p e s m args meth c cX14_passTo 11 none "WebHostModel" G) (σ : St) (x1 : Int32) :
    ∀ (n : Nat) (y3 : Int64) (x5 : Int32) (x6 : Int32) (x7 : Int32), w14_passTo_L19 σ x1 Q K100 n y3 x5 x6 x7 → ∀ (H : Heap) (locs : List Loc) (ls : Array Slot), Hd G a1 (cmb τ σ) H → va_S (gA G) s.heap H locs → lv_has ls 11 [(0, .ref (ga G 14 0)), (1, .int x1), (3, .long y3), (5, .int x5), (6, .int x6), (7, .int x7)] → (∀ (y3 : Int64) (x5 : Int32) (x6 : Int32), K100 y3 x5 x6 → ∀ (H : Heap) (locs : List Loc) (ls : Array Slot), Hd G a1 (cmb τ σ) H → va_S (gA G) s.heap H locs → lv_has ls 11 [(0, .ref (ga G 14 0)), (1, .int x1), (3, .long y3), (5, .int x5), (6, .int x6)] → W p l e rmX14_passTo s m args below meth c H locs 0 0 (MQ below (QVs G a1 (fun u => cmb τ u) Q) args s 0 0 (gA G)) (F0 m 100 ls [])) → W p l e rmX14_passTo s m args below meth c H locs 0 0 (MQ below (QVs G a1 (fun u => cmb τ u) Q) args s 0 0 (gA G)) (F0 m 19 ls []) := by
  have hx := C.1
  have hb := C.2.1
  have hown := C.2.2.2.2.2.1
  have hts := C.2.2.2.2.2.2.1
  intro n
  induction n with
  | zero =>
    intro y3 x5 x6 x7 hw
    exact False.elim hw
  | succ n ih =>
    intro y3 x5 x6 x7 hw H locs ls hH hS hl hK100
    refine lv_iload hx hb dX14_passTo_19 (lv_at hl 5 rfl) ?_
    refine lv_bipush (v := 8) hx hb dX14_passTo_21 (by decide) ?_
    refine lv_icmp_ge (tgt := 100) hx hb dX14_passTo_23 (by decide) (fun h => ?_) (fun h => ?_)
    · have hw := hw.1 h
      exact hK100 y3 x5 x6 hw H locs ls hH hS (lv_sub hl [0, 1, 2, 3, 4] rfl)
    have hw := hw.2 h
    refine lv_aload_n hx hb dX14_passTo_26 rfl (lv_at hl 0 rfl) ?_
    refine g14_27 C hH q1967 dX14_passTo_27 ?_
    refine lv_iload hx hb dX14_passTo_30 (lv_at hl 5 rfl) ?_
    have hq1 := vp_lt hw.1
    refine l62 C hH hw.1 dX14_passTo_32 ?_
    have hw := hw.2
    refine lv_astore (lv' := [(8, .ref (ga G 17 x7.toNatClampNeg)), (0, .ref (ga G 14 0)), (1, .int x1), (3, .long y3), (5, .int x5), (6, .int x6), (7, .int x7)]) hx hb dX14_passTo_33 hl (by decide) rfl (fun ls hl => ?_)
    refine lv_aload hx hb dX14_passTo_35 (lv_at hl 0 rfl) ?_
    refine g17_0 C hH hq1 q1882 dX14_passTo_37 (fun hz => ?_)
    have hw := hw hz
    refine lv_if_eq (tgt := 94) hx hb dX14_passTo_40 (by decide) (fun h => ?_) (fun h => ?_)
    · have hw := hw.1 h
      refine lv_iinc (v := x7 + 1) (lv' := [(7, .int (x7 + 1)), (8, .ref (ga G 17 x7.toNatClampNeg)), (0, .ref (ga G 14 0)), (1, .int x1), (3, .long y3), (5, .int x5), (6, .int x6)]) hx hb dX14_passTo_94 hl (k := 6) rfl rfl (by decide) rfl (fun ls hl => ?_)
      refine lv_goto (tgt := 19) hx hb dX14_passTo_97 (by decide) ?_
      exact ih y3 x5 x6 (x7 + 1) hw H locs ls hH hS (lv_sub hl [2, 3, 4, 5, 6, 0] rfl) hK100
    have hw := hw.2 h
    refine lv_aload hx hb dX14_passTo_43 (lv_at hl 0 rfl) ?_
    refine kc_jp (rn_sp (As := [.ref (ga G 17 x7.toNatClampNeg)]) (rest := []) C hH hS (m14_askDue l G a1 τ σ H x7.toNatClampNeg hq1 _ hw) (va_cwS 1 hts (lw_S q2181 q2182 q171 q2183) rfl rfl rfl kX14_askDue.2 ⟨Nat.le_of_ble_eq_true rfl, Nat.le_of_ble_eq_true rfl⟩) rfl hl.1 rfl (Nat.le_of_ble_eq_true rfl) dX14_passTo_45 ⟨Nat.le_of_ble_eq_true rfl, Nat.le_of_ble_eq_true rfl⟩) hS (fun r2 locs hw hS => ?_)
    refine lv_lload_n hx hb dX14_passTo_48 rfl (lv_at hl 3 rfl) ?_
    refine W.lcmp hx hb dX14_passTo_49 ?_
    refine lv_if_lt (tgt := 81) hx hb dX14_passTo_50 (by decide) (fun h => ?_) (fun h => ?_)
    · have hw := hw.1 h
      refine lv_aload hx hb dX14_passTo_81 (lv_at hl 0 rfl) ?_
      refine kc_jp (rn_sp (As := [.ref (ga G 17 x7.toNatClampNeg)]) (rest := []) C hH hS (m14_askDue l G a1 τ σ H x7.toNatClampNeg hq1 _ hw) (va_cwS 1 hts (lw_S q2181 q2182 q171 q2183) rfl rfl rfl kX14_askDue.2 ⟨Nat.le_of_ble_eq_true rfl, Nat.le_of_ble_eq_true rfl⟩) rfl hl.1 rfl (Nat.le_of_ble_eq_true rfl) dX14_passTo_83 ⟨Nat.le_of_ble_eq_true rfl, Nat.le_of_ble_eq_true rfl⟩) hS (fun r3 locs hw hS => ?_)
      refine lv_lstore_n (lv' := [(3, .long r3), (8, .ref (ga G 17 x7.toNatClampNeg)), (0, .ref (ga G 14 0)), (1, .int x1), (5, .int x5), (6, .int x6), (7, .int x7)]) hx hb dX14_passTo_86 rfl hl (by decide) rfl (fun ls hl => ?_)
      refine lv_iconst (v := 0) hx hb dX14_passTo_87 (by decide) ?_
      refine lv_istore (lv' := [(5, .int 0), (3, .long r3), (8, .ref (ga G 17 x7.toNatClampNeg)), (0, .ref (ga G 14 0)), (1, .int x1), (6, .int x6), (7, .int x7)]) hx hb dX14_passTo_88 hl (by decide) rfl (fun ls hl => ?_)
      refine lv_iload hx hb dX14_passTo_90 (lv_at hl 6 rfl) ?_
      refine lv_istore (lv' := [(6, .int x7), (5, .int 0), (3, .long r3), (8, .ref (ga G 17 x7.toNatClampNeg)), (0, .ref (ga G 14 0)), (1, .int x1), (7, .int x7)]) hx hb dX14_passTo_92 hl (by decide) rfl (fun ls hl => ?_)
      refine lv_iinc (v := x7 + 1) (lv' := [(7, .int (x7 + 1)), (6, .int x7), (5, .int 0), (3, .long r3), (8, .ref (ga G 17 x7.toNatClampNeg)), (0, .ref (ga G 14 0)), (1, .int x1)]) hx hb dX14_passTo_94 hl (k := 6) rfl rfl (by decide) rfl (fun ls hl => ?_)
      refine lv_goto (tgt := 19) hx hb dX14_passTo_97 (by decide) ?_
      exact ih r3 0 x7 (x7 + 1) hw H locs ls hH hS (lv_sub hl [5, 6, 3, 2, 1, 0] rfl) hK100
    have hw := hw.2 h
    refine lv_aload hx hb dX14_passTo_53 (lv_at hl 0 rfl) ?_
    refine kc_jp (rn_sp (As := [.ref (ga G 17 x7.toNatClampNeg)]) (rest := []) C hH hS (m14_askDue l G a1 τ σ H x7.toNatClampNeg hq1 _ hw) (va_cwS 1 hts (lw_S q2181 q2182 q171 q2183) rfl rfl rfl kX14_askDue.2 ⟨Nat.le_of_ble_eq_true rfl, Nat.le_of_ble_eq_true rfl⟩) rfl hl.1 rfl (Nat.le_of_ble_eq_true rfl) dX14_passTo_55 ⟨Nat.le_of_ble_eq_true rfl, Nat.le_of_ble_eq_true rfl⟩) hS (fun r4 locs hw hS => ?_)
    refine lv_lload_n hx hb dX14_passTo_58 rfl (lv_at hl 3 rfl) ?_
    refine W.lcmp hx hb dX14_passTo_59 ?_
    refine lv_if_ne (tgt := 94) hx hb dX14_passTo_60 (by decide) (fun h => ?_) (fun h => ?_)
    · have hw := hw.1 h
      refine lv_iinc (v := x7 + 1) (lv' := [(7, .int (x7 + 1)), (8, .ref (ga G 17 x7.toNatClampNeg)), (0, .ref (ga G 14 0)), (1, .int x1), (3, .long y3), (5, .int x5), (6, .int x6)]) hx hb dX14_passTo_94 hl (k := 6) rfl rfl (by decide) rfl (fun ls hl => ?_)
      refine lv_goto (tgt := 19) hx hb dX14_passTo_97 (by decide) ?_
      exact ih y3 x5 x6 (x7 + 1) hw H locs ls hH hS (lv_sub hl [2, 3, 4, 5, 6, 0] rfl) hK100
    have hw := hw.2 h
    refine lv_aload hx hb dX14_passTo_63 (lv_at hl 0 rfl) ?_
    refine g17_5 C hH hq1 q1887 dX14_passTo_65 ?_
    refine lv_aload_n hx hb dX14_passTo_68 rfl (lv_at hl 1 rfl) ?_
    refine g14_27 C hH q1967 dX14_passTo_69 ?_
    refine lv_iload hx hb dX14_passTo_72 (lv_at hl 5 rfl) ?_
    have hq5 := vp_lt hw.1
    refine l62 C hH hw.1 dX14_passTo_74 ?_
    have hw := hw.2
    refine g17_5 C hH hq5 q1887 dX14_passTo_75 ?_
    refine lv_icmp_ge (tgt := 94) hx hb dX14_passTo_78 (by decide) (fun h => ?_) (fun h => ?_)
    · have hw := hw.1 h
      refine lv_iinc (v := x7 + 1) (lv' := [(7, .int (x7 + 1)), (8, .ref (ga G 17 x7.toNatClampNeg)), (0, .ref (ga G 14 0)), (1, .int x1), (3, .long y3), (5, .int x5), (6, .int x6)]) hx hb dX14_passTo_94 hl (k := 6) rfl rfl (by decide) rfl (fun ls hl => ?_)
      refine lv_goto (tgt := 19) hx hb dX14_passTo_97 (by decide) ?_
      exact ih y3 x5 x6 (x7 + 1) hw H locs ls hH hS (lv_sub hl [2, 3, 4, 5, 6, 0] rfl) hK100
    have hw := hw.2 h
    refine lv_aload hx hb dX14_passTo_81 (lv_at hl 0 rfl) ?_
    refine kc_jp (rn_sp (As := [.ref (ga G 17 x7.toNatClampNeg)]) (rest := []) C hH hS (m14_askDue l G a1 τ σ H x7.toNatClampNeg hq1 _ hw) (va_cwS 1 hts (lw_S q2181 q2182 q171 q2183) rfl rfl rfl kX14_askDue.2 ⟨Nat.le_of_ble_eq_true rfl, Nat.le_of_ble_eq_true rfl⟩) rfl hl.1 rfl (Nat.le_of_ble_eq_true rfl) dX14_passTo_83 ⟨Nat.le_of_ble_eq_true rfl, Nat.le_of_ble_eq_true rfl⟩) hS (fun r6 locs hw hS => ?_)
    refine lv_lstore_n (lv' := [(3, .long r6), (8, .ref (ga G 17 x7.toNatClampNeg)), (0, .ref (ga G 14 0)), (1, .int x1), (5, .int x5), (6, .int x6), (7, .int x7)]) hx hb dX14_passTo_86 rfl hl (by decide) rfl (fun ls hl => ?_)
    refine lv_iconst (v := 0) hx hb dX14_passTo_87 (by decide) ?_
    refine lv_istore (lv' := [(5, .int 0), (3, .long r6), (8, .ref (ga G 17 x7.toNatClampNeg)), (0, .ref (ga G 14 0)), (1, .int x1), (6, .int x6), (7, .int x7)]) hx hb dX14_passTo_88 hl (by decide) rfl (fun ls hl => ?_)
    refine lv_iload hx hb dX14_passTo_90 (lv_at hl 6 rfl) ?_
    refine lv_istore (lv' := [(6, .int x7), (5, .int 0), (3, .long r6), (8, .ref (ga G 17 x7.toNatClampNeg)), (0, .ref (ga G 14 0)), (1, .int x1), (7, .int x7)]) hx hb dX14_passTo_92 hl (by decide) rfl (fun ls hl => ?_)
    refine lv_iinc (v := x7 + 1) (lv' := [(7, .int (x7 + 1)), (6, .int x7), (5, .int 0), (3, .long r6), (8, .ref (ga G 17 x7.toNatClampNeg)), (0, .ref (ga G 14 0)), (1, .int x1)]) hx hb dX14_passTo_94 hl (k := 6) rfl rfl (by decide) rfl (fun ls hl => ?_)
    refine lv_goto (tgt := 19) hx hb dX14_passTo_97 (by decide) ?_
    exact ih r6 0 x7 (x7 + 1) hw H locs ls hH hS (lv_sub hl [5, 6, 3, 2, 1, 0] rfl) hK100
def w14_passTo_L103 (σ : St) (x1 : Int32) (Q : St → Prop) (K192 : Int64 → Int32 → Int32 → Prop) : Nat → Int64 → Int32 → Int32 → Int32 → Prop
  | 0, _, _, _, _ => False
  | n + 1, y3, x5, x6, x7 => (4 ≤ x7 → K192 y3 x5 x6) ∧ (¬ 4 ≤ x7 → (vp_in x7 4 ∧ (bo (σ 18 x7.toNatClampNeg 0) → (((σ 18 x7.toNatClampNeg 0) = 0 → (w14_passTo_L103 σ x1 Q K192 n y3 x5 x6 (x7 + 1))) ∧ (¬ (σ 18 x7.toNatClampNeg 0) = 0 → (((lg_cmp (((σ 18 x7.toNatClampNeg 5).toInt64) + 15000) y3) < 0 → (w14_passTo_L103 σ x1 Q K192 n (((σ 18 x7.toNatClampNeg 5).toInt64) + 15000) 1 x7 (x7 + 1))) ∧ (¬ (lg_cmp (((σ 18 x7.toNatClampNeg 5).toInt64) + 15000) y3) < 0 → ((¬ (lg_cmp (((σ 18 x7.toNatClampNeg 5).toInt64) + 15000) y3) = 0 → (w14_passTo_L103 σ x1 Q K192 n y3 x5 x6 (x7 + 1))) ∧ ((lg_cmp (((σ 18 x7.toNatClampNeg 5).toInt64) + 15000) y3) = 0 → ((¬ x5 = 1 → (w14_passTo_L103 σ x1 Q K192 n y3 x5 x6 (x7 + 1))) ∧ (x5 = 1 → (vp_in x6 4 ∧ (((σ 18 x6.toNatClampNeg 6) ≤ (σ 18 x7.toNatClampNeg 6) → (w14_passTo_L103 σ x1 Q K192 n y3 x5 x6 (x7 + 1))) ∧ (¬ (σ 18 x6.toNatClampNeg 6) ≤ (σ 18 x7.toNatClampNeg 6) → (w14_passTo_L103 σ x1 Q K192 n (((σ 18 x7.toNatClampNeg 5).toInt64) + 15000) 1 x7 (x7 + 1))))))))))))))))
set_option maxHeartbeats 4000000 in
theorem k14_passTo_L103 {p : Program} {l : Launch} {e : Env} {s : State} {m : MethodId} {args : Array Value} {below : List Frame} {meth : Method} {c : Code} {G : Gh} {a1 : Nat → Nat → Nat} {τ : St} {Q : St → Prop} {K192 : Int64 → Int32 → Int32 → Prop} (C : Cx p e s m args meth c cX14_passTo 11 none "WebHostModel" G) (σ : St) (x1 : Int32) :
    ∀ (n : Nat) (y3 : Int64) (x5 : Int32) (x6 : Int32) (x7 : Int32), w14_passTo_L103 σ x1 Q K192 n y3 x5 x6 x7 → ∀ (H : Heap) (locs : List Loc) (ls : Array Slot), Hd G a1 (cmb τ σ) H → va_S (gA G) s.heap H locs → lv_has ls 11 [(0, .ref (ga G 14 0)), (1, .int x1), (3, .long y3), (5, .int x5), (6, .int x6), (7, .int x7)] → (∀ (y3 : Int64) (x5 : Int32) (x6 : Int32), K192 y3 x5 x6 → ∀ (H : Heap) (locs : List Loc) (ls : Array Slot), Hd G a1 (cmb τ σ) H → va_S (gA G) s.heap H locs → lv_has ls 11 [(0, .ref (ga G 14 0)), (1, .int x1), (3, .long y3), (5, .int x5), (6, .int x6)] → W p l e rmX14_passTo s m args below meth c H locs 0 0 (MQ below (QVs G a1 (fun u => cmb τ u) Q) args s 0 0 (gA G)) (F0 m 192 ls [])) → W p l e rmX14_passTo s m args below meth c H locs 0 0 (MQ below (QVs G a1 (fun u => cmb τ u) Q) args s 0 0 (gA G)) (F0 m 103 ls []) := by
  have hx := C.1
  have hb := C.2.1
  have hown := C.2.2.2.2.2.1
  have hts := C.2.2.2.2.2.2.1
  intro n
  induction n with
  | zero =>
    intro y3 x5 x6 x7 hw
    exact False.elim hw
  | succ n ih =>
    intro y3 x5 x6 x7 hw H locs ls hH hS hl hK192
    refine lv_iload hx hb dX14_passTo_103 (lv_at hl 5 rfl) ?_
    refine lv_iconst (v := 4) hx hb dX14_passTo_105 (by decide) ?_
    refine lv_icmp_ge (tgt := 192) hx hb dX14_passTo_106 (by decide) (fun h => ?_) (fun h => ?_)
    · have hw := hw.1 h
      exact hK192 y3 x5 x6 hw H locs ls hH hS (lv_sub hl [0, 1, 2, 3, 4] rfl)
    have hw := hw.2 h
    refine lv_aload_n hx hb dX14_passTo_109 rfl (lv_at hl 0 rfl) ?_
    refine g14_28 C hH q1968 dX14_passTo_110 ?_
    refine lv_iload hx hb dX14_passTo_113 (lv_at hl 5 rfl) ?_
    have hq9 := vp_lt hw.1
    refine l63 C hH hw.1 dX14_passTo_115 ?_
    have hw := hw.2
    refine lv_astore (lv' := [(8, .ref (ga G 18 x7.toNatClampNeg)), (0, .ref (ga G 14 0)), (1, .int x1), (3, .long y3), (5, .int x5), (6, .int x6), (7, .int x7)]) hx hb dX14_passTo_116 hl (by decide) rfl (fun ls hl => ?_)
    refine lv_aload hx hb dX14_passTo_118 (lv_at hl 0 rfl) ?_
    refine g18_5 C hH hq9 q1915 dX14_passTo_120 ?_
    refine lv_i2l (v := (σ 18 x7.toNatClampNeg 5).toInt64) hx hb dX14_passTo_123 rfl ?_
    refine lv_ldc2 (v := 15000) hx hb hown (hts _ q2185) dX14_passTo_124 ?_
    refine lv_ladd hx hb dX14_passTo_127 ?_
    refine lv_lstore (lv' := [(9, .long (((σ 18 x7.toNatClampNeg 5).toInt64) + 15000)), (8, .ref (ga G 18 x7.toNatClampNeg)), (0, .ref (ga G 14 0)), (1, .int x1), (3, .long y3), (5, .int x5), (6, .int x6), (7, .int x7)]) hx hb dX14_passTo_128 hl (by decide) rfl (fun ls hl => ?_)
    refine lv_aload hx hb dX14_passTo_130 (lv_at hl 1 rfl) ?_
    refine g18_0 C hH hq9 q1910 dX14_passTo_132 (fun hz => ?_)
    have hw := hw hz
    refine lv_if_eq (tgt := 186) hx hb dX14_passTo_135 (by decide) (fun h => ?_) (fun h => ?_)
    · have hw := hw.1 h
      refine lv_iinc (v := x7 + 1) (lv' := [(7, .int (x7 + 1)), (9, .long (((σ 18 x7.toNatClampNeg 5).toInt64) + 15000)), (8, .ref (ga G 18 x7.toNatClampNeg)), (0, .ref (ga G 14 0)), (1, .int x1), (3, .long y3), (5, .int x5), (6, .int x6)]) hx hb dX14_passTo_186 hl (k := 7) rfl rfl (by decide) rfl (fun ls hl => ?_)
      refine lv_goto (tgt := 103) hx hb dX14_passTo_189 (by decide) ?_
      exact ih y3 x5 x6 (x7 + 1) hw H locs ls hH hS (lv_sub hl [3, 4, 5, 6, 7, 0] rfl) hK192
    have hw := hw.2 h
    refine lv_lload hx hb dX14_passTo_138 (lv_at hl 0 rfl) ?_
    refine lv_lload_n hx hb dX14_passTo_140 rfl (lv_at hl 4 rfl) ?_
    refine W.lcmp hx hb dX14_passTo_141 ?_
    refine lv_if_lt (tgt := 176) hx hb dX14_passTo_142 (by decide) (fun h => ?_) (fun h => ?_)
    · have hw := hw.1 h
      refine lv_lload hx hb dX14_passTo_176 (lv_at hl 0 rfl) ?_
      refine lv_lstore_n (lv' := [(3, .long (((σ 18 x7.toNatClampNeg 5).toInt64) + 15000)), (9, .long (((σ 18 x7.toNatClampNeg 5).toInt64) + 15000)), (8, .ref (ga G 18 x7.toNatClampNeg)), (0, .ref (ga G 14 0)), (1, .int x1), (5, .int x5), (6, .int x6), (7, .int x7)]) hx hb dX14_passTo_178 rfl hl (by decide) rfl (fun ls hl => ?_)
      refine lv_iconst (v := 1) hx hb dX14_passTo_179 (by decide) ?_
      refine lv_istore (lv' := [(5, .int 1), (3, .long (((σ 18 x7.toNatClampNeg 5).toInt64) + 15000)), (9, .long (((σ 18 x7.toNatClampNeg 5).toInt64) + 15000)), (8, .ref (ga G 18 x7.toNatClampNeg)), (0, .ref (ga G 14 0)), (1, .int x1), (6, .int x6), (7, .int x7)]) hx hb dX14_passTo_180 hl (by decide) rfl (fun ls hl => ?_)
      refine lv_iload hx hb dX14_passTo_182 (lv_at hl 7 rfl) ?_
      refine lv_istore (lv' := [(6, .int x7), (5, .int 1), (3, .long (((σ 18 x7.toNatClampNeg 5).toInt64) + 15000)), (9, .long (((σ 18 x7.toNatClampNeg 5).toInt64) + 15000)), (8, .ref (ga G 18 x7.toNatClampNeg)), (0, .ref (ga G 14 0)), (1, .int x1), (7, .int x7)]) hx hb dX14_passTo_184 hl (by decide) rfl (fun ls hl => ?_)
      refine lv_iinc (v := x7 + 1) (lv' := [(7, .int (x7 + 1)), (6, .int x7), (5, .int 1), (3, .long (((σ 18 x7.toNatClampNeg 5).toInt64) + 15000)), (9, .long (((σ 18 x7.toNatClampNeg 5).toInt64) + 15000)), (8, .ref (ga G 18 x7.toNatClampNeg)), (0, .ref (ga G 14 0)), (1, .int x1)]) hx hb dX14_passTo_186 hl (k := 7) rfl rfl (by decide) rfl (fun ls hl => ?_)
      refine lv_goto (tgt := 103) hx hb dX14_passTo_189 (by decide) ?_
      exact ih (((σ 18 x7.toNatClampNeg 5).toInt64) + 15000) 1 x7 (x7 + 1) hw H locs ls hH hS (lv_sub hl [6, 7, 3, 2, 1, 0] rfl) hK192
    have hw := hw.2 h
    refine lv_lload hx hb dX14_passTo_145 (lv_at hl 0 rfl) ?_
    refine lv_lload_n hx hb dX14_passTo_147 rfl (lv_at hl 4 rfl) ?_
    refine W.lcmp hx hb dX14_passTo_148 ?_
    refine lv_if_ne (tgt := 186) hx hb dX14_passTo_149 (by decide) (fun h => ?_) (fun h => ?_)
    · have hw := hw.1 h
      refine lv_iinc (v := x7 + 1) (lv' := [(7, .int (x7 + 1)), (9, .long (((σ 18 x7.toNatClampNeg 5).toInt64) + 15000)), (8, .ref (ga G 18 x7.toNatClampNeg)), (0, .ref (ga G 14 0)), (1, .int x1), (3, .long y3), (5, .int x5), (6, .int x6)]) hx hb dX14_passTo_186 hl (k := 7) rfl rfl (by decide) rfl (fun ls hl => ?_)
      refine lv_goto (tgt := 103) hx hb dX14_passTo_189 (by decide) ?_
      exact ih y3 x5 x6 (x7 + 1) hw H locs ls hH hS (lv_sub hl [3, 4, 5, 6, 7, 0] rfl) hK192
    have hw := hw.2 h
    refine lv_iload hx hb dX14_passTo_152 (lv_at hl 5 rfl) ?_
    refine lv_iconst (v := 1) hx hb dX14_passTo_154 (by decide) ?_
    refine lv_icmp_ne (tgt := 186) hx hb dX14_passTo_155 (by decide) (fun h => ?_) (fun h => ?_)
    · have hw := hw.1 h
      refine lv_iinc (v := x7 + 1) (lv' := [(7, .int (x7 + 1)), (9, .long (((σ 18 x7.toNatClampNeg 5).toInt64) + 15000)), (8, .ref (ga G 18 x7.toNatClampNeg)), (0, .ref (ga G 14 0)), (1, .int x1), (3, .long y3), (5, .int x5), (6, .int x6)]) hx hb dX14_passTo_186 hl (k := 7) rfl rfl (by decide) rfl (fun ls hl => ?_)
      refine lv_goto (tgt := 103) hx hb dX14_passTo_189 (by decide) ?_
      exact ih y3 x5 x6 (x7 + 1) hw H locs ls hH hS (lv_sub hl [3, 4, 5, 6, 7, 0] rfl) hK192
    have hw := hw.2 h
    refine lv_aload hx hb dX14_passTo_158 (lv_at hl 1 rfl) ?_
    refine g18_6 C hH hq9 q1916 dX14_passTo_160 ?_
    refine lv_aload_n hx hb dX14_passTo_163 rfl (lv_at hl 2 rfl) ?_
    refine g14_28 C hH q1968 dX14_passTo_164 ?_
    refine lv_iload hx hb dX14_passTo_167 (lv_at hl 6 rfl) ?_
    have hq10 := vp_lt hw.1
    refine l63 C hH hw.1 dX14_passTo_169 ?_
    have hw := hw.2
    refine g18_6 C hH hq10 q1916 dX14_passTo_170 ?_
    refine lv_icmp_ge (tgt := 186) hx hb dX14_passTo_173 (by decide) (fun h => ?_) (fun h => ?_)
    · have hw := hw.1 h
      refine lv_iinc (v := x7 + 1) (lv' := [(7, .int (x7 + 1)), (9, .long (((σ 18 x7.toNatClampNeg 5).toInt64) + 15000)), (8, .ref (ga G 18 x7.toNatClampNeg)), (0, .ref (ga G 14 0)), (1, .int x1), (3, .long y3), (5, .int x5), (6, .int x6)]) hx hb dX14_passTo_186 hl (k := 7) rfl rfl (by decide) rfl (fun ls hl => ?_)
      refine lv_goto (tgt := 103) hx hb dX14_passTo_189 (by decide) ?_
      exact ih y3 x5 x6 (x7 + 1) hw H locs ls hH hS (lv_sub hl [3, 4, 5, 6, 7, 0] rfl) hK192
    have hw := hw.2 h
    refine lv_lload hx hb dX14_passTo_176 (lv_at hl 0 rfl) ?_
    refine lv_lstore_n (lv' := [(3, .long (((σ 18 x7.toNatClampNeg 5).toInt64) + 15000)), (9, .long (((σ 18 x7.toNatClampNeg 5).toInt64) + 15000)), (8, .ref (ga G 18 x7.toNatClampNeg)), (0, .ref (ga G 14 0)), (1, .int x1), (5, .int x5), (6, .int x6), (7, .int x7)]) hx hb dX14_passTo_178 rfl hl (by decide) rfl (fun ls hl => ?_)
    refine lv_iconst (v := 1) hx hb dX14_passTo_179 (by decide) ?_
    refine lv_istore (lv' := [(5, .int 1), (3, .long (((σ 18 x7.toNatClampNeg 5).toInt64) + 15000)), (9, .long (((σ 18 x7.toNatClampNeg 5).toInt64) + 15000)), (8, .ref (ga G 18 x7.toNatClampNeg)), (0, .ref (ga G 14 0)), (1, .int x1), (6, .int x6), (7, .int x7)]) hx hb dX14_passTo_180 hl (by decide) rfl (fun ls hl => ?_)
    refine lv_iload hx hb dX14_passTo_182 (lv_at hl 7 rfl) ?_
    refine lv_istore (lv' := [(6, .int x7), (5, .int 1), (3, .long (((σ 18 x7.toNatClampNeg 5).toInt64) + 15000)), (9, .long (((σ 18 x7.toNatClampNeg 5).toInt64) + 15000)), (8, .ref (ga G 18 x7.toNatClampNeg)), (0, .ref (ga G 14 0)), (1, .int x1), (7, .int x7)]) hx hb dX14_passTo_184 hl (by decide) rfl (fun ls hl => ?_)
    refine lv_iinc (v := x7 + 1) (lv' := [(7, .int (x7 + 1)), (6, .int x7), (5, .int 1), (3, .long (((σ 18 x7.toNatClampNeg 5).toInt64) + 15000)), (9, .long (((σ 18 x7.toNatClampNeg 5).toInt64) + 15000)), (8, .ref (ga G 18 x7.toNatClampNeg)), (0, .ref (ga G 14 0)), (1, .int x1)]) hx hb dX14_passTo_186 hl (k := 7) rfl rfl (by decide) rfl (fun ls hl => ?_)
    refine lv_goto (tgt := 103) hx hb dX14_passTo_189 (by decide) ?_
    exact ih (((σ 18 x7.toNatClampNeg 5).toInt64) + 15000) 1 x7 (x7 + 1) hw H locs ls hH hS (lv_sub hl [6, 7, 3, 2, 1, 0] rfl) hK192
def w14_passTo_J255 (σ : St) (x1 : Int32) (y3 : Int64) (x5 : Int32) (x6 : Int32) (x7 : Int32) (o8 : Nat) (Q : St → Prop) (K195 : Int64 → Int32 → Int32 → Int32 → Prop) : Prop := w14_life σ o8 (fun r14 => ((0 ≤ (lg_cmp r14 y3) → (K195 y3 x5 x6 (x7 + 1))) ∧ (¬ 0 ≤ (lg_cmp r14 y3) → (w14_life σ o8 (fun r15 => (K195 r15 3 x7 (x7 + 1)))))))
set_option maxHeartbeats 4000000 in
theorem k14_passTo_J255 {p : Program} {l : Launch} {e : Env} {s : State} {m : MethodId} {args : Array Value} {below : List Frame} {meth : Method} {c : Code} {G : Gh} {a1 : Nat → Nat → Nat} {τ : St} {Q : St → Prop} {K195 : Int64 → Int32 → Int32 → Int32 → Prop} (C : Cx p e s m args meth c cX14_passTo 11 none "WebHostModel" G) (σ : St) (x1 : Int32) (y3 : Int64) (x5 : Int32) (x6 : Int32) (x7 : Int32) (o8 : Nat) (ho8 : o8 < 16) (hw : w14_passTo_J255 σ x1 y3 x5 x6 x7 o8 Q K195) (H : Heap) (locs : List Loc) (ls : Array Slot) (hH : Hd G a1 (cmb τ σ) H) (hS : va_S (gA G) s.heap H locs) (hl : lv_has ls 11 [(0, .ref (ga G 14 0)), (1, .int x1), (3, .long y3), (5, .int x5), (6, .int x6), (7, .int x7), (8, .ref (ga G 15 o8))]) (hK195 : ∀ (y3 : Int64) (x5 : Int32) (x6 : Int32) (x7 : Int32), K195 y3 x5 x6 x7 → ∀ (H : Heap) (locs : List Loc) (ls : Array Slot), Hd G a1 (cmb τ σ) H → va_S (gA G) s.heap H locs → lv_has ls 11 [(0, .ref (ga G 14 0)), (1, .int x1), (3, .long y3), (5, .int x5), (6, .int x6), (7, .int x7)] → W p l e rmX14_passTo s m args below meth c H locs 0 0 (MQ below (QVs G a1 (fun u => cmb τ u) Q) args s 0 0 (gA G)) (F0 m 195 ls [])) : W p l e rmX14_passTo s m args below meth c H locs 0 0 (MQ below (QVs G a1 (fun u => cmb τ u) Q) args s 0 0 (gA G)) (F0 m 255 ls []) := by
  have hx := C.1
  have hb := C.2.1
  have hown := C.2.2.2.2.2.1
  have hts := C.2.2.2.2.2.2.1
  refine lv_aload hx hb dX14_passTo_255 (lv_at hl 6 rfl) ?_
  refine kc_jp (rn_sp (As := [.ref (ga G 15 o8)]) (rest := []) C hH hS (m14_life l G a1 τ σ H o8 ho8 _ hw) (va_cwS 1 hts (lw_S q2186 q2187 q171 q2188) rfl rfl rfl kX14_life.2 ⟨Nat.le_of_ble_eq_true rfl, Nat.le_of_ble_eq_true rfl⟩) rfl hl.1 rfl (Nat.le_of_ble_eq_true rfl) dX14_passTo_257 ⟨Nat.le_of_ble_eq_true rfl, Nat.le_of_ble_eq_true rfl⟩) hS (fun r14 locs hw hS => ?_)
  refine lv_lload_n hx hb dX14_passTo_260 rfl (lv_at hl 2 rfl) ?_
  refine W.lcmp hx hb dX14_passTo_261 ?_
  refine lv_if_ge (tgt := 278) hx hb dX14_passTo_262 (by decide) (fun h => ?_) (fun h => ?_)
  · have hw := hw.1 h
    refine lv_iinc (v := x7 + 1) (lv' := [(7, .int (x7 + 1)), (0, .ref (ga G 14 0)), (1, .int x1), (3, .long y3), (5, .int x5), (6, .int x6), (8, .ref (ga G 15 o8))]) hx hb dX14_passTo_278 hl (k := 5) rfl rfl (by decide) rfl (fun ls hl => ?_)
    refine lv_goto (tgt := 195) hx hb dX14_passTo_281 (by decide) ?_
    exact hK195 y3 x5 x6 (x7 + 1) hw H locs ls hH hS (lv_sub hl [1, 2, 3, 4, 5, 0] rfl)
  have hw := hw.2 h
  refine lv_aload hx hb dX14_passTo_265 (lv_at hl 6 rfl) ?_
  refine kc_jp (rn_sp (As := [.ref (ga G 15 o8)]) (rest := []) C hH hS (m14_life l G a1 τ σ H o8 ho8 _ hw) (va_cwS 1 hts (lw_S q2186 q2187 q171 q2188) rfl rfl rfl kX14_life.2 ⟨Nat.le_of_ble_eq_true rfl, Nat.le_of_ble_eq_true rfl⟩) rfl hl.1 rfl (Nat.le_of_ble_eq_true rfl) dX14_passTo_267 ⟨Nat.le_of_ble_eq_true rfl, Nat.le_of_ble_eq_true rfl⟩) hS (fun r15 locs hw hS => ?_)
  refine lv_lstore_n (lv' := [(3, .long r15), (0, .ref (ga G 14 0)), (1, .int x1), (5, .int x5), (6, .int x6), (7, .int x7), (8, .ref (ga G 15 o8))]) hx hb dX14_passTo_270 rfl hl (by decide) rfl (fun ls hl => ?_)
  refine lv_iconst (v := 3) hx hb dX14_passTo_271 (by decide) ?_
  refine lv_istore (lv' := [(5, .int 3), (3, .long r15), (0, .ref (ga G 14 0)), (1, .int x1), (6, .int x6), (7, .int x7), (8, .ref (ga G 15 o8))]) hx hb dX14_passTo_272 hl (by decide) rfl (fun ls hl => ?_)
  refine lv_iload hx hb dX14_passTo_274 (lv_at hl 5 rfl) ?_
  refine lv_istore (lv' := [(6, .int x7), (5, .int 3), (3, .long r15), (0, .ref (ga G 14 0)), (1, .int x1), (7, .int x7), (8, .ref (ga G 15 o8))]) hx hb dX14_passTo_276 hl (by decide) rfl (fun ls hl => ?_)
  refine lv_iinc (v := x7 + 1) (lv' := [(7, .int (x7 + 1)), (6, .int x7), (5, .int 3), (3, .long r15), (0, .ref (ga G 14 0)), (1, .int x1), (8, .ref (ga G 15 o8))]) hx hb dX14_passTo_278 hl (k := 5) rfl rfl (by decide) rfl (fun ls hl => ?_)
  refine lv_goto (tgt := 195) hx hb dX14_passTo_281 (by decide) ?_
  exact hK195 r15 3 x7 (x7 + 1) hw H locs ls hH hS (lv_sub hl [4, 5, 3, 2, 1, 0] rfl)
def w14_passTo_L195 (σ : St) (x1 : Int32) (Q : St → Prop) (K284 : Int64 → Int32 → Int32 → Prop) : Nat → Int64 → Int32 → Int32 → Int32 → Prop
  | 0, _, _, _, _ => False
  | n + 1, y3, x5, x6, x7 => (16 ≤ x7 → K284 y3 x5 x6) ∧ (¬ 16 ≤ x7 → (vp_in x7 16 ∧ ((¬ (σ 15 x7.toNatClampNeg 0) = 0 → (bo (σ 15 x7.toNatClampNeg 21) → (((σ 15 x7.toNatClampNeg 21) = 0 → (w14_passTo_J255 σ x1 y3 x5 x6 x7 x7.toNatClampNeg Q (fun y3z x5z x6z x7z => w14_passTo_L195 σ x1 Q K284 n y3z x5z x6z x7z))) ∧ (¬ (σ 15 x7.toNatClampNeg 21) = 0 → ((0 ≤ (lg_cmp ((σ 15 x7.toNatClampNeg 22).toInt64) y3) → (w14_passTo_J255 σ x1 y3 x5 x6 x7 x7.toNatClampNeg Q (fun y3z x5z x6z x7z => w14_passTo_L195 σ x1 Q K284 n y3z x5z x6z x7z))) ∧ (¬ 0 ≤ (lg_cmp ((σ 15 x7.toNatClampNeg 22).toInt64) y3) → (w14_passTo_J255 σ x1 ((σ 15 x7.toNatClampNeg 22).toInt64) 2 x7 x7 x7.toNatClampNeg Q (fun y3z x5z x6z x7z => w14_passTo_L195 σ x1 Q K284 n y3z x5z x6z x7z)))))))) ∧ ((σ 15 x7.toNatClampNeg 0) = 0 → (w14_passTo_L195 σ x1 Q K284 n y3 x5 x6 (x7 + 1))))))
set_option maxHeartbeats 4000000 in
theorem k14_passTo_L195 {p : Program} {l : Launch} {e : Env} {s : State} {m : MethodId} {args : Array Value} {below : List Frame} {meth : Method} {c : Code} {G : Gh} {a1 : Nat → Nat → Nat} {τ : St} {Q : St → Prop} {K284 : Int64 → Int32 → Int32 → Prop} (C : Cx p e s m args meth c cX14_passTo 11 none "WebHostModel" G) (σ : St) (x1 : Int32) :
    ∀ (n : Nat) (y3 : Int64) (x5 : Int32) (x6 : Int32) (x7 : Int32), w14_passTo_L195 σ x1 Q K284 n y3 x5 x6 x7 → ∀ (H : Heap) (locs : List Loc) (ls : Array Slot), Hd G a1 (cmb τ σ) H → va_S (gA G) s.heap H locs → lv_has ls 11 [(0, .ref (ga G 14 0)), (1, .int x1), (3, .long y3), (5, .int x5), (6, .int x6), (7, .int x7)] → (∀ (y3 : Int64) (x5 : Int32) (x6 : Int32), K284 y3 x5 x6 → ∀ (H : Heap) (locs : List Loc) (ls : Array Slot), Hd G a1 (cmb τ σ) H → va_S (gA G) s.heap H locs → lv_has ls 11 [(0, .ref (ga G 14 0)), (1, .int x1), (3, .long y3), (5, .int x5), (6, .int x6)] → W p l e rmX14_passTo s m args below meth c H locs 0 0 (MQ below (QVs G a1 (fun u => cmb τ u) Q) args s 0 0 (gA G)) (F0 m 284 ls [])) → W p l e rmX14_passTo s m args below meth c H locs 0 0 (MQ below (QVs G a1 (fun u => cmb τ u) Q) args s 0 0 (gA G)) (F0 m 195 ls []) := by
  have hx := C.1
  have hb := C.2.1
  have hown := C.2.2.2.2.2.1
  have hts := C.2.2.2.2.2.2.1
  intro n
  induction n with
  | zero =>
    intro y3 x5 x6 x7 hw
    exact False.elim hw
  | succ n ih =>
    intro y3 x5 x6 x7 hw H locs ls hH hS hl hK284
    refine lv_iload hx hb dX14_passTo_195 (lv_at hl 5 rfl) ?_
    refine lv_bipush (v := 16) hx hb dX14_passTo_197 (by decide) ?_
    refine lv_icmp_ge (tgt := 284) hx hb dX14_passTo_199 (by decide) (fun h => ?_) (fun h => ?_)
    · have hw := hw.1 h
      exact hK284 y3 x5 x6 hw H locs ls hH hS (lv_sub hl [0, 1, 2, 3, 4] rfl)
    have hw := hw.2 h
    refine lv_aload_n hx hb dX14_passTo_202 rfl (lv_at hl 0 rfl) ?_
    refine g14_31 C hH q1971 dX14_passTo_203 ?_
    refine lv_iload hx hb dX14_passTo_206 (lv_at hl 5 rfl) ?_
    have hq13 := vp_lt hw.1
    refine l65 C hH hw.1 dX14_passTo_208 ?_
    have hw := hw.2
    refine lv_astore (lv' := [(8, .ref (ga G 15 x7.toNatClampNeg)), (0, .ref (ga G 14 0)), (1, .int x1), (3, .long y3), (5, .int x5), (6, .int x6), (7, .int x7)]) hx hb dX14_passTo_209 hl (by decide) rfl (fun ls hl => ?_)
    refine lv_aload hx hb dX14_passTo_211 (lv_at hl 0 rfl) ?_
    refine g15_0 C hH hq13 q1707 dX14_passTo_213 ?_
    refine lv_if_ne (tgt := 222) hx hb dX14_passTo_216 (by decide) (fun h => ?_) (fun h => ?_)
    · have hw := hw.1 h
      refine lv_aload hx hb dX14_passTo_222 (lv_at hl 0 rfl) ?_
      refine g15_21 C hH hq13 q1728 dX14_passTo_224 (fun hz => ?_)
      have hw := hw hz
      refine lv_if_eq (tgt := 255) hx hb dX14_passTo_227 (by decide) (fun h => ?_) (fun h => ?_)
      · have hw := hw.1 h
        exact k14_passTo_J255 C σ x1 y3 x5 x6 x7 x7.toNatClampNeg hq13 hw H locs ls hH hS (lv_sub hl [1, 2, 3, 4, 5, 6, 0] rfl) (fun y3z x5z x6z x7z hw H locs ls hH hS hl => ih y3z x5z x6z x7z hw H locs ls hH hS hl hK284)
      have hw := hw.2 h
      refine lv_aload hx hb dX14_passTo_230 (lv_at hl 0 rfl) ?_
      refine g15_22 C hH hq13 q1729 dX14_passTo_232 ?_
      refine lv_i2l (v := (σ 15 x7.toNatClampNeg 22).toInt64) hx hb dX14_passTo_235 rfl ?_
      refine lv_lload_n hx hb dX14_passTo_236 rfl (lv_at hl 3 rfl) ?_
      refine W.lcmp hx hb dX14_passTo_237 ?_
      refine lv_if_ge (tgt := 255) hx hb dX14_passTo_238 (by decide) (fun h => ?_) (fun h => ?_)
      · have hw := hw.1 h
        exact k14_passTo_J255 C σ x1 y3 x5 x6 x7 x7.toNatClampNeg hq13 hw H locs ls hH hS (lv_sub hl [1, 2, 3, 4, 5, 6, 0] rfl) (fun y3z x5z x6z x7z hw H locs ls hH hS hl => ih y3z x5z x6z x7z hw H locs ls hH hS hl hK284)
      have hw := hw.2 h
      refine lv_aload hx hb dX14_passTo_241 (lv_at hl 0 rfl) ?_
      refine g15_22 C hH hq13 q1729 dX14_passTo_243 ?_
      refine lv_i2l (v := (σ 15 x7.toNatClampNeg 22).toInt64) hx hb dX14_passTo_246 rfl ?_
      refine lv_lstore_n (lv' := [(3, .long ((σ 15 x7.toNatClampNeg 22).toInt64)), (8, .ref (ga G 15 x7.toNatClampNeg)), (0, .ref (ga G 14 0)), (1, .int x1), (5, .int x5), (6, .int x6), (7, .int x7)]) hx hb dX14_passTo_247 rfl hl (by decide) rfl (fun ls hl => ?_)
      refine lv_iconst (v := 2) hx hb dX14_passTo_248 (by decide) ?_
      refine lv_istore (lv' := [(5, .int 2), (3, .long ((σ 15 x7.toNatClampNeg 22).toInt64)), (8, .ref (ga G 15 x7.toNatClampNeg)), (0, .ref (ga G 14 0)), (1, .int x1), (6, .int x6), (7, .int x7)]) hx hb dX14_passTo_249 hl (by decide) rfl (fun ls hl => ?_)
      refine lv_iload hx hb dX14_passTo_251 (lv_at hl 6 rfl) ?_
      refine lv_istore (lv' := [(6, .int x7), (5, .int 2), (3, .long ((σ 15 x7.toNatClampNeg 22).toInt64)), (8, .ref (ga G 15 x7.toNatClampNeg)), (0, .ref (ga G 14 0)), (1, .int x1), (7, .int x7)]) hx hb dX14_passTo_253 hl (by decide) rfl (fun ls hl => ?_)
      exact k14_passTo_J255 C σ x1 ((σ 15 x7.toNatClampNeg 22).toInt64) 2 x7 x7 x7.toNatClampNeg hq13 hw H locs ls hH hS (lv_sub hl [4, 5, 2, 1, 0, 6, 3] rfl) (fun y3z x5z x6z x7z hw H locs ls hH hS hl => ih y3z x5z x6z x7z hw H locs ls hH hS hl hK284)
    have hw := hw.2 h
    refine lv_goto (tgt := 278) hx hb dX14_passTo_219 (by decide) ?_
    refine lv_iinc (v := x7 + 1) (lv' := [(7, .int (x7 + 1)), (8, .ref (ga G 15 x7.toNatClampNeg)), (0, .ref (ga G 14 0)), (1, .int x1), (3, .long y3), (5, .int x5), (6, .int x6)]) hx hb dX14_passTo_278 hl (k := 6) rfl rfl (by decide) rfl (fun ls hl => ?_)
    refine lv_goto (tgt := 195) hx hb dX14_passTo_281 (by decide) ?_
    exact ih y3 x5 x6 (x7 + 1) hw H locs ls hH hS (lv_sub hl [2, 3, 4, 5, 6, 0] rfl) hK284
def w14_passTo_J296 (σ : St) (x1 : Int32) (y3 : Int64) (x5 : Int32) (x6 : Int32) (xs0 : Int32) (Q : St → Prop) (K2 : St → Int32 → Prop) : Prop := (xs0 = 0 → K2 σ xs0) ∧ (¬ xs0 = 0 → (∀ σ18, σ18 = up3 σ 14 0 10 ((lmax ((σ 14 0 10).toInt64) y3).toInt32) → ((¬ x5 = 0 → ((¬ x5 = 1 → ((¬ x5 = 2 → (vp_in x6 16 ∧ (w14_lifeEnds σ18 x6.toNatClampNeg (fun σ20 => (K2 σ20 xs0))))) ∧ (x5 = 2 → (vp_in x6 16 ∧ (w14_runOut σ18 x6.toNatClampNeg (fun σ22 => (K2 σ22 xs0))))))) ∧ (x5 = 1 → (vp_in x6 4 ∧ (∀ σ24, σ24 = up3 σ18 18 x6.toNatClampNeg 0 0 → (K2 σ24 xs0)))))) ∧ (x5 = 0 → (vp_in x6 8 ∧ (w14_askAgain σ18 x6.toNatClampNeg (fun σ26 => (K2 σ26 xs0))))))))
set_option maxHeartbeats 4000000 in
theorem k14_passTo_J296 {p : Program} {l : Launch} {e : Env} {s : State} {m : MethodId} {args : Array Value} {below : List Frame} {meth : Method} {c : Code} {G : Gh} {a1 : Nat → Nat → Nat} {τ : St} {Q : St → Prop} {K2 : St → Int32 → Prop} (C : Cx p e s m args meth c cX14_passTo 11 none "WebHostModel" G) (σ : St) (x1 : Int32) (y3 : Int64) (x5 : Int32) (x6 : Int32) (xs0 : Int32) (hw : w14_passTo_J296 σ x1 y3 x5 x6 xs0 Q K2) (H : Heap) (locs : List Loc) (ls : Array Slot) (hH : Hd G a1 (cmb τ σ) H) (hS : va_S (gA G) s.heap H locs) (hl : lv_has ls 11 [(0, .ref (ga G 14 0)), (1, .int x1), (3, .long y3), (5, .int x5), (6, .int x6)]) (hK2 : ∀ (σ : St) (x2 : Int32), K2 σ x2 → ∀ (H : Heap) (locs : List Loc) (ls : Array Slot), Hd G a1 (cmb τ σ) H → va_S (gA G) s.heap H locs → lv_has ls 11 [(0, .ref (ga G 14 0)), (1, .int x1), (2, .int x2)] → W p l e rmX14_passTo s m args below meth c H locs 0 0 (MQ below (QVs G a1 (fun u => cmb τ u) Q) args s 0 0 (gA G)) (F0 m 2 ls [])) : W p l e rmX14_passTo s m args below meth c H locs 0 0 (MQ below (QVs G a1 (fun u => cmb τ u) Q) args s 0 0 (gA G)) (F0 m 296 ls [.int xs0]) := by
  have hx := C.1
  have hb := C.2.1
  have hown := C.2.2.2.2.2.1
  have hts := C.2.2.2.2.2.2.1
  refine lv_istore_n (lv' := [(2, .int xs0), (0, .ref (ga G 14 0)), (1, .int x1), (3, .long y3), (5, .int x5), (6, .int x6)]) hx hb dX14_passTo_296 rfl hl (by decide) rfl (fun ls hl => ?_)
  refine lv_iload_n hx hb dX14_passTo_297 rfl (lv_at hl 0 rfl) ?_
  refine lv_if_eq (tgt := 385) hx hb dX14_passTo_298 (by decide) (fun h => ?_) (fun h => ?_)
  · have hw := hw.1 h
    refine lv_goto (tgt := 2) hx hb dX14_passTo_385 (by decide) ?_
    exact hK2 σ xs0 hw H locs ls hH hS (lv_sub hl [1, 2, 0] rfl)
  have hw := hw.2 h
  refine lv_aload_n hx hb dX14_passTo_301 rfl (lv_at hl 1 rfl) ?_
  refine lv_aload_n hx hb dX14_passTo_302 rfl (lv_at hl 1 rfl) ?_
  refine g14_10 C hH q1950 dX14_passTo_303 ?_
  refine lv_i2l (v := (σ 14 0 10).toInt64) hx hb dX14_passTo_306 rfl ?_
  refine lv_lload_n hx hb dX14_passTo_307 rfl (lv_at hl 3 rfl) ?_
  refine r_lmax C hl.1 q2202 (Nat.le_of_ble_eq_true rfl) (Nat.le_of_ble_eq_true rfl) (Nat.zero_le _) (Nat.zero_le _) dX14_passTo_308 ?_
  refine lv_l2i (v := (lmax ((σ 14 0 10).toInt64) y3).toInt32) hx hb dX14_passTo_311 rfl ?_
  refine p14_10 C hH hS q1950 dX14_passTo_312 (fun σ18 e18 H locs hH hS => ?_)
  have hw := hw σ18 e18
  refine lv_iload hx hb dX14_passTo_315 (lv_at hl 4 rfl) ?_
  refine lv_if_ne (tgt := 334) hx hb dX14_passTo_317 (by decide) (fun h => ?_) (fun h => ?_)
  · have hw := hw.1 h
    refine lv_iload hx hb dX14_passTo_334 (lv_at hl 4 rfl) ?_
    refine lv_iconst (v := 1) hx hb dX14_passTo_336 (by decide) ?_
    refine lv_icmp_ne (tgt := 354) hx hb dX14_passTo_337 (by decide) (fun h => ?_) (fun h => ?_)
    · have hw := hw.1 h
      refine lv_iload hx hb dX14_passTo_354 (lv_at hl 4 rfl) ?_
      refine lv_iconst (v := 2) hx hb dX14_passTo_356 (by decide) ?_
      refine lv_icmp_ne (tgt := 374) hx hb dX14_passTo_357 (by decide) (fun h => ?_) (fun h => ?_)
      · have hw := hw.1 h
        refine lv_aload_n hx hb dX14_passTo_374 rfl (lv_at hl 1 rfl) ?_
        refine lv_aload_n hx hb dX14_passTo_375 rfl (lv_at hl 1 rfl) ?_
        refine g14_31 C hH q1971 dX14_passTo_376 ?_
        refine lv_iload hx hb dX14_passTo_379 (lv_at hl 5 rfl) ?_
        have hq19 := vp_lt hw.1
        refine l65 C hH hw.1 dX14_passTo_381 ?_
        have hw := hw.2
        refine kc_v (rn_v (As := [.ref (ga G 15 x6.toNatClampNeg)]) (rest := []) C hH hS (by decide) rfl (by decide) (m14_lifeEnds l G a1 τ σ18 x6.toNatClampNeg hq19 _ hw) (cwV 1 hts (lw_V q2317 q2319 qs102 q171 q2320) rfl rfl rfl kX14_lifeEnds ⟨Nat.le_of_ble_eq_true rfl, Nat.le_of_ble_eq_true rfl⟩) rfl hl.1 rfl (Nat.le_of_ble_eq_true rfl) dX14_passTo_382 ⟨Nat.le_of_ble_eq_true rfl, Nat.le_of_ble_eq_true rfl⟩) hS (fun σ20 H locs hw hH hS => ?_)
        refine lv_goto (tgt := 2) hx hb dX14_passTo_385 (by decide) ?_
        exact hK2 σ20 xs0 hw H locs ls hH hS (lv_sub hl [1, 2, 0] rfl)
      have hw := hw.2 h
      refine lv_aload_n hx hb dX14_passTo_360 rfl (lv_at hl 1 rfl) ?_
      refine lv_aload_n hx hb dX14_passTo_361 rfl (lv_at hl 1 rfl) ?_
      refine g14_31 C hH q1971 dX14_passTo_362 ?_
      refine lv_iload hx hb dX14_passTo_365 (lv_at hl 5 rfl) ?_
      have hq21 := vp_lt hw.1
      refine l65 C hH hw.1 dX14_passTo_367 ?_
      have hw := hw.2
      refine kc_v (rn_v (As := [.ref (ga G 15 x6.toNatClampNeg)]) (rest := []) C hH hS (by decide) rfl (by decide) (m14_runOut l G a1 τ σ18 x6.toNatClampNeg hq21 _ hw) (cwV 1 hts (lw_V q2227 q2229 qs86 q171 q2230) rfl rfl rfl kX14_runOut ⟨Nat.le_of_ble_eq_true rfl, Nat.le_of_ble_eq_true rfl⟩) rfl hl.1 rfl (Nat.le_of_ble_eq_true rfl) dX14_passTo_368 ⟨Nat.le_of_ble_eq_true rfl, Nat.le_of_ble_eq_true rfl⟩) hS (fun σ22 H locs hw hH hS => ?_)
      refine lv_goto (tgt := 385) hx hb dX14_passTo_371 (by decide) ?_
      refine lv_goto (tgt := 2) hx hb dX14_passTo_385 (by decide) ?_
      exact hK2 σ22 xs0 hw H locs ls hH hS (lv_sub hl [1, 2, 0] rfl)
    have hw := hw.2 h
    refine lv_aload_n hx hb dX14_passTo_340 rfl (lv_at hl 1 rfl) ?_
    refine g14_28 C hH q1968 dX14_passTo_341 ?_
    refine lv_iload hx hb dX14_passTo_344 (lv_at hl 5 rfl) ?_
    have hq23 := vp_lt hw.1
    refine l63 C hH hw.1 dX14_passTo_346 ?_
    have hw := hw.2
    refine lv_iconst (v := 0) hx hb dX14_passTo_347 (by decide) ?_
    refine p18_0 C hH hS hq23 (Or.inl rfl) q1910 dX14_passTo_348 (fun σ24 e24 H locs hH hS => ?_)
    have hw := hw σ24 e24
    refine lv_goto (tgt := 385) hx hb dX14_passTo_351 (by decide) ?_
    refine lv_goto (tgt := 2) hx hb dX14_passTo_385 (by decide) ?_
    exact hK2 σ24 xs0 hw H locs ls hH hS (lv_sub hl [1, 2, 0] rfl)
  have hw := hw.2 h
  refine lv_aload_n hx hb dX14_passTo_320 rfl (lv_at hl 1 rfl) ?_
  refine lv_aload_n hx hb dX14_passTo_321 rfl (lv_at hl 1 rfl) ?_
  refine g14_27 C hH q1967 dX14_passTo_322 ?_
  refine lv_iload hx hb dX14_passTo_325 (lv_at hl 5 rfl) ?_
  have hq25 := vp_lt hw.1
  refine l62 C hH hw.1 dX14_passTo_327 ?_
  have hw := hw.2
  refine kc_v (rn_v (As := [.ref (ga G 17 x6.toNatClampNeg)]) (rest := []) C hH hS (by decide) rfl (by decide) (m14_askAgain l G a1 τ σ18 x6.toNatClampNeg hq25 _ hw) (cwV 1 hts (lw_V q2205 q2207 qs81 q171 q2208) rfl rfl rfl kX14_askAgain ⟨Nat.le_of_ble_eq_true rfl, Nat.le_of_ble_eq_true rfl⟩) rfl hl.1 rfl (Nat.le_of_ble_eq_true rfl) dX14_passTo_328 ⟨Nat.le_of_ble_eq_true rfl, Nat.le_of_ble_eq_true rfl⟩) hS (fun σ26 H locs hw hH hS => ?_)
  refine lv_goto (tgt := 385) hx hb dX14_passTo_331 (by decide) ?_
  refine lv_goto (tgt := 2) hx hb dX14_passTo_385 (by decide) ?_
  exact hK2 σ26 xs0 hw H locs ls hH hS (lv_sub hl [1, 2, 0] rfl)
def w14_passTo_L2 (x1 : Int32) (Q : St → Prop) (K388 : St → Prop) : Nat → St → Int32 → Prop
  | 0, _, _ => False
  | n + 1, σ, x2 => (x2 = 0 → K388 σ) ∧ (¬ x2 = 0 → (∃ z7, w14_passTo_L19 σ x1 Q (fun y3_8 x5_8 x6_8 => ∃ z11, w14_passTo_L103 σ x1 Q (fun y3_12 x5_12 x6_12 => ∃ z16, w14_passTo_L195 σ x1 Q (fun y3_17 x5_17 x6_17 => (0 < (lg_cmp y3_17 x1.toInt64) → (w14_passTo_J296 σ x1 y3_17 x5_17 x6_17 0 Q (fun σz x2z => w14_passTo_L2 x1 Q K388 n σz x2z))) ∧ (¬ 0 < (lg_cmp y3_17 x1.toInt64) → (w14_passTo_J296 σ x1 y3_17 x5_17 x6_17 1 Q (fun σz x2z => w14_passTo_L2 x1 Q K388 n σz x2z)))) z16 y3_12 x5_12 x6_12 0) z11 y3_8 x5_8 x6_8 0) z7 9223372036854775807 (-1) 0 0))
set_option maxHeartbeats 4000000 in
theorem k14_passTo_L2 {p : Program} {l : Launch} {e : Env} {s : State} {m : MethodId} {args : Array Value} {below : List Frame} {meth : Method} {c : Code} {G : Gh} {a1 : Nat → Nat → Nat} {τ : St} {Q : St → Prop} {K388 : St → Prop} (C : Cx p e s m args meth c cX14_passTo 11 none "WebHostModel" G) (x1 : Int32) :
    ∀ (n : Nat) (σ : St) (x2 : Int32), w14_passTo_L2 x1 Q K388 n σ x2 → ∀ (H : Heap) (locs : List Loc) (ls : Array Slot), Hd G a1 (cmb τ σ) H → va_S (gA G) s.heap H locs → lv_has ls 11 [(0, .ref (ga G 14 0)), (1, .int x1), (2, .int x2)] → (∀ (σ : St) , K388 σ → ∀ (H : Heap) (locs : List Loc) (ls : Array Slot), Hd G a1 (cmb τ σ) H → va_S (gA G) s.heap H locs → lv_has ls 11 [(0, .ref (ga G 14 0)), (1, .int x1)] → W p l e rmX14_passTo s m args below meth c H locs 0 0 (MQ below (QVs G a1 (fun u => cmb τ u) Q) args s 0 0 (gA G)) (F0 m 388 ls [])) → W p l e rmX14_passTo s m args below meth c H locs 0 0 (MQ below (QVs G a1 (fun u => cmb τ u) Q) args s 0 0 (gA G)) (F0 m 2 ls []) := by
  have hx := C.1
  have hb := C.2.1
  have hown := C.2.2.2.2.2.1
  have hts := C.2.2.2.2.2.2.1
  intro n
  induction n with
  | zero =>
    intro σ x2 hw
    exact False.elim hw
  | succ n ih =>
    intro σ x2 hw H locs ls hH hS hl hK388
    refine lv_iload_n hx hb dX14_passTo_2 rfl (lv_at hl 2 rfl) ?_
    refine lv_if_eq (tgt := 388) hx hb dX14_passTo_3 (by decide) (fun h => ?_) (fun h => ?_)
    · have hw := hw.1 h
      exact hK388 σ hw H locs ls hH hS (lv_sub hl [0, 1] rfl)
    have hw := hw.2 h
    refine lv_ldc2 (v := 9223372036854775807) hx hb hown (hts _ q2180) dX14_passTo_6 ?_
    refine lv_lstore_n (lv' := [(3, .long 9223372036854775807), (0, .ref (ga G 14 0)), (1, .int x1), (2, .int x2)]) hx hb dX14_passTo_9 rfl hl (by decide) rfl (fun ls hl => ?_)
    refine lv_iconst (v := (-1)) hx hb dX14_passTo_10 (by decide) ?_
    refine lv_istore (lv' := [(5, .int (-1)), (3, .long 9223372036854775807), (0, .ref (ga G 14 0)), (1, .int x1), (2, .int x2)]) hx hb dX14_passTo_11 hl (by decide) rfl (fun ls hl => ?_)
    refine lv_iconst (v := 0) hx hb dX14_passTo_13 (by decide) ?_
    refine lv_istore (lv' := [(6, .int 0), (5, .int (-1)), (3, .long 9223372036854775807), (0, .ref (ga G 14 0)), (1, .int x1), (2, .int x2)]) hx hb dX14_passTo_14 hl (by decide) rfl (fun ls hl => ?_)
    refine lv_iconst (v := 0) hx hb dX14_passTo_16 (by decide) ?_
    refine lv_istore (lv' := [(7, .int 0), (6, .int 0), (5, .int (-1)), (3, .long 9223372036854775807), (0, .ref (ga G 14 0)), (1, .int x1), (2, .int x2)]) hx hb dX14_passTo_17 hl (by decide) rfl (fun ls hl => ?_)
    obtain ⟨n7, hw⟩ := hw
    refine k14_passTo_L19 C σ x1 n7 9223372036854775807 (-1) 0 0 hw H locs ls hH hS (lv_sub hl [4, 5, 3, 2, 1, 0] rfl) (fun y3_8 x5_8 x6_8 hw H locs ls hH hS hl => ?_)
    refine lv_iconst (v := 0) hx hb dX14_passTo_100 (by decide) ?_
    refine lv_istore (lv' := [(7, .int 0), (0, .ref (ga G 14 0)), (1, .int x1), (3, .long y3_8), (5, .int x5_8), (6, .int x6_8)]) hx hb dX14_passTo_101 hl (by decide) rfl (fun ls hl => ?_)
    obtain ⟨n11, hw⟩ := hw
    refine k14_passTo_L103 C σ x1 n11 y3_8 x5_8 x6_8 0 hw H locs ls hH hS (lv_sub hl [1, 2, 3, 4, 5, 0] rfl) (fun y3_12 x5_12 x6_12 hw H locs ls hH hS hl => ?_)
    refine lv_iconst (v := 0) hx hb dX14_passTo_192 (by decide) ?_
    refine lv_istore (lv' := [(7, .int 0), (0, .ref (ga G 14 0)), (1, .int x1), (3, .long y3_12), (5, .int x5_12), (6, .int x6_12)]) hx hb dX14_passTo_193 hl (by decide) rfl (fun ls hl => ?_)
    obtain ⟨n16, hw⟩ := hw
    refine k14_passTo_L195 C σ x1 n16 y3_12 x5_12 x6_12 0 hw H locs ls hH hS (lv_sub hl [1, 2, 3, 4, 5, 0] rfl) (fun y3_17 x5_17 x6_17 hw H locs ls hH hS hl => ?_)
    refine lv_lload_n hx hb dX14_passTo_284 rfl (lv_at hl 2 rfl) ?_
    refine lv_iload_n hx hb dX14_passTo_285 rfl (lv_at hl 1 rfl) ?_
    refine lv_i2l (v := x1.toInt64) hx hb dX14_passTo_286 rfl ?_
    refine W.lcmp hx hb dX14_passTo_287 ?_
    refine lv_if_gt (tgt := 295) hx hb dX14_passTo_288 (by decide) (fun h => ?_) (fun h => ?_)
    · have hw := hw.1 h
      refine lv_iconst (v := 0) hx hb dX14_passTo_295 (by decide) ?_
      exact k14_passTo_J296 C σ x1 y3_17 x5_17 x6_17 0 hw H locs ls hH hS (lv_sub hl [0, 1, 2, 3, 4] rfl) (fun σz x2z hw H locs ls hH hS hl => ih σz x2z hw H locs ls hH hS hl hK388)
    have hw := hw.2 h
    refine lv_iconst (v := 1) hx hb dX14_passTo_291 (by decide) ?_
    refine lv_goto (tgt := 296) hx hb dX14_passTo_292 (by decide) ?_
    exact k14_passTo_J296 C σ x1 y3_17 x5_17 x6_17 1 hw H locs ls hH hS (lv_sub hl [0, 1, 2, 3, 4] rfl) (fun σz x2z hw H locs ls hH hS hl => ih σz x2z hw H locs ls hH hS hl hK388)
def w14_passTo (σ : St) (x1 : Int32) (Q : St → Prop) : Prop := ∃ z27, w14_passTo_L2 x1 Q (fun σ28 => ∀ σ29, σ29 = up3 σ28 14 0 10 x1 → (Q σ29)) z27 σ 1
set_option maxHeartbeats 4000000 in
theorem m14_passTo (l : Launch) (G : Gh) (a1 : Nat → Nat → Nat) (τ : St) (σ : St) (x1 : Int32) (Q : St → Prop) (hw : w14_passTo σ x1 Q) : Met l yX14_passTo (ws_ yX14_passTo cX14_passTo 11 none) rmX14_passTo (PcS G a1 (cmb τ σ) [.ref (ga G 14 0), .int x1]) (QVs G a1 (fun u => cmb τ u) Q) 0 0 (gA G) := by
  refine met_w (by decide) (Nat.le_of_ble_eq_true rfl) ?_
  intro p e s m below meth c ls C hH hS hl
  have C : Cx p e s m _ meth c cX14_passTo 11 none "WebHostModel" G := C
  have hl : lv_has ls 11 [(0, .ref (ga G 14 0)), (1, .int x1)] := hl
  have hx := C.1
  have hb := C.2.1
  have hown := C.2.2.2.2.2.1
  have hts := C.2.2.2.2.2.2.1
  obtain ⟨locs, hlocs⟩ : ∃ z : List Loc, z = [] := ⟨_, rfl⟩
  obtain ⟨H, hHe⟩ : ∃ z : Heap, z = s.heap := ⟨_, rfl⟩
  have hH : Hd G a1 (cmb τ σ) H := by rw [hHe]; exact hH
  have hS : va_S (gA G) s.heap H locs := by rw [hHe, hlocs]; exact hS
  refine W.heap0 hHe.symm hlocs.symm ?_
  refine lv_iconst (v := 1) hx hb dX14_passTo_0 (by decide) ?_
  refine lv_istore_n (lv' := [(2, .int 1), (0, .ref (ga G 14 0)), (1, .int x1)]) hx hb dX14_passTo_1 rfl hl (by decide) rfl (fun ls hl => ?_)
  obtain ⟨n27, hw⟩ := hw
  refine k14_passTo_L2 C x1 n27 σ 1 hw H locs ls hH hS (lv_sub hl [1, 2, 0] rfl) (fun σ28 hw H locs ls hH hS hl => ?_)
  refine lv_aload_n hx hb dX14_passTo_388 rfl (lv_at hl 0 rfl) ?_
  refine lv_iload_n hx hb dX14_passTo_389 rfl (lv_at hl 1 rfl) ?_
  refine p14_10 C hH hS q1950 dX14_passTo_390 (fun σ29 e29 H locs hH hS => ?_)
  have hw := hw σ29 e29
  exact rt_v C hH hS hw dX14_passTo_393
/-! WebHost.goOn(I)V -/
abbrev cX0_goOn : ByteArray := prog_1_method_8_code
def yX0_goOn : MethodName := ⟨RX0, "goOn", "(I)V"⟩
theorem dX0_goOn_0 : decode cX0_goOn 0 = .ok (.aload_n 0, 1) := by decide +kernel
theorem dX0_goOn_1 : decode cX0_goOn 1 = .ok (.invokevirtual 160, 3) := by decide +kernel
theorem dX0_goOn_4 : decode cX0_goOn 4 = .ok (.istore_n 2, 1) := by decide +kernel
theorem dX0_goOn_5 : decode cX0_goOn 5 = .ok (.iload_n 2, 1) := by decide +kernel
theorem dX0_goOn_6 : decode cX0_goOn 6 = .ok (.iload_n 1, 1) := by decide +kernel
theorem dX0_goOn_7 : decode cX0_goOn 7 = .ok (.if_icmp .gt 24, 3) := by decide +kernel
theorem dX0_goOn_10 : decode cX0_goOn 10 = .ok (.aload_n 0, 1) := by decide +kernel
theorem dX0_goOn_11 : decode cX0_goOn 11 = .ok (.getfield 24, 3) := by decide +kernel
theorem dX0_goOn_14 : decode cX0_goOn 14 = .ok (.iload_n 2, 1) := by decide +kernel
theorem dX0_goOn_15 : decode cX0_goOn 15 = .ok (.putfield 139, 3) := by decide +kernel
theorem dX0_goOn_18 : decode cX0_goOn 18 = .ok (.aload_n 0, 1) := by decide +kernel
theorem dX0_goOn_19 : decode cX0_goOn 19 = .ok (.iload_n 2, 1) := by decide +kernel
theorem dX0_goOn_20 : decode cX0_goOn 20 = .ok (.invokevirtual 161, 3) := by decide +kernel
theorem dX0_goOn_23 : decode cX0_goOn 23 = .ok (.aload_n 0, 1) := by decide +kernel
theorem dX0_goOn_24 : decode cX0_goOn 24 = .ok (.invokevirtual 160, 3) := by decide +kernel
theorem dX0_goOn_27 : decode cX0_goOn 27 = .ok (.istore_n 2, 1) := by decide +kernel
theorem dX0_goOn_28 : decode cX0_goOn 28 = .ok (.goto (-23), 3) := by decide +kernel
theorem dX0_goOn_31 : decode cX0_goOn 31 = .ok (.aload_n 0, 1) := by decide +kernel
theorem dX0_goOn_32 : decode cX0_goOn 32 = .ok (.getfield 24, 3) := by decide +kernel
theorem dX0_goOn_35 : decode cX0_goOn 35 = .ok (.iload_n 1, 1) := by decide +kernel
theorem dX0_goOn_36 : decode cX0_goOn 36 = .ok (.putfield 139, 3) := by decide +kernel
theorem dX0_goOn_39 : decode cX0_goOn 39 = .ok (.return_, 1) := by decide +kernel
def rmX0_goOn : Room := { frames := 11, cells := 0, slots := 0, locals := 278 }
theorem kX0_goOn : yX0_goOn.cls = "WebHost" ∧ yX0_goOn.cls ≠ "java/lang/invoke/MethodHandle" ∧ yX0_goOn.cls ≠ "java/lang/invoke/VarHandle" ∧ (parseMethodDescriptor yX0_goOn.desc).map (fun d => d.parameters.length) = some 1 := by decide +kernel
def w0_goOn_L5 (x1 : Int32) (Q : St → Prop) (K31 : St → Prop) : Nat → St → Int32 → Prop
  | 0, _, _ => False
  | n + 1, σ, x2 => (x1 < x2 → K31 σ) ∧ (¬ x1 < x2 → (∀ σ2, σ2 = up3 σ 2 0 4 x2 → (w0_act σ2 x2 (fun σ3 => (w0_due σ3 (fun r4 => (w0_goOn_L5 x1 Q K31 n σ3 r4)))))))
set_option maxHeartbeats 4000000 in
theorem k0_goOn_L5 {p : Program} {l : Launch} {e : Env} {s : State} {m : MethodId} {args : Array Value} {below : List Frame} {meth : Method} {c : Code} {G : Gh} {a1 : Nat → Nat → Nat} {τ : St} {Q : St → Prop} {K31 : St → Prop} (C : Cx p e s m args meth c cX0_goOn 3 none "WebHost" G) (x1 : Int32) :
    ∀ (n : Nat) (σ : St) (x2 : Int32), w0_goOn_L5 x1 Q K31 n σ x2 → ∀ (H : Heap) (locs : List Loc) (ls : Array Slot), Hd G a1 (cmb σ τ) H → va_S (gA G) s.heap H locs → lv_has ls 3 [(0, .ref (ga G 0 0)), (1, .int x1), (2, .int x2)] → (∀ (σ : St) , K31 σ → ∀ (H : Heap) (locs : List Loc) (ls : Array Slot), Hd G a1 (cmb σ τ) H → va_S (gA G) s.heap H locs → lv_has ls 3 [(0, .ref (ga G 0 0)), (1, .int x1)] → W p l e rmX0_goOn s m args below meth c H locs 0 0 (MQ below (QVs G a1 (fun u => cmb u τ) Q) args s 0 0 (gA G)) (F0 m 31 ls [])) → W p l e rmX0_goOn s m args below meth c H locs 0 0 (MQ below (QVs G a1 (fun u => cmb u τ) Q) args s 0 0 (gA G)) (F0 m 5 ls []) := by
  have hx := C.1
  have hb := C.2.1
  have hown := C.2.2.2.2.2.1
  have hts := C.2.2.2.2.2.2.1
  intro n
  induction n with
  | zero =>
    intro σ x2 hw
    exact False.elim hw
  | succ n ih =>
    intro σ x2 hw H locs ls hH hS hl hK31
    refine lv_iload_n hx hb dX0_goOn_5 rfl (lv_at hl 2 rfl) ?_
    refine lv_iload_n hx hb dX0_goOn_6 rfl (lv_at hl 1 rfl) ?_
    refine lv_icmp_gt (tgt := 31) hx hb dX0_goOn_7 (by decide) (fun h => ?_) (fun h => ?_)
    · have hw := hw.1 h
      exact hK31 σ hw H locs ls hH hS (lv_sub hl [0, 1] rfl)
    have hw := hw.2 h
    refine lv_aload_n hx hb dX0_goOn_10 rfl (lv_at hl 0 rfl) ?_
    refine g0_3 C hH q746 dX0_goOn_11 ?_
    refine lv_iload_n hx hb dX0_goOn_14 rfl (lv_at hl 2 rfl) ?_
    refine p2_4 C hH hS q230 dX0_goOn_15 (fun σ2 e2 H locs hH hS => ?_)
    have hw := hw σ2 e2
    refine lv_aload_n hx hb dX0_goOn_18 rfl (lv_at hl 0 rfl) ?_
    refine lv_iload_n hx hb dX0_goOn_19 rfl (lv_at hl 2 rfl) ?_
    refine kc_v (rn_v (As := [.int x2]) (rest := []) C hH hS (by decide) rfl (by decide) (m0_act l G a1 τ σ2 x2 _ hw) (cwV 1 hts (lw_V q932 q934 qs9 q157 q935) rfl rfl rfl kX0_act ⟨Nat.le_of_ble_eq_true rfl, Nat.le_of_ble_eq_true rfl⟩) rfl hl.1 rfl (Nat.le_of_ble_eq_true rfl) dX0_goOn_20 ⟨Nat.le_of_ble_eq_true rfl, Nat.le_of_ble_eq_true rfl⟩) hS (fun σ3 H locs hw hH hS => ?_)
    refine lv_aload_n hx hb dX0_goOn_23 rfl (lv_at hl 0 rfl) ?_
    refine kc_ip (rn_vp (As := []) (rest := []) C hH hS (by decide) rfl (by decide) (m0_due l G a1 τ σ3 H _ hw) (cwV 0 hts (lw_V q901 q903 qs8 q157 q904) rfl rfl rfl kX0_due ⟨Nat.le_of_ble_eq_true rfl, Nat.le_of_ble_eq_true rfl⟩) rfl hl.1 rfl (Nat.le_of_ble_eq_true rfl) dX0_goOn_24 ⟨Nat.le_of_ble_eq_true rfl, Nat.le_of_ble_eq_true rfl⟩) hS (fun r4 locs hw hS => ?_)
    refine lv_istore_n (lv' := [(2, .int r4), (0, .ref (ga G 0 0)), (1, .int x1)]) hx hb dX0_goOn_27 rfl hl (by decide) rfl (fun ls hl => ?_)
    refine lv_goto (tgt := 5) hx hb dX0_goOn_28 (by decide) ?_
    exact ih σ3 r4 hw H locs ls hH hS (lv_sub hl [1, 2, 0] rfl) hK31
def w0_goOn (σ : St) (x1 : Int32) (Q : St → Prop) : Prop := w0_due σ (fun r1 => (∃ z5, w0_goOn_L5 x1 Q (fun σ6 => ∀ σ7, σ7 = up3 σ6 2 0 4 x1 → (Q σ7)) z5 σ r1))
set_option maxHeartbeats 4000000 in
theorem m0_goOn (l : Launch) (G : Gh) (a1 : Nat → Nat → Nat) (τ : St) (σ : St) (x1 : Int32) (Q : St → Prop) (hw : w0_goOn σ x1 Q) : Met l yX0_goOn (ws_ yX0_goOn cX0_goOn 3 none) rmX0_goOn (PcS G a1 (cmb σ τ) [.ref (ga G 0 0), .int x1]) (QVs G a1 (fun u => cmb u τ) Q) 0 0 (gA G) := by
  refine met_w (by decide) (Nat.le_of_ble_eq_true rfl) ?_
  intro p e s m below meth c ls C hH hS hl
  have C : Cx p e s m _ meth c cX0_goOn 3 none "WebHost" G := C
  have hl : lv_has ls 3 [(0, .ref (ga G 0 0)), (1, .int x1)] := hl
  have hx := C.1
  have hb := C.2.1
  have hown := C.2.2.2.2.2.1
  have hts := C.2.2.2.2.2.2.1
  obtain ⟨locs, hlocs⟩ : ∃ z : List Loc, z = [] := ⟨_, rfl⟩
  obtain ⟨H, hHe⟩ : ∃ z : Heap, z = s.heap := ⟨_, rfl⟩
  have hH : Hd G a1 (cmb σ τ) H := by rw [hHe]; exact hH
  have hS : va_S (gA G) s.heap H locs := by rw [hHe, hlocs]; exact hS
  refine W.heap0 hHe.symm hlocs.symm ?_
  refine lv_aload_n hx hb dX0_goOn_0 rfl (lv_at hl 0 rfl) ?_
  refine kc_ip (rn_vp (As := []) (rest := []) C hH hS (by decide) rfl (by decide) (m0_due l G a1 τ σ H _ hw) (cwV 0 hts (lw_V q901 q903 qs8 q157 q904) rfl rfl rfl kX0_due ⟨Nat.le_of_ble_eq_true rfl, Nat.le_of_ble_eq_true rfl⟩) rfl hl.1 rfl (Nat.le_of_ble_eq_true rfl) dX0_goOn_1 ⟨Nat.le_of_ble_eq_true rfl, Nat.le_of_ble_eq_true rfl⟩) hS (fun r1 locs hw hS => ?_)
  refine lv_istore_n (lv' := [(2, .int r1), (0, .ref (ga G 0 0)), (1, .int x1)]) hx hb dX0_goOn_4 rfl hl (by decide) rfl (fun ls hl => ?_)
  obtain ⟨n5, hw⟩ := hw
  refine k0_goOn_L5 C x1 n5 σ r1 hw H locs ls hH hS (lv_sub hl [1, 2, 0] rfl) (fun σ6 hw H locs ls hH hS hl => ?_)
  refine lv_aload_n hx hb dX0_goOn_31 rfl (lv_at hl 0 rfl) ?_
  refine g0_3 C hH q746 dX0_goOn_32 ?_
  refine lv_iload_n hx hb dX0_goOn_35 rfl (lv_at hl 1 rfl) ?_
  refine p2_4 C hH hS q230 dX0_goOn_36 (fun σ7 e7 H locs hH hS => ?_)
  have hw := hw σ7 e7
  exact rt_v C hH hS hw dX0_goOn_39
/-! WebHostModel.pass(I)I -/
abbrev cX14_pass : ByteArray := prog_17_method_74_code
def yX14_pass : MethodName := ⟨RX14, "pass", "(I)I"⟩
theorem dX14_pass_0 : decode cX14_pass 0 = .ok (.aload_n 0, 1) := by decide +kernel
theorem dX14_pass_1 : decode cX14_pass 1 = .ok (.iload_n 1, 1) := by decide +kernel
theorem dX14_pass_2 : decode cX14_pass 2 = .ok (.invokevirtual 597, 3) := by decide +kernel
theorem dX14_pass_5 : decode cX14_pass 5 = .ok (.istore_n 2, 1) := by decide +kernel
theorem dX14_pass_6 : decode cX14_pass 6 = .ok (.iload_n 2, 1) := by decide +kernel
theorem dX14_pass_7 : decode cX14_pass 7 = .ok (.ifCond .ge 5, 3) := by decide +kernel
theorem dX14_pass_10 : decode cX14_pass 10 = .ok (.iload_n 2, 1) := by decide +kernel
theorem dX14_pass_11 : decode cX14_pass 11 = .ok (.ireturn, 1) := by decide +kernel
theorem dX14_pass_12 : decode cX14_pass 12 = .ok (.aload_n 0, 1) := by decide +kernel
theorem dX14_pass_13 : decode cX14_pass 13 = .ok (.getfield 137, 3) := by decide +kernel
theorem dX14_pass_16 : decode cX14_pass 16 = .ok (.istore_n 3, 1) := by decide +kernel
theorem dX14_pass_17 : decode cX14_pass 17 = .ok (.aload_n 0, 1) := by decide +kernel
theorem dX14_pass_18 : decode cX14_pass 18 = .ok (.iload_n 1, 1) := by decide +kernel
theorem dX14_pass_19 : decode cX14_pass 19 = .ok (.invokevirtual 600, 3) := by decide +kernel
theorem dX14_pass_22 : decode cX14_pass 22 = .ok (.aload_n 0, 1) := by decide +kernel
theorem dX14_pass_23 : decode cX14_pass 23 = .ok (.getfield 137, 3) := by decide +kernel
theorem dX14_pass_26 : decode cX14_pass 26 = .ok (.iload_n 3, 1) := by decide +kernel
theorem dX14_pass_27 : decode cX14_pass 27 = .ok (.isub, 1) := by decide +kernel
theorem dX14_pass_28 : decode cX14_pass 28 = .ok (.ireturn, 1) := by decide +kernel
def rmX14_pass : Room := { frames := 11, cells := 0, slots := 0, locals := 284 }
theorem kX14_pass : yX14_pass.cls = "WebHostModel" ∧ yX14_pass.cls ≠ "java/lang/invoke/MethodHandle" ∧ yX14_pass.cls ≠ "java/lang/invoke/VarHandle" ∧ (parseMethodDescriptor yX14_pass.desc).map (fun d => d.parameters.length) = some 1 := by decide +kernel
def w14_pass (σ : St) (x1 : Int32) (Q : Int32 → St → Prop) : Prop := w14_refused σ x1 (fun r1 => ((0 ≤ r1 → (w14_passTo σ x1 (fun σ2 => (Q ((σ2 14 0 23) - (σ 14 0 23)) σ2)))) ∧ (¬ 0 ≤ r1 → Q r1 σ)))
set_option maxHeartbeats 4000000 in
theorem m14_pass (l : Launch) (G : Gh) (a1 : Nat → Nat → Nat) (τ : St) (σ : St) (x1 : Int32) (Q : Int32 → St → Prop) (hw : w14_pass σ x1 Q) : Met l yX14_pass (ws_ yX14_pass cX14_pass 4 (some .int)) rmX14_pass (PcS G a1 (cmb τ σ) [.ref (ga G 14 0), .int x1]) (QIs G a1 (fun u => cmb τ u) Q) 0 0 (gA G) := by
  refine met_w (by decide) (Nat.le_of_ble_eq_true rfl) ?_
  intro p e s m below meth c ls C hH hS hl
  have C : Cx p e s m _ meth c cX14_pass 4 (some .int) "WebHostModel" G := C
  have hl : lv_has ls 4 [(0, .ref (ga G 14 0)), (1, .int x1)] := hl
  have hx := C.1
  have hb := C.2.1
  have hown := C.2.2.2.2.2.1
  have hts := C.2.2.2.2.2.2.1
  obtain ⟨locs, hlocs⟩ : ∃ z : List Loc, z = [] := ⟨_, rfl⟩
  obtain ⟨H, hHe⟩ : ∃ z : Heap, z = s.heap := ⟨_, rfl⟩
  have hH : Hd G a1 (cmb τ σ) H := by rw [hHe]; exact hH
  have hS : va_S (gA G) s.heap H locs := by rw [hHe, hlocs]; exact hS
  refine W.heap0 hHe.symm hlocs.symm ?_
  refine lv_aload_n hx hb dX14_pass_0 rfl (lv_at hl 0 rfl) ?_
  refine lv_iload_n hx hb dX14_pass_1 rfl (lv_at hl 1 rfl) ?_
  refine kc_ip (rn_vp (As := [.int x1]) (rest := []) C hH hS (by decide) rfl (by decide) (m14_refused l G a1 τ σ H x1 _ hw) (cwV 1 hts (lw_V q2170 q2172 qs79 q171 q2173) rfl rfl rfl kX14_refused ⟨Nat.le_of_ble_eq_true rfl, Nat.le_of_ble_eq_true rfl⟩) rfl hl.1 rfl (Nat.le_of_ble_eq_true rfl) dX14_pass_2 ⟨Nat.le_of_ble_eq_true rfl, Nat.le_of_ble_eq_true rfl⟩) hS (fun r1 locs hw hS => ?_)
  refine lv_istore_n (lv' := [(2, .int r1), (0, .ref (ga G 14 0)), (1, .int x1)]) hx hb dX14_pass_5 rfl hl (by decide) rfl (fun ls hl => ?_)
  refine lv_iload_n hx hb dX14_pass_6 rfl (lv_at hl 0 rfl) ?_
  refine lv_if_ge (tgt := 12) hx hb dX14_pass_7 (by decide) (fun h => ?_) (fun h => ?_)
  · have hw := hw.1 h
    refine lv_aload_n hx hb dX14_pass_12 rfl (lv_at hl 1 rfl) ?_
    refine g14_23 C hH q1963 dX14_pass_13 ?_
    refine lv_istore_n (lv' := [(3, .int (σ 14 0 23)), (2, .int r1), (0, .ref (ga G 14 0)), (1, .int x1)]) hx hb dX14_pass_16 rfl hl (by decide) rfl (fun ls hl => ?_)
    refine lv_aload_n hx hb dX14_pass_17 rfl (lv_at hl 2 rfl) ?_
    refine lv_iload_n hx hb dX14_pass_18 rfl (lv_at hl 3 rfl) ?_
    refine kc_v (rn_v (As := [.int x1]) (rest := []) C hH hS (by decide) rfl (by decide) (m14_passTo l G a1 τ σ x1 _ hw) (cwV 1 hts (lw_V q2176 q2178 qs80 q171 q2179) rfl rfl rfl kX14_passTo ⟨Nat.le_of_ble_eq_true rfl, Nat.le_of_ble_eq_true rfl⟩) rfl hl.1 rfl (Nat.le_of_ble_eq_true rfl) dX14_pass_19 ⟨Nat.le_of_ble_eq_true rfl, Nat.le_of_ble_eq_true rfl⟩) hS (fun σ2 H locs hw hH hS => ?_)
    refine lv_aload_n hx hb dX14_pass_22 rfl (lv_at hl 2 rfl) ?_
    refine g14_23 C hH q1963 dX14_pass_23 ?_
    refine lv_iload_n hx hb dX14_pass_26 rfl (lv_at hl 0 rfl) ?_
    refine lv_isub hx hb dX14_pass_27 ?_
    exact rt_i C rfl hH hS hw dX14_pass_28
  have hw := hw.2 h
  refine lv_iload_n hx hb dX14_pass_10 rfl (lv_at hl 0 rfl) ?_
  exact rt_i C rfl hH hS hw dX14_pass_11
/-! WebHost.pass(I)I -/
abbrev cX0_pass : ByteArray := prog_1_method_10_code
def yX0_pass : MethodName := ⟨RX0, "pass", "(I)I"⟩
theorem dX0_pass_0 : decode cX0_pass 0 = .ok (.aload_n 0, 1) := by decide +kernel
theorem dX0_pass_1 : decode cX0_pass 1 = .ok (.iload_n 1, 1) := by decide +kernel
theorem dX0_pass_2 : decode cX0_pass 2 = .ok (.invokevirtual 173, 3) := by decide +kernel
theorem dX0_pass_5 : decode cX0_pass 5 = .ok (.istore_n 2, 1) := by decide +kernel
theorem dX0_pass_6 : decode cX0_pass 6 = .ok (.iload_n 2, 1) := by decide +kernel
theorem dX0_pass_7 : decode cX0_pass 7 = .ok (.ifCond .ge 5, 3) := by decide +kernel
theorem dX0_pass_10 : decode cX0_pass 10 = .ok (.iload_n 2, 1) := by decide +kernel
theorem dX0_pass_11 : decode cX0_pass 11 = .ok (.ireturn, 1) := by decide +kernel
theorem dX0_pass_12 : decode cX0_pass 12 = .ok (.aload_n 0, 1) := by decide +kernel
theorem dX0_pass_13 : decode cX0_pass 13 = .ok (.getfield 24, 3) := by decide +kernel
theorem dX0_pass_16 : decode cX0_pass 16 = .ok (.getfield 177, 3) := by decide +kernel
theorem dX0_pass_19 : decode cX0_pass 19 = .ok (.istore_n 3, 1) := by decide +kernel
theorem dX0_pass_20 : decode cX0_pass 20 = .ok (.aload_n 0, 1) := by decide +kernel
theorem dX0_pass_21 : decode cX0_pass 21 = .ok (.iload_n 1, 1) := by decide +kernel
theorem dX0_pass_22 : decode cX0_pass 22 = .ok (.invokevirtual 180, 3) := by decide +kernel
theorem dX0_pass_25 : decode cX0_pass 25 = .ok (.aload_n 0, 1) := by decide +kernel
theorem dX0_pass_26 : decode cX0_pass 26 = .ok (.getfield 24, 3) := by decide +kernel
theorem dX0_pass_29 : decode cX0_pass 29 = .ok (.getfield 177, 3) := by decide +kernel
theorem dX0_pass_32 : decode cX0_pass 32 = .ok (.iload_n 3, 1) := by decide +kernel
theorem dX0_pass_33 : decode cX0_pass 33 = .ok (.isub, 1) := by decide +kernel
theorem dX0_pass_34 : decode cX0_pass 34 = .ok (.ireturn, 1) := by decide +kernel
def rmX0_pass : Room := { frames := 12, cells := 0, slots := 0, locals := 300 }
theorem kX0_pass : yX0_pass.cls = "WebHost" ∧ yX0_pass.cls ≠ "java/lang/invoke/MethodHandle" ∧ yX0_pass.cls ≠ "java/lang/invoke/VarHandle" ∧ (parseMethodDescriptor yX0_pass.desc).map (fun d => d.parameters.length) = some 1 := by decide +kernel
def w0_pass (σ : St) (x1 : Int32) (Q : Int32 → St → Prop) : Prop := w0_refusal σ x1 (fun r1 => ((0 ≤ r1 → (w0_goOn σ x1 (fun σ2 => (Q ((σ2 2 0 3) - (σ 2 0 3)) σ2)))) ∧ (¬ 0 ≤ r1 → Q r1 σ)))
set_option maxHeartbeats 4000000 in
theorem m0_pass (l : Launch) (G : Gh) (a1 : Nat → Nat → Nat) (τ : St) (σ : St) (x1 : Int32) (Q : Int32 → St → Prop) (hw : w0_pass σ x1 Q) : Met l yX0_pass (ws_ yX0_pass cX0_pass 4 (some .int)) rmX0_pass (PcS G a1 (cmb σ τ) [.ref (ga G 0 0), .int x1]) (QIs G a1 (fun u => cmb u τ) Q) 0 0 (gA G) := by
  refine met_w (by decide) (Nat.le_of_ble_eq_true rfl) ?_
  intro p e s m below meth c ls C hH hS hl
  have C : Cx p e s m _ meth c cX0_pass 4 (some .int) "WebHost" G := C
  have hl : lv_has ls 4 [(0, .ref (ga G 0 0)), (1, .int x1)] := hl
  have hx := C.1
  have hb := C.2.1
  have hown := C.2.2.2.2.2.1
  have hts := C.2.2.2.2.2.2.1
  obtain ⟨locs, hlocs⟩ : ∃ z : List Loc, z = [] := ⟨_, rfl⟩
  obtain ⟨H, hHe⟩ : ∃ z : Heap, z = s.heap := ⟨_, rfl⟩
  have hH : Hd G a1 (cmb σ τ) H := by rw [hHe]; exact hH
  have hS : va_S (gA G) s.heap H locs := by rw [hHe, hlocs]; exact hS
  refine W.heap0 hHe.symm hlocs.symm ?_
  refine lv_aload_n hx hb dX0_pass_0 rfl (lv_at hl 0 rfl) ?_
  refine lv_iload_n hx hb dX0_pass_1 rfl (lv_at hl 1 rfl) ?_
  refine kc_ip (rn_vp (As := [.int x1]) (rest := []) C hH hS (by decide) rfl (by decide) (m0_refusal l G a1 τ σ H x1 _ hw) (cwV 1 hts (lw_V q891 q893 qs6 q157 q894) rfl rfl rfl kX0_refusal ⟨Nat.le_of_ble_eq_true rfl, Nat.le_of_ble_eq_true rfl⟩) rfl hl.1 rfl (Nat.le_of_ble_eq_true rfl) dX0_pass_2 ⟨Nat.le_of_ble_eq_true rfl, Nat.le_of_ble_eq_true rfl⟩) hS (fun r1 locs hw hS => ?_)
  refine lv_istore_n (lv' := [(2, .int r1), (0, .ref (ga G 0 0)), (1, .int x1)]) hx hb dX0_pass_5 rfl hl (by decide) rfl (fun ls hl => ?_)
  refine lv_iload_n hx hb dX0_pass_6 rfl (lv_at hl 0 rfl) ?_
  refine lv_if_ge (tgt := 12) hx hb dX0_pass_7 (by decide) (fun h => ?_) (fun h => ?_)
  · have hw := hw.1 h
    refine lv_aload_n hx hb dX0_pass_12 rfl (lv_at hl 1 rfl) ?_
    refine g0_3 C hH q746 dX0_pass_13 ?_
    refine g2_3 C hH q226 dX0_pass_16 ?_
    refine lv_istore_n (lv' := [(3, .int (σ 2 0 3)), (2, .int r1), (0, .ref (ga G 0 0)), (1, .int x1)]) hx hb dX0_pass_19 rfl hl (by decide) rfl (fun ls hl => ?_)
    refine lv_aload_n hx hb dX0_pass_20 rfl (lv_at hl 2 rfl) ?_
    refine lv_iload_n hx hb dX0_pass_21 rfl (lv_at hl 3 rfl) ?_
    refine kc_v (rn_v (As := [.int x1]) (rest := []) C hH hS (by decide) rfl (by decide) (m0_goOn l G a1 τ σ x1 _ hw) (cwV 1 hts (lw_V q897 q899 qs7 q157 q900) rfl rfl rfl kX0_goOn ⟨Nat.le_of_ble_eq_true rfl, Nat.le_of_ble_eq_true rfl⟩) rfl hl.1 rfl (Nat.le_of_ble_eq_true rfl) dX0_pass_22 ⟨Nat.le_of_ble_eq_true rfl, Nat.le_of_ble_eq_true rfl⟩) hS (fun σ2 H locs hw hH hS => ?_)
    refine lv_aload_n hx hb dX0_pass_25 rfl (lv_at hl 2 rfl) ?_
    refine g0_3 C hH q746 dX0_pass_26 ?_
    refine g2_3 C hH q226 dX0_pass_29 ?_
    refine lv_iload_n hx hb dX0_pass_32 rfl (lv_at hl 0 rfl) ?_
    refine lv_isub hx hb dX0_pass_33 ?_
    exact rt_i C rfl hH hS hw dX0_pass_34
  have hw := hw.2 h
  refine lv_iload_n hx hb dX0_pass_10 rfl (lv_at hl 0 rfl) ?_
  exact rt_i C rfl hH hS hw dX0_pass_11
