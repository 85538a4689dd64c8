/-! walks -/
set_option maxRecDepth 100000
/-! WebHostModel.field(II)Z -/
abbrev cX14_field : ByteArray := prog_17_method_92_code
def yX14_field : MethodName := ⟨RX14, "field", "(II)Z"⟩
theorem dX14_field_0 : decode cX14_field 0 = .ok (.iload_n 1, 1) := by decide +kernel
theorem dX14_field_1 : decode cX14_field 1 = .ok (.istore_n 3, 1) := by decide +kernel
theorem dX14_field_2 : decode cX14_field 2 = .ok (.iload_n 3, 1) := by decide +kernel
theorem dX14_field_3 : decode cX14_field 3 = .ok (.iload_n 2, 1) := by decide +kernel
theorem dX14_field_4 : decode cX14_field 4 = .ok (.if_icmp .ge 20, 3) := by decide +kernel
theorem dX14_field_7 : decode cX14_field 7 = .ok (.aload_n 0, 1) := by decide +kernel
theorem dX14_field_8 : decode cX14_field 8 = .ok (.iload_n 3, 1) := by decide +kernel
theorem dX14_field_9 : decode cX14_field 9 = .ok (.invokevirtual 693, 3) := by decide +kernel
theorem dX14_field_12 : decode cX14_field 12 = .ok (.invokestatic 731, 3) := by decide +kernel
theorem dX14_field_15 : decode cX14_field 15 = .ok (.ifCond .eq 9, 3) := by decide +kernel
theorem dX14_field_18 : decode cX14_field 18 = .ok (.iinc 3 1, 3) := by decide +kernel
theorem dX14_field_21 : decode cX14_field 21 = .ok (.goto (-19), 3) := by decide +kernel
theorem dX14_field_24 : decode cX14_field 24 = .ok (.iload_n 3, 1) := by decide +kernel
theorem dX14_field_25 : decode cX14_field 25 = .ok (.iload_n 1, 1) := by decide +kernel
theorem dX14_field_26 : decode cX14_field 26 = .ok (.if_icmp .eq 19, 3) := by decide +kernel
theorem dX14_field_29 : decode cX14_field 29 = .ok (.iload_n 3, 1) := by decide +kernel
theorem dX14_field_30 : decode cX14_field 30 = .ok (.iload_n 2, 1) := by decide +kernel
theorem dX14_field_31 : decode cX14_field 31 = .ok (.if_icmp .eq 14, 3) := by decide +kernel
theorem dX14_field_34 : decode cX14_field 34 = .ok (.aload_n 0, 1) := by decide +kernel
theorem dX14_field_35 : decode cX14_field 35 = .ok (.getfield 74, 3) := by decide +kernel
theorem dX14_field_38 : decode cX14_field 38 = .ok (.iload_n 3, 1) := by decide +kernel
theorem dX14_field_39 : decode cX14_field 39 = .ok (.baload, 1) := by decide +kernel
theorem dX14_field_40 : decode cX14_field 40 = .ok (.bipush 58, 2) := by decide +kernel
theorem dX14_field_42 : decode cX14_field 42 = .ok (.if_icmp .eq 5, 3) := by decide +kernel
theorem dX14_field_45 : decode cX14_field 45 = .ok (.iconst 0, 1) := by decide +kernel
theorem dX14_field_46 : decode cX14_field 46 = .ok (.ireturn, 1) := by decide +kernel
theorem dX14_field_47 : decode cX14_field 47 = .ok (.iload_n 3, 1) := by decide +kernel
theorem dX14_field_48 : decode cX14_field 48 = .ok (.iconst 1, 1) := by decide +kernel
theorem dX14_field_49 : decode cX14_field 49 = .ok (.iadd, 1) := by decide +kernel
theorem dX14_field_50 : decode cX14_field 50 = .ok (.istore 4, 2) := by decide +kernel
theorem dX14_field_52 : decode cX14_field 52 = .ok (.iload_n 2, 1) := by decide +kernel
theorem dX14_field_53 : decode cX14_field 53 = .ok (.istore 5, 2) := by decide +kernel
theorem dX14_field_55 : decode cX14_field 55 = .ok (.iload 4, 2) := by decide +kernel
theorem dX14_field_57 : decode cX14_field 57 = .ok (.istore 6, 2) := by decide +kernel
theorem dX14_field_59 : decode cX14_field 59 = .ok (.iload 6, 2) := by decide +kernel
theorem dX14_field_61 : decode cX14_field 61 = .ok (.iload 5, 2) := by decide +kernel
theorem dX14_field_63 : decode cX14_field 63 = .ok (.if_icmp .ge 40, 3) := by decide +kernel
theorem dX14_field_66 : decode cX14_field 66 = .ok (.aload_n 0, 1) := by decide +kernel
theorem dX14_field_67 : decode cX14_field 67 = .ok (.iload 6, 2) := by decide +kernel
theorem dX14_field_69 : decode cX14_field 69 = .ok (.invokevirtual 693, 3) := by decide +kernel
theorem dX14_field_72 : decode cX14_field 72 = .ok (.istore 7, 2) := by decide +kernel
theorem dX14_field_74 : decode cX14_field 74 = .ok (.iload 7, 2) := by decide +kernel
theorem dX14_field_76 : decode cX14_field 76 = .ok (.bipush 9, 2) := by decide +kernel
theorem dX14_field_78 : decode cX14_field 78 = .ok (.if_icmp .eq 19, 3) := by decide +kernel
theorem dX14_field_81 : decode cX14_field 81 = .ok (.iload 7, 2) := by decide +kernel
theorem dX14_field_83 : decode cX14_field 83 = .ok (.bipush 32, 2) := by decide +kernel
theorem dX14_field_85 : decode cX14_field 85 = .ok (.if_icmp .lt 10, 3) := by decide +kernel
theorem dX14_field_88 : decode cX14_field 88 = .ok (.iload 7, 2) := by decide +kernel
theorem dX14_field_90 : decode cX14_field 90 = .ok (.bipush 127, 2) := by decide +kernel
theorem dX14_field_92 : decode cX14_field 92 = .ok (.if_icmp .ne 5, 3) := by decide +kernel
theorem dX14_field_95 : decode cX14_field 95 = .ok (.iconst 0, 1) := by decide +kernel
theorem dX14_field_96 : decode cX14_field 96 = .ok (.ireturn, 1) := by decide +kernel
theorem dX14_field_97 : decode cX14_field 97 = .ok (.iinc 6 1, 3) := by decide +kernel
theorem dX14_field_100 : decode cX14_field 100 = .ok (.goto (-41), 3) := by decide +kernel
theorem dX14_field_103 : decode cX14_field 103 = .ok (.iload 4, 2) := by decide +kernel
theorem dX14_field_105 : decode cX14_field 105 = .ok (.iload 5, 2) := by decide +kernel
theorem dX14_field_107 : decode cX14_field 107 = .ok (.if_icmp .ge 21, 3) := by decide +kernel
theorem dX14_field_110 : decode cX14_field 110 = .ok (.aload_n 0, 1) := by decide +kernel
theorem dX14_field_111 : decode cX14_field 111 = .ok (.iload 4, 2) := by decide +kernel
theorem dX14_field_113 : decode cX14_field 113 = .ok (.invokevirtual 693, 3) := by decide +kernel
theorem dX14_field_116 : decode cX14_field 116 = .ok (.invokestatic 734, 3) := by decide +kernel
theorem dX14_field_119 : decode cX14_field 119 = .ok (.ifCond .eq 9, 3) := by decide +kernel
theorem dX14_field_122 : decode cX14_field 122 = .ok (.iinc 4 1, 3) := by decide +kernel
theorem dX14_field_125 : decode cX14_field 125 = .ok (.goto (-22), 3) := by decide +kernel
theorem dX14_field_128 : decode cX14_field 128 = .ok (.iload 5, 2) := by decide +kernel
theorem dX14_field_130 : decode cX14_field 130 = .ok (.iload 4, 2) := by decide +kernel
theorem dX14_field_132 : decode cX14_field 132 = .ok (.if_icmp .le 23, 3) := by decide +kernel
theorem dX14_field_135 : decode cX14_field 135 = .ok (.aload_n 0, 1) := by decide +kernel
theorem dX14_field_136 : decode cX14_field 136 = .ok (.iload 5, 2) := by decide +kernel
theorem dX14_field_138 : decode cX14_field 138 = .ok (.iconst 1, 1) := by decide +kernel
theorem dX14_field_139 : decode cX14_field 139 = .ok (.isub, 1) := by decide +kernel
theorem dX14_field_140 : decode cX14_field 140 = .ok (.invokevirtual 693, 3) := by decide +kernel
theorem dX14_field_143 : decode cX14_field 143 = .ok (.invokestatic 734, 3) := by decide +kernel
theorem dX14_field_146 : decode cX14_field 146 = .ok (.ifCond .eq 9, 3) := by decide +kernel
theorem dX14_field_149 : decode cX14_field 149 = .ok (.iinc 5 (-1), 3) := by decide +kernel
theorem dX14_field_152 : decode cX14_field 152 = .ok (.goto (-24), 3) := by decide +kernel
theorem dX14_field_155 : decode cX14_field 155 = .ok (.aload_n 0, 1) := by decide +kernel
theorem dX14_field_156 : decode cX14_field 156 = .ok (.iload_n 1, 1) := by decide +kernel
theorem dX14_field_157 : decode cX14_field 157 = .ok (.iload_n 3, 1) := by decide +kernel
theorem dX14_field_158 : decode cX14_field 158 = .ok (.ldc_w 737, 3) := by decide +kernel
theorem dX14_field_161 : decode cX14_field 161 = .ok (.invokevirtual 739, 3) := by decide +kernel
theorem dX14_field_164 : decode cX14_field 164 = .ok (.ifCond .eq 13, 3) := by decide +kernel
theorem dX14_field_167 : decode cX14_field 167 = .ok (.aload_n 0, 1) := by decide +kernel
theorem dX14_field_168 : decode cX14_field 168 = .ok (.dup, 1) := by decide +kernel
theorem dX14_field_169 : decode cX14_field 169 = .ok (.getfield 654, 3) := by decide +kernel
theorem dX14_field_172 : decode cX14_field 172 = .ok (.iconst 1, 1) := by decide +kernel
theorem dX14_field_173 : decode cX14_field 173 = .ok (.iadd, 1) := by decide +kernel
theorem dX14_field_174 : decode cX14_field 174 = .ok (.putfield 654, 3) := by decide +kernel
theorem dX14_field_177 : decode cX14_field 177 = .ok (.aload_n 0, 1) := by decide +kernel
theorem dX14_field_178 : decode cX14_field 178 = .ok (.iload_n 1, 1) := by decide +kernel
theorem dX14_field_179 : decode cX14_field 179 = .ok (.iload_n 3, 1) := by decide +kernel
theorem dX14_field_180 : decode cX14_field 180 = .ok (.ldc_w 742, 3) := by decide +kernel
theorem dX14_field_183 : decode cX14_field 183 = .ok (.invokevirtual 739, 3) := by decide +kernel
theorem dX14_field_186 : decode cX14_field 186 = .ok (.ifCond .eq 8, 3) := by decide +kernel
theorem dX14_field_189 : decode cX14_field 189 = .ok (.aload_n 0, 1) := by decide +kernel
theorem dX14_field_190 : decode cX14_field 190 = .ok (.iconst 1, 1) := by decide +kernel
theorem dX14_field_191 : decode cX14_field 191 = .ok (.putfield 672, 3) := by decide +kernel
theorem dX14_field_194 : decode cX14_field 194 = .ok (.aload_n 0, 1) := by decide +kernel
theorem dX14_field_195 : decode cX14_field 195 = .ok (.iload_n 1, 1) := by decide +kernel
theorem dX14_field_196 : decode cX14_field 196 = .ok (.iload_n 3, 1) := by decide +kernel
theorem dX14_field_197 : decode cX14_field 197 = .ok (.ldc_w 744, 3) := by decide +kernel
theorem dX14_field_200 : decode cX14_field 200 = .ok (.invokevirtual 739, 3) := by decide +kernel
theorem dX14_field_203 : decode cX14_field 203 = .ok (.ifCond .eq 11, 3) := by decide +kernel
theorem dX14_field_206 : decode cX14_field 206 = .ok (.aload_n 0, 1) := by decide +kernel
theorem dX14_field_207 : decode cX14_field 207 = .ok (.iload 4, 2) := by decide +kernel
theorem dX14_field_209 : decode cX14_field 209 = .ok (.iload 5, 2) := by decide +kernel
theorem dX14_field_211 : decode cX14_field 211 = .ok (.invokevirtual 746, 3) := by decide +kernel
theorem dX14_field_214 : decode cX14_field 214 = .ok (.aload_n 0, 1) := by decide +kernel
theorem dX14_field_215 : decode cX14_field 215 = .ok (.iload_n 1, 1) := by decide +kernel
theorem dX14_field_216 : decode cX14_field 216 = .ok (.iload_n 3, 1) := by decide +kernel
theorem dX14_field_217 : decode cX14_field 217 = .ok (.ldc_w 749, 3) := by decide +kernel
theorem dX14_field_220 : decode cX14_field 220 = .ok (.invokevirtual 739, 3) := by decide +kernel
theorem dX14_field_223 : decode cX14_field 223 = .ok (.ifCond .eq 11, 3) := by decide +kernel
theorem dX14_field_226 : decode cX14_field 226 = .ok (.aload_n 0, 1) := by decide +kernel
theorem dX14_field_227 : decode cX14_field 227 = .ok (.iload 4, 2) := by decide +kernel
theorem dX14_field_229 : decode cX14_field 229 = .ok (.iload 5, 2) := by decide +kernel
theorem dX14_field_231 : decode cX14_field 231 = .ok (.invokevirtual 751, 3) := by decide +kernel
theorem dX14_field_234 : decode cX14_field 234 = .ok (.aload_n 0, 1) := by decide +kernel
theorem dX14_field_235 : decode cX14_field 235 = .ok (.iload_n 1, 1) := by decide +kernel
theorem dX14_field_236 : decode cX14_field 236 = .ok (.iload_n 3, 1) := by decide +kernel
theorem dX14_field_237 : decode cX14_field 237 = .ok (.ldc_w 754, 3) := by decide +kernel
theorem dX14_field_240 : decode cX14_field 240 = .ok (.invokevirtual 739, 3) := by decide +kernel
theorem dX14_field_243 : decode cX14_field 243 = .ok (.ifCond .eq 25, 3) := by decide +kernel
theorem dX14_field_246 : decode cX14_field 246 = .ok (.aload_n 0, 1) := by decide +kernel
theorem dX14_field_247 : decode cX14_field 247 = .ok (.dup, 1) := by decide +kernel
theorem dX14_field_248 : decode cX14_field 248 = .ok (.getfield 660, 3) := by decide +kernel
theorem dX14_field_251 : decode cX14_field 251 = .ok (.iconst 1, 1) := by decide +kernel
theorem dX14_field_252 : decode cX14_field 252 = .ok (.iadd, 1) := by decide +kernel
theorem dX14_field_253 : decode cX14_field 253 = .ok (.putfield 660, 3) := by decide +kernel
theorem dX14_field_256 : decode cX14_field 256 = .ok (.aload_n 0, 1) := by decide +kernel
theorem dX14_field_257 : decode cX14_field 257 = .ok (.iload 4, 2) := by decide +kernel
theorem dX14_field_259 : decode cX14_field 259 = .ok (.putfield 756, 3) := by decide +kernel
theorem dX14_field_262 : decode cX14_field 262 = .ok (.aload_n 0, 1) := by decide +kernel
theorem dX14_field_263 : decode cX14_field 263 = .ok (.iload 5, 2) := by decide +kernel
theorem dX14_field_265 : decode cX14_field 265 = .ok (.putfield 759, 3) := by decide +kernel
theorem dX14_field_268 : decode cX14_field 268 = .ok (.iconst 1, 1) := by decide +kernel
theorem dX14_field_269 : decode cX14_field 269 = .ok (.ireturn, 1) := by decide +kernel
def rmX14_field : Room := { frames := 6, cells := 0, slots := 0, locals := 133 }
theorem kX14_field : yX14_field.cls = "WebHostModel" ∧ yX14_field.cls ≠ "java/lang/invoke/MethodHandle" ∧ yX14_field.cls ≠ "java/lang/invoke/VarHandle" ∧ (parseMethodDescriptor yX14_field.desc).map (fun d => d.parameters.length) = some 2 := by decide +kernel
def w14_field_L2 (σ : St) (x1 : Int32) (x2 : Int32) (Q : Int32 → St → Prop) (K24 : Int32 → Prop) : Nat → Int32 → Prop
  | 0, _ => False
  | n + 1, x3 => (x2 ≤ x3 → K24 x3) ∧ (¬ x2 ≤ x3 → (w14_headAt σ x3 (fun r1 => (w14_isNameCode σ r1 (fun r2 => ((r2 = 0 → K24 x3) ∧ (¬ r2 = 0 → (w14_field_L2 σ x1 x2 Q K24 n (x3 + 1)))))))))
set_option maxHeartbeats 4000000 in
theorem k14_field_L2 {p : Program} {l : Launch} {e : Env} {s : State} {m : MethodId} {args : Array Value} {below : List Frame} {meth : Method} {c : Code} {G : Gh} {a1 : Nat → Nat → Nat} {τ : St} {Q : Int32 → St → Prop} {K24 : Int32 → Prop} (C : Cx p e s m args meth c cX14_field 8 (some .boolean) "WebHostModel" G) (σ : St) (x1 : Int32) (x2 : Int32) :
    ∀ (n : Nat) (x3 : Int32), w14_field_L2 σ x1 x2 Q K24 n x3 → ∀ (H : Heap) (locs : List Loc) (ls : Array Slot), Hd G a1 (cmb τ σ) H → va_S (gA G) s.heap H locs → lv_has ls 8 [(0, .ref (ga G 14 0)), (1, .int x1), (2, .int x2), (3, .int x3)] → (∀ (x3 : Int32), K24 x3 → ∀ (H : Heap) (locs : List Loc) (ls : Array Slot), Hd G a1 (cmb τ σ) H → va_S (gA G) s.heap H locs → lv_has ls 8 [(0, .ref (ga G 14 0)), (1, .int x1), (2, .int x2), (3, .int x3)] → W p l e rmX14_field s m args below meth c H locs 0 0 (MQ below (QIs G a1 (fun u => cmb τ u) Q) args s 0 0 (gA G)) (F0 m 24 ls [])) → W p l e rmX14_field s m args below meth c H locs 0 0 (MQ below (QIs G a1 (fun u => cmb τ u) Q) args s 0 0 (gA G)) (F0 m 2 ls []) := by
  have hx := C.1
  have hb := C.2.1
  have hown := C.2.2.2.2.2.1
  have hts := C.2.2.2.2.2.2.1
  intro n
  induction n with
  | zero =>
    intro x3 hw
    exact False.elim hw
  | succ n ih =>
    intro x3 hw H locs ls hH hS hl hK24
    refine lv_iload_n hx hb dX14_field_2 rfl (lv_at hl 3 rfl) ?_
    refine lv_iload_n hx hb dX14_field_3 rfl (lv_at hl 2 rfl) ?_
    refine lv_icmp_ge (tgt := 24) hx hb dX14_field_4 (by decide) (fun h => ?_) (fun h => ?_)
    · have hw := hw.1 h
      exact hK24 x3 hw H locs ls hH hS (lv_sub hl [0, 1, 2, 3] rfl)
    have hw := hw.2 h
    refine lv_aload_n hx hb dX14_field_7 rfl (lv_at hl 0 rfl) ?_
    refine lv_iload_n hx hb dX14_field_8 rfl (lv_at hl 3 rfl) ?_
    refine kc_ip (rn_vp (As := [.int x3]) (rest := []) C hH hS (by decide) rfl (by decide) (m14_headAt l G a1 τ σ H x3 _ hw) (cwV 1 hts (lw_V q2475 q2477 qs136 q171 q2478) rfl rfl rfl kX14_headAt ⟨Nat.le_of_ble_eq_true rfl, Nat.le_of_ble_eq_true rfl⟩) rfl hl.1 rfl (Nat.le_of_ble_eq_true rfl) dX14_field_9 ⟨Nat.le_of_ble_eq_true rfl, Nat.le_of_ble_eq_true rfl⟩) hS (fun r1 locs hw hS => ?_)
    refine kc_ip (rn_sp (As := [.int r1]) (rest := []) C hH hS (m14_isNameCode l G a1 τ σ H r1 _ hw) (va_cwS 1 hts (lw_S q2493 q2494 q171 q2495) rfl rfl rfl kX14_isNameCode.2 ⟨Nat.le_of_ble_eq_true rfl, Nat.le_of_ble_eq_true rfl⟩) rfl hl.1 rfl (Nat.le_of_ble_eq_true rfl) dX14_field_12 ⟨Nat.le_of_ble_eq_true rfl, Nat.le_of_ble_eq_true rfl⟩) hS (fun r2 locs hw hS => ?_)
    refine lv_if_eq (tgt := 24) hx hb dX14_field_15 (by decide) (fun h => ?_) (fun h => ?_)
    · have hw := hw.1 h
      exact hK24 x3 hw H locs ls hH hS (lv_sub hl [0, 1, 2, 3] rfl)
    have hw := hw.2 h
    refine lv_iinc (v := x3 + 1) (lv' := [(3, .int (x3 + 1)), (0, .ref (ga G 14 0)), (1, .int x1), (2, .int x2)]) hx hb dX14_field_18 hl (k := 3) rfl rfl (by decide) rfl (fun ls hl => ?_)
    refine lv_goto (tgt := 2) hx hb dX14_field_21 (by decide) ?_
    exact ih (x3 + 1) hw H locs ls hH hS (lv_sub hl [1, 2, 3, 0] rfl) hK24
def w14_field_L59 (σ : St) (x1 : Int32) (x3 : Int32) (x4 : Int32) (x5 : Int32) (Q : Int32 → St → Prop) (K95 : Prop) (K103 : Prop) : Nat → Int32 → Prop
  | 0, _ => False
  | n + 1, x6 => (x5 ≤ x6 → K103) ∧ (¬ x5 ≤ x6 → (w14_headAt σ x6 (fun r5 => ((r5 = 9 → (w14_field_L59 σ x1 x3 x4 x5 Q K95 K103 n (x6 + 1))) ∧ (¬ r5 = 9 → ((r5 < 32 → K95) ∧ (¬ r5 < 32 → ((¬ r5 = 127 → (w14_field_L59 σ x1 x3 x4 x5 Q K95 K103 n (x6 + 1))) ∧ (r5 = 127 → K95)))))))))
set_option maxHeartbeats 4000000 in
theorem k14_field_L59 {p : Program} {l : Launch} {e : Env} {s : State} {m : MethodId} {args : Array Value} {below : List Frame} {meth : Method} {c : Code} {G : Gh} {a1 : Nat → Nat → Nat} {τ : St} {Q : Int32 → St → Prop} {K95 : Prop} {K103 : Prop} (C : Cx p e s m args meth c cX14_field 8 (some .boolean) "WebHostModel" G) (σ : St) (x1 : Int32) (x3 : Int32) (x4 : Int32) (x5 : Int32) :
    ∀ (n : Nat) (x6 : Int32), w14_field_L59 σ x1 x3 x4 x5 Q K95 K103 n x6 → ∀ (H : Heap) (locs : List Loc) (ls : Array Slot), Hd G a1 (cmb τ σ) H → va_S (gA G) s.heap H locs → lv_has ls 8 [(0, .ref (ga G 14 0)), (1, .int x1), (3, .int x3), (4, .int x4), (5, .int x5), (6, .int x6)] → (K95 → ∀ (H : Heap) (locs : List Loc) (ls : Array Slot), Hd G a1 (cmb τ σ) H → va_S (gA G) s.heap H locs → lv_has ls 8 [] → W p l e rmX14_field s m args below meth c H locs 0 0 (MQ below (QIs G a1 (fun u => cmb τ u) Q) args s 0 0 (gA G)) (F0 m 95 ls [])) → (K103 → ∀ (H : Heap) (locs : List Loc) (ls : Array Slot), Hd G a1 (cmb τ σ) H → va_S (gA G) s.heap H locs → lv_has ls 8 [(0, .ref (ga G 14 0)), (1, .int x1), (3, .int x3), (4, .int x4), (5, .int x5)] → W p l e rmX14_field s m args below meth c H locs 0 0 (MQ below (QIs G a1 (fun u => cmb τ u) Q) args s 0 0 (gA G)) (F0 m 103 ls [])) → W p l e rmX14_field s m args below meth c H locs 0 0 (MQ below (QIs G a1 (fun u => cmb τ u) Q) args s 0 0 (gA G)) (F0 m 59 ls []) := by
  have hx := C.1
  have hb := C.2.1
  have hown := C.2.2.2.2.2.1
  have hts := C.2.2.2.2.2.2.1
  intro n
  induction n with
  | zero =>
    intro x6 hw
    exact False.elim hw
  | succ n ih =>
    intro x6 hw H locs ls hH hS hl hK95 hK103
    refine lv_iload hx hb dX14_field_59 (lv_at hl 5 rfl) ?_
    refine lv_iload hx hb dX14_field_61 (lv_at hl 4 rfl) ?_
    refine lv_icmp_ge (tgt := 103) hx hb dX14_field_63 (by decide) (fun h => ?_) (fun h => ?_)
    · have hw := hw.1 h
      exact hK103 hw H locs ls hH hS (lv_sub hl [0, 1, 2, 3, 4] rfl)
    have hw := hw.2 h
    refine lv_aload_n hx hb dX14_field_66 rfl (lv_at hl 0 rfl) ?_
    refine lv_iload hx hb dX14_field_67 (lv_at hl 5 rfl) ?_
    refine kc_ip (rn_vp (As := [.int x6]) (rest := []) C hH hS (by decide) rfl (by decide) (m14_headAt l G a1 τ σ H x6 _ hw) (cwV 1 hts (lw_V q2475 q2477 qs136 q171 q2478) rfl rfl rfl kX14_headAt ⟨Nat.le_of_ble_eq_true rfl, Nat.le_of_ble_eq_true rfl⟩) rfl hl.1 rfl (Nat.le_of_ble_eq_true rfl) dX14_field_69 ⟨Nat.le_of_ble_eq_true rfl, Nat.le_of_ble_eq_true rfl⟩) hS (fun r5 locs hw hS => ?_)
    refine lv_istore (lv' := [(7, .int r5), (0, .ref (ga G 14 0)), (1, .int x1), (3, .int x3), (4, .int x4), (5, .int x5), (6, .int x6)]) hx hb dX14_field_72 hl (by decide) rfl (fun ls hl => ?_)
    refine lv_iload hx hb dX14_field_74 (lv_at hl 0 rfl) ?_
    refine lv_bipush (v := 9) hx hb dX14_field_76 (by decide) ?_
    refine lv_icmp_eq (tgt := 97) hx hb dX14_field_78 (by decide) (fun h => ?_) (fun h => ?_)
    · have hw := hw.1 h
      refine lv_iinc (v := x6 + 1) (lv' := [(6, .int (x6 + 1)), (7, .int r5), (0, .ref (ga G 14 0)), (1, .int x1), (3, .int x3), (4, .int x4), (5, .int x5)]) hx hb dX14_field_97 hl (k := 6) rfl rfl (by decide) rfl (fun ls hl => ?_)
      refine lv_goto (tgt := 59) hx hb dX14_field_100 (by decide) ?_
      exact ih (x6 + 1) hw H locs ls hH hS (lv_sub hl [2, 3, 4, 5, 6, 0] rfl) hK95 hK103
    have hw := hw.2 h
    refine lv_iload hx hb dX14_field_81 (lv_at hl 0 rfl) ?_
    refine lv_bipush (v := 32) hx hb dX14_field_83 (by decide) ?_
    refine lv_icmp_lt (tgt := 95) hx hb dX14_field_85 (by decide) (fun h => ?_) (fun h => ?_)
    · have hw := hw.1 h
      exact hK95 hw H locs ls hH hS (lv_sub hl [] rfl)
    have hw := hw.2 h
    refine lv_iload hx hb dX14_field_88 (lv_at hl 0 rfl) ?_
    refine lv_bipush (v := 127) hx hb dX14_field_90 (by decide) ?_
    refine lv_icmp_ne (tgt := 97) hx hb dX14_field_92 (by decide) (fun h => ?_) (fun h => ?_)
    · have hw := hw.1 h
      refine lv_iinc (v := x6 + 1) (lv' := [(6, .int (x6 + 1)), (7, .int r5), (0, .ref (ga G 14 0)), (1, .int x1), (3, .int x3), (4, .int x4), (5, .int x5)]) hx hb dX14_field_97 hl (k := 6) rfl rfl (by decide) rfl (fun ls hl => ?_)
      refine lv_goto (tgt := 59) hx hb dX14_field_100 (by decide) ?_
      exact ih (x6 + 1) hw H locs ls hH hS (lv_sub hl [2, 3, 4, 5, 6, 0] rfl) hK95 hK103
    have hw := hw.2 h
    exact hK95 hw H locs ls hH hS (lv_sub hl [] rfl)
def w14_field_L103 (σ : St) (x1 : Int32) (x3 : Int32) (x5 : Int32) (Q : Int32 → St → Prop) (K128 : Int32 → Prop) : Nat → Int32 → Prop
  | 0, _ => False
  | n + 1, x4 => (x5 ≤ x4 → K128 x4) ∧ (¬ x5 ≤ x4 → (w14_headAt σ x4 (fun r9 => (w14_isBlank σ r9 (fun r10 => ((r10 = 0 → K128 x4) ∧ (¬ r10 = 0 → (w14_field_L103 σ x1 x3 x5 Q K128 n (x4 + 1)))))))))
set_option maxHeartbeats 4000000 in
theorem k14_field_L103 {p : Program} {l : Launch} {e : Env} {s : State} {m : MethodId} {args : Array Value} {below : List Frame} {meth : Method} {c : Code} {G : Gh} {a1 : Nat → Nat → Nat} {τ : St} {Q : Int32 → St → Prop} {K128 : Int32 → Prop} (C : Cx p e s m args meth c cX14_field 8 (some .boolean) "WebHostModel" G) (σ : St) (x1 : Int32) (x3 : Int32) (x5 : Int32) :
    ∀ (n : Nat) (x4 : Int32), w14_field_L103 σ x1 x3 x5 Q K128 n x4 → ∀ (H : Heap) (locs : List Loc) (ls : Array Slot), Hd G a1 (cmb τ σ) H → va_S (gA G) s.heap H locs → lv_has ls 8 [(0, .ref (ga G 14 0)), (1, .int x1), (3, .int x3), (4, .int x4), (5, .int x5)] → (∀ (x4 : Int32), K128 x4 → ∀ (H : Heap) (locs : List Loc) (ls : Array Slot), Hd G a1 (cmb τ σ) H → va_S (gA G) s.heap H locs → lv_has ls 8 [(0, .ref (ga G 14 0)), (1, .int x1), (3, .int x3), (4, .int x4), (5, .int x5)] → W p l e rmX14_field s m args below meth c H locs 0 0 (MQ below (QIs G a1 (fun u => cmb τ u) Q) args s 0 0 (gA G)) (F0 m 128 ls [])) → W p l e rmX14_field s m args below meth c H locs 0 0 (MQ below (QIs G a1 (fun u => cmb τ u) Q) args s 0 0 (gA G)) (F0 m 103 ls []) := by
  have hx := C.1
  have hb := C.2.1
  have hown := C.2.2.2.2.2.1
  have hts := C.2.2.2.2.2.2.1
  intro n
  induction n with
  | zero =>
    intro x4 hw
    exact False.elim hw
  | succ n ih =>
    intro x4 hw H locs ls hH hS hl hK128
    refine lv_iload hx hb dX14_field_103 (lv_at hl 3 rfl) ?_
    refine lv_iload hx hb dX14_field_105 (lv_at hl 4 rfl) ?_
    refine lv_icmp_ge (tgt := 128) hx hb dX14_field_107 (by decide) (fun h => ?_) (fun h => ?_)
    · have hw := hw.1 h
      exact hK128 x4 hw H locs ls hH hS (lv_sub hl [0, 1, 2, 3, 4] rfl)
    have hw := hw.2 h
    refine lv_aload_n hx hb dX14_field_110 rfl (lv_at hl 0 rfl) ?_
    refine lv_iload hx hb dX14_field_111 (lv_at hl 3 rfl) ?_
    refine kc_ip (rn_vp (As := [.int x4]) (rest := []) C hH hS (by decide) rfl (by decide) (m14_headAt l G a1 τ σ H x4 _ hw) (cwV 1 hts (lw_V q2475 q2477 qs136 q171 q2478) rfl rfl rfl kX14_headAt ⟨Nat.le_of_ble_eq_true rfl, Nat.le_of_ble_eq_true rfl⟩) rfl hl.1 rfl (Nat.le_of_ble_eq_true rfl) dX14_field_113 ⟨Nat.le_of_ble_eq_true rfl, Nat.le_of_ble_eq_true rfl⟩) hS (fun r9 locs hw hS => ?_)
    refine kc_ip (rn_sp (As := [.int r9]) (rest := []) C hH hS (m14_isBlank l G a1 τ σ H r9 _ hw) (va_cwS 1 hts (lw_S q2502 q2503 q171 q2504) rfl rfl rfl kX14_isBlank.2 ⟨Nat.le_of_ble_eq_true rfl, Nat.le_of_ble_eq_true rfl⟩) rfl hl.1 rfl (Nat.le_of_ble_eq_true rfl) dX14_field_116 ⟨Nat.le_of_ble_eq_true rfl, Nat.le_of_ble_eq_true rfl⟩) hS (fun r10 locs hw hS => ?_)
    refine lv_if_eq (tgt := 128) hx hb dX14_field_119 (by decide) (fun h => ?_) (fun h => ?_)
    · have hw := hw.1 h
      exact hK128 x4 hw H locs ls hH hS (lv_sub hl [0, 1, 2, 3, 4] rfl)
    have hw := hw.2 h
    refine lv_iinc (v := x4 + 1) (lv' := [(4, .int (x4 + 1)), (0, .ref (ga G 14 0)), (1, .int x1), (3, .int x3), (5, .int x5)]) hx hb dX14_field_122 hl (k := 3) rfl rfl (by decide) rfl (fun ls hl => ?_)
    refine lv_goto (tgt := 103) hx hb dX14_field_125 (by decide) ?_
    exact ih (x4 + 1) hw H locs ls hH hS (lv_sub hl [1, 2, 3, 0, 4] rfl) hK128
def w14_field_L128 (σ : St) (x1 : Int32) (x3 : Int32) (x4 : Int32) (Q : Int32 → St → Prop) (K155 : Int32 → Prop) : Nat → Int32 → Prop
  | 0, _ => False
  | n + 1, x5 => (x5 ≤ x4 → K155 x5) ∧ (¬ x5 ≤ x4 → (w14_headAt σ (x5 - 1) (fun r13 => (w14_isBlank σ r13 (fun r14 => ((r14 = 0 → K155 x5) ∧ (¬ r14 = 0 → (w14_field_L128 σ x1 x3 x4 Q K155 n (x5 + (-1))))))))))
set_option maxHeartbeats 4000000 in
theorem k14_field_L128 {p : Program} {l : Launch} {e : Env} {s : State} {m : MethodId} {args : Array Value} {below : List Frame} {meth : Method} {c : Code} {G : Gh} {a1 : Nat → Nat → Nat} {τ : St} {Q : Int32 → St → Prop} {K155 : Int32 → Prop} (C : Cx p e s m args meth c cX14_field 8 (some .boolean) "WebHostModel" G) (σ : St) (x1 : Int32) (x3 : Int32) (x4 : Int32) :
    ∀ (n : Nat) (x5 : Int32), w14_field_L128 σ x1 x3 x4 Q K155 n x5 → ∀ (H : Heap) (locs : List Loc) (ls : Array Slot), Hd G a1 (cmb τ σ) H → va_S (gA G) s.heap H locs → lv_has ls 8 [(0, .ref (ga G 14 0)), (1, .int x1), (3, .int x3), (4, .int x4), (5, .int x5)] → (∀ (x5 : Int32), K155 x5 → ∀ (H : Heap) (locs : List Loc) (ls : Array Slot), Hd G a1 (cmb τ σ) H → va_S (gA G) s.heap H locs → lv_has ls 8 [(0, .ref (ga G 14 0)), (1, .int x1), (3, .int x3), (4, .int x4), (5, .int x5)] → W p l e rmX14_field s m args below meth c H locs 0 0 (MQ below (QIs G a1 (fun u => cmb τ u) Q) args s 0 0 (gA G)) (F0 m 155 ls [])) → W p l e rmX14_field s m args below meth c H locs 0 0 (MQ below (QIs G a1 (fun u => cmb τ u) Q) args s 0 0 (gA G)) (F0 m 128 ls []) := by
  have hx := C.1
  have hb := C.2.1
  have hown := C.2.2.2.2.2.1
  have hts := C.2.2.2.2.2.2.1
  intro n
  induction n with
  | zero =>
    intro x5 hw
    exact False.elim hw
  | succ n ih =>
    intro x5 hw H locs ls hH hS hl hK155
    refine lv_iload hx hb dX14_field_128 (lv_at hl 4 rfl) ?_
    refine lv_iload hx hb dX14_field_130 (lv_at hl 3 rfl) ?_
    refine lv_icmp_le (tgt := 155) hx hb dX14_field_132 (by decide) (fun h => ?_) (fun h => ?_)
    · have hw := hw.1 h
      exact hK155 x5 hw H locs ls hH hS (lv_sub hl [0, 1, 2, 3, 4] rfl)
    have hw := hw.2 h
    refine lv_aload_n hx hb dX14_field_135 rfl (lv_at hl 0 rfl) ?_
    refine lv_iload hx hb dX14_field_136 (lv_at hl 4 rfl) ?_
    refine lv_iconst (v := 1) hx hb dX14_field_138 (by decide) ?_
    refine lv_isub hx hb dX14_field_139 ?_
    refine kc_ip (rn_vp (As := [.int (x5 - 1)]) (rest := []) C hH hS (by decide) rfl (by decide) (m14_headAt l G a1 τ σ H (x5 - 1) _ hw) (cwV 1 hts (lw_V q2475 q2477 qs136 q171 q2478) rfl rfl rfl kX14_headAt ⟨Nat.le_of_ble_eq_true rfl, Nat.le_of_ble_eq_true rfl⟩) rfl hl.1 rfl (Nat.le_of_ble_eq_true rfl) dX14_field_140 ⟨Nat.le_of_ble_eq_true rfl, Nat.le_of_ble_eq_true rfl⟩) hS (fun r13 locs hw hS => ?_)
    refine kc_ip (rn_sp (As := [.int r13]) (rest := []) C hH hS (m14_isBlank l G a1 τ σ H r13 _ hw) (va_cwS 1 hts (lw_S q2502 q2503 q171 q2504) rfl rfl rfl kX14_isBlank.2 ⟨Nat.le_of_ble_eq_true rfl, Nat.le_of_ble_eq_true rfl⟩) rfl hl.1 rfl (Nat.le_of_ble_eq_true rfl) dX14_field_143 ⟨Nat.le_of_ble_eq_true rfl, Nat.le_of_ble_eq_true rfl⟩) hS (fun r14 locs hw hS => ?_)
    refine lv_if_eq (tgt := 155) hx hb dX14_field_146 (by decide) (fun h => ?_) (fun h => ?_)
    · have hw := hw.1 h
      exact hK155 x5 hw H locs ls hH hS (lv_sub hl [0, 1, 2, 3, 4] rfl)
    have hw := hw.2 h
    refine lv_iinc (v := x5 + (-1)) (lv' := [(5, .int (x5 + (-1))), (0, .ref (ga G 14 0)), (1, .int x1), (3, .int x3), (4, .int x4)]) hx hb dX14_field_149 hl (k := 4) rfl rfl (by decide) rfl (fun ls hl => ?_)
    refine lv_goto (tgt := 128) hx hb dX14_field_152 (by decide) ?_
    exact ih (x5 + (-1)) hw H locs ls hH hS (lv_sub hl [1, 2, 3, 4, 0] rfl) hK155
def w14_field_J234 (σ : St) (x1 : Int32) (x3 : Int32) (x4 : Int32) (x5 : Int32) (Q : Int32 → St → Prop) : Prop := w14_saysSmall σ x1 x3 52 (fun r21 => ((r21 = 0 → Q 1 σ) ∧ (¬ r21 = 0 → (∀ σ22, σ22 = up3 σ 14 0 50 ((σ 14 0 50) + 1) → (∀ σ23, σ23 = up3 σ22 14 0 61 x4 → (∀ σ24, σ24 = up3 σ23 14 0 62 x5 → (Q 1 σ24)))))))
set_option maxHeartbeats 4000000 in
theorem k14_field_J234 {p : Program} {l : Launch} {e : Env} {s : State} {m : MethodId} {args : Array Value} {below : List Frame} {meth : Method} {c : Code} {G : Gh} {a1 : Nat → Nat → Nat} {τ : St} {Q : Int32 → St → Prop} (C : Cx p e s m args meth c cX14_field 8 (some .boolean) "WebHostModel" G) (σ : St) (x1 : Int32) (x3 : Int32) (x4 : Int32) (x5 : Int32) (hw : w14_field_J234 σ x1 x3 x4 x5 Q) (H : Heap) (locs : List Loc) (ls : Array Slot) (hH : Hd G a1 (cmb τ σ) H) (hS : va_S (gA G) s.heap H locs) (hl : lv_has ls 8 [(0, .ref (ga G 14 0)), (1, .int x1), (3, .int x3), (4, .int x4), (5, .int x5)]) : W p l e rmX14_field s m args below meth c H locs 0 0 (MQ below (QIs G a1 (fun u => cmb τ u) Q) args s 0 0 (gA G)) (F0 m 234 ls []) := by
  have hx := C.1
  have hb := C.2.1
  have hown := C.2.2.2.2.2.1
  have hts := C.2.2.2.2.2.2.1
  refine lv_aload_n hx hb dX14_field_234 rfl (lv_at hl 0 rfl) ?_
  refine lv_iload_n hx hb dX14_field_235 rfl (lv_at hl 1 rfl) ?_
  refine lv_iload_n hx hb dX14_field_236 rfl (lv_at hl 2 rfl) ?_
  refine str_ldcw (n := 52) C st52 dX14_field_237 ?_
  refine kc_ip (rn_vp (As := [.int x1, .int x3, .ref (gs G 52)]) (rest := []) C hH hS (by decide) rfl (by decide) (m14_saysSmall l G a1 τ σ H x1 x3 52 (by decide) _ hw) (cwV 3 hts (lw_V q2506 q2508 qs139 q171 q2509) rfl rfl rfl kX14_saysSmall ⟨Nat.le_of_ble_eq_true rfl, Nat.le_of_ble_eq_true rfl⟩) rfl hl.1 rfl (Nat.le_of_ble_eq_true rfl) dX14_field_240 ⟨Nat.le_of_ble_eq_true rfl, Nat.le_of_ble_eq_true rfl⟩) hS (fun r21 locs hw hS => ?_)
  refine lv_if_eq (tgt := 268) hx hb dX14_field_243 (by decide) (fun h => ?_) (fun h => ?_)
  · have hw := hw.1 h
    refine lv_iconst (v := 1) hx hb dX14_field_268 (by decide) ?_
    exact rt_i C rfl hH hS hw dX14_field_269
  have hw := hw.2 h
  refine lv_aload_n hx hb dX14_field_246 rfl (lv_at hl 0 rfl) ?_
  refine lv_dup hx hb dX14_field_247 rfl ?_
  refine g14_50 C hH q1990 dX14_field_248 ?_
  refine lv_iconst (v := 1) hx hb dX14_field_251 (by decide) ?_
  refine lv_iadd hx hb dX14_field_252 ?_
  refine p14_50 C hH hS q1990 dX14_field_253 (fun σ22 e22 H locs hH hS => ?_)
  have hw := hw σ22 e22
  refine lv_aload_n hx hb dX14_field_256 rfl (lv_at hl 0 rfl) ?_
  refine lv_iload hx hb dX14_field_257 (lv_at hl 3 rfl) ?_
  refine p14_61 C hH hS q2001 dX14_field_259 (fun σ23 e23 H locs hH hS => ?_)
  have hw := hw σ23 e23
  refine lv_aload_n hx hb dX14_field_262 rfl (lv_at hl 0 rfl) ?_
  refine lv_iload hx hb dX14_field_263 (lv_at hl 4 rfl) ?_
  refine p14_62 C hH hS q2002 dX14_field_265 (fun σ24 e24 H locs hH hS => ?_)
  have hw := hw σ24 e24
  refine lv_iconst (v := 1) hx hb dX14_field_268 (by decide) ?_
  exact rt_i C rfl hH hS hw dX14_field_269
def w14_field_J214 (σ : St) (x1 : Int32) (x3 : Int32) (x4 : Int32) (x5 : Int32) (Q : Int32 → St → Prop) : Prop := w14_saysSmall σ x1 x3 51 (fun r20 => ((r20 = 0 → w14_field_J234 σ x1 x3 x4 x5 Q) ∧ (¬ r20 = 0 → (w14_words σ x4 x5 (fun σ25 => (w14_field_J234 σ25 x1 x3 x4 x5 Q))))))
set_option maxHeartbeats 4000000 in
theorem k14_field_J214 {p : Program} {l : Launch} {e : Env} {s : State} {m : MethodId} {args : Array Value} {below : List Frame} {meth : Method} {c : Code} {G : Gh} {a1 : Nat → Nat → Nat} {τ : St} {Q : Int32 → St → Prop} (C : Cx p e s m args meth c cX14_field 8 (some .boolean) "WebHostModel" G) (σ : St) (x1 : Int32) (x3 : Int32) (x4 : Int32) (x5 : Int32) (hw : w14_field_J214 σ x1 x3 x4 x5 Q) (H : Heap) (locs : List Loc) (ls : Array Slot) (hH : Hd G a1 (cmb τ σ) H) (hS : va_S (gA G) s.heap H locs) (hl : lv_has ls 8 [(0, .ref (ga G 14 0)), (1, .int x1), (3, .int x3), (4, .int x4), (5, .int x5)]) : W p l e rmX14_field s m args below meth c H locs 0 0 (MQ below (QIs G a1 (fun u => cmb τ u) Q) args s 0 0 (gA G)) (F0 m 214 ls []) := by
  have hx := C.1
  have hb := C.2.1
  have hown := C.2.2.2.2.2.1
  have hts := C.2.2.2.2.2.2.1
  refine lv_aload_n hx hb dX14_field_214 rfl (lv_at hl 0 rfl) ?_
  refine lv_iload_n hx hb dX14_field_215 rfl (lv_at hl 1 rfl) ?_
  refine lv_iload_n hx hb dX14_field_216 rfl (lv_at hl 2 rfl) ?_
  refine str_ldcw (n := 51) C st51 dX14_field_217 ?_
  refine kc_ip (rn_vp (As := [.int x1, .int x3, .ref (gs G 51)]) (rest := []) C hH hS (by decide) rfl (by decide) (m14_saysSmall l G a1 τ σ H x1 x3 51 (by decide) _ hw) (cwV 3 hts (lw_V q2506 q2508 qs139 q171 q2509) rfl rfl rfl kX14_saysSmall ⟨Nat.le_of_ble_eq_true rfl, Nat.le_of_ble_eq_true rfl⟩) rfl hl.1 rfl (Nat.le_of_ble_eq_true rfl) dX14_field_220 ⟨Nat.le_of_ble_eq_true rfl, Nat.le_of_ble_eq_true rfl⟩) hS (fun r20 locs hw hS => ?_)
  refine lv_if_eq (tgt := 234) hx hb dX14_field_223 (by decide) (fun h => ?_) (fun h => ?_)
  · have hw := hw.1 h
    exact k14_field_J234 C σ x1 x3 x4 x5 hw H locs ls hH hS (lv_sub hl [0, 1, 2, 3, 4] rfl)
  have hw := hw.2 h
  refine lv_aload_n hx hb dX14_field_226 rfl (lv_at hl 0 rfl) ?_
  refine lv_iload hx hb dX14_field_227 (lv_at hl 3 rfl) ?_
  refine lv_iload hx hb dX14_field_229 (lv_at hl 4 rfl) ?_
  refine kc_v (rn_v (As := [.int x4, .int x5]) (rest := []) C hH hS (by decide) rfl (by decide) (m14_words l G a1 τ σ x4 x5 _ hw) (cwV 2 hts (lw_V q2518 q2520 qs141 q171 q2521) rfl rfl rfl kX14_words ⟨Nat.le_of_ble_eq_true rfl, Nat.le_of_ble_eq_true rfl⟩) rfl hl.1 rfl (Nat.le_of_ble_eq_true rfl) dX14_field_231 ⟨Nat.le_of_ble_eq_true rfl, Nat.le_of_ble_eq_true rfl⟩) hS (fun σ25 H locs hw hH hS => ?_)
  exact k14_field_J234 C σ25 x1 x3 x4 x5 hw H locs ls hH hS (lv_sub hl [0, 1, 2, 3, 4] rfl)
def w14_field_J194 (σ : St) (x1 : Int32) (x3 : Int32) (x4 : Int32) (x5 : Int32) (Q : Int32 → St → Prop) : Prop := w14_saysSmall σ x1 x3 50 (fun r19 => ((r19 = 0 → w14_field_J214 σ x1 x3 x4 x5 Q) ∧ (¬ r19 = 0 → (w14_contentLength σ x4 x5 (fun σ26 => (w14_field_J214 σ26 x1 x3 x4 x5 Q))))))
set_option maxHeartbeats 4000000 in
theorem k14_field_J194 {p : Program} {l : Launch} {e : Env} {s : State} {m : MethodId} {args : Array Value} {below : List Frame} {meth : Method} {c : Code} {G : Gh} {a1 : Nat → Nat → Nat} {τ : St} {Q : Int32 → St → Prop} (C : Cx p e s m args meth c cX14_field 8 (some .boolean) "WebHostModel" G) (σ : St) (x1 : Int32) (x3 : Int32) (x4 : Int32) (x5 : Int32) (hw : w14_field_J194 σ x1 x3 x4 x5 Q) (H : Heap) (locs : List Loc) (ls : Array Slot) (hH : Hd G a1 (cmb τ σ) H) (hS : va_S (gA G) s.heap H locs) (hl : lv_has ls 8 [(0, .ref (ga G 14 0)), (1, .int x1), (3, .int x3), (4, .int x4), (5, .int x5)]) : W p l e rmX14_field s m args below meth c H locs 0 0 (MQ below (QIs G a1 (fun u => cmb τ u) Q) args s 0 0 (gA G)) (F0 m 194 ls []) := by
  have hx := C.1
  have hb := C.2.1
  have hown := C.2.2.2.2.2.1
  have hts := C.2.2.2.2.2.2.1
  refine lv_aload_n hx hb dX14_field_194 rfl (lv_at hl 0 rfl) ?_
  refine lv_iload_n hx hb dX14_field_195 rfl (lv_at hl 1 rfl) ?_
  refine lv_iload_n hx hb dX14_field_196 rfl (lv_at hl 2 rfl) ?_
  refine str_ldcw (n := 50) C st50 dX14_field_197 ?_
  refine kc_ip (rn_vp (As := [.int x1, .int x3, .ref (gs G 50)]) (rest := []) C hH hS (by decide) rfl (by decide) (m14_saysSmall l G a1 τ σ H x1 x3 50 (by decide) _ hw) (cwV 3 hts (lw_V q2506 q2508 qs139 q171 q2509) rfl rfl rfl kX14_saysSmall ⟨Nat.le_of_ble_eq_true rfl, Nat.le_of_ble_eq_true rfl⟩) rfl hl.1 rfl (Nat.le_of_ble_eq_true rfl) dX14_field_200 ⟨Nat.le_of_ble_eq_true rfl, Nat.le_of_ble_eq_true rfl⟩) hS (fun r19 locs hw hS => ?_)
  refine lv_if_eq (tgt := 214) hx hb dX14_field_203 (by decide) (fun h => ?_) (fun h => ?_)
  · have hw := hw.1 h
    exact k14_field_J214 C σ x1 x3 x4 x5 hw H locs ls hH hS (lv_sub hl [0, 1, 2, 3, 4] rfl)
  have hw := hw.2 h
  refine lv_aload_n hx hb dX14_field_206 rfl (lv_at hl 0 rfl) ?_
  refine lv_iload hx hb dX14_field_207 (lv_at hl 3 rfl) ?_
  refine lv_iload hx hb dX14_field_209 (lv_at hl 4 rfl) ?_
  refine kc_v (rn_v (As := [.int x4, .int x5]) (rest := []) C hH hS (by decide) rfl (by decide) (m14_contentLength l G a1 τ σ x4 x5 _ hw) (cwV 2 hts (lw_V q2512 q2514 qs140 q171 q2515) rfl rfl rfl kX14_contentLength ⟨Nat.le_of_ble_eq_true rfl, Nat.le_of_ble_eq_true rfl⟩) rfl hl.1 rfl (Nat.le_of_ble_eq_true rfl) dX14_field_211 ⟨Nat.le_of_ble_eq_true rfl, Nat.le_of_ble_eq_true rfl⟩) hS (fun σ26 H locs hw hH hS => ?_)
  exact k14_field_J214 C σ26 x1 x3 x4 x5 hw H locs ls hH hS (lv_sub hl [0, 1, 2, 3, 4] rfl)
def w14_field_J155 (σ : St) (x1 : Int32) (x3 : Int32) (x4 : Int32) (x5 : Int32) (Q : Int32 → St → Prop) : Prop := w14_saysSmall σ x1 x3 48 (fun r17 => ((r17 = 0 → (w14_saysSmall σ x1 x3 49 (fun r18 => ((r18 = 0 → w14_field_J194 σ x1 x3 x4 x5 Q) ∧ (¬ r18 = 0 → (∀ σ27, σ27 = up3 σ 14 0 54 1 → (w14_field_J194 σ27 x1 x3 x4 x5 Q))))))) ∧ (¬ r17 = 0 → (∀ σ28, σ28 = up3 σ 14 0 48 ((σ 14 0 48) + 1) → (w14_saysSmall σ28 x1 x3 49 (fun r29 => ((r29 = 0 → w14_field_J194 σ28 x1 x3 x4 x5 Q) ∧ (¬ r29 = 0 → (∀ σ30, σ30 = up3 σ28 14 0 54 1 → (w14_field_J194 σ30 x1 x3 x4 x5 Q))))))))))
set_option maxHeartbeats 4000000 in
theorem k14_field_J155 {p : Program} {l : Launch} {e : Env} {s : State} {m : MethodId} {args : Array Value} {below : List Frame} {meth : Method} {c : Code} {G : Gh} {a1 : Nat → Nat → Nat} {τ : St} {Q : Int32 → St → Prop} (C : Cx p e s m args meth c cX14_field 8 (some .boolean) "WebHostModel" G) (σ : St) (x1 : Int32) (x3 : Int32) (x4 : Int32) (x5 : Int32) (hw : w14_field_J155 σ x1 x3 x4 x5 Q) (H : Heap) (locs : List Loc) (ls : Array Slot) (hH : Hd G a1 (cmb τ σ) H) (hS : va_S (gA G) s.heap H locs) (hl : lv_has ls 8 [(0, .ref (ga G 14 0)), (1, .int x1), (3, .int x3), (4, .int x4), (5, .int x5)]) : W p l e rmX14_field s m args below meth c H locs 0 0 (MQ below (QIs G a1 (fun u => cmb τ u) Q) args s 0 0 (gA G)) (F0 m 155 ls []) := by
  have hx := C.1
  have hb := C.2.1
  have hown := C.2.2.2.2.2.1
  have hts := C.2.2.2.2.2.2.1
  refine lv_aload_n hx hb dX14_field_155 rfl (lv_at hl 0 rfl) ?_
  refine lv_iload_n hx hb dX14_field_156 rfl (lv_at hl 1 rfl) ?_
  refine lv_iload_n hx hb dX14_field_157 rfl (lv_at hl 2 rfl) ?_
  refine str_ldcw (n := 48) C st48 dX14_field_158 ?_
  refine kc_ip (rn_vp (As := [.int x1, .int x3, .ref (gs G 48)]) (rest := []) C hH hS (by decide) rfl (by decide) (m14_saysSmall l G a1 τ σ H x1 x3 48 (by decide) _ hw) (cwV 3 hts (lw_V q2506 q2508 qs139 q171 q2509) rfl rfl rfl kX14_saysSmall ⟨Nat.le_of_ble_eq_true rfl, Nat.le_of_ble_eq_true rfl⟩) rfl hl.1 rfl (Nat.le_of_ble_eq_true rfl) dX14_field_161 ⟨Nat.le_of_ble_eq_true rfl, Nat.le_of_ble_eq_true rfl⟩) hS (fun r17 locs hw hS => ?_)
  refine lv_if_eq (tgt := 177) hx hb dX14_field_164 (by decide) (fun h => ?_) (fun h => ?_)
  · have hw := hw.1 h
    refine lv_aload_n hx hb dX14_field_177 rfl (lv_at hl 0 rfl) ?_
    refine lv_iload_n hx hb dX14_field_178 rfl (lv_at hl 1 rfl) ?_
    refine lv_iload_n hx hb dX14_field_179 rfl (lv_at hl 2 rfl) ?_
    refine str_ldcw (n := 49) C st49 dX14_field_180 ?_
    refine kc_ip (rn_vp (As := [.int x1, .int x3, .ref (gs G 49)]) (rest := []) C hH hS (by decide) rfl (by decide) (m14_saysSmall l G a1 τ σ H x1 x3 49 (by decide) _ hw) (cwV 3 hts (lw_V q2506 q2508 qs139 q171 q2509) rfl rfl rfl kX14_saysSmall ⟨Nat.le_of_ble_eq_true rfl, Nat.le_of_ble_eq_true rfl⟩) rfl hl.1 rfl (Nat.le_of_ble_eq_true rfl) dX14_field_183 ⟨Nat.le_of_ble_eq_true rfl, Nat.le_of_ble_eq_true rfl⟩) hS (fun r18 locs hw hS => ?_)
    refine lv_if_eq (tgt := 194) hx hb dX14_field_186 (by decide) (fun h => ?_) (fun h => ?_)
    · have hw := hw.1 h
      exact k14_field_J194 C σ x1 x3 x4 x5 hw H locs ls hH hS (lv_sub hl [0, 1, 2, 3, 4] rfl)
    have hw := hw.2 h
    refine lv_aload_n hx hb dX14_field_189 rfl (lv_at hl 0 rfl) ?_
    refine lv_iconst (v := 1) hx hb dX14_field_190 (by decide) ?_
    refine p14_54 C hH hS (Or.inr rfl) q1994 dX14_field_191 (fun σ27 e27 H locs hH hS => ?_)
    have hw := hw σ27 e27
    exact k14_field_J194 C σ27 x1 x3 x4 x5 hw H locs ls hH hS (lv_sub hl [0, 1, 2, 3, 4] rfl)
  have hw := hw.2 h
  refine lv_aload_n hx hb dX14_field_167 rfl (lv_at hl 0 rfl) ?_
  refine lv_dup hx hb dX14_field_168 rfl ?_
  refine g14_48 C hH q1988 dX14_field_169 ?_
  refine lv_iconst (v := 1) hx hb dX14_field_172 (by decide) ?_
  refine lv_iadd hx hb dX14_field_173 ?_
  refine p14_48 C hH hS q1988 dX14_field_174 (fun σ28 e28 H locs hH hS => ?_)
  have hw := hw σ28 e28
  refine lv_aload_n hx hb dX14_field_177 rfl (lv_at hl 0 rfl) ?_
  refine lv_iload_n hx hb dX14_field_178 rfl (lv_at hl 1 rfl) ?_
  refine lv_iload_n hx hb dX14_field_179 rfl (lv_at hl 2 rfl) ?_
  refine str_ldcw (n := 49) C st49 dX14_field_180 ?_
  refine kc_ip (rn_vp (As := [.int x1, .int x3, .ref (gs G 49)]) (rest := []) C hH hS (by decide) rfl (by decide) (m14_saysSmall l G a1 τ σ28 H x1 x3 49 (by decide) _ hw) (cwV 3 hts (lw_V q2506 q2508 qs139 q171 q2509) rfl rfl rfl kX14_saysSmall ⟨Nat.le_of_ble_eq_true rfl, Nat.le_of_ble_eq_true rfl⟩) rfl hl.1 rfl (Nat.le_of_ble_eq_true rfl) dX14_field_183 ⟨Nat.le_of_ble_eq_true rfl, Nat.le_of_ble_eq_true rfl⟩) hS (fun r29 locs hw hS => ?_)
  refine lv_if_eq (tgt := 194) hx hb dX14_field_186 (by decide) (fun h => ?_) (fun h => ?_)
  · have hw := hw.1 h
    exact k14_field_J194 C σ28 x1 x3 x4 x5 hw H locs ls hH hS (lv_sub hl [0, 1, 2, 3, 4] rfl)
  have hw := hw.2 h
  refine lv_aload_n hx hb dX14_field_189 rfl (lv_at hl 0 rfl) ?_
  refine lv_iconst (v := 1) hx hb dX14_field_190 (by decide) ?_
  refine p14_54 C hH hS (Or.inr rfl) q1994 dX14_field_191 (fun σ30 e30 H locs hH hS => ?_)
  have hw := hw σ30 e30
  exact k14_field_J194 C σ30 x1 x3 x4 x5 hw H locs ls hH hS (lv_sub hl [0, 1, 2, 3, 4] rfl)
def w14_field_J24 (σ : St) (x1 : Int32) (x2 : Int32) (x3 : Int32) (Q : Int32 → St → Prop) : Prop := (x3 = x1 → Q 0 σ) ∧ (¬ x3 = x1 → ((x3 = x2 → Q 0 σ) ∧ (¬ x3 = x2 → (vp_in x3 4096 ∧ (by8 (σ 66 0 x3.toNatClampNeg) → (((σ 66 0 x3.toNatClampNeg) = 58 → (∃ z6, w14_field_L59 σ x1 x3 (x3 + 1) x2 Q (Q 0 σ) (∃ z11, w14_field_L103 σ x1 x3 x2 Q (fun x4_12 => ∃ z15, w14_field_L128 σ x1 x3 x4_12 Q (fun x5_16 => w14_field_J155 σ x1 x3 x4_12 x5_16 Q) z15 x2) z11 (x3 + 1)) z6 (x3 + 1))) ∧ (¬ (σ 66 0 x3.toNatClampNeg) = 58 → Q 0 σ)))))))
set_option maxHeartbeats 4000000 in
theorem k14_field_J24 {p : Program} {l : Launch} {e : Env} {s : State} {m : MethodId} {args : Array Value} {below : List Frame} {meth : Method} {c : Code} {G : Gh} {a1 : Nat → Nat → Nat} {τ : St} {Q : Int32 → St → Prop} (C : Cx p e s m args meth c cX14_field 8 (some .boolean) "WebHostModel" G) (σ : St) (x1 : Int32) (x2 : Int32) (x3 : Int32) (hw : w14_field_J24 σ x1 x2 x3 Q) (H : Heap) (locs : List Loc) (ls : Array Slot) (hH : Hd G a1 (cmb τ σ) H) (hS : va_S (gA G) s.heap H locs) (hl : lv_has ls 8 [(0, .ref (ga G 14 0)), (1, .int x1), (2, .int x2), (3, .int x3)]) : W p l e rmX14_field s m args below meth c H locs 0 0 (MQ below (QIs G a1 (fun u => cmb τ u) Q) args s 0 0 (gA G)) (F0 m 24 ls []) := by
  have hx := C.1
  have hb := C.2.1
  have hown := C.2.2.2.2.2.1
  have hts := C.2.2.2.2.2.2.1
  refine lv_iload_n hx hb dX14_field_24 rfl (lv_at hl 3 rfl) ?_
  refine lv_iload_n hx hb dX14_field_25 rfl (lv_at hl 1 rfl) ?_
  refine lv_icmp_eq (tgt := 45) hx hb dX14_field_26 (by decide) (fun h => ?_) (fun h => ?_)
  · have hw := hw.1 h
    refine lv_iconst (v := 0) hx hb dX14_field_45 (by decide) ?_
    exact rt_i C rfl hH hS hw dX14_field_46
  have hw := hw.2 h
  refine lv_iload_n hx hb dX14_field_29 rfl (lv_at hl 3 rfl) ?_
  refine lv_iload_n hx hb dX14_field_30 rfl (lv_at hl 2 rfl) ?_
  refine lv_icmp_eq (tgt := 45) hx hb dX14_field_31 (by decide) (fun h => ?_) (fun h => ?_)
  · have hw := hw.1 h
    refine lv_iconst (v := 0) hx hb dX14_field_45 (by decide) ?_
    exact rt_i C rfl hH hS hw dX14_field_46
  have hw := hw.2 h
  refine lv_aload_n hx hb dX14_field_34 rfl (lv_at hl 0 rfl) ?_
  refine g14_41 C hH q1981 dX14_field_35 ?_
  refine lv_iload_n hx hb dX14_field_38 rfl (lv_at hl 3 rfl) ?_
  refine l66 C hH hw.1 dX14_field_39 (fun hz => ?_)
  have hw := hw.2 hz
  refine lv_bipush (v := 58) hx hb dX14_field_40 (by decide) ?_
  refine lv_icmp_eq (tgt := 47) hx hb dX14_field_42 (by decide) (fun h => ?_) (fun h => ?_)
  · have hw := hw.1 h
    refine lv_iload_n hx hb dX14_field_47 rfl (lv_at hl 3 rfl) ?_
    refine lv_iconst (v := 1) hx hb dX14_field_48 (by decide) ?_
    refine lv_iadd hx hb dX14_field_49 ?_
    refine lv_istore (lv' := [(4, .int (x3 + 1)), (0, .ref (ga G 14 0)), (1, .int x1), (2, .int x2), (3, .int x3)]) hx hb dX14_field_50 hl (by decide) rfl (fun ls hl => ?_)
    refine lv_iload_n hx hb dX14_field_52 rfl (lv_at hl 3 rfl) ?_
    refine lv_istore (lv' := [(5, .int x2), (4, .int (x3 + 1)), (0, .ref (ga G 14 0)), (1, .int x1), (2, .int x2), (3, .int x3)]) hx hb dX14_field_53 hl (by decide) rfl (fun ls hl => ?_)
    refine lv_iload hx hb dX14_field_55 (lv_at hl 1 rfl) ?_
    refine lv_istore (lv' := [(6, .int (x3 + 1)), (5, .int x2), (4, .int (x3 + 1)), (0, .ref (ga G 14 0)), (1, .int x1), (2, .int x2), (3, .int x3)]) hx hb dX14_field_57 hl (by decide) rfl (fun ls hl => ?_)
    obtain ⟨n6, hw⟩ := hw
    refine k14_field_L59 C σ x1 x3 (x3 + 1) x2 n6 (x3 + 1) hw H locs ls hH hS (lv_sub hl [3, 4, 6, 2, 1, 0] rfl) (fun hw H locs ls hH hS hl => ?_) (fun hw H locs ls hH hS hl => ?_)
    · refine lv_iconst (v := 0) hx hb dX14_field_95 (by decide) ?_
      exact rt_i C rfl hH hS hw dX14_field_96
    obtain ⟨n11, hw⟩ := hw
    refine k14_field_L103 C σ x1 x3 x2 n11 (x3 + 1) hw H locs ls hH hS (lv_sub hl [0, 1, 2, 3, 4] rfl) (fun x4_12 hw H locs ls hH hS hl => ?_)
    obtain ⟨n15, hw⟩ := hw
    refine k14_field_L128 C σ x1 x3 x4_12 n15 x2 hw H locs ls hH hS (lv_sub hl [0, 1, 2, 3, 4] rfl) (fun x5_16 hw H locs ls hH hS hl => ?_)
    exact k14_field_J155 C σ x1 x3 x4_12 x5_16 hw H locs ls hH hS (lv_sub hl [0, 1, 2, 3, 4] rfl)
  have hw := hw.2 h
  refine lv_iconst (v := 0) hx hb dX14_field_45 (by decide) ?_
  exact rt_i C rfl hH hS hw dX14_field_46
def w14_field (σ : St) (x1 : Int32) (x2 : Int32) (Q : Int32 → St → Prop) : Prop := ∃ z3, w14_field_L2 σ x1 x2 Q (fun x3_4 => w14_field_J24 σ x1 x2 x3_4 Q) z3 x1
set_option maxHeartbeats 4000000 in
theorem m14_field (l : Launch) (G : Gh) (a1 : Nat → Nat → Nat) (τ : St) (σ : St) (x1 : Int32) (x2 : Int32) (Q : Int32 → St → Prop) (hw : w14_field σ x1 x2 Q) : Met l yX14_field (ws_ yX14_field cX14_field 8 (some .boolean)) rmX14_field (PcS G a1 (cmb τ σ) [.ref (ga G 14 0), .int x1, .int x2]) (QIs G a1 (fun u => cmb τ u) Q) 0 0 (gA G) := by
  refine met_w (by decide) (Nat.le_of_ble_eq_true rfl) ?_
  intro p e s m below meth c ls C hH hS hl
  have C : Cx p e s m _ meth c cX14_field 8 (some .boolean) "WebHostModel" G := C
  have hl : lv_has ls 8 [(0, .ref (ga G 14 0)), (1, .int x1), (2, .int x2)] := hl
  have hx := C.1
  have hb := C.2.1
  have hown := C.2.2.2.2.2.1
  have hts := C.2.2.2.2.2.2.1
  obtain ⟨locs, hlocs⟩ : ∃ z : List Loc, z = [] := ⟨_, rfl⟩
  obtain ⟨H, hHe⟩ : ∃ z : Heap, z = s.heap := ⟨_, rfl⟩
  have hH : Hd G a1 (cmb τ σ) H := by rw [hHe]; exact hH
  have hS : va_S (gA G) s.heap H locs := by rw [hHe, hlocs]; exact hS
  refine W.heap0 hHe.symm hlocs.symm ?_
  refine lv_iload_n hx hb dX14_field_0 rfl (lv_at hl 1 rfl) ?_
  refine lv_istore_n (lv' := [(3, .int x1), (0, .ref (ga G 14 0)), (1, .int x1), (2, .int x2)]) hx hb dX14_field_1 rfl hl (by decide) rfl (fun ls hl => ?_)
  obtain ⟨n3, hw⟩ := hw
  refine k14_field_L2 C σ x1 x2 n3 x1 hw H locs ls hH hS (lv_sub hl [1, 2, 3, 0] rfl) (fun x3_4 hw H locs ls hH hS hl => ?_)
  exact k14_field_J24 C σ x1 x2 x3_4 hw H locs ls hH hS (lv_sub hl [0, 1, 2, 3] rfl)
/-! WebHostModel.make(LWebHostModel$Connection;IZ)V -/
abbrev cX14_make : ByteArray := prog_17_method_108_code
def yX14_make : MethodName := ⟨RX14, "make", "(LWebHostModel$Connection;IZ)V"⟩
theorem dX14_make_0 : decode cX14_make 0 = .ok (.aload_n 0, 1) := by decide +kernel
theorem dX14_make_1 : decode cX14_make 1 = .ok (.getfield 31, 3) := by decide +kernel
theorem dX14_make_4 : decode cX14_make 4 = .ok (.iconst 4, 1) := by decide +kernel
theorem dX14_make_5 : decode cX14_make 5 = .ok (.dup2, 1) := by decide +kernel
theorem dX14_make_6 : decode cX14_make 6 = .ok (.iaload, 1) := by decide +kernel
theorem dX14_make_7 : decode cX14_make 7 = .ok (.iconst 1, 1) := by decide +kernel
theorem dX14_make_8 : decode cX14_make 8 = .ok (.iadd, 1) := by decide +kernel
theorem dX14_make_9 : decode cX14_make 9 = .ok (.iastore, 1) := by decide +kernel
theorem dX14_make_10 : decode cX14_make 10 = .ok (.aload_n 1, 1) := by decide +kernel
theorem dX14_make_11 : decode cX14_make 11 = .ok (.aload_n 1, 1) := by decide +kernel
theorem dX14_make_12 : decode cX14_make 12 = .ok (.getfield 345, 3) := by decide +kernel
theorem dX14_make_15 : decode cX14_make 15 = .ok (.putfield 388, 3) := by decide +kernel
theorem dX14_make_18 : decode cX14_make 18 = .ok (.aload_n 1, 1) := by decide +kernel
theorem dX14_make_19 : decode cX14_make 19 = .ok (.iconst 0, 1) := by decide +kernel
theorem dX14_make_20 : decode cX14_make 20 = .ok (.putfield 391, 3) := by decide +kernel
theorem dX14_make_23 : decode cX14_make 23 = .ok (.aload_n 1, 1) := by decide +kernel
theorem dX14_make_24 : decode cX14_make 24 = .ok (.iload_n 3, 1) := by decide +kernel
theorem dX14_make_25 : decode cX14_make 25 = .ok (.putfield 418, 3) := by decide +kernel
theorem dX14_make_28 : decode cX14_make 28 = .ok (.aload_n 0, 1) := by decide +kernel
theorem dX14_make_29 : decode cX14_make 29 = .ok (.aload_n 1, 1) := by decide +kernel
theorem dX14_make_30 : decode cX14_make 30 = .ok (.ldc_w 836, 3) := by decide +kernel
theorem dX14_make_33 : decode cX14_make 33 = .ok (.invokevirtual 838, 3) := by decide +kernel
theorem dX14_make_36 : decode cX14_make 36 = .ok (.aload_n 0, 1) := by decide +kernel
theorem dX14_make_37 : decode cX14_make 37 = .ok (.aload_n 1, 1) := by decide +kernel
theorem dX14_make_38 : decode cX14_make 38 = .ok (.aload_n 0, 1) := by decide +kernel
theorem dX14_make_39 : decode cX14_make 39 = .ok (.getfield 637, 3) := by decide +kernel
theorem dX14_make_42 : decode cX14_make 42 = .ok (.invokevirtual 842, 3) := by decide +kernel
theorem dX14_make_45 : decode cX14_make 45 = .ok (.aload_n 0, 1) := by decide +kernel
theorem dX14_make_46 : decode cX14_make 46 = .ok (.aload_n 1, 1) := by decide +kernel
theorem dX14_make_47 : decode cX14_make 47 = .ok (.bipush 32, 2) := by decide +kernel
theorem dX14_make_49 : decode cX14_make 49 = .ok (.invokevirtual 789, 3) := by decide +kernel
theorem dX14_make_52 : decode cX14_make 52 = .ok (.aload_n 0, 1) := by decide +kernel
theorem dX14_make_53 : decode cX14_make 53 = .ok (.aload_n 1, 1) := by decide +kernel
theorem dX14_make_54 : decode cX14_make 54 = .ok (.aload_n 0, 1) := by decide +kernel
theorem dX14_make_55 : decode cX14_make 55 = .ok (.getfield 637, 3) := by decide +kernel
theorem dX14_make_58 : decode cX14_make 58 = .ok (.invokestatic 845, 3) := by decide +kernel
theorem dX14_make_61 : decode cX14_make 61 = .ok (.invokevirtual 838, 3) := by decide +kernel
theorem dX14_make_64 : decode cX14_make 64 = .ok (.aload_n 0, 1) := by decide +kernel
theorem dX14_make_65 : decode cX14_make 65 = .ok (.aload_n 1, 1) := by decide +kernel
theorem dX14_make_66 : decode cX14_make 66 = .ok (.invokevirtual 849, 3) := by decide +kernel
theorem dX14_make_69 : decode cX14_make 69 = .ok (.iload_n 2, 1) := by decide +kernel
theorem dX14_make_70 : decode cX14_make 70 = .ok (.ifCond .lt 12, 3) := by decide +kernel
theorem dX14_make_73 : decode cX14_make 73 = .ok (.aload_n 0, 1) := by decide +kernel
theorem dX14_make_74 : decode cX14_make 74 = .ok (.getfield 25, 3) := by decide +kernel
theorem dX14_make_77 : decode cX14_make 77 = .ok (.iload_n 2, 1) := by decide +kernel
theorem dX14_make_78 : decode cX14_make 78 = .ok (.iaload, 1) := by decide +kernel
theorem dX14_make_79 : decode cX14_make 79 = .ok (.goto 15, 3) := by decide +kernel
theorem dX14_make_82 : decode cX14_make 82 = .ok (.iconst 5, 1) := by decide +kernel
theorem dX14_make_83 : decode cX14_make 83 = .ok (.aload_n 0, 1) := by decide +kernel
theorem dX14_make_84 : decode cX14_make 84 = .ok (.getfield 637, 3) := by decide +kernel
theorem dX14_make_87 : decode cX14_make 87 = .ok (.invokestatic 845, 3) := by decide +kernel
theorem dX14_make_90 : decode cX14_make 90 = .ok (.invokevirtual 717, 3) := by decide +kernel
theorem dX14_make_93 : decode cX14_make 93 = .ok (.iadd, 1) := by decide +kernel
theorem dX14_make_94 : decode cX14_make 94 = .ok (.istore 4, 2) := by decide +kernel
theorem dX14_make_96 : decode cX14_make 96 = .ok (.aload_n 0, 1) := by decide +kernel
theorem dX14_make_97 : decode cX14_make 97 = .ok (.getfield 637, 3) := by decide +kernel
theorem dX14_make_100 : decode cX14_make 100 = .ok (.sipush 304, 3) := by decide +kernel
theorem dX14_make_103 : decode cX14_make 103 = .ok (.if_icmp .eq 46, 3) := by decide +kernel
theorem dX14_make_106 : decode cX14_make 106 = .ok (.aload_n 0, 1) := by decide +kernel
theorem dX14_make_107 : decode cX14_make 107 = .ok (.aload_n 1, 1) := by decide +kernel
theorem dX14_make_108 : decode cX14_make 108 = .ok (.ldc_w 852, 3) := by decide +kernel
theorem dX14_make_111 : decode cX14_make 111 = .ok (.invokevirtual 838, 3) := by decide +kernel
theorem dX14_make_114 : decode cX14_make 114 = .ok (.aload_n 0, 1) := by decide +kernel
theorem dX14_make_115 : decode cX14_make 115 = .ok (.aload_n 1, 1) := by decide +kernel
theorem dX14_make_116 : decode cX14_make 116 = .ok (.iload 4, 2) := by decide +kernel
theorem dX14_make_118 : decode cX14_make 118 = .ok (.invokevirtual 842, 3) := by decide +kernel
theorem dX14_make_121 : decode cX14_make 121 = .ok (.aload_n 0, 1) := by decide +kernel
theorem dX14_make_122 : decode cX14_make 122 = .ok (.aload_n 1, 1) := by decide +kernel
theorem dX14_make_123 : decode cX14_make 123 = .ok (.invokevirtual 849, 3) := by decide +kernel
theorem dX14_make_126 : decode cX14_make 126 = .ok (.aload_n 0, 1) := by decide +kernel
theorem dX14_make_127 : decode cX14_make 127 = .ok (.aload_n 1, 1) := by decide +kernel
theorem dX14_make_128 : decode cX14_make 128 = .ok (.ldc_w 854, 3) := by decide +kernel
theorem dX14_make_131 : decode cX14_make 131 = .ok (.invokevirtual 838, 3) := by decide +kernel
theorem dX14_make_134 : decode cX14_make 134 = .ok (.aload_n 0, 1) := by decide +kernel
theorem dX14_make_135 : decode cX14_make 135 = .ok (.aload_n 1, 1) := by decide +kernel
theorem dX14_make_136 : decode cX14_make 136 = .ok (.aload_n 0, 1) := by decide +kernel
theorem dX14_make_137 : decode cX14_make 137 = .ok (.iload_n 2, 1) := by decide +kernel
theorem dX14_make_138 : decode cX14_make 138 = .ok (.invokevirtual 856, 3) := by decide +kernel
theorem dX14_make_141 : decode cX14_make 141 = .ok (.invokevirtual 838, 3) := by decide +kernel
theorem dX14_make_144 : decode cX14_make 144 = .ok (.aload_n 0, 1) := by decide +kernel
theorem dX14_make_145 : decode cX14_make 145 = .ok (.aload_n 1, 1) := by decide +kernel
theorem dX14_make_146 : decode cX14_make 146 = .ok (.invokevirtual 849, 3) := by decide +kernel
theorem dX14_make_149 : decode cX14_make 149 = .ok (.iload_n 2, 1) := by decide +kernel
theorem dX14_make_150 : decode cX14_make 150 = .ok (.ifCond .lt 55, 3) := by decide +kernel
theorem dX14_make_153 : decode cX14_make 153 = .ok (.aload_n 0, 1) := by decide +kernel
theorem dX14_make_154 : decode cX14_make 154 = .ok (.aload_n 1, 1) := by decide +kernel
theorem dX14_make_155 : decode cX14_make 155 = .ok (.ldc_w 859, 3) := by decide +kernel
theorem dX14_make_158 : decode cX14_make 158 = .ok (.invokevirtual 838, 3) := by decide +kernel
theorem dX14_make_161 : decode cX14_make 161 = .ok (.iconst 0, 1) := by decide +kernel
theorem dX14_make_162 : decode cX14_make 162 = .ok (.istore 5, 2) := by decide +kernel
theorem dX14_make_164 : decode cX14_make 164 = .ok (.iload 5, 2) := by decide +kernel
theorem dX14_make_166 : decode cX14_make 166 = .ok (.bipush 8, 2) := by decide +kernel
theorem dX14_make_168 : decode cX14_make 168 = .ok (.if_icmp .ge 25, 3) := by decide +kernel
theorem dX14_make_171 : decode cX14_make 171 = .ok (.aload_n 0, 1) := by decide +kernel
theorem dX14_make_172 : decode cX14_make 172 = .ok (.aload_n 1, 1) := by decide +kernel
theorem dX14_make_173 : decode cX14_make 173 = .ok (.aload_n 0, 1) := by decide +kernel
theorem dX14_make_174 : decode cX14_make 174 = .ok (.getfield 28, 3) := by decide +kernel
theorem dX14_make_177 : decode cX14_make 177 = .ok (.iload_n 2, 1) := by decide +kernel
theorem dX14_make_178 : decode cX14_make 178 = .ok (.iaload, 1) := by decide +kernel
theorem dX14_make_179 : decode cX14_make 179 = .ok (.iload 5, 2) := by decide +kernel
theorem dX14_make_181 : decode cX14_make 181 = .ok (.invokestatic 786, 3) := by decide +kernel
theorem dX14_make_184 : decode cX14_make 184 = .ok (.invokevirtual 789, 3) := by decide +kernel
theorem dX14_make_187 : decode cX14_make 187 = .ok (.iinc 5 1, 3) := by decide +kernel
theorem dX14_make_190 : decode cX14_make 190 = .ok (.goto (-26), 3) := by decide +kernel
theorem dX14_make_193 : decode cX14_make 193 = .ok (.aload_n 0, 1) := by decide +kernel
theorem dX14_make_194 : decode cX14_make 194 = .ok (.aload_n 1, 1) := by decide +kernel
theorem dX14_make_195 : decode cX14_make 195 = .ok (.bipush 34, 2) := by decide +kernel
theorem dX14_make_197 : decode cX14_make 197 = .ok (.invokevirtual 789, 3) := by decide +kernel
theorem dX14_make_200 : decode cX14_make 200 = .ok (.aload_n 0, 1) := by decide +kernel
theorem dX14_make_201 : decode cX14_make 201 = .ok (.aload_n 1, 1) := by decide +kernel
theorem dX14_make_202 : decode cX14_make 202 = .ok (.invokevirtual 849, 3) := by decide +kernel
theorem dX14_make_205 : decode cX14_make 205 = .ok (.aload_n 0, 1) := by decide +kernel
theorem dX14_make_206 : decode cX14_make 206 = .ok (.getfield 637, 3) := by decide +kernel
theorem dX14_make_209 : decode cX14_make 209 = .ok (.sipush 405, 3) := by decide +kernel
theorem dX14_make_212 : decode cX14_make 212 = .ok (.if_icmp .ne 16, 3) := by decide +kernel
theorem dX14_make_215 : decode cX14_make 215 = .ok (.aload_n 0, 1) := by decide +kernel
theorem dX14_make_216 : decode cX14_make 216 = .ok (.aload_n 1, 1) := by decide +kernel
theorem dX14_make_217 : decode cX14_make 217 = .ok (.ldc_w 861, 3) := by decide +kernel
theorem dX14_make_220 : decode cX14_make 220 = .ok (.invokevirtual 838, 3) := by decide +kernel
theorem dX14_make_223 : decode cX14_make 223 = .ok (.aload_n 0, 1) := by decide +kernel
theorem dX14_make_224 : decode cX14_make 224 = .ok (.aload_n 1, 1) := by decide +kernel
theorem dX14_make_225 : decode cX14_make 225 = .ok (.invokevirtual 849, 3) := by decide +kernel
theorem dX14_make_228 : decode cX14_make 228 = .ok (.iload_n 3, 1) := by decide +kernel
theorem dX14_make_229 : decode cX14_make 229 = .ok (.ifCond .eq 16, 3) := by decide +kernel
theorem dX14_make_232 : decode cX14_make 232 = .ok (.aload_n 0, 1) := by decide +kernel
theorem dX14_make_233 : decode cX14_make 233 = .ok (.aload_n 1, 1) := by decide +kernel
theorem dX14_make_234 : decode cX14_make 234 = .ok (.ldc_w 863, 3) := by decide +kernel
theorem dX14_make_237 : decode cX14_make 237 = .ok (.invokevirtual 838, 3) := by decide +kernel
theorem dX14_make_240 : decode cX14_make 240 = .ok (.aload_n 0, 1) := by decide +kernel
theorem dX14_make_241 : decode cX14_make 241 = .ok (.aload_n 1, 1) := by decide +kernel
theorem dX14_make_242 : decode cX14_make 242 = .ok (.invokevirtual 849, 3) := by decide +kernel
theorem dX14_make_245 : decode cX14_make 245 = .ok (.aload_n 0, 1) := by decide +kernel
theorem dX14_make_246 : decode cX14_make 246 = .ok (.aload_n 1, 1) := by decide +kernel
theorem dX14_make_247 : decode cX14_make 247 = .ok (.invokevirtual 849, 3) := by decide +kernel
theorem dX14_make_250 : decode cX14_make 250 = .ok (.aload_n 0, 1) := by decide +kernel
theorem dX14_make_251 : decode cX14_make 251 = .ok (.getfield 634, 3) := by decide +kernel
theorem dX14_make_254 : decode cX14_make 254 = .ok (.ifCond .ne 17, 3) := by decide +kernel
theorem dX14_make_257 : decode cX14_make 257 = .ok (.aload_n 0, 1) := by decide +kernel
theorem dX14_make_258 : decode cX14_make 258 = .ok (.getfield 637, 3) := by decide +kernel
theorem dX14_make_261 : decode cX14_make 261 = .ok (.sipush 304, 3) := by decide +kernel
theorem dX14_make_264 : decode cX14_make 264 = .ok (.if_icmp .eq 7, 3) := by decide +kernel
theorem dX14_make_267 : decode cX14_make 267 = .ok (.iconst 1, 1) := by decide +kernel
theorem dX14_make_268 : decode cX14_make 268 = .ok (.goto 4, 3) := by decide +kernel
theorem dX14_make_271 : decode cX14_make 271 = .ok (.iconst 0, 1) := by decide +kernel
theorem dX14_make_272 : decode cX14_make 272 = .ok (.istore 5, 2) := by decide +kernel
theorem dX14_make_274 : decode cX14_make 274 = .ok (.aload_n 1, 1) := by decide +kernel
theorem dX14_make_275 : decode cX14_make 275 = .ok (.iload_n 2, 1) := by decide +kernel
theorem dX14_make_276 : decode cX14_make 276 = .ok (.ifCond .lt 12, 3) := by decide +kernel
theorem dX14_make_279 : decode cX14_make 279 = .ok (.aload_n 0, 1) := by decide +kernel
theorem dX14_make_280 : decode cX14_make 280 = .ok (.getfield 21, 3) := by decide +kernel
theorem dX14_make_283 : decode cX14_make 283 = .ok (.iload_n 2, 1) := by decide +kernel
theorem dX14_make_284 : decode cX14_make 284 = .ok (.iaload, 1) := by decide +kernel
theorem dX14_make_285 : decode cX14_make 285 = .ok (.goto 4, 3) := by decide +kernel
theorem dX14_make_288 : decode cX14_make 288 = .ok (.iconst 0, 1) := by decide +kernel
theorem dX14_make_289 : decode cX14_make 289 = .ok (.putfield 395, 3) := by decide +kernel
theorem dX14_make_292 : decode cX14_make 292 = .ok (.aload_n 1, 1) := by decide +kernel
theorem dX14_make_293 : decode cX14_make 293 = .ok (.iload 5, 2) := by decide +kernel
theorem dX14_make_295 : decode cX14_make 295 = .ok (.ifCond .eq 12, 3) := by decide +kernel
theorem dX14_make_298 : decode cX14_make 298 = .ok (.iload_n 2, 1) := by decide +kernel
theorem dX14_make_299 : decode cX14_make 299 = .ok (.ifCond .lt 8, 3) := by decide +kernel
theorem dX14_make_302 : decode cX14_make 302 = .ok (.iload 4, 2) := by decide +kernel
theorem dX14_make_304 : decode cX14_make 304 = .ok (.goto 4, 3) := by decide +kernel
theorem dX14_make_307 : decode cX14_make 307 = .ok (.iconst 0, 1) := by decide +kernel
theorem dX14_make_308 : decode cX14_make 308 = .ok (.putfield 472, 3) := by decide +kernel
theorem dX14_make_311 : decode cX14_make 311 = .ok (.iload 5, 2) := by decide +kernel
theorem dX14_make_313 : decode cX14_make 313 = .ok (.ifCond .eq 42, 3) := by decide +kernel
theorem dX14_make_316 : decode cX14_make 316 = .ok (.iload_n 2, 1) := by decide +kernel
theorem dX14_make_317 : decode cX14_make 317 = .ok (.ifCond .ge 38, 3) := by decide +kernel
theorem dX14_make_320 : decode cX14_make 320 = .ok (.aload_n 0, 1) := by decide +kernel
theorem dX14_make_321 : decode cX14_make 321 = .ok (.aload_n 1, 1) := by decide +kernel
theorem dX14_make_322 : decode cX14_make 322 = .ok (.aload_n 0, 1) := by decide +kernel
theorem dX14_make_323 : decode cX14_make 323 = .ok (.getfield 637, 3) := by decide +kernel
theorem dX14_make_326 : decode cX14_make 326 = .ok (.invokevirtual 842, 3) := by decide +kernel
theorem dX14_make_329 : decode cX14_make 329 = .ok (.aload_n 0, 1) := by decide +kernel
theorem dX14_make_330 : decode cX14_make 330 = .ok (.aload_n 1, 1) := by decide +kernel
theorem dX14_make_331 : decode cX14_make 331 = .ok (.bipush 32, 2) := by decide +kernel
theorem dX14_make_333 : decode cX14_make 333 = .ok (.invokevirtual 789, 3) := by decide +kernel
theorem dX14_make_336 : decode cX14_make 336 = .ok (.aload_n 0, 1) := by decide +kernel
theorem dX14_make_337 : decode cX14_make 337 = .ok (.aload_n 1, 1) := by decide +kernel
theorem dX14_make_338 : decode cX14_make 338 = .ok (.aload_n 0, 1) := by decide +kernel
theorem dX14_make_339 : decode cX14_make 339 = .ok (.getfield 637, 3) := by decide +kernel
theorem dX14_make_342 : decode cX14_make 342 = .ok (.invokestatic 845, 3) := by decide +kernel
theorem dX14_make_345 : decode cX14_make 345 = .ok (.invokevirtual 838, 3) := by decide +kernel
theorem dX14_make_348 : decode cX14_make 348 = .ok (.aload_n 0, 1) := by decide +kernel
theorem dX14_make_349 : decode cX14_make 349 = .ok (.aload_n 1, 1) := by decide +kernel
theorem dX14_make_350 : decode cX14_make 350 = .ok (.bipush 10, 2) := by decide +kernel
theorem dX14_make_352 : decode cX14_make 352 = .ok (.invokevirtual 789, 3) := by decide +kernel
theorem dX14_make_355 : decode cX14_make 355 = .ok (.return_, 1) := by decide +kernel
def rmX14_make : Room := { frames := 6, cells := 0, slots := 0, locals := 130 }
theorem kX14_make : yX14_make.cls = "WebHostModel" ∧ yX14_make.cls ≠ "java/lang/invoke/MethodHandle" ∧ yX14_make.cls ≠ "java/lang/invoke/VarHandle" ∧ (parseMethodDescriptor yX14_make.desc).map (fun d => d.parameters.length) = some 3 := by decide +kernel
def w14_make_J308 (σ : St) (o1 : Nat) (x2 : Int32) (x5 : Int32) (xs0 : Int32) (os1 : Nat) (Q : St → Prop) : Prop := ∀ σ15, σ15 = up3 σ 15 os1 28 xs0 → ((x5 = 0 → Q σ15) ∧ (¬ x5 = 0 → ((0 ≤ x2 → Q σ15) ∧ (¬ 0 ≤ x2 → (w14_sayNumber σ15 o1 (σ15 14 0 43) (fun σ16 => (w14_code σ16 o1 32 (fun σ17 => (w14_phrase σ17 (σ17 14 0 43) (fun t18 => (t18 < nS ∧ (w14_say σ17 o1 t18 (fun σ19 => (w14_code σ19 o1 10 (fun σ20 => (Q σ20))))))))))))))))
set_option maxHeartbeats 4000000 in
theorem k14_make_J308 {p : Program} {l : Launch} {e : Env} {s : State} {m : MethodId} {args : Array Value} {below : List Frame} {meth : Method} {c : Code} {G : Gh} {a1 : Nat → Nat → Nat} {τ : St} {Q : St → Prop} (C : Cx p e s m args meth c cX14_make 6 none "WebHostModel" G) (σ : St) (o1 : Nat) (x2 : Int32) (x5 : Int32) (xs0 : Int32) (os1 : Nat) (ho1 : o1 < 16) (hos1 : os1 < 16) (hw : w14_make_J308 σ o1 x2 x5 xs0 os1 Q) (H : Heap) (locs : List Loc) (ls : Array Slot) (hH : Hd G a1 (cmb τ σ) H) (hS : va_S (gA G) s.heap H locs) (hl : lv_has ls 6 [(0, .ref (ga G 14 0)), (1, .ref (ga G 15 o1)), (2, .int x2), (5, .int x5)]) : W p l e rmX14_make s m args below meth c H locs 0 0 (MQ below (QVs G a1 (fun u => cmb τ u) Q) args s 0 0 (gA G)) (F0 m 308 ls [.int xs0, .ref (ga G 15 os1)]) := by
  have hx := C.1
  have hb := C.2.1
  have hown := C.2.2.2.2.2.1
  have hts := C.2.2.2.2.2.2.1
  refine p15_28 C hH hS hos1 q1738 dX14_make_308 (fun σ15 e15 H locs hH hS => ?_)
  have hw := hw σ15 e15
  refine lv_iload hx hb dX14_make_311 (lv_at hl 3 rfl) ?_
  refine lv_if_eq (tgt := 355) hx hb dX14_make_313 (by decide) (fun h => ?_) (fun h => ?_)
  · have hw := hw.1 h
    exact rt_v C hH hS hw dX14_make_355
  have hw := hw.2 h
  refine lv_iload_n hx hb dX14_make_316 rfl (lv_at hl 2 rfl) ?_
  refine lv_if_ge (tgt := 355) hx hb dX14_make_317 (by decide) (fun h => ?_) (fun h => ?_)
  · have hw := hw.1 h
    exact rt_v C hH hS hw dX14_make_355
  have hw := hw.2 h
  refine lv_aload_n hx hb dX14_make_320 rfl (lv_at hl 0 rfl) ?_
  refine lv_aload_n hx hb dX14_make_321 rfl (lv_at hl 1 rfl) ?_
  refine lv_aload_n hx hb dX14_make_322 rfl (lv_at hl 0 rfl) ?_
  refine g14_43 C hH q1983 dX14_make_323 ?_
  refine kc_v (rn_v (As := [.ref (ga G 15 o1), .int (σ15 14 0 43)]) (rest := []) C hH hS (by decide) rfl (by decide) (m14_sayNumber l G a1 τ σ15 o1 (σ15 14 0 43) ho1 _ hw) (cwV 2 hts (lw_V q2562 q2564 qs149 q171 q2565) rfl rfl rfl kX14_sayNumber ⟨Nat.le_of_ble_eq_true rfl, Nat.le_of_ble_eq_true rfl⟩) rfl hl.1 rfl (Nat.le_of_ble_eq_true rfl) dX14_make_326 ⟨Nat.le_of_ble_eq_true rfl, Nat.le_of_ble_eq_true rfl⟩) hS (fun σ16 H locs hw hH hS => ?_)
  refine lv_aload_n hx hb dX14_make_329 rfl (lv_at hl 0 rfl) ?_
  refine lv_aload_n hx hb dX14_make_330 rfl (lv_at hl 1 rfl) ?_
  refine lv_bipush (v := 32) hx hb dX14_make_331 (by decide) ?_
  refine kc_v (rn_v (As := [.ref (ga G 15 o1), .int 32]) (rest := []) C hH hS (by decide) rfl (by decide) (m14_code l G a1 τ σ16 o1 32 ho1 _ hw) (cwV 2 hts (lw_V q2558 q2560 qs148 q171 q2561) rfl rfl rfl kX14_code ⟨Nat.le_of_ble_eq_true rfl, Nat.le_of_ble_eq_true rfl⟩) rfl hl.1 rfl (Nat.le_of_ble_eq_true rfl) dX14_make_333 ⟨Nat.le_of_ble_eq_true rfl, Nat.le_of_ble_eq_true rfl⟩) hS (fun σ17 H locs hw hH hS => ?_)
  refine lv_aload_n hx hb dX14_make_336 rfl (lv_at hl 0 rfl) ?_
  refine lv_aload_n hx hb dX14_make_337 rfl (lv_at hl 1 rfl) ?_
  refine lv_aload_n hx hb dX14_make_338 rfl (lv_at hl 0 rfl) ?_
  refine g14_43 C hH q1983 dX14_make_339 ?_
  refine kc_tp (rn_sp (As := [.int (σ17 14 0 43)]) (rest := [.ref (ga G 15 o1), .ref (ga G 14 0)]) C hH hS (m14_phrase l G a1 τ σ17 H (σ17 14 0 43) _ hw) (va_cwS 1 hts (lw_S q2566 q2567 q171 q2568) rfl rfl rfl kX14_phrase.2 ⟨Nat.le_of_ble_eq_true rfl, Nat.le_of_ble_eq_true rfl⟩) rfl hl.1 rfl (Nat.le_of_ble_eq_true rfl) dX14_make_342 ⟨Nat.le_of_ble_eq_true rfl, Nat.le_of_ble_eq_true rfl⟩) hS (fun t18 locs hw hS => ?_)
  obtain ⟨ht18, hw⟩ := hw
  refine kc_v (rn_v (As := [.ref (ga G 15 o1), .ref (gs G t18)]) (rest := []) C hH hS (by decide) rfl (by decide) (m14_say l G a1 τ σ17 o1 t18 ho1 ht18 _ hw) (cwV 2 hts (lw_V q2554 q2556 qs147 q171 q2557) rfl rfl rfl kX14_say ⟨Nat.le_of_ble_eq_true rfl, Nat.le_of_ble_eq_true rfl⟩) rfl hl.1 rfl (Nat.le_of_ble_eq_true rfl) dX14_make_345 ⟨Nat.le_of_ble_eq_true rfl, Nat.le_of_ble_eq_true rfl⟩) hS (fun σ19 H locs hw hH hS => ?_)
  refine lv_aload_n hx hb dX14_make_348 rfl (lv_at hl 0 rfl) ?_
  refine lv_aload_n hx hb dX14_make_349 rfl (lv_at hl 1 rfl) ?_
  refine lv_bipush (v := 10) hx hb dX14_make_350 (by decide) ?_
  refine kc_v (rn_v (As := [.ref (ga G 15 o1), .int 10]) (rest := []) C hH hS (by decide) rfl (by decide) (m14_code l G a1 τ σ19 o1 10 ho1 _ hw) (cwV 2 hts (lw_V q2558 q2560 qs148 q171 q2561) rfl rfl rfl kX14_code ⟨Nat.le_of_ble_eq_true rfl, Nat.le_of_ble_eq_true rfl⟩) rfl hl.1 rfl (Nat.le_of_ble_eq_true rfl) dX14_make_352 ⟨Nat.le_of_ble_eq_true rfl, Nat.le_of_ble_eq_true rfl⟩) hS (fun σ20 H locs hw hH hS => ?_)
  exact rt_v C hH hS hw dX14_make_355
def w14_make_J272 (σ : St) (o1 : Nat) (x2 : Int32) (x4 : Int32) (xs0 : Int32) (Q : St → Prop) : Prop := (x2 < 0 → (∀ σ14, σ14 = up3 σ 15 o1 27 0 → ((xs0 = 0 → w14_make_J308 σ14 o1 x2 xs0 0 o1 Q) ∧ (¬ xs0 = 0 → ((x2 < 0 → w14_make_J308 σ14 o1 x2 xs0 0 o1 Q) ∧ (¬ x2 < 0 → w14_make_J308 σ14 o1 x2 xs0 x4 o1 Q)))))) ∧ (¬ x2 < 0 → (vp_in x2 64 ∧ (∀ σ21, σ21 = up3 σ 15 o1 27 (σ 53 0 x2.toNatClampNeg) → ((xs0 = 0 → w14_make_J308 σ21 o1 x2 xs0 0 o1 Q) ∧ (¬ xs0 = 0 → ((x2 < 0 → w14_make_J308 σ21 o1 x2 xs0 0 o1 Q) ∧ (¬ x2 < 0 → w14_make_J308 σ21 o1 x2 xs0 x4 o1 Q)))))))
set_option maxHeartbeats 4000000 in
theorem k14_make_J272 {p : Program} {l : Launch} {e : Env} {s : State} {m : MethodId} {args : Array Value} {below : List Frame} {meth : Method} {c : Code} {G : Gh} {a1 : Nat → Nat → Nat} {τ : St} {Q : St → Prop} (C : Cx p e s m args meth c cX14_make 6 none "WebHostModel" G) (σ : St) (o1 : Nat) (x2 : Int32) (x4 : Int32) (xs0 : Int32) (ho1 : o1 < 16) (hw : w14_make_J272 σ o1 x2 x4 xs0 Q) (H : Heap) (locs : List Loc) (ls : Array Slot) (hH : Hd G a1 (cmb τ σ) H) (hS : va_S (gA G) s.heap H locs) (hl : lv_has ls 6 [(0, .ref (ga G 14 0)), (1, .ref (ga G 15 o1)), (2, .int x2), (4, .int x4)]) : W p l e rmX14_make s m args below meth c H locs 0 0 (MQ below (QVs G a1 (fun u => cmb τ u) Q) args s 0 0 (gA G)) (F0 m 272 ls [.int xs0]) := by
  have hx := C.1
  have hb := C.2.1
  have hown := C.2.2.2.2.2.1
  have hts := C.2.2.2.2.2.2.1
  refine lv_istore (lv' := [(5, .int xs0), (0, .ref (ga G 14 0)), (1, .ref (ga G 15 o1)), (2, .int x2), (4, .int x4)]) hx hb dX14_make_272 hl (by decide) rfl (fun ls hl => ?_)
  refine lv_aload_n hx hb dX14_make_274 rfl (lv_at hl 2 rfl) ?_
  refine lv_iload_n hx hb dX14_make_275 rfl (lv_at hl 3 rfl) ?_
  refine lv_if_lt (tgt := 288) hx hb dX14_make_276 (by decide) (fun h => ?_) (fun h => ?_)
  · have hw := hw.1 h
    refine lv_iconst (v := 0) hx hb dX14_make_288 (by decide) ?_
    refine p15_27 C hH hS ho1 q1736 dX14_make_289 (fun σ14 e14 H locs hH hS => ?_)
    have hw := hw σ14 e14
    refine lv_aload_n hx hb dX14_make_292 rfl (lv_at hl 2 rfl) ?_
    refine lv_iload hx hb dX14_make_293 (lv_at hl 0 rfl) ?_
    refine lv_if_eq (tgt := 307) hx hb dX14_make_295 (by decide) (fun h => ?_) (fun h => ?_)
    · have hw := hw.1 h
      refine lv_iconst (v := 0) hx hb dX14_make_307 (by decide) ?_
      exact k14_make_J308 C σ14 o1 x2 xs0 0 o1 ho1 ho1 hw H locs ls hH hS (lv_sub hl [1, 2, 3, 0] rfl)
    have hw := hw.2 h
    refine lv_iload_n hx hb dX14_make_298 rfl (lv_at hl 3 rfl) ?_
    refine lv_if_lt (tgt := 307) hx hb dX14_make_299 (by decide) (fun h => ?_) (fun h => ?_)
    · have hw := hw.1 h
      refine lv_iconst (v := 0) hx hb dX14_make_307 (by decide) ?_
      exact k14_make_J308 C σ14 o1 x2 xs0 0 o1 ho1 ho1 hw H locs ls hH hS (lv_sub hl [1, 2, 3, 0] rfl)
    have hw := hw.2 h
    refine lv_iload hx hb dX14_make_302 (lv_at hl 4 rfl) ?_
    refine lv_goto (tgt := 308) hx hb dX14_make_304 (by decide) ?_
    exact k14_make_J308 C σ14 o1 x2 xs0 x4 o1 ho1 ho1 hw H locs ls hH hS (lv_sub hl [1, 2, 3, 0] rfl)
  have hw := hw.2 h
  refine lv_aload_n hx hb dX14_make_279 rfl (lv_at hl 1 rfl) ?_
  refine g14_14 C hH q1954 dX14_make_280 ?_
  refine lv_iload_n hx hb dX14_make_283 rfl (lv_at hl 3 rfl) ?_
  refine l53 C hH hw.1 dX14_make_284 ?_
  have hw := hw.2
  refine lv_goto (tgt := 289) hx hb dX14_make_285 (by decide) ?_
  refine p15_27 C hH hS ho1 q1736 dX14_make_289 (fun σ21 e21 H locs hH hS => ?_)
  have hw := hw σ21 e21
  refine lv_aload_n hx hb dX14_make_292 rfl (lv_at hl 2 rfl) ?_
  refine lv_iload hx hb dX14_make_293 (lv_at hl 0 rfl) ?_
  refine lv_if_eq (tgt := 307) hx hb dX14_make_295 (by decide) (fun h => ?_) (fun h => ?_)
  · have hw := hw.1 h
    refine lv_iconst (v := 0) hx hb dX14_make_307 (by decide) ?_
    exact k14_make_J308 C σ21 o1 x2 xs0 0 o1 ho1 ho1 hw H locs ls hH hS (lv_sub hl [1, 2, 3, 0] rfl)
  have hw := hw.2 h
  refine lv_iload_n hx hb dX14_make_298 rfl (lv_at hl 3 rfl) ?_
  refine lv_if_lt (tgt := 307) hx hb dX14_make_299 (by decide) (fun h => ?_) (fun h => ?_)
  · have hw := hw.1 h
    refine lv_iconst (v := 0) hx hb dX14_make_307 (by decide) ?_
    exact k14_make_J308 C σ21 o1 x2 xs0 0 o1 ho1 ho1 hw H locs ls hH hS (lv_sub hl [1, 2, 3, 0] rfl)
  have hw := hw.2 h
  refine lv_iload hx hb dX14_make_302 (lv_at hl 4 rfl) ?_
  refine lv_goto (tgt := 308) hx hb dX14_make_304 (by decide) ?_
  exact k14_make_J308 C σ21 o1 x2 xs0 x4 o1 ho1 ho1 hw H locs ls hH hS (lv_sub hl [1, 2, 3, 0] rfl)
def w14_make_J245 (σ : St) (o1 : Nat) (x2 : Int32) (x4 : Int32) (Q : St → Prop) : Prop := w14_line σ o1 (fun σ13 => (bo (σ13 14 0 44) → ((¬ (σ13 14 0 44) = 0 → w14_make_J272 σ13 o1 x2 x4 0 Q) ∧ ((σ13 14 0 44) = 0 → (((σ13 14 0 43) = 304 → w14_make_J272 σ13 o1 x2 x4 0 Q) ∧ (¬ (σ13 14 0 43) = 304 → w14_make_J272 σ13 o1 x2 x4 1 Q))))))
set_option maxHeartbeats 4000000 in
theorem k14_make_J245 {p : Program} {l : Launch} {e : Env} {s : State} {m : MethodId} {args : Array Value} {below : List Frame} {meth : Method} {c : Code} {G : Gh} {a1 : Nat → Nat → Nat} {τ : St} {Q : St → Prop} (C : Cx p e s m args meth c cX14_make 6 none "WebHostModel" G) (σ : St) (o1 : Nat) (x2 : Int32) (x4 : Int32) (ho1 : o1 < 16) (hw : w14_make_J245 σ o1 x2 x4 Q) (H : Heap) (locs : List Loc) (ls : Array Slot) (hH : Hd G a1 (cmb τ σ) H) (hS : va_S (gA G) s.heap H locs) (hl : lv_has ls 6 [(0, .ref (ga G 14 0)), (1, .ref (ga G 15 o1)), (2, .int x2), (4, .int x4)]) : W p l e rmX14_make s m args below meth c H locs 0 0 (MQ below (QVs G a1 (fun u => cmb τ u) Q) args s 0 0 (gA G)) (F0 m 245 ls []) := by
  have hx := C.1
  have hb := C.2.1
  have hown := C.2.2.2.2.2.1
  have hts := C.2.2.2.2.2.2.1
  refine lv_aload_n hx hb dX14_make_245 rfl (lv_at hl 0 rfl) ?_
  refine lv_aload_n hx hb dX14_make_246 rfl (lv_at hl 1 rfl) ?_
  refine kc_v (rn_v (As := [.ref (ga G 15 o1)]) (rest := []) C hH hS (by decide) rfl (by decide) (m14_line l G a1 τ σ o1 ho1 _ hw) (cwV 1 hts (lw_V q2578 q2580 qs150 q171 q2581) rfl rfl rfl kX14_line ⟨Nat.le_of_ble_eq_true rfl, Nat.le_of_ble_eq_true rfl⟩) rfl hl.1 rfl (Nat.le_of_ble_eq_true rfl) dX14_make_247 ⟨Nat.le_of_ble_eq_true rfl, Nat.le_of_ble_eq_true rfl⟩) hS (fun σ13 H locs hw hH hS => ?_)
  refine lv_aload_n hx hb dX14_make_250 rfl (lv_at hl 0 rfl) ?_
  refine g14_44 C hH q1984 dX14_make_251 (fun hz => ?_)
  have hw := hw hz
  refine lv_if_ne (tgt := 271) hx hb dX14_make_254 (by decide) (fun h => ?_) (fun h => ?_)
  · have hw := hw.1 h
    refine lv_iconst (v := 0) hx hb dX14_make_271 (by decide) ?_
    exact k14_make_J272 C σ13 o1 x2 x4 0 ho1 hw H locs ls hH hS (lv_sub hl [0, 1, 2, 3] rfl)
  have hw := hw.2 h
  refine lv_aload_n hx hb dX14_make_257 rfl (lv_at hl 0 rfl) ?_
  refine g14_43 C hH q1983 dX14_make_258 ?_
  refine lv_sipush (v := 304) hx hb dX14_make_261 (by decide) ?_
  refine lv_icmp_eq (tgt := 271) hx hb dX14_make_264 (by decide) (fun h => ?_) (fun h => ?_)
  · have hw := hw.1 h
    refine lv_iconst (v := 0) hx hb dX14_make_271 (by decide) ?_
    exact k14_make_J272 C σ13 o1 x2 x4 0 ho1 hw H locs ls hH hS (lv_sub hl [0, 1, 2, 3] rfl)
  have hw := hw.2 h
  refine lv_iconst (v := 1) hx hb dX14_make_267 (by decide) ?_
  refine lv_goto (tgt := 272) hx hb dX14_make_268 (by decide) ?_
  exact k14_make_J272 C σ13 o1 x2 x4 1 ho1 hw H locs ls hH hS (lv_sub hl [0, 1, 2, 3] rfl)
def w14_make_J228 (σ : St) (o1 : Nat) (x2 : Int32) (x3 : Int32) (x4 : Int32) (Q : St → Prop) : Prop := (x3 = 0 → w14_make_J245 σ o1 x2 x4 Q) ∧ (¬ x3 = 0 → (w14_say σ o1 82 (fun σ22 => (w14_line σ22 o1 (fun σ23 => (w14_make_J245 σ23 o1 x2 x4 Q))))))
set_option maxHeartbeats 4000000 in
theorem k14_make_J228 {p : Program} {l : Launch} {e : Env} {s : State} {m : MethodId} {args : Array Value} {below : List Frame} {meth : Method} {c : Code} {G : Gh} {a1 : Nat → Nat → Nat} {τ : St} {Q : St → Prop} (C : Cx p e s m args meth c cX14_make 6 none "WebHostModel" G) (σ : St) (o1 : Nat) (x2 : Int32) (x3 : Int32) (x4 : Int32) (ho1 : o1 < 16) (hw : w14_make_J228 σ o1 x2 x3 x4 Q) (H : Heap) (locs : List Loc) (ls : Array Slot) (hH : Hd G a1 (cmb τ σ) H) (hS : va_S (gA G) s.heap H locs) (hl : lv_has ls 6 [(0, .ref (ga G 14 0)), (1, .ref (ga G 15 o1)), (2, .int x2), (3, .int x3), (4, .int x4)]) : W p l e rmX14_make s m args below meth c H locs 0 0 (MQ below (QVs G a1 (fun u => cmb τ u) Q) args s 0 0 (gA G)) (F0 m 228 ls []) := by
  have hx := C.1
  have hb := C.2.1
  have hown := C.2.2.2.2.2.1
  have hts := C.2.2.2.2.2.2.1
  refine lv_iload_n hx hb dX14_make_228 rfl (lv_at hl 3 rfl) ?_
  refine lv_if_eq (tgt := 245) hx hb dX14_make_229 (by decide) (fun h => ?_) (fun h => ?_)
  · have hw := hw.1 h
    exact k14_make_J245 C σ o1 x2 x4 ho1 hw H locs ls hH hS (lv_sub hl [0, 1, 2, 4] rfl)
  have hw := hw.2 h
  refine lv_aload_n hx hb dX14_make_232 rfl (lv_at hl 0 rfl) ?_
  refine lv_aload_n hx hb dX14_make_233 rfl (lv_at hl 1 rfl) ?_
  refine str_ldcw (n := 82) C st82 dX14_make_234 ?_
  refine kc_v (rn_v (As := [.ref (ga G 15 o1), .ref (gs G 82)]) (rest := []) C hH hS (by decide) rfl (by decide) (m14_say l G a1 τ σ o1 82 ho1 (by decide) _ hw) (cwV 2 hts (lw_V q2554 q2556 qs147 q171 q2557) rfl rfl rfl kX14_say ⟨Nat.le_of_ble_eq_true rfl, Nat.le_of_ble_eq_true rfl⟩) rfl hl.1 rfl (Nat.le_of_ble_eq_true rfl) dX14_make_237 ⟨Nat.le_of_ble_eq_true rfl, Nat.le_of_ble_eq_true rfl⟩) hS (fun σ22 H locs hw hH hS => ?_)
  refine lv_aload_n hx hb dX14_make_240 rfl (lv_at hl 0 rfl) ?_
  refine lv_aload_n hx hb dX14_make_241 rfl (lv_at hl 1 rfl) ?_
  refine kc_v (rn_v (As := [.ref (ga G 15 o1)]) (rest := []) C hH hS (by decide) rfl (by decide) (m14_line l G a1 τ σ22 o1 ho1 _ hw) (cwV 1 hts (lw_V q2578 q2580 qs150 q171 q2581) rfl rfl rfl kX14_line ⟨Nat.le_of_ble_eq_true rfl, Nat.le_of_ble_eq_true rfl⟩) rfl hl.1 rfl (Nat.le_of_ble_eq_true rfl) dX14_make_242 ⟨Nat.le_of_ble_eq_true rfl, Nat.le_of_ble_eq_true rfl⟩) hS (fun σ23 H locs hw hH hS => ?_)
  exact k14_make_J245 C σ23 o1 x2 x4 ho1 hw H locs ls hH hS (lv_sub hl [0, 1, 2, 4] rfl)
def w14_make_J205 (σ : St) (o1 : Nat) (x2 : Int32) (x3 : Int32) (x4 : Int32) (Q : St → Prop) : Prop := (¬ (σ 14 0 43) = 405 → w14_make_J228 σ o1 x2 x3 x4 Q) ∧ ((σ 14 0 43) = 405 → (w14_say σ o1 81 (fun σ24 => (w14_line σ24 o1 (fun σ25 => (w14_make_J228 σ25 o1 x2 x3 x4 Q))))))
set_option maxHeartbeats 4000000 in
theorem k14_make_J205 {p : Program} {l : Launch} {e : Env} {s : State} {m : MethodId} {args : Array Value} {below : List Frame} {meth : Method} {c : Code} {G : Gh} {a1 : Nat → Nat → Nat} {τ : St} {Q : St → Prop} (C : Cx p e s m args meth c cX14_make 6 none "WebHostModel" G) (σ : St) (o1 : Nat) (x2 : Int32) (x3 : Int32) (x4 : Int32) (ho1 : o1 < 16) (hw : w14_make_J205 σ o1 x2 x3 x4 Q) (H : Heap) (locs : List Loc) (ls : Array Slot) (hH : Hd G a1 (cmb τ σ) H) (hS : va_S (gA G) s.heap H locs) (hl : lv_has ls 6 [(0, .ref (ga G 14 0)), (1, .ref (ga G 15 o1)), (2, .int x2), (3, .int x3), (4, .int x4)]) : W p l e rmX14_make s m args below meth c H locs 0 0 (MQ below (QVs G a1 (fun u => cmb τ u) Q) args s 0 0 (gA G)) (F0 m 205 ls []) := by
  have hx := C.1
  have hb := C.2.1
  have hown := C.2.2.2.2.2.1
  have hts := C.2.2.2.2.2.2.1
  refine lv_aload_n hx hb dX14_make_205 rfl (lv_at hl 0 rfl) ?_
  refine g14_43 C hH q1983 dX14_make_206 ?_
  refine lv_sipush (v := 405) hx hb dX14_make_209 (by decide) ?_
  refine lv_icmp_ne (tgt := 228) hx hb dX14_make_212 (by decide) (fun h => ?_) (fun h => ?_)
  · have hw := hw.1 h
    exact k14_make_J228 C σ o1 x2 x3 x4 ho1 hw H locs ls hH hS (lv_sub hl [0, 1, 2, 3, 4] rfl)
  have hw := hw.2 h
  refine lv_aload_n hx hb dX14_make_215 rfl (lv_at hl 0 rfl) ?_
  refine lv_aload_n hx hb dX14_make_216 rfl (lv_at hl 1 rfl) ?_
  refine str_ldcw (n := 81) C st81 dX14_make_217 ?_
  refine kc_v (rn_v (As := [.ref (ga G 15 o1), .ref (gs G 81)]) (rest := []) C hH hS (by decide) rfl (by decide) (m14_say l G a1 τ σ o1 81 ho1 (by decide) _ hw) (cwV 2 hts (lw_V q2554 q2556 qs147 q171 q2557) rfl rfl rfl kX14_say ⟨Nat.le_of_ble_eq_true rfl, Nat.le_of_ble_eq_true rfl⟩) rfl hl.1 rfl (Nat.le_of_ble_eq_true rfl) dX14_make_220 ⟨Nat.le_of_ble_eq_true rfl, Nat.le_of_ble_eq_true rfl⟩) hS (fun σ24 H locs hw hH hS => ?_)
  refine lv_aload_n hx hb dX14_make_223 rfl (lv_at hl 0 rfl) ?_
  refine lv_aload_n hx hb dX14_make_224 rfl (lv_at hl 1 rfl) ?_
  refine kc_v (rn_v (As := [.ref (ga G 15 o1)]) (rest := []) C hH hS (by decide) rfl (by decide) (m14_line l G a1 τ σ24 o1 ho1 _ hw) (cwV 1 hts (lw_V q2578 q2580 qs150 q171 q2581) rfl rfl rfl kX14_line ⟨Nat.le_of_ble_eq_true rfl, Nat.le_of_ble_eq_true rfl⟩) rfl hl.1 rfl (Nat.le_of_ble_eq_true rfl) dX14_make_225 ⟨Nat.le_of_ble_eq_true rfl, Nat.le_of_ble_eq_true rfl⟩) hS (fun σ25 H locs hw hH hS => ?_)
  exact k14_make_J228 C σ25 o1 x2 x3 x4 ho1 hw H locs ls hH hS (lv_sub hl [0, 1, 2, 3, 4] rfl)
def w14_make_L164 (o1 : Nat) (x2 : Int32) (x3 : Int32) (x4 : Int32) (Q : St → Prop) (K193 : St → Prop) : Nat → St → Int32 → Prop
  | 0, _, _ => False
  | n + 1, σ, x5 => (8 ≤ x5 → K193 σ) ∧ (¬ 8 ≤ x5 → (vp_in x2 64 ∧ (w14_hexDigit σ (σ 55 0 x2.toNatClampNeg) x5 (fun r27 => (w14_code σ o1 r27 (fun σ28 => (w14_make_L164 o1 x2 x3 x4 Q K193 n σ28 (x5 + 1))))))))
set_option maxHeartbeats 4000000 in
theorem k14_make_L164 {p : Program} {l : Launch} {e : Env} {s : State} {m : MethodId} {args : Array Value} {below : List Frame} {meth : Method} {c : Code} {G : Gh} {a1 : Nat → Nat → Nat} {τ : St} {Q : St → Prop} {K193 : St → Prop} (C : Cx p e s m args meth c cX14_make 6 none "WebHostModel" G) (o1 : Nat) (x2 : Int32) (x3 : Int32) (x4 : Int32) (ho1 : o1 < 16) :
    ∀ (n : Nat) (σ : St) (x5 : Int32), w14_make_L164 o1 x2 x3 x4 Q K193 n σ x5 → ∀ (H : Heap) (locs : List Loc) (ls : Array Slot), Hd G a1 (cmb τ σ) H → va_S (gA G) s.heap H locs → lv_has ls 6 [(0, .ref (ga G 14 0)), (1, .ref (ga G 15 o1)), (2, .int x2), (3, .int x3), (4, .int x4), (5, .int x5)] → (∀ (σ : St) , K193 σ → ∀ (H : Heap) (locs : List Loc) (ls : Array Slot), Hd G a1 (cmb τ σ) H → va_S (gA G) s.heap H locs → lv_has ls 6 [(0, .ref (ga G 14 0)), (1, .ref (ga G 15 o1)), (2, .int x2), (3, .int x3), (4, .int x4)] → W p l e rmX14_make s m args below meth c H locs 0 0 (MQ below (QVs G a1 (fun u => cmb τ u) Q) args s 0 0 (gA G)) (F0 m 193 ls [])) → W p l e rmX14_make s m args below meth c H locs 0 0 (MQ below (QVs G a1 (fun u => cmb τ u) Q) args s 0 0 (gA G)) (F0 m 164 ls []) := by
  have hx := C.1
  have hb := C.2.1
  have hown := C.2.2.2.2.2.1
  have hts := C.2.2.2.2.2.2.1
  intro n
  induction n with
  | zero =>
    intro σ x5 hw
    exact False.elim hw
  | succ n ih =>
    intro σ x5 hw H locs ls hH hS hl hK193
    refine lv_iload hx hb dX14_make_164 (lv_at hl 5 rfl) ?_
    refine lv_bipush (v := 8) hx hb dX14_make_166 (by decide) ?_
    refine lv_icmp_ge (tgt := 193) hx hb dX14_make_168 (by decide) (fun h => ?_) (fun h => ?_)
    · have hw := hw.1 h
      exact hK193 σ hw H locs ls hH hS (lv_sub hl [0, 1, 2, 3, 4] rfl)
    have hw := hw.2 h
    refine lv_aload_n hx hb dX14_make_171 rfl (lv_at hl 0 rfl) ?_
    refine lv_aload_n hx hb dX14_make_172 rfl (lv_at hl 1 rfl) ?_
    refine lv_aload_n hx hb dX14_make_173 rfl (lv_at hl 0 rfl) ?_
    refine g14_16 C hH q1956 dX14_make_174 ?_
    refine lv_iload_n hx hb dX14_make_177 rfl (lv_at hl 2 rfl) ?_
    refine l55 C hH hw.1 dX14_make_178 ?_
    have hw := hw.2
    refine lv_iload hx hb dX14_make_179 (lv_at hl 5 rfl) ?_
    refine kc_ip (rn_sp (As := [.int (σ 55 0 x2.toNatClampNeg), .int x5]) (rest := [.ref (ga G 15 o1), .ref (ga G 14 0)]) C hH hS (m14_hexDigit l G a1 τ σ H (σ 55 0 x2.toNatClampNeg) x5 _ hw) (va_cwS 2 hts (lw_S q2546 q2547 q171 q2548) rfl rfl rfl kX14_hexDigit.2 ⟨Nat.le_of_ble_eq_true rfl, Nat.le_of_ble_eq_true rfl⟩) rfl hl.1 rfl (Nat.le_of_ble_eq_true rfl) dX14_make_181 ⟨Nat.le_of_ble_eq_true rfl, Nat.le_of_ble_eq_true rfl⟩) hS (fun r27 locs hw hS => ?_)
    refine kc_v (rn_v (As := [.ref (ga G 15 o1), .int r27]) (rest := []) C hH hS (by decide) rfl (by decide) (m14_code l G a1 τ σ o1 r27 ho1 _ hw) (cwV 2 hts (lw_V q2558 q2560 qs148 q171 q2561) rfl rfl rfl kX14_code ⟨Nat.le_of_ble_eq_true rfl, Nat.le_of_ble_eq_true rfl⟩) rfl hl.1 rfl (Nat.le_of_ble_eq_true rfl) dX14_make_184 ⟨Nat.le_of_ble_eq_true rfl, Nat.le_of_ble_eq_true rfl⟩) hS (fun σ28 H locs hw hH hS => ?_)
    refine lv_iinc (v := x5 + 1) (lv' := [(5, .int (x5 + 1)), (0, .ref (ga G 14 0)), (1, .ref (ga G 15 o1)), (2, .int x2), (3, .int x3), (4, .int x4)]) hx hb dX14_make_187 hl (k := 5) rfl rfl (by decide) rfl (fun ls hl => ?_)
    refine lv_goto (tgt := 164) hx hb dX14_make_190 (by decide) ?_
    exact ih σ28 (x5 + 1) hw H locs ls hH hS (lv_sub hl [1, 2, 3, 4, 5, 0] rfl) hK193
def w14_make_J94 (σ : St) (o1 : Nat) (x2 : Int32) (x3 : Int32) (xs0 : Int32) (Q : St → Prop) : Prop := ((σ 14 0 43) = 304 → ((x2 < 0 → w14_make_J205 σ o1 x2 x3 xs0 Q) ∧ (¬ x2 < 0 → (w14_say σ o1 80 (fun σ26 => (∃ z29, w14_make_L164 o1 x2 x3 xs0 Q (fun σ30 => w14_code σ30 o1 34 (fun σ31 => (w14_line σ31 o1 (fun σ32 => (w14_make_J205 σ32 o1 x2 x3 xs0 Q))))) z29 σ26 0)))))) ∧ (¬ (σ 14 0 43) = 304 → (w14_say σ o1 78 (fun σ33 => (w14_sayNumber σ33 o1 xs0 (fun σ34 => (w14_line σ34 o1 (fun σ35 => (w14_say σ35 o1 79 (fun σ36 => (w14_type σ36 x2 (fun t37 => (t37 < nS ∧ (w14_say σ36 o1 t37 (fun σ38 => (w14_line σ38 o1 (fun σ39 => ((x2 < 0 → w14_make_J205 σ39 o1 x2 x3 xs0 Q) ∧ (¬ x2 < 0 → (w14_say σ39 o1 80 (fun σ40 => (∃ z41, w14_make_L164 o1 x2 x3 xs0 Q (fun σ42 => w14_code σ42 o1 34 (fun σ43 => (w14_line σ43 o1 (fun σ44 => (w14_make_J205 σ44 o1 x2 x3 xs0 Q))))) z41 σ40 0)))))))))))))))))))))
set_option maxHeartbeats 4000000 in
theorem k14_make_J94 {p : Program} {l : Launch} {e : Env} {s : State} {m : MethodId} {args : Array Value} {below : List Frame} {meth : Method} {c : Code} {G : Gh} {a1 : Nat → Nat → Nat} {τ : St} {Q : St → Prop} (C : Cx p e s m args meth c cX14_make 6 none "WebHostModel" G) (σ : St) (o1 : Nat) (x2 : Int32) (x3 : Int32) (xs0 : Int32) (ho1 : o1 < 16) (hw : w14_make_J94 σ o1 x2 x3 xs0 Q) (H : Heap) (locs : List Loc) (ls : Array Slot) (hH : Hd G a1 (cmb τ σ) H) (hS : va_S (gA G) s.heap H locs) (hl : lv_has ls 6 [(0, .ref (ga G 14 0)), (1, .ref (ga G 15 o1)), (2, .int x2), (3, .int x3)]) : W p l e rmX14_make s m args below meth c H locs 0 0 (MQ below (QVs G a1 (fun u => cmb τ u) Q) args s 0 0 (gA G)) (F0 m 94 ls [.int xs0]) := by
  have hx := C.1
  have hb := C.2.1
  have hown := C.2.2.2.2.2.1
  have hts := C.2.2.2.2.2.2.1
  refine lv_istore (lv' := [(4, .int xs0), (0, .ref (ga G 14 0)), (1, .ref (ga G 15 o1)), (2, .int x2), (3, .int x3)]) hx hb dX14_make_94 hl (by decide) rfl (fun ls hl => ?_)
  refine lv_aload_n hx hb dX14_make_96 rfl (lv_at hl 1 rfl) ?_
  refine g14_43 C hH q1983 dX14_make_97 ?_
  refine lv_sipush (v := 304) hx hb dX14_make_100 (by decide) ?_
  refine lv_icmp_eq (tgt := 149) hx hb dX14_make_103 (by decide) (fun h => ?_) (fun h => ?_)
  · have hw := hw.1 h
    refine lv_iload_n hx hb dX14_make_149 rfl (lv_at hl 3 rfl) ?_
    refine lv_if_lt (tgt := 205) hx hb dX14_make_150 (by decide) (fun h => ?_) (fun h => ?_)
    · have hw := hw.1 h
      exact k14_make_J205 C σ o1 x2 x3 xs0 ho1 hw H locs ls hH hS (lv_sub hl [1, 2, 3, 4, 0] rfl)
    have hw := hw.2 h
    refine lv_aload_n hx hb dX14_make_153 rfl (lv_at hl 1 rfl) ?_
    refine lv_aload_n hx hb dX14_make_154 rfl (lv_at hl 2 rfl) ?_
    refine str_ldcw (n := 80) C st80 dX14_make_155 ?_
    refine kc_v (rn_v (As := [.ref (ga G 15 o1), .ref (gs G 80)]) (rest := []) C hH hS (by decide) rfl (by decide) (m14_say l G a1 τ σ o1 80 ho1 (by decide) _ hw) (cwV 2 hts (lw_V q2554 q2556 qs147 q171 q2557) rfl rfl rfl kX14_say ⟨Nat.le_of_ble_eq_true rfl, Nat.le_of_ble_eq_true rfl⟩) rfl hl.1 rfl (Nat.le_of_ble_eq_true rfl) dX14_make_158 ⟨Nat.le_of_ble_eq_true rfl, Nat.le_of_ble_eq_true rfl⟩) hS (fun σ26 H locs hw hH hS => ?_)
    refine lv_iconst (v := 0) hx hb dX14_make_161 (by decide) ?_
    refine lv_istore (lv' := [(5, .int 0), (4, .int xs0), (0, .ref (ga G 14 0)), (1, .ref (ga G 15 o1)), (2, .int x2), (3, .int x3)]) hx hb dX14_make_162 hl (by decide) rfl (fun ls hl => ?_)
    obtain ⟨n29, hw⟩ := hw
    refine k14_make_L164 C o1 x2 x3 xs0 ho1 n29 σ26 0 hw H locs ls hH hS (lv_sub hl [2, 3, 4, 5, 1, 0] rfl) (fun σ30 hw H locs ls hH hS hl => ?_)
    refine lv_aload_n hx hb dX14_make_193 rfl (lv_at hl 0 rfl) ?_
    refine lv_aload_n hx hb dX14_make_194 rfl (lv_at hl 1 rfl) ?_
    refine lv_bipush (v := 34) hx hb dX14_make_195 (by decide) ?_
    refine kc_v (rn_v (As := [.ref (ga G 15 o1), .int 34]) (rest := []) C hH hS (by decide) rfl (by decide) (m14_code l G a1 τ σ30 o1 34 ho1 _ hw) (cwV 2 hts (lw_V q2558 q2560 qs148 q171 q2561) rfl rfl rfl kX14_code ⟨Nat.le_of_ble_eq_true rfl, Nat.le_of_ble_eq_true rfl⟩) rfl hl.1 rfl (Nat.le_of_ble_eq_true rfl) dX14_make_197 ⟨Nat.le_of_ble_eq_true rfl, Nat.le_of_ble_eq_true rfl⟩) hS (fun σ31 H locs hw hH hS => ?_)
    refine lv_aload_n hx hb dX14_make_200 rfl (lv_at hl 0 rfl) ?_
    refine lv_aload_n hx hb dX14_make_201 rfl (lv_at hl 1 rfl) ?_
    refine kc_v (rn_v (As := [.ref (ga G 15 o1)]) (rest := []) C hH hS (by decide) rfl (by decide) (m14_line l G a1 τ σ31 o1 ho1 _ hw) (cwV 1 hts (lw_V q2578 q2580 qs150 q171 q2581) rfl rfl rfl kX14_line ⟨Nat.le_of_ble_eq_true rfl, Nat.le_of_ble_eq_true rfl⟩) rfl hl.1 rfl (Nat.le_of_ble_eq_true rfl) dX14_make_202 ⟨Nat.le_of_ble_eq_true rfl, Nat.le_of_ble_eq_true rfl⟩) hS (fun σ32 H locs hw hH hS => ?_)
    exact k14_make_J205 C σ32 o1 x2 x3 xs0 ho1 hw H locs ls hH hS (lv_sub hl [0, 1, 2, 3, 4] rfl)
  have hw := hw.2 h
  refine lv_aload_n hx hb dX14_make_106 rfl (lv_at hl 1 rfl) ?_
  refine lv_aload_n hx hb dX14_make_107 rfl (lv_at hl 2 rfl) ?_
  refine str_ldcw (n := 78) C st78 dX14_make_108 ?_
  refine kc_v (rn_v (As := [.ref (ga G 15 o1), .ref (gs G 78)]) (rest := []) C hH hS (by decide) rfl (by decide) (m14_say l G a1 τ σ o1 78 ho1 (by decide) _ hw) (cwV 2 hts (lw_V q2554 q2556 qs147 q171 q2557) rfl rfl rfl kX14_say ⟨Nat.le_of_ble_eq_true rfl, Nat.le_of_ble_eq_true rfl⟩) rfl hl.1 rfl (Nat.le_of_ble_eq_true rfl) dX14_make_111 ⟨Nat.le_of_ble_eq_true rfl, Nat.le_of_ble_eq_true rfl⟩) hS (fun σ33 H locs hw hH hS => ?_)
  refine lv_aload_n hx hb dX14_make_114 rfl (lv_at hl 1 rfl) ?_
  refine lv_aload_n hx hb dX14_make_115 rfl (lv_at hl 2 rfl) ?_
  refine lv_iload hx hb dX14_make_116 (lv_at hl 0 rfl) ?_
  refine kc_v (rn_v (As := [.ref (ga G 15 o1), .int xs0]) (rest := []) C hH hS (by decide) rfl (by decide) (m14_sayNumber l G a1 τ σ33 o1 xs0 ho1 _ hw) (cwV 2 hts (lw_V q2562 q2564 qs149 q171 q2565) rfl rfl rfl kX14_sayNumber ⟨Nat.le_of_ble_eq_true rfl, Nat.le_of_ble_eq_true rfl⟩) rfl hl.1 rfl (Nat.le_of_ble_eq_true rfl) dX14_make_118 ⟨Nat.le_of_ble_eq_true rfl, Nat.le_of_ble_eq_true rfl⟩) hS (fun σ34 H locs hw hH hS => ?_)
  refine lv_aload_n hx hb dX14_make_121 rfl (lv_at hl 1 rfl) ?_
  refine lv_aload_n hx hb dX14_make_122 rfl (lv_at hl 2 rfl) ?_
  refine kc_v (rn_v (As := [.ref (ga G 15 o1)]) (rest := []) C hH hS (by decide) rfl (by decide) (m14_line l G a1 τ σ34 o1 ho1 _ hw) (cwV 1 hts (lw_V q2578 q2580 qs150 q171 q2581) rfl rfl rfl kX14_line ⟨Nat.le_of_ble_eq_true rfl, Nat.le_of_ble_eq_true rfl⟩) rfl hl.1 rfl (Nat.le_of_ble_eq_true rfl) dX14_make_123 ⟨Nat.le_of_ble_eq_true rfl, Nat.le_of_ble_eq_true rfl⟩) hS (fun σ35 H locs hw hH hS => ?_)
  refine lv_aload_n hx hb dX14_make_126 rfl (lv_at hl 1 rfl) ?_
  refine lv_aload_n hx hb dX14_make_127 rfl (lv_at hl 2 rfl) ?_
  refine str_ldcw (n := 79) C st79 dX14_make_128 ?_
  refine kc_v (rn_v (As := [.ref (ga G 15 o1), .ref (gs G 79)]) (rest := []) C hH hS (by decide) rfl (by decide) (m14_say l G a1 τ σ35 o1 79 ho1 (by decide) _ hw) (cwV 2 hts (lw_V q2554 q2556 qs147 q171 q2557) rfl rfl rfl kX14_say ⟨Nat.le_of_ble_eq_true rfl, Nat.le_of_ble_eq_true rfl⟩) rfl hl.1 rfl (Nat.le_of_ble_eq_true rfl) dX14_make_131 ⟨Nat.le_of_ble_eq_true rfl, Nat.le_of_ble_eq_true rfl⟩) hS (fun σ36 H locs hw hH hS => ?_)
  refine lv_aload_n hx hb dX14_make_134 rfl (lv_at hl 1 rfl) ?_
  refine lv_aload_n hx hb dX14_make_135 rfl (lv_at hl 2 rfl) ?_
  refine lv_aload_n hx hb dX14_make_136 rfl (lv_at hl 1 rfl) ?_
  refine lv_iload_n hx hb dX14_make_137 rfl (lv_at hl 3 rfl) ?_
  refine kc_tp (rn_vp (As := [.int x2]) (rest := [.ref (ga G 15 o1), .ref (ga G 14 0)]) C hH hS (by decide) rfl (by decide) (m14_type l G a1 τ σ36 H x2 _ hw) (cwV 1 hts (lw_V q2584 q2586 qs151 q171 q2587) rfl rfl rfl kX14_type ⟨Nat.le_of_ble_eq_true rfl, Nat.le_of_ble_eq_true rfl⟩) rfl hl.1 rfl (Nat.le_of_ble_eq_true rfl) dX14_make_138 ⟨Nat.le_of_ble_eq_true rfl, Nat.le_of_ble_eq_true rfl⟩) hS (fun t37 locs hw hS => ?_)
  obtain ⟨ht37, hw⟩ := hw
  refine kc_v (rn_v (As := [.ref (ga G 15 o1), .ref (gs G t37)]) (rest := []) C hH hS (by decide) rfl (by decide) (m14_say l G a1 τ σ36 o1 t37 ho1 ht37 _ hw) (cwV 2 hts (lw_V q2554 q2556 qs147 q171 q2557) rfl rfl rfl kX14_say ⟨Nat.le_of_ble_eq_true rfl, Nat.le_of_ble_eq_true rfl⟩) rfl hl.1 rfl (Nat.le_of_ble_eq_true rfl) dX14_make_141 ⟨Nat.le_of_ble_eq_true rfl, Nat.le_of_ble_eq_true rfl⟩) hS (fun σ38 H locs hw hH hS => ?_)
  refine lv_aload_n hx hb dX14_make_144 rfl (lv_at hl 1 rfl) ?_
  refine lv_aload_n hx hb dX14_make_145 rfl (lv_at hl 2 rfl) ?_
  refine kc_v (rn_v (As := [.ref (ga G 15 o1)]) (rest := []) C hH hS (by decide) rfl (by decide) (m14_line l G a1 τ σ38 o1 ho1 _ hw) (cwV 1 hts (lw_V q2578 q2580 qs150 q171 q2581) rfl rfl rfl kX14_line ⟨Nat.le_of_ble_eq_true rfl, Nat.le_of_ble_eq_true rfl⟩) rfl hl.1 rfl (Nat.le_of_ble_eq_true rfl) dX14_make_146 ⟨Nat.le_of_ble_eq_true rfl, Nat.le_of_ble_eq_true rfl⟩) hS (fun σ39 H locs hw hH hS => ?_)
  refine lv_iload_n hx hb dX14_make_149 rfl (lv_at hl 3 rfl) ?_
  refine lv_if_lt (tgt := 205) hx hb dX14_make_150 (by decide) (fun h => ?_) (fun h => ?_)
  · have hw := hw.1 h
    exact k14_make_J205 C σ39 o1 x2 x3 xs0 ho1 hw H locs ls hH hS (lv_sub hl [1, 2, 3, 4, 0] rfl)
  have hw := hw.2 h
  refine lv_aload_n hx hb dX14_make_153 rfl (lv_at hl 1 rfl) ?_
  refine lv_aload_n hx hb dX14_make_154 rfl (lv_at hl 2 rfl) ?_
  refine str_ldcw (n := 80) C st80 dX14_make_155 ?_
  refine kc_v (rn_v (As := [.ref (ga G 15 o1), .ref (gs G 80)]) (rest := []) C hH hS (by decide) rfl (by decide) (m14_say l G a1 τ σ39 o1 80 ho1 (by decide) _ hw) (cwV 2 hts (lw_V q2554 q2556 qs147 q171 q2557) rfl rfl rfl kX14_say ⟨Nat.le_of_ble_eq_true rfl, Nat.le_of_ble_eq_true rfl⟩) rfl hl.1 rfl (Nat.le_of_ble_eq_true rfl) dX14_make_158 ⟨Nat.le_of_ble_eq_true rfl, Nat.le_of_ble_eq_true rfl⟩) hS (fun σ40 H locs hw hH hS => ?_)
  refine lv_iconst (v := 0) hx hb dX14_make_161 (by decide) ?_
  refine lv_istore (lv' := [(5, .int 0), (4, .int xs0), (0, .ref (ga G 14 0)), (1, .ref (ga G 15 o1)), (2, .int x2), (3, .int x3)]) hx hb dX14_make_162 hl (by decide) rfl (fun ls hl => ?_)
  obtain ⟨n41, hw⟩ := hw
  refine k14_make_L164 C o1 x2 x3 xs0 ho1 n41 σ40 0 hw H locs ls hH hS (lv_sub hl [2, 3, 4, 5, 1, 0] rfl) (fun σ42 hw H locs ls hH hS hl => ?_)
  refine lv_aload_n hx hb dX14_make_193 rfl (lv_at hl 0 rfl) ?_
  refine lv_aload_n hx hb dX14_make_194 rfl (lv_at hl 1 rfl) ?_
  refine lv_bipush (v := 34) hx hb dX14_make_195 (by decide) ?_
  refine kc_v (rn_v (As := [.ref (ga G 15 o1), .int 34]) (rest := []) C hH hS (by decide) rfl (by decide) (m14_code l G a1 τ σ42 o1 34 ho1 _ hw) (cwV 2 hts (lw_V q2558 q2560 qs148 q171 q2561) rfl rfl rfl kX14_code ⟨Nat.le_of_ble_eq_true rfl, Nat.le_of_ble_eq_true rfl⟩) rfl hl.1 rfl (Nat.le_of_ble_eq_true rfl) dX14_make_197 ⟨Nat.le_of_ble_eq_true rfl, Nat.le_of_ble_eq_true rfl⟩) hS (fun σ43 H locs hw hH hS => ?_)
  refine lv_aload_n hx hb dX14_make_200 rfl (lv_at hl 0 rfl) ?_
  refine lv_aload_n hx hb dX14_make_201 rfl (lv_at hl 1 rfl) ?_
  refine kc_v (rn_v (As := [.ref (ga G 15 o1)]) (rest := []) C hH hS (by decide) rfl (by decide) (m14_line l G a1 τ σ43 o1 ho1 _ hw) (cwV 1 hts (lw_V q2578 q2580 qs150 q171 q2581) rfl rfl rfl kX14_line ⟨Nat.le_of_ble_eq_true rfl, Nat.le_of_ble_eq_true rfl⟩) rfl hl.1 rfl (Nat.le_of_ble_eq_true rfl) dX14_make_202 ⟨Nat.le_of_ble_eq_true rfl, Nat.le_of_ble_eq_true rfl⟩) hS (fun σ44 H locs hw hH hS => ?_)
  exact k14_make_J205 C σ44 o1 x2 x3 xs0 ho1 hw H locs ls hH hS (lv_sub hl [0, 1, 2, 3, 4] rfl)
def w14_make (σ : St) (o1 : Nat) (x2 : Int32) (x3 : Int32) (Q : St → Prop) : Prop := vp_in 4 8 ∧ (vp_in 4 8 ∧ (∀ σ1, σ1 = up3 σ 56 0 (4 : Int32).toNatClampNeg ((σ 56 0 (4 : Int32).toNatClampNeg) + 1) → (∀ σ2, σ2 = up3 σ1 15 o1 29 (σ1 15 o1 5) → (∀ σ3, σ3 = up3 σ2 15 o1 26 0 → (bo x3 ∧ (∀ σ4, σ4 = up3 σ3 15 o1 30 x3 → (w14_say σ4 o1 77 (fun σ5 => (w14_sayNumber σ5 o1 (σ5 14 0 43) (fun σ6 => (w14_code σ6 o1 32 (fun σ7 => (w14_phrase σ7 (σ7 14 0 43) (fun t8 => (t8 < nS ∧ (w14_say σ7 o1 t8 (fun σ9 => (w14_line σ9 o1 (fun σ10 => ((x2 < 0 → (w14_phrase σ10 (σ10 14 0 43) (fun t11 => (t11 < nS ∧ (wJ1_length t11 (fun r12 => (w14_make_J94 σ10 o1 x2 x3 (5 + r12) Q))))))) ∧ (¬ x2 < 0 → (vp_in x2 64 ∧ (w14_make_J94 σ10 o1 x2 x3 (σ10 54 0 x2.toNatClampNeg) Q)))))))))))))))))))))))
set_option maxHeartbeats 4000000 in
theorem m14_make (l : Launch) (G : Gh) (a1 : Nat → Nat → Nat) (τ : St) (σ : St) (o1 : Nat) (x2 : Int32) (x3 : Int32) (ho1 : o1 < 16) (Q : St → Prop) (hw : w14_make σ o1 x2 x3 Q) : Met l yX14_make (ws_ yX14_make cX14_make 6 none) rmX14_make (PcS G a1 (cmb τ σ) [.ref (ga G 14 0), .ref (ga G 15 o1), .int x2, .int x3]) (QVs G a1 (fun u => cmb τ u) Q) 0 0 (gA G) := by
  refine met_w (by decide) (Nat.le_of_ble_eq_true rfl) ?_
  intro p e s m below meth c ls C hH hS hl
  have C : Cx p e s m _ meth c cX14_make 6 none "WebHostModel" G := C
  have hl : lv_has ls 6 [(0, .ref (ga G 14 0)), (1, .ref (ga G 15 o1)), (2, .int x2), (3, .int x3)] := hl
  have hx := C.1
  have hb := C.2.1
  have hown := C.2.2.2.2.2.1
  have hts := C.2.2.2.2.2.2.1
  obtain ⟨locs, hlocs⟩ : ∃ z : List Loc, z = [] := ⟨_, rfl⟩
  obtain ⟨H, hHe⟩ : ∃ z : Heap, z = s.heap := ⟨_, rfl⟩
  have hH : Hd G a1 (cmb τ σ) H := by rw [hHe]; exact hH
  have hS : va_S (gA G) s.heap H locs := by rw [hHe, hlocs]; exact hS
  refine W.heap0 hHe.symm hlocs.symm ?_
  refine lv_aload_n hx hb dX14_make_0 rfl (lv_at hl 0 rfl) ?_
  refine g14_17 C hH q1957 dX14_make_1 ?_
  refine lv_iconst (v := 4) hx hb dX14_make_4 (by decide) ?_
  refine lv_dup2_11 hx hb dX14_make_5 rfl rfl ?_
  refine l56 C hH hw.1 dX14_make_6 ?_
  have hw := hw.2
  refine lv_iconst (v := 1) hx hb dX14_make_7 (by decide) ?_
  refine lv_iadd hx hb dX14_make_8 ?_
  refine s56 C hH hS hw.1 dX14_make_9 (fun σ1 e1 H locs hH hS => ?_)
  have hw := hw.2 σ1 e1
  refine lv_aload_n hx hb dX14_make_10 rfl (lv_at hl 1 rfl) ?_
  refine lv_aload_n hx hb dX14_make_11 rfl (lv_at hl 1 rfl) ?_
  refine g15_5 C hH ho1 q1712 dX14_make_12 ?_
  refine p15_29 C hH hS ho1 q1740 dX14_make_15 (fun σ2 e2 H locs hH hS => ?_)
  have hw := hw σ2 e2
  refine lv_aload_n hx hb dX14_make_18 rfl (lv_at hl 1 rfl) ?_
  refine lv_iconst (v := 0) hx hb dX14_make_19 (by decide) ?_
  refine p15_26 C hH hS ho1 q1735 dX14_make_20 (fun σ3 e3 H locs hH hS => ?_)
  have hw := hw σ3 e3
  refine lv_aload_n hx hb dX14_make_23 rfl (lv_at hl 1 rfl) ?_
  refine lv_iload_n hx hb dX14_make_24 rfl (lv_at hl 3 rfl) ?_
  refine p15_30 C hH hS ho1 hw.1 q1742 dX14_make_25 (fun σ4 e4 H locs hH hS => ?_)
  have hw := hw.2 σ4 e4
  refine lv_aload_n hx hb dX14_make_28 rfl (lv_at hl 0 rfl) ?_
  refine lv_aload_n hx hb dX14_make_29 rfl (lv_at hl 1 rfl) ?_
  refine str_ldcw (n := 77) C st77 dX14_make_30 ?_
  refine kc_v (rn_v (As := [.ref (ga G 15 o1), .ref (gs G 77)]) (rest := []) C hH hS (by decide) rfl (by decide) (m14_say l G a1 τ σ4 o1 77 ho1 (by decide) _ hw) (cwV 2 hts (lw_V q2554 q2556 qs147 q171 q2557) rfl rfl rfl kX14_say ⟨Nat.le_of_ble_eq_true rfl, Nat.le_of_ble_eq_true rfl⟩) rfl hl.1 rfl (Nat.le_of_ble_eq_true rfl) dX14_make_33 ⟨Nat.le_of_ble_eq_true rfl, Nat.le_of_ble_eq_true rfl⟩) hS (fun σ5 H locs hw hH hS => ?_)
  refine lv_aload_n hx hb dX14_make_36 rfl (lv_at hl 0 rfl) ?_
  refine lv_aload_n hx hb dX14_make_37 rfl (lv_at hl 1 rfl) ?_
  refine lv_aload_n hx hb dX14_make_38 rfl (lv_at hl 0 rfl) ?_
  refine g14_43 C hH q1983 dX14_make_39 ?_
  refine kc_v (rn_v (As := [.ref (ga G 15 o1), .int (σ5 14 0 43)]) (rest := []) C hH hS (by decide) rfl (by decide) (m14_sayNumber l G a1 τ σ5 o1 (σ5 14 0 43) ho1 _ hw) (cwV 2 hts (lw_V q2562 q2564 qs149 q171 q2565) rfl rfl rfl kX14_sayNumber ⟨Nat.le_of_ble_eq_true rfl, Nat.le_of_ble_eq_true rfl⟩) rfl hl.1 rfl (Nat.le_of_ble_eq_true rfl) dX14_make_42 ⟨Nat.le_of_ble_eq_true rfl, Nat.le_of_ble_eq_true rfl⟩) hS (fun σ6 H locs hw hH hS => ?_)
  refine lv_aload_n hx hb dX14_make_45 rfl (lv_at hl 0 rfl) ?_
  refine lv_aload_n hx hb dX14_make_46 rfl (lv_at hl 1 rfl) ?_
  refine lv_bipush (v := 32) hx hb dX14_make_47 (by decide) ?_
  refine kc_v (rn_v (As := [.ref (ga G 15 o1), .int 32]) (rest := []) C hH hS (by decide) rfl (by decide) (m14_code l G a1 τ σ6 o1 32 ho1 _ hw) (cwV 2 hts (lw_V q2558 q2560 qs148 q171 q2561) rfl rfl rfl kX14_code ⟨Nat.le_of_ble_eq_true rfl, Nat.le_of_ble_eq_true rfl⟩) rfl hl.1 rfl (Nat.le_of_ble_eq_true rfl) dX14_make_49 ⟨Nat.le_of_ble_eq_true rfl, Nat.le_of_ble_eq_true rfl⟩) hS (fun σ7 H locs hw hH hS => ?_)
  refine lv_aload_n hx hb dX14_make_52 rfl (lv_at hl 0 rfl) ?_
  refine lv_aload_n hx hb dX14_make_53 rfl (lv_at hl 1 rfl) ?_
  refine lv_aload_n hx hb dX14_make_54 rfl (lv_at hl 0 rfl) ?_
  refine g14_43 C hH q1983 dX14_make_55 ?_
  refine kc_tp (rn_sp (As := [.int (σ7 14 0 43)]) (rest := [.ref (ga G 15 o1), .ref (ga G 14 0)]) C hH hS (m14_phrase l G a1 τ σ7 H (σ7 14 0 43) _ hw) (va_cwS 1 hts (lw_S q2566 q2567 q171 q2568) rfl rfl rfl kX14_phrase.2 ⟨Nat.le_of_ble_eq_true rfl, Nat.le_of_ble_eq_true rfl⟩) rfl hl.1 rfl (Nat.le_of_ble_eq_true rfl) dX14_make_58 ⟨Nat.le_of_ble_eq_true rfl, Nat.le_of_ble_eq_true rfl⟩) hS (fun t8 locs hw hS => ?_)
  obtain ⟨ht8, hw⟩ := hw
  refine kc_v (rn_v (As := [.ref (ga G 15 o1), .ref (gs G t8)]) (rest := []) C hH hS (by decide) rfl (by decide) (m14_say l G a1 τ σ7 o1 t8 ho1 ht8 _ hw) (cwV 2 hts (lw_V q2554 q2556 qs147 q171 q2557) rfl rfl rfl kX14_say ⟨Nat.le_of_ble_eq_true rfl, Nat.le_of_ble_eq_true rfl⟩) rfl hl.1 rfl (Nat.le_of_ble_eq_true rfl) dX14_make_61 ⟨Nat.le_of_ble_eq_true rfl, Nat.le_of_ble_eq_true rfl⟩) hS (fun σ9 H locs hw hH hS => ?_)
  refine lv_aload_n hx hb dX14_make_64 rfl (lv_at hl 0 rfl) ?_
  refine lv_aload_n hx hb dX14_make_65 rfl (lv_at hl 1 rfl) ?_
  refine kc_v (rn_v (As := [.ref (ga G 15 o1)]) (rest := []) C hH hS (by decide) rfl (by decide) (m14_line l G a1 τ σ9 o1 ho1 _ hw) (cwV 1 hts (lw_V q2578 q2580 qs150 q171 q2581) rfl rfl rfl kX14_line ⟨Nat.le_of_ble_eq_true rfl, Nat.le_of_ble_eq_true rfl⟩) rfl hl.1 rfl (Nat.le_of_ble_eq_true rfl) dX14_make_66 ⟨Nat.le_of_ble_eq_true rfl, Nat.le_of_ble_eq_true rfl⟩) hS (fun σ10 H locs hw hH hS => ?_)
  refine lv_iload_n hx hb dX14_make_69 rfl (lv_at hl 2 rfl) ?_
  refine lv_if_lt (tgt := 82) hx hb dX14_make_70 (by decide) (fun h => ?_) (fun h => ?_)
  · have hw := hw.1 h
    refine lv_iconst (v := 5) hx hb dX14_make_82 (by decide) ?_
    refine lv_aload_n hx hb dX14_make_83 rfl (lv_at hl 0 rfl) ?_
    refine g14_43 C hH q1983 dX14_make_84 ?_
    refine kc_tp (rn_sp (As := [.int (σ10 14 0 43)]) (rest := [.int 5]) C hH hS (m14_phrase l G a1 τ σ10 H (σ10 14 0 43) _ hw) (va_cwS 1 hts (lw_S q2566 q2567 q171 q2568) rfl rfl rfl kX14_phrase.2 ⟨Nat.le_of_ble_eq_true rfl, Nat.le_of_ble_eq_true rfl⟩) rfl hl.1 rfl (Nat.le_of_ble_eq_true rfl) dX14_make_87 ⟨Nat.le_of_ble_eq_true rfl, Nat.le_of_ble_eq_true rfl⟩) hS (fun t11 locs hw hS => ?_)
    obtain ⟨ht11, hw⟩ := hw
    refine kc_ip (rn_vS (As := []) (rest := [.int 5]) C hH hS ht11 (mJ1_length l G a1 τ (cmb τ σ10) H t11 ht11 _ hw) (cwV 0 hts (lw_V q2484 q1273 q1274 q178 q1275) rfl rfl rfl kXJ1_length ⟨Nat.le_of_ble_eq_true rfl, Nat.le_of_ble_eq_true rfl⟩) rfl hl.1 rfl (Nat.le_of_ble_eq_true rfl) dX14_make_90 ⟨Nat.le_of_ble_eq_true rfl, Nat.le_of_ble_eq_true rfl⟩) hS (fun r12 locs hw hS => ?_)
    refine lv_iadd hx hb dX14_make_93 ?_
    exact k14_make_J94 C σ10 o1 x2 x3 (5 + r12) ho1 hw H locs ls hH hS (lv_sub hl [0, 1, 2, 3] rfl)
  have hw := hw.2 h
  refine lv_aload_n hx hb dX14_make_73 rfl (lv_at hl 0 rfl) ?_
  refine g14_15 C hH q1955 dX14_make_74 ?_
  refine lv_iload_n hx hb dX14_make_77 rfl (lv_at hl 2 rfl) ?_
  refine l54 C hH hw.1 dX14_make_78 ?_
  have hw := hw.2
  refine lv_goto (tgt := 94) hx hb dX14_make_79 (by decide) ?_
  exact k14_make_J94 C σ10 o1 x2 x3 (σ10 54 0 x2.toNatClampNeg) ho1 hw H locs ls hH hS (lv_sub hl [0, 1, 2, 3] rfl)
/-! WebHost$Requests.file(LWebHost$Answer;IZ)V -/
abbrev cX9_file : ByteArray := prog_11_method_32_code
def yX9_file : MethodName := ⟨RX9, "file", "(LWebHost$Answer;IZ)V"⟩
theorem dX9_file_0 : decode cX9_file 0 = .ok (.aload_n 0, 1) := by decide +kernel
theorem dX9_file_1 : decode cX9_file 1 = .ok (.aload_n 1, 1) := by decide +kernel
theorem dX9_file_2 : decode cX9_file 2 = .ok (.sipush 200, 3) := by decide +kernel
theorem dX9_file_5 : decode cX9_file 5 = .ok (.ldc_w 330, 3) := by decide +kernel
theorem dX9_file_8 : decode cX9_file 8 = .ok (.invokevirtual 281, 3) := by decide +kernel
theorem dX9_file_11 : decode cX9_file 11 = .ok (.aload_n 0, 1) := by decide +kernel
theorem dX9_file_12 : decode cX9_file 12 = .ok (.aload_n 1, 1) := by decide +kernel
theorem dX9_file_13 : decode cX9_file 13 = .ok (.aload_n 0, 1) := by decide +kernel
theorem dX9_file_14 : decode cX9_file 14 = .ok (.getfield 18, 3) := by decide +kernel
theorem dX9_file_17 : decode cX9_file 17 = .ok (.iload_n 2, 1) := by decide +kernel
theorem dX9_file_18 : decode cX9_file 18 = .ok (.invokevirtual 332, 3) := by decide +kernel
theorem dX9_file_21 : decode cX9_file 21 = .ok (.invokevirtual 285, 3) := by decide +kernel
theorem dX9_file_24 : decode cX9_file 24 = .ok (.aload_n 1, 1) := by decide +kernel
theorem dX9_file_25 : decode cX9_file 25 = .ok (.ldc_w 334, 3) := by decide +kernel
theorem dX9_file_28 : decode cX9_file 28 = .ok (.invokevirtual 262, 3) := by decide +kernel
theorem dX9_file_31 : decode cX9_file 31 = .ok (.aload_n 1, 1) := by decide +kernel
theorem dX9_file_32 : decode cX9_file 32 = .ok (.aload_n 0, 1) := by decide +kernel
theorem dX9_file_33 : decode cX9_file 33 = .ok (.iload_n 2, 1) := by decide +kernel
theorem dX9_file_34 : decode cX9_file 34 = .ok (.invokevirtual 336, 3) := by decide +kernel
theorem dX9_file_37 : decode cX9_file 37 = .ok (.invokevirtual 272, 3) := by decide +kernel
theorem dX9_file_40 : decode cX9_file 40 = .ok (.aload_n 0, 1) := by decide +kernel
theorem dX9_file_41 : decode cX9_file 41 = .ok (.aload_n 1, 1) := by decide +kernel
theorem dX9_file_42 : decode cX9_file 42 = .ok (.iload_n 2, 1) := by decide +kernel
theorem dX9_file_43 : decode cX9_file 43 = .ok (.invokevirtual 302, 3) := by decide +kernel
theorem dX9_file_46 : decode cX9_file 46 = .ok (.aload_n 0, 1) := by decide +kernel
theorem dX9_file_47 : decode cX9_file 47 = .ok (.aload_n 1, 1) := by decide +kernel
theorem dX9_file_48 : decode cX9_file 48 = .ok (.iload_n 3, 1) := by decide +kernel
theorem dX9_file_49 : decode cX9_file 49 = .ok (.invokevirtual 292, 3) := by decide +kernel
theorem dX9_file_52 : decode cX9_file 52 = .ok (.aload_n 0, 1) := by decide +kernel
theorem dX9_file_53 : decode cX9_file 53 = .ok (.getfield 40, 3) := by decide +kernel
theorem dX9_file_56 : decode cX9_file 56 = .ok (.ifCond .eq 4, 3) := by decide +kernel
theorem dX9_file_59 : decode cX9_file 59 = .ok (.return_, 1) := by decide +kernel
theorem dX9_file_60 : decode cX9_file 60 = .ok (.aload_n 0, 1) := by decide +kernel
theorem dX9_file_61 : decode cX9_file 61 = .ok (.getfield 18, 3) := by decide +kernel
theorem dX9_file_64 : decode cX9_file 64 = .ok (.iload_n 2, 1) := by decide +kernel
theorem dX9_file_65 : decode cX9_file 65 = .ok (.invokevirtual 340, 3) := by decide +kernel
theorem dX9_file_68 : decode cX9_file 68 = .ok (.istore 4, 2) := by decide +kernel
theorem dX9_file_70 : decode cX9_file 70 = .ok (.iconst 0, 1) := by decide +kernel
theorem dX9_file_71 : decode cX9_file 71 = .ok (.istore 5, 2) := by decide +kernel
theorem dX9_file_73 : decode cX9_file 73 = .ok (.iload 5, 2) := by decide +kernel
theorem dX9_file_75 : decode cX9_file 75 = .ok (.aload_n 0, 1) := by decide +kernel
theorem dX9_file_76 : decode cX9_file 76 = .ok (.getfield 18, 3) := by decide +kernel
theorem dX9_file_79 : decode cX9_file 79 = .ok (.iload_n 2, 1) := by decide +kernel
theorem dX9_file_80 : decode cX9_file 80 = .ok (.invokevirtual 332, 3) := by decide +kernel
theorem dX9_file_83 : decode cX9_file 83 = .ok (.if_icmp .ge 26, 3) := by decide +kernel
theorem dX9_file_86 : decode cX9_file 86 = .ok (.aload_n 1, 1) := by decide +kernel
theorem dX9_file_87 : decode cX9_file 87 = .ok (.aload_n 0, 1) := by decide +kernel
theorem dX9_file_88 : decode cX9_file 88 = .ok (.getfield 18, 3) := by decide +kernel
theorem dX9_file_91 : decode cX9_file 91 = .ok (.getfield 343, 3) := by decide +kernel
theorem dX9_file_94 : decode cX9_file 94 = .ok (.iload 4, 2) := by decide +kernel
theorem dX9_file_96 : decode cX9_file 96 = .ok (.iload 5, 2) := by decide +kernel
theorem dX9_file_98 : decode cX9_file 98 = .ok (.iadd, 1) := by decide +kernel
theorem dX9_file_99 : decode cX9_file 99 = .ok (.baload, 1) := by decide +kernel
theorem dX9_file_100 : decode cX9_file 100 = .ok (.invokevirtual 269, 3) := by decide +kernel
theorem dX9_file_103 : decode cX9_file 103 = .ok (.iinc 5 1, 3) := by decide +kernel
theorem dX9_file_106 : decode cX9_file 106 = .ok (.goto (-33), 3) := by decide +kernel
theorem dX9_file_109 : decode cX9_file 109 = .ok (.return_, 1) := by decide +kernel
def rmX9_file : Room := { frames := 7, cells := 1, slots := 66047, locals := 151 }
theorem kX9_file : yX9_file.cls = "WebHost$Requests" ∧ yX9_file.cls ≠ "java/lang/invoke/MethodHandle" ∧ yX9_file.cls ≠ "java/lang/invoke/VarHandle" ∧ (parseMethodDescriptor yX9_file.desc).map (fun d => d.parameters.length) = some 3 := by decide +kernel
def w9_file_L73 (o1 : Nat) (x2 : Int32) (x4 : Int32) (Q : St → Prop) (K109 : St → Prop) : Nat → St → Int32 → Prop
  | 0, _, _ => False
  | n + 1, σ, x5 => w1_length σ x2 (fun r10 => ((r10 ≤ x5 → K109 σ) ∧ (¬ r10 ≤ x5 → (vp_in (x4 + x5) (σ 90 0 0).toNatClampNeg ∧ (by8 (σ 21 0 (x4 + x5).toNatClampNeg) → (w13_put σ o1 (σ 21 0 (x4 + x5).toNatClampNeg) (fun σ11 => (w9_file_L73 o1 x2 x4 Q K109 n σ11 (x5 + 1)))))))))
set_option maxHeartbeats 4000000 in
theorem k9_file_L73 {p : Program} {l : Launch} {e : Env} {s : State} {m : MethodId} {args : Array Value} {below : List Frame} {meth : Method} {c : Code} {G : Gh} {a1 : Nat → Nat → Nat} {τ : St} {Q : St → Prop} {K109 : St → Prop} (C : Cx p e s m args meth c cX9_file 6 none "WebHost$Requests" G) (o1 : Nat) (x2 : Int32) (x4 : Int32) (ho1 : o1 < 16) :
    ∀ (n : Nat) (σ : St) (x5 : Int32), w9_file_L73 o1 x2 x4 Q K109 n σ x5 → ∀ (H : Heap) (locs : List Loc) (ls : Array Slot), Hd G a1 (cmb σ τ) H → va_S (gA G) s.heap H locs → lv_has ls 6 [(0, .ref (ga G 9 0)), (1, .ref (ga G 13 o1)), (2, .int x2), (4, .int x4), (5, .int x5)] → (∀ (σ : St) , K109 σ → ∀ (H : Heap) (locs : List Loc) (ls : Array Slot), Hd G a1 (cmb σ τ) H → va_S (gA G) s.heap H locs → lv_has ls 6 [] → W p l e rmX9_file s m args below meth c H locs 1 66047 (MQ below (QVa G (fun u => cmb u τ) Q) args s 1 66047 (gA G)) (F0 m 109 ls [])) → W p l e rmX9_file s m args below meth c H locs 1 66047 (MQ below (QVa G (fun u => cmb u τ) Q) args s 1 66047 (gA G)) (F0 m 73 ls []) := by
  have hx := C.1
  have hb := C.2.1
  have hown := C.2.2.2.2.2.1
  have hts := C.2.2.2.2.2.2.1
  intro n
  induction n with
  | zero =>
    intro σ x5 hw
    exact False.elim hw
  | succ n ih =>
    intro σ x5 hw H locs ls hH hS hl hK109
    refine lv_iload hx hb dX9_file_73 (lv_at hl 4 rfl) ?_
    refine lv_aload_n hx hb dX9_file_75 rfl (lv_at hl 0 rfl) ?_
    refine g9_0 C hH q448 dX9_file_76 ?_
    refine lv_iload_n hx hb dX9_file_79 rfl (lv_at hl 2 rfl) ?_
    refine kc_ip (rn_vp (As := [.int x2]) (rest := [.int x5]) C hH hS (by decide) rfl (by decide) (m1_length l G a1 τ σ H x2 _ hw) (cwV 1 hts (lw_V q1540 q853 q854 q158 q855) rfl rfl rfl kX1_length ⟨Nat.le_of_ble_eq_true rfl, Nat.le_of_ble_eq_true rfl⟩) rfl hl.1 rfl (Nat.le_of_ble_eq_true rfl) dX9_file_80 ⟨Nat.le_of_ble_eq_true rfl, Nat.le_of_ble_eq_true rfl⟩) hS (fun r10 locs hw hS => ?_)
    refine lv_icmp_ge (tgt := 109) hx hb dX9_file_83 (by decide) (fun h => ?_) (fun h => ?_)
    · have hw := hw.1 h
      exact hK109 σ hw H locs ls hH hS (lv_sub hl [] rfl)
    have hw := hw.2 h
    refine lv_aload_n hx hb dX9_file_86 rfl (lv_at hl 1 rfl) ?_
    refine lv_aload_n hx hb dX9_file_87 rfl (lv_at hl 0 rfl) ?_
    refine g9_0 C hH q448 dX9_file_88 ?_
    refine g1_0 C hH q200 dX9_file_91 ?_
    refine lv_iload hx hb dX9_file_94 (lv_at hl 3 rfl) ?_
    refine lv_iload hx hb dX9_file_96 (lv_at hl 4 rfl) ?_
    refine lv_iadd hx hb dX9_file_98 ?_
    refine l21 C hH hw.1 dX9_file_99 (fun hz => ?_)
    have hw := hw.2 hz
    refine kc_v (rn_v (As := [.int (σ 21 0 (x4 + x5).toNatClampNeg)]) (rest := []) C hH hS (by decide) rfl ho1 (m13_put l G a1 τ σ o1 (σ 21 0 (x4 + x5).toNatClampNeg) ho1 _ hw) (cwV 1 hts (lw_V q1328 q1321 q1322 q170 q1323) rfl rfl rfl kX13_put ⟨Nat.le_of_ble_eq_true rfl, Nat.le_of_ble_eq_true rfl⟩) rfl hl.1 rfl (Nat.le_of_ble_eq_true rfl) dX9_file_100 ⟨Nat.le_of_ble_eq_true rfl, Nat.le_of_ble_eq_true rfl⟩) hS (fun σ11 H locs hw hH hS => ?_)
    refine lv_iinc (v := x5 + 1) (lv' := [(5, .int (x5 + 1)), (0, .ref (ga G 9 0)), (1, .ref (ga G 13 o1)), (2, .int x2), (4, .int x4)]) hx hb dX9_file_103 hl (k := 4) rfl rfl (by decide) rfl (fun ls hl => ?_)
    refine lv_goto (tgt := 73) hx hb dX9_file_106 (by decide) ?_
    exact ih σ11 (x5 + 1) hw H locs ls hH hS (lv_sub hl [1, 2, 3, 4, 0] rfl) hK109
def w9_file (σ : St) (o1 : Nat) (x2 : Int32) (x3 : Int32) (Q : St → Prop) : Prop := w9_begin σ o1 200 42 (fun σ1 => (w1_length σ1 x2 (fun r2 => (w9_length σ1 o1 r2 (fun σ3 => (w13_say σ3 o1 43 (fun σ4 => (w9_kind σ4 x2 (fun t5 => (t5 < nS ∧ (w13_line σ4 o1 t5 (fun σ6 => (w9_mark σ6 o1 x2 (fun σ7 => (w9_finish σ7 o1 x3 (fun σ8 => (bo (σ8 9 0 5) → (((σ8 9 0 5) = 0 → (w1_place σ8 x2 (fun r9 => (∃ z12, w9_file_L73 o1 x2 r9 Q (fun σ13 => Q σ13) z12 σ8 0)))) ∧ (¬ (σ8 9 0 5) = 0 → Q σ8)))))))))))))))))))
set_option maxHeartbeats 4000000 in
theorem m9_file (l : Launch) (G : Gh) (a1 : Nat → Nat → Nat) (τ : St) (σ : St) (o1 : Nat) (x2 : Int32) (x3 : Int32) (ho1 : o1 < 16) (Q : St → Prop) (hw : w9_file σ o1 x2 x3 Q) : Met l yX9_file (ws_ yX9_file cX9_file 6 none) rmX9_file (PcS G a1 (cmb σ τ) [.ref (ga G 9 0), .ref (ga G 13 o1), .int x2, .int x3]) (QVa G (fun u => cmb u τ) Q) 1 66047 (gA G) := by
  refine met_w (by decide) (Nat.le_of_ble_eq_true rfl) ?_
  intro p e s m below meth c ls C hH hS hl
  have C : Cx p e s m _ meth c cX9_file 6 none "WebHost$Requests" G := C
  have hl : lv_has ls 6 [(0, .ref (ga G 9 0)), (1, .ref (ga G 13 o1)), (2, .int x2), (3, .int x3)] := hl
  have hx := C.1
  have hb := C.2.1
  have hown := C.2.2.2.2.2.1
  have hts := C.2.2.2.2.2.2.1
  obtain ⟨locs, hlocs⟩ : ∃ z : List Loc, z = [] := ⟨_, rfl⟩
  obtain ⟨H, hHe⟩ : ∃ z : Heap, z = s.heap := ⟨_, rfl⟩
  have hH : Hd G a1 (cmb σ τ) H := by rw [hHe]; exact hH
  have hS : va_S (gA G) s.heap H locs := by rw [hHe, hlocs]; exact hS
  refine W.heap0 hHe.symm hlocs.symm ?_
  refine lv_aload_n hx hb dX9_file_0 rfl (lv_at hl 0 rfl) ?_
  refine lv_aload_n hx hb dX9_file_1 rfl (lv_at hl 1 rfl) ?_
  refine lv_sipush (v := 200) hx hb dX9_file_2 (by decide) ?_
  refine str_ldcw (n := 42) C st42 dX9_file_5 ?_
  refine kc_va (rn_v (As := [.ref (ga G 13 o1), .int 200, .ref (gs G 42)]) (rest := []) C hH hS (by decide) rfl (by decide) (m9_begin l G a1 τ σ o1 200 42 ho1 (by decide) _ hw) (cwV 3 hts (lw_V q1258 q1260 qs49 q166 q1261) rfl rfl rfl kX9_begin ⟨Nat.le_of_ble_eq_true rfl, Nat.le_of_ble_eq_true rfl⟩) rfl hl.1 rfl (Nat.le_of_ble_eq_true rfl) dX9_file_8 ⟨Nat.le_of_ble_eq_true rfl, Nat.le_of_ble_eq_true rfl⟩) hS (fun σ1 a1 H locs hw hH hS => ?_)
  refine W.cs (cells' := 1) (slots' := 66047) rfl rfl ?_
  refine lv_aload_n hx hb dX9_file_11 rfl (lv_at hl 0 rfl) ?_
  refine lv_aload_n hx hb dX9_file_12 rfl (lv_at hl 1 rfl) ?_
  refine lv_aload_n hx hb dX9_file_13 rfl (lv_at hl 0 rfl) ?_
  refine g9_0 C hH q448 dX9_file_14 ?_
  refine lv_iload_n hx hb dX9_file_17 rfl (lv_at hl 2 rfl) ?_
  refine kc_ip (rn_vp (As := [.int x2]) (rest := [.ref (ga G 13 o1), .ref (ga G 9 0)]) C hH hS (by decide) rfl (by decide) (m1_length l G a1 τ σ1 H x2 _ hw) (cwV 1 hts (lw_V q1540 q853 q854 q158 q855) rfl rfl rfl kX1_length ⟨Nat.le_of_ble_eq_true rfl, Nat.le_of_ble_eq_true rfl⟩) rfl hl.1 rfl (Nat.le_of_ble_eq_true rfl) dX9_file_18 ⟨Nat.le_of_ble_eq_true rfl, Nat.le_of_ble_eq_true rfl⟩) hS (fun r2 locs hw hS => ?_)
  refine kc_v (rn_v (As := [.ref (ga G 13 o1), .int r2]) (rest := []) C hH hS (by decide) rfl (by decide) (m9_length l G a1 τ σ1 o1 r2 ho1 _ hw) (cwV 2 hts (lw_V q1335 q1337 qs50 q166 q1338) rfl rfl rfl kX9_length ⟨Nat.le_of_ble_eq_true rfl, Nat.le_of_ble_eq_true rfl⟩) rfl hl.1 rfl (Nat.le_of_ble_eq_true rfl) dX9_file_21 ⟨Nat.le_of_ble_eq_true rfl, Nat.le_of_ble_eq_true rfl⟩) hS (fun σ3 H locs hw hH hS => ?_)
  refine lv_aload_n hx hb dX9_file_24 rfl (lv_at hl 1 rfl) ?_
  refine str_ldcw (n := 43) C st43 dX9_file_25 ?_
  refine kc_v (rn_v (As := [.ref (gs G 43)]) (rest := []) C hH hS (by decide) rfl ho1 (m13_say l G a1 τ σ3 o1 43 ho1 (by decide) _ hw) (cwV 1 hts (lw_V q1268 q1269 q1270 q170 q1271) rfl rfl rfl kX13_say ⟨Nat.le_of_ble_eq_true rfl, Nat.le_of_ble_eq_true rfl⟩) rfl hl.1 rfl (Nat.le_of_ble_eq_true rfl) dX9_file_28 ⟨Nat.le_of_ble_eq_true rfl, Nat.le_of_ble_eq_true rfl⟩) hS (fun σ4 H locs hw hH hS => ?_)
  refine lv_aload_n hx hb dX9_file_31 rfl (lv_at hl 1 rfl) ?_
  refine lv_aload_n hx hb dX9_file_32 rfl (lv_at hl 0 rfl) ?_
  refine lv_iload_n hx hb dX9_file_33 rfl (lv_at hl 2 rfl) ?_
  refine kc_tp (rn_vp (As := [.int x2]) (rest := [.ref (ga G 13 o1)]) C hH hS (by decide) rfl (by decide) (m9_kind l G a1 τ σ4 H x2 _ hw) (cwV 1 hts (lw_V q1542 q1544 qs71 q166 q1545) rfl rfl rfl kX9_kind ⟨Nat.le_of_ble_eq_true rfl, Nat.le_of_ble_eq_true rfl⟩) rfl hl.1 rfl (Nat.le_of_ble_eq_true rfl) dX9_file_34 ⟨Nat.le_of_ble_eq_true rfl, Nat.le_of_ble_eq_true rfl⟩) hS (fun t5 locs hw hS => ?_)
  obtain ⟨ht5, hw⟩ := hw
  refine kc_v (rn_v (As := [.ref (gs G t5)]) (rest := []) C hH hS (by decide) rfl ho1 (m13_line l G a1 τ σ4 o1 t5 ho1 ht5 _ hw) (cwV 1 hts (lw_V q1329 q1330 q1331 q170 q1332) rfl rfl rfl kX13_line ⟨Nat.le_of_ble_eq_true rfl, Nat.le_of_ble_eq_true rfl⟩) rfl hl.1 rfl (Nat.le_of_ble_eq_true rfl) dX9_file_37 ⟨Nat.le_of_ble_eq_true rfl, Nat.le_of_ble_eq_true rfl⟩) hS (fun σ6 H locs hw hH hS => ?_)
  refine lv_aload_n hx hb dX9_file_40 rfl (lv_at hl 0 rfl) ?_
  refine lv_aload_n hx hb dX9_file_41 rfl (lv_at hl 1 rfl) ?_
  refine lv_iload_n hx hb dX9_file_42 rfl (lv_at hl 2 rfl) ?_
  refine kc_v (rn_v (As := [.ref (ga G 13 o1), .int x2]) (rest := []) C hH hS (by decide) rfl (by decide) (m9_mark l G a1 τ σ6 o1 x2 ho1 _ hw) (cwV 2 hts (lw_V q1525 q1527 qs69 q166 q1528) rfl rfl rfl kX9_mark ⟨Nat.le_of_ble_eq_true rfl, Nat.le_of_ble_eq_true rfl⟩) rfl hl.1 rfl (Nat.le_of_ble_eq_true rfl) dX9_file_43 ⟨Nat.le_of_ble_eq_true rfl, Nat.le_of_ble_eq_true rfl⟩) hS (fun σ7 H locs hw hH hS => ?_)
  refine lv_aload_n hx hb dX9_file_46 rfl (lv_at hl 0 rfl) ?_
  refine lv_aload_n hx hb dX9_file_47 rfl (lv_at hl 1 rfl) ?_
  refine lv_iload_n hx hb dX9_file_48 rfl (lv_at hl 3 rfl) ?_
  refine kc_v (rn_v (As := [.ref (ga G 13 o1), .int x3]) (rest := []) C hH hS (by decide) rfl (by decide) (m9_finish l G a1 τ σ7 o1 x3 ho1 _ hw) (cwV 2 hts (lw_V q1343 q1345 qs51 q166 q1346) rfl rfl rfl kX9_finish ⟨Nat.le_of_ble_eq_true rfl, Nat.le_of_ble_eq_true rfl⟩) rfl hl.1 rfl (Nat.le_of_ble_eq_true rfl) dX9_file_49 ⟨Nat.le_of_ble_eq_true rfl, Nat.le_of_ble_eq_true rfl⟩) hS (fun σ8 H locs hw hH hS => ?_)
  refine lv_aload_n hx hb dX9_file_52 rfl (lv_at hl 0 rfl) ?_
  refine g9_5 C hH q453 dX9_file_53 (fun hz => ?_)
  have hw := hw hz
  refine lv_if_eq (tgt := 60) hx hb dX9_file_56 (by decide) (fun h => ?_) (fun h => ?_)
  · have hw := hw.1 h
    refine lv_aload_n hx hb dX9_file_60 rfl (lv_at hl 0 rfl) ?_
    refine g9_0 C hH q448 dX9_file_61 ?_
    refine lv_iload_n hx hb dX9_file_64 rfl (lv_at hl 2 rfl) ?_
    refine kc_ip (rn_vp (As := [.int x2]) (rest := []) C hH hS (by decide) rfl (by decide) (m1_place l G a1 τ σ8 H x2 _ hw) (cwV 1 hts (lw_V q1563 q849 q850 q158 q851) rfl rfl rfl kX1_place ⟨Nat.le_of_ble_eq_true rfl, Nat.le_of_ble_eq_true rfl⟩) rfl hl.1 rfl (Nat.le_of_ble_eq_true rfl) dX9_file_65 ⟨Nat.le_of_ble_eq_true rfl, Nat.le_of_ble_eq_true rfl⟩) hS (fun r9 locs hw hS => ?_)
    refine lv_istore (lv' := [(4, .int r9), (0, .ref (ga G 9 0)), (1, .ref (ga G 13 o1)), (2, .int x2), (3, .int x3)]) hx hb dX9_file_68 hl (by decide) rfl (fun ls hl => ?_)
    refine lv_iconst (v := 0) hx hb dX9_file_70 (by decide) ?_
    refine lv_istore (lv' := [(5, .int 0), (4, .int r9), (0, .ref (ga G 9 0)), (1, .ref (ga G 13 o1)), (2, .int x2), (3, .int x3)]) hx hb dX9_file_71 hl (by decide) rfl (fun ls hl => ?_)
    obtain ⟨n12, hw⟩ := hw
    refine k9_file_L73 C o1 x2 r9 ho1 n12 σ8 0 hw H locs ls hH hS (lv_sub hl [2, 3, 4, 1, 0] rfl) (fun σ13 hw H locs ls hH hS hl => ?_)
    exact rt_va C hH hS hw dX9_file_109
  have hw := hw.2 h
  exact rt_va C hH hS hw dX9_file_59
/-! WebHost$Requests.isField(II)Z -/
abbrev cX9_isField : ByteArray := prog_11_method_13_code
def yX9_isField : MethodName := ⟨RX9, "isField", "(II)Z"⟩
theorem dX9_isField_0 : decode cX9_isField 0 = .ok (.iload_n 1, 1) := by decide +kernel
theorem dX9_isField_1 : decode cX9_isField 1 = .ok (.istore_n 3, 1) := by decide +kernel
theorem dX9_isField_2 : decode cX9_isField 2 = .ok (.iload_n 3, 1) := by decide +kernel
theorem dX9_isField_3 : decode cX9_isField 3 = .ok (.iload_n 2, 1) := by decide +kernel
theorem dX9_isField_4 : decode cX9_isField 4 = .ok (.if_icmp .ge 21, 3) := by decide +kernel
theorem dX9_isField_7 : decode cX9_isField 7 = .ok (.aload_n 0, 1) := by decide +kernel
theorem dX9_isField_8 : decode cX9_isField 8 = .ok (.getfield 9, 3) := by decide +kernel
theorem dX9_isField_11 : decode cX9_isField 11 = .ok (.iload_n 3, 1) := by decide +kernel
theorem dX9_isField_12 : decode cX9_isField 12 = .ok (.baload, 1) := by decide +kernel
theorem dX9_isField_13 : decode cX9_isField 13 = .ok (.invokestatic 100, 3) := by decide +kernel
theorem dX9_isField_16 : decode cX9_isField 16 = .ok (.ifCond .eq 9, 3) := by decide +kernel
theorem dX9_isField_19 : decode cX9_isField 19 = .ok (.iinc 3 1, 3) := by decide +kernel
theorem dX9_isField_22 : decode cX9_isField 22 = .ok (.goto (-20), 3) := by decide +kernel
theorem dX9_isField_25 : decode cX9_isField 25 = .ok (.iload_n 3, 1) := by decide +kernel
theorem dX9_isField_26 : decode cX9_isField 26 = .ok (.iload_n 1, 1) := by decide +kernel
theorem dX9_isField_27 : decode cX9_isField 27 = .ok (.if_icmp .eq 19, 3) := by decide +kernel
theorem dX9_isField_30 : decode cX9_isField 30 = .ok (.iload_n 3, 1) := by decide +kernel
theorem dX9_isField_31 : decode cX9_isField 31 = .ok (.iload_n 2, 1) := by decide +kernel
theorem dX9_isField_32 : decode cX9_isField 32 = .ok (.if_icmp .eq 14, 3) := by decide +kernel
theorem dX9_isField_35 : decode cX9_isField 35 = .ok (.aload_n 0, 1) := by decide +kernel
theorem dX9_isField_36 : decode cX9_isField 36 = .ok (.getfield 9, 3) := by decide +kernel
theorem dX9_isField_39 : decode cX9_isField 39 = .ok (.iload_n 3, 1) := by decide +kernel
theorem dX9_isField_40 : decode cX9_isField 40 = .ok (.baload, 1) := by decide +kernel
theorem dX9_isField_41 : decode cX9_isField 41 = .ok (.bipush 58, 2) := by decide +kernel
theorem dX9_isField_43 : decode cX9_isField 43 = .ok (.if_icmp .eq 5, 3) := by decide +kernel
theorem dX9_isField_46 : decode cX9_isField 46 = .ok (.iconst 0, 1) := by decide +kernel
theorem dX9_isField_47 : decode cX9_isField 47 = .ok (.ireturn, 1) := by decide +kernel
theorem dX9_isField_48 : decode cX9_isField 48 = .ok (.iload_n 3, 1) := by decide +kernel
theorem dX9_isField_49 : decode cX9_isField 49 = .ok (.iconst 1, 1) := by decide +kernel
theorem dX9_isField_50 : decode cX9_isField 50 = .ok (.iadd, 1) := by decide +kernel
theorem dX9_isField_51 : decode cX9_isField 51 = .ok (.istore 4, 2) := by decide +kernel
theorem dX9_isField_53 : decode cX9_isField 53 = .ok (.iload_n 2, 1) := by decide +kernel
theorem dX9_isField_54 : decode cX9_isField 54 = .ok (.istore 5, 2) := by decide +kernel
theorem dX9_isField_56 : decode cX9_isField 56 = .ok (.iload 4, 2) := by decide +kernel
theorem dX9_isField_58 : decode cX9_isField 58 = .ok (.iload 5, 2) := by decide +kernel
theorem dX9_isField_60 : decode cX9_isField 60 = .ok (.if_icmp .ge 22, 3) := by decide +kernel
theorem dX9_isField_63 : decode cX9_isField 63 = .ok (.aload_n 0, 1) := by decide +kernel
theorem dX9_isField_64 : decode cX9_isField 64 = .ok (.getfield 9, 3) := by decide +kernel
theorem dX9_isField_67 : decode cX9_isField 67 = .ok (.iload 4, 2) := by decide +kernel
theorem dX9_isField_69 : decode cX9_isField 69 = .ok (.baload, 1) := by decide +kernel
theorem dX9_isField_70 : decode cX9_isField 70 = .ok (.invokestatic 104, 3) := by decide +kernel
theorem dX9_isField_73 : decode cX9_isField 73 = .ok (.ifCond .eq 9, 3) := by decide +kernel
theorem dX9_isField_76 : decode cX9_isField 76 = .ok (.iinc 4 1, 3) := by decide +kernel
theorem dX9_isField_79 : decode cX9_isField 79 = .ok (.goto (-23), 3) := by decide +kernel
theorem dX9_isField_82 : decode cX9_isField 82 = .ok (.iload 5, 2) := by decide +kernel
theorem dX9_isField_84 : decode cX9_isField 84 = .ok (.iload 4, 2) := by decide +kernel
theorem dX9_isField_86 : decode cX9_isField 86 = .ok (.if_icmp .le 24, 3) := by decide +kernel
theorem dX9_isField_89 : decode cX9_isField 89 = .ok (.aload_n 0, 1) := by decide +kernel
theorem dX9_isField_90 : decode cX9_isField 90 = .ok (.getfield 9, 3) := by decide +kernel
theorem dX9_isField_93 : decode cX9_isField 93 = .ok (.iload 5, 2) := by decide +kernel
theorem dX9_isField_95 : decode cX9_isField 95 = .ok (.iconst 1, 1) := by decide +kernel
theorem dX9_isField_96 : decode cX9_isField 96 = .ok (.isub, 1) := by decide +kernel
theorem dX9_isField_97 : decode cX9_isField 97 = .ok (.baload, 1) := by decide +kernel
theorem dX9_isField_98 : decode cX9_isField 98 = .ok (.invokestatic 104, 3) := by decide +kernel
theorem dX9_isField_101 : decode cX9_isField 101 = .ok (.ifCond .eq 9, 3) := by decide +kernel
theorem dX9_isField_104 : decode cX9_isField 104 = .ok (.iinc 5 (-1), 3) := by decide +kernel
theorem dX9_isField_107 : decode cX9_isField 107 = .ok (.goto (-25), 3) := by decide +kernel
theorem dX9_isField_110 : decode cX9_isField 110 = .ok (.iload_n 3, 1) := by decide +kernel
theorem dX9_isField_111 : decode cX9_isField 111 = .ok (.iconst 1, 1) := by decide +kernel
theorem dX9_isField_112 : decode cX9_isField 112 = .ok (.iadd, 1) := by decide +kernel
theorem dX9_isField_113 : decode cX9_isField 113 = .ok (.istore 6, 2) := by decide +kernel
theorem dX9_isField_115 : decode cX9_isField 115 = .ok (.iload 6, 2) := by decide +kernel
theorem dX9_isField_117 : decode cX9_isField 117 = .ok (.iload_n 2, 1) := by decide +kernel
theorem dX9_isField_118 : decode cX9_isField 118 = .ok (.if_icmp .ge 54, 3) := by decide +kernel
theorem dX9_isField_121 : decode cX9_isField 121 = .ok (.aload_n 0, 1) := by decide +kernel
theorem dX9_isField_122 : decode cX9_isField 122 = .ok (.getfield 9, 3) := by decide +kernel
theorem dX9_isField_125 : decode cX9_isField 125 = .ok (.iload 6, 2) := by decide +kernel
theorem dX9_isField_127 : decode cX9_isField 127 = .ok (.baload, 1) := by decide +kernel
theorem dX9_isField_128 : decode cX9_isField 128 = .ok (.bipush 9, 2) := by decide +kernel
theorem dX9_isField_130 : decode cX9_isField 130 = .ok (.if_icmp .eq 36, 3) := by decide +kernel
theorem dX9_isField_133 : decode cX9_isField 133 = .ok (.aload_n 0, 1) := by decide +kernel
theorem dX9_isField_134 : decode cX9_isField 134 = .ok (.getfield 9, 3) := by decide +kernel
theorem dX9_isField_137 : decode cX9_isField 137 = .ok (.iload 6, 2) := by decide +kernel
theorem dX9_isField_139 : decode cX9_isField 139 = .ok (.baload, 1) := by decide +kernel
theorem dX9_isField_140 : decode cX9_isField 140 = .ok (.sipush 255, 3) := by decide +kernel
theorem dX9_isField_143 : decode cX9_isField 143 = .ok (.iand, 1) := by decide +kernel
theorem dX9_isField_144 : decode cX9_isField 144 = .ok (.bipush 32, 2) := by decide +kernel
theorem dX9_isField_146 : decode cX9_isField 146 = .ok (.bipush 126, 2) := by decide +kernel
theorem dX9_isField_148 : decode cX9_isField 148 = .ok (.invokestatic 60, 3) := by decide +kernel
theorem dX9_isField_151 : decode cX9_isField 151 = .ok (.ifCond .ne 15, 3) := by decide +kernel
theorem dX9_isField_154 : decode cX9_isField 154 = .ok (.aload_n 0, 1) := by decide +kernel
theorem dX9_isField_155 : decode cX9_isField 155 = .ok (.getfield 9, 3) := by decide +kernel
theorem dX9_isField_158 : decode cX9_isField 158 = .ok (.iload 6, 2) := by decide +kernel
theorem dX9_isField_160 : decode cX9_isField 160 = .ok (.baload, 1) := by decide +kernel
theorem dX9_isField_161 : decode cX9_isField 161 = .ok (.ifCond .lt 5, 3) := by decide +kernel
theorem dX9_isField_164 : decode cX9_isField 164 = .ok (.iconst 0, 1) := by decide +kernel
theorem dX9_isField_165 : decode cX9_isField 165 = .ok (.ireturn, 1) := by decide +kernel
theorem dX9_isField_166 : decode cX9_isField 166 = .ok (.iinc 6 1, 3) := by decide +kernel
theorem dX9_isField_169 : decode cX9_isField 169 = .ok (.goto (-54), 3) := by decide +kernel
theorem dX9_isField_172 : decode cX9_isField 172 = .ok (.aload_n 0, 1) := by decide +kernel
theorem dX9_isField_173 : decode cX9_isField 173 = .ok (.iload_n 1, 1) := by decide +kernel
theorem dX9_isField_174 : decode cX9_isField 174 = .ok (.iload_n 3, 1) := by decide +kernel
theorem dX9_isField_175 : decode cX9_isField 175 = .ok (.iload 4, 2) := by decide +kernel
theorem dX9_isField_177 : decode cX9_isField 177 = .ok (.iload 5, 2) := by decide +kernel
theorem dX9_isField_179 : decode cX9_isField 179 = .ok (.invokevirtual 107, 3) := by decide +kernel
theorem dX9_isField_182 : decode cX9_isField 182 = .ok (.iconst 1, 1) := by decide +kernel
theorem dX9_isField_183 : decode cX9_isField 183 = .ok (.ireturn, 1) := by decide +kernel
def rmX9_isField : Room := { frames := 7, cells := 0, slots := 0, locals := 157 }
theorem kX9_isField : yX9_isField.cls = "WebHost$Requests" ∧ yX9_isField.cls ≠ "java/lang/invoke/MethodHandle" ∧ yX9_isField.cls ≠ "java/lang/invoke/VarHandle" ∧ (parseMethodDescriptor yX9_isField.desc).map (fun d => d.parameters.length) = some 2 := by decide +kernel
def w9_isField_L2 (σ : St) (x1 : Int32) (x2 : Int32) (Q : Int32 → St → Prop) (K25 : Int32 → Prop) : Nat → Int32 → Prop
  | 0, _ => False
  | n + 1, x3 => (x2 ≤ x3 → K25 x3) ∧ (¬ x2 ≤ x3 → (vp_in x3 4096 ∧ (by8 (σ 40 0 x3.toNatClampNeg) → (w9_isNameCode σ (σ 40 0 x3.toNatClampNeg) (fun r1 => ((r1 = 0 → K25 x3) ∧ (¬ r1 = 0 → (w9_isField_L2 σ x1 x2 Q K25 n (x3 + 1)))))))))
set_option maxHeartbeats 4000000 in
theorem k9_isField_L2 {p : Program} {l : Launch} {e : Env} {s : State} {m : MethodId} {args : Array Value} {below : List Frame} {meth : Method} {c : Code} {G : Gh} {a1 : Nat → Nat → Nat} {τ : St} {Q : Int32 → St → Prop} {K25 : Int32 → Prop} (C : Cx p e s m args meth c cX9_isField 7 (some .boolean) "WebHost$Requests" G) (σ : St) (x1 : Int32) (x2 : Int32) :
    ∀ (n : Nat) (x3 : Int32), w9_isField_L2 σ x1 x2 Q K25 n x3 → ∀ (H : Heap) (locs : List Loc) (ls : Array Slot), Hd G a1 (cmb σ τ) H → va_S (gA G) s.heap H locs → lv_has ls 7 [(0, .ref (ga G 9 0)), (1, .int x1), (2, .int x2), (3, .int x3)] → (∀ (x3 : Int32), K25 x3 → ∀ (H : Heap) (locs : List Loc) (ls : Array Slot), Hd G a1 (cmb σ τ) H → va_S (gA G) s.heap H locs → lv_has ls 7 [(0, .ref (ga G 9 0)), (1, .int x1), (2, .int x2), (3, .int x3)] → W p l e rmX9_isField s m args below meth c H locs 0 0 (MQ below (QIs G a1 (fun u => cmb u τ) Q) args s 0 0 (gA G)) (F0 m 25 ls [])) → W p l e rmX9_isField s m args below meth c H locs 0 0 (MQ below (QIs G a1 (fun u => cmb u τ) Q) args s 0 0 (gA G)) (F0 m 2 ls []) := by
  have hx := C.1
  have hb := C.2.1
  have hown := C.2.2.2.2.2.1
  have hts := C.2.2.2.2.2.2.1
  intro n
  induction n with
  | zero =>
    intro x3 hw
    exact False.elim hw
  | succ n ih =>
    intro x3 hw H locs ls hH hS hl hK25
    refine lv_iload_n hx hb dX9_isField_2 rfl (lv_at hl 3 rfl) ?_
    refine lv_iload_n hx hb dX9_isField_3 rfl (lv_at hl 2 rfl) ?_
    refine lv_icmp_ge (tgt := 25) hx hb dX9_isField_4 (by decide) (fun h => ?_) (fun h => ?_)
    · have hw := hw.1 h
      exact hK25 x3 hw H locs ls hH hS (lv_sub hl [0, 1, 2, 3] rfl)
    have hw := hw.2 h
    refine lv_aload_n hx hb dX9_isField_7 rfl (lv_at hl 0 rfl) ?_
    refine g9_1 C hH q449 dX9_isField_8 ?_
    refine lv_iload_n hx hb dX9_isField_11 rfl (lv_at hl 3 rfl) ?_
    refine l40 C hH hw.1 dX9_isField_12 (fun hz => ?_)
    have hw := hw.2 hz
    refine kc_ip (rn_sp (As := [.int (σ 40 0 x3.toNatClampNeg)]) (rest := []) C hH hS (m9_isNameCode l G a1 τ σ H (σ 40 0 x3.toNatClampNeg) _ hw) (va_cwS 1 hts (lw_S q1389 q1390 q166 q1391) rfl rfl rfl kX9_isNameCode.2 ⟨Nat.le_of_ble_eq_true rfl, Nat.le_of_ble_eq_true rfl⟩) rfl hl.1 rfl (Nat.le_of_ble_eq_true rfl) dX9_isField_13 ⟨Nat.le_of_ble_eq_true rfl, Nat.le_of_ble_eq_true rfl⟩) hS (fun r1 locs hw hS => ?_)
    refine lv_if_eq (tgt := 25) hx hb dX9_isField_16 (by decide) (fun h => ?_) (fun h => ?_)
    · have hw := hw.1 h
      exact hK25 x3 hw H locs ls hH hS (lv_sub hl [0, 1, 2, 3] rfl)
    have hw := hw.2 h
    refine lv_iinc (v := x3 + 1) (lv' := [(3, .int (x3 + 1)), (0, .ref (ga G 9 0)), (1, .int x1), (2, .int x2)]) hx hb dX9_isField_19 hl (k := 3) rfl rfl (by decide) rfl (fun ls hl => ?_)
    refine lv_goto (tgt := 2) hx hb dX9_isField_22 (by decide) ?_
    exact ih (x3 + 1) hw H locs ls hH hS (lv_sub hl [1, 2, 3, 0] rfl) hK25
def w9_isField_L56 (σ : St) (x1 : Int32) (x2 : Int32) (x3 : Int32) (x5 : Int32) (Q : Int32 → St → Prop) (K82 : Int32 → Prop) : Nat → Int32 → Prop
  | 0, _ => False
  | n + 1, x4 => (x5 ≤ x4 → K82 x4) ∧ (¬ x5 ≤ x4 → (vp_in x4 4096 ∧ (by8 (σ 40 0 x4.toNatClampNeg) → (w9_isBlank σ (σ 40 0 x4.toNatClampNeg) (fun r4 => ((r4 = 0 → K82 x4) ∧ (¬ r4 = 0 → (w9_isField_L56 σ x1 x2 x3 x5 Q K82 n (x4 + 1)))))))))
set_option maxHeartbeats 4000000 in
theorem k9_isField_L56 {p : Program} {l : Launch} {e : Env} {s : State} {m : MethodId} {args : Array Value} {below : List Frame} {meth : Method} {c : Code} {G : Gh} {a1 : Nat → Nat → Nat} {τ : St} {Q : Int32 → St → Prop} {K82 : Int32 → Prop} (C : Cx p e s m args meth c cX9_isField 7 (some .boolean) "WebHost$Requests" G) (σ : St) (x1 : Int32) (x2 : Int32) (x3 : Int32) (x5 : Int32) :
    ∀ (n : Nat) (x4 : Int32), w9_isField_L56 σ x1 x2 x3 x5 Q K82 n x4 → ∀ (H : Heap) (locs : List Loc) (ls : Array Slot), Hd G a1 (cmb σ τ) H → va_S (gA G) s.heap H locs → lv_has ls 7 [(0, .ref (ga G 9 0)), (1, .int x1), (2, .int x2), (3, .int x3), (4, .int x4), (5, .int x5)] → (∀ (x4 : Int32), K82 x4 → ∀ (H : Heap) (locs : List Loc) (ls : Array Slot), Hd G a1 (cmb σ τ) H → va_S (gA G) s.heap H locs → lv_has ls 7 [(0, .ref (ga G 9 0)), (1, .int x1), (2, .int x2), (3, .int x3), (4, .int x4), (5, .int x5)] → W p l e rmX9_isField s m args below meth c H locs 0 0 (MQ below (QIs G a1 (fun u => cmb u τ) Q) args s 0 0 (gA G)) (F0 m 82 ls [])) → W p l e rmX9_isField s m args below meth c H locs 0 0 (MQ below (QIs G a1 (fun u => cmb u τ) Q) args s 0 0 (gA G)) (F0 m 56 ls []) := by
  have hx := C.1
  have hb := C.2.1
  have hown := C.2.2.2.2.2.1
  have hts := C.2.2.2.2.2.2.1
  intro n
  induction n with
  | zero =>
    intro x4 hw
    exact False.elim hw
  | succ n ih =>
    intro x4 hw H locs ls hH hS hl hK82
    refine lv_iload hx hb dX9_isField_56 (lv_at hl 4 rfl) ?_
    refine lv_iload hx hb dX9_isField_58 (lv_at hl 5 rfl) ?_
    refine lv_icmp_ge (tgt := 82) hx hb dX9_isField_60 (by decide) (fun h => ?_) (fun h => ?_)
    · have hw := hw.1 h
      exact hK82 x4 hw H locs ls hH hS (lv_sub hl [0, 1, 2, 3, 4, 5] rfl)
    have hw := hw.2 h
    refine lv_aload_n hx hb dX9_isField_63 rfl (lv_at hl 0 rfl) ?_
    refine g9_1 C hH q449 dX9_isField_64 ?_
    refine lv_iload hx hb dX9_isField_67 (lv_at hl 4 rfl) ?_
    refine l40 C hH hw.1 dX9_isField_69 (fun hz => ?_)
    have hw := hw.2 hz
    refine kc_ip (rn_sp (As := [.int (σ 40 0 x4.toNatClampNeg)]) (rest := []) C hH hS (m9_isBlank l G a1 τ σ H (σ 40 0 x4.toNatClampNeg) _ hw) (va_cwS 1 hts (lw_S q1448 q1449 q166 q1450) rfl rfl rfl kX9_isBlank.2 ⟨Nat.le_of_ble_eq_true rfl, Nat.le_of_ble_eq_true rfl⟩) rfl hl.1 rfl (Nat.le_of_ble_eq_true rfl) dX9_isField_70 ⟨Nat.le_of_ble_eq_true rfl, Nat.le_of_ble_eq_true rfl⟩) hS (fun r4 locs hw hS => ?_)
    refine lv_if_eq (tgt := 82) hx hb dX9_isField_73 (by decide) (fun h => ?_) (fun h => ?_)
    · have hw := hw.1 h
      exact hK82 x4 hw H locs ls hH hS (lv_sub hl [0, 1, 2, 3, 4, 5] rfl)
    have hw := hw.2 h
    refine lv_iinc (v := x4 + 1) (lv' := [(4, .int (x4 + 1)), (0, .ref (ga G 9 0)), (1, .int x1), (2, .int x2), (3, .int x3), (5, .int x5)]) hx hb dX9_isField_76 hl (k := 4) rfl rfl (by decide) rfl (fun ls hl => ?_)
    refine lv_goto (tgt := 56) hx hb dX9_isField_79 (by decide) ?_
    exact ih (x4 + 1) hw H locs ls hH hS (lv_sub hl [1, 2, 3, 4, 0, 5] rfl) hK82
def w9_isField_L82 (σ : St) (x1 : Int32) (x2 : Int32) (x3 : Int32) (x4 : Int32) (Q : Int32 → St → Prop) (K110 : Int32 → Prop) : Nat → Int32 → Prop
  | 0, _ => False
  | n + 1, x5 => (x5 ≤ x4 → K110 x5) ∧ (¬ x5 ≤ x4 → (vp_in (x5 - 1) 4096 ∧ (by8 (σ 40 0 (x5 - 1).toNatClampNeg) → (w9_isBlank σ (σ 40 0 (x5 - 1).toNatClampNeg) (fun r7 => ((r7 = 0 → K110 x5) ∧ (¬ r7 = 0 → (w9_isField_L82 σ x1 x2 x3 x4 Q K110 n (x5 + (-1))))))))))
set_option maxHeartbeats 4000000 in
theorem k9_isField_L82 {p : Program} {l : Launch} {e : Env} {s : State} {m : MethodId} {args : Array Value} {below : List Frame} {meth : Method} {c : Code} {G : Gh} {a1 : Nat → Nat → Nat} {τ : St} {Q : Int32 → St → Prop} {K110 : Int32 → Prop} (C : Cx p e s m args meth c cX9_isField 7 (some .boolean) "WebHost$Requests" G) (σ : St) (x1 : Int32) (x2 : Int32) (x3 : Int32) (x4 : Int32) :
    ∀ (n : Nat) (x5 : Int32), w9_isField_L82 σ x1 x2 x3 x4 Q K110 n x5 → ∀ (H : Heap) (locs : List Loc) (ls : Array Slot), Hd G a1 (cmb σ τ) H → va_S (gA G) s.heap H locs → lv_has ls 7 [(0, .ref (ga G 9 0)), (1, .int x1), (2, .int x2), (3, .int x3), (4, .int x4), (5, .int x5)] → (∀ (x5 : Int32), K110 x5 → ∀ (H : Heap) (locs : List Loc) (ls : Array Slot), Hd G a1 (cmb σ τ) H → va_S (gA G) s.heap H locs → lv_has ls 7 [(0, .ref (ga G 9 0)), (1, .int x1), (2, .int x2), (3, .int x3), (4, .int x4), (5, .int x5)] → W p l e rmX9_isField s m args below meth c H locs 0 0 (MQ below (QIs G a1 (fun u => cmb u τ) Q) args s 0 0 (gA G)) (F0 m 110 ls [])) → W p l e rmX9_isField s m args below meth c H locs 0 0 (MQ below (QIs G a1 (fun u => cmb u τ) Q) args s 0 0 (gA G)) (F0 m 82 ls []) := by
  have hx := C.1
  have hb := C.2.1
  have hown := C.2.2.2.2.2.1
  have hts := C.2.2.2.2.2.2.1
  intro n
  induction n with
  | zero =>
    intro x5 hw
    exact False.elim hw
  | succ n ih =>
    intro x5 hw H locs ls hH hS hl hK110
    refine lv_iload hx hb dX9_isField_82 (lv_at hl 5 rfl) ?_
    refine lv_iload hx hb dX9_isField_84 (lv_at hl 4 rfl) ?_
    refine lv_icmp_le (tgt := 110) hx hb dX9_isField_86 (by decide) (fun h => ?_) (fun h => ?_)
    · have hw := hw.1 h
      exact hK110 x5 hw H locs ls hH hS (lv_sub hl [0, 1, 2, 3, 4, 5] rfl)
    have hw := hw.2 h
    refine lv_aload_n hx hb dX9_isField_89 rfl (lv_at hl 0 rfl) ?_
    refine g9_1 C hH q449 dX9_isField_90 ?_
    refine lv_iload hx hb dX9_isField_93 (lv_at hl 5 rfl) ?_
    refine lv_iconst (v := 1) hx hb dX9_isField_95 (by decide) ?_
    refine lv_isub hx hb dX9_isField_96 ?_
    refine l40 C hH hw.1 dX9_isField_97 (fun hz => ?_)
    have hw := hw.2 hz
    refine kc_ip (rn_sp (As := [.int (σ 40 0 (x5 - 1).toNatClampNeg)]) (rest := []) C hH hS (m9_isBlank l G a1 τ σ H (σ 40 0 (x5 - 1).toNatClampNeg) _ hw) (va_cwS 1 hts (lw_S q1448 q1449 q166 q1450) rfl rfl rfl kX9_isBlank.2 ⟨Nat.le_of_ble_eq_true rfl, Nat.le_of_ble_eq_true rfl⟩) rfl hl.1 rfl (Nat.le_of_ble_eq_true rfl) dX9_isField_98 ⟨Nat.le_of_ble_eq_true rfl, Nat.le_of_ble_eq_true rfl⟩) hS (fun r7 locs hw hS => ?_)
    refine lv_if_eq (tgt := 110) hx hb dX9_isField_101 (by decide) (fun h => ?_) (fun h => ?_)
    · have hw := hw.1 h
      exact hK110 x5 hw H locs ls hH hS (lv_sub hl [0, 1, 2, 3, 4, 5] rfl)
    have hw := hw.2 h
    refine lv_iinc (v := x5 + (-1)) (lv' := [(5, .int (x5 + (-1))), (0, .ref (ga G 9 0)), (1, .int x1), (2, .int x2), (3, .int x3), (4, .int x4)]) hx hb dX9_isField_104 hl (k := 5) rfl rfl (by decide) rfl (fun ls hl => ?_)
    refine lv_goto (tgt := 82) hx hb dX9_isField_107 (by decide) ?_
    exact ih (x5 + (-1)) hw H locs ls hH hS (lv_sub hl [1, 2, 3, 4, 5, 0] rfl) hK110
def w9_isField_L115 (σ : St) (x1 : Int32) (x2 : Int32) (x3 : Int32) (x4 : Int32) (x5 : Int32) (Q : Int32 → St → Prop) (K164 : Prop) (K172 : Prop) : Nat → Int32 → Prop
  | 0, _ => False
  | n + 1, x6 => (x2 ≤ x6 → K172) ∧ (¬ x2 ≤ x6 → (vp_in x6 4096 ∧ (by8 (σ 40 0 x6.toNatClampNeg) → (((σ 40 0 x6.toNatClampNeg) = 9 → (w9_isField_L115 σ x1 x2 x3 x4 x5 Q K164 K172 n (x6 + 1))) ∧ (¬ (σ 40 0 x6.toNatClampNeg) = 9 → (vp_in x6 4096 ∧ (by8 (σ 40 0 x6.toNatClampNeg) → (w9_isIn σ ((σ 40 0 x6.toNatClampNeg) &&& 255) 32 126 (fun r10 => ((¬ r10 = 0 → (w9_isField_L115 σ x1 x2 x3 x4 x5 Q K164 K172 n (x6 + 1))) ∧ (r10 = 0 → (vp_in x6 4096 ∧ (by8 (σ 40 0 x6.toNatClampNeg) → (((σ 40 0 x6.toNatClampNeg) < 0 → (w9_isField_L115 σ x1 x2 x3 x4 x5 Q K164 K172 n (x6 + 1))) ∧ (¬ (σ 40 0 x6.toNatClampNeg) < 0 → K164)))))))))))))))
set_option maxHeartbeats 4000000 in
theorem k9_isField_L115 {p : Program} {l : Launch} {e : Env} {s : State} {m : MethodId} {args : Array Value} {below : List Frame} {meth : Method} {c : Code} {G : Gh} {a1 : Nat → Nat → Nat} {τ : St} {Q : Int32 → St → Prop} {K164 : Prop} {K172 : Prop} (C : Cx p e s m args meth c cX9_isField 7 (some .boolean) "WebHost$Requests" G) (σ : St) (x1 : Int32) (x2 : Int32) (x3 : Int32) (x4 : Int32) (x5 : Int32) :
    ∀ (n : Nat) (x6 : Int32), w9_isField_L115 σ x1 x2 x3 x4 x5 Q K164 K172 n x6 → ∀ (H : Heap) (locs : List Loc) (ls : Array Slot), Hd G a1 (cmb σ τ) H → va_S (gA G) s.heap H locs → lv_has ls 7 [(0, .ref (ga G 9 0)), (1, .int x1), (2, .int x2), (3, .int x3), (4, .int x4), (5, .int x5), (6, .int x6)] → (K164 → ∀ (H : Heap) (locs : List Loc) (ls : Array Slot), Hd G a1 (cmb σ τ) H → va_S (gA G) s.heap H locs → lv_has ls 7 [] → W p l e rmX9_isField s m args below meth c H locs 0 0 (MQ below (QIs G a1 (fun u => cmb u τ) Q) args s 0 0 (gA G)) (F0 m 164 ls [])) → (K172 → ∀ (H : Heap) (locs : List Loc) (ls : Array Slot), Hd G a1 (cmb σ τ) H → va_S (gA G) s.heap H locs → lv_has ls 7 [(0, .ref (ga G 9 0)), (1, .int x1), (3, .int x3), (4, .int x4), (5, .int x5)] → W p l e rmX9_isField s m args below meth c H locs 0 0 (MQ below (QIs G a1 (fun u => cmb u τ) Q) args s 0 0 (gA G)) (F0 m 172 ls [])) → W p l e rmX9_isField s m args below meth c H locs 0 0 (MQ below (QIs G a1 (fun u => cmb u τ) Q) args s 0 0 (gA G)) (F0 m 115 ls []) := by
  have hx := C.1
  have hb := C.2.1
  have hown := C.2.2.2.2.2.1
  have hts := C.2.2.2.2.2.2.1
  intro n
  induction n with
  | zero =>
    intro x6 hw
    exact False.elim hw
  | succ n ih =>
    intro x6 hw H locs ls hH hS hl hK164 hK172
    refine lv_iload hx hb dX9_isField_115 (lv_at hl 6 rfl) ?_
    refine lv_iload_n hx hb dX9_isField_117 rfl (lv_at hl 2 rfl) ?_
    refine lv_icmp_ge (tgt := 172) hx hb dX9_isField_118 (by decide) (fun h => ?_) (fun h => ?_)
    · have hw := hw.1 h
      exact hK172 hw H locs ls hH hS (lv_sub hl [0, 1, 3, 4, 5] rfl)
    have hw := hw.2 h
    refine lv_aload_n hx hb dX9_isField_121 rfl (lv_at hl 0 rfl) ?_
    refine g9_1 C hH q449 dX9_isField_122 ?_
    refine lv_iload hx hb dX9_isField_125 (lv_at hl 6 rfl) ?_
    refine l40 C hH hw.1 dX9_isField_127 (fun hz => ?_)
    have hw := hw.2 hz
    refine lv_bipush (v := 9) hx hb dX9_isField_128 (by decide) ?_
    refine lv_icmp_eq (tgt := 166) hx hb dX9_isField_130 (by decide) (fun h => ?_) (fun h => ?_)
    · have hw := hw.1 h
      refine lv_iinc (v := x6 + 1) (lv' := [(6, .int (x6 + 1)), (0, .ref (ga G 9 0)), (1, .int x1), (2, .int x2), (3, .int x3), (4, .int x4), (5, .int x5)]) hx hb dX9_isField_166 hl (k := 6) rfl rfl (by decide) rfl (fun ls hl => ?_)
      refine lv_goto (tgt := 115) hx hb dX9_isField_169 (by decide) ?_
      exact ih (x6 + 1) hw H locs ls hH hS (lv_sub hl [1, 2, 3, 4, 5, 6, 0] rfl) hK164 hK172
    have hw := hw.2 h
    refine lv_aload_n hx hb dX9_isField_133 rfl (lv_at hl 0 rfl) ?_
    refine g9_1 C hH q449 dX9_isField_134 ?_
    refine lv_iload hx hb dX9_isField_137 (lv_at hl 6 rfl) ?_
    refine l40 C hH hw.1 dX9_isField_139 (fun hz => ?_)
    have hw := hw.2 hz
    refine lv_sipush (v := 255) hx hb dX9_isField_140 (by decide) ?_
    refine lv_iand hx hb dX9_isField_143 ?_
    refine lv_bipush (v := 32) hx hb dX9_isField_144 (by decide) ?_
    refine lv_bipush (v := 126) hx hb dX9_isField_146 (by decide) ?_
    refine kc_ip (rn_sp (As := [.int ((σ 40 0 x6.toNatClampNeg) &&& 255), .int 32, .int 126]) (rest := []) C hH hS (m9_isIn l G a1 τ σ H ((σ 40 0 x6.toNatClampNeg) &&& 255) 32 126 _ hw) (va_cwS 3 hts (lw_S q1365 q1366 q166 q1367) rfl rfl rfl kX9_isIn.2 ⟨Nat.le_of_ble_eq_true rfl, Nat.le_of_ble_eq_true rfl⟩) rfl hl.1 rfl (Nat.le_of_ble_eq_true rfl) dX9_isField_148 ⟨Nat.le_of_ble_eq_true rfl, Nat.le_of_ble_eq_true rfl⟩) hS (fun r10 locs hw hS => ?_)
    refine lv_if_ne (tgt := 166) hx hb dX9_isField_151 (by decide) (fun h => ?_) (fun h => ?_)
    · have hw := hw.1 h
      refine lv_iinc (v := x6 + 1) (lv' := [(6, .int (x6 + 1)), (0, .ref (ga G 9 0)), (1, .int x1), (2, .int x2), (3, .int x3), (4, .int x4), (5, .int x5)]) hx hb dX9_isField_166 hl (k := 6) rfl rfl (by decide) rfl (fun ls hl => ?_)
      refine lv_goto (tgt := 115) hx hb dX9_isField_169 (by decide) ?_
      exact ih (x6 + 1) hw H locs ls hH hS (lv_sub hl [1, 2, 3, 4, 5, 6, 0] rfl) hK164 hK172
    have hw := hw.2 h
    refine lv_aload_n hx hb dX9_isField_154 rfl (lv_at hl 0 rfl) ?_
    refine g9_1 C hH q449 dX9_isField_155 ?_
    refine lv_iload hx hb dX9_isField_158 (lv_at hl 6 rfl) ?_
    refine l40 C hH hw.1 dX9_isField_160 (fun hz => ?_)
    have hw := hw.2 hz
    refine lv_if_lt (tgt := 166) hx hb dX9_isField_161 (by decide) (fun h => ?_) (fun h => ?_)
    · have hw := hw.1 h
      refine lv_iinc (v := x6 + 1) (lv' := [(6, .int (x6 + 1)), (0, .ref (ga G 9 0)), (1, .int x1), (2, .int x2), (3, .int x3), (4, .int x4), (5, .int x5)]) hx hb dX9_isField_166 hl (k := 6) rfl rfl (by decide) rfl (fun ls hl => ?_)
      refine lv_goto (tgt := 115) hx hb dX9_isField_169 (by decide) ?_
      exact ih (x6 + 1) hw H locs ls hH hS (lv_sub hl [1, 2, 3, 4, 5, 6, 0] rfl) hK164 hK172
    have hw := hw.2 h
    exact hK164 hw H locs ls hH hS (lv_sub hl [] rfl)
def w9_isField_J25 (σ : St) (x1 : Int32) (x2 : Int32) (x3 : Int32) (Q : Int32 → St → Prop) : Prop := (x3 = x1 → Q 0 σ) ∧ (¬ x3 = x1 → ((x3 = x2 → Q 0 σ) ∧ (¬ x3 = x2 → (vp_in x3 4096 ∧ (by8 (σ 40 0 x3.toNatClampNeg) → (((σ 40 0 x3.toNatClampNeg) = 58 → (∃ z5, w9_isField_L56 σ x1 x2 x3 x2 Q (fun x4_6 => ∃ z8, w9_isField_L82 σ x1 x2 x3 x4_6 Q (fun x5_9 => ∃ z11, w9_isField_L115 σ x1 x2 x3 x4_6 x5_9 Q (Q 0 σ) (w9_take σ x1 x3 x4_6 x5_9 (fun σ14 => (Q 1 σ14))) z11 (x3 + 1)) z8 x2) z5 (x3 + 1))) ∧ (¬ (σ 40 0 x3.toNatClampNeg) = 58 → Q 0 σ)))))))
set_option maxHeartbeats 4000000 in
theorem k9_isField_J25 {p : Program} {l : Launch} {e : Env} {s : State} {m : MethodId} {args : Array Value} {below : List Frame} {meth : Method} {c : Code} {G : Gh} {a1 : Nat → Nat → Nat} {τ : St} {Q : Int32 → St → Prop} (C : Cx p e s m args meth c cX9_isField 7 (some .boolean) "WebHost$Requests" G) (σ : St) (x1 : Int32) (x2 : Int32) (x3 : Int32) (hw : w9_isField_J25 σ x1 x2 x3 Q) (H : Heap) (locs : List Loc) (ls : Array Slot) (hH : Hd G a1 (cmb σ τ) H) (hS : va_S (gA G) s.heap H locs) (hl : lv_has ls 7 [(0, .ref (ga G 9 0)), (1, .int x1), (2, .int x2), (3, .int x3)]) : W p l e rmX9_isField s m args below meth c H locs 0 0 (MQ below (QIs G a1 (fun u => cmb u τ) Q) args s 0 0 (gA G)) (F0 m 25 ls []) := by
  have hx := C.1
  have hb := C.2.1
  have hown := C.2.2.2.2.2.1
  have hts := C.2.2.2.2.2.2.1
  refine lv_iload_n hx hb dX9_isField_25 rfl (lv_at hl 3 rfl) ?_
  refine lv_iload_n hx hb dX9_isField_26 rfl (lv_at hl 1 rfl) ?_
  refine lv_icmp_eq (tgt := 46) hx hb dX9_isField_27 (by decide) (fun h => ?_) (fun h => ?_)
  · have hw := hw.1 h
    refine lv_iconst (v := 0) hx hb dX9_isField_46 (by decide) ?_
    exact rt_i C rfl hH hS hw dX9_isField_47
  have hw := hw.2 h
  refine lv_iload_n hx hb dX9_isField_30 rfl (lv_at hl 3 rfl) ?_
  refine lv_iload_n hx hb dX9_isField_31 rfl (lv_at hl 2 rfl) ?_
  refine lv_icmp_eq (tgt := 46) hx hb dX9_isField_32 (by decide) (fun h => ?_) (fun h => ?_)
  · have hw := hw.1 h
    refine lv_iconst (v := 0) hx hb dX9_isField_46 (by decide) ?_
    exact rt_i C rfl hH hS hw dX9_isField_47
  have hw := hw.2 h
  refine lv_aload_n hx hb dX9_isField_35 rfl (lv_at hl 0 rfl) ?_
  refine g9_1 C hH q449 dX9_isField_36 ?_
  refine lv_iload_n hx hb dX9_isField_39 rfl (lv_at hl 3 rfl) ?_
  refine l40 C hH hw.1 dX9_isField_40 (fun hz => ?_)
  have hw := hw.2 hz
  refine lv_bipush (v := 58) hx hb dX9_isField_41 (by decide) ?_
  refine lv_icmp_eq (tgt := 48) hx hb dX9_isField_43 (by decide) (fun h => ?_) (fun h => ?_)
  · have hw := hw.1 h
    refine lv_iload_n hx hb dX9_isField_48 rfl (lv_at hl 3 rfl) ?_
    refine lv_iconst (v := 1) hx hb dX9_isField_49 (by decide) ?_
    refine lv_iadd hx hb dX9_isField_50 ?_
    refine lv_istore (lv' := [(4, .int (x3 + 1)), (0, .ref (ga G 9 0)), (1, .int x1), (2, .int x2), (3, .int x3)]) hx hb dX9_isField_51 hl (by decide) rfl (fun ls hl => ?_)
    refine lv_iload_n hx hb dX9_isField_53 rfl (lv_at hl 3 rfl) ?_
    refine lv_istore (lv' := [(5, .int x2), (4, .int (x3 + 1)), (0, .ref (ga G 9 0)), (1, .int x1), (2, .int x2), (3, .int x3)]) hx hb dX9_isField_54 hl (by decide) rfl (fun ls hl => ?_)
    obtain ⟨n5, hw⟩ := hw
    refine k9_isField_L56 C σ x1 x2 x3 x2 n5 (x3 + 1) hw H locs ls hH hS (lv_sub hl [2, 3, 4, 5, 1, 0] rfl) (fun x4_6 hw H locs ls hH hS hl => ?_)
    obtain ⟨n8, hw⟩ := hw
    refine k9_isField_L82 C σ x1 x2 x3 x4_6 n8 x2 hw H locs ls hH hS (lv_sub hl [0, 1, 2, 3, 4, 5] rfl) (fun x5_9 hw H locs ls hH hS hl => ?_)
    refine lv_iload_n hx hb dX9_isField_110 rfl (lv_at hl 3 rfl) ?_
    refine lv_iconst (v := 1) hx hb dX9_isField_111 (by decide) ?_
    refine lv_iadd hx hb dX9_isField_112 ?_
    refine lv_istore (lv' := [(6, .int (x3 + 1)), (0, .ref (ga G 9 0)), (1, .int x1), (2, .int x2), (3, .int x3), (4, .int x4_6), (5, .int x5_9)]) hx hb dX9_isField_113 hl (by decide) rfl (fun ls hl => ?_)
    obtain ⟨n11, hw⟩ := hw
    refine k9_isField_L115 C σ x1 x2 x3 x4_6 x5_9 n11 (x3 + 1) hw H locs ls hH hS (lv_sub hl [1, 2, 3, 4, 5, 6, 0] rfl) (fun hw H locs ls hH hS hl => ?_) (fun hw H locs ls hH hS hl => ?_)
    · refine lv_iconst (v := 0) hx hb dX9_isField_164 (by decide) ?_
      exact rt_i C rfl hH hS hw dX9_isField_165
    refine lv_aload_n hx hb dX9_isField_172 rfl (lv_at hl 0 rfl) ?_
    refine lv_iload_n hx hb dX9_isField_173 rfl (lv_at hl 1 rfl) ?_
    refine lv_iload_n hx hb dX9_isField_174 rfl (lv_at hl 2 rfl) ?_
    refine lv_iload hx hb dX9_isField_175 (lv_at hl 3 rfl) ?_
    refine lv_iload hx hb dX9_isField_177 (lv_at hl 4 rfl) ?_
    refine kc_v (rn_v (As := [.int x1, .int x3, .int x4_6, .int x5_9]) (rest := []) C hH hS (by decide) rfl (by decide) (m9_take l G a1 τ σ x1 x3 x4_6 x5_9 _ hw) (cwV 4 hts (lw_V q1451 q1453 qs60 q166 q1454) rfl rfl rfl kX9_take ⟨Nat.le_of_ble_eq_true rfl, Nat.le_of_ble_eq_true rfl⟩) rfl hl.1 rfl (Nat.le_of_ble_eq_true rfl) dX9_isField_179 ⟨Nat.le_of_ble_eq_true rfl, Nat.le_of_ble_eq_true rfl⟩) hS (fun σ14 H locs hw hH hS => ?_)
    refine lv_iconst (v := 1) hx hb dX9_isField_182 (by decide) ?_
    exact rt_i C rfl hH hS hw dX9_isField_183
  have hw := hw.2 h
  refine lv_iconst (v := 0) hx hb dX9_isField_46 (by decide) ?_
  exact rt_i C rfl hH hS hw dX9_isField_47
def w9_isField (σ : St) (x1 : Int32) (x2 : Int32) (Q : Int32 → St → Prop) : Prop := ∃ z2, w9_isField_L2 σ x1 x2 Q (fun x3_3 => w9_isField_J25 σ x1 x2 x3_3 Q) z2 x1
set_option maxHeartbeats 4000000 in
theorem m9_isField (l : Launch) (G : Gh) (a1 : Nat → Nat → Nat) (τ : St) (σ : St) (x1 : Int32) (x2 : Int32) (Q : Int32 → St → Prop) (hw : w9_isField σ x1 x2 Q) : Met l yX9_isField (ws_ yX9_isField cX9_isField 7 (some .boolean)) rmX9_isField (PcS G a1 (cmb σ τ) [.ref (ga G 9 0), .int x1, .int x2]) (QIs G a1 (fun u => cmb u τ) Q) 0 0 (gA G) := by
  refine met_w (by decide) (Nat.le_of_ble_eq_true rfl) ?_
  intro p e s m below meth c ls C hH hS hl
  have C : Cx p e s m _ meth c cX9_isField 7 (some .boolean) "WebHost$Requests" G := C
  have hl : lv_has ls 7 [(0, .ref (ga G 9 0)), (1, .int x1), (2, .int x2)] := hl
  have hx := C.1
  have hb := C.2.1
  have hown := C.2.2.2.2.2.1
  have hts := C.2.2.2.2.2.2.1
  obtain ⟨locs, hlocs⟩ : ∃ z : List Loc, z = [] := ⟨_, rfl⟩
  obtain ⟨H, hHe⟩ : ∃ z : Heap, z = s.heap := ⟨_, rfl⟩
  have hH : Hd G a1 (cmb σ τ) H := by rw [hHe]; exact hH
  have hS : va_S (gA G) s.heap H locs := by rw [hHe, hlocs]; exact hS
  refine W.heap0 hHe.symm hlocs.symm ?_
  refine lv_iload_n hx hb dX9_isField_0 rfl (lv_at hl 1 rfl) ?_
  refine lv_istore_n (lv' := [(3, .int x1), (0, .ref (ga G 9 0)), (1, .int x1), (2, .int x2)]) hx hb dX9_isField_1 rfl hl (by decide) rfl (fun ls hl => ?_)
  obtain ⟨n2, hw⟩ := hw
  refine k9_isField_L2 C σ x1 x2 n2 x1 hw H locs ls hH hS (lv_sub hl [1, 2, 3, 0] rfl) (fun x3_3 hw H locs ls hH hS hl => ?_)
  exact k9_isField_J25 C σ x1 x2 x3_3 hw H locs ls hH hS (lv_sub hl [0, 1, 2, 3] rfl)
/-! WebHost$Requests.plain(LWebHost$Answer;ILjava/lang/String;Z)V -/
abbrev cX9_plain : ByteArray := prog_11_method_28_code
def yX9_plain : MethodName := ⟨RX9, "plain", "(LWebHost$Answer;ILjava/lang/String;Z)V"⟩
theorem dX9_plain_0 : decode cX9_plain 0 = .ok (.aload_n 0, 1) := by decide +kernel
theorem dX9_plain_1 : decode cX9_plain 1 = .ok (.aload_n 1, 1) := by decide +kernel
theorem dX9_plain_2 : decode cX9_plain 2 = .ok (.iload_n 2, 1) := by decide +kernel
theorem dX9_plain_3 : decode cX9_plain 3 = .ok (.aload_n 3, 1) := by decide +kernel
theorem dX9_plain_4 : decode cX9_plain 4 = .ok (.invokevirtual 281, 3) := by decide +kernel
theorem dX9_plain_7 : decode cX9_plain 7 = .ok (.aload_n 0, 1) := by decide +kernel
theorem dX9_plain_8 : decode cX9_plain 8 = .ok (.aload_n 1, 1) := by decide +kernel
theorem dX9_plain_9 : decode cX9_plain 9 = .ok (.aload_n 3, 1) := by decide +kernel
theorem dX9_plain_10 : decode cX9_plain 10 = .ok (.invokevirtual 64, 3) := by decide +kernel
theorem dX9_plain_13 : decode cX9_plain 13 = .ok (.iconst 5, 1) := by decide +kernel
theorem dX9_plain_14 : decode cX9_plain 14 = .ok (.iadd, 1) := by decide +kernel
theorem dX9_plain_15 : decode cX9_plain 15 = .ok (.invokevirtual 285, 3) := by decide +kernel
theorem dX9_plain_18 : decode cX9_plain 18 = .ok (.aload_n 1, 1) := by decide +kernel
theorem dX9_plain_19 : decode cX9_plain 19 = .ok (.ldc_w 288, 3) := by decide +kernel
theorem dX9_plain_22 : decode cX9_plain 22 = .ok (.invokevirtual 272, 3) := by decide +kernel
theorem dX9_plain_25 : decode cX9_plain 25 = .ok (.iload_n 2, 1) := by decide +kernel
theorem dX9_plain_26 : decode cX9_plain 26 = .ok (.sipush 405, 3) := by decide +kernel
theorem dX9_plain_29 : decode cX9_plain 29 = .ok (.if_icmp .ne 10, 3) := by decide +kernel
theorem dX9_plain_32 : decode cX9_plain 32 = .ok (.aload_n 1, 1) := by decide +kernel
theorem dX9_plain_33 : decode cX9_plain 33 = .ok (.ldc_w 290, 3) := by decide +kernel
theorem dX9_plain_36 : decode cX9_plain 36 = .ok (.invokevirtual 272, 3) := by decide +kernel
theorem dX9_plain_39 : decode cX9_plain 39 = .ok (.aload_n 0, 1) := by decide +kernel
theorem dX9_plain_40 : decode cX9_plain 40 = .ok (.aload_n 1, 1) := by decide +kernel
theorem dX9_plain_41 : decode cX9_plain 41 = .ok (.iload 4, 2) := by decide +kernel
theorem dX9_plain_43 : decode cX9_plain 43 = .ok (.invokevirtual 292, 3) := by decide +kernel
theorem dX9_plain_46 : decode cX9_plain 46 = .ok (.aload_n 0, 1) := by decide +kernel
theorem dX9_plain_47 : decode cX9_plain 47 = .ok (.getfield 40, 3) := by decide +kernel
theorem dX9_plain_50 : decode cX9_plain 50 = .ok (.ifCond .eq 4, 3) := by decide +kernel
theorem dX9_plain_53 : decode cX9_plain 53 = .ok (.return_, 1) := by decide +kernel
theorem dX9_plain_54 : decode cX9_plain 54 = .ok (.aload_n 1, 1) := by decide +kernel
theorem dX9_plain_55 : decode cX9_plain 55 = .ok (.iload_n 2, 1) := by decide +kernel
theorem dX9_plain_56 : decode cX9_plain 56 = .ok (.invokevirtual 266, 3) := by decide +kernel
theorem dX9_plain_59 : decode cX9_plain 59 = .ok (.aload_n 1, 1) := by decide +kernel
theorem dX9_plain_60 : decode cX9_plain 60 = .ok (.bipush 32, 2) := by decide +kernel
theorem dX9_plain_62 : decode cX9_plain 62 = .ok (.invokevirtual 269, 3) := by decide +kernel
theorem dX9_plain_65 : decode cX9_plain 65 = .ok (.aload_n 1, 1) := by decide +kernel
theorem dX9_plain_66 : decode cX9_plain 66 = .ok (.aload_n 3, 1) := by decide +kernel
theorem dX9_plain_67 : decode cX9_plain 67 = .ok (.invokevirtual 262, 3) := by decide +kernel
theorem dX9_plain_70 : decode cX9_plain 70 = .ok (.aload_n 1, 1) := by decide +kernel
theorem dX9_plain_71 : decode cX9_plain 71 = .ok (.bipush 10, 2) := by decide +kernel
theorem dX9_plain_73 : decode cX9_plain 73 = .ok (.invokevirtual 269, 3) := by decide +kernel
theorem dX9_plain_76 : decode cX9_plain 76 = .ok (.return_, 1) := by decide +kernel
def rmX9_plain : Room := { frames := 7, cells := 1, slots := 66047, locals := 151 }
theorem kX9_plain : yX9_plain.cls = "WebHost$Requests" ∧ yX9_plain.cls ≠ "java/lang/invoke/MethodHandle" ∧ yX9_plain.cls ≠ "java/lang/invoke/VarHandle" ∧ (parseMethodDescriptor yX9_plain.desc).map (fun d => d.parameters.length) = some 4 := by decide +kernel
def w9_plain_J39 (σ : St) (o1 : Nat) (x2 : Int32) (t3 : Nat) (x4 : Int32) (Q : St → Prop) : Prop := w9_finish σ o1 x4 (fun σ5 => (bo (σ5 9 0 5) → (((σ5 9 0 5) = 0 → (w13_number σ5 o1 x2 (fun σ6 => (w13_put σ6 o1 32 (fun σ7 => (w13_say σ7 o1 t3 (fun σ8 => (w13_put σ8 o1 10 (fun σ9 => (Q σ9)))))))))) ∧ (¬ (σ5 9 0 5) = 0 → Q σ5))))
set_option maxHeartbeats 4000000 in
theorem k9_plain_J39 {p : Program} {l : Launch} {e : Env} {s : State} {m : MethodId} {args : Array Value} {below : List Frame} {meth : Method} {c : Code} {G : Gh} {a1 : Nat → Nat → Nat} {τ : St} {Q : St → Prop} (C : Cx p e s m args meth c cX9_plain 5 none "WebHost$Requests" G) (σ : St) (o1 : Nat) (x2 : Int32) (t3 : Nat) (x4 : Int32) (ho1 : o1 < 16) (ht3 : t3 < nS) (hw : w9_plain_J39 σ o1 x2 t3 x4 Q) (H : Heap) (locs : List Loc) (ls : Array Slot) (hH : Hd G a1 (cmb σ τ) H) (hS : va_S (gA G) s.heap H locs) (hl : lv_has ls 5 [(0, .ref (ga G 9 0)), (1, .ref (ga G 13 o1)), (2, .int x2), (3, .ref (gs G t3)), (4, .int x4)]) : W p l e rmX9_plain s m args below meth c H locs 1 66047 (MQ below (QVa G (fun u => cmb u τ) Q) args s 1 66047 (gA G)) (F0 m 39 ls []) := by
  have hx := C.1
  have hb := C.2.1
  have hown := C.2.2.2.2.2.1
  have hts := C.2.2.2.2.2.2.1
  refine lv_aload_n hx hb dX9_plain_39 rfl (lv_at hl 0 rfl) ?_
  refine lv_aload_n hx hb dX9_plain_40 rfl (lv_at hl 1 rfl) ?_
  refine lv_iload hx hb dX9_plain_41 (lv_at hl 4 rfl) ?_
  refine kc_v (rn_v (As := [.ref (ga G 13 o1), .int x4]) (rest := []) C hH hS (by decide) rfl (by decide) (m9_finish l G a1 τ σ o1 x4 ho1 _ hw) (cwV 2 hts (lw_V q1343 q1345 qs51 q166 q1346) rfl rfl rfl kX9_finish ⟨Nat.le_of_ble_eq_true rfl, Nat.le_of_ble_eq_true rfl⟩) rfl hl.1 rfl (Nat.le_of_ble_eq_true rfl) dX9_plain_43 ⟨Nat.le_of_ble_eq_true rfl, Nat.le_of_ble_eq_true rfl⟩) hS (fun σ5 H locs hw hH hS => ?_)
  refine lv_aload_n hx hb dX9_plain_46 rfl (lv_at hl 0 rfl) ?_
  refine g9_5 C hH q453 dX9_plain_47 (fun hz => ?_)
  have hw := hw hz
  refine lv_if_eq (tgt := 54) hx hb dX9_plain_50 (by decide) (fun h => ?_) (fun h => ?_)
  · have hw := hw.1 h
    refine lv_aload_n hx hb dX9_plain_54 rfl (lv_at hl 1 rfl) ?_
    refine lv_iload_n hx hb dX9_plain_55 rfl (lv_at hl 2 rfl) ?_
    refine kc_v (rn_v (As := [.int x2]) (rest := []) C hH hS (by decide) rfl ho1 (m13_number l G a1 τ σ5 o1 x2 ho1 _ hw) (cwV 1 hts (lw_V q1324 q1325 q1326 q170 q1327) rfl rfl rfl kX13_number ⟨Nat.le_of_ble_eq_true rfl, Nat.le_of_ble_eq_true rfl⟩) rfl hl.1 rfl (Nat.le_of_ble_eq_true rfl) dX9_plain_56 ⟨Nat.le_of_ble_eq_true rfl, Nat.le_of_ble_eq_true rfl⟩) hS (fun σ6 H locs hw hH hS => ?_)
    refine lv_aload_n hx hb dX9_plain_59 rfl (lv_at hl 1 rfl) ?_
    refine lv_bipush (v := 32) hx hb dX9_plain_60 (by decide) ?_
    refine kc_v (rn_v (As := [.int 32]) (rest := []) C hH hS (by decide) rfl ho1 (m13_put l G a1 τ σ6 o1 32 ho1 _ hw) (cwV 1 hts (lw_V q1328 q1321 q1322 q170 q1323) rfl rfl rfl kX13_put ⟨Nat.le_of_ble_eq_true rfl, Nat.le_of_ble_eq_true rfl⟩) rfl hl.1 rfl (Nat.le_of_ble_eq_true rfl) dX9_plain_62 ⟨Nat.le_of_ble_eq_true rfl, Nat.le_of_ble_eq_true rfl⟩) hS (fun σ7 H locs hw hH hS => ?_)
    refine lv_aload_n hx hb dX9_plain_65 rfl (lv_at hl 1 rfl) ?_
    refine lv_aload_n hx hb dX9_plain_66 rfl (lv_at hl 3 rfl) ?_
    refine kc_v (rn_v (As := [.ref (gs G t3)]) (rest := []) C hH hS (by decide) rfl ho1 (m13_say l G a1 τ σ7 o1 t3 ho1 ht3 _ hw) (cwV 1 hts (lw_V q1268 q1269 q1270 q170 q1271) rfl rfl rfl kX13_say ⟨Nat.le_of_ble_eq_true rfl, Nat.le_of_ble_eq_true rfl⟩) rfl hl.1 rfl (Nat.le_of_ble_eq_true rfl) dX9_plain_67 ⟨Nat.le_of_ble_eq_true rfl, Nat.le_of_ble_eq_true rfl⟩) hS (fun σ8 H locs hw hH hS => ?_)
    refine lv_aload_n hx hb dX9_plain_70 rfl (lv_at hl 1 rfl) ?_
    refine lv_bipush (v := 10) hx hb dX9_plain_71 (by decide) ?_
    refine kc_v (rn_v (As := [.int 10]) (rest := []) C hH hS (by decide) rfl ho1 (m13_put l G a1 τ σ8 o1 10 ho1 _ hw) (cwV 1 hts (lw_V q1328 q1321 q1322 q170 q1323) rfl rfl rfl kX13_put ⟨Nat.le_of_ble_eq_true rfl, Nat.le_of_ble_eq_true rfl⟩) rfl hl.1 rfl (Nat.le_of_ble_eq_true rfl) dX9_plain_73 ⟨Nat.le_of_ble_eq_true rfl, Nat.le_of_ble_eq_true rfl⟩) hS (fun σ9 H locs hw hH hS => ?_)
    exact rt_va C hH hS hw dX9_plain_76
  have hw := hw.2 h
  exact rt_va C hH hS hw dX9_plain_53
def w9_plain (σ : St) (o1 : Nat) (x2 : Int32) (t3 : Nat) (x4 : Int32) (Q : St → Prop) : Prop := w9_begin σ o1 x2 t3 (fun σ1 => (wJ1_length t3 (fun r2 => (w9_length σ1 o1 (r2 + 5) (fun σ3 => (w13_line σ3 o1 27 (fun σ4 => ((¬ x2 = 405 → w9_plain_J39 σ4 o1 x2 t3 x4 Q) ∧ (x2 = 405 → (w13_line σ4 o1 28 (fun σ10 => (w9_plain_J39 σ10 o1 x2 t3 x4 Q))))))))))))
set_option maxHeartbeats 4000000 in
theorem m9_plain (l : Launch) (G : Gh) (a1 : Nat → Nat → Nat) (τ : St) (σ : St) (o1 : Nat) (x2 : Int32) (t3 : Nat) (x4 : Int32) (ho1 : o1 < 16) (ht3 : t3 < nS) (Q : St → Prop) (hw : w9_plain σ o1 x2 t3 x4 Q) : Met l yX9_plain (ws_ yX9_plain cX9_plain 5 none) rmX9_plain (PcS G a1 (cmb σ τ) [.ref (ga G 9 0), .ref (ga G 13 o1), .int x2, .ref (gs G t3), .int x4]) (QVa G (fun u => cmb u τ) Q) 1 66047 (gA G) := by
  refine met_w (by decide) (Nat.le_of_ble_eq_true rfl) ?_
  intro p e s m below meth c ls C hH hS hl
  have C : Cx p e s m _ meth c cX9_plain 5 none "WebHost$Requests" G := C
  have hl : lv_has ls 5 [(0, .ref (ga G 9 0)), (1, .ref (ga G 13 o1)), (2, .int x2), (3, .ref (gs G t3)), (4, .int x4)] := hl
  have hx := C.1
  have hb := C.2.1
  have hown := C.2.2.2.2.2.1
  have hts := C.2.2.2.2.2.2.1
  obtain ⟨locs, hlocs⟩ : ∃ z : List Loc, z = [] := ⟨_, rfl⟩
  obtain ⟨H, hHe⟩ : ∃ z : Heap, z = s.heap := ⟨_, rfl⟩
  have hH : Hd G a1 (cmb σ τ) H := by rw [hHe]; exact hH
  have hS : va_S (gA G) s.heap H locs := by rw [hHe, hlocs]; exact hS
  refine W.heap0 hHe.symm hlocs.symm ?_
  refine lv_aload_n hx hb dX9_plain_0 rfl (lv_at hl 0 rfl) ?_
  refine lv_aload_n hx hb dX9_plain_1 rfl (lv_at hl 1 rfl) ?_
  refine lv_iload_n hx hb dX9_plain_2 rfl (lv_at hl 2 rfl) ?_
  refine lv_aload_n hx hb dX9_plain_3 rfl (lv_at hl 3 rfl) ?_
  refine kc_va (rn_v (As := [.ref (ga G 13 o1), .int x2, .ref (gs G t3)]) (rest := []) C hH hS (by decide) rfl (by decide) (m9_begin l G a1 τ σ o1 x2 t3 ho1 ht3 _ hw) (cwV 3 hts (lw_V q1258 q1260 qs49 q166 q1261) rfl rfl rfl kX9_begin ⟨Nat.le_of_ble_eq_true rfl, Nat.le_of_ble_eq_true rfl⟩) rfl hl.1 rfl (Nat.le_of_ble_eq_true rfl) dX9_plain_4 ⟨Nat.le_of_ble_eq_true rfl, Nat.le_of_ble_eq_true rfl⟩) hS (fun σ1 a1 H locs hw hH hS => ?_)
  refine W.cs (cells' := 1) (slots' := 66047) rfl rfl ?_
  refine lv_aload_n hx hb dX9_plain_7 rfl (lv_at hl 0 rfl) ?_
  refine lv_aload_n hx hb dX9_plain_8 rfl (lv_at hl 1 rfl) ?_
  refine lv_aload_n hx hb dX9_plain_9 rfl (lv_at hl 3 rfl) ?_
  refine kc_ip (rn_vS (As := []) (rest := [.ref (ga G 13 o1), .ref (ga G 9 0)]) C hH hS ht3 (mJ1_length l G a1 τ (cmb σ1 τ) H t3 ht3 _ hw) (cwV 0 hts (lw_V q1334 q1273 q1274 q178 q1275) rfl rfl rfl kXJ1_length ⟨Nat.le_of_ble_eq_true rfl, Nat.le_of_ble_eq_true rfl⟩) rfl hl.1 rfl (Nat.le_of_ble_eq_true rfl) dX9_plain_10 ⟨Nat.le_of_ble_eq_true rfl, Nat.le_of_ble_eq_true rfl⟩) hS (fun r2 locs hw hS => ?_)
  refine lv_iconst (v := 5) hx hb dX9_plain_13 (by decide) ?_
  refine lv_iadd hx hb dX9_plain_14 ?_
  refine kc_v (rn_v (As := [.ref (ga G 13 o1), .int (r2 + 5)]) (rest := []) C hH hS (by decide) rfl (by decide) (m9_length l G a1 τ σ1 o1 (r2 + 5) ho1 _ hw) (cwV 2 hts (lw_V q1335 q1337 qs50 q166 q1338) rfl rfl rfl kX9_length ⟨Nat.le_of_ble_eq_true rfl, Nat.le_of_ble_eq_true rfl⟩) rfl hl.1 rfl (Nat.le_of_ble_eq_true rfl) dX9_plain_15 ⟨Nat.le_of_ble_eq_true rfl, Nat.le_of_ble_eq_true rfl⟩) hS (fun σ3 H locs hw hH hS => ?_)
  refine lv_aload_n hx hb dX9_plain_18 rfl (lv_at hl 1 rfl) ?_
  refine str_ldcw (n := 27) C st27 dX9_plain_19 ?_
  refine kc_v (rn_v (As := [.ref (gs G 27)]) (rest := []) C hH hS (by decide) rfl ho1 (m13_line l G a1 τ σ3 o1 27 ho1 (by decide) _ hw) (cwV 1 hts (lw_V q1329 q1330 q1331 q170 q1332) rfl rfl rfl kX13_line ⟨Nat.le_of_ble_eq_true rfl, Nat.le_of_ble_eq_true rfl⟩) rfl hl.1 rfl (Nat.le_of_ble_eq_true rfl) dX9_plain_22 ⟨Nat.le_of_ble_eq_true rfl, Nat.le_of_ble_eq_true rfl⟩) hS (fun σ4 H locs hw hH hS => ?_)
  refine lv_iload_n hx hb dX9_plain_25 rfl (lv_at hl 2 rfl) ?_
  refine lv_sipush (v := 405) hx hb dX9_plain_26 (by decide) ?_
  refine lv_icmp_ne (tgt := 39) hx hb dX9_plain_29 (by decide) (fun h => ?_) (fun h => ?_)
  · have hw := hw.1 h
    exact k9_plain_J39 C σ4 o1 x2 t3 x4 ho1 ht3 hw H locs ls hH hS (lv_sub hl [0, 1, 2, 3, 4] rfl)
  have hw := hw.2 h
  refine lv_aload_n hx hb dX9_plain_32 rfl (lv_at hl 1 rfl) ?_
  refine str_ldcw (n := 28) C st28 dX9_plain_33 ?_
  refine kc_v (rn_v (As := [.ref (gs G 28)]) (rest := []) C hH hS (by decide) rfl ho1 (m13_line l G a1 τ σ4 o1 28 ho1 (by decide) _ hw) (cwV 1 hts (lw_V q1329 q1330 q1331 q170 q1332) rfl rfl rfl kX13_line ⟨Nat.le_of_ble_eq_true rfl, Nat.le_of_ble_eq_true rfl⟩) rfl hl.1 rfl (Nat.le_of_ble_eq_true rfl) dX9_plain_36 ⟨Nat.le_of_ble_eq_true rfl, Nat.le_of_ble_eq_true rfl⟩) hS (fun σ10 H locs hw hH hS => ?_)
  exact k9_plain_J39 C σ10 o1 x2 t3 x4 ho1 ht3 hw H locs ls hH hS (lv_sub hl [0, 1, 2, 3, 4] rfl)
/-! WebHost$Requests.same(LWebHost$Answer;IZ)V -/
abbrev cX9_same : ByteArray := prog_11_method_30_code
def yX9_same : MethodName := ⟨RX9, "same", "(LWebHost$Answer;IZ)V"⟩
theorem dX9_same_0 : decode cX9_same 0 = .ok (.aload_n 0, 1) := by decide +kernel
theorem dX9_same_1 : decode cX9_same 1 = .ok (.aload_n 1, 1) := by decide +kernel
theorem dX9_same_2 : decode cX9_same 2 = .ok (.sipush 304, 3) := by decide +kernel
theorem dX9_same_5 : decode cX9_same 5 = .ok (.ldc_w 300, 3) := by decide +kernel
theorem dX9_same_8 : decode cX9_same 8 = .ok (.invokevirtual 281, 3) := by decide +kernel
theorem dX9_same_11 : decode cX9_same 11 = .ok (.aload_n 0, 1) := by decide +kernel
theorem dX9_same_12 : decode cX9_same 12 = .ok (.aload_n 1, 1) := by decide +kernel
theorem dX9_same_13 : decode cX9_same 13 = .ok (.iload_n 2, 1) := by decide +kernel
theorem dX9_same_14 : decode cX9_same 14 = .ok (.invokevirtual 302, 3) := by decide +kernel
theorem dX9_same_17 : decode cX9_same 17 = .ok (.aload_n 0, 1) := by decide +kernel
theorem dX9_same_18 : decode cX9_same 18 = .ok (.aload_n 1, 1) := by decide +kernel
theorem dX9_same_19 : decode cX9_same 19 = .ok (.iload_n 3, 1) := by decide +kernel
theorem dX9_same_20 : decode cX9_same 20 = .ok (.invokevirtual 292, 3) := by decide +kernel
theorem dX9_same_23 : decode cX9_same 23 = .ok (.return_, 1) := by decide +kernel
def rmX9_same : Room := { frames := 7, cells := 1, slots := 66047, locals := 151 }
theorem kX9_same : yX9_same.cls = "WebHost$Requests" ∧ yX9_same.cls ≠ "java/lang/invoke/MethodHandle" ∧ yX9_same.cls ≠ "java/lang/invoke/VarHandle" ∧ (parseMethodDescriptor yX9_same.desc).map (fun d => d.parameters.length) = some 3 := by decide +kernel
def w9_same (σ : St) (o1 : Nat) (x2 : Int32) (x3 : Int32) (Q : St → Prop) : Prop := w9_begin σ o1 304 30 (fun σ1 => (w9_mark σ1 o1 x2 (fun σ2 => (w9_finish σ2 o1 x3 (fun σ3 => (Q σ3))))))
set_option maxHeartbeats 4000000 in
theorem m9_same (l : Launch) (G : Gh) (a1 : Nat → Nat → Nat) (τ : St) (σ : St) (o1 : Nat) (x2 : Int32) (x3 : Int32) (ho1 : o1 < 16) (Q : St → Prop) (hw : w9_same σ o1 x2 x3 Q) : Met l yX9_same (ws_ yX9_same cX9_same 4 none) rmX9_same (PcS G a1 (cmb σ τ) [.ref (ga G 9 0), .ref (ga G 13 o1), .int x2, .int x3]) (QVa G (fun u => cmb u τ) Q) 1 66047 (gA G) := by
  refine met_w (by decide) (Nat.le_of_ble_eq_true rfl) ?_
  intro p e s m below meth c ls C hH hS hl
  have C : Cx p e s m _ meth c cX9_same 4 none "WebHost$Requests" G := C
  have hl : lv_has ls 4 [(0, .ref (ga G 9 0)), (1, .ref (ga G 13 o1)), (2, .int x2), (3, .int x3)] := hl
  have hx := C.1
  have hb := C.2.1
  have hown := C.2.2.2.2.2.1
  have hts := C.2.2.2.2.2.2.1
  obtain ⟨locs, hlocs⟩ : ∃ z : List Loc, z = [] := ⟨_, rfl⟩
  obtain ⟨H, hHe⟩ : ∃ z : Heap, z = s.heap := ⟨_, rfl⟩
  have hH : Hd G a1 (cmb σ τ) H := by rw [hHe]; exact hH
  have hS : va_S (gA G) s.heap H locs := by rw [hHe, hlocs]; exact hS
  refine W.heap0 hHe.symm hlocs.symm ?_
  refine lv_aload_n hx hb dX9_same_0 rfl (lv_at hl 0 rfl) ?_
  refine lv_aload_n hx hb dX9_same_1 rfl (lv_at hl 1 rfl) ?_
  refine lv_sipush (v := 304) hx hb dX9_same_2 (by decide) ?_
  refine str_ldcw (n := 30) C st30 dX9_same_5 ?_
  refine kc_va (rn_v (As := [.ref (ga G 13 o1), .int 304, .ref (gs G 30)]) (rest := []) C hH hS (by decide) rfl (by decide) (m9_begin l G a1 τ σ o1 304 30 ho1 (by decide) _ hw) (cwV 3 hts (lw_V q1258 q1260 qs49 q166 q1261) rfl rfl rfl kX9_begin ⟨Nat.le_of_ble_eq_true rfl, Nat.le_of_ble_eq_true rfl⟩) rfl hl.1 rfl (Nat.le_of_ble_eq_true rfl) dX9_same_8 ⟨Nat.le_of_ble_eq_true rfl, Nat.le_of_ble_eq_true rfl⟩) hS (fun σ1 a1 H locs hw hH hS => ?_)
  refine W.cs (cells' := 1) (slots' := 66047) rfl rfl ?_
  refine lv_aload_n hx hb dX9_same_11 rfl (lv_at hl 0 rfl) ?_
  refine lv_aload_n hx hb dX9_same_12 rfl (lv_at hl 1 rfl) ?_
  refine lv_iload_n hx hb dX9_same_13 rfl (lv_at hl 2 rfl) ?_
  refine kc_v (rn_v (As := [.ref (ga G 13 o1), .int x2]) (rest := []) C hH hS (by decide) rfl (by decide) (m9_mark l G a1 τ σ1 o1 x2 ho1 _ hw) (cwV 2 hts (lw_V q1525 q1527 qs69 q166 q1528) rfl rfl rfl kX9_mark ⟨Nat.le_of_ble_eq_true rfl, Nat.le_of_ble_eq_true rfl⟩) rfl hl.1 rfl (Nat.le_of_ble_eq_true rfl) dX9_same_14 ⟨Nat.le_of_ble_eq_true rfl, Nat.le_of_ble_eq_true rfl⟩) hS (fun σ2 H locs hw hH hS => ?_)
  refine lv_aload_n hx hb dX9_same_17 rfl (lv_at hl 0 rfl) ?_
  refine lv_aload_n hx hb dX9_same_18 rfl (lv_at hl 1 rfl) ?_
  refine lv_iload_n hx hb dX9_same_19 rfl (lv_at hl 3 rfl) ?_
  refine kc_v (rn_v (As := [.ref (ga G 13 o1), .int x3]) (rest := []) C hH hS (by decide) rfl (by decide) (m9_finish l G a1 τ σ2 o1 x3 ho1 _ hw) (cwV 2 hts (lw_V q1343 q1345 qs51 q166 q1346) rfl rfl rfl kX9_finish ⟨Nat.le_of_ble_eq_true rfl, Nat.le_of_ble_eq_true rfl⟩) rfl hl.1 rfl (Nat.le_of_ble_eq_true rfl) dX9_same_20 ⟨Nat.le_of_ble_eq_true rfl, Nat.le_of_ble_eq_true rfl⟩) hS (fun σ3 H locs hw hH hS => ?_)
  exact rt_va C hH hS hw dX9_same_23
/-! WebHostModel.answer(LWebHostModel$Connection;I)V -/
abbrev cX14_answer : ByteArray := prog_17_method_82_code
def yX14_answer : MethodName := ⟨RX14, "answer", "(LWebHostModel$Connection;I)V"⟩
theorem dX14_answer_0 : decode cX14_answer 0 = .ok (.aload_n 0, 1) := by decide +kernel
theorem dX14_answer_1 : decode cX14_answer 1 = .ok (.iload_n 2, 1) := by decide +kernel
theorem dX14_answer_2 : decode cX14_answer 2 = .ok (.putfield 644, 3) := by decide +kernel
theorem dX14_answer_5 : decode cX14_answer 5 = .ok (.iconst 0, 1) := by decide +kernel
theorem dX14_answer_6 : decode cX14_answer 6 = .ok (.istore_n 3, 1) := by decide +kernel
theorem dX14_answer_7 : decode cX14_answer 7 = .ok (.iload_n 3, 1) := by decide +kernel
theorem dX14_answer_8 : decode cX14_answer 8 = .ok (.iload_n 2, 1) := by decide +kernel
theorem dX14_answer_9 : decode cX14_answer 9 = .ok (.if_icmp .ge 21, 3) := by decide +kernel
theorem dX14_answer_12 : decode cX14_answer 12 = .ok (.aload_n 0, 1) := by decide +kernel
theorem dX14_answer_13 : decode cX14_answer 13 = .ok (.getfield 74, 3) := by decide +kernel
theorem dX14_answer_16 : decode cX14_answer 16 = .ok (.iload_n 3, 1) := by decide +kernel
theorem dX14_answer_17 : decode cX14_answer 17 = .ok (.aload_n 1, 1) := by decide +kernel
theorem dX14_answer_18 : decode cX14_answer 18 = .ok (.getfield 560, 3) := by decide +kernel
theorem dX14_answer_21 : decode cX14_answer 21 = .ok (.iload_n 3, 1) := by decide +kernel
theorem dX14_answer_22 : decode cX14_answer 22 = .ok (.baload, 1) := by decide +kernel
theorem dX14_answer_23 : decode cX14_answer 23 = .ok (.bastore, 1) := by decide +kernel
theorem dX14_answer_24 : decode cX14_answer 24 = .ok (.iinc 3 1, 3) := by decide +kernel
theorem dX14_answer_27 : decode cX14_answer 27 = .ok (.goto (-20), 3) := by decide +kernel
theorem dX14_answer_30 : decode cX14_answer 30 = .ok (.aload_n 0, 1) := by decide +kernel
theorem dX14_answer_31 : decode cX14_answer 31 = .ok (.aload_n 1, 1) := by decide +kernel
theorem dX14_answer_32 : decode cX14_answer 32 = .ok (.iload_n 2, 1) := by decide +kernel
theorem dX14_answer_33 : decode cX14_answer 33 = .ok (.invokevirtual 615, 3) := by decide +kernel
theorem dX14_answer_36 : decode cX14_answer 36 = .ok (.aload_n 0, 1) := by decide +kernel
theorem dX14_answer_37 : decode cX14_answer 37 = .ok (.iconst 0, 1) := by decide +kernel
theorem dX14_answer_38 : decode cX14_answer 38 = .ok (.putfield 637, 3) := by decide +kernel
theorem dX14_answer_41 : decode cX14_answer 41 = .ok (.aload_n 0, 1) := by decide +kernel
theorem dX14_answer_42 : decode cX14_answer 42 = .ok (.iconst 0, 1) := by decide +kernel
theorem dX14_answer_43 : decode cX14_answer 43 = .ok (.putfield 634, 3) := by decide +kernel
theorem dX14_answer_46 : decode cX14_answer 46 = .ok (.aload_n 0, 1) := by decide +kernel
theorem dX14_answer_47 : decode cX14_answer 47 = .ok (.iconst 0, 1) := by decide +kernel
theorem dX14_answer_48 : decode cX14_answer 48 = .ok (.putfield 645, 3) := by decide +kernel
theorem dX14_answer_51 : decode cX14_answer 51 = .ok (.aload_n 0, 1) := by decide +kernel
theorem dX14_answer_52 : decode cX14_answer 52 = .ok (.iconst 0, 1) := by decide +kernel
theorem dX14_answer_53 : decode cX14_answer 53 = .ok (.putfield 648, 3) := by decide +kernel
theorem dX14_answer_56 : decode cX14_answer 56 = .ok (.aload_n 0, 1) := by decide +kernel
theorem dX14_answer_57 : decode cX14_answer 57 = .ok (.iconst 0, 1) := by decide +kernel
theorem dX14_answer_58 : decode cX14_answer 58 = .ok (.putfield 651, 3) := by decide +kernel
theorem dX14_answer_61 : decode cX14_answer 61 = .ok (.aload_n 0, 1) := by decide +kernel
theorem dX14_answer_62 : decode cX14_answer 62 = .ok (.iconst 0, 1) := by decide +kernel
theorem dX14_answer_63 : decode cX14_answer 63 = .ok (.putfield 654, 3) := by decide +kernel
theorem dX14_answer_66 : decode cX14_answer 66 = .ok (.aload_n 0, 1) := by decide +kernel
theorem dX14_answer_67 : decode cX14_answer 67 = .ok (.iconst 0, 1) := by decide +kernel
theorem dX14_answer_68 : decode cX14_answer 68 = .ok (.putfield 657, 3) := by decide +kernel
theorem dX14_answer_71 : decode cX14_answer 71 = .ok (.aload_n 0, 1) := by decide +kernel
theorem dX14_answer_72 : decode cX14_answer 72 = .ok (.iconst 0, 1) := by decide +kernel
theorem dX14_answer_73 : decode cX14_answer 73 = .ok (.putfield 660, 3) := by decide +kernel
theorem dX14_answer_76 : decode cX14_answer 76 = .ok (.aload_n 0, 1) := by decide +kernel
theorem dX14_answer_77 : decode cX14_answer 77 = .ok (.iconst 0, 1) := by decide +kernel
theorem dX14_answer_78 : decode cX14_answer 78 = .ok (.putfield 663, 3) := by decide +kernel
theorem dX14_answer_81 : decode cX14_answer 81 = .ok (.aload_n 0, 1) := by decide +kernel
theorem dX14_answer_82 : decode cX14_answer 82 = .ok (.iconst 0, 1) := by decide +kernel
theorem dX14_answer_83 : decode cX14_answer 83 = .ok (.putfield 666, 3) := by decide +kernel
theorem dX14_answer_86 : decode cX14_answer 86 = .ok (.aload_n 0, 1) := by decide +kernel
theorem dX14_answer_87 : decode cX14_answer 87 = .ok (.iconst 0, 1) := by decide +kernel
theorem dX14_answer_88 : decode cX14_answer 88 = .ok (.putfield 669, 3) := by decide +kernel
theorem dX14_answer_91 : decode cX14_answer 91 = .ok (.aload_n 0, 1) := by decide +kernel
theorem dX14_answer_92 : decode cX14_answer 92 = .ok (.iconst 0, 1) := by decide +kernel
theorem dX14_answer_93 : decode cX14_answer 93 = .ok (.putfield 672, 3) := by decide +kernel
theorem dX14_answer_96 : decode cX14_answer 96 = .ok (.aload_n 0, 1) := by decide +kernel
theorem dX14_answer_97 : decode cX14_answer 97 = .ok (.iconst 0, 1) := by decide +kernel
theorem dX14_answer_98 : decode cX14_answer 98 = .ok (.putfield 675, 3) := by decide +kernel
theorem dX14_answer_101 : decode cX14_answer 101 = .ok (.aload_n 0, 1) := by decide +kernel
theorem dX14_answer_102 : decode cX14_answer 102 = .ok (.iconst 0, 1) := by decide +kernel
theorem dX14_answer_103 : decode cX14_answer 103 = .ok (.invokevirtual 678, 3) := by decide +kernel
theorem dX14_answer_106 : decode cX14_answer 106 = .ok (.istore_n 3, 1) := by decide +kernel
theorem dX14_answer_107 : decode cX14_answer 107 = .ok (.aload_n 0, 1) := by decide +kernel
theorem dX14_answer_108 : decode cX14_answer 108 = .ok (.iconst 0, 1) := by decide +kernel
theorem dX14_answer_109 : decode cX14_answer 109 = .ok (.aload_n 0, 1) := by decide +kernel
theorem dX14_answer_110 : decode cX14_answer 110 = .ok (.iconst 0, 1) := by decide +kernel
theorem dX14_answer_111 : decode cX14_answer 111 = .ok (.iload_n 3, 1) := by decide +kernel
theorem dX14_answer_112 : decode cX14_answer 112 = .ok (.invokevirtual 681, 3) := by decide +kernel
theorem dX14_answer_115 : decode cX14_answer 115 = .ok (.invokevirtual 684, 3) := by decide +kernel
theorem dX14_answer_118 : decode cX14_answer 118 = .ok (.istore 4, 2) := by decide +kernel
theorem dX14_answer_120 : decode cX14_answer 120 = .ok (.iload 4, 2) := by decide +kernel
theorem dX14_answer_122 : decode cX14_answer 122 = .ok (.istore 5, 2) := by decide +kernel
theorem dX14_answer_124 : decode cX14_answer 124 = .ok (.iconst (-1), 1) := by decide +kernel
theorem dX14_answer_125 : decode cX14_answer 125 = .ok (.istore 6, 2) := by decide +kernel
theorem dX14_answer_127 : decode cX14_answer 127 = .ok (.iload 4, 2) := by decide +kernel
theorem dX14_answer_129 : decode cX14_answer 129 = .ok (.ifCond .eq 54, 3) := by decide +kernel
theorem dX14_answer_132 : decode cX14_answer 132 = .ok (.aload_n 0, 1) := by decide +kernel
theorem dX14_answer_133 : decode cX14_answer 133 = .ok (.getfield 644, 3) := by decide +kernel
theorem dX14_answer_136 : decode cX14_answer 136 = .ok (.iload_n 3, 1) := by decide +kernel
theorem dX14_answer_137 : decode cX14_answer 137 = .ok (.iconst 1, 1) := by decide +kernel
theorem dX14_answer_138 : decode cX14_answer 138 = .ok (.iadd, 1) := by decide +kernel
theorem dX14_answer_139 : decode cX14_answer 139 = .ok (.if_icmp .le 44, 3) := by decide +kernel
theorem dX14_answer_142 : decode cX14_answer 142 = .ok (.iload_n 3, 1) := by decide +kernel
theorem dX14_answer_143 : decode cX14_answer 143 = .ok (.iconst 1, 1) := by decide +kernel
theorem dX14_answer_144 : decode cX14_answer 144 = .ok (.iadd, 1) := by decide +kernel
theorem dX14_answer_145 : decode cX14_answer 145 = .ok (.istore 7, 2) := by decide +kernel
theorem dX14_answer_147 : decode cX14_answer 147 = .ok (.aload_n 0, 1) := by decide +kernel
theorem dX14_answer_148 : decode cX14_answer 148 = .ok (.iload 7, 2) := by decide +kernel
theorem dX14_answer_150 : decode cX14_answer 150 = .ok (.invokevirtual 678, 3) := by decide +kernel
theorem dX14_answer_153 : decode cX14_answer 153 = .ok (.istore_n 3, 1) := by decide +kernel
theorem dX14_answer_154 : decode cX14_answer 154 = .ok (.aload_n 0, 1) := by decide +kernel
theorem dX14_answer_155 : decode cX14_answer 155 = .ok (.iload 7, 2) := by decide +kernel
theorem dX14_answer_157 : decode cX14_answer 157 = .ok (.iload_n 3, 1) := by decide +kernel
theorem dX14_answer_158 : decode cX14_answer 158 = .ok (.invokevirtual 681, 3) := by decide +kernel
theorem dX14_answer_161 : decode cX14_answer 161 = .ok (.istore 8, 2) := by decide +kernel
theorem dX14_answer_163 : decode cX14_answer 163 = .ok (.iload 8, 2) := by decide +kernel
theorem dX14_answer_165 : decode cX14_answer 165 = .ok (.iload 7, 2) := by decide +kernel
theorem dX14_answer_167 : decode cX14_answer 167 = .ok (.if_icmp .le 13, 3) := by decide +kernel
theorem dX14_answer_170 : decode cX14_answer 170 = .ok (.aload_n 0, 1) := by decide +kernel
theorem dX14_answer_171 : decode cX14_answer 171 = .ok (.iload 7, 2) := by decide +kernel
theorem dX14_answer_173 : decode cX14_answer 173 = .ok (.iload 8, 2) := by decide +kernel
theorem dX14_answer_175 : decode cX14_answer 175 = .ok (.invokevirtual 687, 3) := by decide +kernel
theorem dX14_answer_178 : decode cX14_answer 178 = .ok (.istore 4, 2) := by decide +kernel
theorem dX14_answer_180 : decode cX14_answer 180 = .ok (.goto (-53), 3) := by decide +kernel
theorem dX14_answer_183 : decode cX14_answer 183 = .ok (.iload 4, 2) := by decide +kernel
theorem dX14_answer_185 : decode cX14_answer 185 = .ok (.ifCond .ne 13, 3) := by decide +kernel
theorem dX14_answer_188 : decode cX14_answer 188 = .ok (.aload_n 0, 1) := by decide +kernel
theorem dX14_answer_189 : decode cX14_answer 189 = .ok (.sipush 400, 3) := by decide +kernel
theorem dX14_answer_192 : decode cX14_answer 192 = .ok (.putfield 637, 3) := by decide +kernel
theorem dX14_answer_195 : decode cX14_answer 195 = .ok (.goto 9, 3) := by decide +kernel
theorem dX14_answer_198 : decode cX14_answer 198 = .ok (.aload_n 0, 1) := by decide +kernel
theorem dX14_answer_199 : decode cX14_answer 199 = .ok (.invokevirtual 690, 3) := by decide +kernel
theorem dX14_answer_202 : decode cX14_answer 202 = .ok (.istore 6, 2) := by decide +kernel
theorem dX14_answer_204 : decode cX14_answer 204 = .ok (.aload_n 0, 1) := by decide +kernel
theorem dX14_answer_205 : decode cX14_answer 205 = .ok (.getfield 637, 3) := by decide +kernel
theorem dX14_answer_208 : decode cX14_answer 208 = .ok (.sipush 400, 3) := by decide +kernel
theorem dX14_answer_211 : decode cX14_answer 211 = .ok (.if_icmp .eq 33, 3) := by decide +kernel
theorem dX14_answer_214 : decode cX14_answer 214 = .ok (.aload_n 0, 1) := by decide +kernel
theorem dX14_answer_215 : decode cX14_answer 215 = .ok (.getfield 637, 3) := by decide +kernel
theorem dX14_answer_218 : decode cX14_answer 218 = .ok (.sipush 413, 3) := by decide +kernel
theorem dX14_answer_221 : decode cX14_answer 221 = .ok (.if_icmp .eq 23, 3) := by decide +kernel
theorem dX14_answer_224 : decode cX14_answer 224 = .ok (.aload_n 0, 1) := by decide +kernel
theorem dX14_answer_225 : decode cX14_answer 225 = .ok (.getfield 637, 3) := by decide +kernel
theorem dX14_answer_228 : decode cX14_answer 228 = .ok (.sipush 500, 3) := by decide +kernel
theorem dX14_answer_231 : decode cX14_answer 231 = .ok (.if_icmp .eq 13, 3) := by decide +kernel
theorem dX14_answer_234 : decode cX14_answer 234 = .ok (.aload_n 0, 1) := by decide +kernel
theorem dX14_answer_235 : decode cX14_answer 235 = .ok (.getfield 637, 3) := by decide +kernel
theorem dX14_answer_238 : decode cX14_answer 238 = .ok (.sipush 501, 3) := by decide +kernel
theorem dX14_answer_241 : decode cX14_answer 241 = .ok (.if_icmp .ne 7, 3) := by decide +kernel
theorem dX14_answer_244 : decode cX14_answer 244 = .ok (.iconst 1, 1) := by decide +kernel
theorem dX14_answer_245 : decode cX14_answer 245 = .ok (.goto 4, 3) := by decide +kernel
theorem dX14_answer_248 : decode cX14_answer 248 = .ok (.iconst 0, 1) := by decide +kernel
theorem dX14_answer_249 : decode cX14_answer 249 = .ok (.istore 7, 2) := by decide +kernel
theorem dX14_answer_251 : decode cX14_answer 251 = .ok (.iload 5, 2) := by decide +kernel
theorem dX14_answer_253 : decode cX14_answer 253 = .ok (.ifCond .eq 38, 3) := by decide +kernel
theorem dX14_answer_256 : decode cX14_answer 256 = .ok (.aload_n 0, 1) := by decide +kernel
theorem dX14_answer_257 : decode cX14_answer 257 = .ok (.getfield 645, 3) := by decide +kernel
theorem dX14_answer_260 : decode cX14_answer 260 = .ok (.ifCond .eq 20, 3) := by decide +kernel
theorem dX14_answer_263 : decode cX14_answer 263 = .ok (.aload_n 0, 1) := by decide +kernel
theorem dX14_answer_264 : decode cX14_answer 264 = .ok (.getfield 651, 3) := by decide +kernel
theorem dX14_answer_267 : decode cX14_answer 267 = .ok (.ifCond .eq 24, 3) := by decide +kernel
theorem dX14_answer_270 : decode cX14_answer 270 = .ok (.aload_n 0, 1) := by decide +kernel
theorem dX14_answer_271 : decode cX14_answer 271 = .ok (.getfield 648, 3) := by decide +kernel
theorem dX14_answer_274 : decode cX14_answer 274 = .ok (.ifCond .ne 17, 3) := by decide +kernel
theorem dX14_answer_277 : decode cX14_answer 277 = .ok (.goto 10, 3) := by decide +kernel
theorem dX14_answer_280 : decode cX14_answer 280 = .ok (.aload_n 0, 1) := by decide +kernel
theorem dX14_answer_281 : decode cX14_answer 281 = .ok (.getfield 648, 3) := by decide +kernel
theorem dX14_answer_284 : decode cX14_answer 284 = .ok (.ifCond .ne 7, 3) := by decide +kernel
theorem dX14_answer_287 : decode cX14_answer 287 = .ok (.iconst 1, 1) := by decide +kernel
theorem dX14_answer_288 : decode cX14_answer 288 = .ok (.goto 4, 3) := by decide +kernel
theorem dX14_answer_291 : decode cX14_answer 291 = .ok (.iconst 0, 1) := by decide +kernel
theorem dX14_answer_292 : decode cX14_answer 292 = .ok (.istore 8, 2) := by decide +kernel
theorem dX14_answer_294 : decode cX14_answer 294 = .ok (.aload_n 0, 1) := by decide +kernel
theorem dX14_answer_295 : decode cX14_answer 295 = .ok (.getfield 637, 3) := by decide +kernel
theorem dX14_answer_298 : decode cX14_answer 298 = .ok (.sipush 400, 3) := by decide +kernel
theorem dX14_answer_301 : decode cX14_answer 301 = .ok (.if_icmp .eq 31, 3) := by decide +kernel
theorem dX14_answer_304 : decode cX14_answer 304 = .ok (.aload_n 0, 1) := by decide +kernel
theorem dX14_answer_305 : decode cX14_answer 305 = .ok (.getfield 637, 3) := by decide +kernel
theorem dX14_answer_308 : decode cX14_answer 308 = .ok (.sipush 413, 3) := by decide +kernel
theorem dX14_answer_311 : decode cX14_answer 311 = .ok (.if_icmp .eq 21, 3) := by decide +kernel
theorem dX14_answer_314 : decode cX14_answer 314 = .ok (.aload_n 0, 1) := by decide +kernel
theorem dX14_answer_315 : decode cX14_answer 315 = .ok (.getfield 637, 3) := by decide +kernel
theorem dX14_answer_318 : decode cX14_answer 318 = .ok (.sipush 501, 3) := by decide +kernel
theorem dX14_answer_321 : decode cX14_answer 321 = .ok (.if_icmp .eq 11, 3) := by decide +kernel
theorem dX14_answer_324 : decode cX14_answer 324 = .ok (.aload_n 1, 1) := by decide +kernel
theorem dX14_answer_325 : decode cX14_answer 325 = .ok (.aload_n 0, 1) := by decide +kernel
theorem dX14_answer_326 : decode cX14_answer 326 = .ok (.getfield 663, 3) := by decide +kernel
theorem dX14_answer_329 : decode cX14_answer 329 = .ok (.putfield 475, 3) := by decide +kernel
theorem dX14_answer_332 : decode cX14_answer 332 = .ok (.aload_n 0, 1) := by decide +kernel
theorem dX14_answer_333 : decode cX14_answer 333 = .ok (.aload_n 1, 1) := by decide +kernel
theorem dX14_answer_334 : decode cX14_answer 334 = .ok (.iload 6, 2) := by decide +kernel
theorem dX14_answer_336 : decode cX14_answer 336 = .ok (.iload 7, 2) := by decide +kernel
theorem dX14_answer_338 : decode cX14_answer 338 = .ok (.ifCond .ne 8, 3) := by decide +kernel
theorem dX14_answer_341 : decode cX14_answer 341 = .ok (.iload 8, 2) := by decide +kernel
theorem dX14_answer_343 : decode cX14_answer 343 = .ok (.ifCond .ne 7, 3) := by decide +kernel
theorem dX14_answer_346 : decode cX14_answer 346 = .ok (.iconst 1, 1) := by decide +kernel
theorem dX14_answer_347 : decode cX14_answer 347 = .ok (.goto 4, 3) := by decide +kernel
theorem dX14_answer_350 : decode cX14_answer 350 = .ok (.iconst 0, 1) := by decide +kernel
theorem dX14_answer_351 : decode cX14_answer 351 = .ok (.invokevirtual 640, 3) := by decide +kernel
theorem dX14_answer_354 : decode cX14_answer 354 = .ok (.aload_n 1, 1) := by decide +kernel
theorem dX14_answer_355 : decode cX14_answer 355 = .ok (.getfield 475, 3) := by decide +kernel
theorem dX14_answer_358 : decode cX14_answer 358 = .ok (.aload_n 1, 1) := by decide +kernel
theorem dX14_answer_359 : decode cX14_answer 359 = .ok (.invokevirtual 612, 3) := by decide +kernel
theorem dX14_answer_362 : decode cX14_answer 362 = .ok (.invokestatic 411, 3) := by decide +kernel
theorem dX14_answer_365 : decode cX14_answer 365 = .ok (.istore 9, 2) := by decide +kernel
theorem dX14_answer_367 : decode cX14_answer 367 = .ok (.iload 9, 2) := by decide +kernel
theorem dX14_answer_369 : decode cX14_answer 369 = .ok (.ifCond .le 21, 3) := by decide +kernel
theorem dX14_answer_372 : decode cX14_answer 372 = .ok (.aload_n 1, 1) := by decide +kernel
theorem dX14_answer_373 : decode cX14_answer 373 = .ok (.aload_n 1, 1) := by decide +kernel
theorem dX14_answer_374 : decode cX14_answer 374 = .ok (.getfield 475, 3) := by decide +kernel
theorem dX14_answer_377 : decode cX14_answer 377 = .ok (.iload 9, 2) := by decide +kernel
theorem dX14_answer_379 : decode cX14_answer 379 = .ok (.isub, 1) := by decide +kernel
theorem dX14_answer_380 : decode cX14_answer 380 = .ok (.putfield 475, 3) := by decide +kernel
theorem dX14_answer_383 : decode cX14_answer 383 = .ok (.aload_n 0, 1) := by decide +kernel
theorem dX14_answer_384 : decode cX14_answer 384 = .ok (.aload_n 1, 1) := by decide +kernel
theorem dX14_answer_385 : decode cX14_answer 385 = .ok (.iload 9, 2) := by decide +kernel
theorem dX14_answer_387 : decode cX14_answer 387 = .ok (.invokevirtual 615, 3) := by decide +kernel
theorem dX14_answer_390 : decode cX14_answer 390 = .ok (.return_, 1) := by decide +kernel
def rmX14_answer : Room := { frames := 7, cells := 0, slots := 0, locals := 160 }
theorem kX14_answer : yX14_answer.cls = "WebHostModel" ∧ yX14_answer.cls ≠ "java/lang/invoke/MethodHandle" ∧ yX14_answer.cls ≠ "java/lang/invoke/VarHandle" ∧ (parseMethodDescriptor yX14_answer.desc).map (fun d => d.parameters.length) = some 2 := by decide +kernel
def w14_answer_L7 (o1 : Nat) (x2 : Int32) (Q : St → Prop) (K30 : St → Prop) : Nat → St → Int32 → Prop
  | 0, _, _ => False
  | n + 1, σ, x3 => (x2 ≤ x3 → K30 σ) ∧ (¬ x2 ≤ x3 → (vp_in x3 4096 ∧ (by8 (σ 72 o1 x3.toNatClampNeg) → (vp_in x3 4096 ∧ (∀ σ2, σ2 = up3 σ 66 0 x3.toNatClampNeg (σ 72 o1 x3.toNatClampNeg).toInt8.toInt32 → (w14_answer_L7 o1 x2 Q K30 n σ2 (x3 + 1)))))))
set_option maxHeartbeats 4000000 in
theorem k14_answer_L7 {p : Program} {l : Launch} {e : Env} {s : State} {m : MethodId} {args : Array Value} {below : List Frame} {meth : Method} {c : Code} {G : Gh} {a1 : Nat → Nat → Nat} {τ : St} {Q : St → Prop} {K30 : St → Prop} (C : Cx p e s m args meth c cX14_answer 10 none "WebHostModel" G) (o1 : Nat) (x2 : Int32) (ho1 : o1 < 16) :
    ∀ (n : Nat) (σ : St) (x3 : Int32), w14_answer_L7 o1 x2 Q K30 n σ x3 → ∀ (H : Heap) (locs : List Loc) (ls : Array Slot), Hd G a1 (cmb τ σ) H → va_S (gA G) s.heap H locs → lv_has ls 10 [(0, .ref (ga G 14 0)), (1, .ref (ga G 15 o1)), (2, .int x2), (3, .int x3)] → (∀ (σ : St) , K30 σ → ∀ (H : Heap) (locs : List Loc) (ls : Array Slot), Hd G a1 (cmb τ σ) H → va_S (gA G) s.heap H locs → lv_has ls 10 [(0, .ref (ga G 14 0)), (1, .ref (ga G 15 o1)), (2, .int x2)] → W p l e rmX14_answer s m args below meth c H locs 0 0 (MQ below (QVs G a1 (fun u => cmb τ u) Q) args s 0 0 (gA G)) (F0 m 30 ls [])) → W p l e rmX14_answer s m args below meth c H locs 0 0 (MQ below (QVs G a1 (fun u => cmb τ u) Q) args s 0 0 (gA G)) (F0 m 7 ls []) := by
  have hx := C.1
  have hb := C.2.1
  have hown := C.2.2.2.2.2.1
  have hts := C.2.2.2.2.2.2.1
  intro n
  induction n with
  | zero =>
    intro σ x3 hw
    exact False.elim hw
  | succ n ih =>
    intro σ x3 hw H locs ls hH hS hl hK30
    refine lv_iload_n hx hb dX14_answer_7 rfl (lv_at hl 3 rfl) ?_
    refine lv_iload_n hx hb dX14_answer_8 rfl (lv_at hl 2 rfl) ?_
    refine lv_icmp_ge (tgt := 30) hx hb dX14_answer_9 (by decide) (fun h => ?_) (fun h => ?_)
    · have hw := hw.1 h
      exact hK30 σ hw H locs ls hH hS (lv_sub hl [0, 1, 2] rfl)
    have hw := hw.2 h
    refine lv_aload_n hx hb dX14_answer_12 rfl (lv_at hl 0 rfl) ?_
    refine g14_41 C hH q1981 dX14_answer_13 ?_
    refine lv_iload_n hx hb dX14_answer_16 rfl (lv_at hl 3 rfl) ?_
    refine lv_aload_n hx hb dX14_answer_17 rfl (lv_at hl 1 rfl) ?_
    refine g15_32 C hH ho1 q1745 dX14_answer_18 ?_
    refine lv_iload_n hx hb dX14_answer_21 rfl (lv_at hl 3 rfl) ?_
    refine l72 C hH ho1 hw.1 dX14_answer_22 (fun hz => ?_)
    have hw := hw.2 hz
    refine s66 C hH hS hw.1 dX14_answer_23 (fun σ2 e2 H locs hH hS => ?_)
    have hw := hw.2 σ2 e2
    refine lv_iinc (v := x3 + 1) (lv' := [(3, .int (x3 + 1)), (0, .ref (ga G 14 0)), (1, .ref (ga G 15 o1)), (2, .int x2)]) hx hb dX14_answer_24 hl (k := 3) rfl rfl (by decide) rfl (fun ls hl => ?_)
    refine lv_goto (tgt := 7) hx hb dX14_answer_27 (by decide) ?_
    exact ih σ2 (x3 + 1) hw H locs ls hH hS (lv_sub hl [1, 2, 3, 0] rfl) hK30
def w14_answer_L127 (o1 : Nat) (x5 : Int32) (x6 : Int32) (Q : St → Prop) (K183 : St → Int32 → Prop) : Nat → St → Int32 → Int32 → Prop
  | 0, _, _, _ => False
  | n + 1, σ, x3, x4 => (x4 = 0 → K183 σ x4) ∧ (¬ x4 = 0 → (((σ 14 0 42) ≤ (x3 + 1) → K183 σ x4) ∧ (¬ (σ 14 0 42) ≤ (x3 + 1) → (w14_lineEnd σ (x3 + 1) (fun r22 => (w14_shown σ (x3 + 1) r22 (fun r23 => ((r23 ≤ (x3 + 1) → w14_answer_L127 o1 x5 x6 Q K183 n σ r22 x4) ∧ (¬ r23 ≤ (x3 + 1) → (w14_field σ (x3 + 1) r23 (fun r24 σ24 => (w14_answer_L127 o1 x5 x6 Q K183 n σ24 r22 r24))))))))))))
set_option maxHeartbeats 4000000 in
theorem k14_answer_L127 {p : Program} {l : Launch} {e : Env} {s : State} {m : MethodId} {args : Array Value} {below : List Frame} {meth : Method} {c : Code} {G : Gh} {a1 : Nat → Nat → Nat} {τ : St} {Q : St → Prop} {K183 : St → Int32 → Prop} (C : Cx p e s m args meth c cX14_answer 10 none "WebHostModel" G) (o1 : Nat) (x5 : Int32) (x6 : Int32) (ho1 : o1 < 16) :
    ∀ (n : Nat) (σ : St) (x3 : Int32) (x4 : Int32), w14_answer_L127 o1 x5 x6 Q K183 n σ x3 x4 → ∀ (H : Heap) (locs : List Loc) (ls : Array Slot), Hd G a1 (cmb τ σ) H → va_S (gA G) s.heap H locs → lv_has ls 10 [(0, .ref (ga G 14 0)), (1, .ref (ga G 15 o1)), (3, .int x3), (4, .int x4), (5, .int x5), (6, .int x6)] → (∀ (σ : St) (x4 : Int32), K183 σ x4 → ∀ (H : Heap) (locs : List Loc) (ls : Array Slot), Hd G a1 (cmb τ σ) H → va_S (gA G) s.heap H locs → lv_has ls 10 [(0, .ref (ga G 14 0)), (1, .ref (ga G 15 o1)), (4, .int x4), (5, .int x5), (6, .int x6)] → W p l e rmX14_answer s m args below meth c H locs 0 0 (MQ below (QVs G a1 (fun u => cmb τ u) Q) args s 0 0 (gA G)) (F0 m 183 ls [])) → W p l e rmX14_answer s m args below meth c H locs 0 0 (MQ below (QVs G a1 (fun u => cmb τ u) Q) args s 0 0 (gA G)) (F0 m 127 ls []) := by
  have hx := C.1
  have hb := C.2.1
  have hown := C.2.2.2.2.2.1
  have hts := C.2.2.2.2.2.2.1
  intro n
  induction n with
  | zero =>
    intro σ x3 x4 hw
    exact False.elim hw
  | succ n ih =>
    intro σ x3 x4 hw H locs ls hH hS hl hK183
    refine lv_iload hx hb dX14_answer_127 (lv_at hl 3 rfl) ?_
    refine lv_if_eq (tgt := 183) hx hb dX14_answer_129 (by decide) (fun h => ?_) (fun h => ?_)
    · have hw := hw.1 h
      exact hK183 σ x4 hw H locs ls hH hS (lv_sub hl [0, 1, 3, 4, 5] rfl)
    have hw := hw.2 h
    refine lv_aload_n hx hb dX14_answer_132 rfl (lv_at hl 0 rfl) ?_
    refine g14_42 C hH q1982 dX14_answer_133 ?_
    refine lv_iload_n hx hb dX14_answer_136 rfl (lv_at hl 2 rfl) ?_
    refine lv_iconst (v := 1) hx hb dX14_answer_137 (by decide) ?_
    refine lv_iadd hx hb dX14_answer_138 ?_
    refine lv_icmp_le (tgt := 183) hx hb dX14_answer_139 (by decide) (fun h => ?_) (fun h => ?_)
    · have hw := hw.1 h
      exact hK183 σ x4 hw H locs ls hH hS (lv_sub hl [0, 1, 3, 4, 5] rfl)
    have hw := hw.2 h
    refine lv_iload_n hx hb dX14_answer_142 rfl (lv_at hl 2 rfl) ?_
    refine lv_iconst (v := 1) hx hb dX14_answer_143 (by decide) ?_
    refine lv_iadd hx hb dX14_answer_144 ?_
    refine lv_istore (lv' := [(7, .int (x3 + 1)), (0, .ref (ga G 14 0)), (1, .ref (ga G 15 o1)), (3, .int x3), (4, .int x4), (5, .int x5), (6, .int x6)]) hx hb dX14_answer_145 hl (by decide) rfl (fun ls hl => ?_)
    refine lv_aload_n hx hb dX14_answer_147 rfl (lv_at hl 1 rfl) ?_
    refine lv_iload hx hb dX14_answer_148 (lv_at hl 0 rfl) ?_
    refine kc_ip (rn_vp (As := [.int (x3 + 1)]) (rest := []) C hH hS (by decide) rfl (by decide) (m14_lineEnd l G a1 τ σ H (x3 + 1) _ hw) (cwV 1 hts (lw_V q2463 q2465 qs133 q171 q2466) rfl rfl rfl kX14_lineEnd ⟨Nat.le_of_ble_eq_true rfl, Nat.le_of_ble_eq_true rfl⟩) rfl hl.1 rfl (Nat.le_of_ble_eq_true rfl) dX14_answer_150 ⟨Nat.le_of_ble_eq_true rfl, Nat.le_of_ble_eq_true rfl⟩) hS (fun r22 locs hw hS => ?_)
    refine lv_istore_n (lv' := [(3, .int r22), (7, .int (x3 + 1)), (0, .ref (ga G 14 0)), (1, .ref (ga G 15 o1)), (4, .int x4), (5, .int x5), (6, .int x6)]) hx hb dX14_answer_153 rfl hl (by decide) rfl (fun ls hl => ?_)
    refine lv_aload_n hx hb dX14_answer_154 rfl (lv_at hl 2 rfl) ?_
    refine lv_iload hx hb dX14_answer_155 (lv_at hl 1 rfl) ?_
    refine lv_iload_n hx hb dX14_answer_157 rfl (lv_at hl 0 rfl) ?_
    refine kc_ip (rn_vp (As := [.int (x3 + 1), .int r22]) (rest := []) C hH hS (by decide) rfl (by decide) (m14_shown l G a1 τ σ H (x3 + 1) r22 _ hw) (cwV 2 hts (lw_V q2467 q2469 qs134 q171 q2470) rfl rfl rfl kX14_shown ⟨Nat.le_of_ble_eq_true rfl, Nat.le_of_ble_eq_true rfl⟩) rfl hl.1 rfl (Nat.le_of_ble_eq_true rfl) dX14_answer_158 ⟨Nat.le_of_ble_eq_true rfl, Nat.le_of_ble_eq_true rfl⟩) hS (fun r23 locs hw hS => ?_)
    refine lv_istore (lv' := [(8, .int r23), (3, .int r22), (7, .int (x3 + 1)), (0, .ref (ga G 14 0)), (1, .ref (ga G 15 o1)), (4, .int x4), (5, .int x5), (6, .int x6)]) hx hb dX14_answer_161 hl (by decide) rfl (fun ls hl => ?_)
    refine lv_iload hx hb dX14_answer_163 (lv_at hl 0 rfl) ?_
    refine lv_iload hx hb dX14_answer_165 (lv_at hl 2 rfl) ?_
    refine lv_icmp_le (tgt := 180) hx hb dX14_answer_167 (by decide) (fun h => ?_) (fun h => ?_)
    · have hw := hw.1 h
      refine lv_goto (tgt := 127) hx hb dX14_answer_180 (by decide) ?_
      exact ih σ r22 x4 hw H locs ls hH hS (lv_sub hl [3, 4, 1, 5, 6, 7] rfl) hK183
    have hw := hw.2 h
    refine lv_aload_n hx hb dX14_answer_170 rfl (lv_at hl 3 rfl) ?_
    refine lv_iload hx hb dX14_answer_171 (lv_at hl 2 rfl) ?_
    refine lv_iload hx hb dX14_answer_173 (lv_at hl 0 rfl) ?_
    refine kc_i (rn_v (As := [.int (x3 + 1), .int r23]) (rest := []) C hH hS (by decide) rfl (by decide) (m14_field l G a1 τ σ (x3 + 1) r23 _ hw) (cwV 2 hts (lw_V q2489 q2491 qs138 q171 q2492) rfl rfl rfl kX14_field ⟨Nat.le_of_ble_eq_true rfl, Nat.le_of_ble_eq_true rfl⟩) rfl hl.1 rfl (Nat.le_of_ble_eq_true rfl) dX14_answer_175 ⟨Nat.le_of_ble_eq_true rfl, Nat.le_of_ble_eq_true rfl⟩) hS (fun r24 σ24 H locs hw hH hS => ?_)
    refine lv_istore (lv' := [(4, .int r24), (8, .int r23), (3, .int r22), (7, .int (x3 + 1)), (0, .ref (ga G 14 0)), (1, .ref (ga G 15 o1)), (5, .int x5), (6, .int x6)]) hx hb dX14_answer_178 hl (by decide) rfl (fun ls hl => ?_)
    refine lv_goto (tgt := 127) hx hb dX14_answer_180 (by decide) ?_
    exact ih σ24 r22 r24 hw H locs ls hH hS (lv_sub hl [4, 5, 2, 0, 6, 7] rfl) hK183
def w14_answer_J351 (σ : St) (o1 : Nat) (xs0 : Int32) (xs1 : Int32) (os2 : Nat) (Q : St → Prop) : Prop := w14_make σ os2 xs1 xs0 (fun σ28 => (w15_held σ28 o1 (fun r29 => (((imin (σ28 15 o1 38) r29) ≤ 0 → Q σ28) ∧ (¬ (imin (σ28 15 o1 38) r29) ≤ 0 → (∀ σ30, σ30 = up3 σ28 15 o1 38 ((σ28 15 o1 38) - (imin (σ28 15 o1 38) r29)) → (w14_take σ30 o1 (imin (σ28 15 o1 38) r29) (fun σ31 => (Q σ31)))))))))
set_option maxHeartbeats 4000000 in
theorem k14_answer_J351 {p : Program} {l : Launch} {e : Env} {s : State} {m : MethodId} {args : Array Value} {below : List Frame} {meth : Method} {c : Code} {G : Gh} {a1 : Nat → Nat → Nat} {τ : St} {Q : St → Prop} (C : Cx p e s m args meth c cX14_answer 10 none "WebHostModel" G) (σ : St) (o1 : Nat) (xs0 : Int32) (xs1 : Int32) (os2 : Nat) (ho1 : o1 < 16) (hos2 : os2 < 16) (hw : w14_answer_J351 σ o1 xs0 xs1 os2 Q) (H : Heap) (locs : List Loc) (ls : Array Slot) (hH : Hd G a1 (cmb τ σ) H) (hS : va_S (gA G) s.heap H locs) (hl : lv_has ls 10 [(0, .ref (ga G 14 0)), (1, .ref (ga G 15 o1))]) : W p l e rmX14_answer s m args below meth c H locs 0 0 (MQ below (QVs G a1 (fun u => cmb τ u) Q) args s 0 0 (gA G)) (F0 m 351 ls [.int xs0, .int xs1, .ref (ga G 15 os2), .ref (ga G 14 0)]) := by
  have hx := C.1
  have hb := C.2.1
  have hown := C.2.2.2.2.2.1
  have hts := C.2.2.2.2.2.2.1
  refine kc_v (rn_v (As := [.ref (ga G 15 os2), .int xs1, .int xs0]) (rest := []) C hH hS (by decide) rfl (by decide) (m14_make l G a1 τ σ os2 xs1 xs0 hos2 _ hw) (cwV 3 hts (lw_V q2549 q2551 qs146 q171 q2552) rfl rfl rfl kX14_make ⟨Nat.le_of_ble_eq_true rfl, Nat.le_of_ble_eq_true rfl⟩) rfl hl.1 rfl (Nat.le_of_ble_eq_true rfl) dX14_answer_351 ⟨Nat.le_of_ble_eq_true rfl, Nat.le_of_ble_eq_true rfl⟩) hS (fun σ28 H locs hw hH hS => ?_)
  refine lv_aload_n hx hb dX14_answer_354 rfl (lv_at hl 1 rfl) ?_
  refine g15_38 C hH ho1 q1754 dX14_answer_355 ?_
  refine lv_aload_n hx hb dX14_answer_358 rfl (lv_at hl 1 rfl) ?_
  refine kc_ip (rn_vp (As := []) (rest := [.int (σ28 15 o1 38)]) C hH hS (by decide) rfl ho1 (m15_held l G a1 τ σ28 H o1 ho1 _ hw) (cwV 0 hts (lw_V q2443 q2236 q2237 q172 q2238) rfl rfl rfl kX15_held ⟨Nat.le_of_ble_eq_true rfl, Nat.le_of_ble_eq_true rfl⟩) rfl hl.1 rfl (Nat.le_of_ble_eq_true rfl) dX14_answer_359 ⟨Nat.le_of_ble_eq_true rfl, Nat.le_of_ble_eq_true rfl⟩) hS (fun r29 locs hw hS => ?_)
  refine r_imin C hl.1 q2281 (Nat.le_of_ble_eq_true rfl) (Nat.le_of_ble_eq_true rfl) (Nat.zero_le _) (Nat.zero_le _) dX14_answer_362 ?_
  refine lv_istore (lv' := [(9, .int (imin (σ28 15 o1 38) r29)), (0, .ref (ga G 14 0)), (1, .ref (ga G 15 o1))]) hx hb dX14_answer_365 hl (by decide) rfl (fun ls hl => ?_)
  refine lv_iload hx hb dX14_answer_367 (lv_at hl 0 rfl) ?_
  refine lv_if_le (tgt := 390) hx hb dX14_answer_369 (by decide) (fun h => ?_) (fun h => ?_)
  · have hw := hw.1 h
    exact rt_v C hH hS hw dX14_answer_390
  have hw := hw.2 h
  refine lv_aload_n hx hb dX14_answer_372 rfl (lv_at hl 2 rfl) ?_
  refine lv_aload_n hx hb dX14_answer_373 rfl (lv_at hl 2 rfl) ?_
  refine g15_38 C hH ho1 q1754 dX14_answer_374 ?_
  refine lv_iload hx hb dX14_answer_377 (lv_at hl 0 rfl) ?_
  refine lv_isub hx hb dX14_answer_379 ?_
  refine p15_38 C hH hS ho1 q1754 dX14_answer_380 (fun σ30 e30 H locs hH hS => ?_)
  have hw := hw σ30 e30
  refine lv_aload_n hx hb dX14_answer_383 rfl (lv_at hl 1 rfl) ?_
  refine lv_aload_n hx hb dX14_answer_384 rfl (lv_at hl 2 rfl) ?_
  refine lv_iload hx hb dX14_answer_385 (lv_at hl 0 rfl) ?_
  refine kc_v (rn_v (As := [.ref (ga G 15 o1), .int (imin (σ28 15 o1 38) r29)]) (rest := []) C hH hS (by decide) rfl (by decide) (m14_take l G a1 τ σ30 o1 (imin (σ28 15 o1 38) r29) ho1 _ hw) (cwV 2 hts (lw_V q2444 q2446 qs129 q171 q2447) rfl rfl rfl kX14_take ⟨Nat.le_of_ble_eq_true rfl, Nat.le_of_ble_eq_true rfl⟩) rfl hl.1 rfl (Nat.le_of_ble_eq_true rfl) dX14_answer_387 ⟨Nat.le_of_ble_eq_true rfl, Nat.le_of_ble_eq_true rfl⟩) hS (fun σ31 H locs hw hH hS => ?_)
  exact rt_v C hH hS hw dX14_answer_390
def w14_answer_J332 (σ : St) (o1 : Nat) (x6 : Int32) (x7 : Int32) (x8 : Int32) (Q : St → Prop) : Prop := (¬ x7 = 0 → w14_answer_J351 σ o1 1 x6 o1 Q) ∧ (x7 = 0 → ((¬ x8 = 0 → w14_answer_J351 σ o1 0 x6 o1 Q) ∧ (x8 = 0 → w14_answer_J351 σ o1 1 x6 o1 Q)))
set_option maxHeartbeats 4000000 in
theorem k14_answer_J332 {p : Program} {l : Launch} {e : Env} {s : State} {m : MethodId} {args : Array Value} {below : List Frame} {meth : Method} {c : Code} {G : Gh} {a1 : Nat → Nat → Nat} {τ : St} {Q : St → Prop} (C : Cx p e s m args meth c cX14_answer 10 none "WebHostModel" G) (σ : St) (o1 : Nat) (x6 : Int32) (x7 : Int32) (x8 : Int32) (ho1 : o1 < 16) (hw : w14_answer_J332 σ o1 x6 x7 x8 Q) (H : Heap) (locs : List Loc) (ls : Array Slot) (hH : Hd G a1 (cmb τ σ) H) (hS : va_S (gA G) s.heap H locs) (hl : lv_has ls 10 [(0, .ref (ga G 14 0)), (1, .ref (ga G 15 o1)), (6, .int x6), (7, .int x7), (8, .int x8)]) : W p l e rmX14_answer s m args below meth c H locs 0 0 (MQ below (QVs G a1 (fun u => cmb τ u) Q) args s 0 0 (gA G)) (F0 m 332 ls []) := by
  have hx := C.1
  have hb := C.2.1
  have hown := C.2.2.2.2.2.1
  have hts := C.2.2.2.2.2.2.1
  refine lv_aload_n hx hb dX14_answer_332 rfl (lv_at hl 0 rfl) ?_
  refine lv_aload_n hx hb dX14_answer_333 rfl (lv_at hl 1 rfl) ?_
  refine lv_iload hx hb dX14_answer_334 (lv_at hl 2 rfl) ?_
  refine lv_iload hx hb dX14_answer_336 (lv_at hl 3 rfl) ?_
  refine lv_if_ne (tgt := 346) hx hb dX14_answer_338 (by decide) (fun h => ?_) (fun h => ?_)
  · have hw := hw.1 h
    refine lv_iconst (v := 1) hx hb dX14_answer_346 (by decide) ?_
    refine lv_goto (tgt := 351) hx hb dX14_answer_347 (by decide) ?_
    exact k14_answer_J351 C σ o1 1 x6 o1 ho1 ho1 hw H locs ls hH hS (lv_sub hl [0, 1] rfl)
  have hw := hw.2 h
  refine lv_iload hx hb dX14_answer_341 (lv_at hl 4 rfl) ?_
  refine lv_if_ne (tgt := 350) hx hb dX14_answer_343 (by decide) (fun h => ?_) (fun h => ?_)
  · have hw := hw.1 h
    refine lv_iconst (v := 0) hx hb dX14_answer_350 (by decide) ?_
    exact k14_answer_J351 C σ o1 0 x6 o1 ho1 ho1 hw H locs ls hH hS (lv_sub hl [0, 1] rfl)
  have hw := hw.2 h
  refine lv_iconst (v := 1) hx hb dX14_answer_346 (by decide) ?_
  refine lv_goto (tgt := 351) hx hb dX14_answer_347 (by decide) ?_
  exact k14_answer_J351 C σ o1 1 x6 o1 ho1 ho1 hw H locs ls hH hS (lv_sub hl [0, 1] rfl)
def w14_answer_J292 (σ : St) (o1 : Nat) (x6 : Int32) (x7 : Int32) (xs0 : Int32) (Q : St → Prop) : Prop := ((σ 14 0 43) = 400 → w14_answer_J332 σ o1 x6 x7 xs0 Q) ∧ (¬ (σ 14 0 43) = 400 → (((σ 14 0 43) = 413 → w14_answer_J332 σ o1 x6 x7 xs0 Q) ∧ (¬ (σ 14 0 43) = 413 → (((σ 14 0 43) = 501 → w14_answer_J332 σ o1 x6 x7 xs0 Q) ∧ (¬ (σ 14 0 43) = 501 → (∀ σ32, σ32 = up3 σ 15 o1 38 (σ 14 0 51) → (w14_answer_J332 σ32 o1 x6 x7 xs0 Q)))))))
set_option maxHeartbeats 4000000 in
theorem k14_answer_J292 {p : Program} {l : Launch} {e : Env} {s : State} {m : MethodId} {args : Array Value} {below : List Frame} {meth : Method} {c : Code} {G : Gh} {a1 : Nat → Nat → Nat} {τ : St} {Q : St → Prop} (C : Cx p e s m args meth c cX14_answer 10 none "WebHostModel" G) (σ : St) (o1 : Nat) (x6 : Int32) (x7 : Int32) (xs0 : Int32) (ho1 : o1 < 16) (hw : w14_answer_J292 σ o1 x6 x7 xs0 Q) (H : Heap) (locs : List Loc) (ls : Array Slot) (hH : Hd G a1 (cmb τ σ) H) (hS : va_S (gA G) s.heap H locs) (hl : lv_has ls 10 [(0, .ref (ga G 14 0)), (1, .ref (ga G 15 o1)), (6, .int x6), (7, .int x7)]) : W p l e rmX14_answer s m args below meth c H locs 0 0 (MQ below (QVs G a1 (fun u => cmb τ u) Q) args s 0 0 (gA G)) (F0 m 292 ls [.int xs0]) := by
  have hx := C.1
  have hb := C.2.1
  have hown := C.2.2.2.2.2.1
  have hts := C.2.2.2.2.2.2.1
  refine lv_istore (lv' := [(8, .int xs0), (0, .ref (ga G 14 0)), (1, .ref (ga G 15 o1)), (6, .int x6), (7, .int x7)]) hx hb dX14_answer_292 hl (by decide) rfl (fun ls hl => ?_)
  refine lv_aload_n hx hb dX14_answer_294 rfl (lv_at hl 1 rfl) ?_
  refine g14_43 C hH q1983 dX14_answer_295 ?_
  refine lv_sipush (v := 400) hx hb dX14_answer_298 (by decide) ?_
  refine lv_icmp_eq (tgt := 332) hx hb dX14_answer_301 (by decide) (fun h => ?_) (fun h => ?_)
  · have hw := hw.1 h
    exact k14_answer_J332 C σ o1 x6 x7 xs0 ho1 hw H locs ls hH hS (lv_sub hl [1, 2, 3, 4, 0] rfl)
  have hw := hw.2 h
  refine lv_aload_n hx hb dX14_answer_304 rfl (lv_at hl 1 rfl) ?_
  refine g14_43 C hH q1983 dX14_answer_305 ?_
  refine lv_sipush (v := 413) hx hb dX14_answer_308 (by decide) ?_
  refine lv_icmp_eq (tgt := 332) hx hb dX14_answer_311 (by decide) (fun h => ?_) (fun h => ?_)
  · have hw := hw.1 h
    exact k14_answer_J332 C σ o1 x6 x7 xs0 ho1 hw H locs ls hH hS (lv_sub hl [1, 2, 3, 4, 0] rfl)
  have hw := hw.2 h
  refine lv_aload_n hx hb dX14_answer_314 rfl (lv_at hl 1 rfl) ?_
  refine g14_43 C hH q1983 dX14_answer_315 ?_
  refine lv_sipush (v := 501) hx hb dX14_answer_318 (by decide) ?_
  refine lv_icmp_eq (tgt := 332) hx hb dX14_answer_321 (by decide) (fun h => ?_) (fun h => ?_)
  · have hw := hw.1 h
    exact k14_answer_J332 C σ o1 x6 x7 xs0 ho1 hw H locs ls hH hS (lv_sub hl [1, 2, 3, 4, 0] rfl)
  have hw := hw.2 h
  refine lv_aload_n hx hb dX14_answer_324 rfl (lv_at hl 2 rfl) ?_
  refine lv_aload_n hx hb dX14_answer_325 rfl (lv_at hl 1 rfl) ?_
  refine g14_51 C hH q1991 dX14_answer_326 ?_
  refine p15_38 C hH hS ho1 q1754 dX14_answer_329 (fun σ32 e32 H locs hH hS => ?_)
  have hw := hw σ32 e32
  exact k14_answer_J332 C σ32 o1 x6 x7 xs0 ho1 hw H locs ls hH hS (lv_sub hl [1, 2, 3, 4, 0] rfl)
def w14_answer_J249 (σ : St) (o1 : Nat) (x5 : Int32) (x6 : Int32) (xs0 : Int32) (Q : St → Prop) : Prop := (x5 = 0 → w14_answer_J292 σ o1 x6 xs0 0 Q) ∧ (¬ x5 = 0 → (bo (σ 14 0 45) → (((σ 14 0 45) = 0 → (bo (σ 14 0 46) → ((¬ (σ 14 0 46) = 0 → w14_answer_J292 σ o1 x6 xs0 0 Q) ∧ ((σ 14 0 46) = 0 → w14_answer_J292 σ o1 x6 xs0 1 Q)))) ∧ (¬ (σ 14 0 45) = 0 → (bo (σ 14 0 47) → (((σ 14 0 47) = 0 → w14_answer_J292 σ o1 x6 xs0 0 Q) ∧ (¬ (σ 14 0 47) = 0 → (bo (σ 14 0 46) → ((¬ (σ 14 0 46) = 0 → w14_answer_J292 σ o1 x6 xs0 0 Q) ∧ ((σ 14 0 46) = 0 → w14_answer_J292 σ o1 x6 xs0 1 Q))))))))))
set_option maxHeartbeats 4000000 in
theorem k14_answer_J249 {p : Program} {l : Launch} {e : Env} {s : State} {m : MethodId} {args : Array Value} {below : List Frame} {meth : Method} {c : Code} {G : Gh} {a1 : Nat → Nat → Nat} {τ : St} {Q : St → Prop} (C : Cx p e s m args meth c cX14_answer 10 none "WebHostModel" G) (σ : St) (o1 : Nat) (x5 : Int32) (x6 : Int32) (xs0 : Int32) (ho1 : o1 < 16) (hw : w14_answer_J249 σ o1 x5 x6 xs0 Q) (H : Heap) (locs : List Loc) (ls : Array Slot) (hH : Hd G a1 (cmb τ σ) H) (hS : va_S (gA G) s.heap H locs) (hl : lv_has ls 10 [(0, .ref (ga G 14 0)), (1, .ref (ga G 15 o1)), (5, .int x5), (6, .int x6)]) : W p l e rmX14_answer s m args below meth c H locs 0 0 (MQ below (QVs G a1 (fun u => cmb τ u) Q) args s 0 0 (gA G)) (F0 m 249 ls [.int xs0]) := by
  have hx := C.1
  have hb := C.2.1
  have hown := C.2.2.2.2.2.1
  have hts := C.2.2.2.2.2.2.1
  refine lv_istore (lv' := [(7, .int xs0), (0, .ref (ga G 14 0)), (1, .ref (ga G 15 o1)), (5, .int x5), (6, .int x6)]) hx hb dX14_answer_249 hl (by decide) rfl (fun ls hl => ?_)
  refine lv_iload hx hb dX14_answer_251 (lv_at hl 3 rfl) ?_
  refine lv_if_eq (tgt := 291) hx hb dX14_answer_253 (by decide) (fun h => ?_) (fun h => ?_)
  · have hw := hw.1 h
    refine lv_iconst (v := 0) hx hb dX14_answer_291 (by decide) ?_
    exact k14_answer_J292 C σ o1 x6 xs0 0 ho1 hw H locs ls hH hS (lv_sub hl [1, 2, 4, 0] rfl)
  have hw := hw.2 h
  refine lv_aload_n hx hb dX14_answer_256 rfl (lv_at hl 1 rfl) ?_
  refine g14_45 C hH q1985 dX14_answer_257 (fun hz => ?_)
  have hw := hw hz
  refine lv_if_eq (tgt := 280) hx hb dX14_answer_260 (by decide) (fun h => ?_) (fun h => ?_)
  · have hw := hw.1 h
    refine lv_aload_n hx hb dX14_answer_280 rfl (lv_at hl 1 rfl) ?_
    refine g14_46 C hH q1986 dX14_answer_281 (fun hz => ?_)
    have hw := hw hz
    refine lv_if_ne (tgt := 291) hx hb dX14_answer_284 (by decide) (fun h => ?_) (fun h => ?_)
    · have hw := hw.1 h
      refine lv_iconst (v := 0) hx hb dX14_answer_291 (by decide) ?_
      exact k14_answer_J292 C σ o1 x6 xs0 0 ho1 hw H locs ls hH hS (lv_sub hl [1, 2, 4, 0] rfl)
    have hw := hw.2 h
    refine lv_iconst (v := 1) hx hb dX14_answer_287 (by decide) ?_
    refine lv_goto (tgt := 292) hx hb dX14_answer_288 (by decide) ?_
    exact k14_answer_J292 C σ o1 x6 xs0 1 ho1 hw H locs ls hH hS (lv_sub hl [1, 2, 4, 0] rfl)
  have hw := hw.2 h
  refine lv_aload_n hx hb dX14_answer_263 rfl (lv_at hl 1 rfl) ?_
  refine g14_47 C hH q1987 dX14_answer_264 (fun hz => ?_)
  have hw := hw hz
  refine lv_if_eq (tgt := 291) hx hb dX14_answer_267 (by decide) (fun h => ?_) (fun h => ?_)
  · have hw := hw.1 h
    refine lv_iconst (v := 0) hx hb dX14_answer_291 (by decide) ?_
    exact k14_answer_J292 C σ o1 x6 xs0 0 ho1 hw H locs ls hH hS (lv_sub hl [1, 2, 4, 0] rfl)
  have hw := hw.2 h
  refine lv_aload_n hx hb dX14_answer_270 rfl (lv_at hl 1 rfl) ?_
  refine g14_46 C hH q1986 dX14_answer_271 (fun hz => ?_)
  have hw := hw hz
  refine lv_if_ne (tgt := 291) hx hb dX14_answer_274 (by decide) (fun h => ?_) (fun h => ?_)
  · have hw := hw.1 h
    refine lv_iconst (v := 0) hx hb dX14_answer_291 (by decide) ?_
    exact k14_answer_J292 C σ o1 x6 xs0 0 ho1 hw H locs ls hH hS (lv_sub hl [1, 2, 4, 0] rfl)
  have hw := hw.2 h
  refine lv_goto (tgt := 287) hx hb dX14_answer_277 (by decide) ?_
  refine lv_iconst (v := 1) hx hb dX14_answer_287 (by decide) ?_
  refine lv_goto (tgt := 292) hx hb dX14_answer_288 (by decide) ?_
  exact k14_answer_J292 C σ o1 x6 xs0 1 ho1 hw H locs ls hH hS (lv_sub hl [1, 2, 4, 0] rfl)
def w14_answer_J204 (σ : St) (o1 : Nat) (x5 : Int32) (x6 : Int32) (Q : St → Prop) : Prop := ((σ 14 0 43) = 400 → w14_answer_J249 σ o1 x5 x6 1 Q) ∧ (¬ (σ 14 0 43) = 400 → (((σ 14 0 43) = 413 → w14_answer_J249 σ o1 x5 x6 1 Q) ∧ (¬ (σ 14 0 43) = 413 → (((σ 14 0 43) = 500 → w14_answer_J249 σ o1 x5 x6 1 Q) ∧ (¬ (σ 14 0 43) = 500 → ((¬ (σ 14 0 43) = 501 → w14_answer_J249 σ o1 x5 x6 0 Q) ∧ ((σ 14 0 43) = 501 → w14_answer_J249 σ o1 x5 x6 1 Q)))))))
set_option maxHeartbeats 4000000 in
theorem k14_answer_J204 {p : Program} {l : Launch} {e : Env} {s : State} {m : MethodId} {args : Array Value} {below : List Frame} {meth : Method} {c : Code} {G : Gh} {a1 : Nat → Nat → Nat} {τ : St} {Q : St → Prop} (C : Cx p e s m args meth c cX14_answer 10 none "WebHostModel" G) (σ : St) (o1 : Nat) (x5 : Int32) (x6 : Int32) (ho1 : o1 < 16) (hw : w14_answer_J204 σ o1 x5 x6 Q) (H : Heap) (locs : List Loc) (ls : Array Slot) (hH : Hd G a1 (cmb τ σ) H) (hS : va_S (gA G) s.heap H locs) (hl : lv_has ls 10 [(0, .ref (ga G 14 0)), (1, .ref (ga G 15 o1)), (5, .int x5), (6, .int x6)]) : W p l e rmX14_answer s m args below meth c H locs 0 0 (MQ below (QVs G a1 (fun u => cmb τ u) Q) args s 0 0 (gA G)) (F0 m 204 ls []) := by
  have hx := C.1
  have hb := C.2.1
  have hown := C.2.2.2.2.2.1
  have hts := C.2.2.2.2.2.2.1
  refine lv_aload_n hx hb dX14_answer_204 rfl (lv_at hl 0 rfl) ?_
  refine g14_43 C hH q1983 dX14_answer_205 ?_
  refine lv_sipush (v := 400) hx hb dX14_answer_208 (by decide) ?_
  refine lv_icmp_eq (tgt := 244) hx hb dX14_answer_211 (by decide) (fun h => ?_) (fun h => ?_)
  · have hw := hw.1 h
    refine lv_iconst (v := 1) hx hb dX14_answer_244 (by decide) ?_
    refine lv_goto (tgt := 249) hx hb dX14_answer_245 (by decide) ?_
    exact k14_answer_J249 C σ o1 x5 x6 1 ho1 hw H locs ls hH hS (lv_sub hl [0, 1, 2, 3] rfl)
  have hw := hw.2 h
  refine lv_aload_n hx hb dX14_answer_214 rfl (lv_at hl 0 rfl) ?_
  refine g14_43 C hH q1983 dX14_answer_215 ?_
  refine lv_sipush (v := 413) hx hb dX14_answer_218 (by decide) ?_
  refine lv_icmp_eq (tgt := 244) hx hb dX14_answer_221 (by decide) (fun h => ?_) (fun h => ?_)
  · have hw := hw.1 h
    refine lv_iconst (v := 1) hx hb dX14_answer_244 (by decide) ?_
    refine lv_goto (tgt := 249) hx hb dX14_answer_245 (by decide) ?_
    exact k14_answer_J249 C σ o1 x5 x6 1 ho1 hw H locs ls hH hS (lv_sub hl [0, 1, 2, 3] rfl)
  have hw := hw.2 h
  refine lv_aload_n hx hb dX14_answer_224 rfl (lv_at hl 0 rfl) ?_
  refine g14_43 C hH q1983 dX14_answer_225 ?_
  refine lv_sipush (v := 500) hx hb dX14_answer_228 (by decide) ?_
  refine lv_icmp_eq (tgt := 244) hx hb dX14_answer_231 (by decide) (fun h => ?_) (fun h => ?_)
  · have hw := hw.1 h
    refine lv_iconst (v := 1) hx hb dX14_answer_244 (by decide) ?_
    refine lv_goto (tgt := 249) hx hb dX14_answer_245 (by decide) ?_
    exact k14_answer_J249 C σ o1 x5 x6 1 ho1 hw H locs ls hH hS (lv_sub hl [0, 1, 2, 3] rfl)
  have hw := hw.2 h
  refine lv_aload_n hx hb dX14_answer_234 rfl (lv_at hl 0 rfl) ?_
  refine g14_43 C hH q1983 dX14_answer_235 ?_
  refine lv_sipush (v := 501) hx hb dX14_answer_238 (by decide) ?_
  refine lv_icmp_ne (tgt := 248) hx hb dX14_answer_241 (by decide) (fun h => ?_) (fun h => ?_)
  · have hw := hw.1 h
    refine lv_iconst (v := 0) hx hb dX14_answer_248 (by decide) ?_
    exact k14_answer_J249 C σ o1 x5 x6 0 ho1 hw H locs ls hH hS (lv_sub hl [0, 1, 2, 3] rfl)
  have hw := hw.2 h
  refine lv_iconst (v := 1) hx hb dX14_answer_244 (by decide) ?_
  refine lv_goto (tgt := 249) hx hb dX14_answer_245 (by decide) ?_
  exact k14_answer_J249 C σ o1 x5 x6 1 ho1 hw H locs ls hH hS (lv_sub hl [0, 1, 2, 3] rfl)
def w14_answer (σ : St) (o1 : Nat) (x2 : Int32) (Q : St → Prop) : Prop := ∀ σ1, σ1 = up3 σ 14 0 42 x2 → (∃ z3, w14_answer_L7 o1 x2 Q (fun σ4 => w14_take σ4 o1 x2 (fun σ5 => (∀ σ6, σ6 = up3 σ5 14 0 43 0 → (∀ σ7, σ7 = up3 σ6 14 0 44 0 → (∀ σ8, σ8 = up3 σ7 14 0 45 0 → (∀ σ9, σ9 = up3 σ8 14 0 46 0 → (∀ σ10, σ10 = up3 σ9 14 0 47 0 → (∀ σ11, σ11 = up3 σ10 14 0 48 0 → (∀ σ12, σ12 = up3 σ11 14 0 49 0 → (∀ σ13, σ13 = up3 σ12 14 0 50 0 → (∀ σ14, σ14 = up3 σ13 14 0 51 0 → (∀ σ15, σ15 = up3 σ14 14 0 52 0 → (∀ σ16, σ16 = up3 σ15 14 0 53 0 → (∀ σ17, σ17 = up3 σ16 14 0 54 0 → (∀ σ18, σ18 = up3 σ17 14 0 55 0 → (w14_lineEnd σ18 0 (fun r19 => (w14_shown σ18 0 r19 (fun r20 => (w14_requestLine σ18 0 r20 (fun r21 σ21 => (∃ z25, w14_answer_L127 o1 r21 (-1) Q (fun σ26 x4_26 => (¬ x4_26 = 0 → (w14_chosen σ26 (fun r27 σ27 => (w14_answer_J204 σ27 o1 r21 r27 Q)))) ∧ (x4_26 = 0 → (∀ σ33, σ33 = up3 σ26 14 0 43 400 → (w14_answer_J204 σ33 o1 r21 (-1) Q)))) z25 σ21 r19 r21)))))))))))))))))))))) z3 σ1 0)
set_option maxHeartbeats 4000000 in
theorem m14_answer (l : Launch) (G : Gh) (a1 : Nat → Nat → Nat) (τ : St) (σ : St) (o1 : Nat) (x2 : Int32) (ho1 : o1 < 16) (Q : St → Prop) (hw : w14_answer σ o1 x2 Q) : Met l yX14_answer (ws_ yX14_answer cX14_answer 10 none) rmX14_answer (PcS G a1 (cmb τ σ) [.ref (ga G 14 0), .ref (ga G 15 o1), .int x2]) (QVs G a1 (fun u => cmb τ u) Q) 0 0 (gA G) := by
  refine met_w (by decide) (Nat.le_of_ble_eq_true rfl) ?_
  intro p e s m below meth c ls C hH hS hl
  have C : Cx p e s m _ meth c cX14_answer 10 none "WebHostModel" G := C
  have hl : lv_has ls 10 [(0, .ref (ga G 14 0)), (1, .ref (ga G 15 o1)), (2, .int x2)] := hl
  have hx := C.1
  have hb := C.2.1
  have hown := C.2.2.2.2.2.1
  have hts := C.2.2.2.2.2.2.1
  obtain ⟨locs, hlocs⟩ : ∃ z : List Loc, z = [] := ⟨_, rfl⟩
  obtain ⟨H, hHe⟩ : ∃ z : Heap, z = s.heap := ⟨_, rfl⟩
  have hH : Hd G a1 (cmb τ σ) H := by rw [hHe]; exact hH
  have hS : va_S (gA G) s.heap H locs := by rw [hHe, hlocs]; exact hS
  refine W.heap0 hHe.symm hlocs.symm ?_
  refine lv_aload_n hx hb dX14_answer_0 rfl (lv_at hl 0 rfl) ?_
  refine lv_iload_n hx hb dX14_answer_1 rfl (lv_at hl 2 rfl) ?_
  refine p14_42 C hH hS q1982 dX14_answer_2 (fun σ1 e1 H locs hH hS => ?_)
  have hw := hw σ1 e1
  refine lv_iconst (v := 0) hx hb dX14_answer_5 (by decide) ?_
  refine lv_istore_n (lv' := [(3, .int 0), (0, .ref (ga G 14 0)), (1, .ref (ga G 15 o1)), (2, .int x2)]) hx hb dX14_answer_6 rfl hl (by decide) rfl (fun ls hl => ?_)
  obtain ⟨n3, hw⟩ := hw
  refine k14_answer_L7 C o1 x2 ho1 n3 σ1 0 hw H locs ls hH hS (lv_sub hl [1, 2, 3, 0] rfl) (fun σ4 hw H locs ls hH hS hl => ?_)
  refine lv_aload_n hx hb dX14_answer_30 rfl (lv_at hl 0 rfl) ?_
  refine lv_aload_n hx hb dX14_answer_31 rfl (lv_at hl 1 rfl) ?_
  refine lv_iload_n hx hb dX14_answer_32 rfl (lv_at hl 2 rfl) ?_
  refine kc_v (rn_v (As := [.ref (ga G 15 o1), .int x2]) (rest := []) C hH hS (by decide) rfl (by decide) (m14_take l G a1 τ σ4 o1 x2 ho1 _ hw) (cwV 2 hts (lw_V q2444 q2446 qs129 q171 q2447) rfl rfl rfl kX14_take ⟨Nat.le_of_ble_eq_true rfl, Nat.le_of_ble_eq_true rfl⟩) rfl hl.1 rfl (Nat.le_of_ble_eq_true rfl) dX14_answer_33 ⟨Nat.le_of_ble_eq_true rfl, Nat.le_of_ble_eq_true rfl⟩) hS (fun σ5 H locs hw hH hS => ?_)
  refine lv_aload_n hx hb dX14_answer_36 rfl (lv_at hl 0 rfl) ?_
  refine lv_iconst (v := 0) hx hb dX14_answer_37 (by decide) ?_
  refine p14_43 C hH hS q1983 dX14_answer_38 (fun σ6 e6 H locs hH hS => ?_)
  have hw := hw σ6 e6
  refine lv_aload_n hx hb dX14_answer_41 rfl (lv_at hl 0 rfl) ?_
  refine lv_iconst (v := 0) hx hb dX14_answer_42 (by decide) ?_
  refine p14_44 C hH hS (Or.inl rfl) q1984 dX14_answer_43 (fun σ7 e7 H locs hH hS => ?_)
  have hw := hw σ7 e7
  refine lv_aload_n hx hb dX14_answer_46 rfl (lv_at hl 0 rfl) ?_
  refine lv_iconst (v := 0) hx hb dX14_answer_47 (by decide) ?_
  refine p14_45 C hH hS (Or.inl rfl) q1985 dX14_answer_48 (fun σ8 e8 H locs hH hS => ?_)
  have hw := hw σ8 e8
  refine lv_aload_n hx hb dX14_answer_51 rfl (lv_at hl 0 rfl) ?_
  refine lv_iconst (v := 0) hx hb dX14_answer_52 (by decide) ?_
  refine p14_46 C hH hS (Or.inl rfl) q1986 dX14_answer_53 (fun σ9 e9 H locs hH hS => ?_)
  have hw := hw σ9 e9
  refine lv_aload_n hx hb dX14_answer_56 rfl (lv_at hl 0 rfl) ?_
  refine lv_iconst (v := 0) hx hb dX14_answer_57 (by decide) ?_
  refine p14_47 C hH hS (Or.inl rfl) q1987 dX14_answer_58 (fun σ10 e10 H locs hH hS => ?_)
  have hw := hw σ10 e10
  refine lv_aload_n hx hb dX14_answer_61 rfl (lv_at hl 0 rfl) ?_
  refine lv_iconst (v := 0) hx hb dX14_answer_62 (by decide) ?_
  refine p14_48 C hH hS q1988 dX14_answer_63 (fun σ11 e11 H locs hH hS => ?_)
  have hw := hw σ11 e11
  refine lv_aload_n hx hb dX14_answer_66 rfl (lv_at hl 0 rfl) ?_
  refine lv_iconst (v := 0) hx hb dX14_answer_67 (by decide) ?_
  refine p14_49 C hH hS q1989 dX14_answer_68 (fun σ12 e12 H locs hH hS => ?_)
  have hw := hw σ12 e12
  refine lv_aload_n hx hb dX14_answer_71 rfl (lv_at hl 0 rfl) ?_
  refine lv_iconst (v := 0) hx hb dX14_answer_72 (by decide) ?_
  refine p14_50 C hH hS q1990 dX14_answer_73 (fun σ13 e13 H locs hH hS => ?_)
  have hw := hw σ13 e13
  refine lv_aload_n hx hb dX14_answer_76 rfl (lv_at hl 0 rfl) ?_
  refine lv_iconst (v := 0) hx hb dX14_answer_77 (by decide) ?_
  refine p14_51 C hH hS q1991 dX14_answer_78 (fun σ14 e14 H locs hH hS => ?_)
  have hw := hw σ14 e14
  refine lv_aload_n hx hb dX14_answer_81 rfl (lv_at hl 0 rfl) ?_
  refine lv_iconst (v := 0) hx hb dX14_answer_82 (by decide) ?_
  refine p14_52 C hH hS (Or.inl rfl) q1992 dX14_answer_83 (fun σ15 e15 H locs hH hS => ?_)
  have hw := hw σ15 e15
  refine lv_aload_n hx hb dX14_answer_86 rfl (lv_at hl 0 rfl) ?_
  refine lv_iconst (v := 0) hx hb dX14_answer_87 (by decide) ?_
  refine p14_53 C hH hS (Or.inl rfl) q1993 dX14_answer_88 (fun σ16 e16 H locs hH hS => ?_)
  have hw := hw σ16 e16
  refine lv_aload_n hx hb dX14_answer_91 rfl (lv_at hl 0 rfl) ?_
  refine lv_iconst (v := 0) hx hb dX14_answer_92 (by decide) ?_
  refine p14_54 C hH hS (Or.inl rfl) q1994 dX14_answer_93 (fun σ17 e17 H locs hH hS => ?_)
  have hw := hw σ17 e17
  refine lv_aload_n hx hb dX14_answer_96 rfl (lv_at hl 0 rfl) ?_
  refine lv_iconst (v := 0) hx hb dX14_answer_97 (by decide) ?_
  refine p14_55 C hH hS (Or.inl rfl) q1995 dX14_answer_98 (fun σ18 e18 H locs hH hS => ?_)
  have hw := hw σ18 e18
  refine lv_aload_n hx hb dX14_answer_101 rfl (lv_at hl 0 rfl) ?_
  refine lv_iconst (v := 0) hx hb dX14_answer_102 (by decide) ?_
  refine kc_ip (rn_vp (As := [.int 0]) (rest := []) C hH hS (by decide) rfl (by decide) (m14_lineEnd l G a1 τ σ18 H 0 _ hw) (cwV 1 hts (lw_V q2463 q2465 qs133 q171 q2466) rfl rfl rfl kX14_lineEnd ⟨Nat.le_of_ble_eq_true rfl, Nat.le_of_ble_eq_true rfl⟩) rfl hl.1 rfl (Nat.le_of_ble_eq_true rfl) dX14_answer_103 ⟨Nat.le_of_ble_eq_true rfl, Nat.le_of_ble_eq_true rfl⟩) hS (fun r19 locs hw hS => ?_)
  refine lv_istore_n (lv' := [(3, .int r19), (0, .ref (ga G 14 0)), (1, .ref (ga G 15 o1)), (2, .int x2)]) hx hb dX14_answer_106 rfl hl (by decide) rfl (fun ls hl => ?_)
  refine lv_aload_n hx hb dX14_answer_107 rfl (lv_at hl 1 rfl) ?_
  refine lv_iconst (v := 0) hx hb dX14_answer_108 (by decide) ?_
  refine lv_aload_n hx hb dX14_answer_109 rfl (lv_at hl 1 rfl) ?_
  refine lv_iconst (v := 0) hx hb dX14_answer_110 (by decide) ?_
  refine lv_iload_n hx hb dX14_answer_111 rfl (lv_at hl 0 rfl) ?_
  refine kc_ip (rn_vp (As := [.int 0, .int r19]) (rest := [.int 0, .ref (ga G 14 0)]) C hH hS (by decide) rfl (by decide) (m14_shown l G a1 τ σ18 H 0 r19 _ hw) (cwV 2 hts (lw_V q2467 q2469 qs134 q171 q2470) rfl rfl rfl kX14_shown ⟨Nat.le_of_ble_eq_true rfl, Nat.le_of_ble_eq_true rfl⟩) rfl hl.1 rfl (Nat.le_of_ble_eq_true rfl) dX14_answer_112 ⟨Nat.le_of_ble_eq_true rfl, Nat.le_of_ble_eq_true rfl⟩) hS (fun r20 locs hw hS => ?_)
  refine kc_i (rn_v (As := [.int 0, .int r20]) (rest := []) C hH hS (by decide) rfl (by decide) (m14_requestLine l G a1 τ σ18 0 r20 _ hw) (cwV 2 hts (lw_V q2471 q2473 qs135 q171 q2474) rfl rfl rfl kX14_requestLine ⟨Nat.le_of_ble_eq_true rfl, Nat.le_of_ble_eq_true rfl⟩) rfl hl.1 rfl (Nat.le_of_ble_eq_true rfl) dX14_answer_115 ⟨Nat.le_of_ble_eq_true rfl, Nat.le_of_ble_eq_true rfl⟩) hS (fun r21 σ21 H locs hw hH hS => ?_)
  refine lv_istore (lv' := [(4, .int r21), (3, .int r19), (0, .ref (ga G 14 0)), (1, .ref (ga G 15 o1)), (2, .int x2)]) hx hb dX14_answer_118 hl (by decide) rfl (fun ls hl => ?_)
  refine lv_iload hx hb dX14_answer_120 (lv_at hl 0 rfl) ?_
  refine lv_istore (lv' := [(5, .int r21), (4, .int r21), (3, .int r19), (0, .ref (ga G 14 0)), (1, .ref (ga G 15 o1)), (2, .int x2)]) hx hb dX14_answer_122 hl (by decide) rfl (fun ls hl => ?_)
  refine lv_iconst (v := (-1)) hx hb dX14_answer_124 (by decide) ?_
  refine lv_istore (lv' := [(6, .int (-1)), (5, .int r21), (4, .int r21), (3, .int r19), (0, .ref (ga G 14 0)), (1, .ref (ga G 15 o1)), (2, .int x2)]) hx hb dX14_answer_125 hl (by decide) rfl (fun ls hl => ?_)
  obtain ⟨n25, hw⟩ := hw
  refine k14_answer_L127 C o1 r21 (-1) ho1 n25 σ21 r19 r21 hw H locs ls hH hS (lv_sub hl [4, 5, 3, 2, 1, 0] rfl) (fun σ26 x4_26 hw H locs ls hH hS hl => ?_)
  refine lv_iload hx hb dX14_answer_183 (lv_at hl 2 rfl) ?_
  refine lv_if_ne (tgt := 198) hx hb dX14_answer_185 (by decide) (fun h => ?_) (fun h => ?_)
  · have hw := hw.1 h
    refine lv_aload_n hx hb dX14_answer_198 rfl (lv_at hl 0 rfl) ?_
    refine kc_i (rn_v (As := []) (rest := []) C hH hS (by decide) rfl (by decide) (m14_chosen l G a1 τ σ26 _ hw) (cwV 0 hts (lw_V q2525 q2527 qs142 q171 q2528) rfl rfl rfl kX14_chosen ⟨Nat.le_of_ble_eq_true rfl, Nat.le_of_ble_eq_true rfl⟩) rfl hl.1 rfl (Nat.le_of_ble_eq_true rfl) dX14_answer_199 ⟨Nat.le_of_ble_eq_true rfl, Nat.le_of_ble_eq_true rfl⟩) hS (fun r27 σ27 H locs hw hH hS => ?_)
    refine lv_istore (lv' := [(6, .int r27), (0, .ref (ga G 14 0)), (1, .ref (ga G 15 o1)), (4, .int x4_26), (5, .int r21)]) hx hb dX14_answer_202 hl (by decide) rfl (fun ls hl => ?_)
    exact k14_answer_J204 C σ27 o1 r21 r27 ho1 hw H locs ls hH hS (lv_sub hl [1, 2, 4, 0] rfl)
  have hw := hw.2 h
  refine lv_aload_n hx hb dX14_answer_188 rfl (lv_at hl 0 rfl) ?_
  refine lv_sipush (v := 400) hx hb dX14_answer_189 (by decide) ?_
  refine p14_43 C hH hS q1983 dX14_answer_192 (fun σ33 e33 H locs hH hS => ?_)
  have hw := hw σ33 e33
  refine lv_goto (tgt := 204) hx hb dX14_answer_195 (by decide) ?_
  exact k14_answer_J204 C σ33 o1 r21 (-1) ho1 hw H locs ls hH hS (lv_sub hl [0, 1, 3, 4] rfl)
/-! WebHostModel.refuse(LWebHostModel$Connection;)V -/
abbrev cX14_refuse : ByteArray := prog_17_method_81_code
def yX14_refuse : MethodName := ⟨RX14, "refuse", "(LWebHostModel$Connection;)V"⟩
theorem dX14_refuse_0 : decode cX14_refuse 0 = .ok (.aload_n 0, 1) := by decide +kernel
theorem dX14_refuse_1 : decode cX14_refuse 1 = .ok (.aload_n 1, 1) := by decide +kernel
theorem dX14_refuse_2 : decode cX14_refuse 2 = .ok (.aload_n 1, 1) := by decide +kernel
theorem dX14_refuse_3 : decode cX14_refuse 3 = .ok (.invokevirtual 612, 3) := by decide +kernel
theorem dX14_refuse_6 : decode cX14_refuse 6 = .ok (.invokevirtual 615, 3) := by decide +kernel
theorem dX14_refuse_9 : decode cX14_refuse 9 = .ok (.aload_n 0, 1) := by decide +kernel
theorem dX14_refuse_10 : decode cX14_refuse 10 = .ok (.iconst 0, 1) := by decide +kernel
theorem dX14_refuse_11 : decode cX14_refuse 11 = .ok (.putfield 634, 3) := by decide +kernel
theorem dX14_refuse_14 : decode cX14_refuse 14 = .ok (.aload_n 0, 1) := by decide +kernel
theorem dX14_refuse_15 : decode cX14_refuse 15 = .ok (.sipush 431, 3) := by decide +kernel
theorem dX14_refuse_18 : decode cX14_refuse 18 = .ok (.putfield 637, 3) := by decide +kernel
theorem dX14_refuse_21 : decode cX14_refuse 21 = .ok (.aload_n 0, 1) := by decide +kernel
theorem dX14_refuse_22 : decode cX14_refuse 22 = .ok (.aload_n 1, 1) := by decide +kernel
theorem dX14_refuse_23 : decode cX14_refuse 23 = .ok (.iconst (-1), 1) := by decide +kernel
theorem dX14_refuse_24 : decode cX14_refuse 24 = .ok (.iconst 1, 1) := by decide +kernel
theorem dX14_refuse_25 : decode cX14_refuse 25 = .ok (.invokevirtual 640, 3) := by decide +kernel
theorem dX14_refuse_28 : decode cX14_refuse 28 = .ok (.return_, 1) := by decide +kernel
def rmX14_refuse : Room := { frames := 7, cells := 0, slots := 0, locals := 155 }
theorem kX14_refuse : yX14_refuse.cls = "WebHostModel" ∧ yX14_refuse.cls ≠ "java/lang/invoke/MethodHandle" ∧ yX14_refuse.cls ≠ "java/lang/invoke/VarHandle" ∧ (parseMethodDescriptor yX14_refuse.desc).map (fun d => d.parameters.length) = some 1 := by decide +kernel
def w14_refuse (σ : St) (o1 : Nat) (Q : St → Prop) : Prop := w15_held σ o1 (fun r1 => (w14_take σ o1 r1 (fun σ2 => (∀ σ3, σ3 = up3 σ2 14 0 44 0 → (∀ σ4, σ4 = up3 σ3 14 0 43 431 → (w14_make σ4 o1 (-1) 1 (fun σ5 => (Q σ5))))))))
set_option maxHeartbeats 4000000 in
theorem m14_refuse (l : Launch) (G : Gh) (a1 : Nat → Nat → Nat) (τ : St) (σ : St) (o1 : Nat) (ho1 : o1 < 16) (Q : St → Prop) (hw : w14_refuse σ o1 Q) : Met l yX14_refuse (ws_ yX14_refuse cX14_refuse 2 none) rmX14_refuse (PcS G a1 (cmb τ σ) [.ref (ga G 14 0), .ref (ga G 15 o1)]) (QVs G a1 (fun u => cmb τ u) Q) 0 0 (gA G) := by
  refine met_w (by decide) (Nat.le_of_ble_eq_true rfl) ?_
  intro p e s m below meth c ls C hH hS hl
  have C : Cx p e s m _ meth c cX14_refuse 2 none "WebHostModel" G := C
  have hl : lv_has ls 2 [(0, .ref (ga G 14 0)), (1, .ref (ga G 15 o1))] := hl
  have hx := C.1
  have hb := C.2.1
  have hown := C.2.2.2.2.2.1
  have hts := C.2.2.2.2.2.2.1
  obtain ⟨locs, hlocs⟩ : ∃ z : List Loc, z = [] := ⟨_, rfl⟩
  obtain ⟨H, hHe⟩ : ∃ z : Heap, z = s.heap := ⟨_, rfl⟩
  have hH : Hd G a1 (cmb τ σ) H := by rw [hHe]; exact hH
  have hS : va_S (gA G) s.heap H locs := by rw [hHe, hlocs]; exact hS
  refine W.heap0 hHe.symm hlocs.symm ?_
  refine lv_aload_n hx hb dX14_refuse_0 rfl (lv_at hl 0 rfl) ?_
  refine lv_aload_n hx hb dX14_refuse_1 rfl (lv_at hl 1 rfl) ?_
  refine lv_aload_n hx hb dX14_refuse_2 rfl (lv_at hl 1 rfl) ?_
  refine kc_ip (rn_vp (As := []) (rest := [.ref (ga G 15 o1), .ref (ga G 14 0)]) C hH hS (by decide) rfl ho1 (m15_held l G a1 τ σ H o1 ho1 _ hw) (cwV 0 hts (lw_V q2443 q2236 q2237 q172 q2238) rfl rfl rfl kX15_held ⟨Nat.le_of_ble_eq_true rfl, Nat.le_of_ble_eq_true rfl⟩) rfl hl.1 rfl (Nat.le_of_ble_eq_true rfl) dX14_refuse_3 ⟨Nat.le_of_ble_eq_true rfl, Nat.le_of_ble_eq_true rfl⟩) hS (fun r1 locs hw hS => ?_)
  refine kc_v (rn_v (As := [.ref (ga G 15 o1), .int r1]) (rest := []) C hH hS (by decide) rfl (by decide) (m14_take l G a1 τ σ o1 r1 ho1 _ hw) (cwV 2 hts (lw_V q2444 q2446 qs129 q171 q2447) rfl rfl rfl kX14_take ⟨Nat.le_of_ble_eq_true rfl, Nat.le_of_ble_eq_true rfl⟩) rfl hl.1 rfl (Nat.le_of_ble_eq_true rfl) dX14_refuse_6 ⟨Nat.le_of_ble_eq_true rfl, Nat.le_of_ble_eq_true rfl⟩) hS (fun σ2 H locs hw hH hS => ?_)
  refine lv_aload_n hx hb dX14_refuse_9 rfl (lv_at hl 0 rfl) ?_
  refine lv_iconst (v := 0) hx hb dX14_refuse_10 (by decide) ?_
  refine p14_44 C hH hS (Or.inl rfl) q1984 dX14_refuse_11 (fun σ3 e3 H locs hH hS => ?_)
  have hw := hw σ3 e3
  refine lv_aload_n hx hb dX14_refuse_14 rfl (lv_at hl 0 rfl) ?_
  refine lv_sipush (v := 431) hx hb dX14_refuse_15 (by decide) ?_
  refine p14_43 C hH hS q1983 dX14_refuse_18 (fun σ4 e4 H locs hH hS => ?_)
  have hw := hw σ4 e4
  refine lv_aload_n hx hb dX14_refuse_21 rfl (lv_at hl 0 rfl) ?_
  refine lv_aload_n hx hb dX14_refuse_22 rfl (lv_at hl 1 rfl) ?_
  refine lv_iconst (v := (-1)) hx hb dX14_refuse_23 (by decide) ?_
  refine lv_iconst (v := 1) hx hb dX14_refuse_24 (by decide) ?_
  refine kc_v (rn_v (As := [.ref (ga G 15 o1), .int (-1), .int 1]) (rest := []) C hH hS (by decide) rfl (by decide) (m14_make l G a1 τ σ4 o1 (-1) 1 ho1 _ hw) (cwV 3 hts (lw_V q2549 q2551 qs146 q171 q2552) rfl rfl rfl kX14_make ⟨Nat.le_of_ble_eq_true rfl, Nat.le_of_ble_eq_true rfl⟩) rfl hl.1 rfl (Nat.le_of_ble_eq_true rfl) dX14_refuse_25 ⟨Nat.le_of_ble_eq_true rfl, Nat.le_of_ble_eq_true rfl⟩) hS (fun σ5 H locs hw hH hS => ?_)
  exact rt_v C hH hS hw dX14_refuse_28
/-! WebHost$Requests.kept(LWebHost$Inbox;LWebHost$Answer;ILjava/lang/String;Z)I -/
abbrev cX9_kept : ByteArray := prog_11_method_20_code
def yX9_kept : MethodName := ⟨RX9, "kept", "(LWebHost$Inbox;LWebHost$Answer;ILjava/lang/String;Z)I"⟩
theorem dX9_kept_0 : decode cX9_kept 0 = .ok (.aload_n 1, 1) := by decide +kernel
theorem dX9_kept_1 : decode cX9_kept 1 = .ok (.aload_n 0, 1) := by decide +kernel
theorem dX9_kept_2 : decode cX9_kept 2 = .ok (.getfield 150, 3) := by decide +kernel
theorem dX9_kept_5 : decode cX9_kept 5 = .ok (.putfield 215, 3) := by decide +kernel
theorem dX9_kept_8 : decode cX9_kept 8 = .ok (.aload_n 0, 1) := by decide +kernel
theorem dX9_kept_9 : decode cX9_kept 9 = .ok (.aload_n 2, 1) := by decide +kernel
theorem dX9_kept_10 : decode cX9_kept 10 = .ok (.iload_n 3, 1) := by decide +kernel
theorem dX9_kept_11 : decode cX9_kept 11 = .ok (.aload 4, 2) := by decide +kernel
theorem dX9_kept_13 : decode cX9_kept 13 = .ok (.iload 5, 2) := by decide +kernel
theorem dX9_kept_15 : decode cX9_kept 15 = .ok (.invokevirtual 46, 3) := by decide +kernel
theorem dX9_kept_18 : decode cX9_kept 18 = .ok (.iload 5, 2) := by decide +kernel
theorem dX9_kept_20 : decode cX9_kept 20 = .ok (.ifCond .eq 7, 3) := by decide +kernel
theorem dX9_kept_23 : decode cX9_kept 23 = .ok (.iconst 2, 1) := by decide +kernel
theorem dX9_kept_24 : decode cX9_kept 24 = .ok (.goto 4, 3) := by decide +kernel
theorem dX9_kept_27 : decode cX9_kept 27 = .ok (.iconst 1, 1) := by decide +kernel
theorem dX9_kept_28 : decode cX9_kept 28 = .ok (.ireturn, 1) := by decide +kernel
def rmX9_kept : Room := { frames := 8, cells := 1, slots := 66047, locals := 175 }
theorem kX9_kept : yX9_kept.cls = "WebHost$Requests" ∧ yX9_kept.cls ≠ "java/lang/invoke/MethodHandle" ∧ yX9_kept.cls ≠ "java/lang/invoke/VarHandle" ∧ (parseMethodDescriptor yX9_kept.desc).map (fun d => d.parameters.length) = some 5 := by decide +kernel
def w9_kept (σ : St) (o1 : Nat) (o2 : Nat) (x3 : Int32) (t4 : Nat) (x5 : Int32) (Q : Int32 → St → Prop) : Prop := ∀ σ1, σ1 = up3 σ 12 o1 3 (σ 9 0 9) → (w9_plain σ1 o2 x3 t4 x5 (fun σ2 => ((x5 = 0 → Q 1 σ2) ∧ (¬ x5 = 0 → Q 2 σ2))))
set_option maxHeartbeats 4000000 in
theorem m9_kept (l : Launch) (G : Gh) (a1 : Nat → Nat → Nat) (τ : St) (σ : St) (o1 : Nat) (o2 : Nat) (x3 : Int32) (t4 : Nat) (x5 : Int32) (ho1 : o1 < 16) (ho2 : o2 < 16) (ht4 : t4 < nS) (Q : Int32 → St → Prop) (hw : w9_kept σ o1 o2 x3 t4 x5 Q) : Met l yX9_kept (ws_ yX9_kept cX9_kept 6 (some .int)) rmX9_kept (PcS G a1 (cmb σ τ) [.ref (ga G 9 0), .ref (ga G 12 o1), .ref (ga G 13 o2), .int x3, .ref (gs G t4), .int x5]) (QIa G (fun u => cmb u τ) Q) 1 66047 (gA G) := by
  refine met_w (by decide) (Nat.le_of_ble_eq_true rfl) ?_
  intro p e s m below meth c ls C hH hS hl
  have C : Cx p e s m _ meth c cX9_kept 6 (some .int) "WebHost$Requests" G := C
  have hl : lv_has ls 6 [(0, .ref (ga G 9 0)), (1, .ref (ga G 12 o1)), (2, .ref (ga G 13 o2)), (3, .int x3), (4, .ref (gs G t4)), (5, .int x5)] := hl
  have hx := C.1
  have hb := C.2.1
  have hown := C.2.2.2.2.2.1
  have hts := C.2.2.2.2.2.2.1
  obtain ⟨locs, hlocs⟩ : ∃ z : List Loc, z = [] := ⟨_, rfl⟩
  obtain ⟨H, hHe⟩ : ∃ z : Heap, z = s.heap := ⟨_, rfl⟩
  have hH : Hd G a1 (cmb σ τ) H := by rw [hHe]; exact hH
  have hS : va_S (gA G) s.heap H locs := by rw [hHe, hlocs]; exact hS
  refine W.heap0 hHe.symm hlocs.symm ?_
  refine lv_aload_n hx hb dX9_kept_0 rfl (lv_at hl 1 rfl) ?_
  refine lv_aload_n hx hb dX9_kept_1 rfl (lv_at hl 0 rfl) ?_
  refine g9_9 C hH q457 dX9_kept_2 ?_
  refine p12_3 C hH hS ho1 q583 dX9_kept_5 (fun σ1 e1 H locs hH hS => ?_)
  have hw := hw σ1 e1
  refine lv_aload_n hx hb dX9_kept_8 rfl (lv_at hl 0 rfl) ?_
  refine lv_aload_n hx hb dX9_kept_9 rfl (lv_at hl 2 rfl) ?_
  refine lv_iload_n hx hb dX9_kept_10 rfl (lv_at hl 3 rfl) ?_
  refine lv_aload hx hb dX9_kept_11 (lv_at hl 4 rfl) ?_
  refine lv_iload hx hb dX9_kept_13 (lv_at hl 5 rfl) ?_
  refine kc_va (rn_v (As := [.ref (ga G 13 o2), .int x3, .ref (gs G t4), .int x5]) (rest := []) C hH hS (by decide) rfl (by decide) (m9_plain l G a1 τ σ1 o2 x3 t4 x5 ho2 ht4 _ hw) (cwV 4 hts (lw_V q1254 q1256 qs48 q166 q1257) rfl rfl rfl kX9_plain ⟨Nat.le_of_ble_eq_true rfl, Nat.le_of_ble_eq_true rfl⟩) rfl hl.1 rfl (Nat.le_of_ble_eq_true rfl) dX9_kept_15 ⟨Nat.le_of_ble_eq_true rfl, Nat.le_of_ble_eq_true rfl⟩) hS (fun σ2 a2 H locs hw hH hS => ?_)
  refine W.cs (cells' := 1) (slots' := 66047) rfl rfl ?_
  refine lv_iload hx hb dX9_kept_18 (lv_at hl 5 rfl) ?_
  refine lv_if_eq (tgt := 27) hx hb dX9_kept_20 (by decide) (fun h => ?_) (fun h => ?_)
  · have hw := hw.1 h
    refine lv_iconst (v := 1) hx hb dX9_kept_27 (by decide) ?_
    exact rt_ia C rfl hH hS hw dX9_kept_28
  have hw := hw.2 h
  refine lv_iconst (v := 2) hx hb dX9_kept_23 (by decide) ?_
  refine lv_goto (tgt := 28) hx hb dX9_kept_24 (by decide) ?_
  exact rt_ia C rfl hH hS hw dX9_kept_28
/-! WebHost$Requests.last(LWebHost$Answer;ILjava/lang/String;)I -/
abbrev cX9_last : ByteArray := prog_11_method_19_code
def yX9_last : MethodName := ⟨RX9, "last", "(LWebHost$Answer;ILjava/lang/String;)I"⟩
theorem dX9_last_0 : decode cX9_last 0 = .ok (.aload_n 0, 1) := by decide +kernel
theorem dX9_last_1 : decode cX9_last 1 = .ok (.aload_n 1, 1) := by decide +kernel
theorem dX9_last_2 : decode cX9_last 2 = .ok (.iload_n 2, 1) := by decide +kernel
theorem dX9_last_3 : decode cX9_last 3 = .ok (.aload_n 3, 1) := by decide +kernel
theorem dX9_last_4 : decode cX9_last 4 = .ok (.iconst 1, 1) := by decide +kernel
theorem dX9_last_5 : decode cX9_last 5 = .ok (.invokevirtual 46, 3) := by decide +kernel
theorem dX9_last_8 : decode cX9_last 8 = .ok (.iconst 2, 1) := by decide +kernel
theorem dX9_last_9 : decode cX9_last 9 = .ok (.ireturn, 1) := by decide +kernel
def rmX9_last : Room := { frames := 8, cells := 1, slots := 66047, locals := 175 }
theorem kX9_last : yX9_last.cls = "WebHost$Requests" ∧ yX9_last.cls ≠ "java/lang/invoke/MethodHandle" ∧ yX9_last.cls ≠ "java/lang/invoke/VarHandle" ∧ (parseMethodDescriptor yX9_last.desc).map (fun d => d.parameters.length) = some 3 := by decide +kernel
def w9_last (σ : St) (o1 : Nat) (x2 : Int32) (t3 : Nat) (Q : Int32 → St → Prop) : Prop := w9_plain σ o1 x2 t3 1 (fun σ1 => (Q 2 σ1))
set_option maxHeartbeats 4000000 in
theorem m9_last (l : Launch) (G : Gh) (a1 : Nat → Nat → Nat) (τ : St) (σ : St) (o1 : Nat) (x2 : Int32) (t3 : Nat) (ho1 : o1 < 16) (ht3 : t3 < nS) (Q : Int32 → St → Prop) (hw : w9_last σ o1 x2 t3 Q) : Met l yX9_last (ws_ yX9_last cX9_last 4 (some .int)) rmX9_last (PcS G a1 (cmb σ τ) [.ref (ga G 9 0), .ref (ga G 13 o1), .int x2, .ref (gs G t3)]) (QIa G (fun u => cmb u τ) Q) 1 66047 (gA G) := by
  refine met_w (by decide) (Nat.le_of_ble_eq_true rfl) ?_
  intro p e s m below meth c ls C hH hS hl
  have C : Cx p e s m _ meth c cX9_last 4 (some .int) "WebHost$Requests" G := C
  have hl : lv_has ls 4 [(0, .ref (ga G 9 0)), (1, .ref (ga G 13 o1)), (2, .int x2), (3, .ref (gs G t3))] := hl
  have hx := C.1
  have hb := C.2.1
  have hown := C.2.2.2.2.2.1
  have hts := C.2.2.2.2.2.2.1
  obtain ⟨locs, hlocs⟩ : ∃ z : List Loc, z = [] := ⟨_, rfl⟩
  obtain ⟨H, hHe⟩ : ∃ z : Heap, z = s.heap := ⟨_, rfl⟩
  have hH : Hd G a1 (cmb σ τ) H := by rw [hHe]; exact hH
  have hS : va_S (gA G) s.heap H locs := by rw [hHe, hlocs]; exact hS
  refine W.heap0 hHe.symm hlocs.symm ?_
  refine lv_aload_n hx hb dX9_last_0 rfl (lv_at hl 0 rfl) ?_
  refine lv_aload_n hx hb dX9_last_1 rfl (lv_at hl 1 rfl) ?_
  refine lv_iload_n hx hb dX9_last_2 rfl (lv_at hl 2 rfl) ?_
  refine lv_aload_n hx hb dX9_last_3 rfl (lv_at hl 3 rfl) ?_
  refine lv_iconst (v := 1) hx hb dX9_last_4 (by decide) ?_
  refine kc_va (rn_v (As := [.ref (ga G 13 o1), .int x2, .ref (gs G t3), .int 1]) (rest := []) C hH hS (by decide) rfl (by decide) (m9_plain l G a1 τ σ o1 x2 t3 1 ho1 ht3 _ hw) (cwV 4 hts (lw_V q1254 q1256 qs48 q166 q1257) rfl rfl rfl kX9_plain ⟨Nat.le_of_ble_eq_true rfl, Nat.le_of_ble_eq_true rfl⟩) rfl hl.1 rfl (Nat.le_of_ble_eq_true rfl) dX9_last_5 ⟨Nat.le_of_ble_eq_true rfl, Nat.le_of_ble_eq_true rfl⟩) hS (fun σ1 a1 H locs hw hH hS => ?_)
  refine W.cs (cells' := 1) (slots' := 66047) rfl rfl ?_
  refine lv_iconst (v := 2) hx hb dX9_last_8 (by decide) ?_
  exact rt_ia C rfl hH hS hw dX9_last_9
