/-! walks -/
set_option maxRecDepth 100000
/-! WebHost$Connection.sendPart(I)V -/
abbrev cX11_sendPart : ByteArray := prog_3_method_9_code
def yX11_sendPart : MethodName := ⟨RX11, "sendPart", "(I)V"⟩
theorem dX11_sendPart_0 : decode cX11_sendPart 0 = .ok (.iload_n 1, 1) := by decide +kernel
theorem dX11_sendPart_1 : decode cX11_sendPart 1 = .ok (.aload_n 0, 1) := by decide +kernel
theorem dX11_sendPart_2 : decode cX11_sendPart 2 = .ok (.invokevirtual 76, 3) := by decide +kernel
theorem dX11_sendPart_5 : decode cX11_sendPart 5 = .ok (.aload_n 0, 1) := by decide +kernel
theorem dX11_sendPart_6 : decode cX11_sendPart 6 = .ok (.getfield 60, 3) := by decide +kernel
theorem dX11_sendPart_9 : decode cX11_sendPart 9 = .ok (.isub, 1) := by decide +kernel
theorem dX11_sendPart_10 : decode cX11_sendPart 10 = .ok (.invokestatic 91, 3) := by decide +kernel
theorem dX11_sendPart_13 : decode cX11_sendPart 13 = .ok (.istore_n 2, 1) := by decide +kernel
theorem dX11_sendPart_14 : decode cX11_sendPart 14 = .ok (.iload_n 1, 1) := by decide +kernel
theorem dX11_sendPart_15 : decode cX11_sendPart 15 = .ok (.iload_n 2, 1) := by decide +kernel
theorem dX11_sendPart_16 : decode cX11_sendPart 16 = .ok (.if_icmp .le 7, 3) := by decide +kernel
theorem dX11_sendPart_19 : decode cX11_sendPart 19 = .ok (.iconst 1, 1) := by decide +kernel
theorem dX11_sendPart_20 : decode cX11_sendPart 20 = .ok (.goto 4, 3) := by decide +kernel
theorem dX11_sendPart_23 : decode cX11_sendPart 23 = .ok (.iconst 0, 1) := by decide +kernel
theorem dX11_sendPart_24 : decode cX11_sendPart 24 = .ok (.istore_n 3, 1) := by decide +kernel
theorem dX11_sendPart_25 : decode cX11_sendPart 25 = .ok (.bipush 16, 2) := by decide +kernel
theorem dX11_sendPart_27 : decode cX11_sendPart 27 = .ok (.istore 4, 2) := by decide +kernel
theorem dX11_sendPart_29 : decode cX11_sendPart 29 = .ok (.iload_n 2, 1) := by decide +kernel
theorem dX11_sendPart_30 : decode cX11_sendPart 30 = .ok (.ifCond .le 23, 3) := by decide +kernel
theorem dX11_sendPart_33 : decode cX11_sendPart 33 = .ok (.aload_n 0, 1) := by decide +kernel
theorem dX11_sendPart_34 : decode cX11_sendPart 34 = .ok (.getfield 60, 3) := by decide +kernel
theorem dX11_sendPart_37 : decode cX11_sendPart 37 = .ok (.iload_n 2, 1) := by decide +kernel
theorem dX11_sendPart_38 : decode cX11_sendPart 38 = .ok (.iadd, 1) := by decide +kernel
theorem dX11_sendPart_39 : decode cX11_sendPart 39 = .ok (.aload_n 0, 1) := by decide +kernel
theorem dX11_sendPart_40 : decode cX11_sendPart 40 = .ok (.invokevirtual 76, 3) := by decide +kernel
theorem dX11_sendPart_43 : decode cX11_sendPart 43 = .ok (.if_icmp .ne 10, 3) := by decide +kernel
theorem dX11_sendPart_46 : decode cX11_sendPart 46 = .ok (.iload 4, 2) := by decide +kernel
theorem dX11_sendPart_48 : decode cX11_sendPart 48 = .ok (.bipush 8, 2) := by decide +kernel
theorem dX11_sendPart_50 : decode cX11_sendPart 50 = .ok (.ior, 1) := by decide +kernel
theorem dX11_sendPart_51 : decode cX11_sendPart 51 = .ok (.istore 4, 2) := by decide +kernel
theorem dX11_sendPart_53 : decode cX11_sendPart 53 = .ok (.iload_n 3, 1) := by decide +kernel
theorem dX11_sendPart_54 : decode cX11_sendPart 54 = .ok (.ifCond .eq 9, 3) := by decide +kernel
theorem dX11_sendPart_57 : decode cX11_sendPart 57 = .ok (.iload 4, 2) := by decide +kernel
theorem dX11_sendPart_59 : decode cX11_sendPart 59 = .ok (.iconst 1, 1) := by decide +kernel
theorem dX11_sendPart_60 : decode cX11_sendPart 60 = .ok (.ior, 1) := by decide +kernel
theorem dX11_sendPart_61 : decode cX11_sendPart 61 = .ok (.istore 4, 2) := by decide +kernel
theorem dX11_sendPart_63 : decode cX11_sendPart 63 = .ok (.aload_n 0, 1) := by decide +kernel
theorem dX11_sendPart_64 : decode cX11_sendPart 64 = .ok (.getfield 60, 3) := by decide +kernel
theorem dX11_sendPart_67 : decode cX11_sendPart 67 = .ok (.istore 5, 2) := by decide +kernel
theorem dX11_sendPart_69 : decode cX11_sendPart 69 = .ok (.iload 5, 2) := by decide +kernel
theorem dX11_sendPart_71 : decode cX11_sendPart 71 = .ok (.aload_n 0, 1) := by decide +kernel
theorem dX11_sendPart_72 : decode cX11_sendPart 72 = .ok (.getfield 88, 3) := by decide +kernel
theorem dX11_sendPart_75 : decode cX11_sendPart 75 = .ok (.invokestatic 97, 3) := by decide +kernel
theorem dX11_sendPart_78 : decode cX11_sendPart 78 = .ok (.ifCond .eq 24, 3) := by decide +kernel
theorem dX11_sendPart_81 : decode cX11_sendPart 81 = .ok (.aload_n 0, 1) := by decide +kernel
theorem dX11_sendPart_82 : decode cX11_sendPart 82 = .ok (.getfield 25, 3) := by decide +kernel
theorem dX11_sendPart_85 : decode cX11_sendPart 85 = .ok (.dup, 1) := by decide +kernel
theorem dX11_sendPart_86 : decode cX11_sendPart 86 = .ok (.getfield 103, 3) := by decide +kernel
theorem dX11_sendPart_89 : decode cX11_sendPart 89 = .ok (.iconst 1, 1) := by decide +kernel
theorem dX11_sendPart_90 : decode cX11_sendPart 90 = .ok (.iadd, 1) := by decide +kernel
theorem dX11_sendPart_91 : decode cX11_sendPart 91 = .ok (.putfield 103, 3) := by decide +kernel
theorem dX11_sendPart_94 : decode cX11_sendPart 94 = .ok (.aload_n 0, 1) := by decide +kernel
theorem dX11_sendPart_95 : decode cX11_sendPart 95 = .ok (.iconst 0, 1) := by decide +kernel
theorem dX11_sendPart_96 : decode cX11_sendPart 96 = .ok (.putfield 106, 3) := by decide +kernel
theorem dX11_sendPart_99 : decode cX11_sendPart 99 = .ok (.goto 16, 3) := by decide +kernel
theorem dX11_sendPart_102 : decode cX11_sendPart 102 = .ok (.aload_n 0, 1) := by decide +kernel
theorem dX11_sendPart_103 : decode cX11_sendPart 103 = .ok (.getfield 106, 3) := by decide +kernel
theorem dX11_sendPart_106 : decode cX11_sendPart 106 = .ok (.ifCond .ne 9, 3) := by decide +kernel
theorem dX11_sendPart_109 : decode cX11_sendPart 109 = .ok (.aload_n 0, 1) := by decide +kernel
theorem dX11_sendPart_110 : decode cX11_sendPart 110 = .ok (.iload 5, 2) := by decide +kernel
theorem dX11_sendPart_112 : decode cX11_sendPart 112 = .ok (.invokevirtual 109, 3) := by decide +kernel
theorem dX11_sendPart_115 : decode cX11_sendPart 115 = .ok (.aload_n 0, 1) := by decide +kernel
theorem dX11_sendPart_116 : decode cX11_sendPart 116 = .ok (.dup, 1) := by decide +kernel
theorem dX11_sendPart_117 : decode cX11_sendPart 117 = .ok (.getfield 60, 3) := by decide +kernel
theorem dX11_sendPart_120 : decode cX11_sendPart 120 = .ok (.iload_n 1, 1) := by decide +kernel
theorem dX11_sendPart_121 : decode cX11_sendPart 121 = .ok (.iadd, 1) := by decide +kernel
theorem dX11_sendPart_122 : decode cX11_sendPart 122 = .ok (.putfield 60, 3) := by decide +kernel
theorem dX11_sendPart_125 : decode cX11_sendPart 125 = .ok (.aload_n 0, 1) := by decide +kernel
theorem dX11_sendPart_126 : decode cX11_sendPart 126 = .ok (.getfield 60, 3) := by decide +kernel
theorem dX11_sendPart_129 : decode cX11_sendPart 129 = .ok (.aload_n 0, 1) := by decide +kernel
theorem dX11_sendPart_130 : decode cX11_sendPart 130 = .ok (.getfield 88, 3) := by decide +kernel
theorem dX11_sendPart_133 : decode cX11_sendPart 133 = .ok (.isub, 1) := by decide +kernel
theorem dX11_sendPart_134 : decode cX11_sendPart 134 = .ok (.ifCond .le 11, 3) := by decide +kernel
theorem dX11_sendPart_137 : decode cX11_sendPart 137 = .ok (.aload_n 0, 1) := by decide +kernel
theorem dX11_sendPart_138 : decode cX11_sendPart 138 = .ok (.aload_n 0, 1) := by decide +kernel
theorem dX11_sendPart_139 : decode cX11_sendPart 139 = .ok (.getfield 60, 3) := by decide +kernel
theorem dX11_sendPart_142 : decode cX11_sendPart 142 = .ok (.putfield 88, 3) := by decide +kernel
theorem dX11_sendPart_145 : decode cX11_sendPart 145 = .ok (.iload_n 3, 1) := by decide +kernel
theorem dX11_sendPart_146 : decode cX11_sendPart 146 = .ok (.ifCond .eq 39, 3) := by decide +kernel
theorem dX11_sendPart_149 : decode cX11_sendPart 149 = .ok (.aload_n 0, 1) := by decide +kernel
theorem dX11_sendPart_150 : decode cX11_sendPart 150 = .ok (.getfield 113, 3) := by decide +kernel
theorem dX11_sendPart_153 : decode cX11_sendPart 153 = .ok (.ifCond .ne 32, 3) := by decide +kernel
theorem dX11_sendPart_156 : decode cX11_sendPart 156 = .ok (.aload_n 0, 1) := by decide +kernel
theorem dX11_sendPart_157 : decode cX11_sendPart 157 = .ok (.iconst 1, 1) := by decide +kernel
theorem dX11_sendPart_158 : decode cX11_sendPart 158 = .ok (.putfield 113, 3) := by decide +kernel
theorem dX11_sendPart_161 : decode cX11_sendPart 161 = .ok (.aload_n 0, 1) := by decide +kernel
theorem dX11_sendPart_162 : decode cX11_sendPart 162 = .ok (.iconst 0, 1) := by decide +kernel
theorem dX11_sendPart_163 : decode cX11_sendPart 163 = .ok (.putfield 116, 3) := by decide +kernel
theorem dX11_sendPart_166 : decode cX11_sendPart 166 = .ok (.aload_n 0, 1) := by decide +kernel
theorem dX11_sendPart_167 : decode cX11_sendPart 167 = .ok (.aload_n 0, 1) := by decide +kernel
theorem dX11_sendPart_168 : decode cX11_sendPart 168 = .ok (.getfield 73, 3) := by decide +kernel
theorem dX11_sendPart_171 : decode cX11_sendPart 171 = .ok (.bipush 7, 2) := by decide +kernel
theorem dX11_sendPart_173 : decode cX11_sendPart 173 = .ok (.if_icmp .ne 8, 3) := by decide +kernel
theorem dX11_sendPart_176 : decode cX11_sendPart 176 = .ok (.bipush 8, 2) := by decide +kernel
theorem dX11_sendPart_178 : decode cX11_sendPart 178 = .ok (.goto 4, 3) := by decide +kernel
theorem dX11_sendPart_181 : decode cX11_sendPart 181 = .ok (.iconst 3, 1) := by decide +kernel
theorem dX11_sendPart_182 : decode cX11_sendPart 182 = .ok (.putfield 73, 3) := by decide +kernel
theorem dX11_sendPart_185 : decode cX11_sendPart 185 = .ok (.aload_n 0, 1) := by decide +kernel
theorem dX11_sendPart_186 : decode cX11_sendPart 186 = .ok (.invokevirtual 119, 3) := by decide +kernel
theorem dX11_sendPart_189 : decode cX11_sendPart 189 = .ok (.aload_n 0, 1) := by decide +kernel
theorem dX11_sendPart_190 : decode cX11_sendPart 190 = .ok (.iload 5, 2) := by decide +kernel
theorem dX11_sendPart_192 : decode cX11_sendPart 192 = .ok (.iload 4, 2) := by decide +kernel
theorem dX11_sendPart_194 : decode cX11_sendPart 194 = .ok (.aload_n 0, 1) := by decide +kernel
theorem dX11_sendPart_195 : decode cX11_sendPart 195 = .ok (.getfield 21, 3) := by decide +kernel
theorem dX11_sendPart_198 : decode cX11_sendPart 198 = .ok (.getfield 122, 3) := by decide +kernel
theorem dX11_sendPart_201 : decode cX11_sendPart 201 = .ok (.iload 5, 2) := by decide +kernel
theorem dX11_sendPart_203 : decode cX11_sendPart 203 = .ok (.aload_n 0, 1) := by decide +kernel
theorem dX11_sendPart_204 : decode cX11_sendPart 204 = .ok (.getfield 67, 3) := by decide +kernel
theorem dX11_sendPart_207 : decode cX11_sendPart 207 = .ok (.isub, 1) := by decide +kernel
theorem dX11_sendPart_208 : decode cX11_sendPart 208 = .ok (.iload_n 2, 1) := by decide +kernel
theorem dX11_sendPart_209 : decode cX11_sendPart 209 = .ok (.invokevirtual 63, 3) := by decide +kernel
theorem dX11_sendPart_212 : decode cX11_sendPart 212 = .ok (.return_, 1) := by decide +kernel
def rmX11_sendPart : Room := { frames := 7, cells := 0, slots := 0, locals := 186 }
theorem kX11_sendPart : yX11_sendPart.cls = "WebHost$Connection" ∧ yX11_sendPart.cls ≠ "java/lang/invoke/MethodHandle" ∧ yX11_sendPart.cls ≠ "java/lang/invoke/VarHandle" ∧ (parseMethodDescriptor yX11_sendPart.desc).map (fun d => d.parameters.length) = some 1 := by decide +kernel
def w11_sendPart_J185 (σ : St) (o0 : Nat) (x2 : Int32) (x4 : Int32) (x5 : Int32) (Q : St → Prop) : Prop := w11_startTimer σ o0 (fun σ4 => (w11_segment σ4 o0 x5 x4 44 o0 (x5 - (σ4 11 o0 26)) x2 (fun σ5 => (Q σ5))))
set_option maxHeartbeats 4000000 in
theorem k11_sendPart_J185 {p : Program} {l : Launch} {e : Env} {s : State} {m : MethodId} {args : Array Value} {below : List Frame} {meth : Method} {c : Code} {G : Gh} {a1 : Nat → Nat → Nat} {τ : St} {Q : St → Prop} (C : Cx p e s m args meth c cX11_sendPart 6 none "WebHost$Connection" G) (σ : St) (o0 : Nat) (x2 : Int32) (x4 : Int32) (x5 : Int32) (ho0 : o0 < 16) (hw : w11_sendPart_J185 σ o0 x2 x4 x5 Q) (H : Heap) (locs : List Loc) (ls : Array Slot) (hH : Hd G a1 (cmb σ τ) H) (hS : va_S (gA G) s.heap H locs) (hl : lv_has ls 6 [(0, .ref (ga G 11 o0)), (2, .int x2), (4, .int x4), (5, .int x5)]) : W p l e rmX11_sendPart s m args below meth c H locs 0 0 (MQ below (QVs G a1 (fun u => cmb u τ) Q) args s 0 0 (gA G)) (F0 m 185 ls []) := by
  have hx := C.1
  have hb := C.2.1
  have hown := C.2.2.2.2.2.1
  have hts := C.2.2.2.2.2.2.1
  refine lv_aload_n hx hb dX11_sendPart_185 rfl (lv_at hl 0 rfl) ?_
  refine kc_v (rn_v (As := []) (rest := []) C hH hS (by decide) rfl ho0 (m11_startTimer l G a1 τ σ o0 ho0 _ hw) (cwV 0 hts (lw_V q1021 q1023 qs15 q168 q1024) rfl rfl rfl kX11_startTimer ⟨Nat.le_of_ble_eq_true rfl, Nat.le_of_ble_eq_true rfl⟩) rfl hl.1 rfl (Nat.le_of_ble_eq_true rfl) dX11_sendPart_186 ⟨Nat.le_of_ble_eq_true rfl, Nat.le_of_ble_eq_true rfl⟩) hS (fun σ4 H locs hw hH hS => ?_)
  refine lv_aload_n hx hb dX11_sendPart_189 rfl (lv_at hl 0 rfl) ?_
  refine lv_iload hx hb dX11_sendPart_190 (lv_at hl 3 rfl) ?_
  refine lv_iload hx hb dX11_sendPart_192 (lv_at hl 2 rfl) ?_
  refine lv_aload_n hx hb dX11_sendPart_194 rfl (lv_at hl 0 rfl) ?_
  refine g11_25 C hH ho0 q647 dX11_sendPart_195 ?_
  refine g13_0 C hH ho0 q600 dX11_sendPart_198 ?_
  refine lv_iload hx hb dX11_sendPart_201 (lv_at hl 3 rfl) ?_
  refine lv_aload_n hx hb dX11_sendPart_203 rfl (lv_at hl 0 rfl) ?_
  refine g11_26 C hH ho0 q648 dX11_sendPart_204 ?_
  refine lv_isub hx hb dX11_sendPart_207 ?_
  refine lv_iload_n hx hb dX11_sendPart_208 rfl (lv_at hl 1 rfl) ?_
  refine kc_v (rn_v (As := [.int x5, .int x4, nav G a1 44 o0, .int (x5 - (σ4 11 o0 26)), .int x2]) (rest := []) C hH hS (by decide) rfl ho0 (m11_segment l G a1 τ σ4 o0 x5 x4 44 o0 (x5 - (σ4 11 o0 26)) x2 ho0 _ hw) (cwV 5 hts (lw_V q972 q974 qs13 q168 q975) rfl rfl rfl kX11_segment ⟨Nat.le_of_ble_eq_true rfl, Nat.le_of_ble_eq_true rfl⟩) rfl hl.1 rfl (Nat.le_of_ble_eq_true rfl) dX11_sendPart_209 ⟨Nat.le_of_ble_eq_true rfl, Nat.le_of_ble_eq_true rfl⟩) hS (fun σ5 H locs hw hH hS => ?_)
  exact rt_v C hH hS hw dX11_sendPart_212
def w11_sendPart_J145 (σ : St) (o0 : Nat) (x2 : Int32) (x3 : Int32) (x4 : Int32) (x5 : Int32) (Q : St → Prop) : Prop := (x3 = 0 → w11_sendPart_J185 σ o0 x2 x4 x5 Q) ∧ (¬ x3 = 0 → (bo (σ 11 o0 28) → ((¬ (σ 11 o0 28) = 0 → w11_sendPart_J185 σ o0 x2 x4 x5 Q) ∧ ((σ 11 o0 28) = 0 → (∀ σ6, σ6 = up3 σ 11 o0 28 1 → (∀ σ7, σ7 = up3 σ6 11 o0 33 0 → ((¬ (σ7 11 o0 2) = 7 → (∀ σ8, σ8 = up3 σ7 11 o0 2 3 → (w11_sendPart_J185 σ8 o0 x2 x4 x5 Q))) ∧ ((σ7 11 o0 2) = 7 → (∀ σ9, σ9 = up3 σ7 11 o0 2 8 → (w11_sendPart_J185 σ9 o0 x2 x4 x5 Q))))))))))
set_option maxHeartbeats 4000000 in
theorem k11_sendPart_J145 {p : Program} {l : Launch} {e : Env} {s : State} {m : MethodId} {args : Array Value} {below : List Frame} {meth : Method} {c : Code} {G : Gh} {a1 : Nat → Nat → Nat} {τ : St} {Q : St → Prop} (C : Cx p e s m args meth c cX11_sendPart 6 none "WebHost$Connection" G) (σ : St) (o0 : Nat) (x2 : Int32) (x3 : Int32) (x4 : Int32) (x5 : Int32) (ho0 : o0 < 16) (hw : w11_sendPart_J145 σ o0 x2 x3 x4 x5 Q) (H : Heap) (locs : List Loc) (ls : Array Slot) (hH : Hd G a1 (cmb σ τ) H) (hS : va_S (gA G) s.heap H locs) (hl : lv_has ls 6 [(0, .ref (ga G 11 o0)), (2, .int x2), (3, .int x3), (4, .int x4), (5, .int x5)]) : W p l e rmX11_sendPart s m args below meth c H locs 0 0 (MQ below (QVs G a1 (fun u => cmb u τ) Q) args s 0 0 (gA G)) (F0 m 145 ls []) := by
  have hx := C.1
  have hb := C.2.1
  have hown := C.2.2.2.2.2.1
  have hts := C.2.2.2.2.2.2.1
  refine lv_iload_n hx hb dX11_sendPart_145 rfl (lv_at hl 2 rfl) ?_
  refine lv_if_eq (tgt := 185) hx hb dX11_sendPart_146 (by decide) (fun h => ?_) (fun h => ?_)
  · have hw := hw.1 h
    exact k11_sendPart_J185 C σ o0 x2 x4 x5 ho0 hw H locs ls hH hS (lv_sub hl [0, 1, 3, 4] rfl)
  have hw := hw.2 h
  refine lv_aload_n hx hb dX11_sendPart_149 rfl (lv_at hl 0 rfl) ?_
  refine g11_28 C hH ho0 q650 dX11_sendPart_150 (fun hz => ?_)
  have hw := hw hz
  refine lv_if_ne (tgt := 185) hx hb dX11_sendPart_153 (by decide) (fun h => ?_) (fun h => ?_)
  · have hw := hw.1 h
    exact k11_sendPart_J185 C σ o0 x2 x4 x5 ho0 hw H locs ls hH hS (lv_sub hl [0, 1, 3, 4] rfl)
  have hw := hw.2 h
  refine lv_aload_n hx hb dX11_sendPart_156 rfl (lv_at hl 0 rfl) ?_
  refine lv_iconst (v := 1) hx hb dX11_sendPart_157 (by decide) ?_
  refine p11_28 C hH hS ho0 (Or.inr rfl) q650 dX11_sendPart_158 (fun σ6 e6 H locs hH hS => ?_)
  have hw := hw σ6 e6
  refine lv_aload_n hx hb dX11_sendPart_161 rfl (lv_at hl 0 rfl) ?_
  refine lv_iconst (v := 0) hx hb dX11_sendPart_162 (by decide) ?_
  refine p11_33 C hH hS ho0 (Or.inl rfl) q655 dX11_sendPart_163 (fun σ7 e7 H locs hH hS => ?_)
  have hw := hw σ7 e7
  refine lv_aload_n hx hb dX11_sendPart_166 rfl (lv_at hl 0 rfl) ?_
  refine lv_aload_n hx hb dX11_sendPart_167 rfl (lv_at hl 0 rfl) ?_
  refine g11_2 C hH ho0 q610 dX11_sendPart_168 ?_
  refine lv_bipush (v := 7) hx hb dX11_sendPart_171 (by decide) ?_
  refine lv_icmp_ne (tgt := 181) hx hb dX11_sendPart_173 (by decide) (fun h => ?_) (fun h => ?_)
  · have hw := hw.1 h
    refine lv_iconst (v := 3) hx hb dX11_sendPart_181 (by decide) ?_
    refine p11_2 C hH hS ho0 q610 dX11_sendPart_182 (fun σ8 e8 H locs hH hS => ?_)
    have hw := hw σ8 e8
    exact k11_sendPart_J185 C σ8 o0 x2 x4 x5 ho0 hw H locs ls hH hS (lv_sub hl [0, 1, 3, 4] rfl)
  have hw := hw.2 h
  refine lv_bipush (v := 8) hx hb dX11_sendPart_176 (by decide) ?_
  refine lv_goto (tgt := 182) hx hb dX11_sendPart_178 (by decide) ?_
  refine p11_2 C hH hS ho0 q610 dX11_sendPart_182 (fun σ9 e9 H locs hH hS => ?_)
  have hw := hw σ9 e9
  exact k11_sendPart_J185 C σ9 o0 x2 x4 x5 ho0 hw H locs ls hH hS (lv_sub hl [0, 1, 3, 4] rfl)
def w11_sendPart_J115 (σ : St) (o0 : Nat) (x1 : Int32) (x2 : Int32) (x3 : Int32) (x4 : Int32) (x5 : Int32) (Q : St → Prop) : Prop := ∀ σ3, σ3 = up3 σ 11 o0 10 ((σ 11 o0 10) + x1) → ((((σ3 11 o0 10) - (σ3 11 o0 11)) ≤ 0 → w11_sendPart_J145 σ3 o0 x2 x3 x4 x5 Q) ∧ (¬ ((σ3 11 o0 10) - (σ3 11 o0 11)) ≤ 0 → (∀ σ10, σ10 = up3 σ3 11 o0 11 (σ3 11 o0 10) → (w11_sendPart_J145 σ10 o0 x2 x3 x4 x5 Q))))
set_option maxHeartbeats 4000000 in
theorem k11_sendPart_J115 {p : Program} {l : Launch} {e : Env} {s : State} {m : MethodId} {args : Array Value} {below : List Frame} {meth : Method} {c : Code} {G : Gh} {a1 : Nat → Nat → Nat} {τ : St} {Q : St → Prop} (C : Cx p e s m args meth c cX11_sendPart 6 none "WebHost$Connection" G) (σ : St) (o0 : Nat) (x1 : Int32) (x2 : Int32) (x3 : Int32) (x4 : Int32) (x5 : Int32) (ho0 : o0 < 16) (hw : w11_sendPart_J115 σ o0 x1 x2 x3 x4 x5 Q) (H : Heap) (locs : List Loc) (ls : Array Slot) (hH : Hd G a1 (cmb σ τ) H) (hS : va_S (gA G) s.heap H locs) (hl : lv_has ls 6 [(0, .ref (ga G 11 o0)), (1, .int x1), (2, .int x2), (3, .int x3), (4, .int x4), (5, .int x5)]) : W p l e rmX11_sendPart s m args below meth c H locs 0 0 (MQ below (QVs G a1 (fun u => cmb u τ) Q) args s 0 0 (gA G)) (F0 m 115 ls []) := by
  have hx := C.1
  have hb := C.2.1
  have hown := C.2.2.2.2.2.1
  have hts := C.2.2.2.2.2.2.1
  refine lv_aload_n hx hb dX11_sendPart_115 rfl (lv_at hl 0 rfl) ?_
  refine lv_dup hx hb dX11_sendPart_116 rfl ?_
  refine g11_10 C hH ho0 q622 dX11_sendPart_117 ?_
  refine lv_iload_n hx hb dX11_sendPart_120 rfl (lv_at hl 1 rfl) ?_
  refine lv_iadd hx hb dX11_sendPart_121 ?_
  refine p11_10 C hH hS ho0 q622 dX11_sendPart_122 (fun σ3 e3 H locs hH hS => ?_)
  have hw := hw σ3 e3
  refine lv_aload_n hx hb dX11_sendPart_125 rfl (lv_at hl 0 rfl) ?_
  refine g11_10 C hH ho0 q622 dX11_sendPart_126 ?_
  refine lv_aload_n hx hb dX11_sendPart_129 rfl (lv_at hl 0 rfl) ?_
  refine g11_11 C hH ho0 q624 dX11_sendPart_130 ?_
  refine lv_isub hx hb dX11_sendPart_133 ?_
  refine lv_if_le (tgt := 145) hx hb dX11_sendPart_134 (by decide) (fun h => ?_) (fun h => ?_)
  · have hw := hw.1 h
    exact k11_sendPart_J145 C σ3 o0 x2 x3 x4 x5 ho0 hw H locs ls hH hS (lv_sub hl [0, 2, 3, 4, 5] rfl)
  have hw := hw.2 h
  refine lv_aload_n hx hb dX11_sendPart_137 rfl (lv_at hl 0 rfl) ?_
  refine lv_aload_n hx hb dX11_sendPart_138 rfl (lv_at hl 0 rfl) ?_
  refine g11_10 C hH ho0 q622 dX11_sendPart_139 ?_
  refine p11_11 C hH hS ho0 q624 dX11_sendPart_142 (fun σ10 e10 H locs hH hS => ?_)
  have hw := hw σ10 e10
  exact k11_sendPart_J145 C σ10 o0 x2 x3 x4 x5 ho0 hw H locs ls hH hS (lv_sub hl [0, 2, 3, 4, 5] rfl)
def w11_sendPart_J63 (σ : St) (o0 : Nat) (x1 : Int32) (x2 : Int32) (x3 : Int32) (x4 : Int32) (Q : St → Prop) : Prop := w19_isBefore σ (σ 11 o0 10) (σ 11 o0 11) (fun r2 => ((r2 = 0 → (bo (σ 11 o0 34) → ((¬ (σ 11 o0 34) = 0 → (w11_sendPart_J115 σ o0 x1 x2 x3 x4 (σ 11 o0 10) Q)) ∧ ((σ 11 o0 34) = 0 → (w11_time σ o0 (σ 11 o0 10) (fun σ11 => (w11_sendPart_J115 σ11 o0 x1 x2 x3 x4 (σ 11 o0 10) Q))))))) ∧ (¬ r2 = 0 → (∀ σ12, σ12 = up3 σ 8 0 4 ((σ 8 0 4) + 1) → (∀ σ13, σ13 = up3 σ12 11 o0 34 0 → (w11_sendPart_J115 σ13 o0 x1 x2 x3 x4 (σ 11 o0 10) Q))))))
set_option maxHeartbeats 4000000 in
theorem k11_sendPart_J63 {p : Program} {l : Launch} {e : Env} {s : State} {m : MethodId} {args : Array Value} {below : List Frame} {meth : Method} {c : Code} {G : Gh} {a1 : Nat → Nat → Nat} {τ : St} {Q : St → Prop} (C : Cx p e s m args meth c cX11_sendPart 6 none "WebHost$Connection" G) (σ : St) (o0 : Nat) (x1 : Int32) (x2 : Int32) (x3 : Int32) (x4 : Int32) (ho0 : o0 < 16) (hw : w11_sendPart_J63 σ o0 x1 x2 x3 x4 Q) (H : Heap) (locs : List Loc) (ls : Array Slot) (hH : Hd G a1 (cmb σ τ) H) (hS : va_S (gA G) s.heap H locs) (hl : lv_has ls 6 [(0, .ref (ga G 11 o0)), (1, .int x1), (2, .int x2), (3, .int x3), (4, .int x4)]) : W p l e rmX11_sendPart s m args below meth c H locs 0 0 (MQ below (QVs G a1 (fun u => cmb u τ) Q) args s 0 0 (gA G)) (F0 m 63 ls []) := by
  have hx := C.1
  have hb := C.2.1
  have hown := C.2.2.2.2.2.1
  have hts := C.2.2.2.2.2.2.1
  refine lv_aload_n hx hb dX11_sendPart_63 rfl (lv_at hl 0 rfl) ?_
  refine g11_10 C hH ho0 q622 dX11_sendPart_64 ?_
  refine lv_istore (lv' := [(5, .int (σ 11 o0 10)), (0, .ref (ga G 11 o0)), (1, .int x1), (2, .int x2), (3, .int x3), (4, .int x4)]) hx hb dX11_sendPart_67 hl (by decide) rfl (fun ls hl => ?_)
  refine lv_iload hx hb dX11_sendPart_69 (lv_at hl 0 rfl) ?_
  refine lv_aload_n hx hb dX11_sendPart_71 rfl (lv_at hl 1 rfl) ?_
  refine g11_11 C hH ho0 q624 dX11_sendPart_72 ?_
  refine kc_ip (rn_sp (As := [.int (σ 11 o0 10), .int (σ 11 o0 11)]) (rest := []) C hH hS (m19_isBefore l G a1 τ σ H (σ 11 o0 10) (σ 11 o0 11) _ hw) (va_cwS 2 hts (lw_S q1046 q1047 q176 q1048) rfl rfl rfl kX19_isBefore.2 ⟨Nat.le_of_ble_eq_true rfl, Nat.le_of_ble_eq_true rfl⟩) rfl hl.1 rfl (Nat.le_of_ble_eq_true rfl) dX11_sendPart_75 ⟨Nat.le_of_ble_eq_true rfl, Nat.le_of_ble_eq_true rfl⟩) hS (fun r2 locs hw hS => ?_)
  refine lv_if_eq (tgt := 102) hx hb dX11_sendPart_78 (by decide) (fun h => ?_) (fun h => ?_)
  · have hw := hw.1 h
    refine lv_aload_n hx hb dX11_sendPart_102 rfl (lv_at hl 1 rfl) ?_
    refine g11_34 C hH ho0 q656 dX11_sendPart_103 (fun hz => ?_)
    have hw := hw hz
    refine lv_if_ne (tgt := 115) hx hb dX11_sendPart_106 (by decide) (fun h => ?_) (fun h => ?_)
    · have hw := hw.1 h
      exact k11_sendPart_J115 C σ o0 x1 x2 x3 x4 (σ 11 o0 10) ho0 hw H locs ls hH hS (lv_sub hl [1, 2, 3, 4, 5, 0] rfl)
    have hw := hw.2 h
    refine lv_aload_n hx hb dX11_sendPart_109 rfl (lv_at hl 1 rfl) ?_
    refine lv_iload hx hb dX11_sendPart_110 (lv_at hl 0 rfl) ?_
    refine kc_v (rn_v (As := [.int (σ 11 o0 10)]) (rest := []) C hH hS (by decide) rfl ho0 (m11_time l G a1 τ σ o0 (σ 11 o0 10) ho0 _ hw) (cwV 1 hts (lw_V q1049 q1051 qs19 q168 q1052) rfl rfl rfl kX11_time ⟨Nat.le_of_ble_eq_true rfl, Nat.le_of_ble_eq_true rfl⟩) rfl hl.1 rfl (Nat.le_of_ble_eq_true rfl) dX11_sendPart_112 ⟨Nat.le_of_ble_eq_true rfl, Nat.le_of_ble_eq_true rfl⟩) hS (fun σ11 H locs hw hH hS => ?_)
    exact k11_sendPart_J115 C σ11 o0 x1 x2 x3 x4 (σ 11 o0 10) ho0 hw H locs ls hH hS (lv_sub hl [1, 2, 3, 4, 5, 0] rfl)
  have hw := hw.2 h
  refine lv_aload_n hx hb dX11_sendPart_81 rfl (lv_at hl 1 rfl) ?_
  refine g11_0 C hH ho0 q608 dX11_sendPart_82 ?_
  refine lv_dup hx hb dX11_sendPart_85 rfl ?_
  refine g8_4 C hH q410 dX11_sendPart_86 ?_
  refine lv_iconst (v := 1) hx hb dX11_sendPart_89 (by decide) ?_
  refine lv_iadd hx hb dX11_sendPart_90 ?_
  refine p8_4 C hH hS q410 dX11_sendPart_91 (fun σ12 e12 H locs hH hS => ?_)
  have hw := hw σ12 e12
  refine lv_aload_n hx hb dX11_sendPart_94 rfl (lv_at hl 1 rfl) ?_
  refine lv_iconst (v := 0) hx hb dX11_sendPart_95 (by decide) ?_
  refine p11_34 C hH hS ho0 (Or.inl rfl) q656 dX11_sendPart_96 (fun σ13 e13 H locs hH hS => ?_)
  have hw := hw σ13 e13
  refine lv_goto (tgt := 115) hx hb dX11_sendPart_99 (by decide) ?_
  exact k11_sendPart_J115 C σ13 o0 x1 x2 x3 x4 (σ 11 o0 10) ho0 hw H locs ls hH hS (lv_sub hl [1, 2, 3, 4, 5, 0] rfl)
def w11_sendPart_J24 (σ : St) (o0 : Nat) (x1 : Int32) (x2 : Int32) (xs0 : Int32) (Q : St → Prop) : Prop := (x2 ≤ 0 → ((xs0 = 0 → w11_sendPart_J63 σ o0 x1 x2 xs0 16 Q) ∧ (¬ xs0 = 0 → (w11_sendPart_J63 σ o0 x1 x2 xs0 (16 ||| 1) Q)))) ∧ (¬ x2 ≤ 0 → (w11_end σ o0 (fun r14 => ((¬ ((σ 11 o0 10) + x2) = r14 → ((xs0 = 0 → w11_sendPart_J63 σ o0 x1 x2 xs0 16 Q) ∧ (¬ xs0 = 0 → (w11_sendPart_J63 σ o0 x1 x2 xs0 (16 ||| 1) Q)))) ∧ (((σ 11 o0 10) + x2) = r14 → ((xs0 = 0 → (w11_sendPart_J63 σ o0 x1 x2 xs0 (16 ||| 8) Q)) ∧ (¬ xs0 = 0 → (w11_sendPart_J63 σ o0 x1 x2 xs0 ((16 ||| 8) ||| 1) Q))))))))
set_option maxHeartbeats 4000000 in
theorem k11_sendPart_J24 {p : Program} {l : Launch} {e : Env} {s : State} {m : MethodId} {args : Array Value} {below : List Frame} {meth : Method} {c : Code} {G : Gh} {a1 : Nat → Nat → Nat} {τ : St} {Q : St → Prop} (C : Cx p e s m args meth c cX11_sendPart 6 none "WebHost$Connection" G) (σ : St) (o0 : Nat) (x1 : Int32) (x2 : Int32) (xs0 : Int32) (ho0 : o0 < 16) (hw : w11_sendPart_J24 σ o0 x1 x2 xs0 Q) (H : Heap) (locs : List Loc) (ls : Array Slot) (hH : Hd G a1 (cmb σ τ) H) (hS : va_S (gA G) s.heap H locs) (hl : lv_has ls 6 [(0, .ref (ga G 11 o0)), (1, .int x1), (2, .int x2)]) : W p l e rmX11_sendPart s m args below meth c H locs 0 0 (MQ below (QVs G a1 (fun u => cmb u τ) Q) args s 0 0 (gA G)) (F0 m 24 ls [.int xs0]) := by
  have hx := C.1
  have hb := C.2.1
  have hown := C.2.2.2.2.2.1
  have hts := C.2.2.2.2.2.2.1
  refine lv_istore_n (lv' := [(3, .int xs0), (0, .ref (ga G 11 o0)), (1, .int x1), (2, .int x2)]) hx hb dX11_sendPart_24 rfl hl (by decide) rfl (fun ls hl => ?_)
  refine lv_bipush (v := 16) hx hb dX11_sendPart_25 (by decide) ?_
  refine lv_istore (lv' := [(4, .int 16), (3, .int xs0), (0, .ref (ga G 11 o0)), (1, .int x1), (2, .int x2)]) hx hb dX11_sendPart_27 hl (by decide) rfl (fun ls hl => ?_)
  refine lv_iload_n hx hb dX11_sendPart_29 rfl (lv_at hl 4 rfl) ?_
  refine lv_if_le (tgt := 53) hx hb dX11_sendPart_30 (by decide) (fun h => ?_) (fun h => ?_)
  · have hw := hw.1 h
    refine lv_iload_n hx hb dX11_sendPart_53 rfl (lv_at hl 1 rfl) ?_
    refine lv_if_eq (tgt := 63) hx hb dX11_sendPart_54 (by decide) (fun h => ?_) (fun h => ?_)
    · have hw := hw.1 h
      exact k11_sendPart_J63 C σ o0 x1 x2 xs0 16 ho0 hw H locs ls hH hS (lv_sub hl [2, 3, 4, 1, 0] rfl)
    have hw := hw.2 h
    refine lv_iload hx hb dX11_sendPart_57 (lv_at hl 0 rfl) ?_
    refine lv_iconst (v := 1) hx hb dX11_sendPart_59 (by decide) ?_
    refine lv_ior hx hb dX11_sendPart_60 ?_
    refine lv_istore (lv' := [(4, .int (16 ||| 1)), (3, .int xs0), (0, .ref (ga G 11 o0)), (1, .int x1), (2, .int x2)]) hx hb dX11_sendPart_61 hl (by decide) rfl (fun ls hl => ?_)
    exact k11_sendPart_J63 C σ o0 x1 x2 xs0 (16 ||| 1) ho0 hw H locs ls hH hS (lv_sub hl [2, 3, 4, 1, 0] rfl)
  have hw := hw.2 h
  refine lv_aload_n hx hb dX11_sendPart_33 rfl (lv_at hl 2 rfl) ?_
  refine g11_10 C hH ho0 q622 dX11_sendPart_34 ?_
  refine lv_iload_n hx hb dX11_sendPart_37 rfl (lv_at hl 4 rfl) ?_
  refine lv_iadd hx hb dX11_sendPart_38 ?_
  refine lv_aload_n hx hb dX11_sendPart_39 rfl (lv_at hl 2 rfl) ?_
  refine kc_ip (rn_vp (As := []) (rest := [.int ((σ 11 o0 10) + x2)]) C hH hS (by decide) rfl ho0 (m11_end l G a1 τ σ H o0 ho0 _ hw) (cwV 0 hts (lw_V q1038 q1040 qs17 q168 q1041) rfl rfl rfl kX11_end ⟨Nat.le_of_ble_eq_true rfl, Nat.le_of_ble_eq_true rfl⟩) rfl hl.1 rfl (Nat.le_of_ble_eq_true rfl) dX11_sendPart_40 ⟨Nat.le_of_ble_eq_true rfl, Nat.le_of_ble_eq_true rfl⟩) hS (fun r14 locs hw hS => ?_)
  refine lv_icmp_ne (tgt := 53) hx hb dX11_sendPart_43 (by decide) (fun h => ?_) (fun h => ?_)
  · have hw := hw.1 h
    refine lv_iload_n hx hb dX11_sendPart_53 rfl (lv_at hl 1 rfl) ?_
    refine lv_if_eq (tgt := 63) hx hb dX11_sendPart_54 (by decide) (fun h => ?_) (fun h => ?_)
    · have hw := hw.1 h
      exact k11_sendPart_J63 C σ o0 x1 x2 xs0 16 ho0 hw H locs ls hH hS (lv_sub hl [2, 3, 4, 1, 0] rfl)
    have hw := hw.2 h
    refine lv_iload hx hb dX11_sendPart_57 (lv_at hl 0 rfl) ?_
    refine lv_iconst (v := 1) hx hb dX11_sendPart_59 (by decide) ?_
    refine lv_ior hx hb dX11_sendPart_60 ?_
    refine lv_istore (lv' := [(4, .int (16 ||| 1)), (3, .int xs0), (0, .ref (ga G 11 o0)), (1, .int x1), (2, .int x2)]) hx hb dX11_sendPart_61 hl (by decide) rfl (fun ls hl => ?_)
    exact k11_sendPart_J63 C σ o0 x1 x2 xs0 (16 ||| 1) ho0 hw H locs ls hH hS (lv_sub hl [2, 3, 4, 1, 0] rfl)
  have hw := hw.2 h
  refine lv_iload hx hb dX11_sendPart_46 (lv_at hl 0 rfl) ?_
  refine lv_bipush (v := 8) hx hb dX11_sendPart_48 (by decide) ?_
  refine lv_ior hx hb dX11_sendPart_50 ?_
  refine lv_istore (lv' := [(4, .int (16 ||| 8)), (3, .int xs0), (0, .ref (ga G 11 o0)), (1, .int x1), (2, .int x2)]) hx hb dX11_sendPart_51 hl (by decide) rfl (fun ls hl => ?_)
  refine lv_iload_n hx hb dX11_sendPart_53 rfl (lv_at hl 1 rfl) ?_
  refine lv_if_eq (tgt := 63) hx hb dX11_sendPart_54 (by decide) (fun h => ?_) (fun h => ?_)
  · have hw := hw.1 h
    exact k11_sendPart_J63 C σ o0 x1 x2 xs0 (16 ||| 8) ho0 hw H locs ls hH hS (lv_sub hl [2, 3, 4, 1, 0] rfl)
  have hw := hw.2 h
  refine lv_iload hx hb dX11_sendPart_57 (lv_at hl 0 rfl) ?_
  refine lv_iconst (v := 1) hx hb dX11_sendPart_59 (by decide) ?_
  refine lv_ior hx hb dX11_sendPart_60 ?_
  refine lv_istore (lv' := [(4, .int ((16 ||| 8) ||| 1)), (3, .int xs0), (0, .ref (ga G 11 o0)), (1, .int x1), (2, .int x2)]) hx hb dX11_sendPart_61 hl (by decide) rfl (fun ls hl => ?_)
  exact k11_sendPart_J63 C σ o0 x1 x2 xs0 ((16 ||| 8) ||| 1) ho0 hw H locs ls hH hS (lv_sub hl [2, 3, 4, 1, 0] rfl)
def w11_sendPart (σ : St) (o0 : Nat) (x1 : Int32) (Q : St → Prop) : Prop := w11_end σ o0 (fun r1 => ((x1 ≤ (imin x1 (r1 - (σ 11 o0 10))) → (w11_sendPart_J24 σ o0 x1 (imin x1 (r1 - (σ 11 o0 10))) 0 Q)) ∧ (¬ x1 ≤ (imin x1 (r1 - (σ 11 o0 10))) → (w11_sendPart_J24 σ o0 x1 (imin x1 (r1 - (σ 11 o0 10))) 1 Q))))
set_option maxHeartbeats 4000000 in
theorem m11_sendPart (l : Launch) (G : Gh) (a1 : Nat → Nat → Nat) (τ : St) (σ : St) (o0 : Nat) (x1 : Int32) (ho0 : o0 < 16) (Q : St → Prop) (hw : w11_sendPart σ o0 x1 Q) : Met l yX11_sendPart (ws_ yX11_sendPart cX11_sendPart 6 none) rmX11_sendPart (PcS G a1 (cmb σ τ) [.ref (ga G 11 o0), .int x1]) (QVs G a1 (fun u => cmb u τ) Q) 0 0 (gA G) := by
  refine met_w (by decide) (Nat.le_of_ble_eq_true rfl) ?_
  intro p e s m below meth c ls C hH hS hl
  have C : Cx p e s m _ meth c cX11_sendPart 6 none "WebHost$Connection" G := C
  have hl : lv_has ls 6 [(0, .ref (ga G 11 o0)), (1, .int x1)] := hl
  have hx := C.1
  have hb := C.2.1
  have hown := C.2.2.2.2.2.1
  have hts := C.2.2.2.2.2.2.1
  obtain ⟨locs, hlocs⟩ : ∃ z : List Loc, z = [] := ⟨_, rfl⟩
  obtain ⟨H, hHe⟩ : ∃ z : Heap, z = s.heap := ⟨_, rfl⟩
  have hH : Hd G a1 (cmb σ τ) H := by rw [hHe]; exact hH
  have hS : va_S (gA G) s.heap H locs := by rw [hHe, hlocs]; exact hS
  refine W.heap0 hHe.symm hlocs.symm ?_
  refine lv_iload_n hx hb dX11_sendPart_0 rfl (lv_at hl 1 rfl) ?_
  refine lv_aload_n hx hb dX11_sendPart_1 rfl (lv_at hl 0 rfl) ?_
  refine kc_ip (rn_vp (As := []) (rest := [.int x1]) C hH hS (by decide) rfl ho0 (m11_end l G a1 τ σ H o0 ho0 _ hw) (cwV 0 hts (lw_V q1038 q1040 qs17 q168 q1041) rfl rfl rfl kX11_end ⟨Nat.le_of_ble_eq_true rfl, Nat.le_of_ble_eq_true rfl⟩) rfl hl.1 rfl (Nat.le_of_ble_eq_true rfl) dX11_sendPart_2 ⟨Nat.le_of_ble_eq_true rfl, Nat.le_of_ble_eq_true rfl⟩) hS (fun r1 locs hw hS => ?_)
  refine lv_aload_n hx hb dX11_sendPart_5 rfl (lv_at hl 0 rfl) ?_
  refine g11_10 C hH ho0 q622 dX11_sendPart_6 ?_
  refine lv_isub hx hb dX11_sendPart_9 ?_
  refine r_imin C hl.1 q1020 (Nat.le_of_ble_eq_true rfl) (Nat.le_of_ble_eq_true rfl) (Nat.zero_le _) (Nat.zero_le _) dX11_sendPart_10 ?_
  refine lv_istore_n (lv' := [(2, .int (imin x1 (r1 - (σ 11 o0 10)))), (0, .ref (ga G 11 o0)), (1, .int x1)]) hx hb dX11_sendPart_13 rfl hl (by decide) rfl (fun ls hl => ?_)
  refine lv_iload_n hx hb dX11_sendPart_14 rfl (lv_at hl 2 rfl) ?_
  refine lv_iload_n hx hb dX11_sendPart_15 rfl (lv_at hl 0 rfl) ?_
  refine lv_icmp_le (tgt := 23) hx hb dX11_sendPart_16 (by decide) (fun h => ?_) (fun h => ?_)
  · have hw := hw.1 h
    refine lv_iconst (v := 0) hx hb dX11_sendPart_23 (by decide) ?_
    exact k11_sendPart_J24 C σ o0 x1 (imin x1 (r1 - (σ 11 o0 10))) 0 ho0 hw H locs ls hH hS (lv_sub hl [1, 2, 0] rfl)
  have hw := hw.2 h
  refine lv_iconst (v := 1) hx hb dX11_sendPart_19 (by decide) ?_
  refine lv_goto (tgt := 24) hx hb dX11_sendPart_20 (by decide) ?_
  exact k11_sendPart_J24 C σ o0 x1 (imin x1 (r1 - (σ 11 o0 10))) 1 ho0 hw H locs ls hH hS (lv_sub hl [1, 2, 0] rfl)
/-! WebHostModel.alone()V -/
abbrev cX14_alone : ByteArray := prog_17_method_52_code
def yX14_alone : MethodName := ⟨RX14, "alone", "()V"⟩
theorem dX14_alone_0 : decode cX14_alone 0 = .ok (.aload_n 0, 1) := by decide +kernel
theorem dX14_alone_1 : decode cX14_alone 1 = .ok (.iconst 4, 1) := by decide +kernel
theorem dX14_alone_2 : decode cX14_alone 2 = .ok (.invokevirtual 325, 3) := by decide +kernel
theorem dX14_alone_5 : decode cX14_alone 5 = .ok (.ifCond .eq 4, 3) := by decide +kernel
theorem dX14_alone_8 : decode cX14_alone 8 = .ok (.return_, 1) := by decide +kernel
theorem dX14_alone_9 : decode cX14_alone 9 = .ok (.aload_n 0, 1) := by decide +kernel
theorem dX14_alone_10 : decode cX14_alone 10 = .ok (.getfield 292, 3) := by decide +kernel
theorem dX14_alone_13 : decode cX14_alone 13 = .ok (.bipush 80, 2) := by decide +kernel
theorem dX14_alone_15 : decode cX14_alone 15 = .ok (.if_icmp .ne 12, 3) := by decide +kernel
theorem dX14_alone_18 : decode cX14_alone 18 = .ok (.aload_n 0, 1) := by decide +kernel
theorem dX14_alone_19 : decode cX14_alone 19 = .ok (.bipush 16, 2) := by decide +kernel
theorem dX14_alone_21 : decode cX14_alone 21 = .ok (.invokevirtual 325, 3) := by decide +kernel
theorem dX14_alone_24 : decode cX14_alone 24 = .ok (.ifCond .eq 8, 3) := by decide +kernel
theorem dX14_alone_27 : decode cX14_alone 27 = .ok (.aload_n 0, 1) := by decide +kernel
theorem dX14_alone_28 : decode cX14_alone 28 = .ok (.invokevirtual 438, 3) := by decide +kernel
theorem dX14_alone_31 : decode cX14_alone 31 = .ok (.return_, 1) := by decide +kernel
theorem dX14_alone_32 : decode cX14_alone 32 = .ok (.aload_n 0, 1) := by decide +kernel
theorem dX14_alone_33 : decode cX14_alone 33 = .ok (.iconst 2, 1) := by decide +kernel
theorem dX14_alone_34 : decode cX14_alone 34 = .ok (.invokevirtual 325, 3) := by decide +kernel
theorem dX14_alone_37 : decode cX14_alone 37 = .ok (.ifCond .eq 11, 3) := by decide +kernel
theorem dX14_alone_40 : decode cX14_alone 40 = .ok (.aload_n 0, 1) := by decide +kernel
theorem dX14_alone_41 : decode cX14_alone 41 = .ok (.iconst 1, 1) := by decide +kernel
theorem dX14_alone_42 : decode cX14_alone 42 = .ok (.invokevirtual 325, 3) := by decide +kernel
theorem dX14_alone_45 : decode cX14_alone 45 = .ok (.ifCond .eq 4, 3) := by decide +kernel
theorem dX14_alone_48 : decode cX14_alone 48 = .ok (.return_, 1) := by decide +kernel
theorem dX14_alone_49 : decode cX14_alone 49 = .ok (.aconst_null, 1) := by decide +kernel
theorem dX14_alone_50 : decode cX14_alone 50 = .ok (.astore_n 1, 1) := by decide +kernel
theorem dX14_alone_51 : decode cX14_alone 51 = .ok (.bipush 15, 2) := by decide +kernel
theorem dX14_alone_53 : decode cX14_alone 53 = .ok (.istore_n 2, 1) := by decide +kernel
theorem dX14_alone_54 : decode cX14_alone 54 = .ok (.iload_n 2, 1) := by decide +kernel
theorem dX14_alone_55 : decode cX14_alone 55 = .ok (.ifCond .lt 28, 3) := by decide +kernel
theorem dX14_alone_58 : decode cX14_alone 58 = .ok (.aload_n 0, 1) := by decide +kernel
theorem dX14_alone_59 : decode cX14_alone 59 = .ok (.getfield 70, 3) := by decide +kernel
theorem dX14_alone_62 : decode cX14_alone 62 = .ok (.iload_n 2, 1) := by decide +kernel
theorem dX14_alone_63 : decode cX14_alone 63 = .ok (.aaload, 1) := by decide +kernel
theorem dX14_alone_64 : decode cX14_alone 64 = .ok (.getfield 152, 3) := by decide +kernel
theorem dX14_alone_67 : decode cX14_alone 67 = .ok (.ifCond .ne 10, 3) := by decide +kernel
theorem dX14_alone_70 : decode cX14_alone 70 = .ok (.aload_n 0, 1) := by decide +kernel
theorem dX14_alone_71 : decode cX14_alone 71 = .ok (.getfield 70, 3) := by decide +kernel
theorem dX14_alone_74 : decode cX14_alone 74 = .ok (.iload_n 2, 1) := by decide +kernel
theorem dX14_alone_75 : decode cX14_alone 75 = .ok (.aaload, 1) := by decide +kernel
theorem dX14_alone_76 : decode cX14_alone 76 = .ok (.astore_n 1, 1) := by decide +kernel
theorem dX14_alone_77 : decode cX14_alone 77 = .ok (.iinc 2 (-1), 3) := by decide +kernel
theorem dX14_alone_80 : decode cX14_alone 80 = .ok (.goto (-26), 3) := by decide +kernel
theorem dX14_alone_83 : decode cX14_alone 83 = .ok (.aload_n 1, 1) := by decide +kernel
theorem dX14_alone_84 : decode cX14_alone 84 = .ok (.ifnonnull 4, 3) := by decide +kernel
theorem dX14_alone_87 : decode cX14_alone 87 = .ok (.return_, 1) := by decide +kernel
theorem dX14_alone_88 : decode cX14_alone 88 = .ok (.aload_n 0, 1) := by decide +kernel
theorem dX14_alone_89 : decode cX14_alone 89 = .ok (.dup, 1) := by decide +kernel
theorem dX14_alone_90 : decode cX14_alone 90 = .ok (.getfield 143, 3) := by decide +kernel
theorem dX14_alone_93 : decode cX14_alone 93 = .ok (.iconst 1, 1) := by decide +kernel
theorem dX14_alone_94 : decode cX14_alone 94 = .ok (.iadd, 1) := by decide +kernel
theorem dX14_alone_95 : decode cX14_alone 95 = .ok (.putfield 143, 3) := by decide +kernel
theorem dX14_alone_98 : decode cX14_alone 98 = .ok (.aload_n 0, 1) := by decide +kernel
theorem dX14_alone_99 : decode cX14_alone 99 = .ok (.getfield 31, 3) := by decide +kernel
theorem dX14_alone_102 : decode cX14_alone 102 = .ok (.iconst 5, 1) := by decide +kernel
theorem dX14_alone_103 : decode cX14_alone 103 = .ok (.dup2, 1) := by decide +kernel
theorem dX14_alone_104 : decode cX14_alone 104 = .ok (.iaload, 1) := by decide +kernel
theorem dX14_alone_105 : decode cX14_alone 105 = .ok (.iconst 1, 1) := by decide +kernel
theorem dX14_alone_106 : decode cX14_alone 106 = .ok (.iadd, 1) := by decide +kernel
theorem dX14_alone_107 : decode cX14_alone 107 = .ok (.iastore, 1) := by decide +kernel
theorem dX14_alone_108 : decode cX14_alone 108 = .ok (.aload_n 1, 1) := by decide +kernel
theorem dX14_alone_109 : decode cX14_alone 109 = .ok (.iconst 1, 1) := by decide +kernel
theorem dX14_alone_110 : decode cX14_alone 110 = .ok (.putfield 152, 3) := by decide +kernel
theorem dX14_alone_113 : decode cX14_alone 113 = .ok (.aload_n 1, 1) := by decide +kernel
theorem dX14_alone_114 : decode cX14_alone 114 = .ok (.aload_n 0, 1) := by decide +kernel
theorem dX14_alone_115 : decode cX14_alone 115 = .ok (.getfield 240, 3) := by decide +kernel
theorem dX14_alone_118 : decode cX14_alone 118 = .ok (.putfield 314, 3) := by decide +kernel
theorem dX14_alone_121 : decode cX14_alone 121 = .ok (.aload_n 1, 1) := by decide +kernel
theorem dX14_alone_122 : decode cX14_alone 122 = .ok (.aload_n 0, 1) := by decide +kernel
theorem dX14_alone_123 : decode cX14_alone 123 = .ok (.getfield 289, 3) := by decide +kernel
theorem dX14_alone_126 : decode cX14_alone 126 = .ok (.putfield 315, 3) := by decide +kernel
theorem dX14_alone_129 : decode cX14_alone 129 = .ok (.aload_n 1, 1) := by decide +kernel
theorem dX14_alone_130 : decode cX14_alone 130 = .ok (.aload_n 0, 1) := by decide +kernel
theorem dX14_alone_131 : decode cX14_alone 131 = .ok (.getfield 298, 3) := by decide +kernel
theorem dX14_alone_134 : decode cX14_alone 134 = .ok (.putfield 441, 3) := by decide +kernel
theorem dX14_alone_137 : decode cX14_alone 137 = .ok (.aload_n 1, 1) := by decide +kernel
theorem dX14_alone_138 : decode cX14_alone 138 = .ok (.aload_n 0, 1) := by decide +kernel
theorem dX14_alone_139 : decode cX14_alone 139 = .ok (.getfield 298, 3) := by decide +kernel
theorem dX14_alone_142 : decode cX14_alone 142 = .ok (.iconst 1, 1) := by decide +kernel
theorem dX14_alone_143 : decode cX14_alone 143 = .ok (.iadd, 1) := by decide +kernel
theorem dX14_alone_144 : decode cX14_alone 144 = .ok (.putfield 348, 3) := by decide +kernel
theorem dX14_alone_147 : decode cX14_alone 147 = .ok (.aload_n 1, 1) := by decide +kernel
theorem dX14_alone_148 : decode cX14_alone 148 = .ok (.aload_n 1, 1) := by decide +kernel
theorem dX14_alone_149 : decode cX14_alone 149 = .ok (.getfield 348, 3) := by decide +kernel
theorem dX14_alone_152 : decode cX14_alone 152 = .ok (.putfield 444, 3) := by decide +kernel
theorem dX14_alone_155 : decode cX14_alone 155 = .ok (.aload_n 1, 1) := by decide +kernel
theorem dX14_alone_156 : decode cX14_alone 156 = .ok (.ldc_w 447, 3) := by decide +kernel
theorem dX14_alone_159 : decode cX14_alone 159 = .ok (.aload_n 0, 1) := by decide +kernel
theorem dX14_alone_160 : decode cX14_alone 160 = .ok (.getfield 143, 3) := by decide +kernel
theorem dX14_alone_163 : decode cX14_alone 163 = .ok (.imul, 1) := by decide +kernel
theorem dX14_alone_164 : decode cX14_alone 164 = .ok (.sipush 250, 3) := by decide +kernel
theorem dX14_alone_167 : decode cX14_alone 167 = .ok (.aload_n 0, 1) := by decide +kernel
theorem dX14_alone_168 : decode cX14_alone 168 = .ok (.getfield 134, 3) := by decide +kernel
theorem dX14_alone_171 : decode cX14_alone 171 = .ok (.imul, 1) := by decide +kernel
theorem dX14_alone_172 : decode cX14_alone 172 = .ok (.iadd, 1) := by decide +kernel
theorem dX14_alone_173 : decode cX14_alone 173 = .ok (.putfield 354, 3) := by decide +kernel
theorem dX14_alone_176 : decode cX14_alone 176 = .ok (.aload_n 1, 1) := by decide +kernel
theorem dX14_alone_177 : decode cX14_alone 177 = .ok (.aload_n 1, 1) := by decide +kernel
theorem dX14_alone_178 : decode cX14_alone 178 = .ok (.getfield 354, 3) := by decide +kernel
theorem dX14_alone_181 : decode cX14_alone 181 = .ok (.putfield 428, 3) := by decide +kernel
theorem dX14_alone_184 : decode cX14_alone 184 = .ok (.aload_n 1, 1) := by decide +kernel
theorem dX14_alone_185 : decode cX14_alone 185 = .ok (.aload_n 1, 1) := by decide +kernel
theorem dX14_alone_186 : decode cX14_alone 186 = .ok (.getfield 354, 3) := by decide +kernel
theorem dX14_alone_189 : decode cX14_alone 189 = .ok (.putfield 345, 3) := by decide +kernel
theorem dX14_alone_192 : decode cX14_alone 192 = .ok (.aload_n 1, 1) := by decide +kernel
theorem dX14_alone_193 : decode cX14_alone 193 = .ok (.aload_n 1, 1) := by decide +kernel
theorem dX14_alone_194 : decode cX14_alone 194 = .ok (.getfield 354, 3) := by decide +kernel
theorem dX14_alone_197 : decode cX14_alone 197 = .ok (.putfield 361, 3) := by decide +kernel
theorem dX14_alone_200 : decode cX14_alone 200 = .ok (.aload_n 1, 1) := by decide +kernel
theorem dX14_alone_201 : decode cX14_alone 201 = .ok (.aload_n 0, 1) := by decide +kernel
theorem dX14_alone_202 : decode cX14_alone 202 = .ok (.getfield 305, 3) := by decide +kernel
theorem dX14_alone_205 : decode cX14_alone 205 = .ok (.putfield 434, 3) := by decide +kernel
theorem dX14_alone_208 : decode cX14_alone 208 = .ok (.aload_n 1, 1) := by decide +kernel
theorem dX14_alone_209 : decode cX14_alone 209 = .ok (.aload_n 0, 1) := by decide +kernel
theorem dX14_alone_210 : decode cX14_alone 210 = .ok (.getfield 298, 3) := by decide +kernel
theorem dX14_alone_213 : decode cX14_alone 213 = .ok (.putfield 448, 3) := by decide +kernel
theorem dX14_alone_216 : decode cX14_alone 216 = .ok (.aload_n 1, 1) := by decide +kernel
theorem dX14_alone_217 : decode cX14_alone 217 = .ok (.iconst 0, 1) := by decide +kernel
theorem dX14_alone_218 : decode cX14_alone 218 = .ok (.putfield 451, 3) := by decide +kernel
theorem dX14_alone_221 : decode cX14_alone 221 = .ok (.aload_n 1, 1) := by decide +kernel
theorem dX14_alone_222 : decode cX14_alone 222 = .ok (.aload_n 0, 1) := by decide +kernel
theorem dX14_alone_223 : decode cX14_alone 223 = .ok (.invokevirtual 454, 3) := by decide +kernel
theorem dX14_alone_226 : decode cX14_alone 226 = .ok (.putfield 405, 3) := by decide +kernel
theorem dX14_alone_229 : decode cX14_alone 229 = .ok (.aload_n 1, 1) := by decide +kernel
theorem dX14_alone_230 : decode cX14_alone 230 = .ok (.aload_n 1, 1) := by decide +kernel
theorem dX14_alone_231 : decode cX14_alone 231 = .ok (.getfield 405, 3) := by decide +kernel
theorem dX14_alone_234 : decode cX14_alone 234 = .ok (.sipush 1095, 3) := by decide +kernel
theorem dX14_alone_237 : decode cX14_alone 237 = .ok (.if_icmp .gt 12, 3) := by decide +kernel
theorem dX14_alone_240 : decode cX14_alone 240 = .ok (.iconst 4, 1) := by decide +kernel
theorem dX14_alone_241 : decode cX14_alone 241 = .ok (.aload_n 1, 1) := by decide +kernel
theorem dX14_alone_242 : decode cX14_alone 242 = .ok (.getfield 405, 3) := by decide +kernel
theorem dX14_alone_245 : decode cX14_alone 245 = .ok (.imul, 1) := by decide +kernel
theorem dX14_alone_246 : decode cX14_alone 246 = .ok (.goto 9, 3) := by decide +kernel
theorem dX14_alone_249 : decode cX14_alone 249 = .ok (.iconst 3, 1) := by decide +kernel
theorem dX14_alone_250 : decode cX14_alone 250 = .ok (.aload_n 1, 1) := by decide +kernel
theorem dX14_alone_251 : decode cX14_alone 251 = .ok (.getfield 405, 3) := by decide +kernel
theorem dX14_alone_254 : decode cX14_alone 254 = .ok (.imul, 1) := by decide +kernel
theorem dX14_alone_255 : decode cX14_alone 255 = .ok (.putfield 431, 3) := by decide +kernel
theorem dX14_alone_258 : decode cX14_alone 258 = .ok (.aload_n 1, 1) := by decide +kernel
theorem dX14_alone_259 : decode cX14_alone 259 = .ok (.ldc 14, 2) := by decide +kernel
theorem dX14_alone_261 : decode cX14_alone 261 = .ok (.putfield 457, 3) := by decide +kernel
theorem dX14_alone_264 : decode cX14_alone 264 = .ok (.aload_n 1, 1) := by decide +kernel
theorem dX14_alone_265 : decode cX14_alone 265 = .ok (.sipush 1000, 3) := by decide +kernel
theorem dX14_alone_268 : decode cX14_alone 268 = .ok (.putfield 382, 3) := by decide +kernel
theorem dX14_alone_271 : decode cX14_alone 271 = .ok (.aload_n 1, 1) := by decide +kernel
theorem dX14_alone_272 : decode cX14_alone 272 = .ok (.iconst 0, 1) := by decide +kernel
theorem dX14_alone_273 : decode cX14_alone 273 = .ok (.putfield 460, 3) := by decide +kernel
theorem dX14_alone_276 : decode cX14_alone 276 = .ok (.aload_n 1, 1) := by decide +kernel
theorem dX14_alone_277 : decode cX14_alone 277 = .ok (.iconst 0, 1) := by decide +kernel
theorem dX14_alone_278 : decode cX14_alone 278 = .ok (.putfield 367, 3) := by decide +kernel
theorem dX14_alone_281 : decode cX14_alone 281 = .ok (.aload_n 1, 1) := by decide +kernel
theorem dX14_alone_282 : decode cX14_alone 282 = .ok (.iconst 0, 1) := by decide +kernel
theorem dX14_alone_283 : decode cX14_alone 283 = .ok (.putfield 463, 3) := by decide +kernel
theorem dX14_alone_286 : decode cX14_alone 286 = .ok (.aload_n 1, 1) := by decide +kernel
theorem dX14_alone_287 : decode cX14_alone 287 = .ok (.iconst 0, 1) := by decide +kernel
theorem dX14_alone_288 : decode cX14_alone 288 = .ok (.putfield 376, 3) := by decide +kernel
theorem dX14_alone_291 : decode cX14_alone 291 = .ok (.aload_n 1, 1) := by decide +kernel
theorem dX14_alone_292 : decode cX14_alone 292 = .ok (.iconst 0, 1) := by decide +kernel
theorem dX14_alone_293 : decode cX14_alone 293 = .ok (.putfield 466, 3) := by decide +kernel
theorem dX14_alone_296 : decode cX14_alone 296 = .ok (.aload_n 1, 1) := by decide +kernel
theorem dX14_alone_297 : decode cX14_alone 297 = .ok (.iconst 0, 1) := by decide +kernel
theorem dX14_alone_298 : decode cX14_alone 298 = .ok (.putfield 469, 3) := by decide +kernel
theorem dX14_alone_301 : decode cX14_alone 301 = .ok (.aload_n 1, 1) := by decide +kernel
theorem dX14_alone_302 : decode cX14_alone 302 = .ok (.iconst 0, 1) := by decide +kernel
theorem dX14_alone_303 : decode cX14_alone 303 = .ok (.putfield 391, 3) := by decide +kernel
theorem dX14_alone_306 : decode cX14_alone 306 = .ok (.aload_n 1, 1) := by decide +kernel
theorem dX14_alone_307 : decode cX14_alone 307 = .ok (.iconst 0, 1) := by decide +kernel
theorem dX14_alone_308 : decode cX14_alone 308 = .ok (.putfield 472, 3) := by decide +kernel
theorem dX14_alone_311 : decode cX14_alone 311 = .ok (.aload_n 1, 1) := by decide +kernel
theorem dX14_alone_312 : decode cX14_alone 312 = .ok (.aload_n 1, 1) := by decide +kernel
theorem dX14_alone_313 : decode cX14_alone 313 = .ok (.getfield 354, 3) := by decide +kernel
theorem dX14_alone_316 : decode cX14_alone 316 = .ok (.iconst 1, 1) := by decide +kernel
theorem dX14_alone_317 : decode cX14_alone 317 = .ok (.iadd, 1) := by decide +kernel
theorem dX14_alone_318 : decode cX14_alone 318 = .ok (.putfield 388, 3) := by decide +kernel
theorem dX14_alone_321 : decode cX14_alone 321 = .ok (.aload_n 1, 1) := by decide +kernel
theorem dX14_alone_322 : decode cX14_alone 322 = .ok (.iconst 0, 1) := by decide +kernel
theorem dX14_alone_323 : decode cX14_alone 323 = .ok (.putfield 418, 3) := by decide +kernel
theorem dX14_alone_326 : decode cX14_alone 326 = .ok (.aload_n 1, 1) := by decide +kernel
theorem dX14_alone_327 : decode cX14_alone 327 = .ok (.iconst 0, 1) := by decide +kernel
theorem dX14_alone_328 : decode cX14_alone 328 = .ok (.putfield 408, 3) := by decide +kernel
theorem dX14_alone_331 : decode cX14_alone 331 = .ok (.aload_n 1, 1) := by decide +kernel
theorem dX14_alone_332 : decode cX14_alone 332 = .ok (.iconst 0, 1) := by decide +kernel
theorem dX14_alone_333 : decode cX14_alone 333 = .ok (.putfield 475, 3) := by decide +kernel
theorem dX14_alone_336 : decode cX14_alone 336 = .ok (.aload_n 1, 1) := by decide +kernel
theorem dX14_alone_337 : decode cX14_alone 337 = .ok (.iconst 0, 1) := by decide +kernel
theorem dX14_alone_338 : decode cX14_alone 338 = .ok (.putfield 336, 3) := by decide +kernel
theorem dX14_alone_341 : decode cX14_alone 341 = .ok (.aload_n 1, 1) := by decide +kernel
theorem dX14_alone_342 : decode cX14_alone 342 = .ok (.iconst 0, 1) := by decide +kernel
theorem dX14_alone_343 : decode cX14_alone 343 = .ok (.putfield 478, 3) := by decide +kernel
theorem dX14_alone_346 : decode cX14_alone 346 = .ok (.aload_n 1, 1) := by decide +kernel
theorem dX14_alone_347 : decode cX14_alone 347 = .ok (.iconst 0, 1) := by decide +kernel
theorem dX14_alone_348 : decode cX14_alone 348 = .ok (.putfield 481, 3) := by decide +kernel
theorem dX14_alone_351 : decode cX14_alone 351 = .ok (.aload_n 1, 1) := by decide +kernel
theorem dX14_alone_352 : decode cX14_alone 352 = .ok (.sipush 4096, 3) := by decide +kernel
theorem dX14_alone_355 : decode cX14_alone 355 = .ok (.putfield 342, 3) := by decide +kernel
theorem dX14_alone_358 : decode cX14_alone 358 = .ok (.iconst 0, 1) := by decide +kernel
theorem dX14_alone_359 : decode cX14_alone 359 = .ok (.istore_n 2, 1) := by decide +kernel
theorem dX14_alone_360 : decode cX14_alone 360 = .ok (.iload_n 2, 1) := by decide +kernel
theorem dX14_alone_361 : decode cX14_alone 361 = .ok (.sipush 4096, 3) := by decide +kernel
theorem dX14_alone_364 : decode cX14_alone 364 = .ok (.if_icmp .ge 16, 3) := by decide +kernel
theorem dX14_alone_367 : decode cX14_alone 367 = .ok (.aload_n 1, 1) := by decide +kernel
theorem dX14_alone_368 : decode cX14_alone 368 = .ok (.getfield 484, 3) := by decide +kernel
theorem dX14_alone_371 : decode cX14_alone 371 = .ok (.iload_n 2, 1) := by decide +kernel
theorem dX14_alone_372 : decode cX14_alone 372 = .ok (.iconst 0, 1) := by decide +kernel
theorem dX14_alone_373 : decode cX14_alone 373 = .ok (.bastore, 1) := by decide +kernel
theorem dX14_alone_374 : decode cX14_alone 374 = .ok (.iinc 2 1, 3) := by decide +kernel
theorem dX14_alone_377 : decode cX14_alone 377 = .ok (.goto (-17), 3) := by decide +kernel
theorem dX14_alone_380 : decode cX14_alone 380 = .ok (.aload_n 0, 1) := by decide +kernel
theorem dX14_alone_381 : decode cX14_alone 381 = .ok (.aload_n 1, 1) := by decide +kernel
theorem dX14_alone_382 : decode cX14_alone 382 = .ok (.invokevirtual 485, 3) := by decide +kernel
theorem dX14_alone_385 : decode cX14_alone 385 = .ok (.return_, 1) := by decide +kernel
def rmX14_alone : Room := { frames := 7, cells := 0, slots := 0, locals := 177 }
theorem kX14_alone : yX14_alone.cls = "WebHostModel" ∧ yX14_alone.cls ≠ "java/lang/invoke/MethodHandle" ∧ yX14_alone.cls ≠ "java/lang/invoke/VarHandle" ∧ (parseMethodDescriptor yX14_alone.desc).map (fun d => d.parameters.length) = some 0 := by decide +kernel
def w14_alone_L54 (σ : St) (Q : St → Prop) (K83 : Option Nat → Prop) : Nat → Option Nat → Int32 → Prop
  | 0, _, _ => False
  | n + 1, p1, x2 => (x2 < 0 → K83 p1) ∧ (¬ x2 < 0 → (vp_in x2 16 ∧ ((¬ (σ 15 x2.toNatClampNeg 0) = 0 → (w14_alone_L54 σ Q K83 n p1 (x2 + (-1)))) ∧ ((σ 15 x2.toNatClampNeg 0) = 0 → (vp_in x2 16 ∧ (w14_alone_L54 σ Q K83 n (some x2.toNatClampNeg) (x2 + (-1))))))))
set_option maxHeartbeats 4000000 in
theorem k14_alone_L54 {p : Program} {l : Launch} {e : Env} {s : State} {m : MethodId} {args : Array Value} {below : List Frame} {meth : Method} {c : Code} {G : Gh} {a1 : Nat → Nat → Nat} {τ : St} {Q : St → Prop} {K83 : Option Nat → Prop} (C : Cx p e s m args meth c cX14_alone 3 none "WebHostModel" G) (σ : St) :
    ∀ (n : Nat) (p1 : Option Nat) (x2 : Int32), w14_alone_L54 σ Q K83 n p1 x2 → ∀ (H : Heap) (locs : List Loc) (ls : Array Slot), Hd G a1 (cmb τ σ) H → va_S (gA G) s.heap H locs → lv_has ls 3 [(0, .ref (ga G 14 0)), (1, va_re (ga G 15) p1), (2, .int x2)] → (∀ (p1 : Option Nat), K83 p1 → ∀ (H : Heap) (locs : List Loc) (ls : Array Slot), Hd G a1 (cmb τ σ) H → va_S (gA G) s.heap H locs → lv_has ls 3 [(0, .ref (ga G 14 0)), (1, va_re (ga G 15) p1)] → W p l e rmX14_alone s m args below meth c H locs 0 0 (MQ below (QVs G a1 (fun u => cmb τ u) Q) args s 0 0 (gA G)) (F0 m 83 ls [])) → W p l e rmX14_alone s m args below meth c H locs 0 0 (MQ below (QVs G a1 (fun u => cmb τ u) Q) args s 0 0 (gA G)) (F0 m 54 ls []) := by
  have hx := C.1
  have hb := C.2.1
  have hown := C.2.2.2.2.2.1
  have hts := C.2.2.2.2.2.2.1
  intro n
  induction n with
  | zero =>
    intro p1 x2 hw
    exact False.elim hw
  | succ n ih =>
    intro p1 x2 hw H locs ls hH hS hl hK83
    refine lv_iload_n hx hb dX14_alone_54 rfl (lv_at hl 2 rfl) ?_
    refine lv_if_lt (tgt := 83) hx hb dX14_alone_55 (by decide) (fun h => ?_) (fun h => ?_)
    · have hw := hw.1 h
      exact hK83 p1 hw H locs ls hH hS (lv_sub hl [0, 1] rfl)
    have hw := hw.2 h
    refine lv_aload_n hx hb dX14_alone_58 rfl (lv_at hl 0 rfl) ?_
    refine g14_31 C hH q1971 dX14_alone_59 ?_
    refine lv_iload_n hx hb dX14_alone_62 rfl (lv_at hl 2 rfl) ?_
    have hq6 := vp_lt hw.1
    refine l65 C hH hw.1 dX14_alone_63 ?_
    have hw := hw.2
    refine g15_0 C hH hq6 q1707 dX14_alone_64 ?_
    refine lv_if_ne (tgt := 77) hx hb dX14_alone_67 (by decide) (fun h => ?_) (fun h => ?_)
    · have hw := hw.1 h
      refine lv_iinc (v := x2 + (-1)) (lv' := [(2, .int (x2 + (-1))), (0, .ref (ga G 14 0)), (1, va_re (ga G 15) p1)]) hx hb dX14_alone_77 hl (k := 2) rfl rfl (by decide) (by simp [va_re_cat, nav_cat]) (fun ls hl => ?_)
      refine lv_goto (tgt := 54) hx hb dX14_alone_80 (by decide) ?_
      exact ih p1 (x2 + (-1)) hw H locs ls hH hS (lv_sub hl [1, 2, 0] rfl) hK83
    have hw := hw.2 h
    refine lv_aload_n hx hb dX14_alone_70 rfl (lv_at hl 0 rfl) ?_
    refine g14_31 C hH q1971 dX14_alone_71 ?_
    refine lv_iload_n hx hb dX14_alone_74 rfl (lv_at hl 2 rfl) ?_
    have hq7 := vp_lt hw.1
    refine l65 C hH hw.1 dX14_alone_75 ?_
    have hw := hw.2
    refine lv_astore_n (lv' := [(1, .ref (ga G 15 x2.toNatClampNeg)), (0, .ref (ga G 14 0)), (2, .int x2)]) hx hb dX14_alone_76 rfl hl (by decide) rfl (fun ls hl => ?_)
    refine lv_iinc (v := x2 + (-1)) (lv' := [(2, .int (x2 + (-1))), (1, .ref (ga G 15 x2.toNatClampNeg)), (0, .ref (ga G 14 0))]) hx hb dX14_alone_77 hl (k := 2) rfl rfl (by decide) rfl (fun ls hl => ?_)
    refine lv_goto (tgt := 54) hx hb dX14_alone_80 (by decide) ?_
    exact ih (some x2.toNatClampNeg) (x2 + (-1)) hw H locs ls hH hS (lv_sub hl [2, 1, 0] rfl) hK83
def w14_alone_L360 (o1 : Nat) (Q : St → Prop) (K380 : St → Prop) : Nat → St → Int32 → Prop
  | 0, _, _ => False
  | n + 1, σ, x2 => (4096 ≤ x2 → K380 σ) ∧ (¬ 4096 ≤ x2 → (vp_in x2 4096 ∧ (∀ σ47, σ47 = up3 σ 73 o1 x2.toNatClampNeg 0 → (w14_alone_L360 o1 Q K380 n σ47 (x2 + 1)))))
set_option maxHeartbeats 4000000 in
theorem k14_alone_L360 {p : Program} {l : Launch} {e : Env} {s : State} {m : MethodId} {args : Array Value} {below : List Frame} {meth : Method} {c : Code} {G : Gh} {a1 : Nat → Nat → Nat} {τ : St} {Q : St → Prop} {K380 : St → Prop} (C : Cx p e s m args meth c cX14_alone 3 none "WebHostModel" G) (o1 : Nat) (ho1 : o1 < 16) :
    ∀ (n : Nat) (σ : St) (x2 : Int32), w14_alone_L360 o1 Q K380 n σ x2 → ∀ (H : Heap) (locs : List Loc) (ls : Array Slot), Hd G a1 (cmb τ σ) H → va_S (gA G) s.heap H locs → lv_has ls 3 [(0, .ref (ga G 14 0)), (1, .ref (ga G 15 o1)), (2, .int x2)] → (∀ (σ : St) , K380 σ → ∀ (H : Heap) (locs : List Loc) (ls : Array Slot), Hd G a1 (cmb τ σ) H → va_S (gA G) s.heap H locs → lv_has ls 3 [(0, .ref (ga G 14 0)), (1, .ref (ga G 15 o1))] → W p l e rmX14_alone s m args below meth c H locs 0 0 (MQ below (QVs G a1 (fun u => cmb τ u) Q) args s 0 0 (gA G)) (F0 m 380 ls [])) → W p l e rmX14_alone s m args below meth c H locs 0 0 (MQ below (QVs G a1 (fun u => cmb τ u) Q) args s 0 0 (gA G)) (F0 m 360 ls []) := by
  have hx := C.1
  have hb := C.2.1
  have hown := C.2.2.2.2.2.1
  have hts := C.2.2.2.2.2.2.1
  intro n
  induction n with
  | zero =>
    intro σ x2 hw
    exact False.elim hw
  | succ n ih =>
    intro σ x2 hw H locs ls hH hS hl hK380
    refine lv_iload_n hx hb dX14_alone_360 rfl (lv_at hl 2 rfl) ?_
    refine lv_sipush (v := 4096) hx hb dX14_alone_361 (by decide) ?_
    refine lv_icmp_ge (tgt := 380) hx hb dX14_alone_364 (by decide) (fun h => ?_) (fun h => ?_)
    · have hw := hw.1 h
      exact hK380 σ hw H locs ls hH hS (lv_sub hl [0, 1] rfl)
    have hw := hw.2 h
    refine lv_aload_n hx hb dX14_alone_367 rfl (lv_at hl 1 rfl) ?_
    refine g15_33 C hH ho1 q1747 dX14_alone_368 ?_
    refine lv_iload_n hx hb dX14_alone_371 rfl (lv_at hl 2 rfl) ?_
    refine lv_iconst (v := 0) hx hb dX14_alone_372 (by decide) ?_
    refine s73 C hH hS ho1 hw.1 (Or.inl rfl) dX14_alone_373 (fun σ47 e47 H locs hH hS => ?_)
    have hw := hw.2 σ47 e47
    refine lv_iinc (v := x2 + 1) (lv' := [(2, .int (x2 + 1)), (0, .ref (ga G 14 0)), (1, .ref (ga G 15 o1))]) hx hb dX14_alone_374 hl (k := 2) rfl rfl (by decide) rfl (fun ls hl => ?_)
    refine lv_goto (tgt := 360) hx hb dX14_alone_377 (by decide) ?_
    exact ih σ47 (x2 + 1) hw H locs ls hH hS (lv_sub hl [1, 2, 0] rfl) hK380
def w14_alone_J255 (σ : St) (o1 : Nat) (xs0 : Int32) (os1 : Nat) (Q : St → Prop) : Prop := ∀ σ28, σ28 = up3 σ 15 os1 11 xs0 → (∀ σ29, σ29 = up3 σ28 15 o1 12 65535 → (∀ σ30, σ30 = up3 σ29 15 o1 13 1000 → (∀ σ31, σ31 = up3 σ30 15 o1 16 0 → (∀ σ32, σ32 = up3 σ31 15 o1 17 0 → (∀ σ33, σ33 = up3 σ32 15 o1 18 0 → (∀ σ34, σ34 = up3 σ33 15 o1 21 0 → (∀ σ35, σ35 = up3 σ34 15 o1 23 0 → (∀ σ36, σ36 = up3 σ35 15 o1 24 0 → (∀ σ37, σ37 = up3 σ36 15 o1 26 0 → (∀ σ38, σ38 = up3 σ37 15 o1 28 0 → (∀ σ39, σ39 = up3 σ38 15 o1 29 ((σ38 15 o1 3) + 1) → (∀ σ40, σ40 = up3 σ39 15 o1 30 0 → (∀ σ41, σ41 = up3 σ40 15 o1 31 0 → (∀ σ42, σ42 = up3 σ41 15 o1 38 0 → (∀ σ43, σ43 = up3 σ42 15 o1 39 0 → (∀ σ44, σ44 = up3 σ43 15 o1 40 0 → (∀ σ45, σ45 = up3 σ44 15 o1 41 0 → (∀ σ46, σ46 = up3 σ45 15 o1 37 4096 → (∃ z48, w14_alone_L360 o1 Q (fun σ49 => w14_synAck σ49 o1 (fun σ50 => (Q σ50))) z48 σ46 0)))))))))))))))))))
set_option maxHeartbeats 4000000 in
theorem k14_alone_J255 {p : Program} {l : Launch} {e : Env} {s : State} {m : MethodId} {args : Array Value} {below : List Frame} {meth : Method} {c : Code} {G : Gh} {a1 : Nat → Nat → Nat} {τ : St} {Q : St → Prop} (C : Cx p e s m args meth c cX14_alone 3 none "WebHostModel" G) (σ : St) (o1 : Nat) (xs0 : Int32) (os1 : Nat) (ho1 : o1 < 16) (hos1 : os1 < 16) (hw : w14_alone_J255 σ o1 xs0 os1 Q) (H : Heap) (locs : List Loc) (ls : Array Slot) (hH : Hd G a1 (cmb τ σ) H) (hS : va_S (gA G) s.heap H locs) (hl : lv_has ls 3 [(0, .ref (ga G 14 0)), (1, .ref (ga G 15 o1))]) : W p l e rmX14_alone s m args below meth c H locs 0 0 (MQ below (QVs G a1 (fun u => cmb τ u) Q) args s 0 0 (gA G)) (F0 m 255 ls [.int xs0, .ref (ga G 15 os1)]) := by
  have hx := C.1
  have hb := C.2.1
  have hown := C.2.2.2.2.2.1
  have hts := C.2.2.2.2.2.2.1
  refine p15_11 C hH hS hos1 q1718 dX14_alone_255 (fun σ28 e28 H locs hH hS => ?_)
  have hw := hw σ28 e28
  refine lv_aload_n hx hb dX14_alone_258 rfl (lv_at hl 1 rfl) ?_
  refine lv_ldc (v := 65535) hx hb hown (hts _ q1692) dX14_alone_259 ?_
  refine p15_12 C hH hS ho1 q1719 dX14_alone_261 (fun σ29 e29 H locs hH hS => ?_)
  have hw := hw σ29 e29
  refine lv_aload_n hx hb dX14_alone_264 rfl (lv_at hl 1 rfl) ?_
  refine lv_sipush (v := 1000) hx hb dX14_alone_265 (by decide) ?_
  refine p15_13 C hH hS ho1 q1720 dX14_alone_268 (fun σ30 e30 H locs hH hS => ?_)
  have hw := hw σ30 e30
  refine lv_aload_n hx hb dX14_alone_271 rfl (lv_at hl 1 rfl) ?_
  refine lv_iconst (v := 0) hx hb dX14_alone_272 (by decide) ?_
  refine p15_16 C hH hS ho1 (Or.inl rfl) q1723 dX14_alone_273 (fun σ31 e31 H locs hH hS => ?_)
  have hw := hw σ31 e31
  refine lv_aload_n hx hb dX14_alone_276 rfl (lv_at hl 1 rfl) ?_
  refine lv_iconst (v := 0) hx hb dX14_alone_277 (by decide) ?_
  refine p15_17 C hH hS ho1 (Or.inl rfl) q1724 dX14_alone_278 (fun σ32 e32 H locs hH hS => ?_)
  have hw := hw σ32 e32
  refine lv_aload_n hx hb dX14_alone_281 rfl (lv_at hl 1 rfl) ?_
  refine lv_iconst (v := 0) hx hb dX14_alone_282 (by decide) ?_
  refine p15_18 C hH hS ho1 (Or.inl rfl) q1725 dX14_alone_283 (fun σ33 e33 H locs hH hS => ?_)
  have hw := hw σ33 e33
  refine lv_aload_n hx hb dX14_alone_286 rfl (lv_at hl 1 rfl) ?_
  refine lv_iconst (v := 0) hx hb dX14_alone_287 (by decide) ?_
  refine p15_21 C hH hS ho1 (Or.inl rfl) q1728 dX14_alone_288 (fun σ34 e34 H locs hH hS => ?_)
  have hw := hw σ34 e34
  refine lv_aload_n hx hb dX14_alone_291 rfl (lv_at hl 1 rfl) ?_
  refine lv_iconst (v := 0) hx hb dX14_alone_292 (by decide) ?_
  refine p15_23 C hH hS ho1 q1730 dX14_alone_293 (fun σ35 e35 H locs hH hS => ?_)
  have hw := hw σ35 e35
  refine lv_aload_n hx hb dX14_alone_296 rfl (lv_at hl 1 rfl) ?_
  refine lv_iconst (v := 0) hx hb dX14_alone_297 (by decide) ?_
  refine p15_24 C hH hS ho1 q1731 dX14_alone_298 (fun σ36 e36 H locs hH hS => ?_)
  have hw := hw σ36 e36
  refine lv_aload_n hx hb dX14_alone_301 rfl (lv_at hl 1 rfl) ?_
  refine lv_iconst (v := 0) hx hb dX14_alone_302 (by decide) ?_
  refine p15_26 C hH hS ho1 q1735 dX14_alone_303 (fun σ37 e37 H locs hH hS => ?_)
  have hw := hw σ37 e37
  refine lv_aload_n hx hb dX14_alone_306 rfl (lv_at hl 1 rfl) ?_
  refine lv_iconst (v := 0) hx hb dX14_alone_307 (by decide) ?_
  refine p15_28 C hH hS ho1 q1738 dX14_alone_308 (fun σ38 e38 H locs hH hS => ?_)
  have hw := hw σ38 e38
  refine lv_aload_n hx hb dX14_alone_311 rfl (lv_at hl 1 rfl) ?_
  refine lv_aload_n hx hb dX14_alone_312 rfl (lv_at hl 1 rfl) ?_
  refine g15_3 C hH ho1 q1710 dX14_alone_313 ?_
  refine lv_iconst (v := 1) hx hb dX14_alone_316 (by decide) ?_
  refine lv_iadd hx hb dX14_alone_317 ?_
  refine p15_29 C hH hS ho1 q1740 dX14_alone_318 (fun σ39 e39 H locs hH hS => ?_)
  have hw := hw σ39 e39
  refine lv_aload_n hx hb dX14_alone_321 rfl (lv_at hl 1 rfl) ?_
  refine lv_iconst (v := 0) hx hb dX14_alone_322 (by decide) ?_
  refine p15_30 C hH hS ho1 (Or.inl rfl) q1742 dX14_alone_323 (fun σ40 e40 H locs hH hS => ?_)
  have hw := hw σ40 e40
  refine lv_aload_n hx hb dX14_alone_326 rfl (lv_at hl 1 rfl) ?_
  refine lv_iconst (v := 0) hx hb dX14_alone_327 (by decide) ?_
  refine p15_31 C hH hS ho1 (Or.inl rfl) q1743 dX14_alone_328 (fun σ41 e41 H locs hH hS => ?_)
  have hw := hw σ41 e41
  refine lv_aload_n hx hb dX14_alone_331 rfl (lv_at hl 1 rfl) ?_
  refine lv_iconst (v := 0) hx hb dX14_alone_332 (by decide) ?_
  refine p15_38 C hH hS ho1 q1754 dX14_alone_333 (fun σ42 e42 H locs hH hS => ?_)
  have hw := hw σ42 e42
  refine lv_aload_n hx hb dX14_alone_336 rfl (lv_at hl 1 rfl) ?_
  refine lv_iconst (v := 0) hx hb dX14_alone_337 (by decide) ?_
  refine p15_39 C hH hS ho1 (Or.inl rfl) q1755 dX14_alone_338 (fun σ43 e43 H locs hH hS => ?_)
  have hw := hw σ43 e43
  refine lv_aload_n hx hb dX14_alone_341 rfl (lv_at hl 1 rfl) ?_
  refine lv_iconst (v := 0) hx hb dX14_alone_342 (by decide) ?_
  refine p15_40 C hH hS ho1 (Or.inl rfl) q1756 dX14_alone_343 (fun σ44 e44 H locs hH hS => ?_)
  have hw := hw σ44 e44
  refine lv_aload_n hx hb dX14_alone_346 rfl (lv_at hl 1 rfl) ?_
  refine lv_iconst (v := 0) hx hb dX14_alone_347 (by decide) ?_
  refine p15_41 C hH hS ho1 (Or.inl rfl) q1758 dX14_alone_348 (fun σ45 e45 H locs hH hS => ?_)
  have hw := hw σ45 e45
  refine lv_aload_n hx hb dX14_alone_351 rfl (lv_at hl 1 rfl) ?_
  refine lv_sipush (v := 4096) hx hb dX14_alone_352 (by decide) ?_
  refine p15_37 C hH hS ho1 q1753 dX14_alone_355 (fun σ46 e46 H locs hH hS => ?_)
  have hw := hw σ46 e46
  refine lv_iconst (v := 0) hx hb dX14_alone_358 (by decide) ?_
  refine lv_istore_n (lv' := [(2, .int 0), (0, .ref (ga G 14 0)), (1, .ref (ga G 15 o1))]) hx hb dX14_alone_359 rfl hl (by decide) rfl (fun ls hl => ?_)
  obtain ⟨n48, hw⟩ := hw
  refine k14_alone_L360 C o1 ho1 n48 σ46 0 hw H locs ls hH hS (lv_sub hl [1, 2, 0] rfl) (fun σ49 hw H locs ls hH hS hl => ?_)
  refine lv_aload_n hx hb dX14_alone_380 rfl (lv_at hl 0 rfl) ?_
  refine lv_aload_n hx hb dX14_alone_381 rfl (lv_at hl 1 rfl) ?_
  refine kc_v (rn_v (As := [.ref (ga G 15 o1)]) (rest := []) C hH hS (by decide) rfl (by decide) (m14_synAck l G a1 τ σ49 o1 ho1 _ hw) (cwV 1 hts (lw_V q2282 q2284 qs95 q171 q2285) rfl rfl rfl kX14_synAck ⟨Nat.le_of_ble_eq_true rfl, Nat.le_of_ble_eq_true rfl⟩) rfl hl.1 rfl (Nat.le_of_ble_eq_true rfl) dX14_alone_382 ⟨Nat.le_of_ble_eq_true rfl, Nat.le_of_ble_eq_true rfl⟩) hS (fun σ50 H locs hw hH hS => ?_)
  exact rt_v C hH hS hw dX14_alone_385
def w14_alone (σ : St) (Q : St → Prop) : Prop := w14_is σ 4 (fun r1 => ((r1 = 0 → ((¬ (σ 14 0 33) = 80 → (w14_reset σ (fun σ2 => (Q σ2)))) ∧ ((σ 14 0 33) = 80 → (w14_is σ 16 (fun r3 => ((r3 = 0 → (w14_is σ 2 (fun r4 => ((r4 = 0 → Q σ) ∧ (¬ r4 = 0 → (w14_is σ 1 (fun r5 => ((r5 = 0 → (∃ z8, w14_alone_L54 σ Q (fun p1_9 => (p1_9 = none → Q σ) ∧ (∀ i10, p1_9 = some i10 → (i10 < 16 ∧ (∀ σ11, σ11 = up3 σ 14 0 12 ((σ 14 0 12) + 1) → (vp_in 5 8 ∧ (vp_in 5 8 ∧ (∀ σ12, σ12 = up3 σ11 56 0 (5 : Int32).toNatClampNeg ((σ11 56 0 (5 : Int32).toNatClampNeg) + 1) → (∀ σ13, σ13 = up3 σ12 15 i10 0 1 → (∀ σ14, σ14 = up3 σ13 15 i10 1 (σ13 14 0 30) → (∀ σ15, σ15 = up3 σ14 15 i10 2 (σ14 14 0 32) → (∀ σ16, σ16 = up3 σ15 15 i10 34 (σ15 14 0 34) → (∀ σ17, σ17 = up3 σ16 15 i10 36 ((σ16 14 0 34) + 1) → (∀ σ18, σ18 = up3 σ17 15 i10 35 (σ17 15 i10 36) → (∀ σ19, σ19 = up3 σ18 15 i10 3 ((64000 * (σ18 14 0 12)) + (250 * (σ18 14 0 10))) → (∀ σ20, σ20 = up3 σ19 15 i10 4 (σ19 15 i10 3) → (∀ σ21, σ21 = up3 σ20 15 i10 5 (σ20 15 i10 3) → (∀ σ22, σ22 = up3 σ21 15 i10 6 (σ21 15 i10 3) → (∀ σ23, σ23 = up3 σ22 15 i10 7 (σ22 14 0 37) → (∀ σ24, σ24 = up3 σ23 15 i10 8 (σ23 14 0 34) → (∀ σ25, σ25 = up3 σ24 15 i10 9 0 → (w14_optionMss σ25 (fun r26 => (∀ σ27, σ27 = up3 σ25 15 i10 10 r26 → ((1095 < (σ27 15 i10 10) → (w14_alone_J255 σ27 i10 (3 * (σ27 15 i10 10)) i10 Q)) ∧ (¬ 1095 < (σ27 15 i10 10) → (w14_alone_J255 σ27 i10 (4 * (σ27 15 i10 10)) i10 Q)))))))))))))))))))))))))) z8 none 15)) ∧ (¬ r5 = 0 → Q σ))))))))) ∧ (¬ r3 = 0 → (w14_reset σ (fun σ51 => (Q σ51)))))))))) ∧ (¬ r1 = 0 → Q σ)))
set_option maxHeartbeats 4000000 in
theorem m14_alone (l : Launch) (G : Gh) (a1 : Nat → Nat → Nat) (τ : St) (σ : St) (Q : St → Prop) (hw : w14_alone σ Q) : Met l yX14_alone (ws_ yX14_alone cX14_alone 3 none) rmX14_alone (PcS G a1 (cmb τ σ) [.ref (ga G 14 0)]) (QVs G a1 (fun u => cmb τ u) Q) 0 0 (gA G) := by
  refine met_w (by decide) (Nat.le_of_ble_eq_true rfl) ?_
  intro p e s m below meth c ls C hH hS hl
  have C : Cx p e s m _ meth c cX14_alone 3 none "WebHostModel" G := C
  have hl : lv_has ls 3 [(0, .ref (ga G 14 0))] := hl
  have hx := C.1
  have hb := C.2.1
  have hown := C.2.2.2.2.2.1
  have hts := C.2.2.2.2.2.2.1
  obtain ⟨locs, hlocs⟩ : ∃ z : List Loc, z = [] := ⟨_, rfl⟩
  obtain ⟨H, hHe⟩ : ∃ z : Heap, z = s.heap := ⟨_, rfl⟩
  have hH : Hd G a1 (cmb τ σ) H := by rw [hHe]; exact hH
  have hS : va_S (gA G) s.heap H locs := by rw [hHe, hlocs]; exact hS
  refine W.heap0 hHe.symm hlocs.symm ?_
  refine lv_aload_n hx hb dX14_alone_0 rfl (lv_at hl 0 rfl) ?_
  refine lv_iconst (v := 4) hx hb dX14_alone_1 (by decide) ?_
  refine kc_ip (rn_vp (As := [.int 4]) (rest := []) C hH hS (by decide) rfl (by decide) (m14_is l G a1 τ σ H 4 _ hw) (cwV 1 hts (lw_V q2373 q2375 qs116 q171 q2376) rfl rfl rfl kX14_is ⟨Nat.le_of_ble_eq_true rfl, Nat.le_of_ble_eq_true rfl⟩) rfl hl.1 rfl (Nat.le_of_ble_eq_true rfl) dX14_alone_2 ⟨Nat.le_of_ble_eq_true rfl, Nat.le_of_ble_eq_true rfl⟩) hS (fun r1 locs hw hS => ?_)
  refine lv_if_eq (tgt := 9) hx hb dX14_alone_5 (by decide) (fun h => ?_) (fun h => ?_)
  · have hw := hw.1 h
    refine lv_aload_n hx hb dX14_alone_9 rfl (lv_at hl 0 rfl) ?_
    refine g14_33 C hH q1973 dX14_alone_10 ?_
    refine lv_bipush (v := 80) hx hb dX14_alone_13 (by decide) ?_
    refine lv_icmp_ne (tgt := 27) hx hb dX14_alone_15 (by decide) (fun h => ?_) (fun h => ?_)
    · have hw := hw.1 h
      refine lv_aload_n hx hb dX14_alone_27 rfl (lv_at hl 0 rfl) ?_
      refine kc_v (rn_v (As := []) (rest := []) C hH hS (by decide) rfl (by decide) (m14_reset l G a1 τ σ _ hw) (cwV 0 hts (lw_V q2377 q2379 qs117 q171 q2380) rfl rfl rfl kX14_reset ⟨Nat.le_of_ble_eq_true rfl, Nat.le_of_ble_eq_true rfl⟩) rfl hl.1 rfl (Nat.le_of_ble_eq_true rfl) dX14_alone_28 ⟨Nat.le_of_ble_eq_true rfl, Nat.le_of_ble_eq_true rfl⟩) hS (fun σ2 H locs hw hH hS => ?_)
      exact rt_v C hH hS hw dX14_alone_31
    have hw := hw.2 h
    refine lv_aload_n hx hb dX14_alone_18 rfl (lv_at hl 0 rfl) ?_
    refine lv_bipush (v := 16) hx hb dX14_alone_19 (by decide) ?_
    refine kc_ip (rn_vp (As := [.int 16]) (rest := []) C hH hS (by decide) rfl (by decide) (m14_is l G a1 τ σ H 16 _ hw) (cwV 1 hts (lw_V q2373 q2375 qs116 q171 q2376) rfl rfl rfl kX14_is ⟨Nat.le_of_ble_eq_true rfl, Nat.le_of_ble_eq_true rfl⟩) rfl hl.1 rfl (Nat.le_of_ble_eq_true rfl) dX14_alone_21 ⟨Nat.le_of_ble_eq_true rfl, Nat.le_of_ble_eq_true rfl⟩) hS (fun r3 locs hw hS => ?_)
    refine lv_if_eq (tgt := 32) hx hb dX14_alone_24 (by decide) (fun h => ?_) (fun h => ?_)
    · have hw := hw.1 h
      refine lv_aload_n hx hb dX14_alone_32 rfl (lv_at hl 0 rfl) ?_
      refine lv_iconst (v := 2) hx hb dX14_alone_33 (by decide) ?_
      refine kc_ip (rn_vp (As := [.int 2]) (rest := []) C hH hS (by decide) rfl (by decide) (m14_is l G a1 τ σ H 2 _ hw) (cwV 1 hts (lw_V q2373 q2375 qs116 q171 q2376) rfl rfl rfl kX14_is ⟨Nat.le_of_ble_eq_true rfl, Nat.le_of_ble_eq_true rfl⟩) rfl hl.1 rfl (Nat.le_of_ble_eq_true rfl) dX14_alone_34 ⟨Nat.le_of_ble_eq_true rfl, Nat.le_of_ble_eq_true rfl⟩) hS (fun r4 locs hw hS => ?_)
      refine lv_if_eq (tgt := 48) hx hb dX14_alone_37 (by decide) (fun h => ?_) (fun h => ?_)
      · have hw := hw.1 h
        exact rt_v C hH hS hw dX14_alone_48
      have hw := hw.2 h
      refine lv_aload_n hx hb dX14_alone_40 rfl (lv_at hl 0 rfl) ?_
      refine lv_iconst (v := 1) hx hb dX14_alone_41 (by decide) ?_
      refine kc_ip (rn_vp (As := [.int 1]) (rest := []) C hH hS (by decide) rfl (by decide) (m14_is l G a1 τ σ H 1 _ hw) (cwV 1 hts (lw_V q2373 q2375 qs116 q171 q2376) rfl rfl rfl kX14_is ⟨Nat.le_of_ble_eq_true rfl, Nat.le_of_ble_eq_true rfl⟩) rfl hl.1 rfl (Nat.le_of_ble_eq_true rfl) dX14_alone_42 ⟨Nat.le_of_ble_eq_true rfl, Nat.le_of_ble_eq_true rfl⟩) hS (fun r5 locs hw hS => ?_)
      refine lv_if_eq (tgt := 49) hx hb dX14_alone_45 (by decide) (fun h => ?_) (fun h => ?_)
      · have hw := hw.1 h
        refine lv_null hx hb dX14_alone_49 ?_
        refine lv_astore_nN (lv' := [(1, .null), (0, .ref (ga G 14 0))]) hx hb dX14_alone_50 rfl hl (by decide) rfl (fun ls hl => ?_)
        refine lv_bipush (v := 15) hx hb dX14_alone_51 (by decide) ?_
        refine lv_istore_n (lv' := [(2, .int 15), (1, .null), (0, .ref (ga G 14 0))]) hx hb dX14_alone_53 rfl hl (by decide) rfl (fun ls hl => ?_)
        obtain ⟨n8, hw⟩ := hw
        refine k14_alone_L54 C σ n8 none 15 hw H locs ls hH hS (lv_sub hl [2, 1, 0] rfl) (fun p1_9 hw H locs ls hH hS hl => ?_)
        refine lv_aload_nV hx hb dX14_alone_83 rfl (va_re_or _ _) (lv_at hl 1 rfl) ?_
        rcases p1_9 with _ | i10
        · have hw := hw.1 rfl
          have hl : lv_has ls 3 [(0, .ref (ga G 14 0)), (1, .null)] := hl
          refine lv_ifnonnullN hx hb dX14_alone_84 ?_
          exact rt_v C hH hS hw dX14_alone_87
        obtain ⟨hq10, hw⟩ := hw.2 i10 rfl
        have hl : lv_has ls 3 [(0, .ref (ga G 14 0)), (1, .ref (ga G 15 i10))] := hl
        refine lv_ifnonnull (tgt := 88) hx hb dX14_alone_84 (by decide) ?_
        refine lv_aload_n hx hb dX14_alone_88 rfl (lv_at hl 0 rfl) ?_
        refine lv_dup hx hb dX14_alone_89 rfl ?_
        refine g14_12 C hH q1952 dX14_alone_90 ?_
        refine lv_iconst (v := 1) hx hb dX14_alone_93 (by decide) ?_
        refine lv_iadd hx hb dX14_alone_94 ?_
        refine p14_12 C hH hS q1952 dX14_alone_95 (fun σ11 e11 H locs hH hS => ?_)
        have hw := hw σ11 e11
        refine lv_aload_n hx hb dX14_alone_98 rfl (lv_at hl 0 rfl) ?_
        refine g14_17 C hH q1957 dX14_alone_99 ?_
        refine lv_iconst (v := 5) hx hb dX14_alone_102 (by decide) ?_
        refine lv_dup2_11 hx hb dX14_alone_103 rfl rfl ?_
        refine l56 C hH hw.1 dX14_alone_104 ?_
        have hw := hw.2
        refine lv_iconst (v := 1) hx hb dX14_alone_105 (by decide) ?_
        refine lv_iadd hx hb dX14_alone_106 ?_
        refine s56 C hH hS hw.1 dX14_alone_107 (fun σ12 e12 H locs hH hS => ?_)
        have hw := hw.2 σ12 e12
        refine lv_aload_n hx hb dX14_alone_108 rfl (lv_at hl 1 rfl) ?_
        refine lv_iconst (v := 1) hx hb dX14_alone_109 (by decide) ?_
        refine p15_0 C hH hS hq10 q1707 dX14_alone_110 (fun σ13 e13 H locs hH hS => ?_)
        have hw := hw σ13 e13
        refine lv_aload_n hx hb dX14_alone_113 rfl (lv_at hl 1 rfl) ?_
        refine lv_aload_n hx hb dX14_alone_114 rfl (lv_at hl 0 rfl) ?_
        refine g14_30 C hH q1970 dX14_alone_115 ?_
        refine p15_1 C hH hS hq10 q1708 dX14_alone_118 (fun σ14 e14 H locs hH hS => ?_)
        have hw := hw σ14 e14
        refine lv_aload_n hx hb dX14_alone_121 rfl (lv_at hl 1 rfl) ?_
        refine lv_aload_n hx hb dX14_alone_122 rfl (lv_at hl 0 rfl) ?_
        refine g14_32 C hH q1972 dX14_alone_123 ?_
        refine p15_2 C hH hS hq10 q1709 dX14_alone_126 (fun σ15 e15 H locs hH hS => ?_)
        have hw := hw σ15 e15
        refine lv_aload_n hx hb dX14_alone_129 rfl (lv_at hl 1 rfl) ?_
        refine lv_aload_n hx hb dX14_alone_130 rfl (lv_at hl 0 rfl) ?_
        refine g14_34 C hH q1974 dX14_alone_131 ?_
        refine p15_34 C hH hS hq10 q1748 dX14_alone_134 (fun σ16 e16 H locs hH hS => ?_)
        have hw := hw σ16 e16
        refine lv_aload_n hx hb dX14_alone_137 rfl (lv_at hl 1 rfl) ?_
        refine lv_aload_n hx hb dX14_alone_138 rfl (lv_at hl 0 rfl) ?_
        refine g14_34 C hH q1974 dX14_alone_139 ?_
        refine lv_iconst (v := 1) hx hb dX14_alone_142 (by decide) ?_
        refine lv_iadd hx hb dX14_alone_143 ?_
        refine p15_36 C hH hS hq10 q1752 dX14_alone_144 (fun σ17 e17 H locs hH hS => ?_)
        have hw := hw σ17 e17
        refine lv_aload_n hx hb dX14_alone_147 rfl (lv_at hl 1 rfl) ?_
        refine lv_aload_n hx hb dX14_alone_148 rfl (lv_at hl 1 rfl) ?_
        refine g15_36 C hH hq10 q1752 dX14_alone_149 ?_
        refine p15_35 C hH hS hq10 q1750 dX14_alone_152 (fun σ18 e18 H locs hH hS => ?_)
        have hw := hw σ18 e18
        refine lv_aload_n hx hb dX14_alone_155 rfl (lv_at hl 1 rfl) ?_
        refine lv_ldcw (v := 64000) hx hb hown (hts _ q2385) dX14_alone_156 ?_
        refine lv_aload_n hx hb dX14_alone_159 rfl (lv_at hl 0 rfl) ?_
        refine g14_12 C hH q1952 dX14_alone_160 ?_
        refine lv_imul hx hb dX14_alone_163 ?_
        refine lv_sipush (v := 250) hx hb dX14_alone_164 (by decide) ?_
        refine lv_aload_n hx hb dX14_alone_167 rfl (lv_at hl 0 rfl) ?_
        refine g14_10 C hH q1950 dX14_alone_168 ?_
        refine lv_imul hx hb dX14_alone_171 ?_
        refine lv_iadd hx hb dX14_alone_172 ?_
        refine p15_3 C hH hS hq10 q1710 dX14_alone_173 (fun σ19 e19 H locs hH hS => ?_)
        have hw := hw σ19 e19
        refine lv_aload_n hx hb dX14_alone_176 rfl (lv_at hl 1 rfl) ?_
        refine lv_aload_n hx hb dX14_alone_177 rfl (lv_at hl 1 rfl) ?_
        refine g15_3 C hH hq10 q1710 dX14_alone_178 ?_
        refine p15_4 C hH hS hq10 q1711 dX14_alone_181 (fun σ20 e20 H locs hH hS => ?_)
        have hw := hw σ20 e20
        refine lv_aload_n hx hb dX14_alone_184 rfl (lv_at hl 1 rfl) ?_
        refine lv_aload_n hx hb dX14_alone_185 rfl (lv_at hl 1 rfl) ?_
        refine g15_3 C hH hq10 q1710 dX14_alone_186 ?_
        refine p15_5 C hH hS hq10 q1712 dX14_alone_189 (fun σ21 e21 H locs hH hS => ?_)
        have hw := hw σ21 e21
        refine lv_aload_n hx hb dX14_alone_192 rfl (lv_at hl 1 rfl) ?_
        refine lv_aload_n hx hb dX14_alone_193 rfl (lv_at hl 1 rfl) ?_
        refine g15_3 C hH hq10 q1710 dX14_alone_194 ?_
        refine p15_6 C hH hS hq10 q1713 dX14_alone_197 (fun σ22 e22 H locs hH hS => ?_)
        have hw := hw σ22 e22
        refine lv_aload_n hx hb dX14_alone_200 rfl (lv_at hl 1 rfl) ?_
        refine lv_aload_n hx hb dX14_alone_201 rfl (lv_at hl 0 rfl) ?_
        refine g14_37 C hH q1977 dX14_alone_202 ?_
        refine p15_7 C hH hS hq10 q1714 dX14_alone_205 (fun σ23 e23 H locs hH hS => ?_)
        have hw := hw σ23 e23
        refine lv_aload_n hx hb dX14_alone_208 rfl (lv_at hl 1 rfl) ?_
        refine lv_aload_n hx hb dX14_alone_209 rfl (lv_at hl 0 rfl) ?_
        refine g14_34 C hH q1974 dX14_alone_210 ?_
        refine p15_8 C hH hS hq10 q1715 dX14_alone_213 (fun σ24 e24 H locs hH hS => ?_)
        have hw := hw σ24 e24
        refine lv_aload_n hx hb dX14_alone_216 rfl (lv_at hl 1 rfl) ?_
        refine lv_iconst (v := 0) hx hb dX14_alone_217 (by decide) ?_
        refine p15_9 C hH hS hq10 q1716 dX14_alone_218 (fun σ25 e25 H locs hH hS => ?_)
        have hw := hw σ25 e25
        refine lv_aload_n hx hb dX14_alone_221 rfl (lv_at hl 1 rfl) ?_
        refine lv_aload_n hx hb dX14_alone_222 rfl (lv_at hl 0 rfl) ?_
        refine kc_ip (rn_vp (As := []) (rest := [.ref (ga G 15 i10)]) C hH hS (by decide) rfl (by decide) (m14_optionMss l G a1 τ σ25 H _ hw) (cwV 0 hts (lw_V q2386 q2388 qs119 q171 q2389) rfl rfl rfl kX14_optionMss ⟨Nat.le_of_ble_eq_true rfl, Nat.le_of_ble_eq_true rfl⟩) rfl hl.1 rfl (Nat.le_of_ble_eq_true rfl) dX14_alone_223 ⟨Nat.le_of_ble_eq_true rfl, Nat.le_of_ble_eq_true rfl⟩) hS (fun r26 locs hw hS => ?_)
        refine p15_10 C hH hS hq10 q1717 dX14_alone_226 (fun σ27 e27 H locs hH hS => ?_)
        have hw := hw σ27 e27
        refine lv_aload_n hx hb dX14_alone_229 rfl (lv_at hl 1 rfl) ?_
        refine lv_aload_n hx hb dX14_alone_230 rfl (lv_at hl 1 rfl) ?_
        refine g15_10 C hH hq10 q1717 dX14_alone_231 ?_
        refine lv_sipush (v := 1095) hx hb dX14_alone_234 (by decide) ?_
        refine lv_icmp_gt (tgt := 249) hx hb dX14_alone_237 (by decide) (fun h => ?_) (fun h => ?_)
        · have hw := hw.1 h
          refine lv_iconst (v := 3) hx hb dX14_alone_249 (by decide) ?_
          refine lv_aload_n hx hb dX14_alone_250 rfl (lv_at hl 1 rfl) ?_
          refine g15_10 C hH hq10 q1717 dX14_alone_251 ?_
          refine lv_imul hx hb dX14_alone_254 ?_
          exact k14_alone_J255 C σ27 i10 (3 * (σ27 15 i10 10)) i10 hq10 hq10 hw H locs ls hH hS (lv_sub hl [0, 1] rfl)
        have hw := hw.2 h
        refine lv_iconst (v := 4) hx hb dX14_alone_240 (by decide) ?_
        refine lv_aload_n hx hb dX14_alone_241 rfl (lv_at hl 1 rfl) ?_
        refine g15_10 C hH hq10 q1717 dX14_alone_242 ?_
        refine lv_imul hx hb dX14_alone_245 ?_
        refine lv_goto (tgt := 255) hx hb dX14_alone_246 (by decide) ?_
        exact k14_alone_J255 C σ27 i10 (4 * (σ27 15 i10 10)) i10 hq10 hq10 hw H locs ls hH hS (lv_sub hl [0, 1] rfl)
      have hw := hw.2 h
      exact rt_v C hH hS hw dX14_alone_48
    have hw := hw.2 h
    refine lv_aload_n hx hb dX14_alone_27 rfl (lv_at hl 0 rfl) ?_
    refine kc_v (rn_v (As := []) (rest := []) C hH hS (by decide) rfl (by decide) (m14_reset l G a1 τ σ _ hw) (cwV 0 hts (lw_V q2377 q2379 qs117 q171 q2380) rfl rfl rfl kX14_reset ⟨Nat.le_of_ble_eq_true rfl, Nat.le_of_ble_eq_true rfl⟩) rfl hl.1 rfl (Nat.le_of_ble_eq_true rfl) dX14_alone_28 ⟨Nat.le_of_ble_eq_true rfl, Nat.le_of_ble_eq_true rfl⟩) hS (fun σ51 H locs hw hH hS => ?_)
    exact rt_v C hH hS hw dX14_alone_31
  have hw := hw.2 h
  exact rt_v C hH hS hw dX14_alone_8
/-! WebHostModel.duplicate(LWebHostModel$Connection;)V -/
abbrev cX14_duplicate : ByteArray := prog_17_method_62_code
def yX14_duplicate : MethodName := ⟨RX14, "duplicate", "(LWebHostModel$Connection;)V"⟩
theorem dX14_duplicate_0 : decode cX14_duplicate 0 = .ok (.aload_n 1, 1) := by decide +kernel
theorem dX14_duplicate_1 : decode cX14_duplicate 1 = .ok (.dup, 1) := by decide +kernel
theorem dX14_duplicate_2 : decode cX14_duplicate 2 = .ok (.getfield 469, 3) := by decide +kernel
theorem dX14_duplicate_5 : decode cX14_duplicate 5 = .ok (.iconst 1, 1) := by decide +kernel
theorem dX14_duplicate_6 : decode cX14_duplicate 6 = .ok (.iadd, 1) := by decide +kernel
theorem dX14_duplicate_7 : decode cX14_duplicate 7 = .ok (.putfield 469, 3) := by decide +kernel
theorem dX14_duplicate_10 : decode cX14_duplicate 10 = .ok (.aload_n 1, 1) := by decide +kernel
theorem dX14_duplicate_11 : decode cX14_duplicate 11 = .ok (.getfield 469, 3) := by decide +kernel
theorem dX14_duplicate_14 : decode cX14_duplicate 14 = .ok (.iconst 3, 1) := by decide +kernel
theorem dX14_duplicate_15 : decode cX14_duplicate 15 = .ok (.if_icmp .ne 120, 3) := by decide +kernel
theorem dX14_duplicate_18 : decode cX14_duplicate 18 = .ok (.aload_n 1, 1) := by decide +kernel
theorem dX14_duplicate_19 : decode cX14_duplicate 19 = .ok (.aload_n 1, 1) := by decide +kernel
theorem dX14_duplicate_20 : decode cX14_duplicate 20 = .ok (.getfield 361, 3) := by decide +kernel
theorem dX14_duplicate_23 : decode cX14_duplicate 23 = .ok (.aload_n 1, 1) := by decide +kernel
theorem dX14_duplicate_24 : decode cX14_duplicate 24 = .ok (.getfield 428, 3) := by decide +kernel
theorem dX14_duplicate_27 : decode cX14_duplicate 27 = .ok (.isub, 1) := by decide +kernel
theorem dX14_duplicate_28 : decode cX14_duplicate 28 = .ok (.iconst 2, 1) := by decide +kernel
theorem dX14_duplicate_29 : decode cX14_duplicate 29 = .ok (.idiv, 1) := by decide +kernel
theorem dX14_duplicate_30 : decode cX14_duplicate 30 = .ok (.iconst 2, 1) := by decide +kernel
theorem dX14_duplicate_31 : decode cX14_duplicate 31 = .ok (.aload_n 1, 1) := by decide +kernel
theorem dX14_duplicate_32 : decode cX14_duplicate 32 = .ok (.getfield 405, 3) := by decide +kernel
theorem dX14_duplicate_35 : decode cX14_duplicate 35 = .ok (.imul, 1) := by decide +kernel
theorem dX14_duplicate_36 : decode cX14_duplicate 36 = .ok (.invokestatic 164, 3) := by decide +kernel
theorem dX14_duplicate_39 : decode cX14_duplicate 39 = .ok (.putfield 457, 3) := by decide +kernel
theorem dX14_duplicate_42 : decode cX14_duplicate 42 = .ok (.aload_n 1, 1) := by decide +kernel
theorem dX14_duplicate_43 : decode cX14_duplicate 43 = .ok (.invokevirtual 402, 3) := by decide +kernel
theorem dX14_duplicate_46 : decode cX14_duplicate 46 = .ok (.aload_n 1, 1) := by decide +kernel
theorem dX14_duplicate_47 : decode cX14_duplicate 47 = .ok (.getfield 428, 3) := by decide +kernel
theorem dX14_duplicate_50 : decode cX14_duplicate 50 = .ok (.isub, 1) := by decide +kernel
theorem dX14_duplicate_51 : decode cX14_duplicate 51 = .ok (.aload_n 1, 1) := by decide +kernel
theorem dX14_duplicate_52 : decode cX14_duplicate 52 = .ok (.getfield 361, 3) := by decide +kernel
theorem dX14_duplicate_55 : decode cX14_duplicate 55 = .ok (.aload_n 1, 1) := by decide +kernel
theorem dX14_duplicate_56 : decode cX14_duplicate 56 = .ok (.getfield 428, 3) := by decide +kernel
theorem dX14_duplicate_59 : decode cX14_duplicate 59 = .ok (.isub, 1) := by decide +kernel
theorem dX14_duplicate_60 : decode cX14_duplicate 60 = .ok (.invokestatic 411, 3) := by decide +kernel
theorem dX14_duplicate_63 : decode cX14_duplicate 63 = .ok (.istore_n 2, 1) := by decide +kernel
theorem dX14_duplicate_64 : decode cX14_duplicate 64 = .ok (.aload_n 1, 1) := by decide +kernel
theorem dX14_duplicate_65 : decode cX14_duplicate 65 = .ok (.getfield 405, 3) := by decide +kernel
theorem dX14_duplicate_68 : decode cX14_duplicate 68 = .ok (.iload_n 2, 1) := by decide +kernel
theorem dX14_duplicate_69 : decode cX14_duplicate 69 = .ok (.invokestatic 411, 3) := by decide +kernel
theorem dX14_duplicate_72 : decode cX14_duplicate 72 = .ok (.istore_n 3, 1) := by decide +kernel
theorem dX14_duplicate_73 : decode cX14_duplicate 73 = .ok (.aload_n 1, 1) := by decide +kernel
theorem dX14_duplicate_74 : decode cX14_duplicate 74 = .ok (.getfield 408, 3) := by decide +kernel
theorem dX14_duplicate_77 : decode cX14_duplicate 77 = .ok (.ifCond .eq 20, 3) := by decide +kernel
theorem dX14_duplicate_80 : decode cX14_duplicate 80 = .ok (.aload_n 1, 1) := by decide +kernel
theorem dX14_duplicate_81 : decode cX14_duplicate 81 = .ok (.getfield 428, 3) := by decide +kernel
theorem dX14_duplicate_84 : decode cX14_duplicate 84 = .ok (.iload_n 3, 1) := by decide +kernel
theorem dX14_duplicate_85 : decode cX14_duplicate 85 = .ok (.iadd, 1) := by decide +kernel
theorem dX14_duplicate_86 : decode cX14_duplicate 86 = .ok (.aload_n 1, 1) := by decide +kernel
theorem dX14_duplicate_87 : decode cX14_duplicate 87 = .ok (.invokevirtual 402, 3) := by decide +kernel
theorem dX14_duplicate_90 : decode cX14_duplicate 90 = .ok (.if_icmp .ne 7, 3) := by decide +kernel
theorem dX14_duplicate_93 : decode cX14_duplicate 93 = .ok (.iconst 1, 1) := by decide +kernel
theorem dX14_duplicate_94 : decode cX14_duplicate 94 = .ok (.goto 4, 3) := by decide +kernel
theorem dX14_duplicate_97 : decode cX14_duplicate 97 = .ok (.iconst 0, 1) := by decide +kernel
theorem dX14_duplicate_98 : decode cX14_duplicate 98 = .ok (.istore 4, 2) := by decide +kernel
theorem dX14_duplicate_100 : decode cX14_duplicate 100 = .ok (.aload_n 0, 1) := by decide +kernel
theorem dX14_duplicate_101 : decode cX14_duplicate 101 = .ok (.aload_n 1, 1) := by decide +kernel
theorem dX14_duplicate_102 : decode cX14_duplicate 102 = .ok (.aload_n 1, 1) := by decide +kernel
theorem dX14_duplicate_103 : decode cX14_duplicate 103 = .ok (.getfield 428, 3) := by decide +kernel
theorem dX14_duplicate_106 : decode cX14_duplicate 106 = .ok (.iload_n 3, 1) := by decide +kernel
theorem dX14_duplicate_107 : decode cX14_duplicate 107 = .ok (.iload 4, 2) := by decide +kernel
theorem dX14_duplicate_109 : decode cX14_duplicate 109 = .ok (.invokevirtual 421, 3) := by decide +kernel
theorem dX14_duplicate_112 : decode cX14_duplicate 112 = .ok (.aload_n 1, 1) := by decide +kernel
theorem dX14_duplicate_113 : decode cX14_duplicate 113 = .ok (.aload_n 1, 1) := by decide +kernel
theorem dX14_duplicate_114 : decode cX14_duplicate 114 = .ok (.getfield 457, 3) := by decide +kernel
theorem dX14_duplicate_117 : decode cX14_duplicate 117 = .ok (.iconst 3, 1) := by decide +kernel
theorem dX14_duplicate_118 : decode cX14_duplicate 118 = .ok (.aload_n 1, 1) := by decide +kernel
theorem dX14_duplicate_119 : decode cX14_duplicate 119 = .ok (.getfield 405, 3) := by decide +kernel
theorem dX14_duplicate_122 : decode cX14_duplicate 122 = .ok (.imul, 1) := by decide +kernel
theorem dX14_duplicate_123 : decode cX14_duplicate 123 = .ok (.iadd, 1) := by decide +kernel
theorem dX14_duplicate_124 : decode cX14_duplicate 124 = .ok (.putfield 431, 3) := by decide +kernel
theorem dX14_duplicate_127 : decode cX14_duplicate 127 = .ok (.aload_n 1, 1) := by decide +kernel
theorem dX14_duplicate_128 : decode cX14_duplicate 128 = .ok (.iconst 1, 1) := by decide +kernel
theorem dX14_duplicate_129 : decode cX14_duplicate 129 = .ok (.putfield 463, 3) := by decide +kernel
theorem dX14_duplicate_132 : decode cX14_duplicate 132 = .ok (.goto 29, 3) := by decide +kernel
theorem dX14_duplicate_135 : decode cX14_duplicate 135 = .ok (.aload_n 1, 1) := by decide +kernel
theorem dX14_duplicate_136 : decode cX14_duplicate 136 = .ok (.getfield 469, 3) := by decide +kernel
theorem dX14_duplicate_139 : decode cX14_duplicate 139 = .ok (.iconst 3, 1) := by decide +kernel
theorem dX14_duplicate_140 : decode cX14_duplicate 140 = .ok (.if_icmp .le 21, 3) := by decide +kernel
theorem dX14_duplicate_143 : decode cX14_duplicate 143 = .ok (.aload_n 1, 1) := by decide +kernel
theorem dX14_duplicate_144 : decode cX14_duplicate 144 = .ok (.ldc 14, 2) := by decide +kernel
theorem dX14_duplicate_146 : decode cX14_duplicate 146 = .ok (.aload_n 1, 1) := by decide +kernel
theorem dX14_duplicate_147 : decode cX14_duplicate 147 = .ok (.getfield 431, 3) := by decide +kernel
theorem dX14_duplicate_150 : decode cX14_duplicate 150 = .ok (.aload_n 1, 1) := by decide +kernel
theorem dX14_duplicate_151 : decode cX14_duplicate 151 = .ok (.getfield 405, 3) := by decide +kernel
theorem dX14_duplicate_154 : decode cX14_duplicate 154 = .ok (.iadd, 1) := by decide +kernel
theorem dX14_duplicate_155 : decode cX14_duplicate 155 = .ok (.invokestatic 411, 3) := by decide +kernel
theorem dX14_duplicate_158 : decode cX14_duplicate 158 = .ok (.putfield 431, 3) := by decide +kernel
theorem dX14_duplicate_161 : decode cX14_duplicate 161 = .ok (.return_, 1) := by decide +kernel
def rmX14_duplicate : Room := { frames := 7, cells := 0, slots := 0, locals := 181 }
theorem kX14_duplicate : yX14_duplicate.cls = "WebHostModel" ∧ yX14_duplicate.cls ≠ "java/lang/invoke/MethodHandle" ∧ yX14_duplicate.cls ≠ "java/lang/invoke/VarHandle" ∧ (parseMethodDescriptor yX14_duplicate.desc).map (fun d => d.parameters.length) = some 1 := by decide +kernel
def w14_duplicate_J98 (σ : St) (o1 : Nat) (x3 : Int32) (xs0 : Int32) (Q : St → Prop) : Prop := w14_dataOut σ o1 (σ 15 o1 4) x3 xs0 (fun σ5 => (∀ σ6, σ6 = up3 σ5 15 o1 11 ((σ5 15 o1 12) + (3 * (σ5 15 o1 10))) → (∀ σ7, σ7 = up3 σ6 15 o1 18 1 → (Q σ7))))
set_option maxHeartbeats 4000000 in
theorem k14_duplicate_J98 {p : Program} {l : Launch} {e : Env} {s : State} {m : MethodId} {args : Array Value} {below : List Frame} {meth : Method} {c : Code} {G : Gh} {a1 : Nat → Nat → Nat} {τ : St} {Q : St → Prop} (C : Cx p e s m args meth c cX14_duplicate 5 none "WebHostModel" G) (σ : St) (o1 : Nat) (x3 : Int32) (xs0 : Int32) (ho1 : o1 < 16) (hw : w14_duplicate_J98 σ o1 x3 xs0 Q) (H : Heap) (locs : List Loc) (ls : Array Slot) (hH : Hd G a1 (cmb τ σ) H) (hS : va_S (gA G) s.heap H locs) (hl : lv_has ls 5 [(0, .ref (ga G 14 0)), (1, .ref (ga G 15 o1)), (3, .int x3)]) : W p l e rmX14_duplicate s m args below meth c H locs 0 0 (MQ below (QVs G a1 (fun u => cmb τ u) Q) args s 0 0 (gA G)) (F0 m 98 ls [.int xs0]) := by
  have hx := C.1
  have hb := C.2.1
  have hown := C.2.2.2.2.2.1
  have hts := C.2.2.2.2.2.2.1
  refine lv_istore (lv' := [(4, .int xs0), (0, .ref (ga G 14 0)), (1, .ref (ga G 15 o1)), (3, .int x3)]) hx hb dX14_duplicate_98 hl (by decide) rfl (fun ls hl => ?_)
  refine lv_aload_n hx hb dX14_duplicate_100 rfl (lv_at hl 1 rfl) ?_
  refine lv_aload_n hx hb dX14_duplicate_101 rfl (lv_at hl 2 rfl) ?_
  refine lv_aload_n hx hb dX14_duplicate_102 rfl (lv_at hl 2 rfl) ?_
  refine g15_4 C hH ho1 q1711 dX14_duplicate_103 ?_
  refine lv_iload_n hx hb dX14_duplicate_106 rfl (lv_at hl 3 rfl) ?_
  refine lv_iload hx hb dX14_duplicate_107 (lv_at hl 0 rfl) ?_
  refine kc_v (rn_v (As := [.ref (ga G 15 o1), .int (σ 15 o1 4), .int x3, .int xs0]) (rest := []) C hH hS (by decide) rfl (by decide) (m14_dataOut l G a1 τ σ o1 (σ 15 o1 4) x3 xs0 ho1 _ hw) (cwV 4 hts (lw_V q2309 q2311 qs100 q171 q2312) rfl rfl rfl kX14_dataOut ⟨Nat.le_of_ble_eq_true rfl, Nat.le_of_ble_eq_true rfl⟩) rfl hl.1 rfl (Nat.le_of_ble_eq_true rfl) dX14_duplicate_109 ⟨Nat.le_of_ble_eq_true rfl, Nat.le_of_ble_eq_true rfl⟩) hS (fun σ5 H locs hw hH hS => ?_)
  refine lv_aload_n hx hb dX14_duplicate_112 rfl (lv_at hl 2 rfl) ?_
  refine lv_aload_n hx hb dX14_duplicate_113 rfl (lv_at hl 2 rfl) ?_
  refine g15_12 C hH ho1 q1719 dX14_duplicate_114 ?_
  refine lv_iconst (v := 3) hx hb dX14_duplicate_117 (by decide) ?_
  refine lv_aload_n hx hb dX14_duplicate_118 rfl (lv_at hl 2 rfl) ?_
  refine g15_10 C hH ho1 q1717 dX14_duplicate_119 ?_
  refine lv_imul hx hb dX14_duplicate_122 ?_
  refine lv_iadd hx hb dX14_duplicate_123 ?_
  refine p15_11 C hH hS ho1 q1718 dX14_duplicate_124 (fun σ6 e6 H locs hH hS => ?_)
  have hw := hw σ6 e6
  refine lv_aload_n hx hb dX14_duplicate_127 rfl (lv_at hl 2 rfl) ?_
  refine lv_iconst (v := 1) hx hb dX14_duplicate_128 (by decide) ?_
  refine p15_18 C hH hS ho1 (Or.inr rfl) q1725 dX14_duplicate_129 (fun σ7 e7 H locs hH hS => ?_)
  have hw := hw σ7 e7
  refine lv_goto (tgt := 161) hx hb dX14_duplicate_132 (by decide) ?_
  exact rt_v C hH hS hw dX14_duplicate_161
def w14_duplicate (σ : St) (o1 : Nat) (Q : St → Prop) : Prop := ∀ σ1, σ1 = up3 σ 15 o1 24 ((σ 15 o1 24) + 1) → ((¬ (σ1 15 o1 24) = 3 → (((σ1 15 o1 24) ≤ 3 → Q σ1) ∧ (¬ (σ1 15 o1 24) ≤ 3 → (∀ σ2, σ2 = up3 σ1 15 o1 11 (imin 65535 ((σ1 15 o1 11) + (σ1 15 o1 10))) → (Q σ2))))) ∧ ((σ1 15 o1 24) = 3 → (∀ σ3, σ3 = up3 σ1 15 o1 12 (imax (((σ1 15 o1 6) - (σ1 15 o1 4)) / 2) (2 * (σ1 15 o1 10))) → (w15_behind σ3 o1 (fun r4 => (bo (σ3 15 o1 31) → (((σ3 15 o1 31) = 0 → (w14_duplicate_J98 σ3 o1 (imin (σ3 15 o1 10) (imin (r4 - (σ3 15 o1 4)) ((σ3 15 o1 6) - (σ3 15 o1 4)))) 0 Q)) ∧ (¬ (σ3 15 o1 31) = 0 → (w15_behind σ3 o1 (fun r8 => ((¬ ((σ3 15 o1 4) + (imin (σ3 15 o1 10) (imin (r4 - (σ3 15 o1 4)) ((σ3 15 o1 6) - (σ3 15 o1 4))))) = r8 → (w14_duplicate_J98 σ3 o1 (imin (σ3 15 o1 10) (imin (r4 - (σ3 15 o1 4)) ((σ3 15 o1 6) - (σ3 15 o1 4)))) 0 Q)) ∧ (((σ3 15 o1 4) + (imin (σ3 15 o1 10) (imin (r4 - (σ3 15 o1 4)) ((σ3 15 o1 6) - (σ3 15 o1 4))))) = r8 → (w14_duplicate_J98 σ3 o1 (imin (σ3 15 o1 10) (imin (r4 - (σ3 15 o1 4)) ((σ3 15 o1 6) - (σ3 15 o1 4)))) 1 Q)))))))))))))
set_option maxHeartbeats 4000000 in
theorem m14_duplicate (l : Launch) (G : Gh) (a1 : Nat → Nat → Nat) (τ : St) (σ : St) (o1 : Nat) (ho1 : o1 < 16) (Q : St → Prop) (hw : w14_duplicate σ o1 Q) : Met l yX14_duplicate (ws_ yX14_duplicate cX14_duplicate 5 none) rmX14_duplicate (PcS G a1 (cmb τ σ) [.ref (ga G 14 0), .ref (ga G 15 o1)]) (QVs G a1 (fun u => cmb τ u) Q) 0 0 (gA G) := by
  refine met_w (by decide) (Nat.le_of_ble_eq_true rfl) ?_
  intro p e s m below meth c ls C hH hS hl
  have C : Cx p e s m _ meth c cX14_duplicate 5 none "WebHostModel" G := C
  have hl : lv_has ls 5 [(0, .ref (ga G 14 0)), (1, .ref (ga G 15 o1))] := hl
  have hx := C.1
  have hb := C.2.1
  have hown := C.2.2.2.2.2.1
  have hts := C.2.2.2.2.2.2.1
  obtain ⟨locs, hlocs⟩ : ∃ z : List Loc, z = [] := ⟨_, rfl⟩
  obtain ⟨H, hHe⟩ : ∃ z : Heap, z = s.heap := ⟨_, rfl⟩
  have hH : Hd G a1 (cmb τ σ) H := by rw [hHe]; exact hH
  have hS : va_S (gA G) s.heap H locs := by rw [hHe, hlocs]; exact hS
  refine W.heap0 hHe.symm hlocs.symm ?_
  refine lv_aload_n hx hb dX14_duplicate_0 rfl (lv_at hl 1 rfl) ?_
  refine lv_dup hx hb dX14_duplicate_1 rfl ?_
  refine g15_24 C hH ho1 q1731 dX14_duplicate_2 ?_
  refine lv_iconst (v := 1) hx hb dX14_duplicate_5 (by decide) ?_
  refine lv_iadd hx hb dX14_duplicate_6 ?_
  refine p15_24 C hH hS ho1 q1731 dX14_duplicate_7 (fun σ1 e1 H locs hH hS => ?_)
  have hw := hw σ1 e1
  refine lv_aload_n hx hb dX14_duplicate_10 rfl (lv_at hl 1 rfl) ?_
  refine g15_24 C hH ho1 q1731 dX14_duplicate_11 ?_
  refine lv_iconst (v := 3) hx hb dX14_duplicate_14 (by decide) ?_
  refine lv_icmp_ne (tgt := 135) hx hb dX14_duplicate_15 (by decide) (fun h => ?_) (fun h => ?_)
  · have hw := hw.1 h
    refine lv_aload_n hx hb dX14_duplicate_135 rfl (lv_at hl 1 rfl) ?_
    refine g15_24 C hH ho1 q1731 dX14_duplicate_136 ?_
    refine lv_iconst (v := 3) hx hb dX14_duplicate_139 (by decide) ?_
    refine lv_icmp_le (tgt := 161) hx hb dX14_duplicate_140 (by decide) (fun h => ?_) (fun h => ?_)
    · have hw := hw.1 h
      exact rt_v C hH hS hw dX14_duplicate_161
    have hw := hw.2 h
    refine lv_aload_n hx hb dX14_duplicate_143 rfl (lv_at hl 1 rfl) ?_
    refine lv_ldc (v := 65535) hx hb hown (hts _ q1692) dX14_duplicate_144 ?_
    refine lv_aload_n hx hb dX14_duplicate_146 rfl (lv_at hl 1 rfl) ?_
    refine g15_11 C hH ho1 q1718 dX14_duplicate_147 ?_
    refine lv_aload_n hx hb dX14_duplicate_150 rfl (lv_at hl 1 rfl) ?_
    refine g15_10 C hH ho1 q1717 dX14_duplicate_151 ?_
    refine lv_iadd hx hb dX14_duplicate_154 ?_
    refine r_imin C hl.1 q2281 (Nat.le_of_ble_eq_true rfl) (Nat.le_of_ble_eq_true rfl) (Nat.zero_le _) (Nat.zero_le _) dX14_duplicate_155 ?_
    refine p15_11 C hH hS ho1 q1718 dX14_duplicate_158 (fun σ2 e2 H locs hH hS => ?_)
    have hw := hw σ2 e2
    exact rt_v C hH hS hw dX14_duplicate_161
  have hw := hw.2 h
  refine lv_aload_n hx hb dX14_duplicate_18 rfl (lv_at hl 1 rfl) ?_
  refine lv_aload_n hx hb dX14_duplicate_19 rfl (lv_at hl 1 rfl) ?_
  refine g15_6 C hH ho1 q1713 dX14_duplicate_20 ?_
  refine lv_aload_n hx hb dX14_duplicate_23 rfl (lv_at hl 1 rfl) ?_
  refine g15_4 C hH ho1 q1711 dX14_duplicate_24 ?_
  refine lv_isub hx hb dX14_duplicate_27 ?_
  refine lv_iconst (v := 2) hx hb dX14_duplicate_28 (by decide) ?_
  refine lv_idiv hx hb dX14_duplicate_29 (by decide) ?_
  refine lv_iconst (v := 2) hx hb dX14_duplicate_30 (by decide) ?_
  refine lv_aload_n hx hb dX14_duplicate_31 rfl (lv_at hl 1 rfl) ?_
  refine g15_10 C hH ho1 q1717 dX14_duplicate_32 ?_
  refine lv_imul hx hb dX14_duplicate_35 ?_
  refine r_imax C hl.1 q2226 (Nat.le_of_ble_eq_true rfl) (Nat.le_of_ble_eq_true rfl) (Nat.zero_le _) (Nat.zero_le _) dX14_duplicate_36 ?_
  refine p15_12 C hH hS ho1 q1719 dX14_duplicate_39 (fun σ3 e3 H locs hH hS => ?_)
  have hw := hw σ3 e3
  refine lv_aload_n hx hb dX14_duplicate_42 rfl (lv_at hl 1 rfl) ?_
  refine kc_ip (rn_vp (As := []) (rest := []) C hH hS (by decide) rfl ho1 (m15_behind l G a1 τ σ3 H o1 ho1 _ hw) (cwV 0 hts (lw_V q2308 q2198 q2199 q172 q2200) rfl rfl rfl kX15_behind ⟨Nat.le_of_ble_eq_true rfl, Nat.le_of_ble_eq_true rfl⟩) rfl hl.1 rfl (Nat.le_of_ble_eq_true rfl) dX14_duplicate_43 ⟨Nat.le_of_ble_eq_true rfl, Nat.le_of_ble_eq_true rfl⟩) hS (fun r4 locs hw hS => ?_)
  refine lv_aload_n hx hb dX14_duplicate_46 rfl (lv_at hl 1 rfl) ?_
  refine g15_4 C hH ho1 q1711 dX14_duplicate_47 ?_
  refine lv_isub hx hb dX14_duplicate_50 ?_
  refine lv_aload_n hx hb dX14_duplicate_51 rfl (lv_at hl 1 rfl) ?_
  refine g15_6 C hH ho1 q1713 dX14_duplicate_52 ?_
  refine lv_aload_n hx hb dX14_duplicate_55 rfl (lv_at hl 1 rfl) ?_
  refine g15_4 C hH ho1 q1711 dX14_duplicate_56 ?_
  refine lv_isub hx hb dX14_duplicate_59 ?_
  refine r_imin C hl.1 q2281 (Nat.le_of_ble_eq_true rfl) (Nat.le_of_ble_eq_true rfl) (Nat.zero_le _) (Nat.zero_le _) dX14_duplicate_60 ?_
  refine lv_istore_n (lv' := [(2, .int (imin (r4 - (σ3 15 o1 4)) ((σ3 15 o1 6) - (σ3 15 o1 4)))), (0, .ref (ga G 14 0)), (1, .ref (ga G 15 o1))]) hx hb dX14_duplicate_63 rfl hl (by decide) rfl (fun ls hl => ?_)
  refine lv_aload_n hx hb dX14_duplicate_64 rfl (lv_at hl 2 rfl) ?_
  refine g15_10 C hH ho1 q1717 dX14_duplicate_65 ?_
  refine lv_iload_n hx hb dX14_duplicate_68 rfl (lv_at hl 0 rfl) ?_
  refine r_imin C hl.1 q2281 (Nat.le_of_ble_eq_true rfl) (Nat.le_of_ble_eq_true rfl) (Nat.zero_le _) (Nat.zero_le _) dX14_duplicate_69 ?_
  refine lv_istore_n (lv' := [(3, .int (imin (σ3 15 o1 10) (imin (r4 - (σ3 15 o1 4)) ((σ3 15 o1 6) - (σ3 15 o1 4))))), (2, .int (imin (r4 - (σ3 15 o1 4)) ((σ3 15 o1 6) - (σ3 15 o1 4)))), (0, .ref (ga G 14 0)), (1, .ref (ga G 15 o1))]) hx hb dX14_duplicate_72 rfl hl (by decide) rfl (fun ls hl => ?_)
  refine lv_aload_n hx hb dX14_duplicate_73 rfl (lv_at hl 3 rfl) ?_
  refine g15_31 C hH ho1 q1743 dX14_duplicate_74 (fun hz => ?_)
  have hw := hw hz
  refine lv_if_eq (tgt := 97) hx hb dX14_duplicate_77 (by decide) (fun h => ?_) (fun h => ?_)
  · have hw := hw.1 h
    refine lv_iconst (v := 0) hx hb dX14_duplicate_97 (by decide) ?_
    exact k14_duplicate_J98 C σ3 o1 (imin (σ3 15 o1 10) (imin (r4 - (σ3 15 o1 4)) ((σ3 15 o1 6) - (σ3 15 o1 4)))) 0 ho1 hw H locs ls hH hS (lv_sub hl [2, 3, 0] rfl)
  have hw := hw.2 h
  refine lv_aload_n hx hb dX14_duplicate_80 rfl (lv_at hl 3 rfl) ?_
  refine g15_4 C hH ho1 q1711 dX14_duplicate_81 ?_
  refine lv_iload_n hx hb dX14_duplicate_84 rfl (lv_at hl 0 rfl) ?_
  refine lv_iadd hx hb dX14_duplicate_85 ?_
  refine lv_aload_n hx hb dX14_duplicate_86 rfl (lv_at hl 3 rfl) ?_
  refine kc_ip (rn_vp (As := []) (rest := [.int ((σ3 15 o1 4) + (imin (σ3 15 o1 10) (imin (r4 - (σ3 15 o1 4)) ((σ3 15 o1 6) - (σ3 15 o1 4)))))]) C hH hS (by decide) rfl ho1 (m15_behind l G a1 τ σ3 H o1 ho1 _ hw) (cwV 0 hts (lw_V q2308 q2198 q2199 q172 q2200) rfl rfl rfl kX15_behind ⟨Nat.le_of_ble_eq_true rfl, Nat.le_of_ble_eq_true rfl⟩) rfl hl.1 rfl (Nat.le_of_ble_eq_true rfl) dX14_duplicate_87 ⟨Nat.le_of_ble_eq_true rfl, Nat.le_of_ble_eq_true rfl⟩) hS (fun r8 locs hw hS => ?_)
  refine lv_icmp_ne (tgt := 97) hx hb dX14_duplicate_90 (by decide) (fun h => ?_) (fun h => ?_)
  · have hw := hw.1 h
    refine lv_iconst (v := 0) hx hb dX14_duplicate_97 (by decide) ?_
    exact k14_duplicate_J98 C σ3 o1 (imin (σ3 15 o1 10) (imin (r4 - (σ3 15 o1 4)) ((σ3 15 o1 6) - (σ3 15 o1 4)))) 0 ho1 hw H locs ls hH hS (lv_sub hl [2, 3, 0] rfl)
  have hw := hw.2 h
  refine lv_iconst (v := 1) hx hb dX14_duplicate_93 (by decide) ?_
  refine lv_goto (tgt := 98) hx hb dX14_duplicate_94 (by decide) ?_
  exact k14_duplicate_J98 C σ3 o1 (imin (σ3 15 o1 10) (imin (r4 - (σ3 15 o1 4)) ((σ3 15 o1 6) - (σ3 15 o1 4)))) 1 ho1 hw H locs ls hH hS (lv_sub hl [2, 3, 0] rfl)
/-! WebHostModel.one(LWebHostModel$Connection;I)V -/
abbrev cX14_one : ByteArray := prog_17_method_50_code
def yX14_one : MethodName := ⟨RX14, "one", "(LWebHostModel$Connection;I)V"⟩
theorem dX14_one_0 : decode cX14_one 0 = .ok (.aload_n 1, 1) := by decide +kernel
theorem dX14_one_1 : decode cX14_one 1 = .ok (.iload_n 2, 1) := by decide +kernel
theorem dX14_one_2 : decode cX14_one 2 = .ok (.invokestatic 414, 3) := by decide +kernel
theorem dX14_one_5 : decode cX14_one 5 = .ok (.istore_n 3, 1) := by decide +kernel
theorem dX14_one_6 : decode cX14_one 6 = .ok (.aload_n 1, 1) := by decide +kernel
theorem dX14_one_7 : decode cX14_one 7 = .ok (.getfield 418, 3) := by decide +kernel
theorem dX14_one_10 : decode cX14_one 10 = .ok (.ifCond .eq 25, 3) := by decide +kernel
theorem dX14_one_13 : decode cX14_one 13 = .ok (.aload_n 1, 1) := by decide +kernel
theorem dX14_one_14 : decode cX14_one 14 = .ok (.getfield 345, 3) := by decide +kernel
theorem dX14_one_17 : decode cX14_one 17 = .ok (.iload_n 3, 1) := by decide +kernel
theorem dX14_one_18 : decode cX14_one 18 = .ok (.iadd, 1) := by decide +kernel
theorem dX14_one_19 : decode cX14_one 19 = .ok (.aload_n 1, 1) := by decide +kernel
theorem dX14_one_20 : decode cX14_one 20 = .ok (.invokevirtual 402, 3) := by decide +kernel
theorem dX14_one_23 : decode cX14_one 23 = .ok (.if_icmp .ne 12, 3) := by decide +kernel
theorem dX14_one_26 : decode cX14_one 26 = .ok (.iload_n 3, 1) := by decide +kernel
theorem dX14_one_27 : decode cX14_one 27 = .ok (.iload_n 2, 1) := by decide +kernel
theorem dX14_one_28 : decode cX14_one 28 = .ok (.if_icmp .ge 7, 3) := by decide +kernel
theorem dX14_one_31 : decode cX14_one 31 = .ok (.iconst 1, 1) := by decide +kernel
theorem dX14_one_32 : decode cX14_one 32 = .ok (.goto 4, 3) := by decide +kernel
theorem dX14_one_35 : decode cX14_one 35 = .ok (.iconst 0, 1) := by decide +kernel
theorem dX14_one_36 : decode cX14_one 36 = .ok (.istore 4, 2) := by decide +kernel
theorem dX14_one_38 : decode cX14_one 38 = .ok (.aload_n 1, 1) := by decide +kernel
theorem dX14_one_39 : decode cX14_one 39 = .ok (.getfield 345, 3) := by decide +kernel
theorem dX14_one_42 : decode cX14_one 42 = .ok (.istore 5, 2) := by decide +kernel
theorem dX14_one_44 : decode cX14_one 44 = .ok (.aload_n 0, 1) := by decide +kernel
theorem dX14_one_45 : decode cX14_one 45 = .ok (.aload_n 1, 1) := by decide +kernel
theorem dX14_one_46 : decode cX14_one 46 = .ok (.iload 5, 2) := by decide +kernel
theorem dX14_one_48 : decode cX14_one 48 = .ok (.iload_n 3, 1) := by decide +kernel
theorem dX14_one_49 : decode cX14_one 49 = .ok (.iload 4, 2) := by decide +kernel
theorem dX14_one_51 : decode cX14_one 51 = .ok (.invokevirtual 421, 3) := by decide +kernel
theorem dX14_one_54 : decode cX14_one 54 = .ok (.aload_n 1, 1) := by decide +kernel
theorem dX14_one_55 : decode cX14_one 55 = .ok (.iload 5, 2) := by decide +kernel
theorem dX14_one_57 : decode cX14_one 57 = .ok (.iload_n 3, 1) := by decide +kernel
theorem dX14_one_58 : decode cX14_one 58 = .ok (.iadd, 1) := by decide +kernel
theorem dX14_one_59 : decode cX14_one 59 = .ok (.iload 4, 2) := by decide +kernel
theorem dX14_one_61 : decode cX14_one 61 = .ok (.ifCond .eq 7, 3) := by decide +kernel
theorem dX14_one_64 : decode cX14_one 64 = .ok (.iconst 1, 1) := by decide +kernel
theorem dX14_one_65 : decode cX14_one 65 = .ok (.goto 4, 3) := by decide +kernel
theorem dX14_one_68 : decode cX14_one 68 = .ok (.iconst 0, 1) := by decide +kernel
theorem dX14_one_69 : decode cX14_one 69 = .ok (.iadd, 1) := by decide +kernel
theorem dX14_one_70 : decode cX14_one 70 = .ok (.putfield 345, 3) := by decide +kernel
theorem dX14_one_73 : decode cX14_one 73 = .ok (.aload_n 1, 1) := by decide +kernel
theorem dX14_one_74 : decode cX14_one 74 = .ok (.getfield 361, 3) := by decide +kernel
theorem dX14_one_77 : decode cX14_one 77 = .ok (.aload_n 1, 1) := by decide +kernel
theorem dX14_one_78 : decode cX14_one 78 = .ok (.getfield 345, 3) := by decide +kernel
theorem dX14_one_81 : decode cX14_one 81 = .ok (.invokestatic 363, 3) := by decide +kernel
theorem dX14_one_84 : decode cX14_one 84 = .ok (.ifCond .eq 11, 3) := by decide +kernel
theorem dX14_one_87 : decode cX14_one 87 = .ok (.aload_n 1, 1) := by decide +kernel
theorem dX14_one_88 : decode cX14_one 88 = .ok (.aload_n 1, 1) := by decide +kernel
theorem dX14_one_89 : decode cX14_one 89 = .ok (.getfield 345, 3) := by decide +kernel
theorem dX14_one_92 : decode cX14_one 92 = .ok (.putfield 361, 3) := by decide +kernel
theorem dX14_one_95 : decode cX14_one 95 = .ok (.return_, 1) := by decide +kernel
def rmX14_one : Room := { frames := 7, cells := 0, slots := 0, locals := 181 }
theorem kX14_one : yX14_one.cls = "WebHostModel" ∧ yX14_one.cls ≠ "java/lang/invoke/MethodHandle" ∧ yX14_one.cls ≠ "java/lang/invoke/VarHandle" ∧ (parseMethodDescriptor yX14_one.desc).map (fun d => d.parameters.length) = some 2 := by decide +kernel
def w14_one_J69 (σ : St) (o1 : Nat) (xs0 : Int32) (xs1 : Int32) (os2 : Nat) (Q : St → Prop) : Prop := ∀ σ3, σ3 = up3 σ 15 os2 5 (xs1 + xs0) → (w14_before σ3 (σ3 15 o1 6) (σ3 15 o1 5) (fun r4 => ((r4 = 0 → Q σ3) ∧ (¬ r4 = 0 → (∀ σ5, σ5 = up3 σ3 15 o1 6 (σ3 15 o1 5) → (Q σ5))))))
set_option maxHeartbeats 4000000 in
theorem k14_one_J69 {p : Program} {l : Launch} {e : Env} {s : State} {m : MethodId} {args : Array Value} {below : List Frame} {meth : Method} {c : Code} {G : Gh} {a1 : Nat → Nat → Nat} {τ : St} {Q : St → Prop} (C : Cx p e s m args meth c cX14_one 6 none "WebHostModel" G) (σ : St) (o1 : Nat) (xs0 : Int32) (xs1 : Int32) (os2 : Nat) (ho1 : o1 < 16) (hos2 : os2 < 16) (hw : w14_one_J69 σ o1 xs0 xs1 os2 Q) (H : Heap) (locs : List Loc) (ls : Array Slot) (hH : Hd G a1 (cmb τ σ) H) (hS : va_S (gA G) s.heap H locs) (hl : lv_has ls 6 [(1, .ref (ga G 15 o1))]) : W p l e rmX14_one s m args below meth c H locs 0 0 (MQ below (QVs G a1 (fun u => cmb τ u) Q) args s 0 0 (gA G)) (F0 m 69 ls [.int xs0, .int xs1, .ref (ga G 15 os2)]) := by
  have hx := C.1
  have hb := C.2.1
  have hown := C.2.2.2.2.2.1
  have hts := C.2.2.2.2.2.2.1
  refine lv_iadd hx hb dX14_one_69 ?_
  refine p15_5 C hH hS hos2 q1712 dX14_one_70 (fun σ3 e3 H locs hH hS => ?_)
  have hw := hw σ3 e3
  refine lv_aload_n hx hb dX14_one_73 rfl (lv_at hl 0 rfl) ?_
  refine g15_6 C hH ho1 q1713 dX14_one_74 ?_
  refine lv_aload_n hx hb dX14_one_77 rfl (lv_at hl 0 rfl) ?_
  refine g15_5 C hH ho1 q1712 dX14_one_78 ?_
  refine kc_ip (rn_sp (As := [.int (σ3 15 o1 6), .int (σ3 15 o1 5)]) (rest := []) C hH hS (m14_before l G a1 τ σ3 H (σ3 15 o1 6) (σ3 15 o1 5) _ hw) (va_cwS 2 hts (lw_S q2294 q2295 q171 q2296) rfl rfl rfl kX14_before.2 ⟨Nat.le_of_ble_eq_true rfl, Nat.le_of_ble_eq_true rfl⟩) rfl hl.1 rfl (Nat.le_of_ble_eq_true rfl) dX14_one_81 ⟨Nat.le_of_ble_eq_true rfl, Nat.le_of_ble_eq_true rfl⟩) hS (fun r4 locs hw hS => ?_)
  refine lv_if_eq (tgt := 95) hx hb dX14_one_84 (by decide) (fun h => ?_) (fun h => ?_)
  · have hw := hw.1 h
    exact rt_v C hH hS hw dX14_one_95
  have hw := hw.2 h
  refine lv_aload_n hx hb dX14_one_87 rfl (lv_at hl 0 rfl) ?_
  refine lv_aload_n hx hb dX14_one_88 rfl (lv_at hl 0 rfl) ?_
  refine g15_5 C hH ho1 q1712 dX14_one_89 ?_
  refine p15_6 C hH hS ho1 q1713 dX14_one_92 (fun σ5 e5 H locs hH hS => ?_)
  have hw := hw σ5 e5
  exact rt_v C hH hS hw dX14_one_95
def w14_one_J36 (σ : St) (o1 : Nat) (x3 : Int32) (xs0 : Int32) (Q : St → Prop) : Prop := w14_dataOut σ o1 (σ 15 o1 5) x3 xs0 (fun σ2 => ((xs0 = 0 → (w14_one_J69 σ2 o1 0 ((σ 15 o1 5) + x3) o1 Q)) ∧ (¬ xs0 = 0 → (w14_one_J69 σ2 o1 1 ((σ 15 o1 5) + x3) o1 Q))))
set_option maxHeartbeats 4000000 in
theorem k14_one_J36 {p : Program} {l : Launch} {e : Env} {s : State} {m : MethodId} {args : Array Value} {below : List Frame} {meth : Method} {c : Code} {G : Gh} {a1 : Nat → Nat → Nat} {τ : St} {Q : St → Prop} (C : Cx p e s m args meth c cX14_one 6 none "WebHostModel" G) (σ : St) (o1 : Nat) (x3 : Int32) (xs0 : Int32) (ho1 : o1 < 16) (hw : w14_one_J36 σ o1 x3 xs0 Q) (H : Heap) (locs : List Loc) (ls : Array Slot) (hH : Hd G a1 (cmb τ σ) H) (hS : va_S (gA G) s.heap H locs) (hl : lv_has ls 6 [(0, .ref (ga G 14 0)), (1, .ref (ga G 15 o1)), (3, .int x3)]) : W p l e rmX14_one s m args below meth c H locs 0 0 (MQ below (QVs G a1 (fun u => cmb τ u) Q) args s 0 0 (gA G)) (F0 m 36 ls [.int xs0]) := by
  have hx := C.1
  have hb := C.2.1
  have hown := C.2.2.2.2.2.1
  have hts := C.2.2.2.2.2.2.1
  refine lv_istore (lv' := [(4, .int xs0), (0, .ref (ga G 14 0)), (1, .ref (ga G 15 o1)), (3, .int x3)]) hx hb dX14_one_36 hl (by decide) rfl (fun ls hl => ?_)
  refine lv_aload_n hx hb dX14_one_38 rfl (lv_at hl 2 rfl) ?_
  refine g15_5 C hH ho1 q1712 dX14_one_39 ?_
  refine lv_istore (lv' := [(5, .int (σ 15 o1 5)), (4, .int xs0), (0, .ref (ga G 14 0)), (1, .ref (ga G 15 o1)), (3, .int x3)]) hx hb dX14_one_42 hl (by decide) rfl (fun ls hl => ?_)
  refine lv_aload_n hx hb dX14_one_44 rfl (lv_at hl 2 rfl) ?_
  refine lv_aload_n hx hb dX14_one_45 rfl (lv_at hl 3 rfl) ?_
  refine lv_iload hx hb dX14_one_46 (lv_at hl 0 rfl) ?_
  refine lv_iload_n hx hb dX14_one_48 rfl (lv_at hl 4 rfl) ?_
  refine lv_iload hx hb dX14_one_49 (lv_at hl 1 rfl) ?_
  refine kc_v (rn_v (As := [.ref (ga G 15 o1), .int (σ 15 o1 5), .int x3, .int xs0]) (rest := []) C hH hS (by decide) rfl (by decide) (m14_dataOut l G a1 τ σ o1 (σ 15 o1 5) x3 xs0 ho1 _ hw) (cwV 4 hts (lw_V q2309 q2311 qs100 q171 q2312) rfl rfl rfl kX14_dataOut ⟨Nat.le_of_ble_eq_true rfl, Nat.le_of_ble_eq_true rfl⟩) rfl hl.1 rfl (Nat.le_of_ble_eq_true rfl) dX14_one_51 ⟨Nat.le_of_ble_eq_true rfl, Nat.le_of_ble_eq_true rfl⟩) hS (fun σ2 H locs hw hH hS => ?_)
  refine lv_aload_n hx hb dX14_one_54 rfl (lv_at hl 3 rfl) ?_
  refine lv_iload hx hb dX14_one_55 (lv_at hl 0 rfl) ?_
  refine lv_iload_n hx hb dX14_one_57 rfl (lv_at hl 4 rfl) ?_
  refine lv_iadd hx hb dX14_one_58 ?_
  refine lv_iload hx hb dX14_one_59 (lv_at hl 1 rfl) ?_
  refine lv_if_eq (tgt := 68) hx hb dX14_one_61 (by decide) (fun h => ?_) (fun h => ?_)
  · have hw := hw.1 h
    refine lv_iconst (v := 0) hx hb dX14_one_68 (by decide) ?_
    exact k14_one_J69 C σ2 o1 0 ((σ 15 o1 5) + x3) o1 ho1 ho1 hw H locs ls hH hS (lv_sub hl [3] rfl)
  have hw := hw.2 h
  refine lv_iconst (v := 1) hx hb dX14_one_64 (by decide) ?_
  refine lv_goto (tgt := 69) hx hb dX14_one_65 (by decide) ?_
  exact k14_one_J69 C σ2 o1 1 ((σ 15 o1 5) + x3) o1 ho1 ho1 hw H locs ls hH hS (lv_sub hl [3] rfl)
def w14_one (σ : St) (o1 : Nat) (x2 : Int32) (Q : St → Prop) : Prop := w14_dataWithin σ o1 x2 (fun r1 => (bo (σ 15 o1 30) → (((σ 15 o1 30) = 0 → w14_one_J36 σ o1 r1 0 Q) ∧ (¬ (σ 15 o1 30) = 0 → (w15_behind σ o1 (fun r6 => ((¬ ((σ 15 o1 5) + r1) = r6 → w14_one_J36 σ o1 r1 0 Q) ∧ (((σ 15 o1 5) + r1) = r6 → ((x2 ≤ r1 → w14_one_J36 σ o1 r1 0 Q) ∧ (¬ x2 ≤ r1 → w14_one_J36 σ o1 r1 1 Q))))))))))
set_option maxHeartbeats 4000000 in
theorem m14_one (l : Launch) (G : Gh) (a1 : Nat → Nat → Nat) (τ : St) (σ : St) (o1 : Nat) (x2 : Int32) (ho1 : o1 < 16) (Q : St → Prop) (hw : w14_one σ o1 x2 Q) : Met l yX14_one (ws_ yX14_one cX14_one 6 none) rmX14_one (PcS G a1 (cmb τ σ) [.ref (ga G 14 0), .ref (ga G 15 o1), .int x2]) (QVs G a1 (fun u => cmb τ u) Q) 0 0 (gA G) := by
  refine met_w (by decide) (Nat.le_of_ble_eq_true rfl) ?_
  intro p e s m below meth c ls C hH hS hl
  have C : Cx p e s m _ meth c cX14_one 6 none "WebHostModel" G := C
  have hl : lv_has ls 6 [(0, .ref (ga G 14 0)), (1, .ref (ga G 15 o1)), (2, .int x2)] := hl
  have hx := C.1
  have hb := C.2.1
  have hown := C.2.2.2.2.2.1
  have hts := C.2.2.2.2.2.2.1
  obtain ⟨locs, hlocs⟩ : ∃ z : List Loc, z = [] := ⟨_, rfl⟩
  obtain ⟨H, hHe⟩ : ∃ z : Heap, z = s.heap := ⟨_, rfl⟩
  have hH : Hd G a1 (cmb τ σ) H := by rw [hHe]; exact hH
  have hS : va_S (gA G) s.heap H locs := by rw [hHe, hlocs]; exact hS
  refine W.heap0 hHe.symm hlocs.symm ?_
  refine lv_aload_n hx hb dX14_one_0 rfl (lv_at hl 1 rfl) ?_
  refine lv_iload_n hx hb dX14_one_1 rfl (lv_at hl 2 rfl) ?_
  refine kc_ip (rn_sp (As := [.ref (ga G 15 o1), .int x2]) (rest := []) C hH hS (m14_dataWithin l G a1 τ σ H o1 x2 ho1 _ hw) (va_cwS 2 hts (lw_S q2305 q2306 q171 q2307) rfl rfl rfl kX14_dataWithin.2 ⟨Nat.le_of_ble_eq_true rfl, Nat.le_of_ble_eq_true rfl⟩) rfl hl.1 rfl (Nat.le_of_ble_eq_true rfl) dX14_one_2 ⟨Nat.le_of_ble_eq_true rfl, Nat.le_of_ble_eq_true rfl⟩) hS (fun r1 locs hw hS => ?_)
  refine lv_istore_n (lv' := [(3, .int r1), (0, .ref (ga G 14 0)), (1, .ref (ga G 15 o1)), (2, .int x2)]) hx hb dX14_one_5 rfl hl (by decide) rfl (fun ls hl => ?_)
  refine lv_aload_n hx hb dX14_one_6 rfl (lv_at hl 2 rfl) ?_
  refine g15_30 C hH ho1 q1742 dX14_one_7 (fun hz => ?_)
  have hw := hw hz
  refine lv_if_eq (tgt := 35) hx hb dX14_one_10 (by decide) (fun h => ?_) (fun h => ?_)
  · have hw := hw.1 h
    refine lv_iconst (v := 0) hx hb dX14_one_35 (by decide) ?_
    exact k14_one_J36 C σ o1 r1 0 ho1 hw H locs ls hH hS (lv_sub hl [1, 2, 0] rfl)
  have hw := hw.2 h
  refine lv_aload_n hx hb dX14_one_13 rfl (lv_at hl 2 rfl) ?_
  refine g15_5 C hH ho1 q1712 dX14_one_14 ?_
  refine lv_iload_n hx hb dX14_one_17 rfl (lv_at hl 0 rfl) ?_
  refine lv_iadd hx hb dX14_one_18 ?_
  refine lv_aload_n hx hb dX14_one_19 rfl (lv_at hl 2 rfl) ?_
  refine kc_ip (rn_vp (As := []) (rest := [.int ((σ 15 o1 5) + r1)]) C hH hS (by decide) rfl ho1 (m15_behind l G a1 τ σ H o1 ho1 _ hw) (cwV 0 hts (lw_V q2308 q2198 q2199 q172 q2200) rfl rfl rfl kX15_behind ⟨Nat.le_of_ble_eq_true rfl, Nat.le_of_ble_eq_true rfl⟩) rfl hl.1 rfl (Nat.le_of_ble_eq_true rfl) dX14_one_20 ⟨Nat.le_of_ble_eq_true rfl, Nat.le_of_ble_eq_true rfl⟩) hS (fun r6 locs hw hS => ?_)
  refine lv_icmp_ne (tgt := 35) hx hb dX14_one_23 (by decide) (fun h => ?_) (fun h => ?_)
  · have hw := hw.1 h
    refine lv_iconst (v := 0) hx hb dX14_one_35 (by decide) ?_
    exact k14_one_J36 C σ o1 r1 0 ho1 hw H locs ls hH hS (lv_sub hl [1, 2, 0] rfl)
  have hw := hw.2 h
  refine lv_iload_n hx hb dX14_one_26 rfl (lv_at hl 0 rfl) ?_
  refine lv_iload_n hx hb dX14_one_27 rfl (lv_at hl 3 rfl) ?_
  refine lv_icmp_ge (tgt := 35) hx hb dX14_one_28 (by decide) (fun h => ?_) (fun h => ?_)
  · have hw := hw.1 h
    refine lv_iconst (v := 0) hx hb dX14_one_35 (by decide) ?_
    exact k14_one_J36 C σ o1 r1 0 ho1 hw H locs ls hH hS (lv_sub hl [1, 2, 0] rfl)
  have hw := hw.2 h
  refine lv_iconst (v := 1) hx hb dX14_one_31 (by decide) ?_
  refine lv_goto (tgt := 36) hx hb dX14_one_32 (by decide) ?_
  exact k14_one_J36 C σ o1 r1 1 ho1 hw H locs ls hH hS (lv_sub hl [1, 2, 0] rfl)
/-! WebHost$Connection.output()V -/
abbrev cX11_output : ByteArray := prog_3_method_13_code
def yX11_output : MethodName := ⟨RX11, "output", "()V"⟩
theorem dX11_output_0 : decode cX11_output 0 = .ok (.iconst 1, 1) := by decide +kernel
theorem dX11_output_1 : decode cX11_output 1 = .ok (.istore_n 1, 1) := by decide +kernel
theorem dX11_output_2 : decode cX11_output 2 = .ok (.iload_n 1, 1) := by decide +kernel
theorem dX11_output_3 : decode cX11_output 3 = .ok (.ifCond .eq 124, 3) := by decide +kernel
theorem dX11_output_6 : decode cX11_output 6 = .ok (.aload_n 0, 1) := by decide +kernel
theorem dX11_output_7 : decode cX11_output 7 = .ok (.invokevirtual 85, 3) := by decide +kernel
theorem dX11_output_10 : decode cX11_output 10 = .ok (.istore_n 2, 1) := by decide +kernel
theorem dX11_output_11 : decode cX11_output 11 = .ok (.aload_n 0, 1) := by decide +kernel
theorem dX11_output_12 : decode cX11_output 12 = .ok (.getfield 144, 3) := by decide +kernel
theorem dX11_output_15 : decode cX11_output 15 = .ok (.aload_n 0, 1) := by decide +kernel
theorem dX11_output_16 : decode cX11_output 16 = .ok (.invokevirtual 76, 3) := by decide +kernel
theorem dX11_output_19 : decode cX11_output 19 = .ok (.aload_n 0, 1) := by decide +kernel
theorem dX11_output_20 : decode cX11_output 20 = .ok (.getfield 60, 3) := by decide +kernel
theorem dX11_output_23 : decode cX11_output 23 = .ok (.isub, 1) := by decide +kernel
theorem dX11_output_24 : decode cX11_output 24 = .ok (.invokestatic 91, 3) := by decide +kernel
theorem dX11_output_27 : decode cX11_output 27 = .ok (.istore_n 3, 1) := by decide +kernel
theorem dX11_output_28 : decode cX11_output 28 = .ok (.iload_n 3, 1) := by decide +kernel
theorem dX11_output_29 : decode cX11_output 29 = .ok (.aload_n 0, 1) := by decide +kernel
theorem dX11_output_30 : decode cX11_output 30 = .ok (.invokevirtual 76, 3) := by decide +kernel
theorem dX11_output_33 : decode cX11_output 33 = .ok (.aload_n 0, 1) := by decide +kernel
theorem dX11_output_34 : decode cX11_output 34 = .ok (.getfield 60, 3) := by decide +kernel
theorem dX11_output_37 : decode cX11_output 37 = .ok (.isub, 1) := by decide +kernel
theorem dX11_output_38 : decode cX11_output 38 = .ok (.if_icmp .ne 13, 3) := by decide +kernel
theorem dX11_output_41 : decode cX11_output 41 = .ok (.iload_n 2, 1) := by decide +kernel
theorem dX11_output_42 : decode cX11_output 42 = .ok (.iload_n 3, 1) := by decide +kernel
theorem dX11_output_43 : decode cX11_output 43 = .ok (.iconst 1, 1) := by decide +kernel
theorem dX11_output_44 : decode cX11_output 44 = .ok (.iadd, 1) := by decide +kernel
theorem dX11_output_45 : decode cX11_output 45 = .ok (.invokestatic 91, 3) := by decide +kernel
theorem dX11_output_48 : decode cX11_output 48 = .ok (.goto 4, 3) := by decide +kernel
theorem dX11_output_51 : decode cX11_output 51 = .ok (.iload_n 3, 1) := by decide +kernel
theorem dX11_output_52 : decode cX11_output 52 = .ok (.istore 4, 2) := by decide +kernel
theorem dX11_output_54 : decode cX11_output 54 = .ok (.iload 4, 2) := by decide +kernel
theorem dX11_output_56 : decode cX11_output 56 = .ok (.aload_n 0, 1) := by decide +kernel
theorem dX11_output_57 : decode cX11_output 57 = .ok (.getfield 147, 3) := by decide +kernel
theorem dX11_output_60 : decode cX11_output 60 = .ok (.aload_n 0, 1) := by decide +kernel
theorem dX11_output_61 : decode cX11_output 61 = .ok (.getfield 150, 3) := by decide +kernel
theorem dX11_output_64 : decode cX11_output 64 = .ok (.invokestatic 91, 3) := by decide +kernel
theorem dX11_output_67 : decode cX11_output 67 = .ok (.aload_n 0, 1) := by decide +kernel
theorem dX11_output_68 : decode cX11_output 68 = .ok (.invokevirtual 152, 3) := by decide +kernel
theorem dX11_output_71 : decode cX11_output 71 = .ok (.isub, 1) := by decide +kernel
theorem dX11_output_72 : decode cX11_output 72 = .ok (.invokestatic 91, 3) := by decide +kernel
theorem dX11_output_75 : decode cX11_output 75 = .ok (.istore 5, 2) := by decide +kernel
theorem dX11_output_77 : decode cX11_output 77 = .ok (.iload_n 2, 1) := by decide +kernel
theorem dX11_output_78 : decode cX11_output 78 = .ok (.ifCond .le 34, 3) := by decide +kernel
theorem dX11_output_81 : decode cX11_output 81 = .ok (.iload 5, 2) := by decide +kernel
theorem dX11_output_83 : decode cX11_output 83 = .ok (.ifCond .le 29, 3) := by decide +kernel
theorem dX11_output_86 : decode cX11_output 86 = .ok (.iload 5, 2) := by decide +kernel
theorem dX11_output_88 : decode cX11_output 88 = .ok (.aload_n 0, 1) := by decide +kernel
theorem dX11_output_89 : decode cX11_output 89 = .ok (.getfield 144, 3) := by decide +kernel
theorem dX11_output_92 : decode cX11_output 92 = .ok (.if_icmp .ge 16, 3) := by decide +kernel
theorem dX11_output_95 : decode cX11_output 95 = .ok (.iload 5, 2) := by decide +kernel
theorem dX11_output_97 : decode cX11_output 97 = .ok (.iload_n 2, 1) := by decide +kernel
theorem dX11_output_98 : decode cX11_output 98 = .ok (.if_icmp .eq 10, 3) := by decide +kernel
theorem dX11_output_101 : decode cX11_output 101 = .ok (.aload_n 0, 1) := by decide +kernel
theorem dX11_output_102 : decode cX11_output 102 = .ok (.invokevirtual 152, 3) := by decide +kernel
theorem dX11_output_105 : decode cX11_output 105 = .ok (.ifCond .ne 7, 3) := by decide +kernel
theorem dX11_output_108 : decode cX11_output 108 = .ok (.iconst 1, 1) := by decide +kernel
theorem dX11_output_109 : decode cX11_output 109 = .ok (.goto 4, 3) := by decide +kernel
theorem dX11_output_112 : decode cX11_output 112 = .ok (.iconst 0, 1) := by decide +kernel
theorem dX11_output_113 : decode cX11_output 113 = .ok (.istore_n 1, 1) := by decide +kernel
theorem dX11_output_114 : decode cX11_output 114 = .ok (.iload_n 1, 1) := by decide +kernel
theorem dX11_output_115 : decode cX11_output 115 = .ok (.ifCond .eq 9, 3) := by decide +kernel
theorem dX11_output_118 : decode cX11_output 118 = .ok (.aload_n 0, 1) := by decide +kernel
theorem dX11_output_119 : decode cX11_output 119 = .ok (.iload 5, 2) := by decide +kernel
theorem dX11_output_121 : decode cX11_output 121 = .ok (.invokevirtual 155, 3) := by decide +kernel
theorem dX11_output_124 : decode cX11_output 124 = .ok (.goto (-122), 3) := by decide +kernel
theorem dX11_output_127 : decode cX11_output 127 = .ok (.aload_n 0, 1) := by decide +kernel
theorem dX11_output_128 : decode cX11_output 128 = .ok (.invokevirtual 85, 3) := by decide +kernel
theorem dX11_output_131 : decode cX11_output 131 = .ok (.ifCond .le 21, 3) := by decide +kernel
theorem dX11_output_134 : decode cX11_output 134 = .ok (.aload_n 0, 1) := by decide +kernel
theorem dX11_output_135 : decode cX11_output 135 = .ok (.invokevirtual 152, 3) := by decide +kernel
theorem dX11_output_138 : decode cX11_output 138 = .ok (.ifCond .ne 14, 3) := by decide +kernel
theorem dX11_output_141 : decode cX11_output 141 = .ok (.aload_n 0, 1) := by decide +kernel
theorem dX11_output_142 : decode cX11_output 142 = .ok (.getfield 150, 3) := by decide +kernel
theorem dX11_output_145 : decode cX11_output 145 = .ok (.ifCond .ne 7, 3) := by decide +kernel
theorem dX11_output_148 : decode cX11_output 148 = .ok (.aload_n 0, 1) := by decide +kernel
theorem dX11_output_149 : decode cX11_output 149 = .ok (.invokevirtual 119, 3) := by decide +kernel
theorem dX11_output_152 : decode cX11_output 152 = .ok (.return_, 1) := by decide +kernel
def rmX11_output : Room := { frames := 8, cells := 0, slots := 0, locals := 211 }
theorem kX11_output : yX11_output.cls = "WebHost$Connection" ∧ yX11_output.cls ≠ "java/lang/invoke/MethodHandle" ∧ yX11_output.cls ≠ "java/lang/invoke/VarHandle" ∧ (parseMethodDescriptor yX11_output.desc).map (fun d => d.parameters.length) = some 0 := by decide +kernel
def w11_output_J108 (σ : St) (o0 : Nat) (x5 : Int32) (Q : St → Prop) (K2 : St → Int32 → Prop) : Prop := ((1 : Int32) = 0 → K2 σ 1) ∧ (¬ (1 : Int32) = 0 → (w11_sendPart σ o0 x5 (fun σ7 => (K2 σ7 1))))
set_option maxHeartbeats 4000000 in
theorem k11_output_J108 {p : Program} {l : Launch} {e : Env} {s : State} {m : MethodId} {args : Array Value} {below : List Frame} {meth : Method} {c : Code} {G : Gh} {a1 : Nat → Nat → Nat} {τ : St} {Q : St → Prop} {K2 : St → Int32 → Prop} (C : Cx p e s m args meth c cX11_output 6 none "WebHost$Connection" G) (σ : St) (o0 : Nat) (x5 : Int32) (ho0 : o0 < 16) (hw : w11_output_J108 σ o0 x5 Q K2) (H : Heap) (locs : List Loc) (ls : Array Slot) (hH : Hd G a1 (cmb σ τ) H) (hS : va_S (gA G) s.heap H locs) (hl : lv_has ls 6 [(0, .ref (ga G 11 o0)), (5, .int x5)]) (hK2 : ∀ (σ : St) (x1 : Int32), K2 σ x1 → ∀ (H : Heap) (locs : List Loc) (ls : Array Slot), Hd G a1 (cmb σ τ) H → va_S (gA G) s.heap H locs → lv_has ls 6 [(0, .ref (ga G 11 o0)), (1, .int x1)] → W p l e rmX11_output s m args below meth c H locs 0 0 (MQ below (QVs G a1 (fun u => cmb u τ) Q) args s 0 0 (gA G)) (F0 m 2 ls [])) : W p l e rmX11_output s m args below meth c H locs 0 0 (MQ below (QVs G a1 (fun u => cmb u τ) Q) args s 0 0 (gA G)) (F0 m 108 ls []) := by
  have hx := C.1
  have hb := C.2.1
  have hown := C.2.2.2.2.2.1
  have hts := C.2.2.2.2.2.2.1
  refine lv_iconst (v := 1) hx hb dX11_output_108 (by decide) ?_
  refine lv_goto (tgt := 113) hx hb dX11_output_109 (by decide) ?_
  refine lv_istore_n (lv' := [(1, .int 1), (0, .ref (ga G 11 o0)), (5, .int x5)]) hx hb dX11_output_113 rfl hl (by decide) rfl (fun ls hl => ?_)
  refine lv_iload_n hx hb dX11_output_114 rfl (lv_at hl 0 rfl) ?_
  refine lv_if_eq (tgt := 124) hx hb dX11_output_115 (by decide) (fun h => ?_) (fun h => ?_)
  · have hw := hw.1 h
    refine lv_goto (tgt := 2) hx hb dX11_output_124 (by decide) ?_
    exact hK2 σ 1 hw H locs ls hH hS (lv_sub hl [1, 0] rfl)
  have hw := hw.2 h
  refine lv_aload_n hx hb dX11_output_118 rfl (lv_at hl 1 rfl) ?_
  refine lv_iload hx hb dX11_output_119 (lv_at hl 2 rfl) ?_
  refine kc_v (rn_v (As := [.int x5]) (rest := []) C hH hS (by decide) rfl ho0 (m11_sendPart l G a1 τ σ o0 x5 ho0 _ hw) (cwV 1 hts (lw_V q1042 q1044 qs18 q168 q1045) rfl rfl rfl kX11_sendPart ⟨Nat.le_of_ble_eq_true rfl, Nat.le_of_ble_eq_true rfl⟩) rfl hl.1 rfl (Nat.le_of_ble_eq_true rfl) dX11_output_121 ⟨Nat.le_of_ble_eq_true rfl, Nat.le_of_ble_eq_true rfl⟩) hS (fun σ7 H locs hw hH hS => ?_)
  refine lv_goto (tgt := 2) hx hb dX11_output_124 (by decide) ?_
  exact hK2 σ7 1 hw H locs ls hH hS (lv_sub hl [1, 0] rfl)
def w11_output_J52 (σ : St) (o0 : Nat) (x2 : Int32) (xs0 : Int32) (Q : St → Prop) (K2 : St → Int32 → Prop) : Prop := w11_flight σ o0 (fun r4 => ((x2 ≤ 0 → (((0 : Int32) = 0 → K2 σ 0) ∧ (¬ (0 : Int32) = 0 → (w11_sendPart σ o0 (imin xs0 ((imin (σ 11 o0 14) (σ 11 o0 12)) - r4)) (fun σ5 => (K2 σ5 0)))))) ∧ (¬ x2 ≤ 0 → (((imin xs0 ((imin (σ 11 o0 14) (σ 11 o0 12)) - r4)) ≤ 0 → (((0 : Int32) = 0 → K2 σ 0) ∧ (¬ (0 : Int32) = 0 → (w11_sendPart σ o0 (imin xs0 ((imin (σ 11 o0 14) (σ 11 o0 12)) - r4)) (fun σ6 => (K2 σ6 0)))))) ∧ (¬ (imin xs0 ((imin (σ 11 o0 14) (σ 11 o0 12)) - r4)) ≤ 0 → (((σ 11 o0 13) ≤ (imin xs0 ((imin (σ 11 o0 14) (σ 11 o0 12)) - r4)) → (w11_output_J108 σ o0 (imin xs0 ((imin (σ 11 o0 14) (σ 11 o0 12)) - r4)) Q K2)) ∧ (¬ (σ 11 o0 13) ≤ (imin xs0 ((imin (σ 11 o0 14) (σ 11 o0 12)) - r4)) → (((imin xs0 ((imin (σ 11 o0 14) (σ 11 o0 12)) - r4)) = x2 → (w11_output_J108 σ o0 (imin xs0 ((imin (σ 11 o0 14) (σ 11 o0 12)) - r4)) Q K2)) ∧ (¬ (imin xs0 ((imin (σ 11 o0 14) (σ 11 o0 12)) - r4)) = x2 → (w11_flight σ o0 (fun r8 => ((¬ r8 = 0 → (((0 : Int32) = 0 → K2 σ 0) ∧ (¬ (0 : Int32) = 0 → (w11_sendPart σ o0 (imin xs0 ((imin (σ 11 o0 14) (σ 11 o0 12)) - r4)) (fun σ9 => (K2 σ9 0)))))) ∧ (r8 = 0 → (w11_output_J108 σ o0 (imin xs0 ((imin (σ 11 o0 14) (σ 11 o0 12)) - r4)) Q K2))))))))))))))
set_option maxHeartbeats 4000000 in
theorem k11_output_J52 {p : Program} {l : Launch} {e : Env} {s : State} {m : MethodId} {args : Array Value} {below : List Frame} {meth : Method} {c : Code} {G : Gh} {a1 : Nat → Nat → Nat} {τ : St} {Q : St → Prop} {K2 : St → Int32 → Prop} (C : Cx p e s m args meth c cX11_output 6 none "WebHost$Connection" G) (σ : St) (o0 : Nat) (x2 : Int32) (xs0 : Int32) (ho0 : o0 < 16) (hw : w11_output_J52 σ o0 x2 xs0 Q K2) (H : Heap) (locs : List Loc) (ls : Array Slot) (hH : Hd G a1 (cmb σ τ) H) (hS : va_S (gA G) s.heap H locs) (hl : lv_has ls 6 [(0, .ref (ga G 11 o0)), (2, .int x2)]) (hK2 : ∀ (σ : St) (x1 : Int32), K2 σ x1 → ∀ (H : Heap) (locs : List Loc) (ls : Array Slot), Hd G a1 (cmb σ τ) H → va_S (gA G) s.heap H locs → lv_has ls 6 [(0, .ref (ga G 11 o0)), (1, .int x1)] → W p l e rmX11_output s m args below meth c H locs 0 0 (MQ below (QVs G a1 (fun u => cmb u τ) Q) args s 0 0 (gA G)) (F0 m 2 ls [])) : W p l e rmX11_output s m args below meth c H locs 0 0 (MQ below (QVs G a1 (fun u => cmb u τ) Q) args s 0 0 (gA G)) (F0 m 52 ls [.int xs0]) := by
  have hx := C.1
  have hb := C.2.1
  have hown := C.2.2.2.2.2.1
  have hts := C.2.2.2.2.2.2.1
  refine lv_istore (lv' := [(4, .int xs0), (0, .ref (ga G 11 o0)), (2, .int x2)]) hx hb dX11_output_52 hl (by decide) rfl (fun ls hl => ?_)
  refine lv_iload hx hb dX11_output_54 (lv_at hl 0 rfl) ?_
  refine lv_aload_n hx hb dX11_output_56 rfl (lv_at hl 1 rfl) ?_
  refine g11_14 C hH ho0 q630 dX11_output_57 ?_
  refine lv_aload_n hx hb dX11_output_60 rfl (lv_at hl 1 rfl) ?_
  refine g11_12 C hH ho0 q626 dX11_output_61 ?_
  refine r_imin C hl.1 q1020 (Nat.le_of_ble_eq_true rfl) (Nat.le_of_ble_eq_true rfl) (Nat.zero_le _) (Nat.zero_le _) dX11_output_64 ?_
  refine lv_aload_n hx hb dX11_output_67 rfl (lv_at hl 1 rfl) ?_
  refine kc_ip (rn_vp (As := []) (rest := [.int (imin (σ 11 o0 14) (σ 11 o0 12)), .int xs0]) C hH hS (by decide) rfl ho0 (m11_flight l G a1 τ σ H o0 ho0 _ hw) (cwV 0 hts (lw_V q1061 q1063 qs21 q168 q1064) rfl rfl rfl kX11_flight ⟨Nat.le_of_ble_eq_true rfl, Nat.le_of_ble_eq_true rfl⟩) rfl hl.1 rfl (Nat.le_of_ble_eq_true rfl) dX11_output_68 ⟨Nat.le_of_ble_eq_true rfl, Nat.le_of_ble_eq_true rfl⟩) hS (fun r4 locs hw hS => ?_)
  refine lv_isub hx hb dX11_output_71 ?_
  refine r_imin C hl.1 q1020 (Nat.le_of_ble_eq_true rfl) (Nat.le_of_ble_eq_true rfl) (Nat.zero_le _) (Nat.zero_le _) dX11_output_72 ?_
  refine lv_istore (lv' := [(5, .int (imin xs0 ((imin (σ 11 o0 14) (σ 11 o0 12)) - r4))), (4, .int xs0), (0, .ref (ga G 11 o0)), (2, .int x2)]) hx hb dX11_output_75 hl (by decide) rfl (fun ls hl => ?_)
  refine lv_iload_n hx hb dX11_output_77 rfl (lv_at hl 3 rfl) ?_
  refine lv_if_le (tgt := 112) hx hb dX11_output_78 (by decide) (fun h => ?_) (fun h => ?_)
  · have hw := hw.1 h
    refine lv_iconst (v := 0) hx hb dX11_output_112 (by decide) ?_
    refine lv_istore_n (lv' := [(1, .int 0), (5, .int (imin xs0 ((imin (σ 11 o0 14) (σ 11 o0 12)) - r4))), (4, .int xs0), (0, .ref (ga G 11 o0)), (2, .int x2)]) hx hb dX11_output_113 rfl hl (by decide) rfl (fun ls hl => ?_)
    refine lv_iload_n hx hb dX11_output_114 rfl (lv_at hl 0 rfl) ?_
    refine lv_if_eq (tgt := 124) hx hb dX11_output_115 (by decide) (fun h => ?_) (fun h => ?_)
    · have hw := hw.1 h
      refine lv_goto (tgt := 2) hx hb dX11_output_124 (by decide) ?_
      exact hK2 σ 0 hw H locs ls hH hS (lv_sub hl [3, 0] rfl)
    have hw := hw.2 h
    refine lv_aload_n hx hb dX11_output_118 rfl (lv_at hl 3 rfl) ?_
    refine lv_iload hx hb dX11_output_119 (lv_at hl 1 rfl) ?_
    refine kc_v (rn_v (As := [.int (imin xs0 ((imin (σ 11 o0 14) (σ 11 o0 12)) - r4))]) (rest := []) C hH hS (by decide) rfl ho0 (m11_sendPart l G a1 τ σ o0 (imin xs0 ((imin (σ 11 o0 14) (σ 11 o0 12)) - r4)) ho0 _ hw) (cwV 1 hts (lw_V q1042 q1044 qs18 q168 q1045) rfl rfl rfl kX11_sendPart ⟨Nat.le_of_ble_eq_true rfl, Nat.le_of_ble_eq_true rfl⟩) rfl hl.1 rfl (Nat.le_of_ble_eq_true rfl) dX11_output_121 ⟨Nat.le_of_ble_eq_true rfl, Nat.le_of_ble_eq_true rfl⟩) hS (fun σ5 H locs hw hH hS => ?_)
    refine lv_goto (tgt := 2) hx hb dX11_output_124 (by decide) ?_
    exact hK2 σ5 0 hw H locs ls hH hS (lv_sub hl [3, 0] rfl)
  have hw := hw.2 h
  refine lv_iload hx hb dX11_output_81 (lv_at hl 0 rfl) ?_
  refine lv_if_le (tgt := 112) hx hb dX11_output_83 (by decide) (fun h => ?_) (fun h => ?_)
  · have hw := hw.1 h
    refine lv_iconst (v := 0) hx hb dX11_output_112 (by decide) ?_
    refine lv_istore_n (lv' := [(1, .int 0), (5, .int (imin xs0 ((imin (σ 11 o0 14) (σ 11 o0 12)) - r4))), (4, .int xs0), (0, .ref (ga G 11 o0)), (2, .int x2)]) hx hb dX11_output_113 rfl hl (by decide) rfl (fun ls hl => ?_)
    refine lv_iload_n hx hb dX11_output_114 rfl (lv_at hl 0 rfl) ?_
    refine lv_if_eq (tgt := 124) hx hb dX11_output_115 (by decide) (fun h => ?_) (fun h => ?_)
    · have hw := hw.1 h
      refine lv_goto (tgt := 2) hx hb dX11_output_124 (by decide) ?_
      exact hK2 σ 0 hw H locs ls hH hS (lv_sub hl [3, 0] rfl)
    have hw := hw.2 h
    refine lv_aload_n hx hb dX11_output_118 rfl (lv_at hl 3 rfl) ?_
    refine lv_iload hx hb dX11_output_119 (lv_at hl 1 rfl) ?_
    refine kc_v (rn_v (As := [.int (imin xs0 ((imin (σ 11 o0 14) (σ 11 o0 12)) - r4))]) (rest := []) C hH hS (by decide) rfl ho0 (m11_sendPart l G a1 τ σ o0 (imin xs0 ((imin (σ 11 o0 14) (σ 11 o0 12)) - r4)) ho0 _ hw) (cwV 1 hts (lw_V q1042 q1044 qs18 q168 q1045) rfl rfl rfl kX11_sendPart ⟨Nat.le_of_ble_eq_true rfl, Nat.le_of_ble_eq_true rfl⟩) rfl hl.1 rfl (Nat.le_of_ble_eq_true rfl) dX11_output_121 ⟨Nat.le_of_ble_eq_true rfl, Nat.le_of_ble_eq_true rfl⟩) hS (fun σ6 H locs hw hH hS => ?_)
    refine lv_goto (tgt := 2) hx hb dX11_output_124 (by decide) ?_
    exact hK2 σ6 0 hw H locs ls hH hS (lv_sub hl [3, 0] rfl)
  have hw := hw.2 h
  refine lv_iload hx hb dX11_output_86 (lv_at hl 0 rfl) ?_
  refine lv_aload_n hx hb dX11_output_88 rfl (lv_at hl 2 rfl) ?_
  refine g11_13 C hH ho0 q628 dX11_output_89 ?_
  refine lv_icmp_ge (tgt := 108) hx hb dX11_output_92 (by decide) (fun h => ?_) (fun h => ?_)
  · have hw := hw.1 h
    exact k11_output_J108 C σ o0 (imin xs0 ((imin (σ 11 o0 14) (σ 11 o0 12)) - r4)) ho0 hw H locs ls hH hS (lv_sub hl [2, 0] rfl) hK2
  have hw := hw.2 h
  refine lv_iload hx hb dX11_output_95 (lv_at hl 0 rfl) ?_
  refine lv_iload_n hx hb dX11_output_97 rfl (lv_at hl 3 rfl) ?_
  refine lv_icmp_eq (tgt := 108) hx hb dX11_output_98 (by decide) (fun h => ?_) (fun h => ?_)
  · have hw := hw.1 h
    exact k11_output_J108 C σ o0 (imin xs0 ((imin (σ 11 o0 14) (σ 11 o0 12)) - r4)) ho0 hw H locs ls hH hS (lv_sub hl [2, 0] rfl) hK2
  have hw := hw.2 h
  refine lv_aload_n hx hb dX11_output_101 rfl (lv_at hl 2 rfl) ?_
  refine kc_ip (rn_vp (As := []) (rest := []) C hH hS (by decide) rfl ho0 (m11_flight l G a1 τ σ H o0 ho0 _ hw) (cwV 0 hts (lw_V q1061 q1063 qs21 q168 q1064) rfl rfl rfl kX11_flight ⟨Nat.le_of_ble_eq_true rfl, Nat.le_of_ble_eq_true rfl⟩) rfl hl.1 rfl (Nat.le_of_ble_eq_true rfl) dX11_output_102 ⟨Nat.le_of_ble_eq_true rfl, Nat.le_of_ble_eq_true rfl⟩) hS (fun r8 locs hw hS => ?_)
  refine lv_if_ne (tgt := 112) hx hb dX11_output_105 (by decide) (fun h => ?_) (fun h => ?_)
  · have hw := hw.1 h
    refine lv_iconst (v := 0) hx hb dX11_output_112 (by decide) ?_
    refine lv_istore_n (lv' := [(1, .int 0), (5, .int (imin xs0 ((imin (σ 11 o0 14) (σ 11 o0 12)) - r4))), (4, .int xs0), (0, .ref (ga G 11 o0)), (2, .int x2)]) hx hb dX11_output_113 rfl hl (by decide) rfl (fun ls hl => ?_)
    refine lv_iload_n hx hb dX11_output_114 rfl (lv_at hl 0 rfl) ?_
    refine lv_if_eq (tgt := 124) hx hb dX11_output_115 (by decide) (fun h => ?_) (fun h => ?_)
    · have hw := hw.1 h
      refine lv_goto (tgt := 2) hx hb dX11_output_124 (by decide) ?_
      exact hK2 σ 0 hw H locs ls hH hS (lv_sub hl [3, 0] rfl)
    have hw := hw.2 h
    refine lv_aload_n hx hb dX11_output_118 rfl (lv_at hl 3 rfl) ?_
    refine lv_iload hx hb dX11_output_119 (lv_at hl 1 rfl) ?_
    refine kc_v (rn_v (As := [.int (imin xs0 ((imin (σ 11 o0 14) (σ 11 o0 12)) - r4))]) (rest := []) C hH hS (by decide) rfl ho0 (m11_sendPart l G a1 τ σ o0 (imin xs0 ((imin (σ 11 o0 14) (σ 11 o0 12)) - r4)) ho0 _ hw) (cwV 1 hts (lw_V q1042 q1044 qs18 q168 q1045) rfl rfl rfl kX11_sendPart ⟨Nat.le_of_ble_eq_true rfl, Nat.le_of_ble_eq_true rfl⟩) rfl hl.1 rfl (Nat.le_of_ble_eq_true rfl) dX11_output_121 ⟨Nat.le_of_ble_eq_true rfl, Nat.le_of_ble_eq_true rfl⟩) hS (fun σ9 H locs hw hH hS => ?_)
    refine lv_goto (tgt := 2) hx hb dX11_output_124 (by decide) ?_
    exact hK2 σ9 0 hw H locs ls hH hS (lv_sub hl [3, 0] rfl)
  have hw := hw.2 h
  exact k11_output_J108 C σ o0 (imin xs0 ((imin (σ 11 o0 14) (σ 11 o0 12)) - r4)) ho0 hw H locs ls hH hS (lv_sub hl [2, 0] rfl) hK2
def w11_output_L2 (o0 : Nat) (Q : St → Prop) (K127 : St → Prop) : Nat → St → Int32 → Prop
  | 0, _, _ => False
  | n + 1, σ, x1 => (x1 = 0 → K127 σ) ∧ (¬ x1 = 0 → (w11_left σ o0 (fun r1 => (w11_end σ o0 (fun r2 => (w11_end σ o0 (fun r3 => ((¬ (imin (σ 11 o0 13) (r2 - (σ 11 o0 10))) = (r3 - (σ 11 o0 10)) → (w11_output_J52 σ o0 r1 (imin (σ 11 o0 13) (r2 - (σ 11 o0 10))) Q (fun σz x1z => w11_output_L2 o0 Q K127 n σz x1z))) ∧ ((imin (σ 11 o0 13) (r2 - (σ 11 o0 10))) = (r3 - (σ 11 o0 10)) → (w11_output_J52 σ o0 r1 (imin r1 ((imin (σ 11 o0 13) (r2 - (σ 11 o0 10))) + 1)) Q (fun σz x1z => w11_output_L2 o0 Q K127 n σz x1z)))))))))))
set_option maxHeartbeats 4000000 in
theorem k11_output_L2 {p : Program} {l : Launch} {e : Env} {s : State} {m : MethodId} {args : Array Value} {below : List Frame} {meth : Method} {c : Code} {G : Gh} {a1 : Nat → Nat → Nat} {τ : St} {Q : St → Prop} {K127 : St → Prop} (C : Cx p e s m args meth c cX11_output 6 none "WebHost$Connection" G) (o0 : Nat) (ho0 : o0 < 16) :
    ∀ (n : Nat) (σ : St) (x1 : Int32), w11_output_L2 o0 Q K127 n σ x1 → ∀ (H : Heap) (locs : List Loc) (ls : Array Slot), Hd G a1 (cmb σ τ) H → va_S (gA G) s.heap H locs → lv_has ls 6 [(0, .ref (ga G 11 o0)), (1, .int x1)] → (∀ (σ : St) , K127 σ → ∀ (H : Heap) (locs : List Loc) (ls : Array Slot), Hd G a1 (cmb σ τ) H → va_S (gA G) s.heap H locs → lv_has ls 6 [(0, .ref (ga G 11 o0))] → W p l e rmX11_output s m args below meth c H locs 0 0 (MQ below (QVs G a1 (fun u => cmb u τ) Q) args s 0 0 (gA G)) (F0 m 127 ls [])) → W p l e rmX11_output s m args below meth c H locs 0 0 (MQ below (QVs G a1 (fun u => cmb u τ) Q) args s 0 0 (gA G)) (F0 m 2 ls []) := by
  have hx := C.1
  have hb := C.2.1
  have hown := C.2.2.2.2.2.1
  have hts := C.2.2.2.2.2.2.1
  intro n
  induction n with
  | zero =>
    intro σ x1 hw
    exact False.elim hw
  | succ n ih =>
    intro σ x1 hw H locs ls hH hS hl hK127
    refine lv_iload_n hx hb dX11_output_2 rfl (lv_at hl 1 rfl) ?_
    refine lv_if_eq (tgt := 127) hx hb dX11_output_3 (by decide) (fun h => ?_) (fun h => ?_)
    · have hw := hw.1 h
      exact hK127 σ hw H locs ls hH hS (lv_sub hl [0] rfl)
    have hw := hw.2 h
    refine lv_aload_n hx hb dX11_output_6 rfl (lv_at hl 0 rfl) ?_
    refine kc_ip (rn_vp (As := []) (rest := []) C hH hS (by decide) rfl ho0 (m11_left l G a1 τ σ H o0 ho0 _ hw) (cwV 0 hts (lw_V q1034 q1035 q1036 q168 q1037) rfl rfl rfl kX11_left ⟨Nat.le_of_ble_eq_true rfl, Nat.le_of_ble_eq_true rfl⟩) rfl hl.1 rfl (Nat.le_of_ble_eq_true rfl) dX11_output_7 ⟨Nat.le_of_ble_eq_true rfl, Nat.le_of_ble_eq_true rfl⟩) hS (fun r1 locs hw hS => ?_)
    refine lv_istore_n (lv' := [(2, .int r1), (0, .ref (ga G 11 o0)), (1, .int x1)]) hx hb dX11_output_10 rfl hl (by decide) rfl (fun ls hl => ?_)
    refine lv_aload_n hx hb dX11_output_11 rfl (lv_at hl 1 rfl) ?_
    refine g11_13 C hH ho0 q628 dX11_output_12 ?_
    refine lv_aload_n hx hb dX11_output_15 rfl (lv_at hl 1 rfl) ?_
    refine kc_ip (rn_vp (As := []) (rest := [.int (σ 11 o0 13)]) C hH hS (by decide) rfl ho0 (m11_end l G a1 τ σ H o0 ho0 _ hw) (cwV 0 hts (lw_V q1038 q1040 qs17 q168 q1041) rfl rfl rfl kX11_end ⟨Nat.le_of_ble_eq_true rfl, Nat.le_of_ble_eq_true rfl⟩) rfl hl.1 rfl (Nat.le_of_ble_eq_true rfl) dX11_output_16 ⟨Nat.le_of_ble_eq_true rfl, Nat.le_of_ble_eq_true rfl⟩) hS (fun r2 locs hw hS => ?_)
    refine lv_aload_n hx hb dX11_output_19 rfl (lv_at hl 1 rfl) ?_
    refine g11_10 C hH ho0 q622 dX11_output_20 ?_
    refine lv_isub hx hb dX11_output_23 ?_
    refine r_imin C hl.1 q1020 (Nat.le_of_ble_eq_true rfl) (Nat.le_of_ble_eq_true rfl) (Nat.zero_le _) (Nat.zero_le _) dX11_output_24 ?_
    refine lv_istore_n (lv' := [(3, .int (imin (σ 11 o0 13) (r2 - (σ 11 o0 10)))), (2, .int r1), (0, .ref (ga G 11 o0)), (1, .int x1)]) hx hb dX11_output_27 rfl hl (by decide) rfl (fun ls hl => ?_)
    refine lv_iload_n hx hb dX11_output_28 rfl (lv_at hl 0 rfl) ?_
    refine lv_aload_n hx hb dX11_output_29 rfl (lv_at hl 2 rfl) ?_
    refine kc_ip (rn_vp (As := []) (rest := [.int (imin (σ 11 o0 13) (r2 - (σ 11 o0 10)))]) C hH hS (by decide) rfl ho0 (m11_end l G a1 τ σ H o0 ho0 _ hw) (cwV 0 hts (lw_V q1038 q1040 qs17 q168 q1041) rfl rfl rfl kX11_end ⟨Nat.le_of_ble_eq_true rfl, Nat.le_of_ble_eq_true rfl⟩) rfl hl.1 rfl (Nat.le_of_ble_eq_true rfl) dX11_output_30 ⟨Nat.le_of_ble_eq_true rfl, Nat.le_of_ble_eq_true rfl⟩) hS (fun r3 locs hw hS => ?_)
    refine lv_aload_n hx hb dX11_output_33 rfl (lv_at hl 2 rfl) ?_
    refine g11_10 C hH ho0 q622 dX11_output_34 ?_
    refine lv_isub hx hb dX11_output_37 ?_
    refine lv_icmp_ne (tgt := 51) hx hb dX11_output_38 (by decide) (fun h => ?_) (fun h => ?_)
    · have hw := hw.1 h
      refine lv_iload_n hx hb dX11_output_51 rfl (lv_at hl 0 rfl) ?_
      exact k11_output_J52 C σ o0 r1 (imin (σ 11 o0 13) (r2 - (σ 11 o0 10))) ho0 hw H locs ls hH hS (lv_sub hl [2, 1] rfl) (fun σz x1z hw H locs ls hH hS hl => ih σz x1z hw H locs ls hH hS hl hK127)
    have hw := hw.2 h
    refine lv_iload_n hx hb dX11_output_41 rfl (lv_at hl 1 rfl) ?_
    refine lv_iload_n hx hb dX11_output_42 rfl (lv_at hl 0 rfl) ?_
    refine lv_iconst (v := 1) hx hb dX11_output_43 (by decide) ?_
    refine lv_iadd hx hb dX11_output_44 ?_
    refine r_imin C hl.1 q1020 (Nat.le_of_ble_eq_true rfl) (Nat.le_of_ble_eq_true rfl) (Nat.zero_le _) (Nat.zero_le _) dX11_output_45 ?_
    refine lv_goto (tgt := 52) hx hb dX11_output_48 (by decide) ?_
    exact k11_output_J52 C σ o0 r1 (imin r1 ((imin (σ 11 o0 13) (r2 - (σ 11 o0 10))) + 1)) ho0 hw H locs ls hH hS (lv_sub hl [2, 1] rfl) (fun σz x1z hw H locs ls hH hS hl => ih σz x1z hw H locs ls hH hS hl hK127)
def w11_output (σ : St) (o0 : Nat) (Q : St → Prop) : Prop := ∃ z10, w11_output_L2 o0 Q (fun σ11 => w11_left σ11 o0 (fun r12 => ((r12 ≤ 0 → Q σ11) ∧ (¬ r12 ≤ 0 → (w11_flight σ11 o0 (fun r13 => ((¬ r13 = 0 → Q σ11) ∧ (r13 = 0 → ((¬ (σ11 11 o0 12) = 0 → Q σ11) ∧ ((σ11 11 o0 12) = 0 → (w11_startTimer σ11 o0 (fun σ14 => (Q σ14))))))))))))) z10 σ 1
set_option maxHeartbeats 4000000 in
theorem m11_output (l : Launch) (G : Gh) (a1 : Nat → Nat → Nat) (τ : St) (σ : St) (o0 : Nat) (ho0 : o0 < 16) (Q : St → Prop) (hw : w11_output σ o0 Q) : Met l yX11_output (ws_ yX11_output cX11_output 6 none) rmX11_output (PcS G a1 (cmb σ τ) [.ref (ga G 11 o0)]) (QVs G a1 (fun u => cmb u τ) Q) 0 0 (gA G) := by
  refine met_w (by decide) (Nat.le_of_ble_eq_true rfl) ?_
  intro p e s m below meth c ls C hH hS hl
  have C : Cx p e s m _ meth c cX11_output 6 none "WebHost$Connection" G := C
  have hl : lv_has ls 6 [(0, .ref (ga G 11 o0))] := hl
  have hx := C.1
  have hb := C.2.1
  have hown := C.2.2.2.2.2.1
  have hts := C.2.2.2.2.2.2.1
  obtain ⟨locs, hlocs⟩ : ∃ z : List Loc, z = [] := ⟨_, rfl⟩
  obtain ⟨H, hHe⟩ : ∃ z : Heap, z = s.heap := ⟨_, rfl⟩
  have hH : Hd G a1 (cmb σ τ) H := by rw [hHe]; exact hH
  have hS : va_S (gA G) s.heap H locs := by rw [hHe, hlocs]; exact hS
  refine W.heap0 hHe.symm hlocs.symm ?_
  refine lv_iconst (v := 1) hx hb dX11_output_0 (by decide) ?_
  refine lv_istore_n (lv' := [(1, .int 1), (0, .ref (ga G 11 o0))]) hx hb dX11_output_1 rfl hl (by decide) rfl (fun ls hl => ?_)
  obtain ⟨n10, hw⟩ := hw
  refine k11_output_L2 C o0 ho0 n10 σ 1 hw H locs ls hH hS (lv_sub hl [1, 0] rfl) (fun σ11 hw H locs ls hH hS hl => ?_)
  refine lv_aload_n hx hb dX11_output_127 rfl (lv_at hl 0 rfl) ?_
  refine kc_ip (rn_vp (As := []) (rest := []) C hH hS (by decide) rfl ho0 (m11_left l G a1 τ σ11 H o0 ho0 _ hw) (cwV 0 hts (lw_V q1034 q1035 q1036 q168 q1037) rfl rfl rfl kX11_left ⟨Nat.le_of_ble_eq_true rfl, Nat.le_of_ble_eq_true rfl⟩) rfl hl.1 rfl (Nat.le_of_ble_eq_true rfl) dX11_output_128 ⟨Nat.le_of_ble_eq_true rfl, Nat.le_of_ble_eq_true rfl⟩) hS (fun r12 locs hw hS => ?_)
  refine lv_if_le (tgt := 152) hx hb dX11_output_131 (by decide) (fun h => ?_) (fun h => ?_)
  · have hw := hw.1 h
    exact rt_v C hH hS hw dX11_output_152
  have hw := hw.2 h
  refine lv_aload_n hx hb dX11_output_134 rfl (lv_at hl 0 rfl) ?_
  refine kc_ip (rn_vp (As := []) (rest := []) C hH hS (by decide) rfl ho0 (m11_flight l G a1 τ σ11 H o0 ho0 _ hw) (cwV 0 hts (lw_V q1061 q1063 qs21 q168 q1064) rfl rfl rfl kX11_flight ⟨Nat.le_of_ble_eq_true rfl, Nat.le_of_ble_eq_true rfl⟩) rfl hl.1 rfl (Nat.le_of_ble_eq_true rfl) dX11_output_135 ⟨Nat.le_of_ble_eq_true rfl, Nat.le_of_ble_eq_true rfl⟩) hS (fun r13 locs hw hS => ?_)
  refine lv_if_ne (tgt := 152) hx hb dX11_output_138 (by decide) (fun h => ?_) (fun h => ?_)
  · have hw := hw.1 h
    exact rt_v C hH hS hw dX11_output_152
  have hw := hw.2 h
  refine lv_aload_n hx hb dX11_output_141 rfl (lv_at hl 0 rfl) ?_
  refine g11_12 C hH ho0 q626 dX11_output_142 ?_
  refine lv_if_ne (tgt := 152) hx hb dX11_output_145 (by decide) (fun h => ?_) (fun h => ?_)
  · have hw := hw.1 h
    exact rt_v C hH hS hw dX11_output_152
  have hw := hw.2 h
  refine lv_aload_n hx hb dX11_output_148 rfl (lv_at hl 0 rfl) ?_
  refine kc_v (rn_v (As := []) (rest := []) C hH hS (by decide) rfl ho0 (m11_startTimer l G a1 τ σ11 o0 ho0 _ hw) (cwV 0 hts (lw_V q1021 q1023 qs15 q168 q1024) rfl rfl rfl kX11_startTimer ⟨Nat.le_of_ble_eq_true rfl, Nat.le_of_ble_eq_true rfl⟩) rfl hl.1 rfl (Nat.le_of_ble_eq_true rfl) dX11_output_149 ⟨Nat.le_of_ble_eq_true rfl, Nat.le_of_ble_eq_true rfl⟩) hS (fun σ14 H locs hw hH hS => ?_)
  exact rt_v C hH hS hw dX11_output_152
/-! WebHost$Connection.takeAck(LWebHost$Segment;)Z -/
abbrev cX11_takeAck : ByteArray := prog_3_method_21_code
def yX11_takeAck : MethodName := ⟨RX11, "takeAck", "(LWebHost$Segment;)Z"⟩
theorem dX11_takeAck_0 : decode cX11_takeAck 0 = .ok (.aload_n 0, 1) := by decide +kernel
theorem dX11_takeAck_1 : decode cX11_takeAck 1 = .ok (.getfield 73, 3) := by decide +kernel
theorem dX11_takeAck_4 : decode cX11_takeAck 4 = .ok (.iconst 1, 1) := by decide +kernel
theorem dX11_takeAck_5 : decode cX11_takeAck 5 = .ok (.if_icmp .ne 103, 3) := by decide +kernel
theorem dX11_takeAck_8 : decode cX11_takeAck 8 = .ok (.aload_n 1, 1) := by decide +kernel
theorem dX11_takeAck_9 : decode cX11_takeAck 9 = .ok (.getfield 261, 3) := by decide +kernel
theorem dX11_takeAck_12 : decode cX11_takeAck 12 = .ok (.aload_n 0, 1) := by decide +kernel
theorem dX11_takeAck_13 : decode cX11_takeAck 13 = .ok (.getfield 165, 3) := by decide +kernel
theorem dX11_takeAck_16 : decode cX11_takeAck 16 = .ok (.iconst 1, 1) := by decide +kernel
theorem dX11_takeAck_17 : decode cX11_takeAck 17 = .ok (.iadd, 1) := by decide +kernel
theorem dX11_takeAck_18 : decode cX11_takeAck 18 = .ok (.if_icmp .eq 13, 3) := by decide +kernel
theorem dX11_takeAck_21 : decode cX11_takeAck 21 = .ok (.aload_n 0, 1) := by decide +kernel
theorem dX11_takeAck_22 : decode cX11_takeAck 22 = .ok (.getfield 25, 3) := by decide +kernel
theorem dX11_takeAck_25 : decode cX11_takeAck 25 = .ok (.aload_n 1, 1) := by decide +kernel
theorem dX11_takeAck_26 : decode cX11_takeAck 26 = .ok (.invokevirtual 228, 3) := by decide +kernel
theorem dX11_takeAck_29 : decode cX11_takeAck 29 = .ok (.iconst 0, 1) := by decide +kernel
theorem dX11_takeAck_30 : decode cX11_takeAck 30 = .ok (.ireturn, 1) := by decide +kernel
theorem dX11_takeAck_31 : decode cX11_takeAck 31 = .ok (.aload_n 0, 1) := by decide +kernel
theorem dX11_takeAck_32 : decode cX11_takeAck 32 = .ok (.iconst 2, 1) := by decide +kernel
theorem dX11_takeAck_33 : decode cX11_takeAck 33 = .ok (.putfield 73, 3) := by decide +kernel
theorem dX11_takeAck_36 : decode cX11_takeAck 36 = .ok (.aload_n 0, 1) := by decide +kernel
theorem dX11_takeAck_37 : decode cX11_takeAck 37 = .ok (.aload_n 0, 1) := by decide +kernel
theorem dX11_takeAck_38 : decode cX11_takeAck 38 = .ok (.getfield 165, 3) := by decide +kernel
theorem dX11_takeAck_41 : decode cX11_takeAck 41 = .ok (.iconst 1, 1) := by decide +kernel
theorem dX11_takeAck_42 : decode cX11_takeAck 42 = .ok (.iadd, 1) := by decide +kernel
theorem dX11_takeAck_43 : decode cX11_takeAck 43 = .ok (.putfield 82, 3) := by decide +kernel
theorem dX11_takeAck_46 : decode cX11_takeAck 46 = .ok (.aload_n 0, 1) := by decide +kernel
theorem dX11_takeAck_47 : decode cX11_takeAck 47 = .ok (.aload_n 1, 1) := by decide +kernel
theorem dX11_takeAck_48 : decode cX11_takeAck 48 = .ok (.getfield 261, 3) := by decide +kernel
theorem dX11_takeAck_51 : decode cX11_takeAck 51 = .ok (.invokevirtual 264, 3) := by decide +kernel
theorem dX11_takeAck_54 : decode cX11_takeAck 54 = .ok (.aload_n 0, 1) := by decide +kernel
theorem dX11_takeAck_55 : decode cX11_takeAck 55 = .ok (.iconst 0, 1) := by decide +kernel
theorem dX11_takeAck_56 : decode cX11_takeAck 56 = .ok (.putfield 183, 3) := by decide +kernel
theorem dX11_takeAck_59 : decode cX11_takeAck 59 = .ok (.aload_n 0, 1) := by decide +kernel
theorem dX11_takeAck_60 : decode cX11_takeAck 60 = .ok (.iconst 0, 1) := by decide +kernel
theorem dX11_takeAck_61 : decode cX11_takeAck 61 = .ok (.putfield 135, 3) := by decide +kernel
theorem dX11_takeAck_64 : decode cX11_takeAck 64 = .ok (.aload_n 0, 1) := by decide +kernel
theorem dX11_takeAck_65 : decode cX11_takeAck 65 = .ok (.aload_n 0, 1) := by decide +kernel
theorem dX11_takeAck_66 : decode cX11_takeAck 66 = .ok (.getfield 25, 3) := by decide +kernel
theorem dX11_takeAck_69 : decode cX11_takeAck 69 = .ok (.invokevirtual 129, 3) := by decide +kernel
theorem dX11_takeAck_72 : decode cX11_takeAck 72 = .ok (.putfield 201, 3) := by decide +kernel
theorem dX11_takeAck_75 : decode cX11_takeAck 75 = .ok (.aload_n 0, 1) := by decide +kernel
theorem dX11_takeAck_76 : decode cX11_takeAck 76 = .ok (.getfield 25, 3) := by decide +kernel
theorem dX11_takeAck_79 : decode cX11_takeAck 79 = .ok (.dup, 1) := by decide +kernel
theorem dX11_takeAck_80 : decode cX11_takeAck 80 = .ok (.getfield 267, 3) := by decide +kernel
theorem dX11_takeAck_83 : decode cX11_takeAck 83 = .ok (.iconst 1, 1) := by decide +kernel
theorem dX11_takeAck_84 : decode cX11_takeAck 84 = .ok (.iadd, 1) := by decide +kernel
theorem dX11_takeAck_85 : decode cX11_takeAck 85 = .ok (.putfield 267, 3) := by decide +kernel
theorem dX11_takeAck_88 : decode cX11_takeAck 88 = .ok (.aload_n 0, 1) := by decide +kernel
theorem dX11_takeAck_89 : decode cX11_takeAck 89 = .ok (.getfield 25, 3) := by decide +kernel
theorem dX11_takeAck_92 : decode cX11_takeAck 92 = .ok (.dup, 1) := by decide +kernel
theorem dX11_takeAck_93 : decode cX11_takeAck 93 = .ok (.getfield 270, 3) := by decide +kernel
theorem dX11_takeAck_96 : decode cX11_takeAck 96 = .ok (.iconst 1, 1) := by decide +kernel
theorem dX11_takeAck_97 : decode cX11_takeAck 97 = .ok (.iadd, 1) := by decide +kernel
theorem dX11_takeAck_98 : decode cX11_takeAck 98 = .ok (.putfield 270, 3) := by decide +kernel
theorem dX11_takeAck_101 : decode cX11_takeAck 101 = .ok (.aload_n 0, 1) := by decide +kernel
theorem dX11_takeAck_102 : decode cX11_takeAck 102 = .ok (.aload_n 1, 1) := by decide +kernel
theorem dX11_takeAck_103 : decode cX11_takeAck 103 = .ok (.invokevirtual 272, 3) := by decide +kernel
theorem dX11_takeAck_106 : decode cX11_takeAck 106 = .ok (.iconst 1, 1) := by decide +kernel
theorem dX11_takeAck_107 : decode cX11_takeAck 107 = .ok (.ireturn, 1) := by decide +kernel
theorem dX11_takeAck_108 : decode cX11_takeAck 108 = .ok (.aload_n 1, 1) := by decide +kernel
theorem dX11_takeAck_109 : decode cX11_takeAck 109 = .ok (.getfield 261, 3) := by decide +kernel
theorem dX11_takeAck_112 : decode cX11_takeAck 112 = .ok (.aload_n 0, 1) := by decide +kernel
theorem dX11_takeAck_113 : decode cX11_takeAck 113 = .ok (.getfield 88, 3) := by decide +kernel
theorem dX11_takeAck_116 : decode cX11_takeAck 116 = .ok (.isub, 1) := by decide +kernel
theorem dX11_takeAck_117 : decode cX11_takeAck 117 = .ok (.ifCond .le 9, 3) := by decide +kernel
theorem dX11_takeAck_120 : decode cX11_takeAck 120 = .ok (.aload_n 0, 1) := by decide +kernel
theorem dX11_takeAck_121 : decode cX11_takeAck 121 = .ok (.invokevirtual 222, 3) := by decide +kernel
theorem dX11_takeAck_124 : decode cX11_takeAck 124 = .ok (.iconst 0, 1) := by decide +kernel
theorem dX11_takeAck_125 : decode cX11_takeAck 125 = .ok (.ireturn, 1) := by decide +kernel
theorem dX11_takeAck_126 : decode cX11_takeAck 126 = .ok (.aload_n 1, 1) := by decide +kernel
theorem dX11_takeAck_127 : decode cX11_takeAck 127 = .ok (.getfield 261, 3) := by decide +kernel
theorem dX11_takeAck_130 : decode cX11_takeAck 130 = .ok (.aload_n 0, 1) := by decide +kernel
theorem dX11_takeAck_131 : decode cX11_takeAck 131 = .ok (.getfield 82, 3) := by decide +kernel
theorem dX11_takeAck_134 : decode cX11_takeAck 134 = .ok (.isub, 1) := by decide +kernel
theorem dX11_takeAck_135 : decode cX11_takeAck 135 = .ok (.istore_n 2, 1) := by decide +kernel
theorem dX11_takeAck_136 : decode cX11_takeAck 136 = .ok (.iload_n 2, 1) := by decide +kernel
theorem dX11_takeAck_137 : decode cX11_takeAck 137 = .ok (.ifCond .ne 44, 3) := by decide +kernel
theorem dX11_takeAck_140 : decode cX11_takeAck 140 = .ok (.aload_n 1, 1) := by decide +kernel
theorem dX11_takeAck_141 : decode cX11_takeAck 141 = .ok (.getfield 275, 3) := by decide +kernel
theorem dX11_takeAck_144 : decode cX11_takeAck 144 = .ok (.ifCond .ne 37, 3) := by decide +kernel
theorem dX11_takeAck_147 : decode cX11_takeAck 147 = .ok (.aload_n 1, 1) := by decide +kernel
theorem dX11_takeAck_148 : decode cX11_takeAck 148 = .ok (.iconst 1, 1) := by decide +kernel
theorem dX11_takeAck_149 : decode cX11_takeAck 149 = .ok (.invokevirtual 214, 3) := by decide +kernel
theorem dX11_takeAck_152 : decode cX11_takeAck 152 = .ok (.ifCond .ne 29, 3) := by decide +kernel
theorem dX11_takeAck_155 : decode cX11_takeAck 155 = .ok (.aload_n 1, 1) := by decide +kernel
theorem dX11_takeAck_156 : decode cX11_takeAck 156 = .ok (.getfield 171, 3) := by decide +kernel
theorem dX11_takeAck_159 : decode cX11_takeAck 159 = .ok (.aload_n 0, 1) := by decide +kernel
theorem dX11_takeAck_160 : decode cX11_takeAck 160 = .ok (.getfield 150, 3) := by decide +kernel
theorem dX11_takeAck_163 : decode cX11_takeAck 163 = .ok (.if_icmp .ne 18, 3) := by decide +kernel
theorem dX11_takeAck_166 : decode cX11_takeAck 166 = .ok (.aload_n 0, 1) := by decide +kernel
theorem dX11_takeAck_167 : decode cX11_takeAck 167 = .ok (.getfield 88, 3) := by decide +kernel
theorem dX11_takeAck_170 : decode cX11_takeAck 170 = .ok (.aload_n 0, 1) := by decide +kernel
theorem dX11_takeAck_171 : decode cX11_takeAck 171 = .ok (.getfield 82, 3) := by decide +kernel
theorem dX11_takeAck_174 : decode cX11_takeAck 174 = .ok (.if_icmp .eq 7, 3) := by decide +kernel
theorem dX11_takeAck_177 : decode cX11_takeAck 177 = .ok (.iconst 1, 1) := by decide +kernel
theorem dX11_takeAck_178 : decode cX11_takeAck 178 = .ok (.goto 4, 3) := by decide +kernel
theorem dX11_takeAck_181 : decode cX11_takeAck 181 = .ok (.iconst 0, 1) := by decide +kernel
theorem dX11_takeAck_182 : decode cX11_takeAck 182 = .ok (.istore_n 3, 1) := by decide +kernel
theorem dX11_takeAck_183 : decode cX11_takeAck 183 = .ok (.iload_n 2, 1) := by decide +kernel
theorem dX11_takeAck_184 : decode cX11_takeAck 184 = .ok (.ifCond .le 15, 3) := by decide +kernel
theorem dX11_takeAck_187 : decode cX11_takeAck 187 = .ok (.aload_n 0, 1) := by decide +kernel
theorem dX11_takeAck_188 : decode cX11_takeAck 188 = .ok (.aload_n 1, 1) := by decide +kernel
theorem dX11_takeAck_189 : decode cX11_takeAck 189 = .ok (.getfield 261, 3) := by decide +kernel
theorem dX11_takeAck_192 : decode cX11_takeAck 192 = .ok (.iload_n 2, 1) := by decide +kernel
theorem dX11_takeAck_193 : decode cX11_takeAck 193 = .ok (.invokevirtual 276, 3) := by decide +kernel
theorem dX11_takeAck_196 : decode cX11_takeAck 196 = .ok (.goto 11, 3) := by decide +kernel
theorem dX11_takeAck_199 : decode cX11_takeAck 199 = .ok (.iload_n 3, 1) := by decide +kernel
theorem dX11_takeAck_200 : decode cX11_takeAck 200 = .ok (.ifCond .eq 7, 3) := by decide +kernel
theorem dX11_takeAck_203 : decode cX11_takeAck 203 = .ok (.aload_n 0, 1) := by decide +kernel
theorem dX11_takeAck_204 : decode cX11_takeAck 204 = .ok (.invokevirtual 280, 3) := by decide +kernel
theorem dX11_takeAck_207 : decode cX11_takeAck 207 = .ok (.aload_n 0, 1) := by decide +kernel
theorem dX11_takeAck_208 : decode cX11_takeAck 208 = .ok (.getfield 172, 3) := by decide +kernel
theorem dX11_takeAck_211 : decode cX11_takeAck 211 = .ok (.aload_n 1, 1) := by decide +kernel
theorem dX11_takeAck_212 : decode cX11_takeAck 212 = .ok (.getfield 168, 3) := by decide +kernel
theorem dX11_takeAck_215 : decode cX11_takeAck 215 = .ok (.invokestatic 97, 3) := by decide +kernel
theorem dX11_takeAck_218 : decode cX11_takeAck 218 = .ok (.ifCond .ne 28, 3) := by decide +kernel
theorem dX11_takeAck_221 : decode cX11_takeAck 221 = .ok (.aload_n 0, 1) := by decide +kernel
theorem dX11_takeAck_222 : decode cX11_takeAck 222 = .ok (.getfield 172, 3) := by decide +kernel
theorem dX11_takeAck_225 : decode cX11_takeAck 225 = .ok (.aload_n 1, 1) := by decide +kernel
theorem dX11_takeAck_226 : decode cX11_takeAck 226 = .ok (.getfield 168, 3) := by decide +kernel
theorem dX11_takeAck_229 : decode cX11_takeAck 229 = .ok (.if_icmp .ne 21, 3) := by decide +kernel
theorem dX11_takeAck_232 : decode cX11_takeAck 232 = .ok (.aload_n 1, 1) := by decide +kernel
theorem dX11_takeAck_233 : decode cX11_takeAck 233 = .ok (.getfield 261, 3) := by decide +kernel
theorem dX11_takeAck_236 : decode cX11_takeAck 236 = .ok (.aload_n 0, 1) := by decide +kernel
theorem dX11_takeAck_237 : decode cX11_takeAck 237 = .ok (.getfield 175, 3) := by decide +kernel
theorem dX11_takeAck_240 : decode cX11_takeAck 240 = .ok (.invokestatic 97, 3) := by decide +kernel
theorem dX11_takeAck_243 : decode cX11_takeAck 243 = .ok (.ifCond .ne 7, 3) := by decide +kernel
theorem dX11_takeAck_246 : decode cX11_takeAck 246 = .ok (.iconst 1, 1) := by decide +kernel
theorem dX11_takeAck_247 : decode cX11_takeAck 247 = .ok (.goto 4, 3) := by decide +kernel
theorem dX11_takeAck_250 : decode cX11_takeAck 250 = .ok (.iconst 0, 1) := by decide +kernel
theorem dX11_takeAck_251 : decode cX11_takeAck 251 = .ok (.istore 4, 2) := by decide +kernel
theorem dX11_takeAck_253 : decode cX11_takeAck 253 = .ok (.iload_n 2, 1) := by decide +kernel
theorem dX11_takeAck_254 : decode cX11_takeAck 254 = .ok (.ifCond .lt 13, 3) := by decide +kernel
theorem dX11_takeAck_257 : decode cX11_takeAck 257 = .ok (.iload 4, 2) := by decide +kernel
theorem dX11_takeAck_259 : decode cX11_takeAck 259 = .ok (.ifCond .eq 8, 3) := by decide +kernel
theorem dX11_takeAck_262 : decode cX11_takeAck 262 = .ok (.aload_n 0, 1) := by decide +kernel
theorem dX11_takeAck_263 : decode cX11_takeAck 263 = .ok (.aload_n 1, 1) := by decide +kernel
theorem dX11_takeAck_264 : decode cX11_takeAck 264 = .ok (.invokevirtual 272, 3) := by decide +kernel
theorem dX11_takeAck_267 : decode cX11_takeAck 267 = .ok (.iload_n 2, 1) := by decide +kernel
theorem dX11_takeAck_268 : decode cX11_takeAck 268 = .ok (.ifCond .lt 15, 3) := by decide +kernel
theorem dX11_takeAck_271 : decode cX11_takeAck 271 = .ok (.aload_n 0, 1) := by decide +kernel
theorem dX11_takeAck_272 : decode cX11_takeAck 272 = .ok (.getfield 150, 3) := by decide +kernel
theorem dX11_takeAck_275 : decode cX11_takeAck 275 = .ok (.ifCond .ne 8, 3) := by decide +kernel
theorem dX11_takeAck_278 : decode cX11_takeAck 278 = .ok (.aload_n 0, 1) := by decide +kernel
theorem dX11_takeAck_279 : decode cX11_takeAck 279 = .ok (.iconst 0, 1) := by decide +kernel
theorem dX11_takeAck_280 : decode cX11_takeAck 280 = .ok (.putfield 183, 3) := by decide +kernel
theorem dX11_takeAck_283 : decode cX11_takeAck 283 = .ok (.aload_n 0, 1) := by decide +kernel
theorem dX11_takeAck_284 : decode cX11_takeAck 284 = .ok (.getfield 113, 3) := by decide +kernel
theorem dX11_takeAck_287 : decode cX11_takeAck 287 = .ok (.ifCond .eq 19, 3) := by decide +kernel
theorem dX11_takeAck_290 : decode cX11_takeAck 290 = .ok (.aload_n 0, 1) := by decide +kernel
theorem dX11_takeAck_291 : decode cX11_takeAck 291 = .ok (.getfield 82, 3) := by decide +kernel
theorem dX11_takeAck_294 : decode cX11_takeAck 294 = .ok (.aload_n 0, 1) := by decide +kernel
theorem dX11_takeAck_295 : decode cX11_takeAck 295 = .ok (.invokevirtual 76, 3) := by decide +kernel
theorem dX11_takeAck_298 : decode cX11_takeAck 298 = .ok (.isub, 1) := by decide +kernel
theorem dX11_takeAck_299 : decode cX11_takeAck 299 = .ok (.ifCond .le 7, 3) := by decide +kernel
theorem dX11_takeAck_302 : decode cX11_takeAck 302 = .ok (.aload_n 0, 1) := by decide +kernel
theorem dX11_takeAck_303 : decode cX11_takeAck 303 = .ok (.invokevirtual 283, 3) := by decide +kernel
theorem dX11_takeAck_306 : decode cX11_takeAck 306 = .ok (.iconst 1, 1) := by decide +kernel
theorem dX11_takeAck_307 : decode cX11_takeAck 307 = .ok (.ireturn, 1) := by decide +kernel
def rmX11_takeAck : Room := { frames := 8, cells := 0, slots := 0, locals := 209 }
theorem kX11_takeAck : yX11_takeAck.cls = "WebHost$Connection" ∧ yX11_takeAck.cls ≠ "java/lang/invoke/MethodHandle" ∧ yX11_takeAck.cls ≠ "java/lang/invoke/VarHandle" ∧ (parseMethodDescriptor yX11_takeAck.desc).map (fun d => d.parameters.length) = some 1 := by decide +kernel
def w11_takeAck_J283 (σ : St) (o0 : Nat) (Q : Int32 → St → Prop) : Prop := bo (σ 11 o0 28) → (((σ 11 o0 28) = 0 → Q 1 σ) ∧ (¬ (σ 11 o0 28) = 0 → (w11_end σ o0 (fun r2 => ((((σ 11 o0 9) - r2) ≤ 0 → Q 1 σ) ∧ (¬ ((σ 11 o0 9) - r2) ≤ 0 → (w11_finDone σ o0 (fun σ3 => (Q 1 σ3)))))))))
set_option maxHeartbeats 4000000 in
theorem k11_takeAck_J283 {p : Program} {l : Launch} {e : Env} {s : State} {m : MethodId} {args : Array Value} {below : List Frame} {meth : Method} {c : Code} {G : Gh} {a1 : Nat → Nat → Nat} {τ : St} {Q : Int32 → St → Prop} (C : Cx p e s m args meth c cX11_takeAck 5 (some .boolean) "WebHost$Connection" G) (σ : St) (o0 : Nat) (ho0 : o0 < 16) (hw : w11_takeAck_J283 σ o0 Q) (H : Heap) (locs : List Loc) (ls : Array Slot) (hH : Hd G a1 (cmb σ τ) H) (hS : va_S (gA G) s.heap H locs) (hl : lv_has ls 5 [(0, .ref (ga G 11 o0))]) : W p l e rmX11_takeAck s m args below meth c H locs 0 0 (MQ below (QIs G a1 (fun u => cmb u τ) Q) args s 0 0 (gA G)) (F0 m 283 ls []) := by
  have hx := C.1
  have hb := C.2.1
  have hown := C.2.2.2.2.2.1
  have hts := C.2.2.2.2.2.2.1
  refine lv_aload_n hx hb dX11_takeAck_283 rfl (lv_at hl 0 rfl) ?_
  refine g11_28 C hH ho0 q650 dX11_takeAck_284 (fun hz => ?_)
  have hw := hw hz
  refine lv_if_eq (tgt := 306) hx hb dX11_takeAck_287 (by decide) (fun h => ?_) (fun h => ?_)
  · have hw := hw.1 h
    refine lv_iconst (v := 1) hx hb dX11_takeAck_306 (by decide) ?_
    exact rt_i C rfl hH hS hw dX11_takeAck_307
  have hw := hw.2 h
  refine lv_aload_n hx hb dX11_takeAck_290 rfl (lv_at hl 0 rfl) ?_
  refine g11_9 C hH ho0 q620 dX11_takeAck_291 ?_
  refine lv_aload_n hx hb dX11_takeAck_294 rfl (lv_at hl 0 rfl) ?_
  refine kc_ip (rn_vp (As := []) (rest := [.int (σ 11 o0 9)]) C hH hS (by decide) rfl ho0 (m11_end l G a1 τ σ H o0 ho0 _ hw) (cwV 0 hts (lw_V q1038 q1040 qs17 q168 q1041) rfl rfl rfl kX11_end ⟨Nat.le_of_ble_eq_true rfl, Nat.le_of_ble_eq_true rfl⟩) rfl hl.1 rfl (Nat.le_of_ble_eq_true rfl) dX11_takeAck_295 ⟨Nat.le_of_ble_eq_true rfl, Nat.le_of_ble_eq_true rfl⟩) hS (fun r2 locs hw hS => ?_)
  refine lv_isub hx hb dX11_takeAck_298 ?_
  refine lv_if_le (tgt := 306) hx hb dX11_takeAck_299 (by decide) (fun h => ?_) (fun h => ?_)
  · have hw := hw.1 h
    refine lv_iconst (v := 1) hx hb dX11_takeAck_306 (by decide) ?_
    exact rt_i C rfl hH hS hw dX11_takeAck_307
  have hw := hw.2 h
  refine lv_aload_n hx hb dX11_takeAck_302 rfl (lv_at hl 0 rfl) ?_
  refine kc_v (rn_v (As := []) (rest := []) C hH hS (by decide) rfl ho0 (m11_finDone l G a1 τ σ o0 ho0 _ hw) (cwV 0 hts (lw_V q1204 q1206 qs43 q168 q1207) rfl rfl rfl kX11_finDone ⟨Nat.le_of_ble_eq_true rfl, Nat.le_of_ble_eq_true rfl⟩) rfl hl.1 rfl (Nat.le_of_ble_eq_true rfl) dX11_takeAck_303 ⟨Nat.le_of_ble_eq_true rfl, Nat.le_of_ble_eq_true rfl⟩) hS (fun σ3 H locs hw hH hS => ?_)
  refine lv_iconst (v := 1) hx hb dX11_takeAck_306 (by decide) ?_
  exact rt_i C rfl hH hS hw dX11_takeAck_307
def w11_takeAck_J251 (σ : St) (o0 : Nat) (x2 : Int32) (xs0 : Int32) (Q : Int32 → St → Prop) : Prop := (x2 < 0 → ((x2 < 0 → w11_takeAck_J283 σ o0 Q) ∧ (¬ x2 < 0 → ((¬ (σ 11 o0 12) = 0 → w11_takeAck_J283 σ o0 Q) ∧ ((σ 11 o0 12) = 0 → (∀ σ4, σ4 = up3 σ 11 o0 17 0 → (w11_takeAck_J283 σ4 o0 Q))))))) ∧ (¬ x2 < 0 → ((xs0 = 0 → ((x2 < 0 → w11_takeAck_J283 σ o0 Q) ∧ (¬ x2 < 0 → ((¬ (σ 11 o0 12) = 0 → w11_takeAck_J283 σ o0 Q) ∧ ((σ 11 o0 12) = 0 → (∀ σ5, σ5 = up3 σ 11 o0 17 0 → (w11_takeAck_J283 σ5 o0 Q))))))) ∧ (¬ xs0 = 0 → (w11_takeWindow σ o0 (fun σ6 => ((x2 < 0 → w11_takeAck_J283 σ6 o0 Q) ∧ (¬ x2 < 0 → ((¬ (σ6 11 o0 12) = 0 → w11_takeAck_J283 σ6 o0 Q) ∧ ((σ6 11 o0 12) = 0 → (∀ σ7, σ7 = up3 σ6 11 o0 17 0 → (w11_takeAck_J283 σ7 o0 Q)))))))))))
set_option maxHeartbeats 4000000 in
theorem k11_takeAck_J251 {p : Program} {l : Launch} {e : Env} {s : State} {m : MethodId} {args : Array Value} {below : List Frame} {meth : Method} {c : Code} {G : Gh} {a1 : Nat → Nat → Nat} {τ : St} {Q : Int32 → St → Prop} (C : Cx p e s m args meth c cX11_takeAck 5 (some .boolean) "WebHost$Connection" G) (σ : St) (o0 : Nat) (x2 : Int32) (xs0 : Int32) (ho0 : o0 < 16) (hw : w11_takeAck_J251 σ o0 x2 xs0 Q) (H : Heap) (locs : List Loc) (ls : Array Slot) (hH : Hd G a1 (cmb σ τ) H) (hS : va_S (gA G) s.heap H locs) (hl : lv_has ls 5 [(0, .ref (ga G 11 o0)), (1, .ref (ga G 10 0)), (2, .int x2)]) : W p l e rmX11_takeAck s m args below meth c H locs 0 0 (MQ below (QIs G a1 (fun u => cmb u τ) Q) args s 0 0 (gA G)) (F0 m 251 ls [.int xs0]) := by
  have hx := C.1
  have hb := C.2.1
  have hown := C.2.2.2.2.2.1
  have hts := C.2.2.2.2.2.2.1
  refine lv_istore (lv' := [(4, .int xs0), (0, .ref (ga G 11 o0)), (1, .ref (ga G 10 0)), (2, .int x2)]) hx hb dX11_takeAck_251 hl (by decide) rfl (fun ls hl => ?_)
  refine lv_iload_n hx hb dX11_takeAck_253 rfl (lv_at hl 3 rfl) ?_
  refine lv_if_lt (tgt := 267) hx hb dX11_takeAck_254 (by decide) (fun h => ?_) (fun h => ?_)
  · have hw := hw.1 h
    refine lv_iload_n hx hb dX11_takeAck_267 rfl (lv_at hl 3 rfl) ?_
    refine lv_if_lt (tgt := 283) hx hb dX11_takeAck_268 (by decide) (fun h => ?_) (fun h => ?_)
    · have hw := hw.1 h
      exact k11_takeAck_J283 C σ o0 ho0 hw H locs ls hH hS (lv_sub hl [1] rfl)
    have hw := hw.2 h
    refine lv_aload_n hx hb dX11_takeAck_271 rfl (lv_at hl 1 rfl) ?_
    refine g11_12 C hH ho0 q626 dX11_takeAck_272 ?_
    refine lv_if_ne (tgt := 283) hx hb dX11_takeAck_275 (by decide) (fun h => ?_) (fun h => ?_)
    · have hw := hw.1 h
      exact k11_takeAck_J283 C σ o0 ho0 hw H locs ls hH hS (lv_sub hl [1] rfl)
    have hw := hw.2 h
    refine lv_aload_n hx hb dX11_takeAck_278 rfl (lv_at hl 1 rfl) ?_
    refine lv_iconst (v := 0) hx hb dX11_takeAck_279 (by decide) ?_
    refine p11_17 C hH hS ho0 q636 dX11_takeAck_280 (fun σ4 e4 H locs hH hS => ?_)
    have hw := hw σ4 e4
    exact k11_takeAck_J283 C σ4 o0 ho0 hw H locs ls hH hS (lv_sub hl [1] rfl)
  have hw := hw.2 h
  refine lv_iload hx hb dX11_takeAck_257 (lv_at hl 0 rfl) ?_
  refine lv_if_eq (tgt := 267) hx hb dX11_takeAck_259 (by decide) (fun h => ?_) (fun h => ?_)
  · have hw := hw.1 h
    refine lv_iload_n hx hb dX11_takeAck_267 rfl (lv_at hl 3 rfl) ?_
    refine lv_if_lt (tgt := 283) hx hb dX11_takeAck_268 (by decide) (fun h => ?_) (fun h => ?_)
    · have hw := hw.1 h
      exact k11_takeAck_J283 C σ o0 ho0 hw H locs ls hH hS (lv_sub hl [1] rfl)
    have hw := hw.2 h
    refine lv_aload_n hx hb dX11_takeAck_271 rfl (lv_at hl 1 rfl) ?_
    refine g11_12 C hH ho0 q626 dX11_takeAck_272 ?_
    refine lv_if_ne (tgt := 283) hx hb dX11_takeAck_275 (by decide) (fun h => ?_) (fun h => ?_)
    · have hw := hw.1 h
      exact k11_takeAck_J283 C σ o0 ho0 hw H locs ls hH hS (lv_sub hl [1] rfl)
    have hw := hw.2 h
    refine lv_aload_n hx hb dX11_takeAck_278 rfl (lv_at hl 1 rfl) ?_
    refine lv_iconst (v := 0) hx hb dX11_takeAck_279 (by decide) ?_
    refine p11_17 C hH hS ho0 q636 dX11_takeAck_280 (fun σ5 e5 H locs hH hS => ?_)
    have hw := hw σ5 e5
    exact k11_takeAck_J283 C σ5 o0 ho0 hw H locs ls hH hS (lv_sub hl [1] rfl)
  have hw := hw.2 h
  refine lv_aload_n hx hb dX11_takeAck_262 rfl (lv_at hl 1 rfl) ?_
  refine lv_aload_n hx hb dX11_takeAck_263 rfl (lv_at hl 2 rfl) ?_
  refine kc_v (rn_v (As := [.ref (ga G 10 0)]) (rest := []) C hH hS (by decide) rfl ho0 (m11_takeWindow l G a1 τ σ o0 ho0 _ hw) (cwV 1 hts (lw_V q1183 q1185 qs38 q168 q1186) rfl rfl rfl kX11_takeWindow ⟨Nat.le_of_ble_eq_true rfl, Nat.le_of_ble_eq_true rfl⟩) rfl hl.1 rfl (Nat.le_of_ble_eq_true rfl) dX11_takeAck_264 ⟨Nat.le_of_ble_eq_true rfl, Nat.le_of_ble_eq_true rfl⟩) hS (fun σ6 H locs hw hH hS => ?_)
  refine lv_iload_n hx hb dX11_takeAck_267 rfl (lv_at hl 3 rfl) ?_
  refine lv_if_lt (tgt := 283) hx hb dX11_takeAck_268 (by decide) (fun h => ?_) (fun h => ?_)
  · have hw := hw.1 h
    exact k11_takeAck_J283 C σ6 o0 ho0 hw H locs ls hH hS (lv_sub hl [1] rfl)
  have hw := hw.2 h
  refine lv_aload_n hx hb dX11_takeAck_271 rfl (lv_at hl 1 rfl) ?_
  refine g11_12 C hH ho0 q626 dX11_takeAck_272 ?_
  refine lv_if_ne (tgt := 283) hx hb dX11_takeAck_275 (by decide) (fun h => ?_) (fun h => ?_)
  · have hw := hw.1 h
    exact k11_takeAck_J283 C σ6 o0 ho0 hw H locs ls hH hS (lv_sub hl [1] rfl)
  have hw := hw.2 h
  refine lv_aload_n hx hb dX11_takeAck_278 rfl (lv_at hl 1 rfl) ?_
  refine lv_iconst (v := 0) hx hb dX11_takeAck_279 (by decide) ?_
  refine p11_17 C hH hS ho0 q636 dX11_takeAck_280 (fun σ7 e7 H locs hH hS => ?_)
  have hw := hw σ7 e7
  exact k11_takeAck_J283 C σ7 o0 ho0 hw H locs ls hH hS (lv_sub hl [1] rfl)
def w11_takeAck_J207 (σ : St) (o0 : Nat) (x2 : Int32) (Q : Int32 → St → Prop) : Prop := w19_isBefore σ (σ 11 o0 7) (σ 10 0 3) (fun r1 => ((¬ r1 = 0 → w11_takeAck_J251 σ o0 x2 1 Q) ∧ (r1 = 0 → ((¬ (σ 11 o0 7) = (σ 10 0 3) → w11_takeAck_J251 σ o0 x2 0 Q) ∧ ((σ 11 o0 7) = (σ 10 0 3) → (w19_isBefore σ (σ 10 0 4) (σ 11 o0 8) (fun r8 => ((¬ r8 = 0 → w11_takeAck_J251 σ o0 x2 0 Q) ∧ (r8 = 0 → w11_takeAck_J251 σ o0 x2 1 Q)))))))))
set_option maxHeartbeats 4000000 in
theorem k11_takeAck_J207 {p : Program} {l : Launch} {e : Env} {s : State} {m : MethodId} {args : Array Value} {below : List Frame} {meth : Method} {c : Code} {G : Gh} {a1 : Nat → Nat → Nat} {τ : St} {Q : Int32 → St → Prop} (C : Cx p e s m args meth c cX11_takeAck 5 (some .boolean) "WebHost$Connection" G) (σ : St) (o0 : Nat) (x2 : Int32) (ho0 : o0 < 16) (hw : w11_takeAck_J207 σ o0 x2 Q) (H : Heap) (locs : List Loc) (ls : Array Slot) (hH : Hd G a1 (cmb σ τ) H) (hS : va_S (gA G) s.heap H locs) (hl : lv_has ls 5 [(0, .ref (ga G 11 o0)), (1, .ref (ga G 10 0)), (2, .int x2)]) : W p l e rmX11_takeAck s m args below meth c H locs 0 0 (MQ below (QIs G a1 (fun u => cmb u τ) Q) args s 0 0 (gA G)) (F0 m 207 ls []) := by
  have hx := C.1
  have hb := C.2.1
  have hown := C.2.2.2.2.2.1
  have hts := C.2.2.2.2.2.2.1
  refine lv_aload_n hx hb dX11_takeAck_207 rfl (lv_at hl 0 rfl) ?_
  refine g11_7 C hH ho0 q618 dX11_takeAck_208 ?_
  refine lv_aload_n hx hb dX11_takeAck_211 rfl (lv_at hl 1 rfl) ?_
  refine g10_3 C hH q527 dX11_takeAck_212 ?_
  refine kc_ip (rn_sp (As := [.int (σ 11 o0 7), .int (σ 10 0 3)]) (rest := []) C hH hS (m19_isBefore l G a1 τ σ H (σ 11 o0 7) (σ 10 0 3) _ hw) (va_cwS 2 hts (lw_S q1046 q1047 q176 q1048) rfl rfl rfl kX19_isBefore.2 ⟨Nat.le_of_ble_eq_true rfl, Nat.le_of_ble_eq_true rfl⟩) rfl hl.1 rfl (Nat.le_of_ble_eq_true rfl) dX11_takeAck_215 ⟨Nat.le_of_ble_eq_true rfl, Nat.le_of_ble_eq_true rfl⟩) hS (fun r1 locs hw hS => ?_)
  refine lv_if_ne (tgt := 246) hx hb dX11_takeAck_218 (by decide) (fun h => ?_) (fun h => ?_)
  · have hw := hw.1 h
    refine lv_iconst (v := 1) hx hb dX11_takeAck_246 (by decide) ?_
    refine lv_goto (tgt := 251) hx hb dX11_takeAck_247 (by decide) ?_
    exact k11_takeAck_J251 C σ o0 x2 1 ho0 hw H locs ls hH hS (lv_sub hl [0, 1, 2] rfl)
  have hw := hw.2 h
  refine lv_aload_n hx hb dX11_takeAck_221 rfl (lv_at hl 0 rfl) ?_
  refine g11_7 C hH ho0 q618 dX11_takeAck_222 ?_
  refine lv_aload_n hx hb dX11_takeAck_225 rfl (lv_at hl 1 rfl) ?_
  refine g10_3 C hH q527 dX11_takeAck_226 ?_
  refine lv_icmp_ne (tgt := 250) hx hb dX11_takeAck_229 (by decide) (fun h => ?_) (fun h => ?_)
  · have hw := hw.1 h
    refine lv_iconst (v := 0) hx hb dX11_takeAck_250 (by decide) ?_
    exact k11_takeAck_J251 C σ o0 x2 0 ho0 hw H locs ls hH hS (lv_sub hl [0, 1, 2] rfl)
  have hw := hw.2 h
  refine lv_aload_n hx hb dX11_takeAck_232 rfl (lv_at hl 1 rfl) ?_
  refine g10_4 C hH q530 dX11_takeAck_233 ?_
  refine lv_aload_n hx hb dX11_takeAck_236 rfl (lv_at hl 0 rfl) ?_
  refine g11_8 C hH ho0 q619 dX11_takeAck_237 ?_
  refine kc_ip (rn_sp (As := [.int (σ 10 0 4), .int (σ 11 o0 8)]) (rest := []) C hH hS (m19_isBefore l G a1 τ σ H (σ 10 0 4) (σ 11 o0 8) _ hw) (va_cwS 2 hts (lw_S q1046 q1047 q176 q1048) rfl rfl rfl kX19_isBefore.2 ⟨Nat.le_of_ble_eq_true rfl, Nat.le_of_ble_eq_true rfl⟩) rfl hl.1 rfl (Nat.le_of_ble_eq_true rfl) dX11_takeAck_240 ⟨Nat.le_of_ble_eq_true rfl, Nat.le_of_ble_eq_true rfl⟩) hS (fun r8 locs hw hS => ?_)
  refine lv_if_ne (tgt := 250) hx hb dX11_takeAck_243 (by decide) (fun h => ?_) (fun h => ?_)
  · have hw := hw.1 h
    refine lv_iconst (v := 0) hx hb dX11_takeAck_250 (by decide) ?_
    exact k11_takeAck_J251 C σ o0 x2 0 ho0 hw H locs ls hH hS (lv_sub hl [0, 1, 2] rfl)
  have hw := hw.2 h
  refine lv_iconst (v := 1) hx hb dX11_takeAck_246 (by decide) ?_
  refine lv_goto (tgt := 251) hx hb dX11_takeAck_247 (by decide) ?_
  exact k11_takeAck_J251 C σ o0 x2 1 ho0 hw H locs ls hH hS (lv_sub hl [0, 1, 2] rfl)
def w11_takeAck_J182 (σ : St) (o0 : Nat) (x2 : Int32) (xs0 : Int32) (Q : Int32 → St → Prop) : Prop := (x2 ≤ 0 → ((xs0 = 0 → w11_takeAck_J207 σ o0 x2 Q) ∧ (¬ xs0 = 0 → (w11_repeat σ o0 (fun σ9 => (w11_takeAck_J207 σ9 o0 x2 Q)))))) ∧ (¬ x2 ≤ 0 → (w11_renew σ o0 (σ 10 0 4) x2 (fun σ10 => (w11_takeAck_J207 σ10 o0 x2 Q))))
set_option maxHeartbeats 4000000 in
theorem k11_takeAck_J182 {p : Program} {l : Launch} {e : Env} {s : State} {m : MethodId} {args : Array Value} {below : List Frame} {meth : Method} {c : Code} {G : Gh} {a1 : Nat → Nat → Nat} {τ : St} {Q : Int32 → St → Prop} (C : Cx p e s m args meth c cX11_takeAck 5 (some .boolean) "WebHost$Connection" G) (σ : St) (o0 : Nat) (x2 : Int32) (xs0 : Int32) (ho0 : o0 < 16) (hw : w11_takeAck_J182 σ o0 x2 xs0 Q) (H : Heap) (locs : List Loc) (ls : Array Slot) (hH : Hd G a1 (cmb σ τ) H) (hS : va_S (gA G) s.heap H locs) (hl : lv_has ls 5 [(0, .ref (ga G 11 o0)), (1, .ref (ga G 10 0)), (2, .int x2)]) : W p l e rmX11_takeAck s m args below meth c H locs 0 0 (MQ below (QIs G a1 (fun u => cmb u τ) Q) args s 0 0 (gA G)) (F0 m 182 ls [.int xs0]) := by
  have hx := C.1
  have hb := C.2.1
  have hown := C.2.2.2.2.2.1
  have hts := C.2.2.2.2.2.2.1
  refine lv_istore_n (lv' := [(3, .int xs0), (0, .ref (ga G 11 o0)), (1, .ref (ga G 10 0)), (2, .int x2)]) hx hb dX11_takeAck_182 rfl hl (by decide) rfl (fun ls hl => ?_)
  refine lv_iload_n hx hb dX11_takeAck_183 rfl (lv_at hl 3 rfl) ?_
  refine lv_if_le (tgt := 199) hx hb dX11_takeAck_184 (by decide) (fun h => ?_) (fun h => ?_)
  · have hw := hw.1 h
    refine lv_iload_n hx hb dX11_takeAck_199 rfl (lv_at hl 0 rfl) ?_
    refine lv_if_eq (tgt := 207) hx hb dX11_takeAck_200 (by decide) (fun h => ?_) (fun h => ?_)
    · have hw := hw.1 h
      exact k11_takeAck_J207 C σ o0 x2 ho0 hw H locs ls hH hS (lv_sub hl [1, 2, 3] rfl)
    have hw := hw.2 h
    refine lv_aload_n hx hb dX11_takeAck_203 rfl (lv_at hl 1 rfl) ?_
    refine kc_v (rn_v (As := []) (rest := []) C hH hS (by decide) rfl ho0 (m11_repeat l G a1 τ σ o0 ho0 _ hw) (cwV 0 hts (lw_V q1200 q1202 qs42 q168 q1203) rfl rfl rfl kX11_repeat ⟨Nat.le_of_ble_eq_true rfl, Nat.le_of_ble_eq_true rfl⟩) rfl hl.1 rfl (Nat.le_of_ble_eq_true rfl) dX11_takeAck_204 ⟨Nat.le_of_ble_eq_true rfl, Nat.le_of_ble_eq_true rfl⟩) hS (fun σ9 H locs hw hH hS => ?_)
    exact k11_takeAck_J207 C σ9 o0 x2 ho0 hw H locs ls hH hS (lv_sub hl [1, 2, 3] rfl)
  have hw := hw.2 h
  refine lv_aload_n hx hb dX11_takeAck_187 rfl (lv_at hl 1 rfl) ?_
  refine lv_aload_n hx hb dX11_takeAck_188 rfl (lv_at hl 2 rfl) ?_
  refine g10_4 C hH q530 dX11_takeAck_189 ?_
  refine lv_iload_n hx hb dX11_takeAck_192 rfl (lv_at hl 3 rfl) ?_
  refine kc_v (rn_v (As := [.int (σ 10 0 4), .int x2]) (rest := []) C hH hS (by decide) rfl ho0 (m11_renew l G a1 τ σ o0 (σ 10 0 4) x2 ho0 _ hw) (cwV 2 hts (lw_V q1187 q1189 qs39 q168 q1190) rfl rfl rfl kX11_renew ⟨Nat.le_of_ble_eq_true rfl, Nat.le_of_ble_eq_true rfl⟩) rfl hl.1 rfl (Nat.le_of_ble_eq_true rfl) dX11_takeAck_193 ⟨Nat.le_of_ble_eq_true rfl, Nat.le_of_ble_eq_true rfl⟩) hS (fun σ10 H locs hw hH hS => ?_)
  refine lv_goto (tgt := 207) hx hb dX11_takeAck_196 (by decide) ?_
  exact k11_takeAck_J207 C σ10 o0 x2 ho0 hw H locs ls hH hS (lv_sub hl [1, 2, 3] rfl)
def w11_takeAck (σ : St) (o0 : Nat) (Q : Int32 → St → Prop) : Prop := (¬ (σ 11 o0 2) = 1 → ((((σ 10 0 4) - (σ 11 o0 11)) ≤ 0 → ((¬ ((σ 10 0 4) - (σ 11 o0 9)) = 0 → (w11_takeAck_J182 σ o0 ((σ 10 0 4) - (σ 11 o0 9)) 0 Q)) ∧ (((σ 10 0 4) - (σ 11 o0 9)) = 0 → ((¬ (σ 10 0 9) = 0 → (w11_takeAck_J182 σ o0 ((σ 10 0 4) - (σ 11 o0 9)) 0 Q)) ∧ ((σ 10 0 9) = 0 → (w10_has σ 1 (fun r11 => ((¬ r11 = 0 → (w11_takeAck_J182 σ o0 ((σ 10 0 4) - (σ 11 o0 9)) 0 Q)) ∧ (r11 = 0 → ((¬ (σ 10 0 6) = (σ 11 o0 12) → (w11_takeAck_J182 σ o0 ((σ 10 0 4) - (σ 11 o0 9)) 0 Q)) ∧ ((σ 10 0 6) = (σ 11 o0 12) → (((σ 11 o0 11) = (σ 11 o0 9) → (w11_takeAck_J182 σ o0 ((σ 10 0 4) - (σ 11 o0 9)) 0 Q)) ∧ (¬ (σ 11 o0 11) = (σ 11 o0 9) → (w11_takeAck_J182 σ o0 ((σ 10 0 4) - (σ 11 o0 9)) 1 Q)))))))))))))) ∧ (¬ ((σ 10 0 4) - (σ 11 o0 11)) ≤ 0 → (w11_acknowledge σ o0 (fun σ12 => (Q 0 σ12)))))) ∧ ((σ 11 o0 2) = 1 → (((σ 10 0 4) = ((σ 11 o0 5) + 1) → (∀ σ13, σ13 = up3 σ 11 o0 2 2 → (∀ σ14, σ14 = up3 σ13 11 o0 9 ((σ13 11 o0 5) + 1) → (w11_measure σ14 o0 (σ14 10 0 4) (fun σ15 => (∀ σ16, σ16 = up3 σ15 11 o0 17 0 → (∀ σ17, σ17 = up3 σ16 11 o0 29 0 → (w8_now σ17 (fun r18 => (∀ σ19, σ19 = up3 σ17 11 o0 32 r18 → (∀ σ20, σ20 = up3 σ19 8 0 7 ((σ19 8 0 7) + 1) → (∀ σ21, σ21 = up3 σ20 8 0 8 ((σ20 8 0 8) + 1) → (w11_takeWindow σ21 o0 (fun σ22 => (Q 1 σ22))))))))))))))) ∧ (¬ (σ 10 0 4) = ((σ 11 o0 5) + 1) → (w8_reset σ (fun σ23 => (Q 0 σ23))))))
set_option maxHeartbeats 4000000 in
theorem m11_takeAck (l : Launch) (G : Gh) (a1 : Nat → Nat → Nat) (τ : St) (σ : St) (o0 : Nat) (ho0 : o0 < 16) (Q : Int32 → St → Prop) (hw : w11_takeAck σ o0 Q) : Met l yX11_takeAck (ws_ yX11_takeAck cX11_takeAck 5 (some .boolean)) rmX11_takeAck (PcS G a1 (cmb σ τ) [.ref (ga G 11 o0), .ref (ga G 10 0)]) (QIs G a1 (fun u => cmb u τ) Q) 0 0 (gA G) := by
  refine met_w (by decide) (Nat.le_of_ble_eq_true rfl) ?_
  intro p e s m below meth c ls C hH hS hl
  have C : Cx p e s m _ meth c cX11_takeAck 5 (some .boolean) "WebHost$Connection" G := C
  have hl : lv_has ls 5 [(0, .ref (ga G 11 o0)), (1, .ref (ga G 10 0))] := hl
  have hx := C.1
  have hb := C.2.1
  have hown := C.2.2.2.2.2.1
  have hts := C.2.2.2.2.2.2.1
  obtain ⟨locs, hlocs⟩ : ∃ z : List Loc, z = [] := ⟨_, rfl⟩
  obtain ⟨H, hHe⟩ : ∃ z : Heap, z = s.heap := ⟨_, rfl⟩
  have hH : Hd G a1 (cmb σ τ) H := by rw [hHe]; exact hH
  have hS : va_S (gA G) s.heap H locs := by rw [hHe, hlocs]; exact hS
  refine W.heap0 hHe.symm hlocs.symm ?_
  refine lv_aload_n hx hb dX11_takeAck_0 rfl (lv_at hl 0 rfl) ?_
  refine g11_2 C hH ho0 q610 dX11_takeAck_1 ?_
  refine lv_iconst (v := 1) hx hb dX11_takeAck_4 (by decide) ?_
  refine lv_icmp_ne (tgt := 108) hx hb dX11_takeAck_5 (by decide) (fun h => ?_) (fun h => ?_)
  · have hw := hw.1 h
    refine lv_aload_n hx hb dX11_takeAck_108 rfl (lv_at hl 1 rfl) ?_
    refine g10_4 C hH q530 dX11_takeAck_109 ?_
    refine lv_aload_n hx hb dX11_takeAck_112 rfl (lv_at hl 0 rfl) ?_
    refine g11_11 C hH ho0 q624 dX11_takeAck_113 ?_
    refine lv_isub hx hb dX11_takeAck_116 ?_
    refine lv_if_le (tgt := 126) hx hb dX11_takeAck_117 (by decide) (fun h => ?_) (fun h => ?_)
    · have hw := hw.1 h
      refine lv_aload_n hx hb dX11_takeAck_126 rfl (lv_at hl 1 rfl) ?_
      refine g10_4 C hH q530 dX11_takeAck_127 ?_
      refine lv_aload_n hx hb dX11_takeAck_130 rfl (lv_at hl 0 rfl) ?_
      refine g11_9 C hH ho0 q620 dX11_takeAck_131 ?_
      refine lv_isub hx hb dX11_takeAck_134 ?_
      refine lv_istore_n (lv' := [(2, .int ((σ 10 0 4) - (σ 11 o0 9))), (0, .ref (ga G 11 o0)), (1, .ref (ga G 10 0))]) hx hb dX11_takeAck_135 rfl hl (by decide) rfl (fun ls hl => ?_)
      refine lv_iload_n hx hb dX11_takeAck_136 rfl (lv_at hl 0 rfl) ?_
      refine lv_if_ne (tgt := 181) hx hb dX11_takeAck_137 (by decide) (fun h => ?_) (fun h => ?_)
      · have hw := hw.1 h
        refine lv_iconst (v := 0) hx hb dX11_takeAck_181 (by decide) ?_
        exact k11_takeAck_J182 C σ o0 ((σ 10 0 4) - (σ 11 o0 9)) 0 ho0 hw H locs ls hH hS (lv_sub hl [1, 2, 0] rfl)
      have hw := hw.2 h
      refine lv_aload_n hx hb dX11_takeAck_140 rfl (lv_at hl 2 rfl) ?_
      refine g10_9 C hH q539 dX11_takeAck_141 ?_
      refine lv_if_ne (tgt := 181) hx hb dX11_takeAck_144 (by decide) (fun h => ?_) (fun h => ?_)
      · have hw := hw.1 h
        refine lv_iconst (v := 0) hx hb dX11_takeAck_181 (by decide) ?_
        exact k11_takeAck_J182 C σ o0 ((σ 10 0 4) - (σ 11 o0 9)) 0 ho0 hw H locs ls hH hS (lv_sub hl [1, 2, 0] rfl)
      have hw := hw.2 h
      refine lv_aload_n hx hb dX11_takeAck_147 rfl (lv_at hl 2 rfl) ?_
      refine lv_iconst (v := 1) hx hb dX11_takeAck_148 (by decide) ?_
      refine kc_ip (rn_vp (As := [.int 1]) (rest := []) C hH hS (by decide) rfl (by decide) (m10_has l G a1 τ σ H 1 _ hw) (cwV 1 hts (lw_V q1156 q1149 q1150 q167 q1151) rfl rfl rfl kX10_has ⟨Nat.le_of_ble_eq_true rfl, Nat.le_of_ble_eq_true rfl⟩) rfl hl.1 rfl (Nat.le_of_ble_eq_true rfl) dX11_takeAck_149 ⟨Nat.le_of_ble_eq_true rfl, Nat.le_of_ble_eq_true rfl⟩) hS (fun r11 locs hw hS => ?_)
      refine lv_if_ne (tgt := 181) hx hb dX11_takeAck_152 (by decide) (fun h => ?_) (fun h => ?_)
      · have hw := hw.1 h
        refine lv_iconst (v := 0) hx hb dX11_takeAck_181 (by decide) ?_
        exact k11_takeAck_J182 C σ o0 ((σ 10 0 4) - (σ 11 o0 9)) 0 ho0 hw H locs ls hH hS (lv_sub hl [1, 2, 0] rfl)
      have hw := hw.2 h
      refine lv_aload_n hx hb dX11_takeAck_155 rfl (lv_at hl 2 rfl) ?_
      refine g10_6 C hH q533 dX11_takeAck_156 ?_
      refine lv_aload_n hx hb dX11_takeAck_159 rfl (lv_at hl 1 rfl) ?_
      refine g11_12 C hH ho0 q626 dX11_takeAck_160 ?_
      refine lv_icmp_ne (tgt := 181) hx hb dX11_takeAck_163 (by decide) (fun h => ?_) (fun h => ?_)
      · have hw := hw.1 h
        refine lv_iconst (v := 0) hx hb dX11_takeAck_181 (by decide) ?_
        exact k11_takeAck_J182 C σ o0 ((σ 10 0 4) - (σ 11 o0 9)) 0 ho0 hw H locs ls hH hS (lv_sub hl [1, 2, 0] rfl)
      have hw := hw.2 h
      refine lv_aload_n hx hb dX11_takeAck_166 rfl (lv_at hl 1 rfl) ?_
      refine g11_11 C hH ho0 q624 dX11_takeAck_167 ?_
      refine lv_aload_n hx hb dX11_takeAck_170 rfl (lv_at hl 1 rfl) ?_
      refine g11_9 C hH ho0 q620 dX11_takeAck_171 ?_
      refine lv_icmp_eq (tgt := 181) hx hb dX11_takeAck_174 (by decide) (fun h => ?_) (fun h => ?_)
      · have hw := hw.1 h
        refine lv_iconst (v := 0) hx hb dX11_takeAck_181 (by decide) ?_
        exact k11_takeAck_J182 C σ o0 ((σ 10 0 4) - (σ 11 o0 9)) 0 ho0 hw H locs ls hH hS (lv_sub hl [1, 2, 0] rfl)
      have hw := hw.2 h
      refine lv_iconst (v := 1) hx hb dX11_takeAck_177 (by decide) ?_
      refine lv_goto (tgt := 182) hx hb dX11_takeAck_178 (by decide) ?_
      exact k11_takeAck_J182 C σ o0 ((σ 10 0 4) - (σ 11 o0 9)) 1 ho0 hw H locs ls hH hS (lv_sub hl [1, 2, 0] rfl)
    have hw := hw.2 h
    refine lv_aload_n hx hb dX11_takeAck_120 rfl (lv_at hl 0 rfl) ?_
    refine kc_v (rn_v (As := []) (rest := []) C hH hS (by decide) rfl ho0 (m11_acknowledge l G a1 τ σ o0 ho0 _ hw) (cwV 0 hts (lw_V q1161 q1163 qs35 q168 q1164) rfl rfl rfl kX11_acknowledge ⟨Nat.le_of_ble_eq_true rfl, Nat.le_of_ble_eq_true rfl⟩) rfl hl.1 rfl (Nat.le_of_ble_eq_true rfl) dX11_takeAck_121 ⟨Nat.le_of_ble_eq_true rfl, Nat.le_of_ble_eq_true rfl⟩) hS (fun σ12 H locs hw hH hS => ?_)
    refine lv_iconst (v := 0) hx hb dX11_takeAck_124 (by decide) ?_
    exact rt_i C rfl hH hS hw dX11_takeAck_125
  have hw := hw.2 h
  refine lv_aload_n hx hb dX11_takeAck_8 rfl (lv_at hl 1 rfl) ?_
  refine g10_4 C hH q530 dX11_takeAck_9 ?_
  refine lv_aload_n hx hb dX11_takeAck_12 rfl (lv_at hl 0 rfl) ?_
  refine g11_5 C hH ho0 q616 dX11_takeAck_13 ?_
  refine lv_iconst (v := 1) hx hb dX11_takeAck_16 (by decide) ?_
  refine lv_iadd hx hb dX11_takeAck_17 ?_
  refine lv_icmp_eq (tgt := 31) hx hb dX11_takeAck_18 (by decide) (fun h => ?_) (fun h => ?_)
  · have hw := hw.1 h
    refine lv_aload_n hx hb dX11_takeAck_31 rfl (lv_at hl 0 rfl) ?_
    refine lv_iconst (v := 2) hx hb dX11_takeAck_32 (by decide) ?_
    refine p11_2 C hH hS ho0 q610 dX11_takeAck_33 (fun σ13 e13 H locs hH hS => ?_)
    have hw := hw σ13 e13
    refine lv_aload_n hx hb dX11_takeAck_36 rfl (lv_at hl 0 rfl) ?_
    refine lv_aload_n hx hb dX11_takeAck_37 rfl (lv_at hl 0 rfl) ?_
    refine g11_5 C hH ho0 q616 dX11_takeAck_38 ?_
    refine lv_iconst (v := 1) hx hb dX11_takeAck_41 (by decide) ?_
    refine lv_iadd hx hb dX11_takeAck_42 ?_
    refine p11_9 C hH hS ho0 q620 dX11_takeAck_43 (fun σ14 e14 H locs hH hS => ?_)
    have hw := hw σ14 e14
    refine lv_aload_n hx hb dX11_takeAck_46 rfl (lv_at hl 0 rfl) ?_
    refine lv_aload_n hx hb dX11_takeAck_47 rfl (lv_at hl 1 rfl) ?_
    refine g10_4 C hH q530 dX11_takeAck_48 ?_
    refine kc_v (rn_v (As := [.int (σ14 10 0 4)]) (rest := []) C hH hS (by decide) rfl ho0 (m11_measure l G a1 τ σ14 o0 (σ14 10 0 4) ho0 _ hw) (cwV 1 hts (lw_V q1176 q1178 qs37 q168 q1179) rfl rfl rfl kX11_measure ⟨Nat.le_of_ble_eq_true rfl, Nat.le_of_ble_eq_true rfl⟩) rfl hl.1 rfl (Nat.le_of_ble_eq_true rfl) dX11_takeAck_51 ⟨Nat.le_of_ble_eq_true rfl, Nat.le_of_ble_eq_true rfl⟩) hS (fun σ15 H locs hw hH hS => ?_)
    refine lv_aload_n hx hb dX11_takeAck_54 rfl (lv_at hl 0 rfl) ?_
    refine lv_iconst (v := 0) hx hb dX11_takeAck_55 (by decide) ?_
    refine p11_17 C hH hS ho0 q636 dX11_takeAck_56 (fun σ16 e16 H locs hH hS => ?_)
    have hw := hw σ16 e16
    refine lv_aload_n hx hb dX11_takeAck_59 rfl (lv_at hl 0 rfl) ?_
    refine lv_iconst (v := 0) hx hb dX11_takeAck_60 (by decide) ?_
    refine p11_29 C hH hS ho0 (Or.inl rfl) q651 dX11_takeAck_61 (fun σ17 e17 H locs hH hS => ?_)
    have hw := hw σ17 e17
    refine lv_aload_n hx hb dX11_takeAck_64 rfl (lv_at hl 0 rfl) ?_
    refine lv_aload_n hx hb dX11_takeAck_65 rfl (lv_at hl 0 rfl) ?_
    refine g11_0 C hH ho0 q608 dX11_takeAck_66 ?_
    refine kc_ip (rn_vp (As := []) (rest := [.ref (ga G 11 o0)]) C hH hS (by decide) rfl (by decide) (m8_now l G a1 τ σ17 H _ hw) (cwV 0 hts (lw_V q1025 q1026 q1027 q165 q1028) rfl rfl rfl kX8_now ⟨Nat.le_of_ble_eq_true rfl, Nat.le_of_ble_eq_true rfl⟩) rfl hl.1 rfl (Nat.le_of_ble_eq_true rfl) dX11_takeAck_69 ⟨Nat.le_of_ble_eq_true rfl, Nat.le_of_ble_eq_true rfl⟩) hS (fun r18 locs hw hS => ?_)
    refine p11_32 C hH hS ho0 q654 dX11_takeAck_72 (fun σ19 e19 H locs hH hS => ?_)
    have hw := hw σ19 e19
    refine lv_aload_n hx hb dX11_takeAck_75 rfl (lv_at hl 0 rfl) ?_
    refine g11_0 C hH ho0 q608 dX11_takeAck_76 ?_
    refine lv_dup hx hb dX11_takeAck_79 rfl ?_
    refine g8_7 C hH q418 dX11_takeAck_80 ?_
    refine lv_iconst (v := 1) hx hb dX11_takeAck_83 (by decide) ?_
    refine lv_iadd hx hb dX11_takeAck_84 ?_
    refine p8_7 C hH hS q418 dX11_takeAck_85 (fun σ20 e20 H locs hH hS => ?_)
    have hw := hw σ20 e20
    refine lv_aload_n hx hb dX11_takeAck_88 rfl (lv_at hl 0 rfl) ?_
    refine g11_0 C hH ho0 q608 dX11_takeAck_89 ?_
    refine lv_dup hx hb dX11_takeAck_92 rfl ?_
    refine g8_8 C hH q421 dX11_takeAck_93 ?_
    refine lv_iconst (v := 1) hx hb dX11_takeAck_96 (by decide) ?_
    refine lv_iadd hx hb dX11_takeAck_97 ?_
    refine p8_8 C hH hS q421 dX11_takeAck_98 (fun σ21 e21 H locs hH hS => ?_)
    have hw := hw σ21 e21
    refine lv_aload_n hx hb dX11_takeAck_101 rfl (lv_at hl 0 rfl) ?_
    refine lv_aload_n hx hb dX11_takeAck_102 rfl (lv_at hl 1 rfl) ?_
    refine kc_v (rn_v (As := [.ref (ga G 10 0)]) (rest := []) C hH hS (by decide) rfl ho0 (m11_takeWindow l G a1 τ σ21 o0 ho0 _ hw) (cwV 1 hts (lw_V q1183 q1185 qs38 q168 q1186) rfl rfl rfl kX11_takeWindow ⟨Nat.le_of_ble_eq_true rfl, Nat.le_of_ble_eq_true rfl⟩) rfl hl.1 rfl (Nat.le_of_ble_eq_true rfl) dX11_takeAck_103 ⟨Nat.le_of_ble_eq_true rfl, Nat.le_of_ble_eq_true rfl⟩) hS (fun σ22 H locs hw hH hS => ?_)
    refine lv_iconst (v := 1) hx hb dX11_takeAck_106 (by decide) ?_
    exact rt_i C rfl hH hS hw dX11_takeAck_107
  have hw := hw.2 h
  refine lv_aload_n hx hb dX11_takeAck_21 rfl (lv_at hl 0 rfl) ?_
  refine g11_0 C hH ho0 q608 dX11_takeAck_22 ?_
  refine lv_aload_n hx hb dX11_takeAck_25 rfl (lv_at hl 1 rfl) ?_
  refine kc_v (rn_v (As := [.ref (ga G 10 0)]) (rest := []) C hH hS (by decide) rfl (by decide) (m8_reset l G a1 τ σ _ hw) (cwV 1 hts (lw_V q1165 q1166 q1167 q165 q1168) rfl rfl rfl kX8_reset ⟨Nat.le_of_ble_eq_true rfl, Nat.le_of_ble_eq_true rfl⟩) rfl hl.1 rfl (Nat.le_of_ble_eq_true rfl) dX11_takeAck_26 ⟨Nat.le_of_ble_eq_true rfl, Nat.le_of_ble_eq_true rfl⟩) hS (fun σ23 H locs hw hH hS => ?_)
  refine lv_iconst (v := 0) hx hb dX11_takeAck_29 (by decide) ?_
  exact rt_i C rfl hH hS hw dX11_takeAck_30
/-! WebHost$Connection.timerOut()V -/
abbrev cX11_timerOut : ByteArray := prog_3_method_34_code
def yX11_timerOut : MethodName := ⟨RX11, "timerOut", "()V"⟩
theorem dX11_timerOut_0 : decode cX11_timerOut 0 = .ok (.aload_n 0, 1) := by decide +kernel
theorem dX11_timerOut_1 : decode cX11_timerOut 1 = .ok (.dup, 1) := by decide +kernel
theorem dX11_timerOut_2 : decode cX11_timerOut 2 = .ok (.getfield 183, 3) := by decide +kernel
theorem dX11_timerOut_5 : decode cX11_timerOut 5 = .ok (.iconst 1, 1) := by decide +kernel
theorem dX11_timerOut_6 : decode cX11_timerOut 6 = .ok (.iadd, 1) := by decide +kernel
theorem dX11_timerOut_7 : decode cX11_timerOut 7 = .ok (.putfield 183, 3) := by decide +kernel
theorem dX11_timerOut_10 : decode cX11_timerOut 10 = .ok (.aload_n 0, 1) := by decide +kernel
theorem dX11_timerOut_11 : decode cX11_timerOut 11 = .ok (.iconst 0, 1) := by decide +kernel
theorem dX11_timerOut_12 : decode cX11_timerOut 12 = .ok (.putfield 135, 3) := by decide +kernel
theorem dX11_timerOut_15 : decode cX11_timerOut 15 = .ok (.aload_n 0, 1) := by decide +kernel
theorem dX11_timerOut_16 : decode cX11_timerOut 16 = .ok (.getfield 183, 3) := by decide +kernel
theorem dX11_timerOut_19 : decode cX11_timerOut 19 = .ok (.aload_n 0, 1) := by decide +kernel
theorem dX11_timerOut_20 : decode cX11_timerOut 20 = .ok (.getfield 73, 3) := by decide +kernel
theorem dX11_timerOut_23 : decode cX11_timerOut 23 = .ok (.iconst 1, 1) := by decide +kernel
theorem dX11_timerOut_24 : decode cX11_timerOut 24 = .ok (.if_icmp .ne 7, 3) := by decide +kernel
theorem dX11_timerOut_27 : decode cX11_timerOut 27 = .ok (.iconst 5, 1) := by decide +kernel
theorem dX11_timerOut_28 : decode cX11_timerOut 28 = .ok (.goto 5, 3) := by decide +kernel
theorem dX11_timerOut_31 : decode cX11_timerOut 31 = .ok (.bipush 8, 2) := by decide +kernel
theorem dX11_timerOut_33 : decode cX11_timerOut 33 = .ok (.if_icmp .le 34, 3) := by decide +kernel
theorem dX11_timerOut_36 : decode cX11_timerOut 36 = .ok (.aload_n 0, 1) := by decide +kernel
theorem dX11_timerOut_37 : decode cX11_timerOut 37 = .ok (.aload_n 0, 1) := by decide +kernel
theorem dX11_timerOut_38 : decode cX11_timerOut 38 = .ok (.getfield 60, 3) := by decide +kernel
theorem dX11_timerOut_41 : decode cX11_timerOut 41 = .ok (.bipush 20, 2) := by decide +kernel
theorem dX11_timerOut_43 : decode cX11_timerOut 43 = .ok (.aconst_null, 1) := by decide +kernel
theorem dX11_timerOut_44 : decode cX11_timerOut 44 = .ok (.iconst 0, 1) := by decide +kernel
theorem dX11_timerOut_45 : decode cX11_timerOut 45 = .ok (.iconst 0, 1) := by decide +kernel
theorem dX11_timerOut_46 : decode cX11_timerOut 46 = .ok (.invokevirtual 63, 3) := by decide +kernel
theorem dX11_timerOut_49 : decode cX11_timerOut 49 = .ok (.aload_n 0, 1) := by decide +kernel
theorem dX11_timerOut_50 : decode cX11_timerOut 50 = .ok (.getfield 25, 3) := by decide +kernel
theorem dX11_timerOut_53 : decode cX11_timerOut 53 = .ok (.dup, 1) := by decide +kernel
theorem dX11_timerOut_54 : decode cX11_timerOut 54 = .ok (.getfield 326, 3) := by decide +kernel
theorem dX11_timerOut_57 : decode cX11_timerOut 57 = .ok (.iconst 1, 1) := by decide +kernel
theorem dX11_timerOut_58 : decode cX11_timerOut 58 = .ok (.iadd, 1) := by decide +kernel
theorem dX11_timerOut_59 : decode cX11_timerOut 59 = .ok (.putfield 326, 3) := by decide +kernel
theorem dX11_timerOut_62 : decode cX11_timerOut 62 = .ok (.aload_n 0, 1) := by decide +kernel
theorem dX11_timerOut_63 : decode cX11_timerOut 63 = .ok (.invokevirtual 225, 3) := by decide +kernel
theorem dX11_timerOut_66 : decode cX11_timerOut 66 = .ok (.return_, 1) := by decide +kernel
theorem dX11_timerOut_67 : decode cX11_timerOut 67 = .ok (.aload_n 0, 1) := by decide +kernel
theorem dX11_timerOut_68 : decode cX11_timerOut 68 = .ok (.iconst 2, 1) := by decide +kernel
theorem dX11_timerOut_69 : decode cX11_timerOut 69 = .ok (.aload_n 0, 1) := by decide +kernel
theorem dX11_timerOut_70 : decode cX11_timerOut 70 = .ok (.getfield 138, 3) := by decide +kernel
theorem dX11_timerOut_73 : decode cX11_timerOut 73 = .ok (.imul, 1) := by decide +kernel
theorem dX11_timerOut_74 : decode cX11_timerOut 74 = .ok (.ldc 218, 2) := by decide +kernel
theorem dX11_timerOut_76 : decode cX11_timerOut 76 = .ok (.invokestatic 91, 3) := by decide +kernel
theorem dX11_timerOut_79 : decode cX11_timerOut 79 = .ok (.putfield 138, 3) := by decide +kernel
theorem dX11_timerOut_82 : decode cX11_timerOut 82 = .ok (.aload_n 0, 1) := by decide +kernel
theorem dX11_timerOut_83 : decode cX11_timerOut 83 = .ok (.getfield 73, 3) := by decide +kernel
theorem dX11_timerOut_86 : decode cX11_timerOut 86 = .ok (.iconst 1, 1) := by decide +kernel
theorem dX11_timerOut_87 : decode cX11_timerOut 87 = .ok (.if_icmp .ne 47, 3) := by decide +kernel
theorem dX11_timerOut_90 : decode cX11_timerOut 90 = .ok (.aload_n 0, 1) := by decide +kernel
theorem dX11_timerOut_91 : decode cX11_timerOut 91 = .ok (.iconst 0, 1) := by decide +kernel
theorem dX11_timerOut_92 : decode cX11_timerOut 92 = .ok (.putfield 106, 3) := by decide +kernel
theorem dX11_timerOut_95 : decode cX11_timerOut 95 = .ok (.aload_n 0, 1) := by decide +kernel
theorem dX11_timerOut_96 : decode cX11_timerOut 96 = .ok (.aload_n 0, 1) := by decide +kernel
theorem dX11_timerOut_97 : decode cX11_timerOut 97 = .ok (.getfield 144, 3) := by decide +kernel
theorem dX11_timerOut_100 : decode cX11_timerOut 100 = .ok (.putfield 147, 3) := by decide +kernel
theorem dX11_timerOut_103 : decode cX11_timerOut 103 = .ok (.aload_n 0, 1) := by decide +kernel
theorem dX11_timerOut_104 : decode cX11_timerOut 104 = .ok (.getfield 25, 3) := by decide +kernel
theorem dX11_timerOut_107 : decode cX11_timerOut 107 = .ok (.dup, 1) := by decide +kernel
theorem dX11_timerOut_108 : decode cX11_timerOut 108 = .ok (.getfield 103, 3) := by decide +kernel
theorem dX11_timerOut_111 : decode cX11_timerOut 111 = .ok (.iconst 1, 1) := by decide +kernel
theorem dX11_timerOut_112 : decode cX11_timerOut 112 = .ok (.iadd, 1) := by decide +kernel
theorem dX11_timerOut_113 : decode cX11_timerOut 113 = .ok (.putfield 103, 3) := by decide +kernel
theorem dX11_timerOut_116 : decode cX11_timerOut 116 = .ok (.aload_n 0, 1) := by decide +kernel
theorem dX11_timerOut_117 : decode cX11_timerOut 117 = .ok (.invokevirtual 119, 3) := by decide +kernel
theorem dX11_timerOut_120 : decode cX11_timerOut 120 = .ok (.aload_n 0, 1) := by decide +kernel
theorem dX11_timerOut_121 : decode cX11_timerOut 121 = .ok (.aload_n 0, 1) := by decide +kernel
theorem dX11_timerOut_122 : decode cX11_timerOut 122 = .ok (.getfield 165, 3) := by decide +kernel
theorem dX11_timerOut_125 : decode cX11_timerOut 125 = .ok (.bipush 18, 2) := by decide +kernel
theorem dX11_timerOut_127 : decode cX11_timerOut 127 = .ok (.aconst_null, 1) := by decide +kernel
theorem dX11_timerOut_128 : decode cX11_timerOut 128 = .ok (.iconst 0, 1) := by decide +kernel
theorem dX11_timerOut_129 : decode cX11_timerOut 129 = .ok (.iconst 0, 1) := by decide +kernel
theorem dX11_timerOut_130 : decode cX11_timerOut 130 = .ok (.invokevirtual 63, 3) := by decide +kernel
theorem dX11_timerOut_133 : decode cX11_timerOut 133 = .ok (.return_, 1) := by decide +kernel
theorem dX11_timerOut_134 : decode cX11_timerOut 134 = .ok (.aload_n 0, 1) := by decide +kernel
theorem dX11_timerOut_135 : decode cX11_timerOut 135 = .ok (.aload_n 0, 1) := by decide +kernel
theorem dX11_timerOut_136 : decode cX11_timerOut 136 = .ok (.invokevirtual 307, 3) := by decide +kernel
theorem dX11_timerOut_139 : decode cX11_timerOut 139 = .ok (.putfield 180, 3) := by decide +kernel
theorem dX11_timerOut_142 : decode cX11_timerOut 142 = .ok (.aload_n 0, 1) := by decide +kernel
theorem dX11_timerOut_143 : decode cX11_timerOut 143 = .ok (.aload_n 0, 1) := by decide +kernel
theorem dX11_timerOut_144 : decode cX11_timerOut 144 = .ok (.getfield 144, 3) := by decide +kernel
theorem dX11_timerOut_147 : decode cX11_timerOut 147 = .ok (.putfield 147, 3) := by decide +kernel
theorem dX11_timerOut_150 : decode cX11_timerOut 150 = .ok (.aload_n 0, 1) := by decide +kernel
theorem dX11_timerOut_151 : decode cX11_timerOut 151 = .ok (.iconst 0, 1) := by decide +kernel
theorem dX11_timerOut_152 : decode cX11_timerOut 152 = .ok (.putfield 189, 3) := by decide +kernel
theorem dX11_timerOut_155 : decode cX11_timerOut 155 = .ok (.aload_n 0, 1) := by decide +kernel
theorem dX11_timerOut_156 : decode cX11_timerOut 156 = .ok (.iconst 0, 1) := by decide +kernel
theorem dX11_timerOut_157 : decode cX11_timerOut 157 = .ok (.putfield 186, 3) := by decide +kernel
theorem dX11_timerOut_160 : decode cX11_timerOut 160 = .ok (.aload_n 0, 1) := by decide +kernel
theorem dX11_timerOut_161 : decode cX11_timerOut 161 = .ok (.aload_n 0, 1) := by decide +kernel
theorem dX11_timerOut_162 : decode cX11_timerOut 162 = .ok (.getfield 82, 3) := by decide +kernel
theorem dX11_timerOut_165 : decode cX11_timerOut 165 = .ok (.putfield 60, 3) := by decide +kernel
theorem dX11_timerOut_168 : decode cX11_timerOut 168 = .ok (.aload_n 0, 1) := by decide +kernel
theorem dX11_timerOut_169 : decode cX11_timerOut 169 = .ok (.invokevirtual 85, 3) := by decide +kernel
theorem dX11_timerOut_172 : decode cX11_timerOut 172 = .ok (.istore_n 1, 1) := by decide +kernel
theorem dX11_timerOut_173 : decode cX11_timerOut 173 = .ok (.aload_n 0, 1) := by decide +kernel
theorem dX11_timerOut_174 : decode cX11_timerOut 174 = .ok (.getfield 144, 3) := by decide +kernel
theorem dX11_timerOut_177 : decode cX11_timerOut 177 = .ok (.aload_n 0, 1) := by decide +kernel
theorem dX11_timerOut_178 : decode cX11_timerOut 178 = .ok (.invokevirtual 76, 3) := by decide +kernel
theorem dX11_timerOut_181 : decode cX11_timerOut 181 = .ok (.aload_n 0, 1) := by decide +kernel
theorem dX11_timerOut_182 : decode cX11_timerOut 182 = .ok (.getfield 60, 3) := by decide +kernel
theorem dX11_timerOut_185 : decode cX11_timerOut 185 = .ok (.isub, 1) := by decide +kernel
theorem dX11_timerOut_186 : decode cX11_timerOut 186 = .ok (.invokestatic 91, 3) := by decide +kernel
theorem dX11_timerOut_189 : decode cX11_timerOut 189 = .ok (.istore_n 2, 1) := by decide +kernel
theorem dX11_timerOut_190 : decode cX11_timerOut 190 = .ok (.iload_n 2, 1) := by decide +kernel
theorem dX11_timerOut_191 : decode cX11_timerOut 191 = .ok (.aload_n 0, 1) := by decide +kernel
theorem dX11_timerOut_192 : decode cX11_timerOut 192 = .ok (.invokevirtual 76, 3) := by decide +kernel
theorem dX11_timerOut_195 : decode cX11_timerOut 195 = .ok (.aload_n 0, 1) := by decide +kernel
theorem dX11_timerOut_196 : decode cX11_timerOut 196 = .ok (.getfield 60, 3) := by decide +kernel
theorem dX11_timerOut_199 : decode cX11_timerOut 199 = .ok (.isub, 1) := by decide +kernel
theorem dX11_timerOut_200 : decode cX11_timerOut 200 = .ok (.if_icmp .ne 13, 3) := by decide +kernel
theorem dX11_timerOut_203 : decode cX11_timerOut 203 = .ok (.iload_n 1, 1) := by decide +kernel
theorem dX11_timerOut_204 : decode cX11_timerOut 204 = .ok (.iload_n 2, 1) := by decide +kernel
theorem dX11_timerOut_205 : decode cX11_timerOut 205 = .ok (.iconst 1, 1) := by decide +kernel
theorem dX11_timerOut_206 : decode cX11_timerOut 206 = .ok (.iadd, 1) := by decide +kernel
theorem dX11_timerOut_207 : decode cX11_timerOut 207 = .ok (.invokestatic 91, 3) := by decide +kernel
theorem dX11_timerOut_210 : decode cX11_timerOut 210 = .ok (.goto 4, 3) := by decide +kernel
theorem dX11_timerOut_213 : decode cX11_timerOut 213 = .ok (.iload_n 2, 1) := by decide +kernel
theorem dX11_timerOut_214 : decode cX11_timerOut 214 = .ok (.istore_n 3, 1) := by decide +kernel
theorem dX11_timerOut_215 : decode cX11_timerOut 215 = .ok (.aload_n 0, 1) := by decide +kernel
theorem dX11_timerOut_216 : decode cX11_timerOut 216 = .ok (.getfield 150, 3) := by decide +kernel
theorem dX11_timerOut_219 : decode cX11_timerOut 219 = .ok (.ifCond .ne 7, 3) := by decide +kernel
theorem dX11_timerOut_222 : decode cX11_timerOut 222 = .ok (.iconst 1, 1) := by decide +kernel
theorem dX11_timerOut_223 : decode cX11_timerOut 223 = .ok (.goto 18, 3) := by decide +kernel
theorem dX11_timerOut_226 : decode cX11_timerOut 226 = .ok (.iload_n 3, 1) := by decide +kernel
theorem dX11_timerOut_227 : decode cX11_timerOut 227 = .ok (.aload_n 0, 1) := by decide +kernel
theorem dX11_timerOut_228 : decode cX11_timerOut 228 = .ok (.getfield 147, 3) := by decide +kernel
theorem dX11_timerOut_231 : decode cX11_timerOut 231 = .ok (.aload_n 0, 1) := by decide +kernel
theorem dX11_timerOut_232 : decode cX11_timerOut 232 = .ok (.getfield 150, 3) := by decide +kernel
theorem dX11_timerOut_235 : decode cX11_timerOut 235 = .ok (.invokestatic 91, 3) := by decide +kernel
theorem dX11_timerOut_238 : decode cX11_timerOut 238 = .ok (.invokestatic 91, 3) := by decide +kernel
theorem dX11_timerOut_241 : decode cX11_timerOut 241 = .ok (.istore 4, 2) := by decide +kernel
theorem dX11_timerOut_243 : decode cX11_timerOut 243 = .ok (.aload_n 0, 1) := by decide +kernel
theorem dX11_timerOut_244 : decode cX11_timerOut 244 = .ok (.iload 4, 2) := by decide +kernel
theorem dX11_timerOut_246 : decode cX11_timerOut 246 = .ok (.invokevirtual 155, 3) := by decide +kernel
theorem dX11_timerOut_249 : decode cX11_timerOut 249 = .ok (.return_, 1) := by decide +kernel
def rmX11_timerOut : Room := { frames := 8, cells := 0, slots := 0, locals := 211 }
theorem kX11_timerOut : yX11_timerOut.cls = "WebHost$Connection" ∧ yX11_timerOut.cls ≠ "java/lang/invoke/MethodHandle" ∧ yX11_timerOut.cls ≠ "java/lang/invoke/VarHandle" ∧ (parseMethodDescriptor yX11_timerOut.desc).map (fun d => d.parameters.length) = some 0 := by decide +kernel
def w11_timerOut_J214 (σ : St) (o0 : Nat) (xs0 : Int32) (Q : St → Prop) : Prop := (¬ (σ 11 o0 12) = 0 → (w11_sendPart σ o0 (imin xs0 (imin (σ 11 o0 14) (σ 11 o0 12))) (fun σ13 => (Q σ13)))) ∧ ((σ 11 o0 12) = 0 → (w11_sendPart σ o0 1 (fun σ14 => (Q σ14))))
set_option maxHeartbeats 4000000 in
theorem k11_timerOut_J214 {p : Program} {l : Launch} {e : Env} {s : State} {m : MethodId} {args : Array Value} {below : List Frame} {meth : Method} {c : Code} {G : Gh} {a1 : Nat → Nat → Nat} {τ : St} {Q : St → Prop} (C : Cx p e s m args meth c cX11_timerOut 5 none "WebHost$Connection" G) (σ : St) (o0 : Nat) (xs0 : Int32) (ho0 : o0 < 16) (hw : w11_timerOut_J214 σ o0 xs0 Q) (H : Heap) (locs : List Loc) (ls : Array Slot) (hH : Hd G a1 (cmb σ τ) H) (hS : va_S (gA G) s.heap H locs) (hl : lv_has ls 5 [(0, .ref (ga G 11 o0))]) : W p l e rmX11_timerOut s m args below meth c H locs 0 0 (MQ below (QVs G a1 (fun u => cmb u τ) Q) args s 0 0 (gA G)) (F0 m 214 ls [.int xs0]) := by
  have hx := C.1
  have hb := C.2.1
  have hown := C.2.2.2.2.2.1
  have hts := C.2.2.2.2.2.2.1
  refine lv_istore_n (lv' := [(3, .int xs0), (0, .ref (ga G 11 o0))]) hx hb dX11_timerOut_214 rfl hl (by decide) rfl (fun ls hl => ?_)
  refine lv_aload_n hx hb dX11_timerOut_215 rfl (lv_at hl 1 rfl) ?_
  refine g11_12 C hH ho0 q626 dX11_timerOut_216 ?_
  refine lv_if_ne (tgt := 226) hx hb dX11_timerOut_219 (by decide) (fun h => ?_) (fun h => ?_)
  · have hw := hw.1 h
    refine lv_iload_n hx hb dX11_timerOut_226 rfl (lv_at hl 0 rfl) ?_
    refine lv_aload_n hx hb dX11_timerOut_227 rfl (lv_at hl 1 rfl) ?_
    refine g11_14 C hH ho0 q630 dX11_timerOut_228 ?_
    refine lv_aload_n hx hb dX11_timerOut_231 rfl (lv_at hl 1 rfl) ?_
    refine g11_12 C hH ho0 q626 dX11_timerOut_232 ?_
    refine r_imin C hl.1 q1020 (Nat.le_of_ble_eq_true rfl) (Nat.le_of_ble_eq_true rfl) (Nat.zero_le _) (Nat.zero_le _) dX11_timerOut_235 ?_
    refine r_imin C hl.1 q1020 (Nat.le_of_ble_eq_true rfl) (Nat.le_of_ble_eq_true rfl) (Nat.zero_le _) (Nat.zero_le _) dX11_timerOut_238 ?_
    refine lv_istore (lv' := [(4, .int (imin xs0 (imin (σ 11 o0 14) (σ 11 o0 12)))), (3, .int xs0), (0, .ref (ga G 11 o0))]) hx hb dX11_timerOut_241 hl (by decide) rfl (fun ls hl => ?_)
    refine lv_aload_n hx hb dX11_timerOut_243 rfl (lv_at hl 2 rfl) ?_
    refine lv_iload hx hb dX11_timerOut_244 (lv_at hl 0 rfl) ?_
    refine kc_v (rn_v (As := [.int (imin xs0 (imin (σ 11 o0 14) (σ 11 o0 12)))]) (rest := []) C hH hS (by decide) rfl ho0 (m11_sendPart l G a1 τ σ o0 (imin xs0 (imin (σ 11 o0 14) (σ 11 o0 12))) ho0 _ hw) (cwV 1 hts (lw_V q1042 q1044 qs18 q168 q1045) rfl rfl rfl kX11_sendPart ⟨Nat.le_of_ble_eq_true rfl, Nat.le_of_ble_eq_true rfl⟩) rfl hl.1 rfl (Nat.le_of_ble_eq_true rfl) dX11_timerOut_246 ⟨Nat.le_of_ble_eq_true rfl, Nat.le_of_ble_eq_true rfl⟩) hS (fun σ13 H locs hw hH hS => ?_)
    exact rt_v C hH hS hw dX11_timerOut_249
  have hw := hw.2 h
  refine lv_iconst (v := 1) hx hb dX11_timerOut_222 (by decide) ?_
  refine lv_goto (tgt := 241) hx hb dX11_timerOut_223 (by decide) ?_
  refine lv_istore (lv' := [(4, .int 1), (3, .int xs0), (0, .ref (ga G 11 o0))]) hx hb dX11_timerOut_241 hl (by decide) rfl (fun ls hl => ?_)
  refine lv_aload_n hx hb dX11_timerOut_243 rfl (lv_at hl 2 rfl) ?_
  refine lv_iload hx hb dX11_timerOut_244 (lv_at hl 0 rfl) ?_
  refine kc_v (rn_v (As := [.int 1]) (rest := []) C hH hS (by decide) rfl ho0 (m11_sendPart l G a1 τ σ o0 1 ho0 _ hw) (cwV 1 hts (lw_V q1042 q1044 qs18 q168 q1045) rfl rfl rfl kX11_sendPart ⟨Nat.le_of_ble_eq_true rfl, Nat.le_of_ble_eq_true rfl⟩) rfl hl.1 rfl (Nat.le_of_ble_eq_true rfl) dX11_timerOut_246 ⟨Nat.le_of_ble_eq_true rfl, Nat.le_of_ble_eq_true rfl⟩) hS (fun σ14 H locs hw hH hS => ?_)
  exact rt_v C hH hS hw dX11_timerOut_249
def w11_timerOut_J33 (σ : St) (o0 : Nat) (xs0 : Int32) (xs1 : Int32) (Q : St → Prop) : Prop := (xs1 ≤ xs0 → (∀ σ3, σ3 = up3 σ 11 o0 16 (imin (2 * (σ 11 o0 16)) 60000) → ((¬ (σ3 11 o0 2) = 1 → (w11_half σ3 o0 (fun r4 => (∀ σ5, σ5 = up3 σ3 11 o0 15 r4 → (∀ σ6, σ6 = up3 σ5 11 o0 14 (σ5 11 o0 13) → (∀ σ7, σ7 = up3 σ6 11 o0 19 0 → (∀ σ8, σ8 = up3 σ7 11 o0 18 0 → (∀ σ9, σ9 = up3 σ8 11 o0 10 (σ8 11 o0 9) → (w11_left σ9 o0 (fun r10 => (w11_end σ9 o0 (fun r11 => (w11_end σ9 o0 (fun r12 => ((¬ (imin (σ9 11 o0 13) (r11 - (σ9 11 o0 10))) = (r12 - (σ9 11 o0 10)) → (w11_timerOut_J214 σ9 o0 (imin (σ9 11 o0 13) (r11 - (σ9 11 o0 10))) Q)) ∧ ((imin (σ9 11 o0 13) (r11 - (σ9 11 o0 10))) = (r12 - (σ9 11 o0 10)) → (w11_timerOut_J214 σ9 o0 (imin r10 ((imin (σ9 11 o0 13) (r11 - (σ9 11 o0 10))) + 1)) Q))))))))))))))))) ∧ ((σ3 11 o0 2) = 1 → (∀ σ15, σ15 = up3 σ3 11 o0 34 0 → (∀ σ16, σ16 = up3 σ15 11 o0 14 (σ15 11 o0 13) → (∀ σ17, σ17 = up3 σ16 8 0 4 ((σ16 8 0 4) + 1) → (w11_startTimer σ17 o0 (fun σ18 => (w11_segment σ18 o0 (σ18 11 o0 5) 18 0 0 0 0 (fun σ19 => (Q σ19)))))))))))) ∧ (¬ xs1 ≤ xs0 → (w11_segment σ o0 (σ 11 o0 10) 20 0 0 0 0 (fun σ20 => (∀ σ21, σ21 = up3 σ20 8 0 3 ((σ20 8 0 3) + 1) → (w11_gone σ21 o0 (fun σ22 => (Q σ22)))))))
set_option maxHeartbeats 4000000 in
theorem k11_timerOut_J33 {p : Program} {l : Launch} {e : Env} {s : State} {m : MethodId} {args : Array Value} {below : List Frame} {meth : Method} {c : Code} {G : Gh} {a1 : Nat → Nat → Nat} {τ : St} {Q : St → Prop} (C : Cx p e s m args meth c cX11_timerOut 5 none "WebHost$Connection" G) (σ : St) (o0 : Nat) (xs0 : Int32) (xs1 : Int32) (ho0 : o0 < 16) (hw : w11_timerOut_J33 σ o0 xs0 xs1 Q) (H : Heap) (locs : List Loc) (ls : Array Slot) (hH : Hd G a1 (cmb σ τ) H) (hS : va_S (gA G) s.heap H locs) (hl : lv_has ls 5 [(0, .ref (ga G 11 o0))]) : W p l e rmX11_timerOut s m args below meth c H locs 0 0 (MQ below (QVs G a1 (fun u => cmb u τ) Q) args s 0 0 (gA G)) (F0 m 33 ls [.int xs0, .int xs1]) := by
  have hx := C.1
  have hb := C.2.1
  have hown := C.2.2.2.2.2.1
  have hts := C.2.2.2.2.2.2.1
  refine lv_icmp_le (tgt := 67) hx hb dX11_timerOut_33 (by decide) (fun h => ?_) (fun h => ?_)
  · have hw := hw.1 h
    refine lv_aload_n hx hb dX11_timerOut_67 rfl (lv_at hl 0 rfl) ?_
    refine lv_iconst (v := 2) hx hb dX11_timerOut_68 (by decide) ?_
    refine lv_aload_n hx hb dX11_timerOut_69 rfl (lv_at hl 0 rfl) ?_
    refine g11_16 C hH ho0 q634 dX11_timerOut_70 ?_
    refine lv_imul hx hb dX11_timerOut_73 ?_
    refine lv_ldc (v := 60000) hx hb hown (hts _ q1019) dX11_timerOut_74 ?_
    refine r_imin C hl.1 q1020 (Nat.le_of_ble_eq_true rfl) (Nat.le_of_ble_eq_true rfl) (Nat.zero_le _) (Nat.zero_le _) dX11_timerOut_76 ?_
    refine p11_16 C hH hS ho0 q634 dX11_timerOut_79 (fun σ3 e3 H locs hH hS => ?_)
    have hw := hw σ3 e3
    refine lv_aload_n hx hb dX11_timerOut_82 rfl (lv_at hl 0 rfl) ?_
    refine g11_2 C hH ho0 q610 dX11_timerOut_83 ?_
    refine lv_iconst (v := 1) hx hb dX11_timerOut_86 (by decide) ?_
    refine lv_icmp_ne (tgt := 134) hx hb dX11_timerOut_87 (by decide) (fun h => ?_) (fun h => ?_)
    · have hw := hw.1 h
      refine lv_aload_n hx hb dX11_timerOut_134 rfl (lv_at hl 0 rfl) ?_
      refine lv_aload_n hx hb dX11_timerOut_135 rfl (lv_at hl 0 rfl) ?_
      refine kc_ip (rn_vp (As := []) (rest := [.ref (ga G 11 o0)]) C hH hS (by decide) rfl ho0 (m11_half l G a1 τ σ3 H o0 ho0 _ hw) (cwV 0 hts (lw_V q1029 q1031 qs16 q168 q1032) rfl rfl rfl kX11_half ⟨Nat.le_of_ble_eq_true rfl, Nat.le_of_ble_eq_true rfl⟩) rfl hl.1 rfl (Nat.le_of_ble_eq_true rfl) dX11_timerOut_136 ⟨Nat.le_of_ble_eq_true rfl, Nat.le_of_ble_eq_true rfl⟩) hS (fun r4 locs hw hS => ?_)
      refine p11_15 C hH hS ho0 q632 dX11_timerOut_139 (fun σ5 e5 H locs hH hS => ?_)
      have hw := hw σ5 e5
      refine lv_aload_n hx hb dX11_timerOut_142 rfl (lv_at hl 0 rfl) ?_
      refine lv_aload_n hx hb dX11_timerOut_143 rfl (lv_at hl 0 rfl) ?_
      refine g11_13 C hH ho0 q628 dX11_timerOut_144 ?_
      refine p11_14 C hH hS ho0 q630 dX11_timerOut_147 (fun σ6 e6 H locs hH hS => ?_)
      have hw := hw σ6 e6
      refine lv_aload_n hx hb dX11_timerOut_150 rfl (lv_at hl 0 rfl) ?_
      refine lv_iconst (v := 0) hx hb dX11_timerOut_151 (by decide) ?_
      refine p11_19 C hH hS ho0 (Or.inl rfl) q640 dX11_timerOut_152 (fun σ7 e7 H locs hH hS => ?_)
      have hw := hw σ7 e7
      refine lv_aload_n hx hb dX11_timerOut_155 rfl (lv_at hl 0 rfl) ?_
      refine lv_iconst (v := 0) hx hb dX11_timerOut_156 (by decide) ?_
      refine p11_18 C hH hS ho0 q638 dX11_timerOut_157 (fun σ8 e8 H locs hH hS => ?_)
      have hw := hw σ8 e8
      refine lv_aload_n hx hb dX11_timerOut_160 rfl (lv_at hl 0 rfl) ?_
      refine lv_aload_n hx hb dX11_timerOut_161 rfl (lv_at hl 0 rfl) ?_
      refine g11_9 C hH ho0 q620 dX11_timerOut_162 ?_
      refine p11_10 C hH hS ho0 q622 dX11_timerOut_165 (fun σ9 e9 H locs hH hS => ?_)
      have hw := hw σ9 e9
      refine lv_aload_n hx hb dX11_timerOut_168 rfl (lv_at hl 0 rfl) ?_
      refine kc_ip (rn_vp (As := []) (rest := []) C hH hS (by decide) rfl ho0 (m11_left l G a1 τ σ9 H o0 ho0 _ hw) (cwV 0 hts (lw_V q1034 q1035 q1036 q168 q1037) rfl rfl rfl kX11_left ⟨Nat.le_of_ble_eq_true rfl, Nat.le_of_ble_eq_true rfl⟩) rfl hl.1 rfl (Nat.le_of_ble_eq_true rfl) dX11_timerOut_169 ⟨Nat.le_of_ble_eq_true rfl, Nat.le_of_ble_eq_true rfl⟩) hS (fun r10 locs hw hS => ?_)
      refine lv_istore_n (lv' := [(1, .int r10), (0, .ref (ga G 11 o0))]) hx hb dX11_timerOut_172 rfl hl (by decide) rfl (fun ls hl => ?_)
      refine lv_aload_n hx hb dX11_timerOut_173 rfl (lv_at hl 1 rfl) ?_
      refine g11_13 C hH ho0 q628 dX11_timerOut_174 ?_
      refine lv_aload_n hx hb dX11_timerOut_177 rfl (lv_at hl 1 rfl) ?_
      refine kc_ip (rn_vp (As := []) (rest := [.int (σ9 11 o0 13)]) C hH hS (by decide) rfl ho0 (m11_end l G a1 τ σ9 H o0 ho0 _ hw) (cwV 0 hts (lw_V q1038 q1040 qs17 q168 q1041) rfl rfl rfl kX11_end ⟨Nat.le_of_ble_eq_true rfl, Nat.le_of_ble_eq_true rfl⟩) rfl hl.1 rfl (Nat.le_of_ble_eq_true rfl) dX11_timerOut_178 ⟨Nat.le_of_ble_eq_true rfl, Nat.le_of_ble_eq_true rfl⟩) hS (fun r11 locs hw hS => ?_)
      refine lv_aload_n hx hb dX11_timerOut_181 rfl (lv_at hl 1 rfl) ?_
      refine g11_10 C hH ho0 q622 dX11_timerOut_182 ?_
      refine lv_isub hx hb dX11_timerOut_185 ?_
      refine r_imin C hl.1 q1020 (Nat.le_of_ble_eq_true rfl) (Nat.le_of_ble_eq_true rfl) (Nat.zero_le _) (Nat.zero_le _) dX11_timerOut_186 ?_
      refine lv_istore_n (lv' := [(2, .int (imin (σ9 11 o0 13) (r11 - (σ9 11 o0 10)))), (1, .int r10), (0, .ref (ga G 11 o0))]) hx hb dX11_timerOut_189 rfl hl (by decide) rfl (fun ls hl => ?_)
      refine lv_iload_n hx hb dX11_timerOut_190 rfl (lv_at hl 0 rfl) ?_
      refine lv_aload_n hx hb dX11_timerOut_191 rfl (lv_at hl 2 rfl) ?_
      refine kc_ip (rn_vp (As := []) (rest := [.int (imin (σ9 11 o0 13) (r11 - (σ9 11 o0 10)))]) C hH hS (by decide) rfl ho0 (m11_end l G a1 τ σ9 H o0 ho0 _ hw) (cwV 0 hts (lw_V q1038 q1040 qs17 q168 q1041) rfl rfl rfl kX11_end ⟨Nat.le_of_ble_eq_true rfl, Nat.le_of_ble_eq_true rfl⟩) rfl hl.1 rfl (Nat.le_of_ble_eq_true rfl) dX11_timerOut_192 ⟨Nat.le_of_ble_eq_true rfl, Nat.le_of_ble_eq_true rfl⟩) hS (fun r12 locs hw hS => ?_)
      refine lv_aload_n hx hb dX11_timerOut_195 rfl (lv_at hl 2 rfl) ?_
      refine g11_10 C hH ho0 q622 dX11_timerOut_196 ?_
      refine lv_isub hx hb dX11_timerOut_199 ?_
      refine lv_icmp_ne (tgt := 213) hx hb dX11_timerOut_200 (by decide) (fun h => ?_) (fun h => ?_)
      · have hw := hw.1 h
        refine lv_iload_n hx hb dX11_timerOut_213 rfl (lv_at hl 0 rfl) ?_
        exact k11_timerOut_J214 C σ9 o0 (imin (σ9 11 o0 13) (r11 - (σ9 11 o0 10))) ho0 hw H locs ls hH hS (lv_sub hl [2] rfl)
      have hw := hw.2 h
      refine lv_iload_n hx hb dX11_timerOut_203 rfl (lv_at hl 1 rfl) ?_
      refine lv_iload_n hx hb dX11_timerOut_204 rfl (lv_at hl 0 rfl) ?_
      refine lv_iconst (v := 1) hx hb dX11_timerOut_205 (by decide) ?_
      refine lv_iadd hx hb dX11_timerOut_206 ?_
      refine r_imin C hl.1 q1020 (Nat.le_of_ble_eq_true rfl) (Nat.le_of_ble_eq_true rfl) (Nat.zero_le _) (Nat.zero_le _) dX11_timerOut_207 ?_
      refine lv_goto (tgt := 214) hx hb dX11_timerOut_210 (by decide) ?_
      exact k11_timerOut_J214 C σ9 o0 (imin r10 ((imin (σ9 11 o0 13) (r11 - (σ9 11 o0 10))) + 1)) ho0 hw H locs ls hH hS (lv_sub hl [2] rfl)
    have hw := hw.2 h
    refine lv_aload_n hx hb dX11_timerOut_90 rfl (lv_at hl 0 rfl) ?_
    refine lv_iconst (v := 0) hx hb dX11_timerOut_91 (by decide) ?_
    refine p11_34 C hH hS ho0 (Or.inl rfl) q656 dX11_timerOut_92 (fun σ15 e15 H locs hH hS => ?_)
    have hw := hw σ15 e15
    refine lv_aload_n hx hb dX11_timerOut_95 rfl (lv_at hl 0 rfl) ?_
    refine lv_aload_n hx hb dX11_timerOut_96 rfl (lv_at hl 0 rfl) ?_
    refine g11_13 C hH ho0 q628 dX11_timerOut_97 ?_
    refine p11_14 C hH hS ho0 q630 dX11_timerOut_100 (fun σ16 e16 H locs hH hS => ?_)
    have hw := hw σ16 e16
    refine lv_aload_n hx hb dX11_timerOut_103 rfl (lv_at hl 0 rfl) ?_
    refine g11_0 C hH ho0 q608 dX11_timerOut_104 ?_
    refine lv_dup hx hb dX11_timerOut_107 rfl ?_
    refine g8_4 C hH q410 dX11_timerOut_108 ?_
    refine lv_iconst (v := 1) hx hb dX11_timerOut_111 (by decide) ?_
    refine lv_iadd hx hb dX11_timerOut_112 ?_
    refine p8_4 C hH hS q410 dX11_timerOut_113 (fun σ17 e17 H locs hH hS => ?_)
    have hw := hw σ17 e17
    refine lv_aload_n hx hb dX11_timerOut_116 rfl (lv_at hl 0 rfl) ?_
    refine kc_v (rn_v (As := []) (rest := []) C hH hS (by decide) rfl ho0 (m11_startTimer l G a1 τ σ17 o0 ho0 _ hw) (cwV 0 hts (lw_V q1021 q1023 qs15 q168 q1024) rfl rfl rfl kX11_startTimer ⟨Nat.le_of_ble_eq_true rfl, Nat.le_of_ble_eq_true rfl⟩) rfl hl.1 rfl (Nat.le_of_ble_eq_true rfl) dX11_timerOut_117 ⟨Nat.le_of_ble_eq_true rfl, Nat.le_of_ble_eq_true rfl⟩) hS (fun σ18 H locs hw hH hS => ?_)
    refine lv_aload_n hx hb dX11_timerOut_120 rfl (lv_at hl 0 rfl) ?_
    refine lv_aload_n hx hb dX11_timerOut_121 rfl (lv_at hl 0 rfl) ?_
    refine g11_5 C hH ho0 q616 dX11_timerOut_122 ?_
    refine lv_bipush (v := 18) hx hb dX11_timerOut_125 (by decide) ?_
    refine lv_null hx hb dX11_timerOut_127 ?_
    refine lv_iconst (v := 0) hx hb dX11_timerOut_128 (by decide) ?_
    refine lv_iconst (v := 0) hx hb dX11_timerOut_129 (by decide) ?_
    refine kc_v (rn_v (As := [.int (σ18 11 o0 5), .int 18, nav G a1 0 0, .int 0, .int 0]) (rest := []) C hH hS (by decide) rfl ho0 (m11_segment l G a1 τ σ18 o0 (σ18 11 o0 5) 18 0 0 0 0 ho0 _ hw) (cwV 5 hts (lw_V q972 q974 qs13 q168 q975) rfl rfl rfl kX11_segment ⟨Nat.le_of_ble_eq_true rfl, Nat.le_of_ble_eq_true rfl⟩) rfl hl.1 rfl (Nat.le_of_ble_eq_true rfl) dX11_timerOut_130 ⟨Nat.le_of_ble_eq_true rfl, Nat.le_of_ble_eq_true rfl⟩) hS (fun σ19 H locs hw hH hS => ?_)
    exact rt_v C hH hS hw dX11_timerOut_133
  have hw := hw.2 h
  refine lv_aload_n hx hb dX11_timerOut_36 rfl (lv_at hl 0 rfl) ?_
  refine lv_aload_n hx hb dX11_timerOut_37 rfl (lv_at hl 0 rfl) ?_
  refine g11_10 C hH ho0 q622 dX11_timerOut_38 ?_
  refine lv_bipush (v := 20) hx hb dX11_timerOut_41 (by decide) ?_
  refine lv_null hx hb dX11_timerOut_43 ?_
  refine lv_iconst (v := 0) hx hb dX11_timerOut_44 (by decide) ?_
  refine lv_iconst (v := 0) hx hb dX11_timerOut_45 (by decide) ?_
  refine kc_v (rn_v (As := [.int (σ 11 o0 10), .int 20, nav G a1 0 0, .int 0, .int 0]) (rest := []) C hH hS (by decide) rfl ho0 (m11_segment l G a1 τ σ o0 (σ 11 o0 10) 20 0 0 0 0 ho0 _ hw) (cwV 5 hts (lw_V q972 q974 qs13 q168 q975) rfl rfl rfl kX11_segment ⟨Nat.le_of_ble_eq_true rfl, Nat.le_of_ble_eq_true rfl⟩) rfl hl.1 rfl (Nat.le_of_ble_eq_true rfl) dX11_timerOut_46 ⟨Nat.le_of_ble_eq_true rfl, Nat.le_of_ble_eq_true rfl⟩) hS (fun σ20 H locs hw hH hS => ?_)
  refine lv_aload_n hx hb dX11_timerOut_49 rfl (lv_at hl 0 rfl) ?_
  refine g11_0 C hH ho0 q608 dX11_timerOut_50 ?_
  refine lv_dup hx hb dX11_timerOut_53 rfl ?_
  refine g8_3 C hH q408 dX11_timerOut_54 ?_
  refine lv_iconst (v := 1) hx hb dX11_timerOut_57 (by decide) ?_
  refine lv_iadd hx hb dX11_timerOut_58 ?_
  refine p8_3 C hH hS q408 dX11_timerOut_59 (fun σ21 e21 H locs hH hS => ?_)
  have hw := hw σ21 e21
  refine lv_aload_n hx hb dX11_timerOut_62 rfl (lv_at hl 0 rfl) ?_
  refine kc_v (rn_v (As := []) (rest := []) C hH hS (by decide) rfl ho0 (m11_gone l G a1 τ σ21 o0 ho0 _ hw) (cwV 0 hts (lw_V q1018 q885 qs5 q168 q886) rfl rfl rfl kX11_gone ⟨Nat.le_of_ble_eq_true rfl, Nat.le_of_ble_eq_true rfl⟩) rfl hl.1 rfl (Nat.le_of_ble_eq_true rfl) dX11_timerOut_63 ⟨Nat.le_of_ble_eq_true rfl, Nat.le_of_ble_eq_true rfl⟩) hS (fun σ22 H locs hw hH hS => ?_)
  exact rt_v C hH hS hw dX11_timerOut_66
def w11_timerOut (σ : St) (o0 : Nat) (Q : St → Prop) : Prop := ∀ σ1, σ1 = up3 σ 11 o0 17 ((σ 11 o0 17) + 1) → (∀ σ2, σ2 = up3 σ1 11 o0 29 0 → ((¬ (σ2 11 o0 2) = 1 → (w11_timerOut_J33 σ2 o0 8 (σ2 11 o0 17) Q)) ∧ ((σ2 11 o0 2) = 1 → (w11_timerOut_J33 σ2 o0 5 (σ2 11 o0 17) Q))))
set_option maxHeartbeats 4000000 in
theorem m11_timerOut (l : Launch) (G : Gh) (a1 : Nat → Nat → Nat) (τ : St) (σ : St) (o0 : Nat) (ho0 : o0 < 16) (Q : St → Prop) (hw : w11_timerOut σ o0 Q) : Met l yX11_timerOut (ws_ yX11_timerOut cX11_timerOut 5 none) rmX11_timerOut (PcS G a1 (cmb σ τ) [.ref (ga G 11 o0)]) (QVs G a1 (fun u => cmb u τ) Q) 0 0 (gA G) := by
  refine met_w (by decide) (Nat.le_of_ble_eq_true rfl) ?_
  intro p e s m below meth c ls C hH hS hl
  have C : Cx p e s m _ meth c cX11_timerOut 5 none "WebHost$Connection" G := C
  have hl : lv_has ls 5 [(0, .ref (ga G 11 o0))] := hl
  have hx := C.1
  have hb := C.2.1
  have hown := C.2.2.2.2.2.1
  have hts := C.2.2.2.2.2.2.1
  obtain ⟨locs, hlocs⟩ : ∃ z : List Loc, z = [] := ⟨_, rfl⟩
  obtain ⟨H, hHe⟩ : ∃ z : Heap, z = s.heap := ⟨_, rfl⟩
  have hH : Hd G a1 (cmb σ τ) H := by rw [hHe]; exact hH
  have hS : va_S (gA G) s.heap H locs := by rw [hHe, hlocs]; exact hS
  refine W.heap0 hHe.symm hlocs.symm ?_
  refine lv_aload_n hx hb dX11_timerOut_0 rfl (lv_at hl 0 rfl) ?_
  refine lv_dup hx hb dX11_timerOut_1 rfl ?_
  refine g11_17 C hH ho0 q636 dX11_timerOut_2 ?_
  refine lv_iconst (v := 1) hx hb dX11_timerOut_5 (by decide) ?_
  refine lv_iadd hx hb dX11_timerOut_6 ?_
  refine p11_17 C hH hS ho0 q636 dX11_timerOut_7 (fun σ1 e1 H locs hH hS => ?_)
  have hw := hw σ1 e1
  refine lv_aload_n hx hb dX11_timerOut_10 rfl (lv_at hl 0 rfl) ?_
  refine lv_iconst (v := 0) hx hb dX11_timerOut_11 (by decide) ?_
  refine p11_29 C hH hS ho0 (Or.inl rfl) q651 dX11_timerOut_12 (fun σ2 e2 H locs hH hS => ?_)
  have hw := hw σ2 e2
  refine lv_aload_n hx hb dX11_timerOut_15 rfl (lv_at hl 0 rfl) ?_
  refine g11_17 C hH ho0 q636 dX11_timerOut_16 ?_
  refine lv_aload_n hx hb dX11_timerOut_19 rfl (lv_at hl 0 rfl) ?_
  refine g11_2 C hH ho0 q610 dX11_timerOut_20 ?_
  refine lv_iconst (v := 1) hx hb dX11_timerOut_23 (by decide) ?_
  refine lv_icmp_ne (tgt := 31) hx hb dX11_timerOut_24 (by decide) (fun h => ?_) (fun h => ?_)
  · have hw := hw.1 h
    refine lv_bipush (v := 8) hx hb dX11_timerOut_31 (by decide) ?_
    exact k11_timerOut_J33 C σ2 o0 8 (σ2 11 o0 17) ho0 hw H locs ls hH hS (lv_sub hl [0] rfl)
  have hw := hw.2 h
  refine lv_iconst (v := 5) hx hb dX11_timerOut_27 (by decide) ?_
  refine lv_goto (tgt := 33) hx hb dX11_timerOut_28 (by decide) ?_
  exact k11_timerOut_J33 C σ2 o0 5 (σ2 11 o0 17) ho0 hw H locs ls hH hS (lv_sub hl [0] rfl)
