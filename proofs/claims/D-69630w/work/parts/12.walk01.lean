/-! walks -/
set_option maxRecDepth 100000
/-! WebHost$Answer.clear()V -/
abbrev cX13_clear : ByteArray := prog_2_method_2_code
def yX13_clear : MethodName := ⟨RX13, "clear", "()V"⟩
theorem dX13_clear_0 : decode cX13_clear 0 = .ok (.aload_n 0, 1) := by decide +kernel
theorem dX13_clear_1 : decode cX13_clear 1 = .ok (.getfield 9, 3) := by decide +kernel
theorem dX13_clear_4 : decode cX13_clear 4 = .ok (.arraylength, 1) := by decide +kernel
theorem dX13_clear_5 : decode cX13_clear 5 = .ok (.ifCond .ne 11, 3) := by decide +kernel
theorem dX13_clear_8 : decode cX13_clear 8 = .ok (.aload_n 0, 1) := by decide +kernel
theorem dX13_clear_9 : decode cX13_clear 9 = .ok (.ldc 15, 2) := by decide +kernel
theorem dX13_clear_11 : decode cX13_clear 11 = .ok (.newarray .byte, 2) := by decide +kernel
theorem dX13_clear_13 : decode cX13_clear 13 = .ok (.putfield 9, 3) := by decide +kernel
theorem dX13_clear_16 : decode cX13_clear 16 = .ok (.aload_n 0, 1) := by decide +kernel
theorem dX13_clear_17 : decode cX13_clear 17 = .ok (.iconst 0, 1) := by decide +kernel
theorem dX13_clear_18 : decode cX13_clear 18 = .ok (.putfield 16, 3) := by decide +kernel
theorem dX13_clear_21 : decode cX13_clear 21 = .ok (.return_, 1) := by decide +kernel
def rmX13_clear : Room := { frames := 0, cells := 1, slots := 66047, locals := 0 }
theorem kX13_clear : yX13_clear.cls = "WebHost$Answer" ∧ yX13_clear.cls ≠ "java/lang/invoke/MethodHandle" ∧ yX13_clear.cls ≠ "java/lang/invoke/VarHandle" ∧ (parseMethodDescriptor yX13_clear.desc).map (fun d => d.parameters.length) = some 0 := by decide +kernel
def w13_clear (σ : St) (o0 : Nat) (Q : St → Prop) : Prop := (¬ (nI (σ 90 (o0 + 1) 0).toNatClampNeg) = 0 → (∀ σ1, σ1 = up3 σ 13 o0 1 0 → (Q σ1))) ∧ ((nI (σ 90 (o0 + 1) 0).toNatClampNeg) = 0 → (¬ (66047 : Int32) < 0 ∧ (66047 : Int32).toNatClampNeg ≤ 66047 ∧ fre σ 44 ∧ (∀ σ2, σ2 = nw44 σ o0 66047 → (∀ σ3, σ3 = up3 σ2 13 o0 1 0 → (Q σ3)))))
set_option maxHeartbeats 4000000 in
theorem m13_clear (l : Launch) (G : Gh) (a1 : Nat → Nat → Nat) (τ : St) (σ : St) (o0 : Nat) (ho0 : o0 < 16) (Q : St → Prop) (hw : w13_clear σ o0 Q) : Met l yX13_clear (ws_ yX13_clear cX13_clear 1 none) rmX13_clear (PcS G a1 (cmb σ τ) [.ref (ga G 13 o0)]) (QVa G (fun u => cmb u τ) Q) 1 66047 (gA G) := by
  refine met_w (by decide) (Nat.le_of_ble_eq_true rfl) ?_
  intro p e s m below meth c ls C hH hS hl
  have C : Cx p e s m _ meth c cX13_clear 1 none "WebHost$Answer" G := C
  have hl : lv_has ls 1 [(0, .ref (ga G 13 o0))] := hl
  have hx := C.1
  have hb := C.2.1
  have hown := C.2.2.2.2.2.1
  have hts := C.2.2.2.2.2.2.1
  obtain ⟨locs, hlocs⟩ : ∃ z : List Loc, z = [] := ⟨_, rfl⟩
  obtain ⟨H, hHe⟩ : ∃ z : Heap, z = s.heap := ⟨_, rfl⟩
  have hH : Hd G a1 (cmb σ τ) H := by rw [hHe]; exact hH
  have hS : va_S (gA G) s.heap H locs := by rw [hHe, hlocs]; exact hS
  refine W.heap0 hHe.symm hlocs.symm ?_
  refine lv_aload_n hx hb dX13_clear_0 rfl (lv_at hl 0 rfl) ?_
  refine g13_0 C hH ho0 q599 dX13_clear_1 ?_
  refine al44 C hH ho0 dX13_clear_4 ?_
  refine lv_if_ne (tgt := 16) hx hb dX13_clear_5 (by decide) (fun h => ?_) (fun h => ?_)
  · have hw := hw.1 h
    refine lv_aload_n hx hb dX13_clear_16 rfl (lv_at hl 0 rfl) ?_
    refine lv_iconst (v := 0) hx hb dX13_clear_17 (by decide) ?_
    refine p13_1 C hH hS ho0 q601 dX13_clear_18 (fun σ1 e1 H locs hH hS => ?_)
    have hw := hw σ1 e1
    refine W.widen (k := 1) (n := 66047) (Nat.zero_le _) (Nat.zero_le _) ?_
    exact rt_va C hH hS hw dX13_clear_21
  have hw := hw.2 h
  refine lv_aload_n hx hb dX13_clear_8 rfl (lv_at hl 0 rfl) ?_
  refine lv_ldc (v := 66047) hx hb hown (hts _ q1266) dX13_clear_9 ?_
  obtain ⟨hw1, hw2, hw3, hw⟩ := hw
  refine new44 C hH hS ho0 hw1 hw2 hw3 (Nat.le_of_ble_eq_true rfl) (Nat.le_of_ble_eq_true rfl) q599 dX13_clear_11 dX13_clear_13 (fun σ2 e2 a2 H locs hH hS => ?_)
  have hw := hw σ2 e2
  refine lv_aload_n hx hb dX13_clear_16 rfl (lv_at hl 0 rfl) ?_
  refine lv_iconst (v := 0) hx hb dX13_clear_17 (by decide) ?_
  refine p13_1 C hH hS ho0 q601 dX13_clear_18 (fun σ3 e3 H locs hH hS => ?_)
  have hw := hw σ3 e3
  exact rt_va C hH hS hw dX13_clear_21
/-! java/lang/StringLatin1.canEncode(I)Z -/
abbrev cJ2_canEncode : ByteArray := prog_25_method_4_code
def yJ2_canEncode : MethodName := ⟨RJ2, "canEncode", "(I)Z"⟩
theorem dJ2_canEncode_0 : decode cJ2_canEncode 0 = .ok (.iload_n 0, 1) := by decide +kernel
theorem dJ2_canEncode_1 : decode cJ2_canEncode 1 = .ok (.ifCond .lt 14, 3) := by decide +kernel
theorem dJ2_canEncode_4 : decode cJ2_canEncode 4 = .ok (.iload_n 0, 1) := by decide +kernel
theorem dJ2_canEncode_5 : decode cJ2_canEncode 5 = .ok (.sipush 255, 3) := by decide +kernel
theorem dJ2_canEncode_8 : decode cJ2_canEncode 8 = .ok (.if_icmp .gt 7, 3) := by decide +kernel
theorem dJ2_canEncode_11 : decode cJ2_canEncode 11 = .ok (.iconst 1, 1) := by decide +kernel
theorem dJ2_canEncode_12 : decode cJ2_canEncode 12 = .ok (.goto 4, 3) := by decide +kernel
theorem dJ2_canEncode_15 : decode cJ2_canEncode 15 = .ok (.iconst 0, 1) := by decide +kernel
theorem dJ2_canEncode_16 : decode cJ2_canEncode 16 = .ok (.ireturn, 1) := by decide +kernel
def rmXJ2_canEncode : Room := { frames := 0, cells := 0, slots := 0, locals := 0 }
theorem kXJ2_canEncode : yJ2_canEncode.cls = "java/lang/StringLatin1" ∧ yJ2_canEncode.cls ≠ "java/lang/invoke/MethodHandle" ∧ yJ2_canEncode.cls ≠ "java/lang/invoke/VarHandle" ∧ (parseMethodDescriptor yJ2_canEncode.desc).map (fun d => d.parameters.length) = some 1 := by decide +kernel
def wJ2_canEncode (x0 : Int32) (Q : Int32 → Prop) : Prop := (x0 < 0 → Q 0) ∧ (¬ x0 < 0 → ((255 < x0 → Q 0) ∧ (¬ 255 < x0 → Q 1)))
set_option maxHeartbeats 4000000 in
theorem mJ2_canEncode (l : Launch) (G : Gh) (a1 : Nat → Nat → Nat) (τ : St) (σ : St) (H : Heap) (x0 : Int32) (Q : Int32 → Prop) (hw : wJ2_canEncode x0 Q) : Met l yJ2_canEncode (ws_ yJ2_canEncode cJ2_canEncode 1 (some .boolean)) rmXJ2_canEncode (PcP G a1 (σ) H [.int x0]) (QIp G H Q) 0 0 (gA G) := by
  refine met_p (by decide) (Nat.le_of_ble_eq_true rfl) ?_
  intro p e s m below meth c ls hHe C hH hS hl
  have C : Cx p e s m _ meth c cJ2_canEncode 1 (some .boolean) "java/lang/StringLatin1" G := C
  have hl : lv_has ls 1 [(0, .int x0)] := hl
  have hx := C.1
  have hb := C.2.1
  have hown := C.2.2.2.2.2.1
  have hts := C.2.2.2.2.2.2.1
  obtain ⟨locs, hlocs⟩ : ∃ z : List Loc, z = [] := ⟨_, rfl⟩
  rw [← hlocs] at hS ⊢
  refine lv_iload_n hx hb dJ2_canEncode_0 rfl (lv_at hl 0 rfl) ?_
  refine lv_if_lt (tgt := 15) hx hb dJ2_canEncode_1 (by decide) (fun h => ?_) (fun h => ?_)
  · have hw := hw.1 h
    refine lv_iconst (v := 0) hx hb dJ2_canEncode_15 (by decide) ?_
    exact rt_ip C rfl hS hw dJ2_canEncode_16
  have hw := hw.2 h
  refine lv_iload_n hx hb dJ2_canEncode_4 rfl (lv_at hl 0 rfl) ?_
  refine lv_sipush (v := 255) hx hb dJ2_canEncode_5 (by decide) ?_
  refine lv_icmp_gt (tgt := 15) hx hb dJ2_canEncode_8 (by decide) (fun h => ?_) (fun h => ?_)
  · have hw := hw.1 h
    refine lv_iconst (v := 0) hx hb dJ2_canEncode_15 (by decide) ?_
    exact rt_ip C rfl hS hw dJ2_canEncode_16
  have hw := hw.2 h
  refine lv_iconst (v := 1) hx hb dJ2_canEncode_11 (by decide) ?_
  refine lv_goto (tgt := 16) hx hb dJ2_canEncode_12 (by decide) ?_
  exact rt_ip C rfl hS hw dJ2_canEncode_16
/-! jdk/internal/util/Preconditions.checkIndex(IILjava/util/function/BiFunction;)I -/
abbrev cJ3_checkIndex : ByteArray := prog_27_method_11_code
def yJ3_checkIndex : MethodName := ⟨RJ3, "checkIndex", "(IILjava/util/function/BiFunction;)I"⟩
theorem dJ3_checkIndex_0 : decode cJ3_checkIndex 0 = .ok (.iload_n 0, 1) := by decide +kernel
theorem dJ3_checkIndex_1 : decode cJ3_checkIndex 1 = .ok (.ifCond .lt 8, 3) := by decide +kernel
theorem dJ3_checkIndex_4 : decode cJ3_checkIndex 4 = .ok (.iload_n 0, 1) := by decide +kernel
theorem dJ3_checkIndex_5 : decode cJ3_checkIndex 5 = .ok (.iload_n 1, 1) := by decide +kernel
theorem dJ3_checkIndex_6 : decode cJ3_checkIndex 6 = .ok (.if_icmp .lt 10, 3) := by decide +kernel
theorem dJ3_checkIndex_9 : decode cJ3_checkIndex 9 = .ok (.aload_n 2, 1) := by decide +kernel
theorem dJ3_checkIndex_10 : decode cJ3_checkIndex 10 = .ok (.iload_n 0, 1) := by decide +kernel
theorem dJ3_checkIndex_11 : decode cJ3_checkIndex 11 = .ok (.iload_n 1, 1) := by decide +kernel
theorem dJ3_checkIndex_12 : decode cJ3_checkIndex 12 = .ok (.invokestatic 95, 3) := by decide +kernel
theorem dJ3_checkIndex_15 : decode cJ3_checkIndex 15 = .ok (.athrow, 1) := by decide +kernel
theorem dJ3_checkIndex_16 : decode cJ3_checkIndex 16 = .ok (.iload_n 0, 1) := by decide +kernel
theorem dJ3_checkIndex_17 : decode cJ3_checkIndex 17 = .ok (.ireturn, 1) := by decide +kernel
def rmXJ3_checkIndex : Room := { frames := 0, cells := 0, slots := 0, locals := 0 }
theorem kXJ3_checkIndex : yJ3_checkIndex.cls = "jdk/internal/util/Preconditions" ∧ yJ3_checkIndex.cls ≠ "java/lang/invoke/MethodHandle" ∧ yJ3_checkIndex.cls ≠ "java/lang/invoke/VarHandle" ∧ (parseMethodDescriptor yJ3_checkIndex.desc).map (fun d => d.parameters.length) = some 3 := by decide +kernel
def wJ3_checkIndex (x0 : Int32) (x1 : Int32) (Q : Int32 → Prop) : Prop := (x0 < 0 → False) ∧ (¬ x0 < 0 → ((x0 < x1 → Q x0) ∧ (¬ x0 < x1 → False)))
set_option maxHeartbeats 4000000 in
theorem mJ3_checkIndex (l : Launch) (G : Gh) (a1 : Nat → Nat → Nat) (τ : St) (σ : St) (H : Heap) (x0 : Int32) (x1 : Int32) (v2 : Value) (hv2 : v2 = .null ∨ ∃ a, v2 = .ref a) (Q : Int32 → Prop) (hw : wJ3_checkIndex x0 x1 Q) : Met l yJ3_checkIndex (ws_ yJ3_checkIndex cJ3_checkIndex 3 (some .int)) rmXJ3_checkIndex (PcP G a1 (σ) H [.int x0, .int x1, v2]) (QIp G H Q) 0 0 (gA G) := by
  refine met_p (by decide) (by simp [lg_sl, nav_cat, cat_i, cat_r, fcat hv2]) ?_
  intro p e s m below meth c ls hHe C hH hS hl
  have C : Cx p e s m _ meth c cJ3_checkIndex 3 (some .int) "jdk/internal/util/Preconditions" G := C
  have hl : lv_has ls 3 [(0, .int x0), (1, .int x1), (2, v2)] := by simpa [lv_args, nav_cat, cat_i, cat_r, fcat hv2] using hl
  have hx := C.1
  have hb := C.2.1
  have hown := C.2.2.2.2.2.1
  have hts := C.2.2.2.2.2.2.1
  obtain ⟨locs, hlocs⟩ : ∃ z : List Loc, z = [] := ⟨_, rfl⟩
  rw [← hlocs] at hS ⊢
  refine lv_iload_n hx hb dJ3_checkIndex_0 rfl (lv_at hl 0 rfl) ?_
  refine lv_if_lt (tgt := 9) hx hb dJ3_checkIndex_1 (by decide) (fun h => ?_) (fun h => ?_)
  · have hw := hw.1 h
    exact hw.elim
  have hw := hw.2 h
  refine lv_iload_n hx hb dJ3_checkIndex_4 rfl (lv_at hl 0 rfl) ?_
  refine lv_iload_n hx hb dJ3_checkIndex_5 rfl (lv_at hl 1 rfl) ?_
  refine lv_icmp_lt (tgt := 16) hx hb dJ3_checkIndex_6 (by decide) (fun h => ?_) (fun h => ?_)
  · have hw := hw.1 h
    refine lv_iload_n hx hb dJ3_checkIndex_16 rfl (lv_at hl 0 rfl) ?_
    exact rt_ip C rfl hS hw dJ3_checkIndex_17
  have hw := hw.2 h
  exact hw.elim
/-! java/lang/String.coder()B -/
abbrev cJ1_coder : ByteArray := prog_24_method_152_code
def yJ1_coder : MethodName := ⟨RJ1, "coder", "()B"⟩
theorem dJ1_coder_0 : decode cJ1_coder 0 = .ok (.getstatic 38, 3) := by decide +kernel
theorem dJ1_coder_3 : decode cJ1_coder 3 = .ok (.ifCond .eq 10, 3) := by decide +kernel
theorem dJ1_coder_6 : decode cJ1_coder 6 = .ok (.aload_n 0, 1) := by decide +kernel
theorem dJ1_coder_7 : decode cJ1_coder 7 = .ok (.getfield 15, 3) := by decide +kernel
theorem dJ1_coder_10 : decode cJ1_coder 10 = .ok (.goto 4, 3) := by decide +kernel
theorem dJ1_coder_13 : decode cJ1_coder 13 = .ok (.iconst 1, 1) := by decide +kernel
theorem dJ1_coder_14 : decode cJ1_coder 14 = .ok (.ireturn, 1) := by decide +kernel
def rmXJ1_coder : Room := { frames := 0, cells := 0, slots := 0, locals := 0 }
theorem kXJ1_coder : yJ1_coder.cls = "java/lang/String" ∧ yJ1_coder.cls ≠ "java/lang/invoke/MethodHandle" ∧ yJ1_coder.cls ≠ "java/lang/invoke/VarHandle" ∧ (parseMethodDescriptor yJ1_coder.desc).map (fun d => d.parameters.length) = some 0 := by decide +kernel
def wJ1_coder (t0 : Nat) (Q : Int32 → Prop) : Prop := ((1 : Int32) = 0 → (by8 1 ∧ (Q 1))) ∧ (¬ (1 : Int32) = 0 → (by8 0 ∧ (Q 0)))
set_option maxHeartbeats 4000000 in
theorem mJ1_coder (l : Launch) (G : Gh) (a1 : Nat → Nat → Nat) (τ : St) (σ : St) (H : Heap) (t0 : Nat) (ht0 : t0 < nS) (Q : Int32 → Prop) (hw : wJ1_coder t0 Q) : Met l yJ1_coder (ws_ yJ1_coder cJ1_coder 1 (some .byte)) rmXJ1_coder (PcP G a1 (σ) H [.ref (gs G t0)]) (QIp G H Q) 0 0 (gA G) := by
  refine met_p (by decide) (Nat.le_of_ble_eq_true rfl) ?_
  intro p e s m below meth c ls hHe C hH hS hl
  have C : Cx p e s m _ meth c cJ1_coder 1 (some .byte) "java/lang/String" G := C
  have hl : lv_has ls 1 [(0, .ref (gs G t0))] := hl
  have hx := C.1
  have hb := C.2.1
  have hown := C.2.2.2.2.2.1
  have hts := C.2.2.2.2.2.2.1
  obtain ⟨locs, hlocs⟩ : ∃ z : List Loc, z = [] := ⟨_, rfl⟩
  rw [← hlocs] at hS ⊢
  refine str_cs C hS q1280 dJ1_coder_0 ?_
  refine lv_if_eq (tgt := 13) hx hb dJ1_coder_3 (by decide) (fun h => ?_) (fun h => ?_)
  · have hw := hw.1 h
    refine lv_iconst (v := 1) hx hb dJ1_coder_13 (by decide) ?_
    exact rt_ip C (by8_n hw.1) hS hw.2 dJ1_coder_14
  have hw := hw.2 h
  refine lv_aload_n hx hb dJ1_coder_6 rfl (lv_at hl 0 rfl) ?_
  refine str_cod C hS ht0 q2674 dJ1_coder_7 ?_
  refine lv_goto (tgt := 14) hx hb dJ1_coder_10 (by decide) ?_
  exact rt_ip C (by8_n hw.1) hS hw.2 dJ1_coder_14
/-! java/lang/StringLatin1.indexOfChar([BIII)I -/
abbrev cJ2_indexOfChar : ByteArray := prog_25_method_23_code
def yJ2_indexOfChar : MethodName := ⟨RJ2, "indexOfChar", "([BIII)I"⟩
theorem dJ2_indexOfChar_0 : decode cJ2_indexOfChar 0 = .ok (.iload_n 1, 1) := by decide +kernel
theorem dJ2_indexOfChar_1 : decode cJ2_indexOfChar 1 = .ok (.i2b, 1) := by decide +kernel
theorem dJ2_indexOfChar_2 : decode cJ2_indexOfChar 2 = .ok (.istore 4, 2) := by decide +kernel
theorem dJ2_indexOfChar_4 : decode cJ2_indexOfChar 4 = .ok (.iload_n 2, 1) := by decide +kernel
theorem dJ2_indexOfChar_5 : decode cJ2_indexOfChar 5 = .ok (.istore 5, 2) := by decide +kernel
theorem dJ2_indexOfChar_7 : decode cJ2_indexOfChar 7 = .ok (.iload 5, 2) := by decide +kernel
theorem dJ2_indexOfChar_9 : decode cJ2_indexOfChar 9 = .ok (.iload_n 3, 1) := by decide +kernel
theorem dJ2_indexOfChar_10 : decode cJ2_indexOfChar 10 = .ok (.if_icmp .ge 21, 3) := by decide +kernel
theorem dJ2_indexOfChar_13 : decode cJ2_indexOfChar 13 = .ok (.aload_n 0, 1) := by decide +kernel
theorem dJ2_indexOfChar_14 : decode cJ2_indexOfChar 14 = .ok (.iload 5, 2) := by decide +kernel
theorem dJ2_indexOfChar_16 : decode cJ2_indexOfChar 16 = .ok (.baload, 1) := by decide +kernel
theorem dJ2_indexOfChar_17 : decode cJ2_indexOfChar 17 = .ok (.iload 4, 2) := by decide +kernel
theorem dJ2_indexOfChar_19 : decode cJ2_indexOfChar 19 = .ok (.if_icmp .ne 6, 3) := by decide +kernel
theorem dJ2_indexOfChar_22 : decode cJ2_indexOfChar 22 = .ok (.iload 5, 2) := by decide +kernel
theorem dJ2_indexOfChar_24 : decode cJ2_indexOfChar 24 = .ok (.ireturn, 1) := by decide +kernel
theorem dJ2_indexOfChar_25 : decode cJ2_indexOfChar 25 = .ok (.iinc 5 1, 3) := by decide +kernel
theorem dJ2_indexOfChar_28 : decode cJ2_indexOfChar 28 = .ok (.goto (-21), 3) := by decide +kernel
theorem dJ2_indexOfChar_31 : decode cJ2_indexOfChar 31 = .ok (.iconst (-1), 1) := by decide +kernel
theorem dJ2_indexOfChar_32 : decode cJ2_indexOfChar 32 = .ok (.ireturn, 1) := by decide +kernel
def rmXJ2_indexOfChar : Room := { frames := 0, cells := 0, slots := 0, locals := 0 }
theorem kXJ2_indexOfChar : yJ2_indexOfChar.cls = "java/lang/StringLatin1" ∧ yJ2_indexOfChar.cls ≠ "java/lang/invoke/MethodHandle" ∧ yJ2_indexOfChar.cls ≠ "java/lang/invoke/VarHandle" ∧ (parseMethodDescriptor yJ2_indexOfChar.desc).map (fun d => d.parameters.length) = some 4 := by decide +kernel
def wJ2_indexOfChar_L7 (t0 : Nat) (x3 : Int32) (x4 : Int32) (Q : Int32 → Prop) (K22 : Int32 → Prop) (K31 : Prop) : Nat → Int32 → Prop
  | 0, _ => False
  | n + 1, x5 => (x3 ≤ x5 → K31) ∧ (¬ x3 ≤ x5 → (vp_in x5 (sLen.getD t0 0) ∧ ((¬ (sby t0 x5) = x4 → (wJ2_indexOfChar_L7 t0 x3 x4 Q K22 K31 n (x5 + 1))) ∧ ((sby t0 x5) = x4 → K22 x5))))
set_option maxHeartbeats 4000000 in
theorem kJ2_indexOfChar_L7 {p : Program} {l : Launch} {e : Env} {s : State} {m : MethodId} {args : Array Value} {below : List Frame} {meth : Method} {c : Code} {G : Gh} {a1 : Nat → Nat → Nat} {H : Heap} {Q : Int32 → Prop} {K22 : Int32 → Prop} {K31 : Prop} (C : Cx p e s m args meth c cJ2_indexOfChar 6 (some .int) "java/lang/StringLatin1" G) (σ : St) (t0 : Nat) (x3 : Int32) (x4 : Int32) (ht0 : t0 < nS) (hH : Hd G a1 (σ) H) :
    ∀ (n : Nat) (x5 : Int32), wJ2_indexOfChar_L7 t0 x3 x4 Q K22 K31 n x5 → ∀ (locs : List Loc) (ls : Array Slot), va_S (gA G) s.heap H locs → lv_has ls 6 [(0, .ref (gv G t0)), (3, .int x3), (4, .int x4), (5, .int x5)] → (∀ (x5 : Int32), K22 x5 → ∀ (locs : List Loc) (ls : Array Slot), va_S (gA G) s.heap H locs → lv_has ls 6 [(5, .int x5)] → W p l e rmXJ2_indexOfChar s m args below meth c H locs 0 0 (MQ below (QIp G H Q) args s 0 0 (gA G)) (F0 m 22 ls [])) → (K31 → ∀ (locs : List Loc) (ls : Array Slot), va_S (gA G) s.heap H locs → lv_has ls 6 [] → W p l e rmXJ2_indexOfChar s m args below meth c H locs 0 0 (MQ below (QIp G H Q) args s 0 0 (gA G)) (F0 m 31 ls [])) → W p l e rmXJ2_indexOfChar s m args below meth c H locs 0 0 (MQ below (QIp G H Q) args s 0 0 (gA G)) (F0 m 7 ls []) := by
  have hx := C.1
  have hb := C.2.1
  have hown := C.2.2.2.2.2.1
  have hts := C.2.2.2.2.2.2.1
  intro n
  induction n with
  | zero =>
    intro x5 hw
    exact False.elim hw
  | succ n ih =>
    intro x5 hw locs ls hS hl hK22 hK31
    refine lv_iload hx hb dJ2_indexOfChar_7 (lv_at hl 3 rfl) ?_
    refine lv_iload_n hx hb dJ2_indexOfChar_9 rfl (lv_at hl 1 rfl) ?_
    refine lv_icmp_ge (tgt := 31) hx hb dJ2_indexOfChar_10 (by decide) (fun h => ?_) (fun h => ?_)
    · have hw := hw.1 h
      exact hK31 hw locs ls hS (lv_sub hl [] rfl)
    have hw := hw.2 h
    refine lv_aload_n hx hb dJ2_indexOfChar_13 rfl (lv_at hl 0 rfl) ?_
    refine lv_iload hx hb dJ2_indexOfChar_14 (lv_at hl 3 rfl) ?_
    refine str_bald C hS ht0 hw.1 dJ2_indexOfChar_16 ?_
    have hw := hw.2
    refine lv_iload hx hb dJ2_indexOfChar_17 (lv_at hl 2 rfl) ?_
    refine lv_icmp_ne (tgt := 25) hx hb dJ2_indexOfChar_19 (by decide) (fun h => ?_) (fun h => ?_)
    · have hw := hw.1 h
      refine lv_iinc (v := x5 + 1) (lv' := [(5, .int (x5 + 1)), (0, .ref (gv G t0)), (3, .int x3), (4, .int x4)]) hx hb dJ2_indexOfChar_25 hl (k := 3) rfl rfl (by decide) rfl (fun ls hl => ?_)
      refine lv_goto (tgt := 7) hx hb dJ2_indexOfChar_28 (by decide) ?_
      exact ih (x5 + 1) hw locs ls hS (lv_sub hl [1, 2, 3, 0] rfl) hK22 hK31
    have hw := hw.2 h
    exact hK22 x5 hw locs ls hS (lv_sub hl [3] rfl)
def wJ2_indexOfChar (t0 : Nat) (x1 : Int32) (x2 : Int32) (x3 : Int32) (Q : Int32 → Prop) : Prop := ∃ z1, wJ2_indexOfChar_L7 t0 x3 x1.toInt8.toInt32 Q (fun x5_2 => Q x5_2) (Q (-1)) z1 x2
set_option maxHeartbeats 4000000 in
theorem mJ2_indexOfChar (l : Launch) (G : Gh) (a1 : Nat → Nat → Nat) (τ : St) (σ : St) (H : Heap) (t0 : Nat) (x1 : Int32) (x2 : Int32) (x3 : Int32) (ht0 : t0 < nS) (Q : Int32 → Prop) (hw : wJ2_indexOfChar t0 x1 x2 x3 Q) : Met l yJ2_indexOfChar (ws_ yJ2_indexOfChar cJ2_indexOfChar 6 (some .int)) rmXJ2_indexOfChar (PcP G a1 (σ) H [.ref (gv G t0), .int x1, .int x2, .int x3]) (QIp G H Q) 0 0 (gA G) := by
  refine met_p (by decide) (Nat.le_of_ble_eq_true rfl) ?_
  intro p e s m below meth c ls hHe C hH hS hl
  have C : Cx p e s m _ meth c cJ2_indexOfChar 6 (some .int) "java/lang/StringLatin1" G := C
  have hl : lv_has ls 6 [(0, .ref (gv G t0)), (1, .int x1), (2, .int x2), (3, .int x3)] := hl
  have hx := C.1
  have hb := C.2.1
  have hown := C.2.2.2.2.2.1
  have hts := C.2.2.2.2.2.2.1
  obtain ⟨locs, hlocs⟩ : ∃ z : List Loc, z = [] := ⟨_, rfl⟩
  rw [← hlocs] at hS ⊢
  refine lv_iload_n hx hb dJ2_indexOfChar_0 rfl (lv_at hl 1 rfl) ?_
  refine lv_i2b (v := x1.toInt8.toInt32) hx hb dJ2_indexOfChar_1 rfl ?_
  refine lv_istore (lv' := [(4, .int x1.toInt8.toInt32), (0, .ref (gv G t0)), (1, .int x1), (2, .int x2), (3, .int x3)]) hx hb dJ2_indexOfChar_2 hl (by decide) rfl (fun ls hl => ?_)
  refine lv_iload_n hx hb dJ2_indexOfChar_4 rfl (lv_at hl 3 rfl) ?_
  refine lv_istore (lv' := [(5, .int x2), (4, .int x1.toInt8.toInt32), (0, .ref (gv G t0)), (1, .int x1), (2, .int x2), (3, .int x3)]) hx hb dJ2_indexOfChar_5 hl (by decide) rfl (fun ls hl => ?_)
  obtain ⟨n1, hw⟩ := hw
  refine kJ2_indexOfChar_L7 C σ t0 x3 x1.toInt8.toInt32 ht0 hH n1 x2 hw locs ls hS (lv_sub hl [2, 5, 1, 0] rfl) (fun x5_2 hw locs ls hS hl => ?_) (fun hw locs ls hS hl => ?_)
  · refine lv_iload hx hb dJ2_indexOfChar_22 (lv_at hl 0 rfl) ?_
    exact rt_ip C rfl hS hw dJ2_indexOfChar_24
  refine lv_iconst (v := (-1)) hx hb dJ2_indexOfChar_31 (by decide) ?_
  exact rt_ip C rfl hS hw dJ2_indexOfChar_32
/-! java/lang/String.isLatin1()Z -/
abbrev cJ1_isLatin1 : ByteArray := prog_24_method_154_code
def yJ1_isLatin1 : MethodName := ⟨RJ1, "isLatin1", "()Z"⟩
theorem dJ1_isLatin1_0 : decode cJ1_isLatin1 0 = .ok (.getstatic 38, 3) := by decide +kernel
theorem dJ1_isLatin1_3 : decode cJ1_isLatin1 3 = .ok (.ifCond .eq 14, 3) := by decide +kernel
theorem dJ1_isLatin1_6 : decode cJ1_isLatin1 6 = .ok (.aload_n 0, 1) := by decide +kernel
theorem dJ1_isLatin1_7 : decode cJ1_isLatin1 7 = .ok (.getfield 15, 3) := by decide +kernel
theorem dJ1_isLatin1_10 : decode cJ1_isLatin1 10 = .ok (.ifCond .ne 7, 3) := by decide +kernel
theorem dJ1_isLatin1_13 : decode cJ1_isLatin1 13 = .ok (.iconst 1, 1) := by decide +kernel
theorem dJ1_isLatin1_14 : decode cJ1_isLatin1 14 = .ok (.goto 4, 3) := by decide +kernel
theorem dJ1_isLatin1_17 : decode cJ1_isLatin1 17 = .ok (.iconst 0, 1) := by decide +kernel
theorem dJ1_isLatin1_18 : decode cJ1_isLatin1 18 = .ok (.ireturn, 1) := by decide +kernel
def rmXJ1_isLatin1 : Room := { frames := 0, cells := 0, slots := 0, locals := 0 }
theorem kXJ1_isLatin1 : yJ1_isLatin1.cls = "java/lang/String" ∧ yJ1_isLatin1.cls ≠ "java/lang/invoke/MethodHandle" ∧ yJ1_isLatin1.cls ≠ "java/lang/invoke/VarHandle" ∧ (parseMethodDescriptor yJ1_isLatin1.desc).map (fun d => d.parameters.length) = some 0 := by decide +kernel
def wJ1_isLatin1 (t0 : Nat) (Q : Int32 → Prop) : Prop := ((1 : Int32) = 0 → Q 0) ∧ (¬ (1 : Int32) = 0 → ((¬ (0 : Int32) = 0 → Q 0) ∧ ((0 : Int32) = 0 → Q 1)))
set_option maxHeartbeats 4000000 in
theorem mJ1_isLatin1 (l : Launch) (G : Gh) (a1 : Nat → Nat → Nat) (τ : St) (σ : St) (H : Heap) (t0 : Nat) (ht0 : t0 < nS) (Q : Int32 → Prop) (hw : wJ1_isLatin1 t0 Q) : Met l yJ1_isLatin1 (ws_ yJ1_isLatin1 cJ1_isLatin1 1 (some .boolean)) rmXJ1_isLatin1 (PcP G a1 (σ) H [.ref (gs G t0)]) (QIp G H Q) 0 0 (gA G) := by
  refine met_p (by decide) (Nat.le_of_ble_eq_true rfl) ?_
  intro p e s m below meth c ls hHe C hH hS hl
  have C : Cx p e s m _ meth c cJ1_isLatin1 1 (some .boolean) "java/lang/String" G := C
  have hl : lv_has ls 1 [(0, .ref (gs G t0))] := hl
  have hx := C.1
  have hb := C.2.1
  have hown := C.2.2.2.2.2.1
  have hts := C.2.2.2.2.2.2.1
  obtain ⟨locs, hlocs⟩ : ∃ z : List Loc, z = [] := ⟨_, rfl⟩
  rw [← hlocs] at hS ⊢
  refine str_cs C hS q1280 dJ1_isLatin1_0 ?_
  refine lv_if_eq (tgt := 17) hx hb dJ1_isLatin1_3 (by decide) (fun h => ?_) (fun h => ?_)
  · have hw := hw.1 h
    refine lv_iconst (v := 0) hx hb dJ1_isLatin1_17 (by decide) ?_
    exact rt_ip C rfl hS hw dJ1_isLatin1_18
  have hw := hw.2 h
  refine lv_aload_n hx hb dJ1_isLatin1_6 rfl (lv_at hl 0 rfl) ?_
  refine str_cod C hS ht0 q2674 dJ1_isLatin1_7 ?_
  refine lv_if_ne (tgt := 17) hx hb dJ1_isLatin1_10 (by decide) (fun h => ?_) (fun h => ?_)
  · have hw := hw.1 h
    refine lv_iconst (v := 0) hx hb dJ1_isLatin1_17 (by decide) ?_
    exact rt_ip C rfl hS hw dJ1_isLatin1_18
  have hw := hw.2 h
  refine lv_iconst (v := 1) hx hb dJ1_isLatin1_13 (by decide) ?_
  refine lv_goto (tgt := 18) hx hb dJ1_isLatin1_14 (by decide) ?_
  exact rt_ip C rfl hS hw dJ1_isLatin1_18
/-! WebHostModel.phrase(I)Ljava/lang/String; -/
abbrev cX14_phrase : ByteArray := prog_17_method_105_code
def yX14_phrase : MethodName := ⟨RX14, "phrase", "(I)Ljava/lang/String;"⟩
theorem dX14_phrase_0 : decode cX14_phrase 0 = .ok (.iload_n 0, 1) := by decide +kernel
theorem dX14_phrase_1 : decode cX14_phrase 1 = .ok (.lookupswitch 107 #[(200, 75), (304, 79), (400, 83), (404, 87), (405, 91), (413, 95), (431, 99), (500, 103)], 75) := by decide +kernel
theorem dX14_phrase_76 : decode cX14_phrase 76 = .ok (.ldc_w 792, 3) := by decide +kernel
theorem dX14_phrase_79 : decode cX14_phrase 79 = .ok (.areturn, 1) := by decide +kernel
theorem dX14_phrase_80 : decode cX14_phrase 80 = .ok (.ldc_w 794, 3) := by decide +kernel
theorem dX14_phrase_83 : decode cX14_phrase 83 = .ok (.areturn, 1) := by decide +kernel
theorem dX14_phrase_84 : decode cX14_phrase 84 = .ok (.ldc_w 796, 3) := by decide +kernel
theorem dX14_phrase_87 : decode cX14_phrase 87 = .ok (.areturn, 1) := by decide +kernel
theorem dX14_phrase_88 : decode cX14_phrase 88 = .ok (.ldc_w 798, 3) := by decide +kernel
theorem dX14_phrase_91 : decode cX14_phrase 91 = .ok (.areturn, 1) := by decide +kernel
theorem dX14_phrase_92 : decode cX14_phrase 92 = .ok (.ldc_w 800, 3) := by decide +kernel
theorem dX14_phrase_95 : decode cX14_phrase 95 = .ok (.areturn, 1) := by decide +kernel
theorem dX14_phrase_96 : decode cX14_phrase 96 = .ok (.ldc_w 802, 3) := by decide +kernel
theorem dX14_phrase_99 : decode cX14_phrase 99 = .ok (.areturn, 1) := by decide +kernel
theorem dX14_phrase_100 : decode cX14_phrase 100 = .ok (.ldc_w 804, 3) := by decide +kernel
theorem dX14_phrase_103 : decode cX14_phrase 103 = .ok (.areturn, 1) := by decide +kernel
theorem dX14_phrase_104 : decode cX14_phrase 104 = .ok (.ldc_w 806, 3) := by decide +kernel
theorem dX14_phrase_107 : decode cX14_phrase 107 = .ok (.areturn, 1) := by decide +kernel
theorem dX14_phrase_108 : decode cX14_phrase 108 = .ok (.ldc_w 808, 3) := by decide +kernel
theorem dX14_phrase_111 : decode cX14_phrase 111 = .ok (.areturn, 1) := by decide +kernel
def rmX14_phrase : Room := { frames := 0, cells := 0, slots := 0, locals := 0 }
theorem kX14_phrase : yX14_phrase.cls = "WebHostModel" ∧ yX14_phrase.cls ≠ "java/lang/invoke/MethodHandle" ∧ yX14_phrase.cls ≠ "java/lang/invoke/VarHandle" ∧ (parseMethodDescriptor yX14_phrase.desc).map (fun d => d.parameters.length) = some 1 := by decide +kernel
def w14_phrase (σ : St) (x0 : Int32) (Q : Nat → Prop) : Prop := (x0 = 200 → Q 57) ∧ (¬ x0 = 200 → ((x0 = 304 → Q 58) ∧ (¬ x0 = 304 → ((x0 = 400 → Q 59) ∧ (¬ x0 = 400 → ((x0 = 404 → Q 60) ∧ (¬ x0 = 404 → ((x0 = 405 → Q 61) ∧ (¬ x0 = 405 → ((x0 = 413 → Q 62) ∧ (¬ x0 = 413 → ((x0 = 431 → Q 63) ∧ (¬ x0 = 431 → ((x0 = 500 → Q 64) ∧ (¬ x0 = 500 → Q 65)))))))))))))))
set_option maxHeartbeats 4000000 in
theorem m14_phrase (l : Launch) (G : Gh) (a1 : Nat → Nat → Nat) (τ : St) (σ : St) (H : Heap) (x0 : Int32) (Q : Nat → Prop) (hw : w14_phrase σ x0 Q) : Met l yX14_phrase (ws_ yX14_phrase cX14_phrase 1 (some (.object "java/lang/String"))) rmX14_phrase (PcP G a1 (cmb τ σ) H [.int x0]) (QTp G H Q) 0 0 (gA G) := by
  refine met_p (by decide) (Nat.le_of_ble_eq_true rfl) ?_
  intro p e s m below meth c ls hHe C hH hS hl
  have C : Cx p e s m _ meth c cX14_phrase 1 (some (.object "java/lang/String")) "WebHostModel" G := C
  have hl : lv_has ls 1 [(0, .int x0)] := hl
  have hx := C.1
  have hb := C.2.1
  have hown := C.2.2.2.2.2.1
  have hts := C.2.2.2.2.2.2.1
  obtain ⟨locs, hlocs⟩ : ∃ z : List Loc, z = [] := ⟨_, rfl⟩
  rw [← hlocs] at hS ⊢
  refine lv_iload_n hx hb dX14_phrase_0 rfl (lv_at hl 0 rfl) ?_
  by_cases hs200 : x0 = 200
  · have hw := hw.1 hs200
    refine lv_lookup (off := 75) (tgt := 76) hx hb dX14_phrase_1 (by decide) (by rw [hs200]; decide) (by decide) ?_
    refine str_ldcw (n := 57) C st57 dX14_phrase_76 ?_
    exact rt_tp 57 C hS hw dX14_phrase_79
  have hw := hw.2 hs200
  by_cases hs304 : x0 = 304
  · have hw := hw.1 hs304
    refine lv_lookup (off := 79) (tgt := 80) hx hb dX14_phrase_1 (by decide) (by rw [hs304]; decide) (by decide) ?_
    refine str_ldcw (n := 58) C st58 dX14_phrase_80 ?_
    exact rt_tp 58 C hS hw dX14_phrase_83
  have hw := hw.2 hs304
  by_cases hs400 : x0 = 400
  · have hw := hw.1 hs400
    refine lv_lookup (off := 83) (tgt := 84) hx hb dX14_phrase_1 (by decide) (by rw [hs400]; decide) (by decide) ?_
    refine str_ldcw (n := 59) C st59 dX14_phrase_84 ?_
    exact rt_tp 59 C hS hw dX14_phrase_87
  have hw := hw.2 hs400
  by_cases hs404 : x0 = 404
  · have hw := hw.1 hs404
    refine lv_lookup (off := 87) (tgt := 88) hx hb dX14_phrase_1 (by decide) (by rw [hs404]; decide) (by decide) ?_
    refine str_ldcw (n := 60) C st60 dX14_phrase_88 ?_
    exact rt_tp 60 C hS hw dX14_phrase_91
  have hw := hw.2 hs404
  by_cases hs405 : x0 = 405
  · have hw := hw.1 hs405
    refine lv_lookup (off := 91) (tgt := 92) hx hb dX14_phrase_1 (by decide) (by rw [hs405]; decide) (by decide) ?_
    refine str_ldcw (n := 61) C st61 dX14_phrase_92 ?_
    exact rt_tp 61 C hS hw dX14_phrase_95
  have hw := hw.2 hs405
  by_cases hs413 : x0 = 413
  · have hw := hw.1 hs413
    refine lv_lookup (off := 95) (tgt := 96) hx hb dX14_phrase_1 (by decide) (by rw [hs413]; decide) (by decide) ?_
    refine str_ldcw (n := 62) C st62 dX14_phrase_96 ?_
    exact rt_tp 62 C hS hw dX14_phrase_99
  have hw := hw.2 hs413
  by_cases hs431 : x0 = 431
  · have hw := hw.1 hs431
    refine lv_lookup (off := 99) (tgt := 100) hx hb dX14_phrase_1 (by decide) (by rw [hs431]; decide) (by decide) ?_
    refine str_ldcw (n := 63) C st63 dX14_phrase_100 ?_
    exact rt_tp 63 C hS hw dX14_phrase_103
  have hw := hw.2 hs431
  by_cases hs500 : x0 = 500
  · have hw := hw.1 hs500
    refine lv_lookup (off := 103) (tgt := 104) hx hb dX14_phrase_1 (by decide) (by rw [hs500]; decide) (by decide) ?_
    refine str_ldcw (n := 64) C st64 dX14_phrase_104 ?_
    exact rt_tp 64 C hS hw dX14_phrase_107
  have hw := hw.2 hs500
  refine lv_lookup (off := 107) (tgt := 108) hx hb dX14_phrase_1 (by decide) (by show Op.lookupswitch.offset _ _ _ = _; rw [lv_osw hs200 (by decide), lv_osw hs304 (by decide), lv_osw hs400 (by decide), lv_osw hs404 (by decide), lv_osw hs405 (by decide), lv_osw hs413 (by decide), lv_osw hs431 (by decide), lv_osw hs500 (by decide)]; rfl) (by decide) ?_
  refine str_ldcw (n := 65) C st65 dX14_phrase_108 ?_
  exact rt_tp 65 C hS hw dX14_phrase_111
/-! WebHost.install()I -/
abbrev cX0_install : ByteArray := prog_1_method_4_code
def yX0_install : MethodName := ⟨RX0, "install", "()I"⟩
theorem dX0_install_0 : decode cX0_install 0 = .ok (.aload_n 0, 1) := by decide +kernel
theorem dX0_install_1 : decode cX0_install 1 = .ok (.getfield 87, 3) := by decide +kernel
theorem dX0_install_4 : decode cX0_install 4 = .ok (.ldc 97, 2) := by decide +kernel
theorem dX0_install_6 : decode cX0_install 6 = .ok (.if_icmp .le 5, 3) := by decide +kernel
theorem dX0_install_9 : decode cX0_install 9 = .ok (.iconst (-1), 1) := by decide +kernel
theorem dX0_install_10 : decode cX0_install 10 = .ok (.ireturn, 1) := by decide +kernel
theorem dX0_install_11 : decode cX0_install 11 = .ok (.aload_n 0, 1) := by decide +kernel
theorem dX0_install_12 : decode cX0_install 12 = .ok (.getfield 87, 3) := by decide +kernel
theorem dX0_install_15 : decode cX0_install 15 = .ok (.istore_n 1, 1) := by decide +kernel
theorem dX0_install_16 : decode cX0_install 16 = .ok (.aload_n 0, 1) := by decide +kernel
theorem dX0_install_17 : decode cX0_install 17 = .ok (.getfield 17, 3) := by decide +kernel
theorem dX0_install_20 : decode cX0_install 20 = .ok (.iload_n 1, 1) := by decide +kernel
theorem dX0_install_21 : decode cX0_install 21 = .ok (.newarray .byte, 2) := by decide +kernel
theorem dX0_install_23 : decode cX0_install 23 = .ok (.putfield 98, 3) := by decide +kernel
theorem dX0_install_26 : decode cX0_install 26 = .ok (.aload_n 0, 1) := by decide +kernel
theorem dX0_install_27 : decode cX0_install 27 = .ok (.getfield 8, 3) := by decide +kernel
theorem dX0_install_30 : decode cX0_install 30 = .ok (.iconst 0, 1) := by decide +kernel
theorem dX0_install_31 : decode cX0_install 31 = .ok (.aload_n 0, 1) := by decide +kernel
theorem dX0_install_32 : decode cX0_install 32 = .ok (.getfield 17, 3) := by decide +kernel
theorem dX0_install_35 : decode cX0_install 35 = .ok (.getfield 98, 3) := by decide +kernel
theorem dX0_install_38 : decode cX0_install 38 = .ok (.iconst 0, 1) := by decide +kernel
theorem dX0_install_39 : decode cX0_install 39 = .ok (.iload_n 1, 1) := by decide +kernel
theorem dX0_install_40 : decode cX0_install 40 = .ok (.invokestatic 101, 3) := by decide +kernel
theorem dX0_install_43 : decode cX0_install 43 = .ok (.aload_n 0, 1) := by decide +kernel
theorem dX0_install_44 : decode cX0_install 44 = .ok (.iconst 0, 1) := by decide +kernel
theorem dX0_install_45 : decode cX0_install 45 = .ok (.putfield 87, 3) := by decide +kernel
theorem dX0_install_48 : decode cX0_install 48 = .ok (.aload_n 0, 1) := by decide +kernel
theorem dX0_install_49 : decode cX0_install 49 = .ok (.iconst 0, 1) := by decide +kernel
theorem dX0_install_50 : decode cX0_install 50 = .ok (.putfield 105, 3) := by decide +kernel
theorem dX0_install_53 : decode cX0_install 53 = .ok (.iload_n 1, 1) := by decide +kernel
theorem dX0_install_54 : decode cX0_install 54 = .ok (.ireturn, 1) := by decide +kernel
def rmX0_install : Room := { frames := 1, cells := 1, slots := 66047, locals := 25 }
theorem kX0_install : yX0_install.cls = "WebHost" ∧ yX0_install.cls ≠ "java/lang/invoke/MethodHandle" ∧ yX0_install.cls ≠ "java/lang/invoke/VarHandle" ∧ (parseMethodDescriptor yX0_install.desc).map (fun d => d.parameters.length) = some 0 := by decide +kernel
def w0_install (σ : St) (Q : Int32 → St → Prop) : Prop := ((σ 0 0 1) ≤ 65535 → (¬ (σ 0 0 1) < 0 ∧ (σ 0 0 1).toNatClampNeg ≤ 66047 ∧ fre σ 21 ∧ (∀ σ1, σ1 = nw21 σ (σ 0 0 1) → (w19_copy σ1 20 0 0 21 0 0 (σ 0 0 1) (fun σ2 => (∀ σ3, σ3 = up3 σ2 0 0 1 0 → (∀ σ4, σ4 = up3 σ3 0 0 11 0 → (Q (σ 0 0 1) σ4)))))))) ∧ (¬ (σ 0 0 1) ≤ 65535 → (Q (-1) σ))
set_option maxHeartbeats 4000000 in
theorem m0_install (l : Launch) (G : Gh) (a1 : Nat → Nat → Nat) (τ : St) (σ : St) (Q : Int32 → St → Prop) (hw : w0_install σ Q) : Met l yX0_install (ws_ yX0_install cX0_install 2 (some .int)) rmX0_install (PcS G a1 (cmb σ τ) [.ref (ga G 0 0)]) (QIa G (fun u => cmb u τ) Q) 1 66047 (gA G) := by
  refine met_w (by decide) (Nat.le_of_ble_eq_true rfl) ?_
  intro p e s m below meth c ls C hH hS hl
  have C : Cx p e s m _ meth c cX0_install 2 (some .int) "WebHost" G := C
  have hl : lv_has ls 2 [(0, .ref (ga G 0 0))] := hl
  have hx := C.1
  have hb := C.2.1
  have hown := C.2.2.2.2.2.1
  have hts := C.2.2.2.2.2.2.1
  obtain ⟨locs, hlocs⟩ : ∃ z : List Loc, z = [] := ⟨_, rfl⟩
  obtain ⟨H, hHe⟩ : ∃ z : Heap, z = s.heap := ⟨_, rfl⟩
  have hH : Hd G a1 (cmb σ τ) H := by rw [hHe]; exact hH
  have hS : va_S (gA G) s.heap H locs := by rw [hHe, hlocs]; exact hS
  refine W.heap0 hHe.symm hlocs.symm ?_
  refine lv_aload_n hx hb dX0_install_0 rfl (lv_at hl 0 rfl) ?_
  refine g0_1 C hH q744 dX0_install_1 ?_
  refine lv_ldc (v := 65535) hx hb hown (hts _ q804) dX0_install_4 ?_
  refine lv_icmp_le (tgt := 11) hx hb dX0_install_6 (by decide) (fun h => ?_) (fun h => ?_)
  · have hw := hw.1 h
    refine lv_aload_n hx hb dX0_install_11 rfl (lv_at hl 0 rfl) ?_
    refine g0_1 C hH q744 dX0_install_12 ?_
    refine lv_istore_n (lv' := [(1, .int (σ 0 0 1)), (0, .ref (ga G 0 0))]) hx hb dX0_install_15 rfl hl (by decide) rfl (fun ls hl => ?_)
    refine lv_aload_n hx hb dX0_install_16 rfl (lv_at hl 1 rfl) ?_
    refine g0_2 C hH q745 dX0_install_17 ?_
    refine lv_iload_n hx hb dX0_install_20 rfl (lv_at hl 0 rfl) ?_
    obtain ⟨hw1, hw2, hw3, hw⟩ := hw
    refine new21 C hH hS hw1 hw2 hw3 (Nat.le_of_ble_eq_true rfl) (Nat.le_of_ble_eq_true rfl) q199 dX0_install_21 dX0_install_23 (fun σ1 e1 a1 H locs hH hS => ?_)
    have hw := hw σ1 e1
    refine lv_aload_n hx hb dX0_install_26 rfl (lv_at hl 1 rfl) ?_
    refine g0_0 C hH q743 dX0_install_27 ?_
    refine lv_iconst (v := 0) hx hb dX0_install_30 (by decide) ?_
    refine lv_aload_n hx hb dX0_install_31 rfl (lv_at hl 1 rfl) ?_
    refine g0_2 C hH q745 dX0_install_32 ?_
    refine g1_0 C hH q199 dX0_install_35 ?_
    refine lv_iconst (v := 0) hx hb dX0_install_38 (by decide) ?_
    refine lv_iload_n hx hb dX0_install_39 rfl (lv_at hl 0 rfl) ?_
    refine kc_v (rn_s (As := [.ref (adr G a1 20 0), .int 0, .ref (adr G a1 21 0), .int 0, .int (σ 0 0 1)]) (rest := []) C hH hS (m19_copy l G a1 τ σ1 20 0 0 21 0 0 (σ 0 0 1) (by decide) (by decide) _ hw) (va_cwS 5 hts (lw_S q805 q806 q176 q807) rfl rfl rfl kX19_copy.2 ⟨Nat.le_of_ble_eq_true rfl, Nat.le_of_ble_eq_true rfl⟩) rfl hl.1 rfl (Nat.le_of_ble_eq_true rfl) dX0_install_40 ⟨Nat.le_of_ble_eq_true rfl, Nat.le_of_ble_eq_true rfl⟩) hS (fun σ2 H locs hw hH hS => ?_)
    refine lv_aload_n hx hb dX0_install_43 rfl (lv_at hl 1 rfl) ?_
    refine lv_iconst (v := 0) hx hb dX0_install_44 (by decide) ?_
    refine p0_1 C hH hS q744 dX0_install_45 (fun σ3 e3 H locs hH hS => ?_)
    have hw := hw σ3 e3
    refine lv_aload_n hx hb dX0_install_48 rfl (lv_at hl 1 rfl) ?_
    refine lv_iconst (v := 0) hx hb dX0_install_49 (by decide) ?_
    refine p0_11 C hH hS (Or.inl rfl) q754 dX0_install_50 (fun σ4 e4 H locs hH hS => ?_)
    have hw := hw σ4 e4
    refine lv_iload_n hx hb dX0_install_53 rfl (lv_at hl 0 rfl) ?_
    exact rt_ia C rfl hH hS hw dX0_install_54
  have hw := hw.2 h
  refine lv_iconst (v := (-1)) hx hb dX0_install_9 (by decide) ?_
  refine W.widen (k := 1) (n := 66047) (Nat.zero_le _) (Nat.zero_le _) ?_
  exact rt_ia C rfl hH hS hw dX0_install_10
/-! java/lang/String.checkIndex(II)V -/
abbrev cJ1_checkIndex : ByteArray := prog_24_method_155_code
def yJ1_checkIndex : MethodName := ⟨RJ1, "checkIndex", "(II)V"⟩
theorem dJ1_checkIndex_0 : decode cJ1_checkIndex 0 = .ok (.iload_n 0, 1) := by decide +kernel
theorem dJ1_checkIndex_1 : decode cJ1_checkIndex 1 = .ok (.iload_n 1, 1) := by decide +kernel
theorem dJ1_checkIndex_2 : decode cJ1_checkIndex 2 = .ok (.getstatic 1053, 3) := by decide +kernel
theorem dJ1_checkIndex_5 : decode cJ1_checkIndex 5 = .ok (.invokestatic 1059, 3) := by decide +kernel
theorem dJ1_checkIndex_8 : decode cJ1_checkIndex 8 = .ok (.pop, 1) := by decide +kernel
theorem dJ1_checkIndex_9 : decode cJ1_checkIndex 9 = .ok (.return_, 1) := by decide +kernel
def rmXJ1_checkIndex : Room := { frames := 1, cells := 0, slots := 0, locals := 22 }
theorem kXJ1_checkIndex : yJ1_checkIndex.cls = "java/lang/String" ∧ yJ1_checkIndex.cls ≠ "java/lang/invoke/MethodHandle" ∧ yJ1_checkIndex.cls ≠ "java/lang/invoke/VarHandle" ∧ (parseMethodDescriptor yJ1_checkIndex.desc).map (fun d => d.parameters.length) = some 2 := by decide +kernel
def wJ1_checkIndex (x0 : Int32) (x1 : Int32) (Q : Prop) : Prop := wJ3_checkIndex x0 x1 (fun r2 => (Q))
set_option maxHeartbeats 4000000 in
theorem mJ1_checkIndex (l : Launch) (G : Gh) (a1 : Nat → Nat → Nat) (τ : St) (σ : St) (H : Heap) (x0 : Int32) (x1 : Int32) (Q : Prop) (hw : wJ1_checkIndex x0 x1 Q) : Met l yJ1_checkIndex (ws_ yJ1_checkIndex cJ1_checkIndex 2 none) rmXJ1_checkIndex (PcP G a1 (σ) H [.int x0, .int x1]) (QVp G H Q) 0 0 (gA G) := by
  refine met_p (by decide) (Nat.le_of_ble_eq_true rfl) ?_
  intro p e s m below meth c ls hHe C hH hS hl
  have C : Cx p e s m _ meth c cJ1_checkIndex 2 none "java/lang/String" G := C
  have hl : lv_has ls 2 [(0, .int x0), (1, .int x1)] := hl
  have hx := C.1
  have hb := C.2.1
  have hown := C.2.2.2.2.2.1
  have hts := C.2.2.2.2.2.2.1
  obtain ⟨locs, hlocs⟩ : ∃ z : List Loc, z = [] := ⟨_, rfl⟩
  rw [← hlocs] at hS ⊢
  refine lv_iload_n hx hb dJ1_checkIndex_0 rfl (lv_at hl 0 rfl) ?_
  refine lv_iload_n hx hb dJ1_checkIndex_1 rfl (lv_at hl 1 rfl) ?_
  refine str_ff C hS q1296 dJ1_checkIndex_2 (fun v1 hv1 => ?_)
  refine kc_ip (rn_sp (As := [.int x0, .int x1, v1]) (rest := []) C hH hS (mJ3_checkIndex l G a1 τ σ H x0 x1 v1 hv1 _ hw) (va_cwS 3 hts (lw_S q1298 q1299 q180 q1300) rfl rfl rfl kXJ3_checkIndex.2 ⟨Nat.le_of_ble_eq_true rfl, Nat.le_of_ble_eq_true rfl⟩) rfl hl.1 rfl (Nat.le_of_ble_eq_true rfl) dJ1_checkIndex_5 ⟨Nat.le_of_ble_eq_true rfl, Nat.le_of_ble_eq_true rfl⟩) hS (fun r2 locs hw hS => ?_)
  refine lv_pop hx hb dJ1_checkIndex_8 rfl ?_
  exact rt_vp C hS hw dJ1_checkIndex_9
/-! java/lang/StringLatin1.indexOf([BIII)I -/
abbrev cJ2_indexOf : ByteArray := prog_25_method_22_code
def yJ2_indexOf : MethodName := ⟨RJ2, "indexOf", "([BIII)I"⟩
theorem dJ2_indexOf_0 : decode cJ2_indexOf 0 = .ok (.iload_n 1, 1) := by decide +kernel
theorem dJ2_indexOf_1 : decode cJ2_indexOf 1 = .ok (.invokestatic 88, 3) := by decide +kernel
theorem dJ2_indexOf_4 : decode cJ2_indexOf 4 = .ok (.ifCond .ne 5, 3) := by decide +kernel
theorem dJ2_indexOf_7 : decode cJ2_indexOf 7 = .ok (.iconst (-1), 1) := by decide +kernel
theorem dJ2_indexOf_8 : decode cJ2_indexOf 8 = .ok (.ireturn, 1) := by decide +kernel
theorem dJ2_indexOf_9 : decode cJ2_indexOf 9 = .ok (.iload_n 2, 1) := by decide +kernel
theorem dJ2_indexOf_10 : decode cJ2_indexOf 10 = .ok (.iconst 0, 1) := by decide +kernel
theorem dJ2_indexOf_11 : decode cJ2_indexOf 11 = .ok (.invokestatic 92, 3) := by decide +kernel
theorem dJ2_indexOf_14 : decode cJ2_indexOf 14 = .ok (.istore_n 2, 1) := by decide +kernel
theorem dJ2_indexOf_15 : decode cJ2_indexOf 15 = .ok (.iload_n 3, 1) := by decide +kernel
theorem dJ2_indexOf_16 : decode cJ2_indexOf 16 = .ok (.aload_n 0, 1) := by decide +kernel
theorem dJ2_indexOf_17 : decode cJ2_indexOf 17 = .ok (.arraylength, 1) := by decide +kernel
theorem dJ2_indexOf_18 : decode cJ2_indexOf 18 = .ok (.invokestatic 38, 3) := by decide +kernel
theorem dJ2_indexOf_21 : decode cJ2_indexOf 21 = .ok (.istore_n 3, 1) := by decide +kernel
theorem dJ2_indexOf_22 : decode cJ2_indexOf 22 = .ok (.iload_n 2, 1) := by decide +kernel
theorem dJ2_indexOf_23 : decode cJ2_indexOf 23 = .ok (.iload_n 3, 1) := by decide +kernel
theorem dJ2_indexOf_24 : decode cJ2_indexOf 24 = .ok (.if_icmp .lt 5, 3) := by decide +kernel
theorem dJ2_indexOf_27 : decode cJ2_indexOf 27 = .ok (.iconst (-1), 1) := by decide +kernel
theorem dJ2_indexOf_28 : decode cJ2_indexOf 28 = .ok (.ireturn, 1) := by decide +kernel
theorem dJ2_indexOf_29 : decode cJ2_indexOf 29 = .ok (.aload_n 0, 1) := by decide +kernel
theorem dJ2_indexOf_30 : decode cJ2_indexOf 30 = .ok (.iload_n 1, 1) := by decide +kernel
theorem dJ2_indexOf_31 : decode cJ2_indexOf 31 = .ok (.iload_n 2, 1) := by decide +kernel
theorem dJ2_indexOf_32 : decode cJ2_indexOf 32 = .ok (.iload_n 3, 1) := by decide +kernel
theorem dJ2_indexOf_33 : decode cJ2_indexOf 33 = .ok (.invokestatic 95, 3) := by decide +kernel
theorem dJ2_indexOf_36 : decode cJ2_indexOf 36 = .ok (.ireturn, 1) := by decide +kernel
def rmXJ2_indexOf : Room := { frames := 1, cells := 0, slots := 0, locals := 25 }
theorem kXJ2_indexOf : yJ2_indexOf.cls = "java/lang/StringLatin1" ∧ yJ2_indexOf.cls ≠ "java/lang/invoke/MethodHandle" ∧ yJ2_indexOf.cls ≠ "java/lang/invoke/VarHandle" ∧ (parseMethodDescriptor yJ2_indexOf.desc).map (fun d => d.parameters.length) = some 4 := by decide +kernel
def wJ2_indexOf (t0 : Nat) (x1 : Int32) (x2 : Int32) (x3 : Int32) (Q : Int32 → Prop) : Prop := wJ2_canEncode x1 (fun r1 => ((¬ r1 = 0 → (((imax x2 0) < (imin x3 (slI t0)) → (wJ2_indexOfChar t0 x1 (imax x2 0) (imin x3 (slI t0)) (fun r2 => (Q r2)))) ∧ (¬ (imax x2 0) < (imin x3 (slI t0)) → (Q (-1))))) ∧ (r1 = 0 → (Q (-1)))))
set_option maxHeartbeats 4000000 in
theorem mJ2_indexOf (l : Launch) (G : Gh) (a1 : Nat → Nat → Nat) (τ : St) (σ : St) (H : Heap) (t0 : Nat) (x1 : Int32) (x2 : Int32) (x3 : Int32) (ht0 : t0 < nS) (Q : Int32 → Prop) (hw : wJ2_indexOf t0 x1 x2 x3 Q) : Met l yJ2_indexOf (ws_ yJ2_indexOf cJ2_indexOf 4 (some .int)) rmXJ2_indexOf (PcP G a1 (σ) H [.ref (gv G t0), .int x1, .int x2, .int x3]) (QIp G H Q) 0 0 (gA G) := by
  refine met_p (by decide) (Nat.le_of_ble_eq_true rfl) ?_
  intro p e s m below meth c ls hHe C hH hS hl
  have C : Cx p e s m _ meth c cJ2_indexOf 4 (some .int) "java/lang/StringLatin1" G := C
  have hl : lv_has ls 4 [(0, .ref (gv G t0)), (1, .int x1), (2, .int x2), (3, .int x3)] := hl
  have hx := C.1
  have hb := C.2.1
  have hown := C.2.2.2.2.2.1
  have hts := C.2.2.2.2.2.2.1
  obtain ⟨locs, hlocs⟩ : ∃ z : List Loc, z = [] := ⟨_, rfl⟩
  rw [← hlocs] at hS ⊢
  refine lv_iload_n hx hb dJ2_indexOf_0 rfl (lv_at hl 1 rfl) ?_
  refine kc_ip (rn_sp (As := [.int x1]) (rest := []) C hH hS (mJ2_canEncode l G a1 τ σ H x1 _ hw) (va_cwS 1 hts (lw_S q1405 q1406 q179 q1407) rfl rfl rfl kXJ2_canEncode.2 ⟨Nat.le_of_ble_eq_true rfl, Nat.le_of_ble_eq_true rfl⟩) rfl hl.1 rfl (Nat.le_of_ble_eq_true rfl) dJ2_indexOf_1 ⟨Nat.le_of_ble_eq_true rfl, Nat.le_of_ble_eq_true rfl⟩) hS (fun r1 locs hw hS => ?_)
  refine lv_if_ne (tgt := 9) hx hb dJ2_indexOf_4 (by decide) (fun h => ?_) (fun h => ?_)
  · have hw := hw.1 h
    refine lv_iload_n hx hb dJ2_indexOf_9 rfl (lv_at hl 2 rfl) ?_
    refine lv_iconst (v := 0) hx hb dJ2_indexOf_10 (by decide) ?_
    refine r_imax C hl.1 q1408 (Nat.le_of_ble_eq_true rfl) (Nat.le_of_ble_eq_true rfl) (Nat.zero_le _) (Nat.zero_le _) dJ2_indexOf_11 ?_
    refine lv_istore_n (lv' := [(2, .int (imax x2 0)), (0, .ref (gv G t0)), (1, .int x1), (3, .int x3)]) hx hb dJ2_indexOf_14 rfl hl (by decide) rfl (fun ls hl => ?_)
    refine lv_iload_n hx hb dJ2_indexOf_15 rfl (lv_at hl 3 rfl) ?_
    refine lv_aload_n hx hb dJ2_indexOf_16 rfl (lv_at hl 1 rfl) ?_
    refine str_alen C hS ht0 dJ2_indexOf_17 ?_
    refine r_imin C hl.1 q1409 (Nat.le_of_ble_eq_true rfl) (Nat.le_of_ble_eq_true rfl) (Nat.zero_le _) (Nat.zero_le _) dJ2_indexOf_18 ?_
    refine lv_istore_n (lv' := [(3, .int (imin x3 (slI t0))), (2, .int (imax x2 0)), (0, .ref (gv G t0)), (1, .int x1)]) hx hb dJ2_indexOf_21 rfl hl (by decide) rfl (fun ls hl => ?_)
    refine lv_iload_n hx hb dJ2_indexOf_22 rfl (lv_at hl 1 rfl) ?_
    refine lv_iload_n hx hb dJ2_indexOf_23 rfl (lv_at hl 0 rfl) ?_
    refine lv_icmp_lt (tgt := 29) hx hb dJ2_indexOf_24 (by decide) (fun h => ?_) (fun h => ?_)
    · have hw := hw.1 h
      refine lv_aload_n hx hb dJ2_indexOf_29 rfl (lv_at hl 2 rfl) ?_
      refine lv_iload_n hx hb dJ2_indexOf_30 rfl (lv_at hl 3 rfl) ?_
      refine lv_iload_n hx hb dJ2_indexOf_31 rfl (lv_at hl 1 rfl) ?_
      refine lv_iload_n hx hb dJ2_indexOf_32 rfl (lv_at hl 0 rfl) ?_
      refine kc_ip (rn_sp (As := [.ref (gv G t0), .int x1, .int (imax x2 0), .int (imin x3 (slI t0))]) (rest := []) C hH hS (mJ2_indexOfChar l G a1 τ σ H t0 x1 (imax x2 0) (imin x3 (slI t0)) ht0 _ hw) (va_cwS 4 hts (lw_S q1410 q1411 q179 q1412) rfl rfl rfl kXJ2_indexOfChar.2 ⟨Nat.le_of_ble_eq_true rfl, Nat.le_of_ble_eq_true rfl⟩) rfl hl.1 rfl (Nat.le_of_ble_eq_true rfl) dJ2_indexOf_33 ⟨Nat.le_of_ble_eq_true rfl, Nat.le_of_ble_eq_true rfl⟩) hS (fun r2 locs hw hS => ?_)
      exact rt_ip C rfl hS hw dJ2_indexOf_36
    have hw := hw.2 h
    refine lv_iconst (v := (-1)) hx hb dJ2_indexOf_27 (by decide) ?_
    exact rt_ip C rfl hS hw dJ2_indexOf_28
  have hw := hw.2 h
  refine lv_iconst (v := (-1)) hx hb dJ2_indexOf_7 (by decide) ?_
  exact rt_ip C rfl hS hw dJ2_indexOf_8
/-! java/lang/String.length()I -/
abbrev cJ1_length : ByteArray := prog_24_method_54_code
def yJ1_length : MethodName := ⟨RJ1, "length", "()I"⟩
theorem dJ1_length_0 : decode cJ1_length 0 = .ok (.aload_n 0, 1) := by decide +kernel
theorem dJ1_length_1 : decode cJ1_length 1 = .ok (.getfield 9, 3) := by decide +kernel
theorem dJ1_length_4 : decode cJ1_length 4 = .ok (.arraylength, 1) := by decide +kernel
theorem dJ1_length_5 : decode cJ1_length 5 = .ok (.aload_n 0, 1) := by decide +kernel
theorem dJ1_length_6 : decode cJ1_length 6 = .ok (.invokevirtual 335, 3) := by decide +kernel
theorem dJ1_length_9 : decode cJ1_length 9 = .ok (.ishr, 1) := by decide +kernel
theorem dJ1_length_10 : decode cJ1_length 10 = .ok (.ireturn, 1) := by decide +kernel
def rmXJ1_length : Room := { frames := 1, cells := 0, slots := 0, locals := 20 }
theorem kXJ1_length : yJ1_length.cls = "java/lang/String" ∧ yJ1_length.cls ≠ "java/lang/invoke/MethodHandle" ∧ yJ1_length.cls ≠ "java/lang/invoke/VarHandle" ∧ (parseMethodDescriptor yJ1_length.desc).map (fun d => d.parameters.length) = some 0 := by decide +kernel
def wJ1_length (t0 : Nat) (Q : Int32 → Prop) : Prop := wJ1_coder t0 (fun r1 => (Q ((slI t0) >>> (r1 &&& 31))))
set_option maxHeartbeats 4000000 in
theorem mJ1_length (l : Launch) (G : Gh) (a1 : Nat → Nat → Nat) (τ : St) (σ : St) (H : Heap) (t0 : Nat) (ht0 : t0 < nS) (Q : Int32 → Prop) (hw : wJ1_length t0 Q) : Met l yJ1_length (ws_ yJ1_length cJ1_length 1 (some .int)) rmXJ1_length (PcP G a1 (σ) H [.ref (gs G t0)]) (QIp G H Q) 0 0 (gA G) := by
  refine met_p (by decide) (Nat.le_of_ble_eq_true rfl) ?_
  intro p e s m below meth c ls hHe C hH hS hl
  have C : Cx p e s m _ meth c cJ1_length 1 (some .int) "java/lang/String" G := C
  have hl : lv_has ls 1 [(0, .ref (gs G t0))] := hl
  have hx := C.1
  have hb := C.2.1
  have hown := C.2.2.2.2.2.1
  have hts := C.2.2.2.2.2.2.1
  obtain ⟨locs, hlocs⟩ : ∃ z : List Loc, z = [] := ⟨_, rfl⟩
  rw [← hlocs] at hS ⊢
  refine lv_aload_n hx hb dJ1_length_0 rfl (lv_at hl 0 rfl) ?_
  refine str_val C hS ht0 q2673 dJ1_length_1 ?_
  refine str_alen C hS ht0 dJ1_length_4 ?_
  refine lv_aload_n hx hb dJ1_length_5 rfl (lv_at hl 0 rfl) ?_
  refine kc_ip (rn_vS (As := []) (rest := [.int (slI t0)]) C hH hS ht0 (mJ1_coder l G a1 τ σ H t0 ht0 _ hw) (cwV 0 hts (lw_V q1276 q1277 q1278 q178 q1279) rfl rfl rfl kXJ1_coder ⟨Nat.le_of_ble_eq_true rfl, Nat.le_of_ble_eq_true rfl⟩) rfl hl.1 rfl (Nat.le_of_ble_eq_true rfl) dJ1_length_6 ⟨Nat.le_of_ble_eq_true rfl, Nat.le_of_ble_eq_true rfl⟩) hS (fun r1 locs hw hS => ?_)
  refine lv_ishr hx hb dJ1_length_9 ?_
  exact rt_ip C rfl hS hw dJ1_length_10
/-! java/lang/StringLatin1.charAt([BI)C -/
abbrev cJ2_charAt : ByteArray := prog_25_method_2_code
def yJ2_charAt : MethodName := ⟨RJ2, "charAt", "([BI)C"⟩
theorem dJ2_charAt_0 : decode cJ2_charAt 0 = .ok (.iload_n 1, 1) := by decide +kernel
theorem dJ2_charAt_1 : decode cJ2_charAt 1 = .ok (.aload_n 0, 1) := by decide +kernel
theorem dJ2_charAt_2 : decode cJ2_charAt 2 = .ok (.arraylength, 1) := by decide +kernel
theorem dJ2_charAt_3 : decode cJ2_charAt 3 = .ok (.invokestatic 9, 3) := by decide +kernel
theorem dJ2_charAt_6 : decode cJ2_charAt 6 = .ok (.aload_n 0, 1) := by decide +kernel
theorem dJ2_charAt_7 : decode cJ2_charAt 7 = .ok (.iload_n 1, 1) := by decide +kernel
theorem dJ2_charAt_8 : decode cJ2_charAt 8 = .ok (.baload, 1) := by decide +kernel
theorem dJ2_charAt_9 : decode cJ2_charAt 9 = .ok (.sipush 255, 3) := by decide +kernel
theorem dJ2_charAt_12 : decode cJ2_charAt 12 = .ok (.iand, 1) := by decide +kernel
theorem dJ2_charAt_13 : decode cJ2_charAt 13 = .ok (.i2c, 1) := by decide +kernel
theorem dJ2_charAt_14 : decode cJ2_charAt 14 = .ok (.ireturn, 1) := by decide +kernel
def rmXJ2_charAt : Room := { frames := 2, cells := 0, slots := 0, locals := 43 }
theorem kXJ2_charAt : yJ2_charAt.cls = "java/lang/StringLatin1" ∧ yJ2_charAt.cls ≠ "java/lang/invoke/MethodHandle" ∧ yJ2_charAt.cls ≠ "java/lang/invoke/VarHandle" ∧ (parseMethodDescriptor yJ2_charAt.desc).map (fun d => d.parameters.length) = some 2 := by decide +kernel
def wJ2_charAt (t0 : Nat) (x1 : Int32) (Q : Int32 → Prop) : Prop := wJ1_checkIndex x1 (slI t0) (vp_in x1 (sLen.getD t0 0) ∧ (ch16 ((((sby t0 x1) &&& 255).toUInt32 % 65536).toInt32) ∧ (Q ((((sby t0 x1) &&& 255).toUInt32 % 65536).toInt32))))
set_option maxHeartbeats 4000000 in
theorem mJ2_charAt (l : Launch) (G : Gh) (a1 : Nat → Nat → Nat) (τ : St) (σ : St) (H : Heap) (t0 : Nat) (x1 : Int32) (ht0 : t0 < nS) (Q : Int32 → Prop) (hw : wJ2_charAt t0 x1 Q) : Met l yJ2_charAt (ws_ yJ2_charAt cJ2_charAt 2 (some .char)) rmXJ2_charAt (PcP G a1 (σ) H [.ref (gv G t0), .int x1]) (QIp G H Q) 0 0 (gA G) := by
  refine met_p (by decide) (Nat.le_of_ble_eq_true rfl) ?_
  intro p e s m below meth c ls hHe C hH hS hl
  have C : Cx p e s m _ meth c cJ2_charAt 2 (some .char) "java/lang/StringLatin1" G := C
  have hl : lv_has ls 2 [(0, .ref (gv G t0)), (1, .int x1)] := hl
  have hx := C.1
  have hb := C.2.1
  have hown := C.2.2.2.2.2.1
  have hts := C.2.2.2.2.2.2.1
  obtain ⟨locs, hlocs⟩ : ∃ z : List Loc, z = [] := ⟨_, rfl⟩
  rw [← hlocs] at hS ⊢
  refine lv_iload_n hx hb dJ2_charAt_0 rfl (lv_at hl 1 rfl) ?_
  refine lv_aload_n hx hb dJ2_charAt_1 rfl (lv_at hl 0 rfl) ?_
  refine str_alen C hS ht0 dJ2_charAt_2 ?_
  refine kc_vp (rn_sp (As := [.int x1, .int (slI t0)]) (rest := []) C hH hS (mJ1_checkIndex l G a1 τ σ H x1 (slI t0) _ hw) (va_cwS 2 hts (lw_S q1293 q1294 q178 q1295) rfl rfl rfl kXJ1_checkIndex.2 ⟨Nat.le_of_ble_eq_true rfl, Nat.le_of_ble_eq_true rfl⟩) rfl hl.1 rfl (Nat.le_of_ble_eq_true rfl) dJ2_charAt_3 ⟨Nat.le_of_ble_eq_true rfl, Nat.le_of_ble_eq_true rfl⟩) hS (fun locs hw hS => ?_)
  refine lv_aload_n hx hb dJ2_charAt_6 rfl (lv_at hl 0 rfl) ?_
  refine lv_iload_n hx hb dJ2_charAt_7 rfl (lv_at hl 1 rfl) ?_
  refine str_bald C hS ht0 hw.1 dJ2_charAt_8 ?_
  have hw := hw.2
  refine lv_sipush (v := 255) hx hb dJ2_charAt_9 (by decide) ?_
  refine lv_iand hx hb dJ2_charAt_12 ?_
  refine lv_i2c (v := (((sby t0 x1) &&& 255).toUInt32 % 65536).toInt32) hx hb dJ2_charAt_13 rfl ?_
  exact rt_ip C hw.1 hS hw.2 dJ2_charAt_14
/-! java/lang/String.indexOf(II)I -/
abbrev cJ1_indexOf_2 : ByteArray := prog_24_method_80_code
def yJ1_indexOf_2 : MethodName := ⟨RJ1, "indexOf", "(II)I"⟩
theorem dJ1_indexOf_2_0 : decode cJ1_indexOf_2 0 = .ok (.aload_n 0, 1) := by decide +kernel
theorem dJ1_indexOf_2_1 : decode cJ1_indexOf_2 1 = .ok (.invokevirtual 492, 3) := by decide +kernel
theorem dJ1_indexOf_2_4 : decode cJ1_indexOf_2 4 = .ok (.ifCond .eq 19, 3) := by decide +kernel
theorem dJ1_indexOf_2_7 : decode cJ1_indexOf_2 7 = .ok (.aload_n 0, 1) := by decide +kernel
theorem dJ1_indexOf_2_8 : decode cJ1_indexOf_2 8 = .ok (.getfield 9, 3) := by decide +kernel
theorem dJ1_indexOf_2_11 : decode cJ1_indexOf_2 11 = .ok (.iload_n 1, 1) := by decide +kernel
theorem dJ1_indexOf_2_12 : decode cJ1_indexOf_2 12 = .ok (.iload_n 2, 1) := by decide +kernel
theorem dJ1_indexOf_2_13 : decode cJ1_indexOf_2 13 = .ok (.aload_n 0, 1) := by decide +kernel
theorem dJ1_indexOf_2_14 : decode cJ1_indexOf_2 14 = .ok (.invokevirtual 505, 3) := by decide +kernel
theorem dJ1_indexOf_2_17 : decode cJ1_indexOf_2 17 = .ok (.invokestatic 637, 3) := by decide +kernel
theorem dJ1_indexOf_2_20 : decode cJ1_indexOf_2 20 = .ok (.goto 16, 3) := by decide +kernel
theorem dJ1_indexOf_2_23 : decode cJ1_indexOf_2 23 = .ok (.aload_n 0, 1) := by decide +kernel
theorem dJ1_indexOf_2_24 : decode cJ1_indexOf_2 24 = .ok (.getfield 9, 3) := by decide +kernel
theorem dJ1_indexOf_2_27 : decode cJ1_indexOf_2 27 = .ok (.iload_n 1, 1) := by decide +kernel
theorem dJ1_indexOf_2_28 : decode cJ1_indexOf_2 28 = .ok (.iload_n 2, 1) := by decide +kernel
theorem dJ1_indexOf_2_29 : decode cJ1_indexOf_2 29 = .ok (.aload_n 0, 1) := by decide +kernel
theorem dJ1_indexOf_2_30 : decode cJ1_indexOf_2 30 = .ok (.invokevirtual 505, 3) := by decide +kernel
theorem dJ1_indexOf_2_33 : decode cJ1_indexOf_2 33 = .ok (.invokestatic 640, 3) := by decide +kernel
theorem dJ1_indexOf_2_36 : decode cJ1_indexOf_2 36 = .ok (.ireturn, 1) := by decide +kernel
def rmXJ1_indexOf_2 : Room := { frames := 2, cells := 0, slots := 0, locals := 48 }
theorem kXJ1_indexOf_2 : yJ1_indexOf_2.cls = "java/lang/String" ∧ yJ1_indexOf_2.cls ≠ "java/lang/invoke/MethodHandle" ∧ yJ1_indexOf_2.cls ≠ "java/lang/invoke/VarHandle" ∧ (parseMethodDescriptor yJ1_indexOf_2.desc).map (fun d => d.parameters.length) = some 2 := by decide +kernel
def wJ1_indexOf_2 (t0 : Nat) (x1 : Int32) (x2 : Int32) (Q : Int32 → Prop) : Prop := wJ1_isLatin1 t0 (fun r1 => ((r1 = 0 → False) ∧ (¬ r1 = 0 → (wJ1_length t0 (fun r2 => (wJ2_indexOf t0 x1 x2 r2 (fun r3 => (Q r3))))))))
set_option maxHeartbeats 4000000 in
theorem mJ1_indexOf_2 (l : Launch) (G : Gh) (a1 : Nat → Nat → Nat) (τ : St) (σ : St) (H : Heap) (t0 : Nat) (x1 : Int32) (x2 : Int32) (ht0 : t0 < nS) (Q : Int32 → Prop) (hw : wJ1_indexOf_2 t0 x1 x2 Q) : Met l yJ1_indexOf_2 (ws_ yJ1_indexOf_2 cJ1_indexOf_2 3 (some .int)) rmXJ1_indexOf_2 (PcP G a1 (σ) H [.ref (gs G t0), .int x1, .int x2]) (QIp G H Q) 0 0 (gA G) := by
  refine met_p (by decide) (Nat.le_of_ble_eq_true rfl) ?_
  intro p e s m below meth c ls hHe C hH hS hl
  have C : Cx p e s m _ meth c cJ1_indexOf_2 3 (some .int) "java/lang/String" G := C
  have hl : lv_has ls 3 [(0, .ref (gs G t0)), (1, .int x1), (2, .int x2)] := hl
  have hx := C.1
  have hb := C.2.1
  have hown := C.2.2.2.2.2.1
  have hts := C.2.2.2.2.2.2.1
  obtain ⟨locs, hlocs⟩ : ∃ z : List Loc, z = [] := ⟨_, rfl⟩
  rw [← hlocs] at hS ⊢
  refine lv_aload_n hx hb dJ1_indexOf_2_0 rfl (lv_at hl 0 rfl) ?_
  refine kc_ip (rn_vS (As := []) (rest := []) C hH hS ht0 (mJ1_isLatin1 l G a1 τ σ H t0 ht0 _ hw) (cwV 0 hts (lw_V q1286 q1287 q1288 q178 q1289) rfl rfl rfl kXJ1_isLatin1 ⟨Nat.le_of_ble_eq_true rfl, Nat.le_of_ble_eq_true rfl⟩) rfl hl.1 rfl (Nat.le_of_ble_eq_true rfl) dJ1_indexOf_2_1 ⟨Nat.le_of_ble_eq_true rfl, Nat.le_of_ble_eq_true rfl⟩) hS (fun r1 locs hw hS => ?_)
  refine lv_if_eq (tgt := 23) hx hb dJ1_indexOf_2_4 (by decide) (fun h => ?_) (fun h => ?_)
  · have hw := hw.1 h
    exact hw.elim
  have hw := hw.2 h
  refine lv_aload_n hx hb dJ1_indexOf_2_7 rfl (lv_at hl 0 rfl) ?_
  refine str_val C hS ht0 q2673 dJ1_indexOf_2_8 ?_
  refine lv_iload_n hx hb dJ1_indexOf_2_11 rfl (lv_at hl 1 rfl) ?_
  refine lv_iload_n hx hb dJ1_indexOf_2_12 rfl (lv_at hl 2 rfl) ?_
  refine lv_aload_n hx hb dJ1_indexOf_2_13 rfl (lv_at hl 0 rfl) ?_
  refine kc_ip (rn_vS (As := []) (rest := [.int x2, .int x1, .ref (gv G t0)]) C hH hS ht0 (mJ1_length l G a1 τ σ H t0 ht0 _ hw) (cwV 0 hts (lw_V q1401 q1273 q1274 q178 q1275) rfl rfl rfl kXJ1_length ⟨Nat.le_of_ble_eq_true rfl, Nat.le_of_ble_eq_true rfl⟩) rfl hl.1 rfl (Nat.le_of_ble_eq_true rfl) dJ1_indexOf_2_14 ⟨Nat.le_of_ble_eq_true rfl, Nat.le_of_ble_eq_true rfl⟩) hS (fun r2 locs hw hS => ?_)
  refine kc_ip (rn_sp (As := [.ref (gv G t0), .int x1, .int x2, .int r2]) (rest := []) C hH hS (mJ2_indexOf l G a1 τ σ H t0 x1 x2 r2 ht0 _ hw) (va_cwS 4 hts (lw_S q1402 q1403 q179 q1404) rfl rfl rfl kXJ2_indexOf.2 ⟨Nat.le_of_ble_eq_true rfl, Nat.le_of_ble_eq_true rfl⟩) rfl hl.1 rfl (Nat.le_of_ble_eq_true rfl) dJ1_indexOf_2_17 ⟨Nat.le_of_ble_eq_true rfl, Nat.le_of_ble_eq_true rfl⟩) hS (fun r3 locs hw hS => ?_)
  refine lv_goto (tgt := 36) hx hb dJ1_indexOf_2_20 (by decide) ?_
  exact rt_ip C rfl hS hw dJ1_indexOf_2_36
/-! java/lang/String.charAt(I)C -/
abbrev cJ1_charAt : ByteArray := prog_24_method_56_code
def yJ1_charAt : MethodName := ⟨RJ1, "charAt", "(I)C"⟩
theorem dJ1_charAt_0 : decode cJ1_charAt 0 = .ok (.aload_n 0, 1) := by decide +kernel
theorem dJ1_charAt_1 : decode cJ1_charAt 1 = .ok (.invokevirtual 492, 3) := by decide +kernel
theorem dJ1_charAt_4 : decode cJ1_charAt 4 = .ok (.ifCond .eq 12, 3) := by decide +kernel
theorem dJ1_charAt_7 : decode cJ1_charAt 7 = .ok (.aload_n 0, 1) := by decide +kernel
theorem dJ1_charAt_8 : decode cJ1_charAt 8 = .ok (.getfield 9, 3) := by decide +kernel
theorem dJ1_charAt_11 : decode cJ1_charAt 11 = .ok (.iload_n 1, 1) := by decide +kernel
theorem dJ1_charAt_12 : decode cJ1_charAt 12 = .ok (.invokestatic 495, 3) := by decide +kernel
theorem dJ1_charAt_15 : decode cJ1_charAt 15 = .ok (.ireturn, 1) := by decide +kernel
theorem dJ1_charAt_16 : decode cJ1_charAt 16 = .ok (.aload_n 0, 1) := by decide +kernel
theorem dJ1_charAt_17 : decode cJ1_charAt 17 = .ok (.getfield 9, 3) := by decide +kernel
theorem dJ1_charAt_20 : decode cJ1_charAt 20 = .ok (.iload_n 1, 1) := by decide +kernel
theorem dJ1_charAt_21 : decode cJ1_charAt 21 = .ok (.invokestatic 498, 3) := by decide +kernel
theorem dJ1_charAt_24 : decode cJ1_charAt 24 = .ok (.ireturn, 1) := by decide +kernel
def rmXJ1_charAt : Room := { frames := 3, cells := 0, slots := 0, locals := 64 }
theorem kXJ1_charAt : yJ1_charAt.cls = "java/lang/String" ∧ yJ1_charAt.cls ≠ "java/lang/invoke/MethodHandle" ∧ yJ1_charAt.cls ≠ "java/lang/invoke/VarHandle" ∧ (parseMethodDescriptor yJ1_charAt.desc).map (fun d => d.parameters.length) = some 1 := by decide +kernel
def wJ1_charAt (t0 : Nat) (x1 : Int32) (Q : Int32 → Prop) : Prop := wJ1_isLatin1 t0 (fun r1 => ((r1 = 0 → False) ∧ (¬ r1 = 0 → (wJ2_charAt t0 x1 (fun r2 => (ch16 r2 ∧ (Q r2)))))))
set_option maxHeartbeats 4000000 in
theorem mJ1_charAt (l : Launch) (G : Gh) (a1 : Nat → Nat → Nat) (τ : St) (σ : St) (H : Heap) (t0 : Nat) (x1 : Int32) (ht0 : t0 < nS) (Q : Int32 → Prop) (hw : wJ1_charAt t0 x1 Q) : Met l yJ1_charAt (ws_ yJ1_charAt cJ1_charAt 2 (some .char)) rmXJ1_charAt (PcP G a1 (σ) H [.ref (gs G t0), .int x1]) (QIp G H Q) 0 0 (gA G) := by
  refine met_p (by decide) (Nat.le_of_ble_eq_true rfl) ?_
  intro p e s m below meth c ls hHe C hH hS hl
  have C : Cx p e s m _ meth c cJ1_charAt 2 (some .char) "java/lang/String" G := C
  have hl : lv_has ls 2 [(0, .ref (gs G t0)), (1, .int x1)] := hl
  have hx := C.1
  have hb := C.2.1
  have hown := C.2.2.2.2.2.1
  have hts := C.2.2.2.2.2.2.1
  obtain ⟨locs, hlocs⟩ : ∃ z : List Loc, z = [] := ⟨_, rfl⟩
  rw [← hlocs] at hS ⊢
  refine lv_aload_n hx hb dJ1_charAt_0 rfl (lv_at hl 0 rfl) ?_
  refine kc_ip (rn_vS (As := []) (rest := []) C hH hS ht0 (mJ1_isLatin1 l G a1 τ σ H t0 ht0 _ hw) (cwV 0 hts (lw_V q1286 q1287 q1288 q178 q1289) rfl rfl rfl kXJ1_isLatin1 ⟨Nat.le_of_ble_eq_true rfl, Nat.le_of_ble_eq_true rfl⟩) rfl hl.1 rfl (Nat.le_of_ble_eq_true rfl) dJ1_charAt_1 ⟨Nat.le_of_ble_eq_true rfl, Nat.le_of_ble_eq_true rfl⟩) hS (fun r1 locs hw hS => ?_)
  refine lv_if_eq (tgt := 16) hx hb dJ1_charAt_4 (by decide) (fun h => ?_) (fun h => ?_)
  · have hw := hw.1 h
    exact hw.elim
  have hw := hw.2 h
  refine lv_aload_n hx hb dJ1_charAt_7 rfl (lv_at hl 0 rfl) ?_
  refine str_val C hS ht0 q2673 dJ1_charAt_8 ?_
  refine lv_iload_n hx hb dJ1_charAt_11 rfl (lv_at hl 1 rfl) ?_
  refine kc_ip (rn_sp (As := [.ref (gv G t0), .int x1]) (rest := []) C hH hS (mJ2_charAt l G a1 τ σ H t0 x1 ht0 _ hw) (va_cwS 2 hts (lw_S q1290 q1291 q179 q1292) rfl rfl rfl kXJ2_charAt.2 ⟨Nat.le_of_ble_eq_true rfl, Nat.le_of_ble_eq_true rfl⟩) rfl hl.1 rfl (Nat.le_of_ble_eq_true rfl) dJ1_charAt_12 ⟨Nat.le_of_ble_eq_true rfl, Nat.le_of_ble_eq_true rfl⟩) hS (fun r2 locs hw hS => ?_)
  exact rt_ip C hw.1 hS hw.2 dJ1_charAt_15
/-! java/lang/String.indexOf(I)I -/
abbrev cJ1_indexOf : ByteArray := prog_24_method_79_code
def yJ1_indexOf : MethodName := ⟨RJ1, "indexOf", "(I)I"⟩
theorem dJ1_indexOf_0 : decode cJ1_indexOf 0 = .ok (.aload_n 0, 1) := by decide +kernel
theorem dJ1_indexOf_1 : decode cJ1_indexOf 1 = .ok (.iload_n 1, 1) := by decide +kernel
theorem dJ1_indexOf_2 : decode cJ1_indexOf 2 = .ok (.iconst 0, 1) := by decide +kernel
theorem dJ1_indexOf_3 : decode cJ1_indexOf 3 = .ok (.invokevirtual 633, 3) := by decide +kernel
theorem dJ1_indexOf_6 : decode cJ1_indexOf 6 = .ok (.ireturn, 1) := by decide +kernel
def rmXJ1_indexOf : Room := { frames := 3, cells := 0, slots := 0, locals := 70 }
theorem kXJ1_indexOf : yJ1_indexOf.cls = "java/lang/String" ∧ yJ1_indexOf.cls ≠ "java/lang/invoke/MethodHandle" ∧ yJ1_indexOf.cls ≠ "java/lang/invoke/VarHandle" ∧ (parseMethodDescriptor yJ1_indexOf.desc).map (fun d => d.parameters.length) = some 1 := by decide +kernel
def wJ1_indexOf (t0 : Nat) (x1 : Int32) (Q : Int32 → Prop) : Prop := wJ1_indexOf_2 t0 x1 0 (fun r1 => (Q r1))
set_option maxHeartbeats 4000000 in
theorem mJ1_indexOf (l : Launch) (G : Gh) (a1 : Nat → Nat → Nat) (τ : St) (σ : St) (H : Heap) (t0 : Nat) (x1 : Int32) (ht0 : t0 < nS) (Q : Int32 → Prop) (hw : wJ1_indexOf t0 x1 Q) : Met l yJ1_indexOf (ws_ yJ1_indexOf cJ1_indexOf 2 (some .int)) rmXJ1_indexOf (PcP G a1 (σ) H [.ref (gs G t0), .int x1]) (QIp G H Q) 0 0 (gA G) := by
  refine met_p (by decide) (Nat.le_of_ble_eq_true rfl) ?_
  intro p e s m below meth c ls hHe C hH hS hl
  have C : Cx p e s m _ meth c cJ1_indexOf 2 (some .int) "java/lang/String" G := C
  have hl : lv_has ls 2 [(0, .ref (gs G t0)), (1, .int x1)] := hl
  have hx := C.1
  have hb := C.2.1
  have hown := C.2.2.2.2.2.1
  have hts := C.2.2.2.2.2.2.1
  obtain ⟨locs, hlocs⟩ : ∃ z : List Loc, z = [] := ⟨_, rfl⟩
  rw [← hlocs] at hS ⊢
  refine lv_aload_n hx hb dJ1_indexOf_0 rfl (lv_at hl 0 rfl) ?_
  refine lv_iload_n hx hb dJ1_indexOf_1 rfl (lv_at hl 1 rfl) ?_
  refine lv_iconst (v := 0) hx hb dJ1_indexOf_2 (by decide) ?_
  refine kc_ip (rn_vS (As := [.int x1, .int 0]) (rest := []) C hH hS ht0 (mJ1_indexOf_2 l G a1 τ σ H t0 x1 0 ht0 _ hw) (cwV 2 hts (lw_V q1397 q1398 q1399 q178 q1400) rfl rfl rfl kXJ1_indexOf_2 ⟨Nat.le_of_ble_eq_true rfl, Nat.le_of_ble_eq_true rfl⟩) rfl hl.1 rfl (Nat.le_of_ble_eq_true rfl) dJ1_indexOf_3 ⟨Nat.le_of_ble_eq_true rfl, Nat.le_of_ble_eq_true rfl⟩) hS (fun r1 locs hw hS => ?_)
  exact rt_ip C rfl hS hw dJ1_indexOf_6
/-! WebHost$Store.endsWith(ILjava/lang/String;)Z -/
abbrev cX1_endsWith : ByteArray := prog_13_method_14_code
def yX1_endsWith : MethodName := ⟨RX1, "endsWith", "(ILjava/lang/String;)Z"⟩
theorem dX1_endsWith_0 : decode cX1_endsWith 0 = .ok (.aload_n 0, 1) := by decide +kernel
theorem dX1_endsWith_1 : decode cX1_endsWith 1 = .ok (.iload_n 1, 1) := by decide +kernel
theorem dX1_endsWith_2 : decode cX1_endsWith 2 = .ok (.invokevirtual 53, 3) := by decide +kernel
theorem dX1_endsWith_5 : decode cX1_endsWith 5 = .ok (.istore_n 3, 1) := by decide +kernel
theorem dX1_endsWith_6 : decode cX1_endsWith 6 = .ok (.iload_n 3, 1) := by decide +kernel
theorem dX1_endsWith_7 : decode cX1_endsWith 7 = .ok (.aload_n 2, 1) := by decide +kernel
theorem dX1_endsWith_8 : decode cX1_endsWith 8 = .ok (.invokevirtual 69, 3) := by decide +kernel
theorem dX1_endsWith_11 : decode cX1_endsWith 11 = .ok (.if_icmp .ge 5, 3) := by decide +kernel
theorem dX1_endsWith_14 : decode cX1_endsWith 14 = .ok (.iconst 0, 1) := by decide +kernel
theorem dX1_endsWith_15 : decode cX1_endsWith 15 = .ok (.ireturn, 1) := by decide +kernel
theorem dX1_endsWith_16 : decode cX1_endsWith 16 = .ok (.iconst 0, 1) := by decide +kernel
theorem dX1_endsWith_17 : decode cX1_endsWith 17 = .ok (.istore 4, 2) := by decide +kernel
theorem dX1_endsWith_19 : decode cX1_endsWith 19 = .ok (.iload 4, 2) := by decide +kernel
theorem dX1_endsWith_21 : decode cX1_endsWith 21 = .ok (.aload_n 2, 1) := by decide +kernel
theorem dX1_endsWith_22 : decode cX1_endsWith 22 = .ok (.invokevirtual 69, 3) := by decide +kernel
theorem dX1_endsWith_25 : decode cX1_endsWith 25 = .ok (.if_icmp .ge 39, 3) := by decide +kernel
theorem dX1_endsWith_28 : decode cX1_endsWith 28 = .ok (.aload_n 0, 1) := by decide +kernel
theorem dX1_endsWith_29 : decode cX1_endsWith 29 = .ok (.aload_n 0, 1) := by decide +kernel
theorem dX1_endsWith_30 : decode cX1_endsWith 30 = .ok (.iload_n 1, 1) := by decide +kernel
theorem dX1_endsWith_31 : decode cX1_endsWith 31 = .ok (.invokevirtual 20, 3) := by decide +kernel
theorem dX1_endsWith_34 : decode cX1_endsWith 34 = .ok (.iload_n 3, 1) := by decide +kernel
theorem dX1_endsWith_35 : decode cX1_endsWith 35 = .ok (.iadd, 1) := by decide +kernel
theorem dX1_endsWith_36 : decode cX1_endsWith 36 = .ok (.aload_n 2, 1) := by decide +kernel
theorem dX1_endsWith_37 : decode cX1_endsWith 37 = .ok (.invokevirtual 69, 3) := by decide +kernel
theorem dX1_endsWith_40 : decode cX1_endsWith 40 = .ok (.isub, 1) := by decide +kernel
theorem dX1_endsWith_41 : decode cX1_endsWith 41 = .ok (.iload 4, 2) := by decide +kernel
theorem dX1_endsWith_43 : decode cX1_endsWith 43 = .ok (.iadd, 1) := by decide +kernel
theorem dX1_endsWith_44 : decode cX1_endsWith 44 = .ok (.invokevirtual 24, 3) := by decide +kernel
theorem dX1_endsWith_47 : decode cX1_endsWith 47 = .ok (.aload_n 2, 1) := by decide +kernel
theorem dX1_endsWith_48 : decode cX1_endsWith 48 = .ok (.iload 4, 2) := by decide +kernel
theorem dX1_endsWith_50 : decode cX1_endsWith 50 = .ok (.invokevirtual 74, 3) := by decide +kernel
theorem dX1_endsWith_53 : decode cX1_endsWith 53 = .ok (.if_icmp .eq 5, 3) := by decide +kernel
theorem dX1_endsWith_56 : decode cX1_endsWith 56 = .ok (.iconst 0, 1) := by decide +kernel
theorem dX1_endsWith_57 : decode cX1_endsWith 57 = .ok (.ireturn, 1) := by decide +kernel
theorem dX1_endsWith_58 : decode cX1_endsWith 58 = .ok (.iinc 4 1, 3) := by decide +kernel
theorem dX1_endsWith_61 : decode cX1_endsWith 61 = .ok (.goto (-42), 3) := by decide +kernel
theorem dX1_endsWith_64 : decode cX1_endsWith 64 = .ok (.iconst 1, 1) := by decide +kernel
theorem dX1_endsWith_65 : decode cX1_endsWith 65 = .ok (.ireturn, 1) := by decide +kernel
def rmX1_endsWith : Room := { frames := 4, cells := 0, slots := 0, locals := 85 }
theorem kX1_endsWith : yX1_endsWith.cls = "WebHost$Store" ∧ yX1_endsWith.cls ≠ "java/lang/invoke/MethodHandle" ∧ yX1_endsWith.cls ≠ "java/lang/invoke/VarHandle" ∧ (parseMethodDescriptor yX1_endsWith.desc).map (fun d => d.parameters.length) = some 2 := by decide +kernel
def w1_endsWith_L19 (σ : St) (x1 : Int32) (t2 : Nat) (x3 : Int32) (Q : Int32 → Prop) (K56 : Prop) (K64 : Prop) : Nat → Int32 → Prop
  | 0, _ => False
  | n + 1, x4 => wJ1_length t2 (fun r3 => ((r3 ≤ x4 → K64) ∧ (¬ r3 ≤ x4 → (w1_entry σ x1 (fun r4 => (wJ1_length t2 (fun r5 => (w1_look σ (((r4 + x3) - r5) + x4) (fun r6 => (wJ1_charAt t2 x4 (fun r7 => ((r6 = r7 → (w1_endsWith_L19 σ x1 t2 x3 Q K56 K64 n (x4 + 1))) ∧ (¬ r6 = r7 → K56)))))))))))))
set_option maxHeartbeats 4000000 in
theorem k1_endsWith_L19 {p : Program} {l : Launch} {e : Env} {s : State} {m : MethodId} {args : Array Value} {below : List Frame} {meth : Method} {c : Code} {G : Gh} {a1 : Nat → Nat → Nat} {τ : St} {H : Heap} {Q : Int32 → Prop} {K56 : Prop} {K64 : Prop} (C : Cx p e s m args meth c cX1_endsWith 5 (some .boolean) "WebHost$Store" G) (σ : St) (x1 : Int32) (t2 : Nat) (x3 : Int32) (ht2 : t2 < nS) (hH : Hd G a1 (cmb σ τ) H) :
    ∀ (n : Nat) (x4 : Int32), w1_endsWith_L19 σ x1 t2 x3 Q K56 K64 n x4 → ∀ (locs : List Loc) (ls : Array Slot), va_S (gA G) s.heap H locs → lv_has ls 5 [(0, .ref (ga G 1 0)), (1, .int x1), (2, .ref (gs G t2)), (3, .int x3), (4, .int x4)] → (K56 → ∀ (locs : List Loc) (ls : Array Slot), va_S (gA G) s.heap H locs → lv_has ls 5 [] → W p l e rmX1_endsWith s m args below meth c H locs 0 0 (MQ below (QIp G H Q) args s 0 0 (gA G)) (F0 m 56 ls [])) → (K64 → ∀ (locs : List Loc) (ls : Array Slot), va_S (gA G) s.heap H locs → lv_has ls 5 [] → W p l e rmX1_endsWith s m args below meth c H locs 0 0 (MQ below (QIp G H Q) args s 0 0 (gA G)) (F0 m 64 ls [])) → W p l e rmX1_endsWith s m args below meth c H locs 0 0 (MQ below (QIp G H Q) args s 0 0 (gA G)) (F0 m 19 ls []) := by
  have hx := C.1
  have hb := C.2.1
  have hown := C.2.2.2.2.2.1
  have hts := C.2.2.2.2.2.2.1
  intro n
  induction n with
  | zero =>
    intro x4 hw
    exact False.elim hw
  | succ n ih =>
    intro x4 hw locs ls hS hl hK56 hK64
    refine lv_iload hx hb dX1_endsWith_19 (lv_at hl 4 rfl) ?_
    refine lv_aload_n hx hb dX1_endsWith_21 rfl (lv_at hl 2 rfl) ?_
    refine kc_ip (rn_vS (As := []) (rest := [.int x4]) C hH hS ht2 (mJ1_length l G a1 τ (cmb σ τ) H t2 ht2 _ hw) (cwV 0 hts (lw_V q1551 q1273 q1274 q178 q1275) rfl rfl rfl kXJ1_length ⟨Nat.le_of_ble_eq_true rfl, Nat.le_of_ble_eq_true rfl⟩) rfl hl.1 rfl (Nat.le_of_ble_eq_true rfl) dX1_endsWith_22 ⟨Nat.le_of_ble_eq_true rfl, Nat.le_of_ble_eq_true rfl⟩) hS (fun r3 locs hw hS => ?_)
    refine lv_icmp_ge (tgt := 64) hx hb dX1_endsWith_25 (by decide) (fun h => ?_) (fun h => ?_)
    · have hw := hw.1 h
      exact hK64 hw locs ls hS (lv_sub hl [] rfl)
    have hw := hw.2 h
    refine lv_aload_n hx hb dX1_endsWith_28 rfl (lv_at hl 0 rfl) ?_
    refine lv_aload_n hx hb dX1_endsWith_29 rfl (lv_at hl 0 rfl) ?_
    refine lv_iload_n hx hb dX1_endsWith_30 rfl (lv_at hl 1 rfl) ?_
    refine kc_ip (rn_vp (As := [.int x1]) (rest := [.ref (ga G 1 0)]) C hH hS (by decide) rfl (by decide) (m1_entry l G a1 τ σ H x1 _ hw) (cwV 1 hts (lw_V q827 q829 qs0 q158 q830) rfl rfl rfl kX1_entry ⟨Nat.le_of_ble_eq_true rfl, Nat.le_of_ble_eq_true rfl⟩) rfl hl.1 rfl (Nat.le_of_ble_eq_true rfl) dX1_endsWith_31 ⟨Nat.le_of_ble_eq_true rfl, Nat.le_of_ble_eq_true rfl⟩) hS (fun r4 locs hw hS => ?_)
    refine lv_iload_n hx hb dX1_endsWith_34 rfl (lv_at hl 3 rfl) ?_
    refine lv_iadd hx hb dX1_endsWith_35 ?_
    refine lv_aload_n hx hb dX1_endsWith_36 rfl (lv_at hl 2 rfl) ?_
    refine kc_ip (rn_vS (As := []) (rest := [.int (r4 + x3), .ref (ga G 1 0)]) C hH hS ht2 (mJ1_length l G a1 τ (cmb σ τ) H t2 ht2 _ hw) (cwV 0 hts (lw_V q1551 q1273 q1274 q178 q1275) rfl rfl rfl kXJ1_length ⟨Nat.le_of_ble_eq_true rfl, Nat.le_of_ble_eq_true rfl⟩) rfl hl.1 rfl (Nat.le_of_ble_eq_true rfl) dX1_endsWith_37 ⟨Nat.le_of_ble_eq_true rfl, Nat.le_of_ble_eq_true rfl⟩) hS (fun r5 locs hw hS => ?_)
    refine lv_isub hx hb dX1_endsWith_40 ?_
    refine lv_iload hx hb dX1_endsWith_41 (lv_at hl 4 rfl) ?_
    refine lv_iadd hx hb dX1_endsWith_43 ?_
    refine kc_ip (rn_vp (As := [.int (((r4 + x3) - r5) + x4)]) (rest := []) C hH hS (by decide) rfl (by decide) (m1_look l G a1 τ σ H (((r4 + x3) - r5) + x4) _ hw) (cwV 1 hts (lw_V q844 q846 qs3 q158 q847) rfl rfl rfl kX1_look ⟨Nat.le_of_ble_eq_true rfl, Nat.le_of_ble_eq_true rfl⟩) rfl hl.1 rfl (Nat.le_of_ble_eq_true rfl) dX1_endsWith_44 ⟨Nat.le_of_ble_eq_true rfl, Nat.le_of_ble_eq_true rfl⟩) hS (fun r6 locs hw hS => ?_)
    refine lv_aload_n hx hb dX1_endsWith_47 rfl (lv_at hl 2 rfl) ?_
    refine lv_iload hx hb dX1_endsWith_48 (lv_at hl 4 rfl) ?_
    refine kc_ip (rn_vS (As := [.int x4]) (rest := [.int r6]) C hH hS ht2 (mJ1_charAt l G a1 τ (cmb σ τ) H t2 x4 ht2 _ hw) (cwV 1 hts (lw_V q1552 q1283 q1284 q178 q1285) rfl rfl rfl kXJ1_charAt ⟨Nat.le_of_ble_eq_true rfl, Nat.le_of_ble_eq_true rfl⟩) rfl hl.1 rfl (Nat.le_of_ble_eq_true rfl) dX1_endsWith_50 ⟨Nat.le_of_ble_eq_true rfl, Nat.le_of_ble_eq_true rfl⟩) hS (fun r7 locs hw hS => ?_)
    refine lv_icmp_eq (tgt := 58) hx hb dX1_endsWith_53 (by decide) (fun h => ?_) (fun h => ?_)
    · have hw := hw.1 h
      refine lv_iinc (v := x4 + 1) (lv' := [(4, .int (x4 + 1)), (0, .ref (ga G 1 0)), (1, .int x1), (2, .ref (gs G t2)), (3, .int x3)]) hx hb dX1_endsWith_58 hl (k := 4) rfl rfl (by decide) rfl (fun ls hl => ?_)
      refine lv_goto (tgt := 19) hx hb dX1_endsWith_61 (by decide) ?_
      exact ih (x4 + 1) hw locs ls hS (lv_sub hl [1, 2, 3, 4, 0] rfl) hK56 hK64
    have hw := hw.2 h
    exact hK56 hw locs ls hS (lv_sub hl [] rfl)
def w1_endsWith (σ : St) (x1 : Int32) (t2 : Nat) (Q : Int32 → Prop) : Prop := w1_nameLength σ x1 (fun r1 => (wJ1_length t2 (fun r2 => ((r2 ≤ r1 → (∃ z8, w1_endsWith_L19 σ x1 t2 r1 Q (Q 0) (Q 1) z8 0)) ∧ (¬ r2 ≤ r1 → Q 0)))))
set_option maxHeartbeats 4000000 in
theorem m1_endsWith (l : Launch) (G : Gh) (a1 : Nat → Nat → Nat) (τ : St) (σ : St) (H : Heap) (x1 : Int32) (t2 : Nat) (ht2 : t2 < nS) (Q : Int32 → Prop) (hw : w1_endsWith σ x1 t2 Q) : Met l yX1_endsWith (ws_ yX1_endsWith cX1_endsWith 5 (some .boolean)) rmX1_endsWith (PcP G a1 (cmb σ τ) H [.ref (ga G 1 0), .int x1, .ref (gs G t2)]) (QIp G H Q) 0 0 (gA G) := by
  refine met_p (by decide) (Nat.le_of_ble_eq_true rfl) ?_
  intro p e s m below meth c ls hHe C hH hS hl
  have C : Cx p e s m _ meth c cX1_endsWith 5 (some .boolean) "WebHost$Store" G := C
  have hl : lv_has ls 5 [(0, .ref (ga G 1 0)), (1, .int x1), (2, .ref (gs G t2))] := hl
  have hx := C.1
  have hb := C.2.1
  have hown := C.2.2.2.2.2.1
  have hts := C.2.2.2.2.2.2.1
  obtain ⟨locs, hlocs⟩ : ∃ z : List Loc, z = [] := ⟨_, rfl⟩
  rw [← hlocs] at hS ⊢
  refine lv_aload_n hx hb dX1_endsWith_0 rfl (lv_at hl 0 rfl) ?_
  refine lv_iload_n hx hb dX1_endsWith_1 rfl (lv_at hl 1 rfl) ?_
  refine kc_ip (rn_vp (As := [.int x1]) (rest := []) C hH hS (by decide) rfl (by decide) (m1_nameLength l G a1 τ σ H x1 _ hw) (cwV 1 hts (lw_V q840 q842 qs2 q158 q843) rfl rfl rfl kX1_nameLength ⟨Nat.le_of_ble_eq_true rfl, Nat.le_of_ble_eq_true rfl⟩) rfl hl.1 rfl (Nat.le_of_ble_eq_true rfl) dX1_endsWith_2 ⟨Nat.le_of_ble_eq_true rfl, Nat.le_of_ble_eq_true rfl⟩) hS (fun r1 locs hw hS => ?_)
  refine lv_istore_n (lv' := [(3, .int r1), (0, .ref (ga G 1 0)), (1, .int x1), (2, .ref (gs G t2))]) hx hb dX1_endsWith_5 rfl hl (by decide) rfl (fun ls hl => ?_)
  refine lv_iload_n hx hb dX1_endsWith_6 rfl (lv_at hl 0 rfl) ?_
  refine lv_aload_n hx hb dX1_endsWith_7 rfl (lv_at hl 3 rfl) ?_
  refine kc_ip (rn_vS (As := []) (rest := [.int r1]) C hH hS ht2 (mJ1_length l G a1 τ (cmb σ τ) H t2 ht2 _ hw) (cwV 0 hts (lw_V q1551 q1273 q1274 q178 q1275) rfl rfl rfl kXJ1_length ⟨Nat.le_of_ble_eq_true rfl, Nat.le_of_ble_eq_true rfl⟩) rfl hl.1 rfl (Nat.le_of_ble_eq_true rfl) dX1_endsWith_8 ⟨Nat.le_of_ble_eq_true rfl, Nat.le_of_ble_eq_true rfl⟩) hS (fun r2 locs hw hS => ?_)
  refine lv_icmp_ge (tgt := 16) hx hb dX1_endsWith_11 (by decide) (fun h => ?_) (fun h => ?_)
  · have hw := hw.1 h
    refine lv_iconst (v := 0) hx hb dX1_endsWith_16 (by decide) ?_
    refine lv_istore (lv' := [(4, .int 0), (3, .int r1), (0, .ref (ga G 1 0)), (1, .int x1), (2, .ref (gs G t2))]) hx hb dX1_endsWith_17 hl (by decide) rfl (fun ls hl => ?_)
    obtain ⟨n8, hw⟩ := hw
    refine k1_endsWith_L19 C σ x1 t2 r1 ht2 hH n8 0 hw locs ls hS (lv_sub hl [2, 3, 4, 1, 0] rfl) (fun hw locs ls hS hl => ?_) (fun hw locs ls hS hl => ?_)
    · refine lv_iconst (v := 0) hx hb dX1_endsWith_56 (by decide) ?_
      exact rt_ip C rfl hS hw dX1_endsWith_57
    refine lv_iconst (v := 1) hx hb dX1_endsWith_64 (by decide) ?_
    exact rt_ip C rfl hS hw dX1_endsWith_65
  have hw := hw.2 h
  refine lv_iconst (v := 0) hx hb dX1_endsWith_14 (by decide) ?_
  exact rt_ip C rfl hS hw dX1_endsWith_15
/-! WebHost$Requests.decode()Z -/
abbrev cX9_decode : ByteArray := prog_11_method_23_code
def yX9_decode : MethodName := ⟨RX9, "decode", "()Z"⟩
theorem dX9_decode_0 : decode cX9_decode 0 = .ok (.aload_n 0, 1) := by decide +kernel
theorem dX9_decode_1 : decode cX9_decode 1 = .ok (.iconst 0, 1) := by decide +kernel
theorem dX9_decode_2 : decode cX9_decode 2 = .ok (.putfield 204, 3) := by decide +kernel
theorem dX9_decode_5 : decode cX9_decode 5 = .ok (.aload_n 0, 1) := by decide +kernel
theorem dX9_decode_6 : decode cX9_decode 6 = .ok (.getfield 78, 3) := by decide +kernel
theorem dX9_decode_9 : decode cX9_decode 9 = .ok (.iconst 1, 1) := by decide +kernel
theorem dX9_decode_10 : decode cX9_decode 10 = .ok (.iadd, 1) := by decide +kernel
theorem dX9_decode_11 : decode cX9_decode 11 = .ok (.istore_n 1, 1) := by decide +kernel
theorem dX9_decode_12 : decode cX9_decode 12 = .ok (.iconst 0, 1) := by decide +kernel
theorem dX9_decode_13 : decode cX9_decode 13 = .ok (.istore_n 2, 1) := by decide +kernel
theorem dX9_decode_14 : decode cX9_decode 14 = .ok (.iload_n 1, 1) := by decide +kernel
theorem dX9_decode_15 : decode cX9_decode 15 = .ok (.aload_n 0, 1) := by decide +kernel
theorem dX9_decode_16 : decode cX9_decode 16 = .ok (.getfield 81, 3) := by decide +kernel
theorem dX9_decode_19 : decode cX9_decode 19 = .ok (.if_icmp .ge 122, 3) := by decide +kernel
theorem dX9_decode_22 : decode cX9_decode 22 = .ok (.aload_n 0, 1) := by decide +kernel
theorem dX9_decode_23 : decode cX9_decode 23 = .ok (.getfield 9, 3) := by decide +kernel
theorem dX9_decode_26 : decode cX9_decode 26 = .ok (.iload_n 1, 1) := by decide +kernel
theorem dX9_decode_27 : decode cX9_decode 27 = .ok (.baload, 1) := by decide +kernel
theorem dX9_decode_28 : decode cX9_decode 28 = .ok (.bipush 63, 2) := by decide +kernel
theorem dX9_decode_30 : decode cX9_decode 30 = .ok (.if_icmp .eq 111, 3) := by decide +kernel
theorem dX9_decode_33 : decode cX9_decode 33 = .ok (.aload_n 0, 1) := by decide +kernel
theorem dX9_decode_34 : decode cX9_decode 34 = .ok (.getfield 9, 3) := by decide +kernel
theorem dX9_decode_37 : decode cX9_decode 37 = .ok (.iload_n 1, 1) := by decide +kernel
theorem dX9_decode_38 : decode cX9_decode 38 = .ok (.baload, 1) := by decide +kernel
theorem dX9_decode_39 : decode cX9_decode 39 = .ok (.istore_n 2, 1) := by decide +kernel
theorem dX9_decode_40 : decode cX9_decode 40 = .ok (.iinc 1 1, 3) := by decide +kernel
theorem dX9_decode_43 : decode cX9_decode 43 = .ok (.iload_n 2, 1) := by decide +kernel
theorem dX9_decode_44 : decode cX9_decode 44 = .ok (.bipush 37, 2) := by decide +kernel
theorem dX9_decode_46 : decode cX9_decode 46 = .ok (.if_icmp .ne 87, 3) := by decide +kernel
theorem dX9_decode_49 : decode cX9_decode 49 = .ok (.iload_n 1, 1) := by decide +kernel
theorem dX9_decode_50 : decode cX9_decode 50 = .ok (.aload_n 0, 1) := by decide +kernel
theorem dX9_decode_51 : decode cX9_decode 51 = .ok (.getfield 81, 3) := by decide +kernel
theorem dX9_decode_54 : decode cX9_decode 54 = .ok (.if_icmp .ge 15, 3) := by decide +kernel
theorem dX9_decode_57 : decode cX9_decode 57 = .ok (.aload_n 0, 1) := by decide +kernel
theorem dX9_decode_58 : decode cX9_decode 58 = .ok (.getfield 9, 3) := by decide +kernel
theorem dX9_decode_61 : decode cX9_decode 61 = .ok (.iload_n 1, 1) := by decide +kernel
theorem dX9_decode_62 : decode cX9_decode 62 = .ok (.baload, 1) := by decide +kernel
theorem dX9_decode_63 : decode cX9_decode 63 = .ok (.invokestatic 240, 3) := by decide +kernel
theorem dX9_decode_66 : decode cX9_decode 66 = .ok (.goto 4, 3) := by decide +kernel
theorem dX9_decode_69 : decode cX9_decode 69 = .ok (.iconst (-1), 1) := by decide +kernel
theorem dX9_decode_70 : decode cX9_decode 70 = .ok (.istore_n 3, 1) := by decide +kernel
theorem dX9_decode_71 : decode cX9_decode 71 = .ok (.iload_n 1, 1) := by decide +kernel
theorem dX9_decode_72 : decode cX9_decode 72 = .ok (.iconst 1, 1) := by decide +kernel
theorem dX9_decode_73 : decode cX9_decode 73 = .ok (.iadd, 1) := by decide +kernel
theorem dX9_decode_74 : decode cX9_decode 74 = .ok (.aload_n 0, 1) := by decide +kernel
theorem dX9_decode_75 : decode cX9_decode 75 = .ok (.getfield 81, 3) := by decide +kernel
theorem dX9_decode_78 : decode cX9_decode 78 = .ok (.if_icmp .ge 17, 3) := by decide +kernel
theorem dX9_decode_81 : decode cX9_decode 81 = .ok (.aload_n 0, 1) := by decide +kernel
theorem dX9_decode_82 : decode cX9_decode 82 = .ok (.getfield 9, 3) := by decide +kernel
theorem dX9_decode_85 : decode cX9_decode 85 = .ok (.iload_n 1, 1) := by decide +kernel
theorem dX9_decode_86 : decode cX9_decode 86 = .ok (.iconst 1, 1) := by decide +kernel
theorem dX9_decode_87 : decode cX9_decode 87 = .ok (.iadd, 1) := by decide +kernel
theorem dX9_decode_88 : decode cX9_decode 88 = .ok (.baload, 1) := by decide +kernel
theorem dX9_decode_89 : decode cX9_decode 89 = .ok (.invokestatic 240, 3) := by decide +kernel
theorem dX9_decode_92 : decode cX9_decode 92 = .ok (.goto 4, 3) := by decide +kernel
theorem dX9_decode_95 : decode cX9_decode 95 = .ok (.iconst (-1), 1) := by decide +kernel
theorem dX9_decode_96 : decode cX9_decode 96 = .ok (.istore 4, 2) := by decide +kernel
theorem dX9_decode_98 : decode cX9_decode 98 = .ok (.iload_n 3, 1) := by decide +kernel
theorem dX9_decode_99 : decode cX9_decode 99 = .ok (.ifCond .lt 8, 3) := by decide +kernel
theorem dX9_decode_102 : decode cX9_decode 102 = .ok (.iload 4, 2) := by decide +kernel
theorem dX9_decode_104 : decode cX9_decode 104 = .ok (.ifCond .ge 5, 3) := by decide +kernel
theorem dX9_decode_107 : decode cX9_decode 107 = .ok (.iconst 0, 1) := by decide +kernel
theorem dX9_decode_108 : decode cX9_decode 108 = .ok (.ireturn, 1) := by decide +kernel
theorem dX9_decode_109 : decode cX9_decode 109 = .ok (.bipush 16, 2) := by decide +kernel
theorem dX9_decode_111 : decode cX9_decode 111 = .ok (.iload_n 3, 1) := by decide +kernel
theorem dX9_decode_112 : decode cX9_decode 112 = .ok (.imul, 1) := by decide +kernel
theorem dX9_decode_113 : decode cX9_decode 113 = .ok (.iload 4, 2) := by decide +kernel
theorem dX9_decode_115 : decode cX9_decode 115 = .ok (.iadd, 1) := by decide +kernel
theorem dX9_decode_116 : decode cX9_decode 116 = .ok (.istore_n 2, 1) := by decide +kernel
theorem dX9_decode_117 : decode cX9_decode 117 = .ok (.iload_n 2, 1) := by decide +kernel
theorem dX9_decode_118 : decode cX9_decode 118 = .ok (.bipush 33, 2) := by decide +kernel
theorem dX9_decode_120 : decode cX9_decode 120 = .ok (.bipush 126, 2) := by decide +kernel
theorem dX9_decode_122 : decode cX9_decode 122 = .ok (.invokestatic 60, 3) := by decide +kernel
theorem dX9_decode_125 : decode cX9_decode 125 = .ok (.ifCond .ne 5, 3) := by decide +kernel
theorem dX9_decode_128 : decode cX9_decode 128 = .ok (.iconst 0, 1) := by decide +kernel
theorem dX9_decode_129 : decode cX9_decode 129 = .ok (.ireturn, 1) := by decide +kernel
theorem dX9_decode_130 : decode cX9_decode 130 = .ok (.iinc 1 2, 3) := by decide +kernel
theorem dX9_decode_133 : decode cX9_decode 133 = .ok (.aload_n 0, 1) := by decide +kernel
theorem dX9_decode_134 : decode cX9_decode 134 = .ok (.iload_n 2, 1) := by decide +kernel
theorem dX9_decode_135 : decode cX9_decode 135 = .ok (.invokevirtual 243, 3) := by decide +kernel
theorem dX9_decode_138 : decode cX9_decode 138 = .ok (.goto (-124), 3) := by decide +kernel
theorem dX9_decode_141 : decode cX9_decode 141 = .ok (.iload_n 2, 1) := by decide +kernel
theorem dX9_decode_142 : decode cX9_decode 142 = .ok (.bipush 47, 2) := by decide +kernel
theorem dX9_decode_144 : decode cX9_decode 144 = .ok (.if_icmp .ne 27, 3) := by decide +kernel
theorem dX9_decode_147 : decode cX9_decode 147 = .ok (.iconst 0, 1) := by decide +kernel
theorem dX9_decode_148 : decode cX9_decode 148 = .ok (.istore_n 3, 1) := by decide +kernel
theorem dX9_decode_149 : decode cX9_decode 149 = .ok (.iload_n 3, 1) := by decide +kernel
theorem dX9_decode_150 : decode cX9_decode 150 = .ok (.bipush 10, 2) := by decide +kernel
theorem dX9_decode_152 : decode cX9_decode 152 = .ok (.if_icmp .ge 19, 3) := by decide +kernel
theorem dX9_decode_155 : decode cX9_decode 155 = .ok (.aload_n 0, 1) := by decide +kernel
theorem dX9_decode_156 : decode cX9_decode 156 = .ok (.ldc 246, 2) := by decide +kernel
theorem dX9_decode_158 : decode cX9_decode 158 = .ok (.iload_n 3, 1) := by decide +kernel
theorem dX9_decode_159 : decode cX9_decode 159 = .ok (.invokevirtual 74, 3) := by decide +kernel
theorem dX9_decode_162 : decode cX9_decode 162 = .ok (.invokevirtual 243, 3) := by decide +kernel
theorem dX9_decode_165 : decode cX9_decode 165 = .ok (.iinc 3 1, 3) := by decide +kernel
theorem dX9_decode_168 : decode cX9_decode 168 = .ok (.goto (-19), 3) := by decide +kernel
theorem dX9_decode_171 : decode cX9_decode 171 = .ok (.iconst 1, 1) := by decide +kernel
theorem dX9_decode_172 : decode cX9_decode 172 = .ok (.ireturn, 1) := by decide +kernel
def rmX9_decode : Room := { frames := 4, cells := 0, slots := 0, locals := 85 }
theorem kX9_decode : yX9_decode.cls = "WebHost$Requests" ∧ yX9_decode.cls ≠ "java/lang/invoke/MethodHandle" ∧ yX9_decode.cls ≠ "java/lang/invoke/VarHandle" ∧ (parseMethodDescriptor yX9_decode.desc).map (fun d => d.parameters.length) = some 0 := by decide +kernel
def w9_decode_J96 (σ : St) (x1 : Int32) (x3 : Int32) (xs0 : Int32) (Q : Int32 → St → Prop) (K14 : St → Int32 → Int32 → Prop) (K107 : St → Prop) (K128 : St → Prop) : Prop := (x3 < 0 → K107 σ) ∧ (¬ x3 < 0 → ((0 ≤ xs0 → (w9_isIn σ ((16 * x3) + xs0) 33 126 (fun r3 => ((¬ r3 = 0 → (w9_step σ ((16 * x3) + xs0) (fun σ4 => (K14 σ4 (x1 + 2) ((16 * x3) + xs0))))) ∧ (r3 = 0 → K128 σ))))) ∧ (¬ 0 ≤ xs0 → K107 σ)))
set_option maxHeartbeats 4000000 in
theorem k9_decode_J96 {p : Program} {l : Launch} {e : Env} {s : State} {m : MethodId} {args : Array Value} {below : List Frame} {meth : Method} {c : Code} {G : Gh} {a1 : Nat → Nat → Nat} {τ : St} {Q : Int32 → St → Prop} {K14 : St → Int32 → Int32 → Prop} {K107 : St → Prop} {K128 : St → Prop} (C : Cx p e s m args meth c cX9_decode 5 (some .boolean) "WebHost$Requests" G) (σ : St) (x1 : Int32) (x3 : Int32) (xs0 : Int32) (hw : w9_decode_J96 σ x1 x3 xs0 Q K14 K107 K128) (H : Heap) (locs : List Loc) (ls : Array Slot) (hH : Hd G a1 (cmb σ τ) H) (hS : va_S (gA G) s.heap H locs) (hl : lv_has ls 5 [(0, .ref (ga G 9 0)), (1, .int x1), (3, .int x3)]) (hK14 : ∀ (σ : St) (x1 : Int32) (x2 : Int32), K14 σ x1 x2 → ∀ (H : Heap) (locs : List Loc) (ls : Array Slot), Hd G a1 (cmb σ τ) H → va_S (gA G) s.heap H locs → lv_has ls 5 [(0, .ref (ga G 9 0)), (1, .int x1), (2, .int x2)] → W p l e rmX9_decode s m args below meth c H locs 0 0 (MQ below (QIs G a1 (fun u => cmb u τ) Q) args s 0 0 (gA G)) (F0 m 14 ls [])) (hK107 : ∀ (σ : St) , K107 σ → ∀ (H : Heap) (locs : List Loc) (ls : Array Slot), Hd G a1 (cmb σ τ) H → va_S (gA G) s.heap H locs → lv_has ls 5 [] → W p l e rmX9_decode s m args below meth c H locs 0 0 (MQ below (QIs G a1 (fun u => cmb u τ) Q) args s 0 0 (gA G)) (F0 m 107 ls [])) (hK128 : ∀ (σ : St) , K128 σ → ∀ (H : Heap) (locs : List Loc) (ls : Array Slot), Hd G a1 (cmb σ τ) H → va_S (gA G) s.heap H locs → lv_has ls 5 [] → W p l e rmX9_decode s m args below meth c H locs 0 0 (MQ below (QIs G a1 (fun u => cmb u τ) Q) args s 0 0 (gA G)) (F0 m 128 ls [])) : W p l e rmX9_decode s m args below meth c H locs 0 0 (MQ below (QIs G a1 (fun u => cmb u τ) Q) args s 0 0 (gA G)) (F0 m 96 ls [.int xs0]) := by
  have hx := C.1
  have hb := C.2.1
  have hown := C.2.2.2.2.2.1
  have hts := C.2.2.2.2.2.2.1
  refine lv_istore (lv' := [(4, .int xs0), (0, .ref (ga G 9 0)), (1, .int x1), (3, .int x3)]) hx hb dX9_decode_96 hl (by decide) rfl (fun ls hl => ?_)
  refine lv_iload_n hx hb dX9_decode_98 rfl (lv_at hl 3 rfl) ?_
  refine lv_if_lt (tgt := 107) hx hb dX9_decode_99 (by decide) (fun h => ?_) (fun h => ?_)
  · have hw := hw.1 h
    exact hK107 σ hw H locs ls hH hS (lv_sub hl [] rfl)
  have hw := hw.2 h
  refine lv_iload hx hb dX9_decode_102 (lv_at hl 0 rfl) ?_
  refine lv_if_ge (tgt := 109) hx hb dX9_decode_104 (by decide) (fun h => ?_) (fun h => ?_)
  · have hw := hw.1 h
    refine lv_bipush (v := 16) hx hb dX9_decode_109 (by decide) ?_
    refine lv_iload_n hx hb dX9_decode_111 rfl (lv_at hl 3 rfl) ?_
    refine lv_imul hx hb dX9_decode_112 ?_
    refine lv_iload hx hb dX9_decode_113 (lv_at hl 0 rfl) ?_
    refine lv_iadd hx hb dX9_decode_115 ?_
    refine lv_istore_n (lv' := [(2, .int ((16 * x3) + xs0)), (4, .int xs0), (0, .ref (ga G 9 0)), (1, .int x1), (3, .int x3)]) hx hb dX9_decode_116 rfl hl (by decide) rfl (fun ls hl => ?_)
    refine lv_iload_n hx hb dX9_decode_117 rfl (lv_at hl 0 rfl) ?_
    refine lv_bipush (v := 33) hx hb dX9_decode_118 (by decide) ?_
    refine lv_bipush (v := 126) hx hb dX9_decode_120 (by decide) ?_
    refine kc_ip (rn_sp (As := [.int ((16 * x3) + xs0), .int 33, .int 126]) (rest := []) C hH hS (m9_isIn l G a1 τ σ H ((16 * x3) + xs0) 33 126 _ hw) (va_cwS 3 hts (lw_S q1365 q1366 q166 q1367) rfl rfl rfl kX9_isIn.2 ⟨Nat.le_of_ble_eq_true rfl, Nat.le_of_ble_eq_true rfl⟩) rfl hl.1 rfl (Nat.le_of_ble_eq_true rfl) dX9_decode_122 ⟨Nat.le_of_ble_eq_true rfl, Nat.le_of_ble_eq_true rfl⟩) hS (fun r3 locs hw hS => ?_)
    refine lv_if_ne (tgt := 130) hx hb dX9_decode_125 (by decide) (fun h => ?_) (fun h => ?_)
    · have hw := hw.1 h
      refine lv_iinc (v := x1 + 2) (lv' := [(1, .int (x1 + 2)), (2, .int ((16 * x3) + xs0)), (4, .int xs0), (0, .ref (ga G 9 0)), (3, .int x3)]) hx hb dX9_decode_130 hl (k := 3) rfl rfl (by decide) rfl (fun ls hl => ?_)
      refine lv_aload_n hx hb dX9_decode_133 rfl (lv_at hl 3 rfl) ?_
      refine lv_iload_n hx hb dX9_decode_134 rfl (lv_at hl 1 rfl) ?_
      refine kc_v (rn_v (As := [.int ((16 * x3) + xs0)]) (rest := []) C hH hS (by decide) rfl (by decide) (m9_step l G a1 τ σ ((16 * x3) + xs0) _ hw) (cwV 1 hts (lw_V q1493 q1495 qs66 q166 q1496) rfl rfl rfl kX9_step ⟨Nat.le_of_ble_eq_true rfl, Nat.le_of_ble_eq_true rfl⟩) rfl hl.1 rfl (Nat.le_of_ble_eq_true rfl) dX9_decode_135 ⟨Nat.le_of_ble_eq_true rfl, Nat.le_of_ble_eq_true rfl⟩) hS (fun σ4 H locs hw hH hS => ?_)
      refine lv_goto (tgt := 14) hx hb dX9_decode_138 (by decide) ?_
      exact hK14 σ4 (x1 + 2) ((16 * x3) + xs0) hw H locs ls hH hS (lv_sub hl [3, 0, 1] rfl)
    have hw := hw.2 h
    exact hK128 σ hw H locs ls hH hS (lv_sub hl [] rfl)
  have hw := hw.2 h
  exact hK107 σ hw H locs ls hH hS (lv_sub hl [] rfl)
def w9_decode_J70 (σ : St) (x1 : Int32) (xs0 : Int32) (Q : Int32 → St → Prop) (K14 : St → Int32 → Int32 → Prop) (K107 : St → Prop) (K128 : St → Prop) : Prop := ((σ 9 0 4) ≤ (x1 + 1) → (w9_decode_J96 σ x1 xs0 (-1) Q K14 K107 K128)) ∧ (¬ (σ 9 0 4) ≤ (x1 + 1) → (vp_in (x1 + 1) 4096 ∧ (by8 (σ 40 0 (x1 + 1).toNatClampNeg) → (w9_hexadecimal σ (σ 40 0 (x1 + 1).toNatClampNeg) (fun r5 => (w9_decode_J96 σ x1 xs0 r5 Q K14 K107 K128))))))
set_option maxHeartbeats 4000000 in
theorem k9_decode_J70 {p : Program} {l : Launch} {e : Env} {s : State} {m : MethodId} {args : Array Value} {below : List Frame} {meth : Method} {c : Code} {G : Gh} {a1 : Nat → Nat → Nat} {τ : St} {Q : Int32 → St → Prop} {K14 : St → Int32 → Int32 → Prop} {K107 : St → Prop} {K128 : St → Prop} (C : Cx p e s m args meth c cX9_decode 5 (some .boolean) "WebHost$Requests" G) (σ : St) (x1 : Int32) (xs0 : Int32) (hw : w9_decode_J70 σ x1 xs0 Q K14 K107 K128) (H : Heap) (locs : List Loc) (ls : Array Slot) (hH : Hd G a1 (cmb σ τ) H) (hS : va_S (gA G) s.heap H locs) (hl : lv_has ls 5 [(0, .ref (ga G 9 0)), (1, .int x1)]) (hK14 : ∀ (σ : St) (x1 : Int32) (x2 : Int32), K14 σ x1 x2 → ∀ (H : Heap) (locs : List Loc) (ls : Array Slot), Hd G a1 (cmb σ τ) H → va_S (gA G) s.heap H locs → lv_has ls 5 [(0, .ref (ga G 9 0)), (1, .int x1), (2, .int x2)] → W p l e rmX9_decode s m args below meth c H locs 0 0 (MQ below (QIs G a1 (fun u => cmb u τ) Q) args s 0 0 (gA G)) (F0 m 14 ls [])) (hK107 : ∀ (σ : St) , K107 σ → ∀ (H : Heap) (locs : List Loc) (ls : Array Slot), Hd G a1 (cmb σ τ) H → va_S (gA G) s.heap H locs → lv_has ls 5 [] → W p l e rmX9_decode s m args below meth c H locs 0 0 (MQ below (QIs G a1 (fun u => cmb u τ) Q) args s 0 0 (gA G)) (F0 m 107 ls [])) (hK128 : ∀ (σ : St) , K128 σ → ∀ (H : Heap) (locs : List Loc) (ls : Array Slot), Hd G a1 (cmb σ τ) H → va_S (gA G) s.heap H locs → lv_has ls 5 [] → W p l e rmX9_decode s m args below meth c H locs 0 0 (MQ below (QIs G a1 (fun u => cmb u τ) Q) args s 0 0 (gA G)) (F0 m 128 ls [])) : W p l e rmX9_decode s m args below meth c H locs 0 0 (MQ below (QIs G a1 (fun u => cmb u τ) Q) args s 0 0 (gA G)) (F0 m 70 ls [.int xs0]) := by
  have hx := C.1
  have hb := C.2.1
  have hown := C.2.2.2.2.2.1
  have hts := C.2.2.2.2.2.2.1
  refine lv_istore_n (lv' := [(3, .int xs0), (0, .ref (ga G 9 0)), (1, .int x1)]) hx hb dX9_decode_70 rfl hl (by decide) rfl (fun ls hl => ?_)
  refine lv_iload_n hx hb dX9_decode_71 rfl (lv_at hl 2 rfl) ?_
  refine lv_iconst (v := 1) hx hb dX9_decode_72 (by decide) ?_
  refine lv_iadd hx hb dX9_decode_73 ?_
  refine lv_aload_n hx hb dX9_decode_74 rfl (lv_at hl 1 rfl) ?_
  refine g9_4 C hH q452 dX9_decode_75 ?_
  refine lv_icmp_ge (tgt := 95) hx hb dX9_decode_78 (by decide) (fun h => ?_) (fun h => ?_)
  · have hw := hw.1 h
    refine lv_iconst (v := (-1)) hx hb dX9_decode_95 (by decide) ?_
    exact k9_decode_J96 C σ x1 xs0 (-1) hw H locs ls hH hS (lv_sub hl [1, 2, 0] rfl) hK14 hK107 hK128
  have hw := hw.2 h
  refine lv_aload_n hx hb dX9_decode_81 rfl (lv_at hl 1 rfl) ?_
  refine g9_1 C hH q449 dX9_decode_82 ?_
  refine lv_iload_n hx hb dX9_decode_85 rfl (lv_at hl 2 rfl) ?_
  refine lv_iconst (v := 1) hx hb dX9_decode_86 (by decide) ?_
  refine lv_iadd hx hb dX9_decode_87 ?_
  refine l40 C hH hw.1 dX9_decode_88 (fun hz => ?_)
  have hw := hw.2 hz
  refine kc_ip (rn_sp (As := [.int (σ 40 0 (x1 + 1).toNatClampNeg)]) (rest := []) C hH hS (m9_hexadecimal l G a1 τ σ H (σ 40 0 (x1 + 1).toNatClampNeg) _ hw) (va_cwS 1 hts (lw_S q1490 q1491 q166 q1492) rfl rfl rfl kX9_hexadecimal.2 ⟨Nat.le_of_ble_eq_true rfl, Nat.le_of_ble_eq_true rfl⟩) rfl hl.1 rfl (Nat.le_of_ble_eq_true rfl) dX9_decode_89 ⟨Nat.le_of_ble_eq_true rfl, Nat.le_of_ble_eq_true rfl⟩) hS (fun r5 locs hw hS => ?_)
  refine lv_goto (tgt := 96) hx hb dX9_decode_92 (by decide) ?_
  exact k9_decode_J96 C σ x1 xs0 r5 hw H locs ls hH hS (lv_sub hl [1, 2, 0] rfl) hK14 hK107 hK128
def w9_decode_L14 (Q : Int32 → St → Prop) (K107 : St → Prop) (K128 : St → Prop) (K141 : St → Int32 → Prop) : Nat → St → Int32 → Int32 → Prop
  | 0, _, _, _ => False
  | n + 1, σ, x1, x2 => ((σ 9 0 4) ≤ x1 → K141 σ x2) ∧ (¬ (σ 9 0 4) ≤ x1 → (vp_in x1 4096 ∧ (by8 (σ 40 0 x1.toNatClampNeg) → (((σ 40 0 x1.toNatClampNeg) = 63 → K141 σ x2) ∧ (¬ (σ 40 0 x1.toNatClampNeg) = 63 → (vp_in x1 4096 ∧ (by8 (σ 40 0 x1.toNatClampNeg) → ((¬ (σ 40 0 x1.toNatClampNeg) = 37 → (w9_step σ (σ 40 0 x1.toNatClampNeg) (fun σ2 => (w9_decode_L14 Q K107 K128 K141 n σ2 (x1 + 1) (σ 40 0 x1.toNatClampNeg))))) ∧ ((σ 40 0 x1.toNatClampNeg) = 37 → (((σ 9 0 4) ≤ (x1 + 1) → (w9_decode_J70 σ (x1 + 1) (-1) Q (fun σz x1z x2z => w9_decode_L14 Q K107 K128 K141 n σz x1z x2z) K107 K128)) ∧ (¬ (σ 9 0 4) ≤ (x1 + 1) → (vp_in (x1 + 1) 4096 ∧ (by8 (σ 40 0 (x1 + 1).toNatClampNeg) → (w9_hexadecimal σ (σ 40 0 (x1 + 1).toNatClampNeg) (fun r6 => (w9_decode_J70 σ (x1 + 1) r6 Q (fun σz x1z x2z => w9_decode_L14 Q K107 K128 K141 n σz x1z x2z) K107 K128))))))))))))))))
set_option maxHeartbeats 4000000 in
theorem k9_decode_L14 {p : Program} {l : Launch} {e : Env} {s : State} {m : MethodId} {args : Array Value} {below : List Frame} {meth : Method} {c : Code} {G : Gh} {a1 : Nat → Nat → Nat} {τ : St} {Q : Int32 → St → Prop} {K107 : St → Prop} {K128 : St → Prop} {K141 : St → Int32 → Prop} (C : Cx p e s m args meth c cX9_decode 5 (some .boolean) "WebHost$Requests" G) :
    ∀ (n : Nat) (σ : St) (x1 : Int32) (x2 : Int32), w9_decode_L14 Q K107 K128 K141 n σ x1 x2 → ∀ (H : Heap) (locs : List Loc) (ls : Array Slot), Hd G a1 (cmb σ τ) H → va_S (gA G) s.heap H locs → lv_has ls 5 [(0, .ref (ga G 9 0)), (1, .int x1), (2, .int x2)] → (∀ (σ : St) , K107 σ → ∀ (H : Heap) (locs : List Loc) (ls : Array Slot), Hd G a1 (cmb σ τ) H → va_S (gA G) s.heap H locs → lv_has ls 5 [] → W p l e rmX9_decode s m args below meth c H locs 0 0 (MQ below (QIs G a1 (fun u => cmb u τ) Q) args s 0 0 (gA G)) (F0 m 107 ls [])) → (∀ (σ : St) , K128 σ → ∀ (H : Heap) (locs : List Loc) (ls : Array Slot), Hd G a1 (cmb σ τ) H → va_S (gA G) s.heap H locs → lv_has ls 5 [] → W p l e rmX9_decode s m args below meth c H locs 0 0 (MQ below (QIs G a1 (fun u => cmb u τ) Q) args s 0 0 (gA G)) (F0 m 128 ls [])) → (∀ (σ : St) (x2 : Int32), K141 σ x2 → ∀ (H : Heap) (locs : List Loc) (ls : Array Slot), Hd G a1 (cmb σ τ) H → va_S (gA G) s.heap H locs → lv_has ls 5 [(0, .ref (ga G 9 0)), (2, .int x2)] → W p l e rmX9_decode s m args below meth c H locs 0 0 (MQ below (QIs G a1 (fun u => cmb u τ) Q) args s 0 0 (gA G)) (F0 m 141 ls [])) → W p l e rmX9_decode s m args below meth c H locs 0 0 (MQ below (QIs G a1 (fun u => cmb u τ) Q) args s 0 0 (gA G)) (F0 m 14 ls []) := by
  have hx := C.1
  have hb := C.2.1
  have hown := C.2.2.2.2.2.1
  have hts := C.2.2.2.2.2.2.1
  intro n
  induction n with
  | zero =>
    intro σ x1 x2 hw
    exact False.elim hw
  | succ n ih =>
    intro σ x1 x2 hw H locs ls hH hS hl hK107 hK128 hK141
    refine lv_iload_n hx hb dX9_decode_14 rfl (lv_at hl 1 rfl) ?_
    refine lv_aload_n hx hb dX9_decode_15 rfl (lv_at hl 0 rfl) ?_
    refine g9_4 C hH q452 dX9_decode_16 ?_
    refine lv_icmp_ge (tgt := 141) hx hb dX9_decode_19 (by decide) (fun h => ?_) (fun h => ?_)
    · have hw := hw.1 h
      exact hK141 σ x2 hw H locs ls hH hS (lv_sub hl [0, 2] rfl)
    have hw := hw.2 h
    refine lv_aload_n hx hb dX9_decode_22 rfl (lv_at hl 0 rfl) ?_
    refine g9_1 C hH q449 dX9_decode_23 ?_
    refine lv_iload_n hx hb dX9_decode_26 rfl (lv_at hl 1 rfl) ?_
    refine l40 C hH hw.1 dX9_decode_27 (fun hz => ?_)
    have hw := hw.2 hz
    refine lv_bipush (v := 63) hx hb dX9_decode_28 (by decide) ?_
    refine lv_icmp_eq (tgt := 141) hx hb dX9_decode_30 (by decide) (fun h => ?_) (fun h => ?_)
    · have hw := hw.1 h
      exact hK141 σ x2 hw H locs ls hH hS (lv_sub hl [0, 2] rfl)
    have hw := hw.2 h
    refine lv_aload_n hx hb dX9_decode_33 rfl (lv_at hl 0 rfl) ?_
    refine g9_1 C hH q449 dX9_decode_34 ?_
    refine lv_iload_n hx hb dX9_decode_37 rfl (lv_at hl 1 rfl) ?_
    refine l40 C hH hw.1 dX9_decode_38 (fun hz => ?_)
    have hw := hw.2 hz
    refine lv_istore_n (lv' := [(2, .int (σ 40 0 x1.toNatClampNeg)), (0, .ref (ga G 9 0)), (1, .int x1)]) hx hb dX9_decode_39 rfl hl (by decide) rfl (fun ls hl => ?_)
    refine lv_iinc (v := x1 + 1) (lv' := [(1, .int (x1 + 1)), (2, .int (σ 40 0 x1.toNatClampNeg)), (0, .ref (ga G 9 0))]) hx hb dX9_decode_40 hl (k := 2) rfl rfl (by decide) rfl (fun ls hl => ?_)
    refine lv_iload_n hx hb dX9_decode_43 rfl (lv_at hl 1 rfl) ?_
    refine lv_bipush (v := 37) hx hb dX9_decode_44 (by decide) ?_
    refine lv_icmp_ne (tgt := 133) hx hb dX9_decode_46 (by decide) (fun h => ?_) (fun h => ?_)
    · have hw := hw.1 h
      refine lv_aload_n hx hb dX9_decode_133 rfl (lv_at hl 2 rfl) ?_
      refine lv_iload_n hx hb dX9_decode_134 rfl (lv_at hl 1 rfl) ?_
      refine kc_v (rn_v (As := [.int (σ 40 0 x1.toNatClampNeg)]) (rest := []) C hH hS (by decide) rfl (by decide) (m9_step l G a1 τ σ (σ 40 0 x1.toNatClampNeg) _ hw) (cwV 1 hts (lw_V q1493 q1495 qs66 q166 q1496) rfl rfl rfl kX9_step ⟨Nat.le_of_ble_eq_true rfl, Nat.le_of_ble_eq_true rfl⟩) rfl hl.1 rfl (Nat.le_of_ble_eq_true rfl) dX9_decode_135 ⟨Nat.le_of_ble_eq_true rfl, Nat.le_of_ble_eq_true rfl⟩) hS (fun σ2 H locs hw hH hS => ?_)
      refine lv_goto (tgt := 14) hx hb dX9_decode_138 (by decide) ?_
      exact ih σ2 (x1 + 1) (σ 40 0 x1.toNatClampNeg) hw H locs ls hH hS (lv_sub hl [2, 0, 1] rfl) hK107 hK128 hK141
    have hw := hw.2 h
    refine lv_iload_n hx hb dX9_decode_49 rfl (lv_at hl 0 rfl) ?_
    refine lv_aload_n hx hb dX9_decode_50 rfl (lv_at hl 2 rfl) ?_
    refine g9_4 C hH q452 dX9_decode_51 ?_
    refine lv_icmp_ge (tgt := 69) hx hb dX9_decode_54 (by decide) (fun h => ?_) (fun h => ?_)
    · have hw := hw.1 h
      refine lv_iconst (v := (-1)) hx hb dX9_decode_69 (by decide) ?_
      exact k9_decode_J70 C σ (x1 + 1) (-1) hw H locs ls hH hS (lv_sub hl [2, 0] rfl) (fun σz x1z x2z hw H locs ls hH hS hl => ih σz x1z x2z hw H locs ls hH hS hl hK107 hK128 hK141) hK107 hK128
    have hw := hw.2 h
    refine lv_aload_n hx hb dX9_decode_57 rfl (lv_at hl 2 rfl) ?_
    refine g9_1 C hH q449 dX9_decode_58 ?_
    refine lv_iload_n hx hb dX9_decode_61 rfl (lv_at hl 0 rfl) ?_
    refine l40 C hH hw.1 dX9_decode_62 (fun hz => ?_)
    have hw := hw.2 hz
    refine kc_ip (rn_sp (As := [.int (σ 40 0 (x1 + 1).toNatClampNeg)]) (rest := []) C hH hS (m9_hexadecimal l G a1 τ σ H (σ 40 0 (x1 + 1).toNatClampNeg) _ hw) (va_cwS 1 hts (lw_S q1490 q1491 q166 q1492) rfl rfl rfl kX9_hexadecimal.2 ⟨Nat.le_of_ble_eq_true rfl, Nat.le_of_ble_eq_true rfl⟩) rfl hl.1 rfl (Nat.le_of_ble_eq_true rfl) dX9_decode_63 ⟨Nat.le_of_ble_eq_true rfl, Nat.le_of_ble_eq_true rfl⟩) hS (fun r6 locs hw hS => ?_)
    refine lv_goto (tgt := 70) hx hb dX9_decode_66 (by decide) ?_
    exact k9_decode_J70 C σ (x1 + 1) r6 hw H locs ls hH hS (lv_sub hl [2, 0] rfl) (fun σz x1z x2z hw H locs ls hH hS hl => ih σz x1z x2z hw H locs ls hH hS hl hK107 hK128 hK141) hK107 hK128
def w9_decode_L149 (Q : Int32 → St → Prop) (K171 : St → Prop) : Nat → St → Int32 → Prop
  | 0, _, _ => False
  | n + 1, σ, x3 => (10 ≤ x3 → K171 σ) ∧ (¬ 10 ≤ x3 → (wJ1_charAt 20 x3 (fun r11 => (w9_step σ r11 (fun σ12 => (w9_decode_L149 Q K171 n σ12 (x3 + 1)))))))
set_option maxHeartbeats 4000000 in
theorem k9_decode_L149 {p : Program} {l : Launch} {e : Env} {s : State} {m : MethodId} {args : Array Value} {below : List Frame} {meth : Method} {c : Code} {G : Gh} {a1 : Nat → Nat → Nat} {τ : St} {Q : Int32 → St → Prop} {K171 : St → Prop} (C : Cx p e s m args meth c cX9_decode 5 (some .boolean) "WebHost$Requests" G) :
    ∀ (n : Nat) (σ : St) (x3 : Int32), w9_decode_L149 Q K171 n σ x3 → ∀ (H : Heap) (locs : List Loc) (ls : Array Slot), Hd G a1 (cmb σ τ) H → va_S (gA G) s.heap H locs → lv_has ls 5 [(0, .ref (ga G 9 0)), (3, .int x3)] → (∀ (σ : St) , K171 σ → ∀ (H : Heap) (locs : List Loc) (ls : Array Slot), Hd G a1 (cmb σ τ) H → va_S (gA G) s.heap H locs → lv_has ls 5 [] → W p l e rmX9_decode s m args below meth c H locs 0 0 (MQ below (QIs G a1 (fun u => cmb u τ) Q) args s 0 0 (gA G)) (F0 m 171 ls [])) → W p l e rmX9_decode s m args below meth c H locs 0 0 (MQ below (QIs G a1 (fun u => cmb u τ) Q) args s 0 0 (gA G)) (F0 m 149 ls []) := by
  have hx := C.1
  have hb := C.2.1
  have hown := C.2.2.2.2.2.1
  have hts := C.2.2.2.2.2.2.1
  intro n
  induction n with
  | zero =>
    intro σ x3 hw
    exact False.elim hw
  | succ n ih =>
    intro σ x3 hw H locs ls hH hS hl hK171
    refine lv_iload_n hx hb dX9_decode_149 rfl (lv_at hl 1 rfl) ?_
    refine lv_bipush (v := 10) hx hb dX9_decode_150 (by decide) ?_
    refine lv_icmp_ge (tgt := 171) hx hb dX9_decode_152 (by decide) (fun h => ?_) (fun h => ?_)
    · have hw := hw.1 h
      exact hK171 σ hw H locs ls hH hS (lv_sub hl [] rfl)
    have hw := hw.2 h
    refine lv_aload_n hx hb dX9_decode_155 rfl (lv_at hl 0 rfl) ?_
    refine str_ldc (n := 20) C st20 dX9_decode_156 ?_
    refine lv_iload_n hx hb dX9_decode_158 rfl (lv_at hl 1 rfl) ?_
    refine kc_ip (rn_vS (As := [.int x3]) (rest := [.ref (ga G 9 0)]) C hH hS (by decide) (mJ1_charAt l G a1 τ (cmb σ τ) H 20 x3 (by decide) _ hw) (cwV 1 hts (lw_V q1373 q1283 q1284 q178 q1285) rfl rfl rfl kXJ1_charAt ⟨Nat.le_of_ble_eq_true rfl, Nat.le_of_ble_eq_true rfl⟩) rfl hl.1 rfl (Nat.le_of_ble_eq_true rfl) dX9_decode_159 ⟨Nat.le_of_ble_eq_true rfl, Nat.le_of_ble_eq_true rfl⟩) hS (fun r11 locs hw hS => ?_)
    refine kc_v (rn_v (As := [.int r11]) (rest := []) C hH hS (by decide) rfl (by decide) (m9_step l G a1 τ σ r11 _ hw) (cwV 1 hts (lw_V q1493 q1495 qs66 q166 q1496) rfl rfl rfl kX9_step ⟨Nat.le_of_ble_eq_true rfl, Nat.le_of_ble_eq_true rfl⟩) rfl hl.1 rfl (Nat.le_of_ble_eq_true rfl) dX9_decode_162 ⟨Nat.le_of_ble_eq_true rfl, Nat.le_of_ble_eq_true rfl⟩) hS (fun σ12 H locs hw hH hS => ?_)
    refine lv_iinc (v := x3 + 1) (lv' := [(3, .int (x3 + 1)), (0, .ref (ga G 9 0))]) hx hb dX9_decode_165 hl (k := 1) rfl rfl (by decide) rfl (fun ls hl => ?_)
    refine lv_goto (tgt := 149) hx hb dX9_decode_168 (by decide) ?_
    exact ih σ12 (x3 + 1) hw H locs ls hH hS (lv_sub hl [1, 0] rfl) hK171
def w9_decode (σ : St) (Q : Int32 → St → Prop) : Prop := ∀ σ1, σ1 = up3 σ 9 0 18 0 → (∃ z7, w9_decode_L14 Q (fun σ8 => Q 0 σ8) (fun σ9 => Q 0 σ9) (fun σ10 x2_10 => (¬ x2_10 = 47 → Q 1 σ10) ∧ (x2_10 = 47 → (∃ z13, w9_decode_L149 Q (fun σ14 => Q 1 σ14) z13 σ10 0))) z7 σ1 ((σ1 9 0 3) + 1) 0)
set_option maxHeartbeats 4000000 in
theorem m9_decode (l : Launch) (G : Gh) (a1 : Nat → Nat → Nat) (τ : St) (σ : St) (Q : Int32 → St → Prop) (hw : w9_decode σ Q) : Met l yX9_decode (ws_ yX9_decode cX9_decode 5 (some .boolean)) rmX9_decode (PcS G a1 (cmb σ τ) [.ref (ga G 9 0)]) (QIs G a1 (fun u => cmb u τ) Q) 0 0 (gA G) := by
  refine met_w (by decide) (Nat.le_of_ble_eq_true rfl) ?_
  intro p e s m below meth c ls C hH hS hl
  have C : Cx p e s m _ meth c cX9_decode 5 (some .boolean) "WebHost$Requests" G := C
  have hl : lv_has ls 5 [(0, .ref (ga G 9 0))] := hl
  have hx := C.1
  have hb := C.2.1
  have hown := C.2.2.2.2.2.1
  have hts := C.2.2.2.2.2.2.1
  obtain ⟨locs, hlocs⟩ : ∃ z : List Loc, z = [] := ⟨_, rfl⟩
  obtain ⟨H, hHe⟩ : ∃ z : Heap, z = s.heap := ⟨_, rfl⟩
  have hH : Hd G a1 (cmb σ τ) H := by rw [hHe]; exact hH
  have hS : va_S (gA G) s.heap H locs := by rw [hHe, hlocs]; exact hS
  refine W.heap0 hHe.symm hlocs.symm ?_
  refine lv_aload_n hx hb dX9_decode_0 rfl (lv_at hl 0 rfl) ?_
  refine lv_iconst (v := 0) hx hb dX9_decode_1 (by decide) ?_
  refine p9_18 C hH hS q466 dX9_decode_2 (fun σ1 e1 H locs hH hS => ?_)
  have hw := hw σ1 e1
  refine lv_aload_n hx hb dX9_decode_5 rfl (lv_at hl 0 rfl) ?_
  refine g9_3 C hH q451 dX9_decode_6 ?_
  refine lv_iconst (v := 1) hx hb dX9_decode_9 (by decide) ?_
  refine lv_iadd hx hb dX9_decode_10 ?_
  refine lv_istore_n (lv' := [(1, .int ((σ1 9 0 3) + 1)), (0, .ref (ga G 9 0))]) hx hb dX9_decode_11 rfl hl (by decide) rfl (fun ls hl => ?_)
  refine lv_iconst (v := 0) hx hb dX9_decode_12 (by decide) ?_
  refine lv_istore_n (lv' := [(2, .int 0), (1, .int ((σ1 9 0 3) + 1)), (0, .ref (ga G 9 0))]) hx hb dX9_decode_13 rfl hl (by decide) rfl (fun ls hl => ?_)
  obtain ⟨n7, hw⟩ := hw
  refine k9_decode_L14 C n7 σ1 ((σ1 9 0 3) + 1) 0 hw H locs ls hH hS (lv_sub hl [2, 1, 0] rfl) (fun σ8 hw H locs ls hH hS hl => ?_) (fun σ9 hw H locs ls hH hS hl => ?_) (fun σ10 x2_10 hw H locs ls hH hS hl => ?_)
  · refine lv_iconst (v := 0) hx hb dX9_decode_107 (by decide) ?_
    exact rt_i C rfl hH hS hw dX9_decode_108
  · refine lv_iconst (v := 0) hx hb dX9_decode_128 (by decide) ?_
    exact rt_i C rfl hH hS hw dX9_decode_129
  refine lv_iload_n hx hb dX9_decode_141 rfl (lv_at hl 1 rfl) ?_
  refine lv_bipush (v := 47) hx hb dX9_decode_142 (by decide) ?_
  refine lv_icmp_ne (tgt := 171) hx hb dX9_decode_144 (by decide) (fun h => ?_) (fun h => ?_)
  · have hw := hw.1 h
    refine lv_iconst (v := 1) hx hb dX9_decode_171 (by decide) ?_
    exact rt_i C rfl hH hS hw dX9_decode_172
  have hw := hw.2 h
  refine lv_iconst (v := 0) hx hb dX9_decode_147 (by decide) ?_
  refine lv_istore_n (lv' := [(3, .int 0), (0, .ref (ga G 9 0)), (2, .int x2_10)]) hx hb dX9_decode_148 rfl hl (by decide) rfl (fun ls hl => ?_)
  obtain ⟨n13, hw⟩ := hw
  refine k9_decode_L149 C n13 σ10 0 hw H locs ls hH hS (lv_sub hl [1, 0] rfl) (fun σ14 hw H locs ls hH hS hl => ?_)
  refine lv_iconst (v := 1) hx hb dX9_decode_171 (by decide) ?_
  exact rt_i C rfl hH hS hw dX9_decode_172
/-! WebHost$Requests.is(IILjava/lang/String;)Z -/
abbrev cX9_is : ByteArray := prog_11_method_8_code
def yX9_is : MethodName := ⟨RX9, "is", "(IILjava/lang/String;)Z"⟩
theorem dX9_is_0 : decode cX9_is 0 = .ok (.iload_n 2, 1) := by decide +kernel
theorem dX9_is_1 : decode cX9_is 1 = .ok (.iload_n 1, 1) := by decide +kernel
theorem dX9_is_2 : decode cX9_is 2 = .ok (.isub, 1) := by decide +kernel
theorem dX9_is_3 : decode cX9_is 3 = .ok (.aload_n 3, 1) := by decide +kernel
theorem dX9_is_4 : decode cX9_is 4 = .ok (.invokevirtual 64, 3) := by decide +kernel
theorem dX9_is_7 : decode cX9_is 7 = .ok (.if_icmp .eq 5, 3) := by decide +kernel
theorem dX9_is_10 : decode cX9_is 10 = .ok (.iconst 0, 1) := by decide +kernel
theorem dX9_is_11 : decode cX9_is 11 = .ok (.ireturn, 1) := by decide +kernel
theorem dX9_is_12 : decode cX9_is 12 = .ok (.iconst 0, 1) := by decide +kernel
theorem dX9_is_13 : decode cX9_is 13 = .ok (.istore 4, 2) := by decide +kernel
theorem dX9_is_15 : decode cX9_is 15 = .ok (.iload 4, 2) := by decide +kernel
theorem dX9_is_17 : decode cX9_is 17 = .ok (.aload_n 3, 1) := by decide +kernel
theorem dX9_is_18 : decode cX9_is 18 = .ok (.invokevirtual 64, 3) := by decide +kernel
theorem dX9_is_21 : decode cX9_is 21 = .ok (.if_icmp .ge 32, 3) := by decide +kernel
theorem dX9_is_24 : decode cX9_is 24 = .ok (.aload_n 0, 1) := by decide +kernel
theorem dX9_is_25 : decode cX9_is 25 = .ok (.getfield 9, 3) := by decide +kernel
theorem dX9_is_28 : decode cX9_is 28 = .ok (.iload_n 1, 1) := by decide +kernel
theorem dX9_is_29 : decode cX9_is 29 = .ok (.iload 4, 2) := by decide +kernel
theorem dX9_is_31 : decode cX9_is 31 = .ok (.iadd, 1) := by decide +kernel
theorem dX9_is_32 : decode cX9_is 32 = .ok (.baload, 1) := by decide +kernel
theorem dX9_is_33 : decode cX9_is 33 = .ok (.invokestatic 70, 3) := by decide +kernel
theorem dX9_is_36 : decode cX9_is 36 = .ok (.aload_n 3, 1) := by decide +kernel
theorem dX9_is_37 : decode cX9_is 37 = .ok (.iload 4, 2) := by decide +kernel
theorem dX9_is_39 : decode cX9_is 39 = .ok (.invokevirtual 74, 3) := by decide +kernel
theorem dX9_is_42 : decode cX9_is 42 = .ok (.if_icmp .eq 5, 3) := by decide +kernel
theorem dX9_is_45 : decode cX9_is 45 = .ok (.iconst 0, 1) := by decide +kernel
theorem dX9_is_46 : decode cX9_is 46 = .ok (.ireturn, 1) := by decide +kernel
theorem dX9_is_47 : decode cX9_is 47 = .ok (.iinc 4 1, 3) := by decide +kernel
theorem dX9_is_50 : decode cX9_is 50 = .ok (.goto (-35), 3) := by decide +kernel
theorem dX9_is_53 : decode cX9_is 53 = .ok (.iconst 1, 1) := by decide +kernel
theorem dX9_is_54 : decode cX9_is 54 = .ok (.ireturn, 1) := by decide +kernel
def rmX9_is : Room := { frames := 4, cells := 0, slots := 0, locals := 85 }
theorem kX9_is : yX9_is.cls = "WebHost$Requests" ∧ yX9_is.cls ≠ "java/lang/invoke/MethodHandle" ∧ yX9_is.cls ≠ "java/lang/invoke/VarHandle" ∧ (parseMethodDescriptor yX9_is.desc).map (fun d => d.parameters.length) = some 3 := by decide +kernel
def w9_is_L15 (σ : St) (x1 : Int32) (t3 : Nat) (Q : Int32 → Prop) (K45 : Prop) (K53 : Prop) : Nat → Int32 → Prop
  | 0, _ => False
  | n + 1, x4 => wJ1_length t3 (fun r2 => ((r2 ≤ x4 → K53) ∧ (¬ r2 ≤ x4 → (vp_in (x1 + x4) 4096 ∧ (by8 (σ 40 0 (x1 + x4).toNatClampNeg) → (w9_small σ (σ 40 0 (x1 + x4).toNatClampNeg) (fun r3 => (wJ1_charAt t3 x4 (fun r4 => ((r3 = r4 → (w9_is_L15 σ x1 t3 Q K45 K53 n (x4 + 1))) ∧ (¬ r3 = r4 → K45)))))))))))
set_option maxHeartbeats 4000000 in
theorem k9_is_L15 {p : Program} {l : Launch} {e : Env} {s : State} {m : MethodId} {args : Array Value} {below : List Frame} {meth : Method} {c : Code} {G : Gh} {a1 : Nat → Nat → Nat} {τ : St} {H : Heap} {Q : Int32 → Prop} {K45 : Prop} {K53 : Prop} (C : Cx p e s m args meth c cX9_is 5 (some .boolean) "WebHost$Requests" G) (σ : St) (x1 : Int32) (t3 : Nat) (ht3 : t3 < nS) (hH : Hd G a1 (cmb σ τ) H) :
    ∀ (n : Nat) (x4 : Int32), w9_is_L15 σ x1 t3 Q K45 K53 n x4 → ∀ (locs : List Loc) (ls : Array Slot), va_S (gA G) s.heap H locs → lv_has ls 5 [(0, .ref (ga G 9 0)), (1, .int x1), (3, .ref (gs G t3)), (4, .int x4)] → (K45 → ∀ (locs : List Loc) (ls : Array Slot), va_S (gA G) s.heap H locs → lv_has ls 5 [] → W p l e rmX9_is s m args below meth c H locs 0 0 (MQ below (QIp G H Q) args s 0 0 (gA G)) (F0 m 45 ls [])) → (K53 → ∀ (locs : List Loc) (ls : Array Slot), va_S (gA G) s.heap H locs → lv_has ls 5 [] → W p l e rmX9_is s m args below meth c H locs 0 0 (MQ below (QIp G H Q) args s 0 0 (gA G)) (F0 m 53 ls [])) → W p l e rmX9_is s m args below meth c H locs 0 0 (MQ below (QIp G H Q) args s 0 0 (gA G)) (F0 m 15 ls []) := by
  have hx := C.1
  have hb := C.2.1
  have hown := C.2.2.2.2.2.1
  have hts := C.2.2.2.2.2.2.1
  intro n
  induction n with
  | zero =>
    intro x4 hw
    exact False.elim hw
  | succ n ih =>
    intro x4 hw locs ls hS hl hK45 hK53
    refine lv_iload hx hb dX9_is_15 (lv_at hl 3 rfl) ?_
    refine lv_aload_n hx hb dX9_is_17 rfl (lv_at hl 2 rfl) ?_
    refine kc_ip (rn_vS (As := []) (rest := [.int x4]) C hH hS ht3 (mJ1_length l G a1 τ (cmb σ τ) H t3 ht3 _ hw) (cwV 0 hts (lw_V q1334 q1273 q1274 q178 q1275) rfl rfl rfl kXJ1_length ⟨Nat.le_of_ble_eq_true rfl, Nat.le_of_ble_eq_true rfl⟩) rfl hl.1 rfl (Nat.le_of_ble_eq_true rfl) dX9_is_18 ⟨Nat.le_of_ble_eq_true rfl, Nat.le_of_ble_eq_true rfl⟩) hS (fun r2 locs hw hS => ?_)
    refine lv_icmp_ge (tgt := 53) hx hb dX9_is_21 (by decide) (fun h => ?_) (fun h => ?_)
    · have hw := hw.1 h
      exact hK53 hw locs ls hS (lv_sub hl [] rfl)
    have hw := hw.2 h
    refine lv_aload_n hx hb dX9_is_24 rfl (lv_at hl 0 rfl) ?_
    refine g9_1 C hH q449 dX9_is_25 ?_
    refine lv_iload_n hx hb dX9_is_28 rfl (lv_at hl 1 rfl) ?_
    refine lv_iload hx hb dX9_is_29 (lv_at hl 3 rfl) ?_
    refine lv_iadd hx hb dX9_is_31 ?_
    refine l40 C hH hw.1 dX9_is_32 (fun hz => ?_)
    have hw := hw.2 hz
    refine kc_ip (rn_sp (As := [.int (σ 40 0 (x1 + x4).toNatClampNeg)]) (rest := []) C hH hS (m9_small l G a1 τ σ H (σ 40 0 (x1 + x4).toNatClampNeg) _ hw) (va_cwS 1 hts (lw_S q1460 q1461 q166 q1462) rfl rfl rfl kX9_small.2 ⟨Nat.le_of_ble_eq_true rfl, Nat.le_of_ble_eq_true rfl⟩) rfl hl.1 rfl (Nat.le_of_ble_eq_true rfl) dX9_is_33 ⟨Nat.le_of_ble_eq_true rfl, Nat.le_of_ble_eq_true rfl⟩) hS (fun r3 locs hw hS => ?_)
    refine lv_aload_n hx hb dX9_is_36 rfl (lv_at hl 2 rfl) ?_
    refine lv_iload hx hb dX9_is_37 (lv_at hl 3 rfl) ?_
    refine kc_ip (rn_vS (As := [.int x4]) (rest := [.int r3]) C hH hS ht3 (mJ1_charAt l G a1 τ (cmb σ τ) H t3 x4 ht3 _ hw) (cwV 1 hts (lw_V q1373 q1283 q1284 q178 q1285) rfl rfl rfl kXJ1_charAt ⟨Nat.le_of_ble_eq_true rfl, Nat.le_of_ble_eq_true rfl⟩) rfl hl.1 rfl (Nat.le_of_ble_eq_true rfl) dX9_is_39 ⟨Nat.le_of_ble_eq_true rfl, Nat.le_of_ble_eq_true rfl⟩) hS (fun r4 locs hw hS => ?_)
    refine lv_icmp_eq (tgt := 47) hx hb dX9_is_42 (by decide) (fun h => ?_) (fun h => ?_)
    · have hw := hw.1 h
      refine lv_iinc (v := x4 + 1) (lv' := [(4, .int (x4 + 1)), (0, .ref (ga G 9 0)), (1, .int x1), (3, .ref (gs G t3))]) hx hb dX9_is_47 hl (k := 3) rfl rfl (by decide) rfl (fun ls hl => ?_)
      refine lv_goto (tgt := 15) hx hb dX9_is_50 (by decide) ?_
      exact ih (x4 + 1) hw locs ls hS (lv_sub hl [1, 2, 3, 0] rfl) hK45 hK53
    have hw := hw.2 h
    exact hK45 hw locs ls hS (lv_sub hl [] rfl)
def w9_is (σ : St) (x1 : Int32) (x2 : Int32) (t3 : Nat) (Q : Int32 → Prop) : Prop := wJ1_length t3 (fun r1 => (((x2 - x1) = r1 → (∃ z5, w9_is_L15 σ x1 t3 Q (Q 0) (Q 1) z5 0)) ∧ (¬ (x2 - x1) = r1 → Q 0)))
set_option maxHeartbeats 4000000 in
theorem m9_is (l : Launch) (G : Gh) (a1 : Nat → Nat → Nat) (τ : St) (σ : St) (H : Heap) (x1 : Int32) (x2 : Int32) (t3 : Nat) (ht3 : t3 < nS) (Q : Int32 → Prop) (hw : w9_is σ x1 x2 t3 Q) : Met l yX9_is (ws_ yX9_is cX9_is 5 (some .boolean)) rmX9_is (PcP G a1 (cmb σ τ) H [.ref (ga G 9 0), .int x1, .int x2, .ref (gs G t3)]) (QIp G H Q) 0 0 (gA G) := by
  refine met_p (by decide) (Nat.le_of_ble_eq_true rfl) ?_
  intro p e s m below meth c ls hHe C hH hS hl
  have C : Cx p e s m _ meth c cX9_is 5 (some .boolean) "WebHost$Requests" G := C
  have hl : lv_has ls 5 [(0, .ref (ga G 9 0)), (1, .int x1), (2, .int x2), (3, .ref (gs G t3))] := hl
  have hx := C.1
  have hb := C.2.1
  have hown := C.2.2.2.2.2.1
  have hts := C.2.2.2.2.2.2.1
  obtain ⟨locs, hlocs⟩ : ∃ z : List Loc, z = [] := ⟨_, rfl⟩
  rw [← hlocs] at hS ⊢
  refine lv_iload_n hx hb dX9_is_0 rfl (lv_at hl 2 rfl) ?_
  refine lv_iload_n hx hb dX9_is_1 rfl (lv_at hl 1 rfl) ?_
  refine lv_isub hx hb dX9_is_2 ?_
  refine lv_aload_n hx hb dX9_is_3 rfl (lv_at hl 3 rfl) ?_
  refine kc_ip (rn_vS (As := []) (rest := [.int (x2 - x1)]) C hH hS ht3 (mJ1_length l G a1 τ (cmb σ τ) H t3 ht3 _ hw) (cwV 0 hts (lw_V q1334 q1273 q1274 q178 q1275) rfl rfl rfl kXJ1_length ⟨Nat.le_of_ble_eq_true rfl, Nat.le_of_ble_eq_true rfl⟩) rfl hl.1 rfl (Nat.le_of_ble_eq_true rfl) dX9_is_4 ⟨Nat.le_of_ble_eq_true rfl, Nat.le_of_ble_eq_true rfl⟩) hS (fun r1 locs hw hS => ?_)
  refine lv_icmp_eq (tgt := 12) hx hb dX9_is_7 (by decide) (fun h => ?_) (fun h => ?_)
  · have hw := hw.1 h
    refine lv_iconst (v := 0) hx hb dX9_is_12 (by decide) ?_
    refine lv_istore (lv' := [(4, .int 0), (0, .ref (ga G 9 0)), (1, .int x1), (2, .int x2), (3, .ref (gs G t3))]) hx hb dX9_is_13 hl (by decide) rfl (fun ls hl => ?_)
    obtain ⟨n5, hw⟩ := hw
    refine k9_is_L15 C σ x1 t3 ht3 hH n5 0 hw locs ls hS (lv_sub hl [1, 2, 4, 0] rfl) (fun hw locs ls hS hl => ?_) (fun hw locs ls hS hl => ?_)
    · refine lv_iconst (v := 0) hx hb dX9_is_45 (by decide) ?_
      exact rt_ip C rfl hS hw dX9_is_46
    refine lv_iconst (v := 1) hx hb dX9_is_53 (by decide) ?_
    exact rt_ip C rfl hS hw dX9_is_54
  have hw := hw.2 h
  refine lv_iconst (v := 0) hx hb dX9_is_10 (by decide) ?_
  exact rt_ip C rfl hS hw dX9_is_11
/-! WebHost$Requests.isExactly(IILjava/lang/String;)Z -/
abbrev cX9_isExactly : ByteArray := prog_11_method_9_code
def yX9_isExactly : MethodName := ⟨RX9, "isExactly", "(IILjava/lang/String;)Z"⟩
theorem dX9_isExactly_0 : decode cX9_isExactly 0 = .ok (.iload_n 2, 1) := by decide +kernel
theorem dX9_isExactly_1 : decode cX9_isExactly 1 = .ok (.iload_n 1, 1) := by decide +kernel
theorem dX9_isExactly_2 : decode cX9_isExactly 2 = .ok (.isub, 1) := by decide +kernel
theorem dX9_isExactly_3 : decode cX9_isExactly 3 = .ok (.aload_n 3, 1) := by decide +kernel
theorem dX9_isExactly_4 : decode cX9_isExactly 4 = .ok (.invokevirtual 64, 3) := by decide +kernel
theorem dX9_isExactly_7 : decode cX9_isExactly 7 = .ok (.if_icmp .eq 5, 3) := by decide +kernel
theorem dX9_isExactly_10 : decode cX9_isExactly 10 = .ok (.iconst 0, 1) := by decide +kernel
theorem dX9_isExactly_11 : decode cX9_isExactly 11 = .ok (.ireturn, 1) := by decide +kernel
theorem dX9_isExactly_12 : decode cX9_isExactly 12 = .ok (.iconst 0, 1) := by decide +kernel
theorem dX9_isExactly_13 : decode cX9_isExactly 13 = .ok (.istore 4, 2) := by decide +kernel
theorem dX9_isExactly_15 : decode cX9_isExactly 15 = .ok (.iload 4, 2) := by decide +kernel
theorem dX9_isExactly_17 : decode cX9_isExactly 17 = .ok (.aload_n 3, 1) := by decide +kernel
theorem dX9_isExactly_18 : decode cX9_isExactly 18 = .ok (.invokevirtual 64, 3) := by decide +kernel
theorem dX9_isExactly_21 : decode cX9_isExactly 21 = .ok (.if_icmp .ge 29, 3) := by decide +kernel
theorem dX9_isExactly_24 : decode cX9_isExactly 24 = .ok (.aload_n 0, 1) := by decide +kernel
theorem dX9_isExactly_25 : decode cX9_isExactly 25 = .ok (.getfield 9, 3) := by decide +kernel
theorem dX9_isExactly_28 : decode cX9_isExactly 28 = .ok (.iload_n 1, 1) := by decide +kernel
theorem dX9_isExactly_29 : decode cX9_isExactly 29 = .ok (.iload 4, 2) := by decide +kernel
theorem dX9_isExactly_31 : decode cX9_isExactly 31 = .ok (.iadd, 1) := by decide +kernel
theorem dX9_isExactly_32 : decode cX9_isExactly 32 = .ok (.baload, 1) := by decide +kernel
theorem dX9_isExactly_33 : decode cX9_isExactly 33 = .ok (.aload_n 3, 1) := by decide +kernel
theorem dX9_isExactly_34 : decode cX9_isExactly 34 = .ok (.iload 4, 2) := by decide +kernel
theorem dX9_isExactly_36 : decode cX9_isExactly 36 = .ok (.invokevirtual 74, 3) := by decide +kernel
theorem dX9_isExactly_39 : decode cX9_isExactly 39 = .ok (.if_icmp .eq 5, 3) := by decide +kernel
theorem dX9_isExactly_42 : decode cX9_isExactly 42 = .ok (.iconst 0, 1) := by decide +kernel
theorem dX9_isExactly_43 : decode cX9_isExactly 43 = .ok (.ireturn, 1) := by decide +kernel
theorem dX9_isExactly_44 : decode cX9_isExactly 44 = .ok (.iinc 4 1, 3) := by decide +kernel
theorem dX9_isExactly_47 : decode cX9_isExactly 47 = .ok (.goto (-32), 3) := by decide +kernel
theorem dX9_isExactly_50 : decode cX9_isExactly 50 = .ok (.iconst 1, 1) := by decide +kernel
theorem dX9_isExactly_51 : decode cX9_isExactly 51 = .ok (.ireturn, 1) := by decide +kernel
def rmX9_isExactly : Room := { frames := 4, cells := 0, slots := 0, locals := 85 }
theorem kX9_isExactly : yX9_isExactly.cls = "WebHost$Requests" ∧ yX9_isExactly.cls ≠ "java/lang/invoke/MethodHandle" ∧ yX9_isExactly.cls ≠ "java/lang/invoke/VarHandle" ∧ (parseMethodDescriptor yX9_isExactly.desc).map (fun d => d.parameters.length) = some 3 := by decide +kernel
def w9_isExactly_L15 (σ : St) (x1 : Int32) (t3 : Nat) (Q : Int32 → Prop) (K42 : Prop) (K50 : Prop) : Nat → Int32 → Prop
  | 0, _ => False
  | n + 1, x4 => wJ1_length t3 (fun r2 => ((r2 ≤ x4 → K50) ∧ (¬ r2 ≤ x4 → (vp_in (x1 + x4) 4096 ∧ (by8 (σ 40 0 (x1 + x4).toNatClampNeg) → (wJ1_charAt t3 x4 (fun r3 => (((σ 40 0 (x1 + x4).toNatClampNeg) = r3 → (w9_isExactly_L15 σ x1 t3 Q K42 K50 n (x4 + 1))) ∧ (¬ (σ 40 0 (x1 + x4).toNatClampNeg) = r3 → K42)))))))))
set_option maxHeartbeats 4000000 in
theorem k9_isExactly_L15 {p : Program} {l : Launch} {e : Env} {s : State} {m : MethodId} {args : Array Value} {below : List Frame} {meth : Method} {c : Code} {G : Gh} {a1 : Nat → Nat → Nat} {τ : St} {H : Heap} {Q : Int32 → Prop} {K42 : Prop} {K50 : Prop} (C : Cx p e s m args meth c cX9_isExactly 5 (some .boolean) "WebHost$Requests" G) (σ : St) (x1 : Int32) (t3 : Nat) (ht3 : t3 < nS) (hH : Hd G a1 (cmb σ τ) H) :
    ∀ (n : Nat) (x4 : Int32), w9_isExactly_L15 σ x1 t3 Q K42 K50 n x4 → ∀ (locs : List Loc) (ls : Array Slot), va_S (gA G) s.heap H locs → lv_has ls 5 [(0, .ref (ga G 9 0)), (1, .int x1), (3, .ref (gs G t3)), (4, .int x4)] → (K42 → ∀ (locs : List Loc) (ls : Array Slot), va_S (gA G) s.heap H locs → lv_has ls 5 [] → W p l e rmX9_isExactly s m args below meth c H locs 0 0 (MQ below (QIp G H Q) args s 0 0 (gA G)) (F0 m 42 ls [])) → (K50 → ∀ (locs : List Loc) (ls : Array Slot), va_S (gA G) s.heap H locs → lv_has ls 5 [] → W p l e rmX9_isExactly s m args below meth c H locs 0 0 (MQ below (QIp G H Q) args s 0 0 (gA G)) (F0 m 50 ls [])) → W p l e rmX9_isExactly s m args below meth c H locs 0 0 (MQ below (QIp G H Q) args s 0 0 (gA G)) (F0 m 15 ls []) := by
  have hx := C.1
  have hb := C.2.1
  have hown := C.2.2.2.2.2.1
  have hts := C.2.2.2.2.2.2.1
  intro n
  induction n with
  | zero =>
    intro x4 hw
    exact False.elim hw
  | succ n ih =>
    intro x4 hw locs ls hS hl hK42 hK50
    refine lv_iload hx hb dX9_isExactly_15 (lv_at hl 3 rfl) ?_
    refine lv_aload_n hx hb dX9_isExactly_17 rfl (lv_at hl 2 rfl) ?_
    refine kc_ip (rn_vS (As := []) (rest := [.int x4]) C hH hS ht3 (mJ1_length l G a1 τ (cmb σ τ) H t3 ht3 _ hw) (cwV 0 hts (lw_V q1334 q1273 q1274 q178 q1275) rfl rfl rfl kXJ1_length ⟨Nat.le_of_ble_eq_true rfl, Nat.le_of_ble_eq_true rfl⟩) rfl hl.1 rfl (Nat.le_of_ble_eq_true rfl) dX9_isExactly_18 ⟨Nat.le_of_ble_eq_true rfl, Nat.le_of_ble_eq_true rfl⟩) hS (fun r2 locs hw hS => ?_)
    refine lv_icmp_ge (tgt := 50) hx hb dX9_isExactly_21 (by decide) (fun h => ?_) (fun h => ?_)
    · have hw := hw.1 h
      exact hK50 hw locs ls hS (lv_sub hl [] rfl)
    have hw := hw.2 h
    refine lv_aload_n hx hb dX9_isExactly_24 rfl (lv_at hl 0 rfl) ?_
    refine g9_1 C hH q449 dX9_isExactly_25 ?_
    refine lv_iload_n hx hb dX9_isExactly_28 rfl (lv_at hl 1 rfl) ?_
    refine lv_iload hx hb dX9_isExactly_29 (lv_at hl 3 rfl) ?_
    refine lv_iadd hx hb dX9_isExactly_31 ?_
    refine l40 C hH hw.1 dX9_isExactly_32 (fun hz => ?_)
    have hw := hw.2 hz
    refine lv_aload_n hx hb dX9_isExactly_33 rfl (lv_at hl 2 rfl) ?_
    refine lv_iload hx hb dX9_isExactly_34 (lv_at hl 3 rfl) ?_
    refine kc_ip (rn_vS (As := [.int x4]) (rest := [.int (σ 40 0 (x1 + x4).toNatClampNeg)]) C hH hS ht3 (mJ1_charAt l G a1 τ (cmb σ τ) H t3 x4 ht3 _ hw) (cwV 1 hts (lw_V q1373 q1283 q1284 q178 q1285) rfl rfl rfl kXJ1_charAt ⟨Nat.le_of_ble_eq_true rfl, Nat.le_of_ble_eq_true rfl⟩) rfl hl.1 rfl (Nat.le_of_ble_eq_true rfl) dX9_isExactly_36 ⟨Nat.le_of_ble_eq_true rfl, Nat.le_of_ble_eq_true rfl⟩) hS (fun r3 locs hw hS => ?_)
    refine lv_icmp_eq (tgt := 44) hx hb dX9_isExactly_39 (by decide) (fun h => ?_) (fun h => ?_)
    · have hw := hw.1 h
      refine lv_iinc (v := x4 + 1) (lv' := [(4, .int (x4 + 1)), (0, .ref (ga G 9 0)), (1, .int x1), (3, .ref (gs G t3))]) hx hb dX9_isExactly_44 hl (k := 3) rfl rfl (by decide) rfl (fun ls hl => ?_)
      refine lv_goto (tgt := 15) hx hb dX9_isExactly_47 (by decide) ?_
      exact ih (x4 + 1) hw locs ls hS (lv_sub hl [1, 2, 3, 0] rfl) hK42 hK50
    have hw := hw.2 h
    exact hK42 hw locs ls hS (lv_sub hl [] rfl)
def w9_isExactly (σ : St) (x1 : Int32) (x2 : Int32) (t3 : Nat) (Q : Int32 → Prop) : Prop := wJ1_length t3 (fun r1 => (((x2 - x1) = r1 → (∃ z4, w9_isExactly_L15 σ x1 t3 Q (Q 0) (Q 1) z4 0)) ∧ (¬ (x2 - x1) = r1 → Q 0)))
set_option maxHeartbeats 4000000 in
theorem m9_isExactly (l : Launch) (G : Gh) (a1 : Nat → Nat → Nat) (τ : St) (σ : St) (H : Heap) (x1 : Int32) (x2 : Int32) (t3 : Nat) (ht3 : t3 < nS) (Q : Int32 → Prop) (hw : w9_isExactly σ x1 x2 t3 Q) : Met l yX9_isExactly (ws_ yX9_isExactly cX9_isExactly 5 (some .boolean)) rmX9_isExactly (PcP G a1 (cmb σ τ) H [.ref (ga G 9 0), .int x1, .int x2, .ref (gs G t3)]) (QIp G H Q) 0 0 (gA G) := by
  refine met_p (by decide) (Nat.le_of_ble_eq_true rfl) ?_
  intro p e s m below meth c ls hHe C hH hS hl
  have C : Cx p e s m _ meth c cX9_isExactly 5 (some .boolean) "WebHost$Requests" G := C
  have hl : lv_has ls 5 [(0, .ref (ga G 9 0)), (1, .int x1), (2, .int x2), (3, .ref (gs G t3))] := hl
  have hx := C.1
  have hb := C.2.1
  have hown := C.2.2.2.2.2.1
  have hts := C.2.2.2.2.2.2.1
  obtain ⟨locs, hlocs⟩ : ∃ z : List Loc, z = [] := ⟨_, rfl⟩
  rw [← hlocs] at hS ⊢
  refine lv_iload_n hx hb dX9_isExactly_0 rfl (lv_at hl 2 rfl) ?_
  refine lv_iload_n hx hb dX9_isExactly_1 rfl (lv_at hl 1 rfl) ?_
  refine lv_isub hx hb dX9_isExactly_2 ?_
  refine lv_aload_n hx hb dX9_isExactly_3 rfl (lv_at hl 3 rfl) ?_
  refine kc_ip (rn_vS (As := []) (rest := [.int (x2 - x1)]) C hH hS ht3 (mJ1_length l G a1 τ (cmb σ τ) H t3 ht3 _ hw) (cwV 0 hts (lw_V q1334 q1273 q1274 q178 q1275) rfl rfl rfl kXJ1_length ⟨Nat.le_of_ble_eq_true rfl, Nat.le_of_ble_eq_true rfl⟩) rfl hl.1 rfl (Nat.le_of_ble_eq_true rfl) dX9_isExactly_4 ⟨Nat.le_of_ble_eq_true rfl, Nat.le_of_ble_eq_true rfl⟩) hS (fun r1 locs hw hS => ?_)
  refine lv_icmp_eq (tgt := 12) hx hb dX9_isExactly_7 (by decide) (fun h => ?_) (fun h => ?_)
  · have hw := hw.1 h
    refine lv_iconst (v := 0) hx hb dX9_isExactly_12 (by decide) ?_
    refine lv_istore (lv' := [(4, .int 0), (0, .ref (ga G 9 0)), (1, .int x1), (2, .int x2), (3, .ref (gs G t3))]) hx hb dX9_isExactly_13 hl (by decide) rfl (fun ls hl => ?_)
    obtain ⟨n4, hw⟩ := hw
    refine k9_isExactly_L15 C σ x1 t3 ht3 hH n4 0 hw locs ls hS (lv_sub hl [1, 2, 4, 0] rfl) (fun hw locs ls hS hl => ?_) (fun hw locs ls hS hl => ?_)
    · refine lv_iconst (v := 0) hx hb dX9_isExactly_42 (by decide) ?_
      exact rt_ip C rfl hS hw dX9_isExactly_43
    refine lv_iconst (v := 1) hx hb dX9_isExactly_50 (by decide) ?_
    exact rt_ip C rfl hS hw dX9_isExactly_51
  have hw := hw.2 h
  refine lv_iconst (v := 0) hx hb dX9_isExactly_10 (by decide) ?_
  exact rt_ip C rfl hS hw dX9_isExactly_11
/-! WebHost$Requests.isNameCode(I)Z -/
abbrev cX9_isNameCode : ByteArray := prog_11_method_11_code
def yX9_isNameCode : MethodName := ⟨RX9, "isNameCode", "(I)Z"⟩
theorem dX9_isNameCode_0 : decode cX9_isNameCode 0 = .ok (.iload_n 0, 1) := by decide +kernel
theorem dX9_isNameCode_1 : decode cX9_isNameCode 1 = .ok (.bipush 97, 2) := by decide +kernel
theorem dX9_isNameCode_3 : decode cX9_isNameCode 3 = .ok (.bipush 122, 2) := by decide +kernel
theorem dX9_isNameCode_5 : decode cX9_isNameCode 5 = .ok (.invokestatic 60, 3) := by decide +kernel
theorem dX9_isNameCode_8 : decode cX9_isNameCode 8 = .ok (.ifCond .ne 39, 3) := by decide +kernel
theorem dX9_isNameCode_11 : decode cX9_isNameCode 11 = .ok (.iload_n 0, 1) := by decide +kernel
theorem dX9_isNameCode_12 : decode cX9_isNameCode 12 = .ok (.bipush 65, 2) := by decide +kernel
theorem dX9_isNameCode_14 : decode cX9_isNameCode 14 = .ok (.bipush 90, 2) := by decide +kernel
theorem dX9_isNameCode_16 : decode cX9_isNameCode 16 = .ok (.invokestatic 60, 3) := by decide +kernel
theorem dX9_isNameCode_19 : decode cX9_isNameCode 19 = .ok (.ifCond .ne 28, 3) := by decide +kernel
theorem dX9_isNameCode_22 : decode cX9_isNameCode 22 = .ok (.iload_n 0, 1) := by decide +kernel
theorem dX9_isNameCode_23 : decode cX9_isNameCode 23 = .ok (.bipush 48, 2) := by decide +kernel
theorem dX9_isNameCode_25 : decode cX9_isNameCode 25 = .ok (.bipush 57, 2) := by decide +kernel
theorem dX9_isNameCode_27 : decode cX9_isNameCode 27 = .ok (.invokestatic 60, 3) := by decide +kernel
theorem dX9_isNameCode_30 : decode cX9_isNameCode 30 = .ok (.ifCond .ne 17, 3) := by decide +kernel
theorem dX9_isNameCode_33 : decode cX9_isNameCode 33 = .ok (.iload_n 0, 1) := by decide +kernel
theorem dX9_isNameCode_34 : decode cX9_isNameCode 34 = .ok (.ifCond .le 17, 3) := by decide +kernel
theorem dX9_isNameCode_37 : decode cX9_isNameCode 37 = .ok (.ldc 95, 2) := by decide +kernel
theorem dX9_isNameCode_39 : decode cX9_isNameCode 39 = .ok (.iload_n 0, 1) := by decide +kernel
theorem dX9_isNameCode_40 : decode cX9_isNameCode 40 = .ok (.i2c, 1) := by decide +kernel
theorem dX9_isNameCode_41 : decode cX9_isNameCode 41 = .ok (.invokevirtual 97, 3) := by decide +kernel
theorem dX9_isNameCode_44 : decode cX9_isNameCode 44 = .ok (.ifCond .lt 7, 3) := by decide +kernel
theorem dX9_isNameCode_47 : decode cX9_isNameCode 47 = .ok (.iconst 1, 1) := by decide +kernel
theorem dX9_isNameCode_48 : decode cX9_isNameCode 48 = .ok (.goto 4, 3) := by decide +kernel
theorem dX9_isNameCode_51 : decode cX9_isNameCode 51 = .ok (.iconst 0, 1) := by decide +kernel
theorem dX9_isNameCode_52 : decode cX9_isNameCode 52 = .ok (.ireturn, 1) := by decide +kernel
def rmX9_isNameCode : Room := { frames := 4, cells := 0, slots := 0, locals := 91 }
theorem kX9_isNameCode : yX9_isNameCode.cls = "WebHost$Requests" ∧ yX9_isNameCode.cls ≠ "java/lang/invoke/MethodHandle" ∧ yX9_isNameCode.cls ≠ "java/lang/invoke/VarHandle" ∧ (parseMethodDescriptor yX9_isNameCode.desc).map (fun d => d.parameters.length) = some 1 := by decide +kernel
def w9_isNameCode (σ : St) (x0 : Int32) (Q : Int32 → Prop) : Prop := w9_isIn σ x0 97 122 (fun r1 => ((¬ r1 = 0 → Q 1) ∧ (r1 = 0 → (w9_isIn σ x0 65 90 (fun r2 => ((¬ r2 = 0 → Q 1) ∧ (r2 = 0 → (w9_isIn σ x0 48 57 (fun r3 => ((¬ r3 = 0 → Q 1) ∧ (r3 = 0 → ((x0 ≤ 0 → Q 0) ∧ (¬ x0 ≤ 0 → (wJ1_indexOf 4 ((x0.toUInt32 % 65536).toInt32) (fun r4 => ((r4 < 0 → Q 0) ∧ (¬ r4 < 0 → Q 1)))))))))))))))))
set_option maxHeartbeats 4000000 in
theorem m9_isNameCode (l : Launch) (G : Gh) (a1 : Nat → Nat → Nat) (τ : St) (σ : St) (H : Heap) (x0 : Int32) (Q : Int32 → Prop) (hw : w9_isNameCode σ x0 Q) : Met l yX9_isNameCode (ws_ yX9_isNameCode cX9_isNameCode 1 (some .boolean)) rmX9_isNameCode (PcP G a1 (cmb σ τ) H [.int x0]) (QIp G H Q) 0 0 (gA G) := by
  refine met_p (by decide) (Nat.le_of_ble_eq_true rfl) ?_
  intro p e s m below meth c ls hHe C hH hS hl
  have C : Cx p e s m _ meth c cX9_isNameCode 1 (some .boolean) "WebHost$Requests" G := C
  have hl : lv_has ls 1 [(0, .int x0)] := hl
  have hx := C.1
  have hb := C.2.1
  have hown := C.2.2.2.2.2.1
  have hts := C.2.2.2.2.2.2.1
  obtain ⟨locs, hlocs⟩ : ∃ z : List Loc, z = [] := ⟨_, rfl⟩
  rw [← hlocs] at hS ⊢
  refine lv_iload_n hx hb dX9_isNameCode_0 rfl (lv_at hl 0 rfl) ?_
  refine lv_bipush (v := 97) hx hb dX9_isNameCode_1 (by decide) ?_
  refine lv_bipush (v := 122) hx hb dX9_isNameCode_3 (by decide) ?_
  refine kc_ip (rn_sp (As := [.int x0, .int 97, .int 122]) (rest := []) C hH hS (m9_isIn l G a1 τ σ H x0 97 122 _ hw) (va_cwS 3 hts (lw_S q1365 q1366 q166 q1367) rfl rfl rfl kX9_isIn.2 ⟨Nat.le_of_ble_eq_true rfl, Nat.le_of_ble_eq_true rfl⟩) rfl hl.1 rfl (Nat.le_of_ble_eq_true rfl) dX9_isNameCode_5 ⟨Nat.le_of_ble_eq_true rfl, Nat.le_of_ble_eq_true rfl⟩) hS (fun r1 locs hw hS => ?_)
  refine lv_if_ne (tgt := 47) hx hb dX9_isNameCode_8 (by decide) (fun h => ?_) (fun h => ?_)
  · have hw := hw.1 h
    refine lv_iconst (v := 1) hx hb dX9_isNameCode_47 (by decide) ?_
    refine lv_goto (tgt := 52) hx hb dX9_isNameCode_48 (by decide) ?_
    exact rt_ip C rfl hS hw dX9_isNameCode_52
  have hw := hw.2 h
  refine lv_iload_n hx hb dX9_isNameCode_11 rfl (lv_at hl 0 rfl) ?_
  refine lv_bipush (v := 65) hx hb dX9_isNameCode_12 (by decide) ?_
  refine lv_bipush (v := 90) hx hb dX9_isNameCode_14 (by decide) ?_
  refine kc_ip (rn_sp (As := [.int x0, .int 65, .int 90]) (rest := []) C hH hS (m9_isIn l G a1 τ σ H x0 65 90 _ hw) (va_cwS 3 hts (lw_S q1365 q1366 q166 q1367) rfl rfl rfl kX9_isIn.2 ⟨Nat.le_of_ble_eq_true rfl, Nat.le_of_ble_eq_true rfl⟩) rfl hl.1 rfl (Nat.le_of_ble_eq_true rfl) dX9_isNameCode_16 ⟨Nat.le_of_ble_eq_true rfl, Nat.le_of_ble_eq_true rfl⟩) hS (fun r2 locs hw hS => ?_)
  refine lv_if_ne (tgt := 47) hx hb dX9_isNameCode_19 (by decide) (fun h => ?_) (fun h => ?_)
  · have hw := hw.1 h
    refine lv_iconst (v := 1) hx hb dX9_isNameCode_47 (by decide) ?_
    refine lv_goto (tgt := 52) hx hb dX9_isNameCode_48 (by decide) ?_
    exact rt_ip C rfl hS hw dX9_isNameCode_52
  have hw := hw.2 h
  refine lv_iload_n hx hb dX9_isNameCode_22 rfl (lv_at hl 0 rfl) ?_
  refine lv_bipush (v := 48) hx hb dX9_isNameCode_23 (by decide) ?_
  refine lv_bipush (v := 57) hx hb dX9_isNameCode_25 (by decide) ?_
  refine kc_ip (rn_sp (As := [.int x0, .int 48, .int 57]) (rest := []) C hH hS (m9_isIn l G a1 τ σ H x0 48 57 _ hw) (va_cwS 3 hts (lw_S q1365 q1366 q166 q1367) rfl rfl rfl kX9_isIn.2 ⟨Nat.le_of_ble_eq_true rfl, Nat.le_of_ble_eq_true rfl⟩) rfl hl.1 rfl (Nat.le_of_ble_eq_true rfl) dX9_isNameCode_27 ⟨Nat.le_of_ble_eq_true rfl, Nat.le_of_ble_eq_true rfl⟩) hS (fun r3 locs hw hS => ?_)
  refine lv_if_ne (tgt := 47) hx hb dX9_isNameCode_30 (by decide) (fun h => ?_) (fun h => ?_)
  · have hw := hw.1 h
    refine lv_iconst (v := 1) hx hb dX9_isNameCode_47 (by decide) ?_
    refine lv_goto (tgt := 52) hx hb dX9_isNameCode_48 (by decide) ?_
    exact rt_ip C rfl hS hw dX9_isNameCode_52
  have hw := hw.2 h
  refine lv_iload_n hx hb dX9_isNameCode_33 rfl (lv_at hl 0 rfl) ?_
  refine lv_if_le (tgt := 51) hx hb dX9_isNameCode_34 (by decide) (fun h => ?_) (fun h => ?_)
  · have hw := hw.1 h
    refine lv_iconst (v := 0) hx hb dX9_isNameCode_51 (by decide) ?_
    exact rt_ip C rfl hS hw dX9_isNameCode_52
  have hw := hw.2 h
  refine str_ldc (n := 4) C st4 dX9_isNameCode_37 ?_
  refine lv_iload_n hx hb dX9_isNameCode_39 rfl (lv_at hl 0 rfl) ?_
  refine lv_i2c (v := (x0.toUInt32 % 65536).toInt32) hx hb dX9_isNameCode_40 rfl ?_
  refine kc_ip (rn_vS (As := [.int ((x0.toUInt32 % 65536).toInt32)]) (rest := []) C hH hS (by decide) (mJ1_indexOf l G a1 τ (cmb σ τ) H 4 ((x0.toUInt32 % 65536).toInt32) (by decide) _ hw) (cwV 1 hts (lw_V q1393 q1394 q1395 q178 q1396) rfl rfl rfl kXJ1_indexOf ⟨Nat.le_of_ble_eq_true rfl, Nat.le_of_ble_eq_true rfl⟩) rfl hl.1 rfl (Nat.le_of_ble_eq_true rfl) dX9_isNameCode_41 ⟨Nat.le_of_ble_eq_true rfl, Nat.le_of_ble_eq_true rfl⟩) hS (fun r4 locs hw hS => ?_)
  refine lv_if_lt (tgt := 51) hx hb dX9_isNameCode_44 (by decide) (fun h => ?_) (fun h => ?_)
  · have hw := hw.1 h
    refine lv_iconst (v := 0) hx hb dX9_isNameCode_51 (by decide) ?_
    exact rt_ip C rfl hS hw dX9_isNameCode_52
  have hw := hw.2 h
  refine lv_iconst (v := 1) hx hb dX9_isNameCode_47 (by decide) ?_
  refine lv_goto (tgt := 52) hx hb dX9_isNameCode_48 (by decide) ?_
  exact rt_ip C rfl hS hw dX9_isNameCode_52
/-! WebHost$Answer.mark(I)V -/
abbrev cX13_mark : ByteArray := prog_2_method_7_code
def yX13_mark : MethodName := ⟨RX13, "mark", "(I)V"⟩
theorem dX13_mark_0 : decode cX13_mark 0 = .ok (.aload_n 0, 1) := by decide +kernel
theorem dX13_mark_1 : decode cX13_mark 1 = .ok (.bipush 34, 2) := by decide +kernel
theorem dX13_mark_3 : decode cX13_mark 3 = .ok (.invokevirtual 29, 3) := by decide +kernel
theorem dX13_mark_6 : decode cX13_mark 6 = .ok (.bipush 28, 2) := by decide +kernel
theorem dX13_mark_8 : decode cX13_mark 8 = .ok (.istore_n 2, 1) := by decide +kernel
theorem dX13_mark_9 : decode cX13_mark 9 = .ok (.iload_n 2, 1) := by decide +kernel
theorem dX13_mark_10 : decode cX13_mark 10 = .ok (.ifCond .lt 24, 3) := by decide +kernel
theorem dX13_mark_13 : decode cX13_mark 13 = .ok (.aload_n 0, 1) := by decide +kernel
theorem dX13_mark_14 : decode cX13_mark 14 = .ok (.ldc 37, 2) := by decide +kernel
theorem dX13_mark_16 : decode cX13_mark 16 = .ok (.iload_n 1, 1) := by decide +kernel
theorem dX13_mark_17 : decode cX13_mark 17 = .ok (.iload_n 2, 1) := by decide +kernel
theorem dX13_mark_18 : decode cX13_mark 18 = .ok (.ishr, 1) := by decide +kernel
theorem dX13_mark_19 : decode cX13_mark 19 = .ok (.bipush 15, 2) := by decide +kernel
theorem dX13_mark_21 : decode cX13_mark 21 = .ok (.iand, 1) := by decide +kernel
theorem dX13_mark_22 : decode cX13_mark 22 = .ok (.invokevirtual 25, 3) := by decide +kernel
theorem dX13_mark_25 : decode cX13_mark 25 = .ok (.invokevirtual 29, 3) := by decide +kernel
theorem dX13_mark_28 : decode cX13_mark 28 = .ok (.iinc 2 (-4), 3) := by decide +kernel
theorem dX13_mark_31 : decode cX13_mark 31 = .ok (.goto (-22), 3) := by decide +kernel
theorem dX13_mark_34 : decode cX13_mark 34 = .ok (.aload_n 0, 1) := by decide +kernel
theorem dX13_mark_35 : decode cX13_mark 35 = .ok (.bipush 34, 2) := by decide +kernel
theorem dX13_mark_37 : decode cX13_mark 37 = .ok (.invokevirtual 29, 3) := by decide +kernel
theorem dX13_mark_40 : decode cX13_mark 40 = .ok (.return_, 1) := by decide +kernel
def rmX13_mark : Room := { frames := 4, cells := 0, slots := 0, locals := 85 }
theorem kX13_mark : yX13_mark.cls = "WebHost$Answer" ∧ yX13_mark.cls ≠ "java/lang/invoke/MethodHandle" ∧ yX13_mark.cls ≠ "java/lang/invoke/VarHandle" ∧ (parseMethodDescriptor yX13_mark.desc).map (fun d => d.parameters.length) = some 1 := by decide +kernel
def w13_mark_L9 (o0 : Nat) (x1 : Int32) (Q : St → Prop) (K34 : St → Prop) : Nat → St → Int32 → Prop
  | 0, _, _ => False
  | n + 1, σ, x2 => (x2 < 0 → K34 σ) ∧ (¬ x2 < 0 → (wJ1_charAt 0 ((x1 >>> (x2 &&& 31)) &&& 15) (fun r2 => (w13_put σ o0 r2 (fun σ3 => (w13_mark_L9 o0 x1 Q K34 n σ3 (x2 + (-4))))))))
set_option maxHeartbeats 4000000 in
theorem k13_mark_L9 {p : Program} {l : Launch} {e : Env} {s : State} {m : MethodId} {args : Array Value} {below : List Frame} {meth : Method} {c : Code} {G : Gh} {a1 : Nat → Nat → Nat} {τ : St} {Q : St → Prop} {K34 : St → Prop} (C : Cx p e s m args meth c cX13_mark 3 none "WebHost$Answer" G) (o0 : Nat) (x1 : Int32) (ho0 : o0 < 16) :
    ∀ (n : Nat) (σ : St) (x2 : Int32), w13_mark_L9 o0 x1 Q K34 n σ x2 → ∀ (H : Heap) (locs : List Loc) (ls : Array Slot), Hd G a1 (cmb σ τ) H → va_S (gA G) s.heap H locs → lv_has ls 3 [(0, .ref (ga G 13 o0)), (1, .int x1), (2, .int x2)] → (∀ (σ : St) , K34 σ → ∀ (H : Heap) (locs : List Loc) (ls : Array Slot), Hd G a1 (cmb σ τ) H → va_S (gA G) s.heap H locs → lv_has ls 3 [(0, .ref (ga G 13 o0))] → W p l e rmX13_mark s m args below meth c H locs 0 0 (MQ below (QVs G a1 (fun u => cmb u τ) Q) args s 0 0 (gA G)) (F0 m 34 ls [])) → W p l e rmX13_mark s m args below meth c H locs 0 0 (MQ below (QVs G a1 (fun u => cmb u τ) Q) args s 0 0 (gA G)) (F0 m 9 ls []) := by
  have hx := C.1
  have hb := C.2.1
  have hown := C.2.2.2.2.2.1
  have hts := C.2.2.2.2.2.2.1
  intro n
  induction n with
  | zero =>
    intro σ x2 hw
    exact False.elim hw
  | succ n ih =>
    intro σ x2 hw H locs ls hH hS hl hK34
    refine lv_iload_n hx hb dX13_mark_9 rfl (lv_at hl 2 rfl) ?_
    refine lv_if_lt (tgt := 34) hx hb dX13_mark_10 (by decide) (fun h => ?_) (fun h => ?_)
    · have hw := hw.1 h
      exact hK34 σ hw H locs ls hH hS (lv_sub hl [0] rfl)
    have hw := hw.2 h
    refine lv_aload_n hx hb dX13_mark_13 rfl (lv_at hl 0 rfl) ?_
    refine str_ldc (n := 0) C st0 dX13_mark_14 ?_
    refine lv_iload_n hx hb dX13_mark_16 rfl (lv_at hl 1 rfl) ?_
    refine lv_iload_n hx hb dX13_mark_17 rfl (lv_at hl 2 rfl) ?_
    refine lv_ishr hx hb dX13_mark_18 ?_
    refine lv_bipush (v := 15) hx hb dX13_mark_19 (by decide) ?_
    refine lv_iand hx hb dX13_mark_21 ?_
    refine kc_ip (rn_vS (As := [.int ((x1 >>> (x2 &&& 31)) &&& 15)]) (rest := [.ref (ga G 13 o0)]) C hH hS (by decide) (mJ1_charAt l G a1 τ (cmb σ τ) H 0 ((x1 >>> (x2 &&& 31)) &&& 15) (by decide) _ hw) (cwV 1 hts (lw_V q1282 q1283 q1284 q178 q1285) rfl rfl rfl kXJ1_charAt ⟨Nat.le_of_ble_eq_true rfl, Nat.le_of_ble_eq_true rfl⟩) rfl hl.1 rfl (Nat.le_of_ble_eq_true rfl) dX13_mark_22 ⟨Nat.le_of_ble_eq_true rfl, Nat.le_of_ble_eq_true rfl⟩) hS (fun r2 locs hw hS => ?_)
    refine kc_v (rn_v (As := [.int r2]) (rest := []) C hH hS (by decide) rfl ho0 (m13_put l G a1 τ σ o0 r2 ho0 _ hw) (cwV 1 hts (lw_V q1320 q1321 q1322 q170 q1323) rfl rfl rfl kX13_put ⟨Nat.le_of_ble_eq_true rfl, Nat.le_of_ble_eq_true rfl⟩) rfl hl.1 rfl (Nat.le_of_ble_eq_true rfl) dX13_mark_25 ⟨Nat.le_of_ble_eq_true rfl, Nat.le_of_ble_eq_true rfl⟩) hS (fun σ3 H locs hw hH hS => ?_)
    refine lv_iinc (v := x2 + (-4)) (lv' := [(2, .int (x2 + (-4))), (0, .ref (ga G 13 o0)), (1, .int x1)]) hx hb dX13_mark_28 hl (k := 2) rfl rfl (by decide) rfl (fun ls hl => ?_)
    refine lv_goto (tgt := 9) hx hb dX13_mark_31 (by decide) ?_
    exact ih σ3 (x2 + (-4)) hw H locs ls hH hS (lv_sub hl [1, 2, 0] rfl) hK34
def w13_mark (σ : St) (o0 : Nat) (x1 : Int32) (Q : St → Prop) : Prop := w13_put σ o0 34 (fun σ1 => (∃ z4, w13_mark_L9 o0 x1 Q (fun σ5 => w13_put σ5 o0 34 (fun σ6 => (Q σ6))) z4 σ1 28))
set_option maxHeartbeats 4000000 in
theorem m13_mark (l : Launch) (G : Gh) (a1 : Nat → Nat → Nat) (τ : St) (σ : St) (o0 : Nat) (x1 : Int32) (ho0 : o0 < 16) (Q : St → Prop) (hw : w13_mark σ o0 x1 Q) : Met l yX13_mark (ws_ yX13_mark cX13_mark 3 none) rmX13_mark (PcS G a1 (cmb σ τ) [.ref (ga G 13 o0), .int x1]) (QVs G a1 (fun u => cmb u τ) Q) 0 0 (gA G) := by
  refine met_w (by decide) (Nat.le_of_ble_eq_true rfl) ?_
  intro p e s m below meth c ls C hH hS hl
  have C : Cx p e s m _ meth c cX13_mark 3 none "WebHost$Answer" G := C
  have hl : lv_has ls 3 [(0, .ref (ga G 13 o0)), (1, .int x1)] := hl
  have hx := C.1
  have hb := C.2.1
  have hown := C.2.2.2.2.2.1
  have hts := C.2.2.2.2.2.2.1
  obtain ⟨locs, hlocs⟩ : ∃ z : List Loc, z = [] := ⟨_, rfl⟩
  obtain ⟨H, hHe⟩ : ∃ z : Heap, z = s.heap := ⟨_, rfl⟩
  have hH : Hd G a1 (cmb σ τ) H := by rw [hHe]; exact hH
  have hS : va_S (gA G) s.heap H locs := by rw [hHe, hlocs]; exact hS
  refine W.heap0 hHe.symm hlocs.symm ?_
  refine lv_aload_n hx hb dX13_mark_0 rfl (lv_at hl 0 rfl) ?_
  refine lv_bipush (v := 34) hx hb dX13_mark_1 (by decide) ?_
  refine kc_v (rn_v (As := [.int 34]) (rest := []) C hH hS (by decide) rfl ho0 (m13_put l G a1 τ σ o0 34 ho0 _ hw) (cwV 1 hts (lw_V q1320 q1321 q1322 q170 q1323) rfl rfl rfl kX13_put ⟨Nat.le_of_ble_eq_true rfl, Nat.le_of_ble_eq_true rfl⟩) rfl hl.1 rfl (Nat.le_of_ble_eq_true rfl) dX13_mark_3 ⟨Nat.le_of_ble_eq_true rfl, Nat.le_of_ble_eq_true rfl⟩) hS (fun σ1 H locs hw hH hS => ?_)
  refine lv_bipush (v := 28) hx hb dX13_mark_6 (by decide) ?_
  refine lv_istore_n (lv' := [(2, .int 28), (0, .ref (ga G 13 o0)), (1, .int x1)]) hx hb dX13_mark_8 rfl hl (by decide) rfl (fun ls hl => ?_)
  obtain ⟨n4, hw⟩ := hw
  refine k13_mark_L9 C o0 x1 ho0 n4 σ1 28 hw H locs ls hH hS (lv_sub hl [1, 2, 0] rfl) (fun σ5 hw H locs ls hH hS hl => ?_)
  refine lv_aload_n hx hb dX13_mark_34 rfl (lv_at hl 0 rfl) ?_
  refine lv_bipush (v := 34) hx hb dX13_mark_35 (by decide) ?_
  refine kc_v (rn_v (As := [.int 34]) (rest := []) C hH hS (by decide) rfl ho0 (m13_put l G a1 τ σ5 o0 34 ho0 _ hw) (cwV 1 hts (lw_V q1320 q1321 q1322 q170 q1323) rfl rfl rfl kX13_put ⟨Nat.le_of_ble_eq_true rfl, Nat.le_of_ble_eq_true rfl⟩) rfl hl.1 rfl (Nat.le_of_ble_eq_true rfl) dX13_mark_37 ⟨Nat.le_of_ble_eq_true rfl, Nat.le_of_ble_eq_true rfl⟩) hS (fun σ6 H locs hw hH hS => ?_)
  exact rt_v C hH hS hw dX13_mark_40
/-! WebHost$Answer.say(Ljava/lang/String;)V -/
abbrev cX13_say : ByteArray := prog_2_method_4_code
def yX13_say : MethodName := ⟨RX13, "say", "(Ljava/lang/String;)V"⟩
theorem dX13_say_0 : decode cX13_say 0 = .ok (.iconst 0, 1) := by decide +kernel
theorem dX13_say_1 : decode cX13_say 1 = .ok (.istore_n 2, 1) := by decide +kernel
theorem dX13_say_2 : decode cX13_say 2 = .ok (.iload_n 2, 1) := by decide +kernel
theorem dX13_say_3 : decode cX13_say 3 = .ok (.aload_n 1, 1) := by decide +kernel
theorem dX13_say_4 : decode cX13_say 4 = .ok (.invokevirtual 20, 3) := by decide +kernel
theorem dX13_say_7 : decode cX13_say 7 = .ok (.if_icmp .ge 18, 3) := by decide +kernel
theorem dX13_say_10 : decode cX13_say 10 = .ok (.aload_n 0, 1) := by decide +kernel
theorem dX13_say_11 : decode cX13_say 11 = .ok (.aload_n 1, 1) := by decide +kernel
theorem dX13_say_12 : decode cX13_say 12 = .ok (.iload_n 2, 1) := by decide +kernel
theorem dX13_say_13 : decode cX13_say 13 = .ok (.invokevirtual 25, 3) := by decide +kernel
theorem dX13_say_16 : decode cX13_say 16 = .ok (.invokevirtual 29, 3) := by decide +kernel
theorem dX13_say_19 : decode cX13_say 19 = .ok (.iinc 2 1, 3) := by decide +kernel
theorem dX13_say_22 : decode cX13_say 22 = .ok (.goto (-20), 3) := by decide +kernel
theorem dX13_say_25 : decode cX13_say 25 = .ok (.return_, 1) := by decide +kernel
def rmX13_say : Room := { frames := 4, cells := 0, slots := 0, locals := 85 }
theorem kX13_say : yX13_say.cls = "WebHost$Answer" ∧ yX13_say.cls ≠ "java/lang/invoke/MethodHandle" ∧ yX13_say.cls ≠ "java/lang/invoke/VarHandle" ∧ (parseMethodDescriptor yX13_say.desc).map (fun d => d.parameters.length) = some 1 := by decide +kernel
def w13_say_L2 (o0 : Nat) (t1 : Nat) (Q : St → Prop) (K25 : St → Prop) : Nat → St → Int32 → Prop
  | 0, _, _ => False
  | n + 1, σ, x2 => wJ1_length t1 (fun r1 => ((r1 ≤ x2 → K25 σ) ∧ (¬ r1 ≤ x2 → (wJ1_charAt t1 x2 (fun r2 => (w13_put σ o0 r2 (fun σ3 => (w13_say_L2 o0 t1 Q K25 n σ3 (x2 + 1)))))))))
set_option maxHeartbeats 4000000 in
theorem k13_say_L2 {p : Program} {l : Launch} {e : Env} {s : State} {m : MethodId} {args : Array Value} {below : List Frame} {meth : Method} {c : Code} {G : Gh} {a1 : Nat → Nat → Nat} {τ : St} {Q : St → Prop} {K25 : St → Prop} (C : Cx p e s m args meth c cX13_say 3 none "WebHost$Answer" G) (o0 : Nat) (t1 : Nat) (ho0 : o0 < 16) (ht1 : t1 < nS) :
    ∀ (n : Nat) (σ : St) (x2 : Int32), w13_say_L2 o0 t1 Q K25 n σ x2 → ∀ (H : Heap) (locs : List Loc) (ls : Array Slot), Hd G a1 (cmb σ τ) H → va_S (gA G) s.heap H locs → lv_has ls 3 [(0, .ref (ga G 13 o0)), (1, .ref (gs G t1)), (2, .int x2)] → (∀ (σ : St) , K25 σ → ∀ (H : Heap) (locs : List Loc) (ls : Array Slot), Hd G a1 (cmb σ τ) H → va_S (gA G) s.heap H locs → lv_has ls 3 [] → W p l e rmX13_say s m args below meth c H locs 0 0 (MQ below (QVs G a1 (fun u => cmb u τ) Q) args s 0 0 (gA G)) (F0 m 25 ls [])) → W p l e rmX13_say s m args below meth c H locs 0 0 (MQ below (QVs G a1 (fun u => cmb u τ) Q) args s 0 0 (gA G)) (F0 m 2 ls []) := by
  have hx := C.1
  have hb := C.2.1
  have hown := C.2.2.2.2.2.1
  have hts := C.2.2.2.2.2.2.1
  intro n
  induction n with
  | zero =>
    intro σ x2 hw
    exact False.elim hw
  | succ n ih =>
    intro σ x2 hw H locs ls hH hS hl hK25
    refine lv_iload_n hx hb dX13_say_2 rfl (lv_at hl 2 rfl) ?_
    refine lv_aload_n hx hb dX13_say_3 rfl (lv_at hl 1 rfl) ?_
    refine kc_ip (rn_vS (As := []) (rest := [.int x2]) C hH hS ht1 (mJ1_length l G a1 τ (cmb σ τ) H t1 ht1 _ hw) (cwV 0 hts (lw_V q1272 q1273 q1274 q178 q1275) rfl rfl rfl kXJ1_length ⟨Nat.le_of_ble_eq_true rfl, Nat.le_of_ble_eq_true rfl⟩) rfl hl.1 rfl (Nat.le_of_ble_eq_true rfl) dX13_say_4 ⟨Nat.le_of_ble_eq_true rfl, Nat.le_of_ble_eq_true rfl⟩) hS (fun r1 locs hw hS => ?_)
    refine lv_icmp_ge (tgt := 25) hx hb dX13_say_7 (by decide) (fun h => ?_) (fun h => ?_)
    · have hw := hw.1 h
      exact hK25 σ hw H locs ls hH hS (lv_sub hl [] rfl)
    have hw := hw.2 h
    refine lv_aload_n hx hb dX13_say_10 rfl (lv_at hl 0 rfl) ?_
    refine lv_aload_n hx hb dX13_say_11 rfl (lv_at hl 1 rfl) ?_
    refine lv_iload_n hx hb dX13_say_12 rfl (lv_at hl 2 rfl) ?_
    refine kc_ip (rn_vS (As := [.int x2]) (rest := [.ref (ga G 13 o0)]) C hH hS ht1 (mJ1_charAt l G a1 τ (cmb σ τ) H t1 x2 ht1 _ hw) (cwV 1 hts (lw_V q1282 q1283 q1284 q178 q1285) rfl rfl rfl kXJ1_charAt ⟨Nat.le_of_ble_eq_true rfl, Nat.le_of_ble_eq_true rfl⟩) rfl hl.1 rfl (Nat.le_of_ble_eq_true rfl) dX13_say_13 ⟨Nat.le_of_ble_eq_true rfl, Nat.le_of_ble_eq_true rfl⟩) hS (fun r2 locs hw hS => ?_)
    refine kc_v (rn_v (As := [.int r2]) (rest := []) C hH hS (by decide) rfl ho0 (m13_put l G a1 τ σ o0 r2 ho0 _ hw) (cwV 1 hts (lw_V q1320 q1321 q1322 q170 q1323) rfl rfl rfl kX13_put ⟨Nat.le_of_ble_eq_true rfl, Nat.le_of_ble_eq_true rfl⟩) rfl hl.1 rfl (Nat.le_of_ble_eq_true rfl) dX13_say_16 ⟨Nat.le_of_ble_eq_true rfl, Nat.le_of_ble_eq_true rfl⟩) hS (fun σ3 H locs hw hH hS => ?_)
    refine lv_iinc (v := x2 + 1) (lv' := [(2, .int (x2 + 1)), (0, .ref (ga G 13 o0)), (1, .ref (gs G t1))]) hx hb dX13_say_19 hl (k := 2) rfl rfl (by decide) rfl (fun ls hl => ?_)
    refine lv_goto (tgt := 2) hx hb dX13_say_22 (by decide) ?_
    exact ih σ3 (x2 + 1) hw H locs ls hH hS (lv_sub hl [1, 2, 0] rfl) hK25
def w13_say (σ : St) (o0 : Nat) (t1 : Nat) (Q : St → Prop) : Prop := ∃ z4, w13_say_L2 o0 t1 Q (fun σ5 => Q σ5) z4 σ 0
set_option maxHeartbeats 4000000 in
theorem m13_say (l : Launch) (G : Gh) (a1 : Nat → Nat → Nat) (τ : St) (σ : St) (o0 : Nat) (t1 : Nat) (ho0 : o0 < 16) (ht1 : t1 < nS) (Q : St → Prop) (hw : w13_say σ o0 t1 Q) : Met l yX13_say (ws_ yX13_say cX13_say 3 none) rmX13_say (PcS G a1 (cmb σ τ) [.ref (ga G 13 o0), .ref (gs G t1)]) (QVs G a1 (fun u => cmb u τ) Q) 0 0 (gA G) := by
  refine met_w (by decide) (Nat.le_of_ble_eq_true rfl) ?_
  intro p e s m below meth c ls C hH hS hl
  have C : Cx p e s m _ meth c cX13_say 3 none "WebHost$Answer" G := C
  have hl : lv_has ls 3 [(0, .ref (ga G 13 o0)), (1, .ref (gs G t1))] := hl
  have hx := C.1
  have hb := C.2.1
  have hown := C.2.2.2.2.2.1
  have hts := C.2.2.2.2.2.2.1
  obtain ⟨locs, hlocs⟩ : ∃ z : List Loc, z = [] := ⟨_, rfl⟩
  obtain ⟨H, hHe⟩ : ∃ z : Heap, z = s.heap := ⟨_, rfl⟩
  have hH : Hd G a1 (cmb σ τ) H := by rw [hHe]; exact hH
  have hS : va_S (gA G) s.heap H locs := by rw [hHe, hlocs]; exact hS
  refine W.heap0 hHe.symm hlocs.symm ?_
  refine lv_iconst (v := 0) hx hb dX13_say_0 (by decide) ?_
  refine lv_istore_n (lv' := [(2, .int 0), (0, .ref (ga G 13 o0)), (1, .ref (gs G t1))]) hx hb dX13_say_1 rfl hl (by decide) rfl (fun ls hl => ?_)
  obtain ⟨n4, hw⟩ := hw
  refine k13_say_L2 C o0 t1 ho0 ht1 n4 σ 0 hw H locs ls hH hS (lv_sub hl [1, 2, 0] rfl) (fun σ5 hw H locs ls hH hS hl => ?_)
  exact rt_v C hH hS hw dX13_say_25
/-! WebHostModel.endsWith(ILjava/lang/String;)Z -/
abbrev cX14_endsWith : ByteArray := prog_17_method_106_code
def yX14_endsWith : MethodName := ⟨RX14, "endsWith", "(ILjava/lang/String;)Z"⟩
theorem dX14_endsWith_0 : decode cX14_endsWith 0 = .ok (.iconst 0, 1) := by decide +kernel
theorem dX14_endsWith_1 : decode cX14_endsWith 1 = .ok (.istore_n 3, 1) := by decide +kernel
theorem dX14_endsWith_2 : decode cX14_endsWith 2 = .ok (.iload_n 3, 1) := by decide +kernel
theorem dX14_endsWith_3 : decode cX14_endsWith 3 = .ok (.bipush 48, 2) := by decide +kernel
theorem dX14_endsWith_5 : decode cX14_endsWith 5 = .ok (.if_icmp .ge 23, 3) := by decide +kernel
theorem dX14_endsWith_8 : decode cX14_endsWith 8 = .ok (.aload_n 0, 1) := by decide +kernel
theorem dX14_endsWith_9 : decode cX14_endsWith 9 = .ok (.getfield 18, 3) := by decide +kernel
theorem dX14_endsWith_12 : decode cX14_endsWith 12 = .ok (.bipush 48, 2) := by decide +kernel
theorem dX14_endsWith_14 : decode cX14_endsWith 14 = .ok (.iload_n 1, 1) := by decide +kernel
theorem dX14_endsWith_15 : decode cX14_endsWith 15 = .ok (.imul, 1) := by decide +kernel
theorem dX14_endsWith_16 : decode cX14_endsWith 16 = .ok (.iload_n 3, 1) := by decide +kernel
theorem dX14_endsWith_17 : decode cX14_endsWith 17 = .ok (.iadd, 1) := by decide +kernel
theorem dX14_endsWith_18 : decode cX14_endsWith 18 = .ok (.baload, 1) := by decide +kernel
theorem dX14_endsWith_19 : decode cX14_endsWith 19 = .ok (.ifCond .eq 9, 3) := by decide +kernel
theorem dX14_endsWith_22 : decode cX14_endsWith 22 = .ok (.iinc 3 1, 3) := by decide +kernel
theorem dX14_endsWith_25 : decode cX14_endsWith 25 = .ok (.goto (-23), 3) := by decide +kernel
theorem dX14_endsWith_28 : decode cX14_endsWith 28 = .ok (.iload_n 3, 1) := by decide +kernel
theorem dX14_endsWith_29 : decode cX14_endsWith 29 = .ok (.aload_n 2, 1) := by decide +kernel
theorem dX14_endsWith_30 : decode cX14_endsWith 30 = .ok (.invokevirtual 717, 3) := by decide +kernel
theorem dX14_endsWith_33 : decode cX14_endsWith 33 = .ok (.if_icmp .ge 5, 3) := by decide +kernel
theorem dX14_endsWith_36 : decode cX14_endsWith 36 = .ok (.iconst 0, 1) := by decide +kernel
theorem dX14_endsWith_37 : decode cX14_endsWith 37 = .ok (.ireturn, 1) := by decide +kernel
theorem dX14_endsWith_38 : decode cX14_endsWith 38 = .ok (.iconst 0, 1) := by decide +kernel
theorem dX14_endsWith_39 : decode cX14_endsWith 39 = .ok (.istore 4, 2) := by decide +kernel
theorem dX14_endsWith_41 : decode cX14_endsWith 41 = .ok (.iload 4, 2) := by decide +kernel
theorem dX14_endsWith_43 : decode cX14_endsWith 43 = .ok (.aload_n 2, 1) := by decide +kernel
theorem dX14_endsWith_44 : decode cX14_endsWith 44 = .ok (.invokevirtual 717, 3) := by decide +kernel
theorem dX14_endsWith_47 : decode cX14_endsWith 47 = .ok (.if_icmp .ge 39, 3) := by decide +kernel
theorem dX14_endsWith_50 : decode cX14_endsWith 50 = .ok (.aload_n 0, 1) := by decide +kernel
theorem dX14_endsWith_51 : decode cX14_endsWith 51 = .ok (.getfield 18, 3) := by decide +kernel
theorem dX14_endsWith_54 : decode cX14_endsWith 54 = .ok (.bipush 48, 2) := by decide +kernel
theorem dX14_endsWith_56 : decode cX14_endsWith 56 = .ok (.iload_n 1, 1) := by decide +kernel
theorem dX14_endsWith_57 : decode cX14_endsWith 57 = .ok (.imul, 1) := by decide +kernel
theorem dX14_endsWith_58 : decode cX14_endsWith 58 = .ok (.iload_n 3, 1) := by decide +kernel
theorem dX14_endsWith_59 : decode cX14_endsWith 59 = .ok (.iadd, 1) := by decide +kernel
theorem dX14_endsWith_60 : decode cX14_endsWith 60 = .ok (.aload_n 2, 1) := by decide +kernel
theorem dX14_endsWith_61 : decode cX14_endsWith 61 = .ok (.invokevirtual 717, 3) := by decide +kernel
theorem dX14_endsWith_64 : decode cX14_endsWith 64 = .ok (.isub, 1) := by decide +kernel
theorem dX14_endsWith_65 : decode cX14_endsWith 65 = .ok (.iload 4, 2) := by decide +kernel
theorem dX14_endsWith_67 : decode cX14_endsWith 67 = .ok (.iadd, 1) := by decide +kernel
theorem dX14_endsWith_68 : decode cX14_endsWith 68 = .ok (.baload, 1) := by decide +kernel
theorem dX14_endsWith_69 : decode cX14_endsWith 69 = .ok (.aload_n 2, 1) := by decide +kernel
theorem dX14_endsWith_70 : decode cX14_endsWith 70 = .ok (.iload 4, 2) := by decide +kernel
theorem dX14_endsWith_72 : decode cX14_endsWith 72 = .ok (.invokevirtual 721, 3) := by decide +kernel
theorem dX14_endsWith_75 : decode cX14_endsWith 75 = .ok (.if_icmp .eq 5, 3) := by decide +kernel
theorem dX14_endsWith_78 : decode cX14_endsWith 78 = .ok (.iconst 0, 1) := by decide +kernel
theorem dX14_endsWith_79 : decode cX14_endsWith 79 = .ok (.ireturn, 1) := by decide +kernel
theorem dX14_endsWith_80 : decode cX14_endsWith 80 = .ok (.iinc 4 1, 3) := by decide +kernel
theorem dX14_endsWith_83 : decode cX14_endsWith 83 = .ok (.goto (-42), 3) := by decide +kernel
theorem dX14_endsWith_86 : decode cX14_endsWith 86 = .ok (.iconst 1, 1) := by decide +kernel
theorem dX14_endsWith_87 : decode cX14_endsWith 87 = .ok (.ireturn, 1) := by decide +kernel
def rmX14_endsWith : Room := { frames := 4, cells := 0, slots := 0, locals := 85 }
theorem kX14_endsWith : yX14_endsWith.cls = "WebHostModel" ∧ yX14_endsWith.cls ≠ "java/lang/invoke/MethodHandle" ∧ yX14_endsWith.cls ≠ "java/lang/invoke/VarHandle" ∧ (parseMethodDescriptor yX14_endsWith.desc).map (fun d => d.parameters.length) = some 2 := by decide +kernel
def w14_endsWith_L2 (σ : St) (x1 : Int32) (t2 : Nat) (Q : Int32 → Prop) (K28 : Int32 → Prop) : Nat → Int32 → Prop
  | 0, _ => False
  | n + 1, x3 => (48 ≤ x3 → K28 x3) ∧ (¬ 48 ≤ x3 → (vp_in ((48 * x1) + x3) 3072 ∧ (by8 (σ 52 0 ((48 * x1) + x3).toNatClampNeg) → (((σ 52 0 ((48 * x1) + x3).toNatClampNeg) = 0 → K28 x3) ∧ (¬ (σ 52 0 ((48 * x1) + x3).toNatClampNeg) = 0 → (w14_endsWith_L2 σ x1 t2 Q K28 n (x3 + 1)))))))
set_option maxHeartbeats 4000000 in
theorem k14_endsWith_L2 {p : Program} {l : Launch} {e : Env} {s : State} {m : MethodId} {args : Array Value} {below : List Frame} {meth : Method} {c : Code} {G : Gh} {a1 : Nat → Nat → Nat} {τ : St} {H : Heap} {Q : Int32 → Prop} {K28 : Int32 → Prop} (C : Cx p e s m args meth c cX14_endsWith 5 (some .boolean) "WebHostModel" G) (σ : St) (x1 : Int32) (t2 : Nat) (ht2 : t2 < nS) (hH : Hd G a1 (cmb τ σ) H) :
    ∀ (n : Nat) (x3 : Int32), w14_endsWith_L2 σ x1 t2 Q K28 n x3 → ∀ (locs : List Loc) (ls : Array Slot), va_S (gA G) s.heap H locs → lv_has ls 5 [(0, .ref (ga G 14 0)), (1, .int x1), (2, .ref (gs G t2)), (3, .int x3)] → (∀ (x3 : Int32), K28 x3 → ∀ (locs : List Loc) (ls : Array Slot), va_S (gA G) s.heap H locs → lv_has ls 5 [(0, .ref (ga G 14 0)), (1, .int x1), (2, .ref (gs G t2)), (3, .int x3)] → W p l e rmX14_endsWith s m args below meth c H locs 0 0 (MQ below (QIp G H Q) args s 0 0 (gA G)) (F0 m 28 ls [])) → W p l e rmX14_endsWith s m args below meth c H locs 0 0 (MQ below (QIp G H Q) args s 0 0 (gA G)) (F0 m 2 ls []) := by
  have hx := C.1
  have hb := C.2.1
  have hown := C.2.2.2.2.2.1
  have hts := C.2.2.2.2.2.2.1
  intro n
  induction n with
  | zero =>
    intro x3 hw
    exact False.elim hw
  | succ n ih =>
    intro x3 hw locs ls hS hl hK28
    refine lv_iload_n hx hb dX14_endsWith_2 rfl (lv_at hl 3 rfl) ?_
    refine lv_bipush (v := 48) hx hb dX14_endsWith_3 (by decide) ?_
    refine lv_icmp_ge (tgt := 28) hx hb dX14_endsWith_5 (by decide) (fun h => ?_) (fun h => ?_)
    · have hw := hw.1 h
      exact hK28 x3 hw locs ls hS (lv_sub hl [0, 1, 2, 3] rfl)
    have hw := hw.2 h
    refine lv_aload_n hx hb dX14_endsWith_8 rfl (lv_at hl 0 rfl) ?_
    refine g14_13 C hH q1953 dX14_endsWith_9 ?_
    refine lv_bipush (v := 48) hx hb dX14_endsWith_12 (by decide) ?_
    refine lv_iload_n hx hb dX14_endsWith_14 rfl (lv_at hl 1 rfl) ?_
    refine lv_imul hx hb dX14_endsWith_15 ?_
    refine lv_iload_n hx hb dX14_endsWith_16 rfl (lv_at hl 3 rfl) ?_
    refine lv_iadd hx hb dX14_endsWith_17 ?_
    refine l52 C hH hw.1 dX14_endsWith_18 (fun hz => ?_)
    have hw := hw.2 hz
    refine lv_if_eq (tgt := 28) hx hb dX14_endsWith_19 (by decide) (fun h => ?_) (fun h => ?_)
    · have hw := hw.1 h
      exact hK28 x3 hw locs ls hS (lv_sub hl [0, 1, 2, 3] rfl)
    have hw := hw.2 h
    refine lv_iinc (v := x3 + 1) (lv' := [(3, .int (x3 + 1)), (0, .ref (ga G 14 0)), (1, .int x1), (2, .ref (gs G t2))]) hx hb dX14_endsWith_22 hl (k := 3) rfl rfl (by decide) rfl (fun ls hl => ?_)
    refine lv_goto (tgt := 2) hx hb dX14_endsWith_25 (by decide) ?_
    exact ih (x3 + 1) hw locs ls hS (lv_sub hl [1, 2, 3, 0] rfl) hK28
def w14_endsWith_L41 (σ : St) (x1 : Int32) (t2 : Nat) (x3 : Int32) (Q : Int32 → Prop) (K78 : Prop) (K86 : Prop) : Nat → Int32 → Prop
  | 0, _ => False
  | n + 1, x4 => wJ1_length t2 (fun r4 => ((r4 ≤ x4 → K86) ∧ (¬ r4 ≤ x4 → (wJ1_length t2 (fun r5 => (vp_in ((((48 * x1) + x3) - r5) + x4) 3072 ∧ (by8 (σ 52 0 ((((48 * x1) + x3) - r5) + x4).toNatClampNeg) → (wJ1_charAt t2 x4 (fun r6 => (((σ 52 0 ((((48 * x1) + x3) - r5) + x4).toNatClampNeg) = r6 → (w14_endsWith_L41 σ x1 t2 x3 Q K78 K86 n (x4 + 1))) ∧ (¬ (σ 52 0 ((((48 * x1) + x3) - r5) + x4).toNatClampNeg) = r6 → K78)))))))))))
set_option maxHeartbeats 4000000 in
theorem k14_endsWith_L41 {p : Program} {l : Launch} {e : Env} {s : State} {m : MethodId} {args : Array Value} {below : List Frame} {meth : Method} {c : Code} {G : Gh} {a1 : Nat → Nat → Nat} {τ : St} {H : Heap} {Q : Int32 → Prop} {K78 : Prop} {K86 : Prop} (C : Cx p e s m args meth c cX14_endsWith 5 (some .boolean) "WebHostModel" G) (σ : St) (x1 : Int32) (t2 : Nat) (x3 : Int32) (ht2 : t2 < nS) (hH : Hd G a1 (cmb τ σ) H) :
    ∀ (n : Nat) (x4 : Int32), w14_endsWith_L41 σ x1 t2 x3 Q K78 K86 n x4 → ∀ (locs : List Loc) (ls : Array Slot), va_S (gA G) s.heap H locs → lv_has ls 5 [(0, .ref (ga G 14 0)), (1, .int x1), (2, .ref (gs G t2)), (3, .int x3), (4, .int x4)] → (K78 → ∀ (locs : List Loc) (ls : Array Slot), va_S (gA G) s.heap H locs → lv_has ls 5 [] → W p l e rmX14_endsWith s m args below meth c H locs 0 0 (MQ below (QIp G H Q) args s 0 0 (gA G)) (F0 m 78 ls [])) → (K86 → ∀ (locs : List Loc) (ls : Array Slot), va_S (gA G) s.heap H locs → lv_has ls 5 [] → W p l e rmX14_endsWith s m args below meth c H locs 0 0 (MQ below (QIp G H Q) args s 0 0 (gA G)) (F0 m 86 ls [])) → W p l e rmX14_endsWith s m args below meth c H locs 0 0 (MQ below (QIp G H Q) args s 0 0 (gA G)) (F0 m 41 ls []) := by
  have hx := C.1
  have hb := C.2.1
  have hown := C.2.2.2.2.2.1
  have hts := C.2.2.2.2.2.2.1
  intro n
  induction n with
  | zero =>
    intro x4 hw
    exact False.elim hw
  | succ n ih =>
    intro x4 hw locs ls hS hl hK78 hK86
    refine lv_iload hx hb dX14_endsWith_41 (lv_at hl 4 rfl) ?_
    refine lv_aload_n hx hb dX14_endsWith_43 rfl (lv_at hl 2 rfl) ?_
    refine kc_ip (rn_vS (As := []) (rest := [.int x4]) C hH hS ht2 (mJ1_length l G a1 τ (cmb τ σ) H t2 ht2 _ hw) (cwV 0 hts (lw_V q2484 q1273 q1274 q178 q1275) rfl rfl rfl kXJ1_length ⟨Nat.le_of_ble_eq_true rfl, Nat.le_of_ble_eq_true rfl⟩) rfl hl.1 rfl (Nat.le_of_ble_eq_true rfl) dX14_endsWith_44 ⟨Nat.le_of_ble_eq_true rfl, Nat.le_of_ble_eq_true rfl⟩) hS (fun r4 locs hw hS => ?_)
    refine lv_icmp_ge (tgt := 86) hx hb dX14_endsWith_47 (by decide) (fun h => ?_) (fun h => ?_)
    · have hw := hw.1 h
      exact hK86 hw locs ls hS (lv_sub hl [] rfl)
    have hw := hw.2 h
    refine lv_aload_n hx hb dX14_endsWith_50 rfl (lv_at hl 0 rfl) ?_
    refine g14_13 C hH q1953 dX14_endsWith_51 ?_
    refine lv_bipush (v := 48) hx hb dX14_endsWith_54 (by decide) ?_
    refine lv_iload_n hx hb dX14_endsWith_56 rfl (lv_at hl 1 rfl) ?_
    refine lv_imul hx hb dX14_endsWith_57 ?_
    refine lv_iload_n hx hb dX14_endsWith_58 rfl (lv_at hl 3 rfl) ?_
    refine lv_iadd hx hb dX14_endsWith_59 ?_
    refine lv_aload_n hx hb dX14_endsWith_60 rfl (lv_at hl 2 rfl) ?_
    refine kc_ip (rn_vS (As := []) (rest := [.int ((48 * x1) + x3), .ref (adr G a1 52 0)]) C hH hS ht2 (mJ1_length l G a1 τ (cmb τ σ) H t2 ht2 _ hw) (cwV 0 hts (lw_V q2484 q1273 q1274 q178 q1275) rfl rfl rfl kXJ1_length ⟨Nat.le_of_ble_eq_true rfl, Nat.le_of_ble_eq_true rfl⟩) rfl hl.1 rfl (Nat.le_of_ble_eq_true rfl) dX14_endsWith_61 ⟨Nat.le_of_ble_eq_true rfl, Nat.le_of_ble_eq_true rfl⟩) hS (fun r5 locs hw hS => ?_)
    refine lv_isub hx hb dX14_endsWith_64 ?_
    refine lv_iload hx hb dX14_endsWith_65 (lv_at hl 4 rfl) ?_
    refine lv_iadd hx hb dX14_endsWith_67 ?_
    refine l52 C hH hw.1 dX14_endsWith_68 (fun hz => ?_)
    have hw := hw.2 hz
    refine lv_aload_n hx hb dX14_endsWith_69 rfl (lv_at hl 2 rfl) ?_
    refine lv_iload hx hb dX14_endsWith_70 (lv_at hl 4 rfl) ?_
    refine kc_ip (rn_vS (As := [.int x4]) (rest := [.int (σ 52 0 ((((48 * x1) + x3) - r5) + x4).toNatClampNeg)]) C hH hS ht2 (mJ1_charAt l G a1 τ (cmb τ σ) H t2 x4 ht2 _ hw) (cwV 1 hts (lw_V q2485 q1283 q1284 q178 q1285) rfl rfl rfl kXJ1_charAt ⟨Nat.le_of_ble_eq_true rfl, Nat.le_of_ble_eq_true rfl⟩) rfl hl.1 rfl (Nat.le_of_ble_eq_true rfl) dX14_endsWith_72 ⟨Nat.le_of_ble_eq_true rfl, Nat.le_of_ble_eq_true rfl⟩) hS (fun r6 locs hw hS => ?_)
    refine lv_icmp_eq (tgt := 80) hx hb dX14_endsWith_75 (by decide) (fun h => ?_) (fun h => ?_)
    · have hw := hw.1 h
      refine lv_iinc (v := x4 + 1) (lv' := [(4, .int (x4 + 1)), (0, .ref (ga G 14 0)), (1, .int x1), (2, .ref (gs G t2)), (3, .int x3)]) hx hb dX14_endsWith_80 hl (k := 4) rfl rfl (by decide) rfl (fun ls hl => ?_)
      refine lv_goto (tgt := 41) hx hb dX14_endsWith_83 (by decide) ?_
      exact ih (x4 + 1) hw locs ls hS (lv_sub hl [1, 2, 3, 4, 0] rfl) hK78 hK86
    have hw := hw.2 h
    exact hK78 hw locs ls hS (lv_sub hl [] rfl)
def w14_endsWith (σ : St) (x1 : Int32) (t2 : Nat) (Q : Int32 → Prop) : Prop := ∃ z1, w14_endsWith_L2 σ x1 t2 Q (fun x3_2 => wJ1_length t2 (fun r3 => ((r3 ≤ x3_2 → (∃ z7, w14_endsWith_L41 σ x1 t2 x3_2 Q (Q 0) (Q 1) z7 0)) ∧ (¬ r3 ≤ x3_2 → Q 0)))) z1 0
set_option maxHeartbeats 4000000 in
theorem m14_endsWith (l : Launch) (G : Gh) (a1 : Nat → Nat → Nat) (τ : St) (σ : St) (H : Heap) (x1 : Int32) (t2 : Nat) (ht2 : t2 < nS) (Q : Int32 → Prop) (hw : w14_endsWith σ x1 t2 Q) : Met l yX14_endsWith (ws_ yX14_endsWith cX14_endsWith 5 (some .boolean)) rmX14_endsWith (PcP G a1 (cmb τ σ) H [.ref (ga G 14 0), .int x1, .ref (gs G t2)]) (QIp G H Q) 0 0 (gA G) := by
  refine met_p (by decide) (Nat.le_of_ble_eq_true rfl) ?_
  intro p e s m below meth c ls hHe C hH hS hl
  have C : Cx p e s m _ meth c cX14_endsWith 5 (some .boolean) "WebHostModel" G := C
  have hl : lv_has ls 5 [(0, .ref (ga G 14 0)), (1, .int x1), (2, .ref (gs G t2))] := hl
  have hx := C.1
  have hb := C.2.1
  have hown := C.2.2.2.2.2.1
  have hts := C.2.2.2.2.2.2.1
  obtain ⟨locs, hlocs⟩ : ∃ z : List Loc, z = [] := ⟨_, rfl⟩
  rw [← hlocs] at hS ⊢
  refine lv_iconst (v := 0) hx hb dX14_endsWith_0 (by decide) ?_
  refine lv_istore_n (lv' := [(3, .int 0), (0, .ref (ga G 14 0)), (1, .int x1), (2, .ref (gs G t2))]) hx hb dX14_endsWith_1 rfl hl (by decide) rfl (fun ls hl => ?_)
  obtain ⟨n1, hw⟩ := hw
  refine k14_endsWith_L2 C σ x1 t2 ht2 hH n1 0 hw locs ls hS (lv_sub hl [1, 2, 3, 0] rfl) (fun x3_2 hw locs ls hS hl => ?_)
  refine lv_iload_n hx hb dX14_endsWith_28 rfl (lv_at hl 3 rfl) ?_
  refine lv_aload_n hx hb dX14_endsWith_29 rfl (lv_at hl 2 rfl) ?_
  refine kc_ip (rn_vS (As := []) (rest := [.int x3_2]) C hH hS ht2 (mJ1_length l G a1 τ (cmb τ σ) H t2 ht2 _ hw) (cwV 0 hts (lw_V q2484 q1273 q1274 q178 q1275) rfl rfl rfl kXJ1_length ⟨Nat.le_of_ble_eq_true rfl, Nat.le_of_ble_eq_true rfl⟩) rfl hl.1 rfl (Nat.le_of_ble_eq_true rfl) dX14_endsWith_30 ⟨Nat.le_of_ble_eq_true rfl, Nat.le_of_ble_eq_true rfl⟩) hS (fun r3 locs hw hS => ?_)
  refine lv_icmp_ge (tgt := 38) hx hb dX14_endsWith_33 (by decide) (fun h => ?_) (fun h => ?_)
  · have hw := hw.1 h
    refine lv_iconst (v := 0) hx hb dX14_endsWith_38 (by decide) ?_
    refine lv_istore (lv' := [(4, .int 0), (0, .ref (ga G 14 0)), (1, .int x1), (2, .ref (gs G t2)), (3, .int x3_2)]) hx hb dX14_endsWith_39 hl (by decide) rfl (fun ls hl => ?_)
    obtain ⟨n7, hw⟩ := hw
    refine k14_endsWith_L41 C σ x1 t2 x3_2 ht2 hH n7 0 hw locs ls hS (lv_sub hl [1, 2, 3, 4, 0] rfl) (fun hw locs ls hS hl => ?_) (fun hw locs ls hS hl => ?_)
    · refine lv_iconst (v := 0) hx hb dX14_endsWith_78 (by decide) ?_
      exact rt_ip C rfl hS hw dX14_endsWith_79
    refine lv_iconst (v := 1) hx hb dX14_endsWith_86 (by decide) ?_
    exact rt_ip C rfl hS hw dX14_endsWith_87
  have hw := hw.2 h
  refine lv_iconst (v := 0) hx hb dX14_endsWith_36 (by decide) ?_
  exact rt_ip C rfl hS hw dX14_endsWith_37
/-! WebHostModel.say(LWebHostModel$Connection;Ljava/lang/String;)V -/
abbrev cX14_say : ByteArray := prog_17_method_101_code
def yX14_say : MethodName := ⟨RX14, "say", "(LWebHostModel$Connection;Ljava/lang/String;)V"⟩
theorem dX14_say_0 : decode cX14_say 0 = .ok (.iconst 0, 1) := by decide +kernel
theorem dX14_say_1 : decode cX14_say 1 = .ok (.istore_n 3, 1) := by decide +kernel
theorem dX14_say_2 : decode cX14_say 2 = .ok (.iload_n 3, 1) := by decide +kernel
theorem dX14_say_3 : decode cX14_say 3 = .ok (.aload_n 2, 1) := by decide +kernel
theorem dX14_say_4 : decode cX14_say 4 = .ok (.invokevirtual 717, 3) := by decide +kernel
theorem dX14_say_7 : decode cX14_say 7 = .ok (.if_icmp .ge 19, 3) := by decide +kernel
theorem dX14_say_10 : decode cX14_say 10 = .ok (.aload_n 0, 1) := by decide +kernel
theorem dX14_say_11 : decode cX14_say 11 = .ok (.aload_n 1, 1) := by decide +kernel
theorem dX14_say_12 : decode cX14_say 12 = .ok (.aload_n 2, 1) := by decide +kernel
theorem dX14_say_13 : decode cX14_say 13 = .ok (.iload_n 3, 1) := by decide +kernel
theorem dX14_say_14 : decode cX14_say 14 = .ok (.invokevirtual 721, 3) := by decide +kernel
theorem dX14_say_17 : decode cX14_say 17 = .ok (.invokevirtual 789, 3) := by decide +kernel
theorem dX14_say_20 : decode cX14_say 20 = .ok (.iinc 3 1, 3) := by decide +kernel
theorem dX14_say_23 : decode cX14_say 23 = .ok (.goto (-21), 3) := by decide +kernel
theorem dX14_say_26 : decode cX14_say 26 = .ok (.return_, 1) := by decide +kernel
def rmX14_say : Room := { frames := 4, cells := 0, slots := 0, locals := 85 }
theorem kX14_say : yX14_say.cls = "WebHostModel" ∧ yX14_say.cls ≠ "java/lang/invoke/MethodHandle" ∧ yX14_say.cls ≠ "java/lang/invoke/VarHandle" ∧ (parseMethodDescriptor yX14_say.desc).map (fun d => d.parameters.length) = some 2 := by decide +kernel
def w14_say_L2 (o1 : Nat) (t2 : Nat) (Q : St → Prop) (K26 : St → Prop) : Nat → St → Int32 → Prop
  | 0, _, _ => False
  | n + 1, σ, x3 => wJ1_length t2 (fun r1 => ((r1 ≤ x3 → K26 σ) ∧ (¬ r1 ≤ x3 → (wJ1_charAt t2 x3 (fun r2 => (w14_code σ o1 r2 (fun σ3 => (w14_say_L2 o1 t2 Q K26 n σ3 (x3 + 1)))))))))
set_option maxHeartbeats 4000000 in
theorem k14_say_L2 {p : Program} {l : Launch} {e : Env} {s : State} {m : MethodId} {args : Array Value} {below : List Frame} {meth : Method} {c : Code} {G : Gh} {a1 : Nat → Nat → Nat} {τ : St} {Q : St → Prop} {K26 : St → Prop} (C : Cx p e s m args meth c cX14_say 4 none "WebHostModel" G) (o1 : Nat) (t2 : Nat) (ho1 : o1 < 16) (ht2 : t2 < nS) :
    ∀ (n : Nat) (σ : St) (x3 : Int32), w14_say_L2 o1 t2 Q K26 n σ x3 → ∀ (H : Heap) (locs : List Loc) (ls : Array Slot), Hd G a1 (cmb τ σ) H → va_S (gA G) s.heap H locs → lv_has ls 4 [(0, .ref (ga G 14 0)), (1, .ref (ga G 15 o1)), (2, .ref (gs G t2)), (3, .int x3)] → (∀ (σ : St) , K26 σ → ∀ (H : Heap) (locs : List Loc) (ls : Array Slot), Hd G a1 (cmb τ σ) H → va_S (gA G) s.heap H locs → lv_has ls 4 [] → W p l e rmX14_say s m args below meth c H locs 0 0 (MQ below (QVs G a1 (fun u => cmb τ u) Q) args s 0 0 (gA G)) (F0 m 26 ls [])) → W p l e rmX14_say s m args below meth c H locs 0 0 (MQ below (QVs G a1 (fun u => cmb τ u) Q) args s 0 0 (gA G)) (F0 m 2 ls []) := by
  have hx := C.1
  have hb := C.2.1
  have hown := C.2.2.2.2.2.1
  have hts := C.2.2.2.2.2.2.1
  intro n
  induction n with
  | zero =>
    intro σ x3 hw
    exact False.elim hw
  | succ n ih =>
    intro σ x3 hw H locs ls hH hS hl hK26
    refine lv_iload_n hx hb dX14_say_2 rfl (lv_at hl 3 rfl) ?_
    refine lv_aload_n hx hb dX14_say_3 rfl (lv_at hl 2 rfl) ?_
    refine kc_ip (rn_vS (As := []) (rest := [.int x3]) C hH hS ht2 (mJ1_length l G a1 τ (cmb τ σ) H t2 ht2 _ hw) (cwV 0 hts (lw_V q2484 q1273 q1274 q178 q1275) rfl rfl rfl kXJ1_length ⟨Nat.le_of_ble_eq_true rfl, Nat.le_of_ble_eq_true rfl⟩) rfl hl.1 rfl (Nat.le_of_ble_eq_true rfl) dX14_say_4 ⟨Nat.le_of_ble_eq_true rfl, Nat.le_of_ble_eq_true rfl⟩) hS (fun r1 locs hw hS => ?_)
    refine lv_icmp_ge (tgt := 26) hx hb dX14_say_7 (by decide) (fun h => ?_) (fun h => ?_)
    · have hw := hw.1 h
      exact hK26 σ hw H locs ls hH hS (lv_sub hl [] rfl)
    have hw := hw.2 h
    refine lv_aload_n hx hb dX14_say_10 rfl (lv_at hl 0 rfl) ?_
    refine lv_aload_n hx hb dX14_say_11 rfl (lv_at hl 1 rfl) ?_
    refine lv_aload_n hx hb dX14_say_12 rfl (lv_at hl 2 rfl) ?_
    refine lv_iload_n hx hb dX14_say_13 rfl (lv_at hl 3 rfl) ?_
    refine kc_ip (rn_vS (As := [.int x3]) (rest := [.ref (ga G 15 o1), .ref (ga G 14 0)]) C hH hS ht2 (mJ1_charAt l G a1 τ (cmb τ σ) H t2 x3 ht2 _ hw) (cwV 1 hts (lw_V q2485 q1283 q1284 q178 q1285) rfl rfl rfl kXJ1_charAt ⟨Nat.le_of_ble_eq_true rfl, Nat.le_of_ble_eq_true rfl⟩) rfl hl.1 rfl (Nat.le_of_ble_eq_true rfl) dX14_say_14 ⟨Nat.le_of_ble_eq_true rfl, Nat.le_of_ble_eq_true rfl⟩) hS (fun r2 locs hw hS => ?_)
    refine kc_v (rn_v (As := [.ref (ga G 15 o1), .int r2]) (rest := []) C hH hS (by decide) rfl (by decide) (m14_code l G a1 τ σ o1 r2 ho1 _ hw) (cwV 2 hts (lw_V q2558 q2560 qs148 q171 q2561) rfl rfl rfl kX14_code ⟨Nat.le_of_ble_eq_true rfl, Nat.le_of_ble_eq_true rfl⟩) rfl hl.1 rfl (Nat.le_of_ble_eq_true rfl) dX14_say_17 ⟨Nat.le_of_ble_eq_true rfl, Nat.le_of_ble_eq_true rfl⟩) hS (fun σ3 H locs hw hH hS => ?_)
    refine lv_iinc (v := x3 + 1) (lv' := [(3, .int (x3 + 1)), (0, .ref (ga G 14 0)), (1, .ref (ga G 15 o1)), (2, .ref (gs G t2))]) hx hb dX14_say_20 hl (k := 3) rfl rfl (by decide) rfl (fun ls hl => ?_)
    refine lv_goto (tgt := 2) hx hb dX14_say_23 (by decide) ?_
    exact ih σ3 (x3 + 1) hw H locs ls hH hS (lv_sub hl [1, 2, 3, 0] rfl) hK26
def w14_say (σ : St) (o1 : Nat) (t2 : Nat) (Q : St → Prop) : Prop := ∃ z4, w14_say_L2 o1 t2 Q (fun σ5 => Q σ5) z4 σ 0
set_option maxHeartbeats 4000000 in
theorem m14_say (l : Launch) (G : Gh) (a1 : Nat → Nat → Nat) (τ : St) (σ : St) (o1 : Nat) (t2 : Nat) (ho1 : o1 < 16) (ht2 : t2 < nS) (Q : St → Prop) (hw : w14_say σ o1 t2 Q) : Met l yX14_say (ws_ yX14_say cX14_say 4 none) rmX14_say (PcS G a1 (cmb τ σ) [.ref (ga G 14 0), .ref (ga G 15 o1), .ref (gs G t2)]) (QVs G a1 (fun u => cmb τ u) Q) 0 0 (gA G) := by
  refine met_w (by decide) (Nat.le_of_ble_eq_true rfl) ?_
  intro p e s m below meth c ls C hH hS hl
  have C : Cx p e s m _ meth c cX14_say 4 none "WebHostModel" G := C
  have hl : lv_has ls 4 [(0, .ref (ga G 14 0)), (1, .ref (ga G 15 o1)), (2, .ref (gs G t2))] := hl
  have hx := C.1
  have hb := C.2.1
  have hown := C.2.2.2.2.2.1
  have hts := C.2.2.2.2.2.2.1
  obtain ⟨locs, hlocs⟩ : ∃ z : List Loc, z = [] := ⟨_, rfl⟩
  obtain ⟨H, hHe⟩ : ∃ z : Heap, z = s.heap := ⟨_, rfl⟩
  have hH : Hd G a1 (cmb τ σ) H := by rw [hHe]; exact hH
  have hS : va_S (gA G) s.heap H locs := by rw [hHe, hlocs]; exact hS
  refine W.heap0 hHe.symm hlocs.symm ?_
  refine lv_iconst (v := 0) hx hb dX14_say_0 (by decide) ?_
  refine lv_istore_n (lv' := [(3, .int 0), (0, .ref (ga G 14 0)), (1, .ref (ga G 15 o1)), (2, .ref (gs G t2))]) hx hb dX14_say_1 rfl hl (by decide) rfl (fun ls hl => ?_)
  obtain ⟨n4, hw⟩ := hw
  refine k14_say_L2 C o1 t2 ho1 ht2 n4 σ 0 hw H locs ls hH hS (lv_sub hl [1, 2, 3, 0] rfl) (fun σ5 hw H locs ls hH hS hl => ?_)
  exact rt_v C hH hS hw dX14_say_26
/-! WebHostModel.says(IILjava/lang/String;)Z -/
abbrev cX14_says : ByteArray := prog_17_method_86_code
def yX14_says : MethodName := ⟨RX14, "says", "(IILjava/lang/String;)Z"⟩
theorem dX14_says_0 : decode cX14_says 0 = .ok (.iload_n 2, 1) := by decide +kernel
theorem dX14_says_1 : decode cX14_says 1 = .ok (.iload_n 1, 1) := by decide +kernel
theorem dX14_says_2 : decode cX14_says 2 = .ok (.isub, 1) := by decide +kernel
theorem dX14_says_3 : decode cX14_says 3 = .ok (.aload_n 3, 1) := by decide +kernel
theorem dX14_says_4 : decode cX14_says 4 = .ok (.invokevirtual 717, 3) := by decide +kernel
theorem dX14_says_7 : decode cX14_says 7 = .ok (.if_icmp .eq 5, 3) := by decide +kernel
theorem dX14_says_10 : decode cX14_says 10 = .ok (.iconst 0, 1) := by decide +kernel
theorem dX14_says_11 : decode cX14_says 11 = .ok (.ireturn, 1) := by decide +kernel
theorem dX14_says_12 : decode cX14_says 12 = .ok (.iload_n 1, 1) := by decide +kernel
theorem dX14_says_13 : decode cX14_says 13 = .ok (.istore 4, 2) := by decide +kernel
theorem dX14_says_15 : decode cX14_says 15 = .ok (.iload 4, 2) := by decide +kernel
theorem dX14_says_17 : decode cX14_says 17 = .ok (.iload_n 2, 1) := by decide +kernel
theorem dX14_says_18 : decode cX14_says 18 = .ok (.if_icmp .ge 28, 3) := by decide +kernel
theorem dX14_says_21 : decode cX14_says 21 = .ok (.aload_n 0, 1) := by decide +kernel
theorem dX14_says_22 : decode cX14_says 22 = .ok (.iload 4, 2) := by decide +kernel
theorem dX14_says_24 : decode cX14_says 24 = .ok (.invokevirtual 693, 3) := by decide +kernel
theorem dX14_says_27 : decode cX14_says 27 = .ok (.aload_n 3, 1) := by decide +kernel
theorem dX14_says_28 : decode cX14_says 28 = .ok (.iload 4, 2) := by decide +kernel
theorem dX14_says_30 : decode cX14_says 30 = .ok (.iload_n 1, 1) := by decide +kernel
theorem dX14_says_31 : decode cX14_says 31 = .ok (.isub, 1) := by decide +kernel
theorem dX14_says_32 : decode cX14_says 32 = .ok (.invokevirtual 721, 3) := by decide +kernel
theorem dX14_says_35 : decode cX14_says 35 = .ok (.if_icmp .eq 5, 3) := by decide +kernel
theorem dX14_says_38 : decode cX14_says 38 = .ok (.iconst 0, 1) := by decide +kernel
theorem dX14_says_39 : decode cX14_says 39 = .ok (.ireturn, 1) := by decide +kernel
theorem dX14_says_40 : decode cX14_says 40 = .ok (.iinc 4 1, 3) := by decide +kernel
theorem dX14_says_43 : decode cX14_says 43 = .ok (.goto (-28), 3) := by decide +kernel
theorem dX14_says_46 : decode cX14_says 46 = .ok (.iconst 1, 1) := by decide +kernel
theorem dX14_says_47 : decode cX14_says 47 = .ok (.ireturn, 1) := by decide +kernel
def rmX14_says : Room := { frames := 4, cells := 0, slots := 0, locals := 85 }
theorem kX14_says : yX14_says.cls = "WebHostModel" ∧ yX14_says.cls ≠ "java/lang/invoke/MethodHandle" ∧ yX14_says.cls ≠ "java/lang/invoke/VarHandle" ∧ (parseMethodDescriptor yX14_says.desc).map (fun d => d.parameters.length) = some 3 := by decide +kernel
def w14_says_L15 (σ : St) (x1 : Int32) (x2 : Int32) (t3 : Nat) (Q : Int32 → Prop) (K38 : Prop) (K46 : Prop) : Nat → Int32 → Prop
  | 0, _ => False
  | n + 1, x4 => (x2 ≤ x4 → K46) ∧ (¬ x2 ≤ x4 → (w14_headAt σ x4 (fun r2 => (wJ1_charAt t3 (x4 - x1) (fun r3 => ((r2 = r3 → (w14_says_L15 σ x1 x2 t3 Q K38 K46 n (x4 + 1))) ∧ (¬ r2 = r3 → K38)))))))
set_option maxHeartbeats 4000000 in
theorem k14_says_L15 {p : Program} {l : Launch} {e : Env} {s : State} {m : MethodId} {args : Array Value} {below : List Frame} {meth : Method} {c : Code} {G : Gh} {a1 : Nat → Nat → Nat} {τ : St} {H : Heap} {Q : Int32 → Prop} {K38 : Prop} {K46 : Prop} (C : Cx p e s m args meth c cX14_says 5 (some .boolean) "WebHostModel" G) (σ : St) (x1 : Int32) (x2 : Int32) (t3 : Nat) (ht3 : t3 < nS) (hH : Hd G a1 (cmb τ σ) H) :
    ∀ (n : Nat) (x4 : Int32), w14_says_L15 σ x1 x2 t3 Q K38 K46 n x4 → ∀ (locs : List Loc) (ls : Array Slot), va_S (gA G) s.heap H locs → lv_has ls 5 [(0, .ref (ga G 14 0)), (1, .int x1), (2, .int x2), (3, .ref (gs G t3)), (4, .int x4)] → (K38 → ∀ (locs : List Loc) (ls : Array Slot), va_S (gA G) s.heap H locs → lv_has ls 5 [] → W p l e rmX14_says s m args below meth c H locs 0 0 (MQ below (QIp G H Q) args s 0 0 (gA G)) (F0 m 38 ls [])) → (K46 → ∀ (locs : List Loc) (ls : Array Slot), va_S (gA G) s.heap H locs → lv_has ls 5 [] → W p l e rmX14_says s m args below meth c H locs 0 0 (MQ below (QIp G H Q) args s 0 0 (gA G)) (F0 m 46 ls [])) → W p l e rmX14_says s m args below meth c H locs 0 0 (MQ below (QIp G H Q) args s 0 0 (gA G)) (F0 m 15 ls []) := by
  have hx := C.1
  have hb := C.2.1
  have hown := C.2.2.2.2.2.1
  have hts := C.2.2.2.2.2.2.1
  intro n
  induction n with
  | zero =>
    intro x4 hw
    exact False.elim hw
  | succ n ih =>
    intro x4 hw locs ls hS hl hK38 hK46
    refine lv_iload hx hb dX14_says_15 (lv_at hl 4 rfl) ?_
    refine lv_iload_n hx hb dX14_says_17 rfl (lv_at hl 2 rfl) ?_
    refine lv_icmp_ge (tgt := 46) hx hb dX14_says_18 (by decide) (fun h => ?_) (fun h => ?_)
    · have hw := hw.1 h
      exact hK46 hw locs ls hS (lv_sub hl [] rfl)
    have hw := hw.2 h
    refine lv_aload_n hx hb dX14_says_21 rfl (lv_at hl 0 rfl) ?_
    refine lv_iload hx hb dX14_says_22 (lv_at hl 4 rfl) ?_
    refine kc_ip (rn_vp (As := [.int x4]) (rest := []) C hH hS (by decide) rfl (by decide) (m14_headAt l G a1 τ σ H x4 _ hw) (cwV 1 hts (lw_V q2475 q2477 qs136 q171 q2478) rfl rfl rfl kX14_headAt ⟨Nat.le_of_ble_eq_true rfl, Nat.le_of_ble_eq_true rfl⟩) rfl hl.1 rfl (Nat.le_of_ble_eq_true rfl) dX14_says_24 ⟨Nat.le_of_ble_eq_true rfl, Nat.le_of_ble_eq_true rfl⟩) hS (fun r2 locs hw hS => ?_)
    refine lv_aload_n hx hb dX14_says_27 rfl (lv_at hl 3 rfl) ?_
    refine lv_iload hx hb dX14_says_28 (lv_at hl 4 rfl) ?_
    refine lv_iload_n hx hb dX14_says_30 rfl (lv_at hl 1 rfl) ?_
    refine lv_isub hx hb dX14_says_31 ?_
    refine kc_ip (rn_vS (As := [.int (x4 - x1)]) (rest := [.int r2]) C hH hS ht3 (mJ1_charAt l G a1 τ (cmb τ σ) H t3 (x4 - x1) ht3 _ hw) (cwV 1 hts (lw_V q2485 q1283 q1284 q178 q1285) rfl rfl rfl kXJ1_charAt ⟨Nat.le_of_ble_eq_true rfl, Nat.le_of_ble_eq_true rfl⟩) rfl hl.1 rfl (Nat.le_of_ble_eq_true rfl) dX14_says_32 ⟨Nat.le_of_ble_eq_true rfl, Nat.le_of_ble_eq_true rfl⟩) hS (fun r3 locs hw hS => ?_)
    refine lv_icmp_eq (tgt := 40) hx hb dX14_says_35 (by decide) (fun h => ?_) (fun h => ?_)
    · have hw := hw.1 h
      refine lv_iinc (v := x4 + 1) (lv' := [(4, .int (x4 + 1)), (0, .ref (ga G 14 0)), (1, .int x1), (2, .int x2), (3, .ref (gs G t3))]) hx hb dX14_says_40 hl (k := 4) rfl rfl (by decide) rfl (fun ls hl => ?_)
      refine lv_goto (tgt := 15) hx hb dX14_says_43 (by decide) ?_
      exact ih (x4 + 1) hw locs ls hS (lv_sub hl [1, 2, 3, 4, 0] rfl) hK38 hK46
    have hw := hw.2 h
    exact hK38 hw locs ls hS (lv_sub hl [] rfl)
def w14_says (σ : St) (x1 : Int32) (x2 : Int32) (t3 : Nat) (Q : Int32 → Prop) : Prop := wJ1_length t3 (fun r1 => (((x2 - x1) = r1 → (∃ z4, w14_says_L15 σ x1 x2 t3 Q (Q 0) (Q 1) z4 x1)) ∧ (¬ (x2 - x1) = r1 → Q 0)))
set_option maxHeartbeats 4000000 in
theorem m14_says (l : Launch) (G : Gh) (a1 : Nat → Nat → Nat) (τ : St) (σ : St) (H : Heap) (x1 : Int32) (x2 : Int32) (t3 : Nat) (ht3 : t3 < nS) (Q : Int32 → Prop) (hw : w14_says σ x1 x2 t3 Q) : Met l yX14_says (ws_ yX14_says cX14_says 5 (some .boolean)) rmX14_says (PcP G a1 (cmb τ σ) H [.ref (ga G 14 0), .int x1, .int x2, .ref (gs G t3)]) (QIp G H Q) 0 0 (gA G) := by
  refine met_p (by decide) (Nat.le_of_ble_eq_true rfl) ?_
  intro p e s m below meth c ls hHe C hH hS hl
  have C : Cx p e s m _ meth c cX14_says 5 (some .boolean) "WebHostModel" G := C
  have hl : lv_has ls 5 [(0, .ref (ga G 14 0)), (1, .int x1), (2, .int x2), (3, .ref (gs G t3))] := hl
  have hx := C.1
  have hb := C.2.1
  have hown := C.2.2.2.2.2.1
  have hts := C.2.2.2.2.2.2.1
  obtain ⟨locs, hlocs⟩ : ∃ z : List Loc, z = [] := ⟨_, rfl⟩
  rw [← hlocs] at hS ⊢
  refine lv_iload_n hx hb dX14_says_0 rfl (lv_at hl 2 rfl) ?_
  refine lv_iload_n hx hb dX14_says_1 rfl (lv_at hl 1 rfl) ?_
  refine lv_isub hx hb dX14_says_2 ?_
  refine lv_aload_n hx hb dX14_says_3 rfl (lv_at hl 3 rfl) ?_
  refine kc_ip (rn_vS (As := []) (rest := [.int (x2 - x1)]) C hH hS ht3 (mJ1_length l G a1 τ (cmb τ σ) H t3 ht3 _ hw) (cwV 0 hts (lw_V q2484 q1273 q1274 q178 q1275) rfl rfl rfl kXJ1_length ⟨Nat.le_of_ble_eq_true rfl, Nat.le_of_ble_eq_true rfl⟩) rfl hl.1 rfl (Nat.le_of_ble_eq_true rfl) dX14_says_4 ⟨Nat.le_of_ble_eq_true rfl, Nat.le_of_ble_eq_true rfl⟩) hS (fun r1 locs hw hS => ?_)
  refine lv_icmp_eq (tgt := 12) hx hb dX14_says_7 (by decide) (fun h => ?_) (fun h => ?_)
  · have hw := hw.1 h
    refine lv_iload_n hx hb dX14_says_12 rfl (lv_at hl 1 rfl) ?_
    refine lv_istore (lv' := [(4, .int x1), (0, .ref (ga G 14 0)), (1, .int x1), (2, .int x2), (3, .ref (gs G t3))]) hx hb dX14_says_13 hl (by decide) rfl (fun ls hl => ?_)
    obtain ⟨n4, hw⟩ := hw
    refine k14_says_L15 C σ x1 x2 t3 ht3 hH n4 x1 hw locs ls hS (lv_sub hl [1, 2, 3, 4, 0] rfl) (fun hw locs ls hS hl => ?_) (fun hw locs ls hS hl => ?_)
    · refine lv_iconst (v := 0) hx hb dX14_says_38 (by decide) ?_
      exact rt_ip C rfl hS hw dX14_says_39
    refine lv_iconst (v := 1) hx hb dX14_says_46 (by decide) ?_
    exact rt_ip C rfl hS hw dX14_says_47
  have hw := hw.2 h
  refine lv_iconst (v := 0) hx hb dX14_says_10 (by decide) ?_
  exact rt_ip C rfl hS hw dX14_says_11
/-! WebHostModel.saysSmall(IILjava/lang/String;)Z -/
abbrev cX14_saysSmall : ByteArray := prog_17_method_88_code
def yX14_saysSmall : MethodName := ⟨RX14, "saysSmall", "(IILjava/lang/String;)Z"⟩
theorem dX14_saysSmall_0 : decode cX14_saysSmall 0 = .ok (.iload_n 2, 1) := by decide +kernel
theorem dX14_saysSmall_1 : decode cX14_saysSmall 1 = .ok (.iload_n 1, 1) := by decide +kernel
theorem dX14_saysSmall_2 : decode cX14_saysSmall 2 = .ok (.isub, 1) := by decide +kernel
theorem dX14_saysSmall_3 : decode cX14_saysSmall 3 = .ok (.aload_n 3, 1) := by decide +kernel
theorem dX14_saysSmall_4 : decode cX14_saysSmall 4 = .ok (.invokevirtual 717, 3) := by decide +kernel
theorem dX14_saysSmall_7 : decode cX14_saysSmall 7 = .ok (.if_icmp .eq 5, 3) := by decide +kernel
theorem dX14_saysSmall_10 : decode cX14_saysSmall 10 = .ok (.iconst 0, 1) := by decide +kernel
theorem dX14_saysSmall_11 : decode cX14_saysSmall 11 = .ok (.ireturn, 1) := by decide +kernel
theorem dX14_saysSmall_12 : decode cX14_saysSmall 12 = .ok (.iload_n 1, 1) := by decide +kernel
theorem dX14_saysSmall_13 : decode cX14_saysSmall 13 = .ok (.istore 4, 2) := by decide +kernel
theorem dX14_saysSmall_15 : decode cX14_saysSmall 15 = .ok (.iload 4, 2) := by decide +kernel
theorem dX14_saysSmall_17 : decode cX14_saysSmall 17 = .ok (.iload_n 2, 1) := by decide +kernel
theorem dX14_saysSmall_18 : decode cX14_saysSmall 18 = .ok (.if_icmp .ge 31, 3) := by decide +kernel
theorem dX14_saysSmall_21 : decode cX14_saysSmall 21 = .ok (.aload_n 0, 1) := by decide +kernel
theorem dX14_saysSmall_22 : decode cX14_saysSmall 22 = .ok (.iload 4, 2) := by decide +kernel
theorem dX14_saysSmall_24 : decode cX14_saysSmall 24 = .ok (.invokevirtual 693, 3) := by decide +kernel
theorem dX14_saysSmall_27 : decode cX14_saysSmall 27 = .ok (.invokestatic 725, 3) := by decide +kernel
theorem dX14_saysSmall_30 : decode cX14_saysSmall 30 = .ok (.aload_n 3, 1) := by decide +kernel
theorem dX14_saysSmall_31 : decode cX14_saysSmall 31 = .ok (.iload 4, 2) := by decide +kernel
theorem dX14_saysSmall_33 : decode cX14_saysSmall 33 = .ok (.iload_n 1, 1) := by decide +kernel
theorem dX14_saysSmall_34 : decode cX14_saysSmall 34 = .ok (.isub, 1) := by decide +kernel
theorem dX14_saysSmall_35 : decode cX14_saysSmall 35 = .ok (.invokevirtual 721, 3) := by decide +kernel
theorem dX14_saysSmall_38 : decode cX14_saysSmall 38 = .ok (.if_icmp .eq 5, 3) := by decide +kernel
theorem dX14_saysSmall_41 : decode cX14_saysSmall 41 = .ok (.iconst 0, 1) := by decide +kernel
theorem dX14_saysSmall_42 : decode cX14_saysSmall 42 = .ok (.ireturn, 1) := by decide +kernel
theorem dX14_saysSmall_43 : decode cX14_saysSmall 43 = .ok (.iinc 4 1, 3) := by decide +kernel
theorem dX14_saysSmall_46 : decode cX14_saysSmall 46 = .ok (.goto (-31), 3) := by decide +kernel
theorem dX14_saysSmall_49 : decode cX14_saysSmall 49 = .ok (.iconst 1, 1) := by decide +kernel
theorem dX14_saysSmall_50 : decode cX14_saysSmall 50 = .ok (.ireturn, 1) := by decide +kernel
def rmX14_saysSmall : Room := { frames := 4, cells := 0, slots := 0, locals := 85 }
theorem kX14_saysSmall : yX14_saysSmall.cls = "WebHostModel" ∧ yX14_saysSmall.cls ≠ "java/lang/invoke/MethodHandle" ∧ yX14_saysSmall.cls ≠ "java/lang/invoke/VarHandle" ∧ (parseMethodDescriptor yX14_saysSmall.desc).map (fun d => d.parameters.length) = some 3 := by decide +kernel
def w14_saysSmall_L15 (σ : St) (x1 : Int32) (x2 : Int32) (t3 : Nat) (Q : Int32 → Prop) (K41 : Prop) (K49 : Prop) : Nat → Int32 → Prop
  | 0, _ => False
  | n + 1, x4 => (x2 ≤ x4 → K49) ∧ (¬ x2 ≤ x4 → (w14_headAt σ x4 (fun r2 => (w14_small σ r2 (fun r3 => (wJ1_charAt t3 (x4 - x1) (fun r4 => ((r3 = r4 → (w14_saysSmall_L15 σ x1 x2 t3 Q K41 K49 n (x4 + 1))) ∧ (¬ r3 = r4 → K41)))))))))
set_option maxHeartbeats 4000000 in
theorem k14_saysSmall_L15 {p : Program} {l : Launch} {e : Env} {s : State} {m : MethodId} {args : Array Value} {below : List Frame} {meth : Method} {c : Code} {G : Gh} {a1 : Nat → Nat → Nat} {τ : St} {H : Heap} {Q : Int32 → Prop} {K41 : Prop} {K49 : Prop} (C : Cx p e s m args meth c cX14_saysSmall 5 (some .boolean) "WebHostModel" G) (σ : St) (x1 : Int32) (x2 : Int32) (t3 : Nat) (ht3 : t3 < nS) (hH : Hd G a1 (cmb τ σ) H) :
    ∀ (n : Nat) (x4 : Int32), w14_saysSmall_L15 σ x1 x2 t3 Q K41 K49 n x4 → ∀ (locs : List Loc) (ls : Array Slot), va_S (gA G) s.heap H locs → lv_has ls 5 [(0, .ref (ga G 14 0)), (1, .int x1), (2, .int x2), (3, .ref (gs G t3)), (4, .int x4)] → (K41 → ∀ (locs : List Loc) (ls : Array Slot), va_S (gA G) s.heap H locs → lv_has ls 5 [] → W p l e rmX14_saysSmall s m args below meth c H locs 0 0 (MQ below (QIp G H Q) args s 0 0 (gA G)) (F0 m 41 ls [])) → (K49 → ∀ (locs : List Loc) (ls : Array Slot), va_S (gA G) s.heap H locs → lv_has ls 5 [] → W p l e rmX14_saysSmall s m args below meth c H locs 0 0 (MQ below (QIp G H Q) args s 0 0 (gA G)) (F0 m 49 ls [])) → W p l e rmX14_saysSmall s m args below meth c H locs 0 0 (MQ below (QIp G H Q) args s 0 0 (gA G)) (F0 m 15 ls []) := by
  have hx := C.1
  have hb := C.2.1
  have hown := C.2.2.2.2.2.1
  have hts := C.2.2.2.2.2.2.1
  intro n
  induction n with
  | zero =>
    intro x4 hw
    exact False.elim hw
  | succ n ih =>
    intro x4 hw locs ls hS hl hK41 hK49
    refine lv_iload hx hb dX14_saysSmall_15 (lv_at hl 4 rfl) ?_
    refine lv_iload_n hx hb dX14_saysSmall_17 rfl (lv_at hl 2 rfl) ?_
    refine lv_icmp_ge (tgt := 49) hx hb dX14_saysSmall_18 (by decide) (fun h => ?_) (fun h => ?_)
    · have hw := hw.1 h
      exact hK49 hw locs ls hS (lv_sub hl [] rfl)
    have hw := hw.2 h
    refine lv_aload_n hx hb dX14_saysSmall_21 rfl (lv_at hl 0 rfl) ?_
    refine lv_iload hx hb dX14_saysSmall_22 (lv_at hl 4 rfl) ?_
    refine kc_ip (rn_vp (As := [.int x4]) (rest := []) C hH hS (by decide) rfl (by decide) (m14_headAt l G a1 τ σ H x4 _ hw) (cwV 1 hts (lw_V q2475 q2477 qs136 q171 q2478) rfl rfl rfl kX14_headAt ⟨Nat.le_of_ble_eq_true rfl, Nat.le_of_ble_eq_true rfl⟩) rfl hl.1 rfl (Nat.le_of_ble_eq_true rfl) dX14_saysSmall_24 ⟨Nat.le_of_ble_eq_true rfl, Nat.le_of_ble_eq_true rfl⟩) hS (fun r2 locs hw hS => ?_)
    refine kc_ip (rn_sp (As := [.int r2]) (rest := []) C hH hS (m14_small l G a1 τ σ H r2 _ hw) (va_cwS 1 hts (lw_S q2496 q2497 q171 q2498) rfl rfl rfl kX14_small.2 ⟨Nat.le_of_ble_eq_true rfl, Nat.le_of_ble_eq_true rfl⟩) rfl hl.1 rfl (Nat.le_of_ble_eq_true rfl) dX14_saysSmall_27 ⟨Nat.le_of_ble_eq_true rfl, Nat.le_of_ble_eq_true rfl⟩) hS (fun r3 locs hw hS => ?_)
    refine lv_aload_n hx hb dX14_saysSmall_30 rfl (lv_at hl 3 rfl) ?_
    refine lv_iload hx hb dX14_saysSmall_31 (lv_at hl 4 rfl) ?_
    refine lv_iload_n hx hb dX14_saysSmall_33 rfl (lv_at hl 1 rfl) ?_
    refine lv_isub hx hb dX14_saysSmall_34 ?_
    refine kc_ip (rn_vS (As := [.int (x4 - x1)]) (rest := [.int r3]) C hH hS ht3 (mJ1_charAt l G a1 τ (cmb τ σ) H t3 (x4 - x1) ht3 _ hw) (cwV 1 hts (lw_V q2485 q1283 q1284 q178 q1285) rfl rfl rfl kXJ1_charAt ⟨Nat.le_of_ble_eq_true rfl, Nat.le_of_ble_eq_true rfl⟩) rfl hl.1 rfl (Nat.le_of_ble_eq_true rfl) dX14_saysSmall_35 ⟨Nat.le_of_ble_eq_true rfl, Nat.le_of_ble_eq_true rfl⟩) hS (fun r4 locs hw hS => ?_)
    refine lv_icmp_eq (tgt := 43) hx hb dX14_saysSmall_38 (by decide) (fun h => ?_) (fun h => ?_)
    · have hw := hw.1 h
      refine lv_iinc (v := x4 + 1) (lv' := [(4, .int (x4 + 1)), (0, .ref (ga G 14 0)), (1, .int x1), (2, .int x2), (3, .ref (gs G t3))]) hx hb dX14_saysSmall_43 hl (k := 4) rfl rfl (by decide) rfl (fun ls hl => ?_)
      refine lv_goto (tgt := 15) hx hb dX14_saysSmall_46 (by decide) ?_
      exact ih (x4 + 1) hw locs ls hS (lv_sub hl [1, 2, 3, 4, 0] rfl) hK41 hK49
    have hw := hw.2 h
    exact hK41 hw locs ls hS (lv_sub hl [] rfl)
def w14_saysSmall (σ : St) (x1 : Int32) (x2 : Int32) (t3 : Nat) (Q : Int32 → Prop) : Prop := wJ1_length t3 (fun r1 => (((x2 - x1) = r1 → (∃ z5, w14_saysSmall_L15 σ x1 x2 t3 Q (Q 0) (Q 1) z5 x1)) ∧ (¬ (x2 - x1) = r1 → Q 0)))
set_option maxHeartbeats 4000000 in
theorem m14_saysSmall (l : Launch) (G : Gh) (a1 : Nat → Nat → Nat) (τ : St) (σ : St) (H : Heap) (x1 : Int32) (x2 : Int32) (t3 : Nat) (ht3 : t3 < nS) (Q : Int32 → Prop) (hw : w14_saysSmall σ x1 x2 t3 Q) : Met l yX14_saysSmall (ws_ yX14_saysSmall cX14_saysSmall 5 (some .boolean)) rmX14_saysSmall (PcP G a1 (cmb τ σ) H [.ref (ga G 14 0), .int x1, .int x2, .ref (gs G t3)]) (QIp G H Q) 0 0 (gA G) := by
  refine met_p (by decide) (Nat.le_of_ble_eq_true rfl) ?_
  intro p e s m below meth c ls hHe C hH hS hl
  have C : Cx p e s m _ meth c cX14_saysSmall 5 (some .boolean) "WebHostModel" G := C
  have hl : lv_has ls 5 [(0, .ref (ga G 14 0)), (1, .int x1), (2, .int x2), (3, .ref (gs G t3))] := hl
  have hx := C.1
  have hb := C.2.1
  have hown := C.2.2.2.2.2.1
  have hts := C.2.2.2.2.2.2.1
  obtain ⟨locs, hlocs⟩ : ∃ z : List Loc, z = [] := ⟨_, rfl⟩
  rw [← hlocs] at hS ⊢
  refine lv_iload_n hx hb dX14_saysSmall_0 rfl (lv_at hl 2 rfl) ?_
  refine lv_iload_n hx hb dX14_saysSmall_1 rfl (lv_at hl 1 rfl) ?_
  refine lv_isub hx hb dX14_saysSmall_2 ?_
  refine lv_aload_n hx hb dX14_saysSmall_3 rfl (lv_at hl 3 rfl) ?_
  refine kc_ip (rn_vS (As := []) (rest := [.int (x2 - x1)]) C hH hS ht3 (mJ1_length l G a1 τ (cmb τ σ) H t3 ht3 _ hw) (cwV 0 hts (lw_V q2484 q1273 q1274 q178 q1275) rfl rfl rfl kXJ1_length ⟨Nat.le_of_ble_eq_true rfl, Nat.le_of_ble_eq_true rfl⟩) rfl hl.1 rfl (Nat.le_of_ble_eq_true rfl) dX14_saysSmall_4 ⟨Nat.le_of_ble_eq_true rfl, Nat.le_of_ble_eq_true rfl⟩) hS (fun r1 locs hw hS => ?_)
  refine lv_icmp_eq (tgt := 12) hx hb dX14_saysSmall_7 (by decide) (fun h => ?_) (fun h => ?_)
  · have hw := hw.1 h
    refine lv_iload_n hx hb dX14_saysSmall_12 rfl (lv_at hl 1 rfl) ?_
    refine lv_istore (lv' := [(4, .int x1), (0, .ref (ga G 14 0)), (1, .int x1), (2, .int x2), (3, .ref (gs G t3))]) hx hb dX14_saysSmall_13 hl (by decide) rfl (fun ls hl => ?_)
    obtain ⟨n5, hw⟩ := hw
    refine k14_saysSmall_L15 C σ x1 x2 t3 ht3 hH n5 x1 hw locs ls hS (lv_sub hl [1, 2, 3, 4, 0] rfl) (fun hw locs ls hS hl => ?_) (fun hw locs ls hS hl => ?_)
    · refine lv_iconst (v := 0) hx hb dX14_saysSmall_41 (by decide) ?_
      exact rt_ip C rfl hS hw dX14_saysSmall_42
    refine lv_iconst (v := 1) hx hb dX14_saysSmall_49 (by decide) ?_
    exact rt_ip C rfl hS hw dX14_saysSmall_50
  have hw := hw.2 h
  refine lv_iconst (v := 0) hx hb dX14_saysSmall_10 (by decide) ?_
  exact rt_ip C rfl hS hw dX14_saysSmall_11
/-! WebHostModel.unfolded()Z -/
abbrev cX14_unfolded : ByteArray := prog_17_method_97_code
def yX14_unfolded : MethodName := ⟨RX14, "unfolded", "()Z"⟩
theorem dX14_unfolded_0 : decode cX14_unfolded 0 = .ok (.aload_n 0, 1) := by decide +kernel
theorem dX14_unfolded_1 : decode cX14_unfolded 1 = .ok (.iconst 0, 1) := by decide +kernel
theorem dX14_unfolded_2 : decode cX14_unfolded 2 = .ok (.putfield 776, 3) := by decide +kernel
theorem dX14_unfolded_5 : decode cX14_unfolded 5 = .ok (.aload_n 0, 1) := by decide +kernel
theorem dX14_unfolded_6 : decode cX14_unfolded 6 = .ok (.getfield 711, 3) := by decide +kernel
theorem dX14_unfolded_9 : decode cX14_unfolded 9 = .ok (.istore_n 1, 1) := by decide +kernel
theorem dX14_unfolded_10 : decode cX14_unfolded 10 = .ok (.iload_n 1, 1) := by decide +kernel
theorem dX14_unfolded_11 : decode cX14_unfolded 11 = .ok (.aload_n 0, 1) := by decide +kernel
theorem dX14_unfolded_12 : decode cX14_unfolded 12 = .ok (.getfield 714, 3) := by decide +kernel
theorem dX14_unfolded_15 : decode cX14_unfolded 15 = .ok (.if_icmp .ge 137, 3) := by decide +kernel
theorem dX14_unfolded_18 : decode cX14_unfolded 18 = .ok (.aload_n 0, 1) := by decide +kernel
theorem dX14_unfolded_19 : decode cX14_unfolded 19 = .ok (.getfield 74, 3) := by decide +kernel
theorem dX14_unfolded_22 : decode cX14_unfolded 22 = .ok (.iload_n 1, 1) := by decide +kernel
theorem dX14_unfolded_23 : decode cX14_unfolded 23 = .ok (.baload, 1) := by decide +kernel
theorem dX14_unfolded_24 : decode cX14_unfolded 24 = .ok (.bipush 63, 2) := by decide +kernel
theorem dX14_unfolded_26 : decode cX14_unfolded 26 = .ok (.if_icmp .eq 126, 3) := by decide +kernel
theorem dX14_unfolded_29 : decode cX14_unfolded 29 = .ok (.aload_n 0, 1) := by decide +kernel
theorem dX14_unfolded_30 : decode cX14_unfolded 30 = .ok (.iload_n 1, 1) := by decide +kernel
theorem dX14_unfolded_31 : decode cX14_unfolded 31 = .ok (.invokevirtual 693, 3) := by decide +kernel
theorem dX14_unfolded_34 : decode cX14_unfolded 34 = .ok (.istore_n 2, 1) := by decide +kernel
theorem dX14_unfolded_35 : decode cX14_unfolded 35 = .ok (.iinc 1 1, 3) := by decide +kernel
theorem dX14_unfolded_38 : decode cX14_unfolded 38 = .ok (.iload_n 2, 1) := by decide +kernel
theorem dX14_unfolded_39 : decode cX14_unfolded 39 = .ok (.bipush 37, 2) := by decide +kernel
theorem dX14_unfolded_41 : decode cX14_unfolded 41 = .ok (.if_icmp .ne 87, 3) := by decide +kernel
theorem dX14_unfolded_44 : decode cX14_unfolded 44 = .ok (.iload_n 1, 1) := by decide +kernel
theorem dX14_unfolded_45 : decode cX14_unfolded 45 = .ok (.aload_n 0, 1) := by decide +kernel
theorem dX14_unfolded_46 : decode cX14_unfolded 46 = .ok (.getfield 714, 3) := by decide +kernel
theorem dX14_unfolded_49 : decode cX14_unfolded 49 = .ok (.if_icmp .ge 14, 3) := by decide +kernel
theorem dX14_unfolded_52 : decode cX14_unfolded 52 = .ok (.aload_n 0, 1) := by decide +kernel
theorem dX14_unfolded_53 : decode cX14_unfolded 53 = .ok (.iload_n 1, 1) := by decide +kernel
theorem dX14_unfolded_54 : decode cX14_unfolded 54 = .ok (.invokevirtual 693, 3) := by decide +kernel
theorem dX14_unfolded_57 : decode cX14_unfolded 57 = .ok (.invokestatic 779, 3) := by decide +kernel
theorem dX14_unfolded_60 : decode cX14_unfolded 60 = .ok (.goto 4, 3) := by decide +kernel
theorem dX14_unfolded_63 : decode cX14_unfolded 63 = .ok (.iconst (-1), 1) := by decide +kernel
theorem dX14_unfolded_64 : decode cX14_unfolded 64 = .ok (.istore_n 3, 1) := by decide +kernel
theorem dX14_unfolded_65 : decode cX14_unfolded 65 = .ok (.iload_n 1, 1) := by decide +kernel
theorem dX14_unfolded_66 : decode cX14_unfolded 66 = .ok (.iconst 1, 1) := by decide +kernel
theorem dX14_unfolded_67 : decode cX14_unfolded 67 = .ok (.iadd, 1) := by decide +kernel
theorem dX14_unfolded_68 : decode cX14_unfolded 68 = .ok (.aload_n 0, 1) := by decide +kernel
theorem dX14_unfolded_69 : decode cX14_unfolded 69 = .ok (.getfield 714, 3) := by decide +kernel
theorem dX14_unfolded_72 : decode cX14_unfolded 72 = .ok (.if_icmp .ge 16, 3) := by decide +kernel
theorem dX14_unfolded_75 : decode cX14_unfolded 75 = .ok (.aload_n 0, 1) := by decide +kernel
theorem dX14_unfolded_76 : decode cX14_unfolded 76 = .ok (.iload_n 1, 1) := by decide +kernel
theorem dX14_unfolded_77 : decode cX14_unfolded 77 = .ok (.iconst 1, 1) := by decide +kernel
theorem dX14_unfolded_78 : decode cX14_unfolded 78 = .ok (.iadd, 1) := by decide +kernel
theorem dX14_unfolded_79 : decode cX14_unfolded 79 = .ok (.invokevirtual 693, 3) := by decide +kernel
theorem dX14_unfolded_82 : decode cX14_unfolded 82 = .ok (.invokestatic 779, 3) := by decide +kernel
theorem dX14_unfolded_85 : decode cX14_unfolded 85 = .ok (.goto 4, 3) := by decide +kernel
theorem dX14_unfolded_88 : decode cX14_unfolded 88 = .ok (.iconst (-1), 1) := by decide +kernel
theorem dX14_unfolded_89 : decode cX14_unfolded 89 = .ok (.istore 4, 2) := by decide +kernel
theorem dX14_unfolded_91 : decode cX14_unfolded 91 = .ok (.iload_n 3, 1) := by decide +kernel
theorem dX14_unfolded_92 : decode cX14_unfolded 92 = .ok (.ifCond .lt 8, 3) := by decide +kernel
theorem dX14_unfolded_95 : decode cX14_unfolded 95 = .ok (.iload 4, 2) := by decide +kernel
theorem dX14_unfolded_97 : decode cX14_unfolded 97 = .ok (.ifCond .ge 5, 3) := by decide +kernel
theorem dX14_unfolded_100 : decode cX14_unfolded 100 = .ok (.iconst 0, 1) := by decide +kernel
theorem dX14_unfolded_101 : decode cX14_unfolded 101 = .ok (.ireturn, 1) := by decide +kernel
theorem dX14_unfolded_102 : decode cX14_unfolded 102 = .ok (.bipush 16, 2) := by decide +kernel
theorem dX14_unfolded_104 : decode cX14_unfolded 104 = .ok (.iload_n 3, 1) := by decide +kernel
theorem dX14_unfolded_105 : decode cX14_unfolded 105 = .ok (.imul, 1) := by decide +kernel
theorem dX14_unfolded_106 : decode cX14_unfolded 106 = .ok (.iload 4, 2) := by decide +kernel
theorem dX14_unfolded_108 : decode cX14_unfolded 108 = .ok (.iadd, 1) := by decide +kernel
theorem dX14_unfolded_109 : decode cX14_unfolded 109 = .ok (.istore_n 2, 1) := by decide +kernel
theorem dX14_unfolded_110 : decode cX14_unfolded 110 = .ok (.iload_n 2, 1) := by decide +kernel
theorem dX14_unfolded_111 : decode cX14_unfolded 111 = .ok (.bipush 33, 2) := by decide +kernel
theorem dX14_unfolded_113 : decode cX14_unfolded 113 = .ok (.if_icmp .lt 9, 3) := by decide +kernel
theorem dX14_unfolded_116 : decode cX14_unfolded 116 = .ok (.iload_n 2, 1) := by decide +kernel
theorem dX14_unfolded_117 : decode cX14_unfolded 117 = .ok (.bipush 126, 2) := by decide +kernel
theorem dX14_unfolded_119 : decode cX14_unfolded 119 = .ok (.if_icmp .le 5, 3) := by decide +kernel
theorem dX14_unfolded_122 : decode cX14_unfolded 122 = .ok (.iconst 0, 1) := by decide +kernel
theorem dX14_unfolded_123 : decode cX14_unfolded 123 = .ok (.ireturn, 1) := by decide +kernel
theorem dX14_unfolded_124 : decode cX14_unfolded 124 = .ok (.iload_n 1, 1) := by decide +kernel
theorem dX14_unfolded_125 : decode cX14_unfolded 125 = .ok (.iconst 2, 1) := by decide +kernel
theorem dX14_unfolded_126 : decode cX14_unfolded 126 = .ok (.iadd, 1) := by decide +kernel
theorem dX14_unfolded_127 : decode cX14_unfolded 127 = .ok (.istore_n 1, 1) := by decide +kernel
theorem dX14_unfolded_128 : decode cX14_unfolded 128 = .ok (.aload_n 0, 1) := by decide +kernel
theorem dX14_unfolded_129 : decode cX14_unfolded 129 = .ok (.getfield 77, 3) := by decide +kernel
theorem dX14_unfolded_132 : decode cX14_unfolded 132 = .ok (.aload_n 0, 1) := by decide +kernel
theorem dX14_unfolded_133 : decode cX14_unfolded 133 = .ok (.getfield 776, 3) := by decide +kernel
theorem dX14_unfolded_136 : decode cX14_unfolded 136 = .ok (.iload_n 2, 1) := by decide +kernel
theorem dX14_unfolded_137 : decode cX14_unfolded 137 = .ok (.i2b, 1) := by decide +kernel
theorem dX14_unfolded_138 : decode cX14_unfolded 138 = .ok (.bastore, 1) := by decide +kernel
theorem dX14_unfolded_139 : decode cX14_unfolded 139 = .ok (.aload_n 0, 1) := by decide +kernel
theorem dX14_unfolded_140 : decode cX14_unfolded 140 = .ok (.dup, 1) := by decide +kernel
theorem dX14_unfolded_141 : decode cX14_unfolded 141 = .ok (.getfield 776, 3) := by decide +kernel
theorem dX14_unfolded_144 : decode cX14_unfolded 144 = .ok (.iconst 1, 1) := by decide +kernel
theorem dX14_unfolded_145 : decode cX14_unfolded 145 = .ok (.iadd, 1) := by decide +kernel
theorem dX14_unfolded_146 : decode cX14_unfolded 146 = .ok (.putfield 776, 3) := by decide +kernel
theorem dX14_unfolded_149 : decode cX14_unfolded 149 = .ok (.goto (-139), 3) := by decide +kernel
theorem dX14_unfolded_152 : decode cX14_unfolded 152 = .ok (.aload_n 0, 1) := by decide +kernel
theorem dX14_unfolded_153 : decode cX14_unfolded 153 = .ok (.getfield 77, 3) := by decide +kernel
theorem dX14_unfolded_156 : decode cX14_unfolded 156 = .ok (.aload_n 0, 1) := by decide +kernel
theorem dX14_unfolded_157 : decode cX14_unfolded 157 = .ok (.getfield 776, 3) := by decide +kernel
theorem dX14_unfolded_160 : decode cX14_unfolded 160 = .ok (.iconst 1, 1) := by decide +kernel
theorem dX14_unfolded_161 : decode cX14_unfolded 161 = .ok (.isub, 1) := by decide +kernel
theorem dX14_unfolded_162 : decode cX14_unfolded 162 = .ok (.baload, 1) := by decide +kernel
theorem dX14_unfolded_163 : decode cX14_unfolded 163 = .ok (.bipush 47, 2) := by decide +kernel
theorem dX14_unfolded_165 : decode cX14_unfolded 165 = .ok (.if_icmp .ne 53, 3) := by decide +kernel
theorem dX14_unfolded_168 : decode cX14_unfolded 168 = .ok (.ldc_w 782, 3) := by decide +kernel
theorem dX14_unfolded_171 : decode cX14_unfolded 171 = .ok (.astore_n 2, 1) := by decide +kernel
theorem dX14_unfolded_172 : decode cX14_unfolded 172 = .ok (.iconst 0, 1) := by decide +kernel
theorem dX14_unfolded_173 : decode cX14_unfolded 173 = .ok (.istore_n 3, 1) := by decide +kernel
theorem dX14_unfolded_174 : decode cX14_unfolded 174 = .ok (.iload_n 3, 1) := by decide +kernel
theorem dX14_unfolded_175 : decode cX14_unfolded 175 = .ok (.aload_n 2, 1) := by decide +kernel
theorem dX14_unfolded_176 : decode cX14_unfolded 176 = .ok (.invokevirtual 717, 3) := by decide +kernel
theorem dX14_unfolded_179 : decode cX14_unfolded 179 = .ok (.if_icmp .ge 26, 3) := by decide +kernel
theorem dX14_unfolded_182 : decode cX14_unfolded 182 = .ok (.aload_n 0, 1) := by decide +kernel
theorem dX14_unfolded_183 : decode cX14_unfolded 183 = .ok (.getfield 77, 3) := by decide +kernel
theorem dX14_unfolded_186 : decode cX14_unfolded 186 = .ok (.aload_n 0, 1) := by decide +kernel
theorem dX14_unfolded_187 : decode cX14_unfolded 187 = .ok (.getfield 776, 3) := by decide +kernel
theorem dX14_unfolded_190 : decode cX14_unfolded 190 = .ok (.iload_n 3, 1) := by decide +kernel
theorem dX14_unfolded_191 : decode cX14_unfolded 191 = .ok (.iadd, 1) := by decide +kernel
theorem dX14_unfolded_192 : decode cX14_unfolded 192 = .ok (.aload_n 2, 1) := by decide +kernel
theorem dX14_unfolded_193 : decode cX14_unfolded 193 = .ok (.iload_n 3, 1) := by decide +kernel
theorem dX14_unfolded_194 : decode cX14_unfolded 194 = .ok (.invokevirtual 721, 3) := by decide +kernel
theorem dX14_unfolded_197 : decode cX14_unfolded 197 = .ok (.i2b, 1) := by decide +kernel
theorem dX14_unfolded_198 : decode cX14_unfolded 198 = .ok (.bastore, 1) := by decide +kernel
theorem dX14_unfolded_199 : decode cX14_unfolded 199 = .ok (.iinc 3 1, 3) := by decide +kernel
theorem dX14_unfolded_202 : decode cX14_unfolded 202 = .ok (.goto (-28), 3) := by decide +kernel
theorem dX14_unfolded_205 : decode cX14_unfolded 205 = .ok (.aload_n 0, 1) := by decide +kernel
theorem dX14_unfolded_206 : decode cX14_unfolded 206 = .ok (.aload_n 0, 1) := by decide +kernel
theorem dX14_unfolded_207 : decode cX14_unfolded 207 = .ok (.getfield 776, 3) := by decide +kernel
theorem dX14_unfolded_210 : decode cX14_unfolded 210 = .ok (.aload_n 2, 1) := by decide +kernel
theorem dX14_unfolded_211 : decode cX14_unfolded 211 = .ok (.invokevirtual 717, 3) := by decide +kernel
theorem dX14_unfolded_214 : decode cX14_unfolded 214 = .ok (.iadd, 1) := by decide +kernel
theorem dX14_unfolded_215 : decode cX14_unfolded 215 = .ok (.putfield 776, 3) := by decide +kernel
theorem dX14_unfolded_218 : decode cX14_unfolded 218 = .ok (.iconst 1, 1) := by decide +kernel
theorem dX14_unfolded_219 : decode cX14_unfolded 219 = .ok (.ireturn, 1) := by decide +kernel
def rmX14_unfolded : Room := { frames := 4, cells := 0, slots := 0, locals := 85 }
theorem kX14_unfolded : yX14_unfolded.cls = "WebHostModel" ∧ yX14_unfolded.cls ≠ "java/lang/invoke/MethodHandle" ∧ yX14_unfolded.cls ≠ "java/lang/invoke/VarHandle" ∧ (parseMethodDescriptor yX14_unfolded.desc).map (fun d => d.parameters.length) = some 0 := by decide +kernel
def w14_unfolded_J128 (σ : St) (x1 : Int32) (x2 : Int32) (Q : Int32 → St → Prop) (K10 : St → Int32 → Prop) : Prop := vp_in (σ 14 0 59) 8192 ∧ (∀ σ3, σ3 = up3 σ 67 0 (σ 14 0 59).toNatClampNeg x2.toInt8.toInt32.toInt8.toInt32 → (∀ σ4, σ4 = up3 σ3 14 0 59 ((σ3 14 0 59) + 1) → (K10 σ4 x1)))
set_option maxHeartbeats 4000000 in
theorem k14_unfolded_J128 {p : Program} {l : Launch} {e : Env} {s : State} {m : MethodId} {args : Array Value} {below : List Frame} {meth : Method} {c : Code} {G : Gh} {a1 : Nat → Nat → Nat} {τ : St} {Q : Int32 → St → Prop} {K10 : St → Int32 → Prop} (C : Cx p e s m args meth c cX14_unfolded 5 (some .boolean) "WebHostModel" G) (σ : St) (x1 : Int32) (x2 : Int32) (hw : w14_unfolded_J128 σ x1 x2 Q K10) (H : Heap) (locs : List Loc) (ls : Array Slot) (hH : Hd G a1 (cmb τ σ) H) (hS : va_S (gA G) s.heap H locs) (hl : lv_has ls 5 [(0, .ref (ga G 14 0)), (1, .int x1), (2, .int x2)]) (hK10 : ∀ (σ : St) (x1 : Int32), K10 σ x1 → ∀ (H : Heap) (locs : List Loc) (ls : Array Slot), Hd G a1 (cmb τ σ) H → va_S (gA G) s.heap H locs → lv_has ls 5 [(0, .ref (ga G 14 0)), (1, .int x1)] → W p l e rmX14_unfolded s m args below meth c H locs 0 0 (MQ below (QIs G a1 (fun u => cmb τ u) Q) args s 0 0 (gA G)) (F0 m 10 ls [])) : W p l e rmX14_unfolded s m args below meth c H locs 0 0 (MQ below (QIs G a1 (fun u => cmb τ u) Q) args s 0 0 (gA G)) (F0 m 128 ls []) := by
  have hx := C.1
  have hb := C.2.1
  have hown := C.2.2.2.2.2.1
  have hts := C.2.2.2.2.2.2.1
  refine lv_aload_n hx hb dX14_unfolded_128 rfl (lv_at hl 0 rfl) ?_
  refine g14_58 C hH q1998 dX14_unfolded_129 ?_
  refine lv_aload_n hx hb dX14_unfolded_132 rfl (lv_at hl 0 rfl) ?_
  refine g14_59 C hH q1999 dX14_unfolded_133 ?_
  refine lv_iload_n hx hb dX14_unfolded_136 rfl (lv_at hl 2 rfl) ?_
  refine lv_i2b (v := x2.toInt8.toInt32) hx hb dX14_unfolded_137 rfl ?_
  refine s67 C hH hS hw.1 dX14_unfolded_138 (fun σ3 e3 H locs hH hS => ?_)
  have hw := hw.2 σ3 e3
  refine lv_aload_n hx hb dX14_unfolded_139 rfl (lv_at hl 0 rfl) ?_
  refine lv_dup hx hb dX14_unfolded_140 rfl ?_
  refine g14_59 C hH q1999 dX14_unfolded_141 ?_
  refine lv_iconst (v := 1) hx hb dX14_unfolded_144 (by decide) ?_
  refine lv_iadd hx hb dX14_unfolded_145 ?_
  refine p14_59 C hH hS q1999 dX14_unfolded_146 (fun σ4 e4 H locs hH hS => ?_)
  have hw := hw σ4 e4
  refine lv_goto (tgt := 10) hx hb dX14_unfolded_149 (by decide) ?_
  exact hK10 σ4 x1 hw H locs ls hH hS (lv_sub hl [0, 1] rfl)
def w14_unfolded_J89 (σ : St) (x1 : Int32) (x3 : Int32) (xs0 : Int32) (Q : Int32 → St → Prop) (K10 : St → Int32 → Prop) (K100 : St → Prop) (K122 : St → Prop) : Prop := (x3 < 0 → K100 σ) ∧ (¬ x3 < 0 → ((0 ≤ xs0 → ((((16 * x3) + xs0) < 33 → K122 σ) ∧ (¬ ((16 * x3) + xs0) < 33 → ((((16 * x3) + xs0) ≤ 126 → (w14_unfolded_J128 σ (x1 + 2) ((16 * x3) + xs0) Q K10)) ∧ (¬ ((16 * x3) + xs0) ≤ 126 → K122 σ))))) ∧ (¬ 0 ≤ xs0 → K100 σ)))
set_option maxHeartbeats 4000000 in
theorem k14_unfolded_J89 {p : Program} {l : Launch} {e : Env} {s : State} {m : MethodId} {args : Array Value} {below : List Frame} {meth : Method} {c : Code} {G : Gh} {a1 : Nat → Nat → Nat} {τ : St} {Q : Int32 → St → Prop} {K10 : St → Int32 → Prop} {K100 : St → Prop} {K122 : St → Prop} (C : Cx p e s m args meth c cX14_unfolded 5 (some .boolean) "WebHostModel" G) (σ : St) (x1 : Int32) (x3 : Int32) (xs0 : Int32) (hw : w14_unfolded_J89 σ x1 x3 xs0 Q K10 K100 K122) (H : Heap) (locs : List Loc) (ls : Array Slot) (hH : Hd G a1 (cmb τ σ) H) (hS : va_S (gA G) s.heap H locs) (hl : lv_has ls 5 [(0, .ref (ga G 14 0)), (1, .int x1), (3, .int x3)]) (hK10 : ∀ (σ : St) (x1 : Int32), K10 σ x1 → ∀ (H : Heap) (locs : List Loc) (ls : Array Slot), Hd G a1 (cmb τ σ) H → va_S (gA G) s.heap H locs → lv_has ls 5 [(0, .ref (ga G 14 0)), (1, .int x1)] → W p l e rmX14_unfolded s m args below meth c H locs 0 0 (MQ below (QIs G a1 (fun u => cmb τ u) Q) args s 0 0 (gA G)) (F0 m 10 ls [])) (hK100 : ∀ (σ : St) , K100 σ → ∀ (H : Heap) (locs : List Loc) (ls : Array Slot), Hd G a1 (cmb τ σ) H → va_S (gA G) s.heap H locs → lv_has ls 5 [] → W p l e rmX14_unfolded s m args below meth c H locs 0 0 (MQ below (QIs G a1 (fun u => cmb τ u) Q) args s 0 0 (gA G)) (F0 m 100 ls [])) (hK122 : ∀ (σ : St) , K122 σ → ∀ (H : Heap) (locs : List Loc) (ls : Array Slot), Hd G a1 (cmb τ σ) H → va_S (gA G) s.heap H locs → lv_has ls 5 [] → W p l e rmX14_unfolded s m args below meth c H locs 0 0 (MQ below (QIs G a1 (fun u => cmb τ u) Q) args s 0 0 (gA G)) (F0 m 122 ls [])) : W p l e rmX14_unfolded s m args below meth c H locs 0 0 (MQ below (QIs G a1 (fun u => cmb τ u) Q) args s 0 0 (gA G)) (F0 m 89 ls [.int xs0]) := by
  have hx := C.1
  have hb := C.2.1
  have hown := C.2.2.2.2.2.1
  have hts := C.2.2.2.2.2.2.1
  refine lv_istore (lv' := [(4, .int xs0), (0, .ref (ga G 14 0)), (1, .int x1), (3, .int x3)]) hx hb dX14_unfolded_89 hl (by decide) rfl (fun ls hl => ?_)
  refine lv_iload_n hx hb dX14_unfolded_91 rfl (lv_at hl 3 rfl) ?_
  refine lv_if_lt (tgt := 100) hx hb dX14_unfolded_92 (by decide) (fun h => ?_) (fun h => ?_)
  · have hw := hw.1 h
    exact hK100 σ hw H locs ls hH hS (lv_sub hl [] rfl)
  have hw := hw.2 h
  refine lv_iload hx hb dX14_unfolded_95 (lv_at hl 0 rfl) ?_
  refine lv_if_ge (tgt := 102) hx hb dX14_unfolded_97 (by decide) (fun h => ?_) (fun h => ?_)
  · have hw := hw.1 h
    refine lv_bipush (v := 16) hx hb dX14_unfolded_102 (by decide) ?_
    refine lv_iload_n hx hb dX14_unfolded_104 rfl (lv_at hl 3 rfl) ?_
    refine lv_imul hx hb dX14_unfolded_105 ?_
    refine lv_iload hx hb dX14_unfolded_106 (lv_at hl 0 rfl) ?_
    refine lv_iadd hx hb dX14_unfolded_108 ?_
    refine lv_istore_n (lv' := [(2, .int ((16 * x3) + xs0)), (4, .int xs0), (0, .ref (ga G 14 0)), (1, .int x1), (3, .int x3)]) hx hb dX14_unfolded_109 rfl hl (by decide) rfl (fun ls hl => ?_)
    refine lv_iload_n hx hb dX14_unfolded_110 rfl (lv_at hl 0 rfl) ?_
    refine lv_bipush (v := 33) hx hb dX14_unfolded_111 (by decide) ?_
    refine lv_icmp_lt (tgt := 122) hx hb dX14_unfolded_113 (by decide) (fun h => ?_) (fun h => ?_)
    · have hw := hw.1 h
      exact hK122 σ hw H locs ls hH hS (lv_sub hl [] rfl)
    have hw := hw.2 h
    refine lv_iload_n hx hb dX14_unfolded_116 rfl (lv_at hl 0 rfl) ?_
    refine lv_bipush (v := 126) hx hb dX14_unfolded_117 (by decide) ?_
    refine lv_icmp_le (tgt := 124) hx hb dX14_unfolded_119 (by decide) (fun h => ?_) (fun h => ?_)
    · have hw := hw.1 h
      refine lv_iload_n hx hb dX14_unfolded_124 rfl (lv_at hl 3 rfl) ?_
      refine lv_iconst (v := 2) hx hb dX14_unfolded_125 (by decide) ?_
      refine lv_iadd hx hb dX14_unfolded_126 ?_
      refine lv_istore_n (lv' := [(1, .int (x1 + 2)), (2, .int ((16 * x3) + xs0)), (4, .int xs0), (0, .ref (ga G 14 0)), (3, .int x3)]) hx hb dX14_unfolded_127 rfl hl (by decide) rfl (fun ls hl => ?_)
      exact k14_unfolded_J128 C σ (x1 + 2) ((16 * x3) + xs0) hw H locs ls hH hS (lv_sub hl [3, 0, 1] rfl) hK10
    have hw := hw.2 h
    exact hK122 σ hw H locs ls hH hS (lv_sub hl [] rfl)
  have hw := hw.2 h
  exact hK100 σ hw H locs ls hH hS (lv_sub hl [] rfl)
def w14_unfolded_J64 (σ : St) (x1 : Int32) (xs0 : Int32) (Q : Int32 → St → Prop) (K10 : St → Int32 → Prop) (K100 : St → Prop) (K122 : St → Prop) : Prop := ((σ 14 0 57) ≤ (x1 + 1) → (w14_unfolded_J89 σ x1 xs0 (-1) Q K10 K100 K122)) ∧ (¬ (σ 14 0 57) ≤ (x1 + 1) → (w14_headAt σ (x1 + 1) (fun r5 => (w14_hexadecimal σ r5 (fun r6 => (w14_unfolded_J89 σ x1 xs0 r6 Q K10 K100 K122))))))
set_option maxHeartbeats 4000000 in
theorem k14_unfolded_J64 {p : Program} {l : Launch} {e : Env} {s : State} {m : MethodId} {args : Array Value} {below : List Frame} {meth : Method} {c : Code} {G : Gh} {a1 : Nat → Nat → Nat} {τ : St} {Q : Int32 → St → Prop} {K10 : St → Int32 → Prop} {K100 : St → Prop} {K122 : St → Prop} (C : Cx p e s m args meth c cX14_unfolded 5 (some .boolean) "WebHostModel" G) (σ : St) (x1 : Int32) (xs0 : Int32) (hw : w14_unfolded_J64 σ x1 xs0 Q K10 K100 K122) (H : Heap) (locs : List Loc) (ls : Array Slot) (hH : Hd G a1 (cmb τ σ) H) (hS : va_S (gA G) s.heap H locs) (hl : lv_has ls 5 [(0, .ref (ga G 14 0)), (1, .int x1)]) (hK10 : ∀ (σ : St) (x1 : Int32), K10 σ x1 → ∀ (H : Heap) (locs : List Loc) (ls : Array Slot), Hd G a1 (cmb τ σ) H → va_S (gA G) s.heap H locs → lv_has ls 5 [(0, .ref (ga G 14 0)), (1, .int x1)] → W p l e rmX14_unfolded s m args below meth c H locs 0 0 (MQ below (QIs G a1 (fun u => cmb τ u) Q) args s 0 0 (gA G)) (F0 m 10 ls [])) (hK100 : ∀ (σ : St) , K100 σ → ∀ (H : Heap) (locs : List Loc) (ls : Array Slot), Hd G a1 (cmb τ σ) H → va_S (gA G) s.heap H locs → lv_has ls 5 [] → W p l e rmX14_unfolded s m args below meth c H locs 0 0 (MQ below (QIs G a1 (fun u => cmb τ u) Q) args s 0 0 (gA G)) (F0 m 100 ls [])) (hK122 : ∀ (σ : St) , K122 σ → ∀ (H : Heap) (locs : List Loc) (ls : Array Slot), Hd G a1 (cmb τ σ) H → va_S (gA G) s.heap H locs → lv_has ls 5 [] → W p l e rmX14_unfolded s m args below meth c H locs 0 0 (MQ below (QIs G a1 (fun u => cmb τ u) Q) args s 0 0 (gA G)) (F0 m 122 ls [])) : W p l e rmX14_unfolded s m args below meth c H locs 0 0 (MQ below (QIs G a1 (fun u => cmb τ u) Q) args s 0 0 (gA G)) (F0 m 64 ls [.int xs0]) := by
  have hx := C.1
  have hb := C.2.1
  have hown := C.2.2.2.2.2.1
  have hts := C.2.2.2.2.2.2.1
  refine lv_istore_n (lv' := [(3, .int xs0), (0, .ref (ga G 14 0)), (1, .int x1)]) hx hb dX14_unfolded_64 rfl hl (by decide) rfl (fun ls hl => ?_)
  refine lv_iload_n hx hb dX14_unfolded_65 rfl (lv_at hl 2 rfl) ?_
  refine lv_iconst (v := 1) hx hb dX14_unfolded_66 (by decide) ?_
  refine lv_iadd hx hb dX14_unfolded_67 ?_
  refine lv_aload_n hx hb dX14_unfolded_68 rfl (lv_at hl 1 rfl) ?_
  refine g14_57 C hH q1997 dX14_unfolded_69 ?_
  refine lv_icmp_ge (tgt := 88) hx hb dX14_unfolded_72 (by decide) (fun h => ?_) (fun h => ?_)
  · have hw := hw.1 h
    refine lv_iconst (v := (-1)) hx hb dX14_unfolded_88 (by decide) ?_
    exact k14_unfolded_J89 C σ x1 xs0 (-1) hw H locs ls hH hS (lv_sub hl [1, 2, 0] rfl) hK10 hK100 hK122
  have hw := hw.2 h
  refine lv_aload_n hx hb dX14_unfolded_75 rfl (lv_at hl 1 rfl) ?_
  refine lv_iload_n hx hb dX14_unfolded_76 rfl (lv_at hl 2 rfl) ?_
  refine lv_iconst (v := 1) hx hb dX14_unfolded_77 (by decide) ?_
  refine lv_iadd hx hb dX14_unfolded_78 ?_
  refine kc_ip (rn_vp (As := [.int (x1 + 1)]) (rest := []) C hH hS (by decide) rfl (by decide) (m14_headAt l G a1 τ σ H (x1 + 1) _ hw) (cwV 1 hts (lw_V q2475 q2477 qs136 q171 q2478) rfl rfl rfl kX14_headAt ⟨Nat.le_of_ble_eq_true rfl, Nat.le_of_ble_eq_true rfl⟩) rfl hl.1 rfl (Nat.le_of_ble_eq_true rfl) dX14_unfolded_79 ⟨Nat.le_of_ble_eq_true rfl, Nat.le_of_ble_eq_true rfl⟩) hS (fun r5 locs hw hS => ?_)
  refine kc_ip (rn_sp (As := [.int r5]) (rest := []) C hH hS (m14_hexadecimal l G a1 τ σ H r5 _ hw) (va_cwS 1 hts (lw_S q2533 q2534 q171 q2535) rfl rfl rfl kX14_hexadecimal.2 ⟨Nat.le_of_ble_eq_true rfl, Nat.le_of_ble_eq_true rfl⟩) rfl hl.1 rfl (Nat.le_of_ble_eq_true rfl) dX14_unfolded_82 ⟨Nat.le_of_ble_eq_true rfl, Nat.le_of_ble_eq_true rfl⟩) hS (fun r6 locs hw hS => ?_)
  refine lv_goto (tgt := 89) hx hb dX14_unfolded_85 (by decide) ?_
  exact k14_unfolded_J89 C σ x1 xs0 r6 hw H locs ls hH hS (lv_sub hl [1, 2, 0] rfl) hK10 hK100 hK122
def w14_unfolded_L10 (Q : Int32 → St → Prop) (K100 : St → Prop) (K122 : St → Prop) (K152 : St → Prop) : Nat → St → Int32 → Prop
  | 0, _, _ => False
  | n + 1, σ, x1 => ((σ 14 0 57) ≤ x1 → K152 σ) ∧ (¬ (σ 14 0 57) ≤ x1 → (vp_in x1 4096 ∧ (by8 (σ 66 0 x1.toNatClampNeg) → (((σ 66 0 x1.toNatClampNeg) = 63 → K152 σ) ∧ (¬ (σ 66 0 x1.toNatClampNeg) = 63 → (w14_headAt σ x1 (fun r2 => ((¬ r2 = 37 → (w14_unfolded_J128 σ (x1 + 1) r2 Q (fun σz x1z => w14_unfolded_L10 Q K100 K122 K152 n σz x1z))) ∧ (r2 = 37 → (((σ 14 0 57) ≤ (x1 + 1) → (w14_unfolded_J64 σ (x1 + 1) (-1) Q (fun σz x1z => w14_unfolded_L10 Q K100 K122 K152 n σz x1z) K100 K122)) ∧ (¬ (σ 14 0 57) ≤ (x1 + 1) → (w14_headAt σ (x1 + 1) (fun r7 => (w14_hexadecimal σ r7 (fun r8 => (w14_unfolded_J64 σ (x1 + 1) r8 Q (fun σz x1z => w14_unfolded_L10 Q K100 K122 K152 n σz x1z) K100 K122))))))))))))))))
set_option maxHeartbeats 4000000 in
theorem k14_unfolded_L10 {p : Program} {l : Launch} {e : Env} {s : State} {m : MethodId} {args : Array Value} {below : List Frame} {meth : Method} {c : Code} {G : Gh} {a1 : Nat → Nat → Nat} {τ : St} {Q : Int32 → St → Prop} {K100 : St → Prop} {K122 : St → Prop} {K152 : St → Prop} (C : Cx p e s m args meth c cX14_unfolded 5 (some .boolean) "WebHostModel" G) :
    ∀ (n : Nat) (σ : St) (x1 : Int32), w14_unfolded_L10 Q K100 K122 K152 n σ x1 → ∀ (H : Heap) (locs : List Loc) (ls : Array Slot), Hd G a1 (cmb τ σ) H → va_S (gA G) s.heap H locs → lv_has ls 5 [(0, .ref (ga G 14 0)), (1, .int x1)] → (∀ (σ : St) , K100 σ → ∀ (H : Heap) (locs : List Loc) (ls : Array Slot), Hd G a1 (cmb τ σ) H → va_S (gA G) s.heap H locs → lv_has ls 5 [] → W p l e rmX14_unfolded s m args below meth c H locs 0 0 (MQ below (QIs G a1 (fun u => cmb τ u) Q) args s 0 0 (gA G)) (F0 m 100 ls [])) → (∀ (σ : St) , K122 σ → ∀ (H : Heap) (locs : List Loc) (ls : Array Slot), Hd G a1 (cmb τ σ) H → va_S (gA G) s.heap H locs → lv_has ls 5 [] → W p l e rmX14_unfolded s m args below meth c H locs 0 0 (MQ below (QIs G a1 (fun u => cmb τ u) Q) args s 0 0 (gA G)) (F0 m 122 ls [])) → (∀ (σ : St) , K152 σ → ∀ (H : Heap) (locs : List Loc) (ls : Array Slot), Hd G a1 (cmb τ σ) H → va_S (gA G) s.heap H locs → lv_has ls 5 [(0, .ref (ga G 14 0))] → W p l e rmX14_unfolded s m args below meth c H locs 0 0 (MQ below (QIs G a1 (fun u => cmb τ u) Q) args s 0 0 (gA G)) (F0 m 152 ls [])) → W p l e rmX14_unfolded s m args below meth c H locs 0 0 (MQ below (QIs G a1 (fun u => cmb τ u) Q) args s 0 0 (gA G)) (F0 m 10 ls []) := by
  have hx := C.1
  have hb := C.2.1
  have hown := C.2.2.2.2.2.1
  have hts := C.2.2.2.2.2.2.1
  intro n
  induction n with
  | zero =>
    intro σ x1 hw
    exact False.elim hw
  | succ n ih =>
    intro σ x1 hw H locs ls hH hS hl hK100 hK122 hK152
    refine lv_iload_n hx hb dX14_unfolded_10 rfl (lv_at hl 1 rfl) ?_
    refine lv_aload_n hx hb dX14_unfolded_11 rfl (lv_at hl 0 rfl) ?_
    refine g14_57 C hH q1997 dX14_unfolded_12 ?_
    refine lv_icmp_ge (tgt := 152) hx hb dX14_unfolded_15 (by decide) (fun h => ?_) (fun h => ?_)
    · have hw := hw.1 h
      exact hK152 σ hw H locs ls hH hS (lv_sub hl [0] rfl)
    have hw := hw.2 h
    refine lv_aload_n hx hb dX14_unfolded_18 rfl (lv_at hl 0 rfl) ?_
    refine g14_41 C hH q1981 dX14_unfolded_19 ?_
    refine lv_iload_n hx hb dX14_unfolded_22 rfl (lv_at hl 1 rfl) ?_
    refine l66 C hH hw.1 dX14_unfolded_23 (fun hz => ?_)
    have hw := hw.2 hz
    refine lv_bipush (v := 63) hx hb dX14_unfolded_24 (by decide) ?_
    refine lv_icmp_eq (tgt := 152) hx hb dX14_unfolded_26 (by decide) (fun h => ?_) (fun h => ?_)
    · have hw := hw.1 h
      exact hK152 σ hw H locs ls hH hS (lv_sub hl [0] rfl)
    have hw := hw.2 h
    refine lv_aload_n hx hb dX14_unfolded_29 rfl (lv_at hl 0 rfl) ?_
    refine lv_iload_n hx hb dX14_unfolded_30 rfl (lv_at hl 1 rfl) ?_
    refine kc_ip (rn_vp (As := [.int x1]) (rest := []) C hH hS (by decide) rfl (by decide) (m14_headAt l G a1 τ σ H x1 _ hw) (cwV 1 hts (lw_V q2475 q2477 qs136 q171 q2478) rfl rfl rfl kX14_headAt ⟨Nat.le_of_ble_eq_true rfl, Nat.le_of_ble_eq_true rfl⟩) rfl hl.1 rfl (Nat.le_of_ble_eq_true rfl) dX14_unfolded_31 ⟨Nat.le_of_ble_eq_true rfl, Nat.le_of_ble_eq_true rfl⟩) hS (fun r2 locs hw hS => ?_)
    refine lv_istore_n (lv' := [(2, .int r2), (0, .ref (ga G 14 0)), (1, .int x1)]) hx hb dX14_unfolded_34 rfl hl (by decide) rfl (fun ls hl => ?_)
    refine lv_iinc (v := x1 + 1) (lv' := [(1, .int (x1 + 1)), (2, .int r2), (0, .ref (ga G 14 0))]) hx hb dX14_unfolded_35 hl (k := 2) rfl rfl (by decide) rfl (fun ls hl => ?_)
    refine lv_iload_n hx hb dX14_unfolded_38 rfl (lv_at hl 1 rfl) ?_
    refine lv_bipush (v := 37) hx hb dX14_unfolded_39 (by decide) ?_
    refine lv_icmp_ne (tgt := 128) hx hb dX14_unfolded_41 (by decide) (fun h => ?_) (fun h => ?_)
    · have hw := hw.1 h
      exact k14_unfolded_J128 C σ (x1 + 1) r2 hw H locs ls hH hS (lv_sub hl [2, 0, 1] rfl) (fun σz x1z hw H locs ls hH hS hl => ih σz x1z hw H locs ls hH hS hl hK100 hK122 hK152)
    have hw := hw.2 h
    refine lv_iload_n hx hb dX14_unfolded_44 rfl (lv_at hl 0 rfl) ?_
    refine lv_aload_n hx hb dX14_unfolded_45 rfl (lv_at hl 2 rfl) ?_
    refine g14_57 C hH q1997 dX14_unfolded_46 ?_
    refine lv_icmp_ge (tgt := 63) hx hb dX14_unfolded_49 (by decide) (fun h => ?_) (fun h => ?_)
    · have hw := hw.1 h
      refine lv_iconst (v := (-1)) hx hb dX14_unfolded_63 (by decide) ?_
      exact k14_unfolded_J64 C σ (x1 + 1) (-1) hw H locs ls hH hS (lv_sub hl [2, 0] rfl) (fun σz x1z hw H locs ls hH hS hl => ih σz x1z hw H locs ls hH hS hl hK100 hK122 hK152) hK100 hK122
    have hw := hw.2 h
    refine lv_aload_n hx hb dX14_unfolded_52 rfl (lv_at hl 2 rfl) ?_
    refine lv_iload_n hx hb dX14_unfolded_53 rfl (lv_at hl 0 rfl) ?_
    refine kc_ip (rn_vp (As := [.int (x1 + 1)]) (rest := []) C hH hS (by decide) rfl (by decide) (m14_headAt l G a1 τ σ H (x1 + 1) _ hw) (cwV 1 hts (lw_V q2475 q2477 qs136 q171 q2478) rfl rfl rfl kX14_headAt ⟨Nat.le_of_ble_eq_true rfl, Nat.le_of_ble_eq_true rfl⟩) rfl hl.1 rfl (Nat.le_of_ble_eq_true rfl) dX14_unfolded_54 ⟨Nat.le_of_ble_eq_true rfl, Nat.le_of_ble_eq_true rfl⟩) hS (fun r7 locs hw hS => ?_)
    refine kc_ip (rn_sp (As := [.int r7]) (rest := []) C hH hS (m14_hexadecimal l G a1 τ σ H r7 _ hw) (va_cwS 1 hts (lw_S q2533 q2534 q171 q2535) rfl rfl rfl kX14_hexadecimal.2 ⟨Nat.le_of_ble_eq_true rfl, Nat.le_of_ble_eq_true rfl⟩) rfl hl.1 rfl (Nat.le_of_ble_eq_true rfl) dX14_unfolded_57 ⟨Nat.le_of_ble_eq_true rfl, Nat.le_of_ble_eq_true rfl⟩) hS (fun r8 locs hw hS => ?_)
    refine lv_goto (tgt := 64) hx hb dX14_unfolded_60 (by decide) ?_
    exact k14_unfolded_J64 C σ (x1 + 1) r8 hw H locs ls hH hS (lv_sub hl [2, 0] rfl) (fun σz x1z hw H locs ls hH hS hl => ih σz x1z hw H locs ls hH hS hl hK100 hK122 hK152) hK100 hK122
def w14_unfolded_L174 (t2 : Nat) (Q : Int32 → St → Prop) (K205 : St → Prop) : Nat → St → Int32 → Prop
  | 0, _, _ => False
  | n + 1, σ, x3 => wJ1_length t2 (fun r13 => ((r13 ≤ x3 → K205 σ) ∧ (¬ r13 ≤ x3 → (wJ1_charAt t2 x3 (fun r14 => (vp_in ((σ 14 0 59) + x3) 8192 ∧ (∀ σ15, σ15 = up3 σ 67 0 ((σ 14 0 59) + x3).toNatClampNeg r14.toInt8.toInt32.toInt8.toInt32 → (w14_unfolded_L174 t2 Q K205 n σ15 (x3 + 1)))))))))
set_option maxHeartbeats 4000000 in
theorem k14_unfolded_L174 {p : Program} {l : Launch} {e : Env} {s : State} {m : MethodId} {args : Array Value} {below : List Frame} {meth : Method} {c : Code} {G : Gh} {a1 : Nat → Nat → Nat} {τ : St} {Q : Int32 → St → Prop} {K205 : St → Prop} (C : Cx p e s m args meth c cX14_unfolded 5 (some .boolean) "WebHostModel" G) (t2 : Nat) (ht2 : t2 < nS) :
    ∀ (n : Nat) (σ : St) (x3 : Int32), w14_unfolded_L174 t2 Q K205 n σ x3 → ∀ (H : Heap) (locs : List Loc) (ls : Array Slot), Hd G a1 (cmb τ σ) H → va_S (gA G) s.heap H locs → lv_has ls 5 [(0, .ref (ga G 14 0)), (2, .ref (gs G t2)), (3, .int x3)] → (∀ (σ : St) , K205 σ → ∀ (H : Heap) (locs : List Loc) (ls : Array Slot), Hd G a1 (cmb τ σ) H → va_S (gA G) s.heap H locs → lv_has ls 5 [(0, .ref (ga G 14 0)), (2, .ref (gs G t2))] → W p l e rmX14_unfolded s m args below meth c H locs 0 0 (MQ below (QIs G a1 (fun u => cmb τ u) Q) args s 0 0 (gA G)) (F0 m 205 ls [])) → W p l e rmX14_unfolded s m args below meth c H locs 0 0 (MQ below (QIs G a1 (fun u => cmb τ u) Q) args s 0 0 (gA G)) (F0 m 174 ls []) := by
  have hx := C.1
  have hb := C.2.1
  have hown := C.2.2.2.2.2.1
  have hts := C.2.2.2.2.2.2.1
  intro n
  induction n with
  | zero =>
    intro σ x3 hw
    exact False.elim hw
  | succ n ih =>
    intro σ x3 hw H locs ls hH hS hl hK205
    refine lv_iload_n hx hb dX14_unfolded_174 rfl (lv_at hl 2 rfl) ?_
    refine lv_aload_n hx hb dX14_unfolded_175 rfl (lv_at hl 1 rfl) ?_
    refine kc_ip (rn_vS (As := []) (rest := [.int x3]) C hH hS ht2 (mJ1_length l G a1 τ (cmb τ σ) H t2 ht2 _ hw) (cwV 0 hts (lw_V q2484 q1273 q1274 q178 q1275) rfl rfl rfl kXJ1_length ⟨Nat.le_of_ble_eq_true rfl, Nat.le_of_ble_eq_true rfl⟩) rfl hl.1 rfl (Nat.le_of_ble_eq_true rfl) dX14_unfolded_176 ⟨Nat.le_of_ble_eq_true rfl, Nat.le_of_ble_eq_true rfl⟩) hS (fun r13 locs hw hS => ?_)
    refine lv_icmp_ge (tgt := 205) hx hb dX14_unfolded_179 (by decide) (fun h => ?_) (fun h => ?_)
    · have hw := hw.1 h
      exact hK205 σ hw H locs ls hH hS (lv_sub hl [0, 1] rfl)
    have hw := hw.2 h
    refine lv_aload_n hx hb dX14_unfolded_182 rfl (lv_at hl 0 rfl) ?_
    refine g14_58 C hH q1998 dX14_unfolded_183 ?_
    refine lv_aload_n hx hb dX14_unfolded_186 rfl (lv_at hl 0 rfl) ?_
    refine g14_59 C hH q1999 dX14_unfolded_187 ?_
    refine lv_iload_n hx hb dX14_unfolded_190 rfl (lv_at hl 2 rfl) ?_
    refine lv_iadd hx hb dX14_unfolded_191 ?_
    refine lv_aload_n hx hb dX14_unfolded_192 rfl (lv_at hl 1 rfl) ?_
    refine lv_iload_n hx hb dX14_unfolded_193 rfl (lv_at hl 2 rfl) ?_
    refine kc_ip (rn_vS (As := [.int x3]) (rest := [.int ((σ 14 0 59) + x3), .ref (adr G a1 67 0)]) C hH hS ht2 (mJ1_charAt l G a1 τ (cmb τ σ) H t2 x3 ht2 _ hw) (cwV 1 hts (lw_V q2485 q1283 q1284 q178 q1285) rfl rfl rfl kXJ1_charAt ⟨Nat.le_of_ble_eq_true rfl, Nat.le_of_ble_eq_true rfl⟩) rfl hl.1 rfl (Nat.le_of_ble_eq_true rfl) dX14_unfolded_194 ⟨Nat.le_of_ble_eq_true rfl, Nat.le_of_ble_eq_true rfl⟩) hS (fun r14 locs hw hS => ?_)
    refine lv_i2b (v := r14.toInt8.toInt32) hx hb dX14_unfolded_197 rfl ?_
    refine s67 C hH hS hw.1 dX14_unfolded_198 (fun σ15 e15 H locs hH hS => ?_)
    have hw := hw.2 σ15 e15
    refine lv_iinc (v := x3 + 1) (lv' := [(3, .int (x3 + 1)), (0, .ref (ga G 14 0)), (2, .ref (gs G t2))]) hx hb dX14_unfolded_199 hl (k := 2) rfl rfl (by decide) rfl (fun ls hl => ?_)
    refine lv_goto (tgt := 174) hx hb dX14_unfolded_202 (by decide) ?_
    exact ih σ15 (x3 + 1) hw H locs ls hH hS (lv_sub hl [1, 2, 0] rfl) hK205
def w14_unfolded_J152 (σ : St) (Q : Int32 → St → Prop) : Prop := vp_in ((σ 14 0 59) - 1) 8192 ∧ (by8 (σ 67 0 ((σ 14 0 59) - 1).toNatClampNeg) → ((¬ (σ 67 0 ((σ 14 0 59) - 1).toNatClampNeg) = 47 → Q 1 σ) ∧ ((σ 67 0 ((σ 14 0 59) - 1).toNatClampNeg) = 47 → (∃ z16, w14_unfolded_L174 55 Q (fun σ17 => wJ1_length 55 (fun r18 => (∀ σ19, σ19 = up3 σ17 14 0 59 ((σ17 14 0 59) + r18) → (Q 1 σ19)))) z16 σ 0))))
set_option maxHeartbeats 4000000 in
theorem k14_unfolded_J152 {p : Program} {l : Launch} {e : Env} {s : State} {m : MethodId} {args : Array Value} {below : List Frame} {meth : Method} {c : Code} {G : Gh} {a1 : Nat → Nat → Nat} {τ : St} {Q : Int32 → St → Prop} (C : Cx p e s m args meth c cX14_unfolded 5 (some .boolean) "WebHostModel" G) (σ : St) (hw : w14_unfolded_J152 σ Q) (H : Heap) (locs : List Loc) (ls : Array Slot) (hH : Hd G a1 (cmb τ σ) H) (hS : va_S (gA G) s.heap H locs) (hl : lv_has ls 5 [(0, .ref (ga G 14 0))]) : W p l e rmX14_unfolded s m args below meth c H locs 0 0 (MQ below (QIs G a1 (fun u => cmb τ u) Q) args s 0 0 (gA G)) (F0 m 152 ls []) := by
  have hx := C.1
  have hb := C.2.1
  have hown := C.2.2.2.2.2.1
  have hts := C.2.2.2.2.2.2.1
  refine lv_aload_n hx hb dX14_unfolded_152 rfl (lv_at hl 0 rfl) ?_
  refine g14_58 C hH q1998 dX14_unfolded_153 ?_
  refine lv_aload_n hx hb dX14_unfolded_156 rfl (lv_at hl 0 rfl) ?_
  refine g14_59 C hH q1999 dX14_unfolded_157 ?_
  refine lv_iconst (v := 1) hx hb dX14_unfolded_160 (by decide) ?_
  refine lv_isub hx hb dX14_unfolded_161 ?_
  refine l67 C hH hw.1 dX14_unfolded_162 (fun hz => ?_)
  have hw := hw.2 hz
  refine lv_bipush (v := 47) hx hb dX14_unfolded_163 (by decide) ?_
  refine lv_icmp_ne (tgt := 218) hx hb dX14_unfolded_165 (by decide) (fun h => ?_) (fun h => ?_)
  · have hw := hw.1 h
    refine lv_iconst (v := 1) hx hb dX14_unfolded_218 (by decide) ?_
    exact rt_i C rfl hH hS hw dX14_unfolded_219
  have hw := hw.2 h
  refine str_ldcw (n := 55) C st55 dX14_unfolded_168 ?_
  refine lv_astore_n (lv' := [(2, .ref (gs G 55)), (0, .ref (ga G 14 0))]) hx hb dX14_unfolded_171 rfl hl (by decide) rfl (fun ls hl => ?_)
  refine lv_iconst (v := 0) hx hb dX14_unfolded_172 (by decide) ?_
  refine lv_istore_n (lv' := [(3, .int 0), (2, .ref (gs G 55)), (0, .ref (ga G 14 0))]) hx hb dX14_unfolded_173 rfl hl (by decide) rfl (fun ls hl => ?_)
  obtain ⟨n16, hw⟩ := hw
  refine k14_unfolded_L174 C 55 (by decide) n16 σ 0 hw H locs ls hH hS (lv_sub hl [2, 1, 0] rfl) (fun σ17 hw H locs ls hH hS hl => ?_)
  refine lv_aload_n hx hb dX14_unfolded_205 rfl (lv_at hl 0 rfl) ?_
  refine lv_aload_n hx hb dX14_unfolded_206 rfl (lv_at hl 0 rfl) ?_
  refine g14_59 C hH q1999 dX14_unfolded_207 ?_
  refine lv_aload_n hx hb dX14_unfolded_210 rfl (lv_at hl 1 rfl) ?_
  refine kc_ip (rn_vS (As := []) (rest := [.int (σ17 14 0 59), .ref (ga G 14 0)]) C hH hS (by decide) (mJ1_length l G a1 τ (cmb τ σ17) H 55 (by decide) _ hw) (cwV 0 hts (lw_V q2484 q1273 q1274 q178 q1275) rfl rfl rfl kXJ1_length ⟨Nat.le_of_ble_eq_true rfl, Nat.le_of_ble_eq_true rfl⟩) rfl hl.1 rfl (Nat.le_of_ble_eq_true rfl) dX14_unfolded_211 ⟨Nat.le_of_ble_eq_true rfl, Nat.le_of_ble_eq_true rfl⟩) hS (fun r18 locs hw hS => ?_)
  refine lv_iadd hx hb dX14_unfolded_214 ?_
  refine p14_59 C hH hS q1999 dX14_unfolded_215 (fun σ19 e19 H locs hH hS => ?_)
  have hw := hw σ19 e19
  refine lv_iconst (v := 1) hx hb dX14_unfolded_218 (by decide) ?_
  exact rt_i C rfl hH hS hw dX14_unfolded_219
def w14_unfolded (σ : St) (Q : Int32 → St → Prop) : Prop := ∀ σ1, σ1 = up3 σ 14 0 59 0 → (∃ z9, w14_unfolded_L10 Q (fun σ10 => Q 0 σ10) (fun σ11 => Q 0 σ11) (fun σ12 => w14_unfolded_J152 σ12 Q) z9 σ1 (σ1 14 0 56))
set_option maxHeartbeats 4000000 in
theorem m14_unfolded (l : Launch) (G : Gh) (a1 : Nat → Nat → Nat) (τ : St) (σ : St) (Q : Int32 → St → Prop) (hw : w14_unfolded σ Q) : Met l yX14_unfolded (ws_ yX14_unfolded cX14_unfolded 5 (some .boolean)) rmX14_unfolded (PcS G a1 (cmb τ σ) [.ref (ga G 14 0)]) (QIs G a1 (fun u => cmb τ u) Q) 0 0 (gA G) := by
  refine met_w (by decide) (Nat.le_of_ble_eq_true rfl) ?_
  intro p e s m below meth c ls C hH hS hl
  have C : Cx p e s m _ meth c cX14_unfolded 5 (some .boolean) "WebHostModel" G := C
  have hl : lv_has ls 5 [(0, .ref (ga G 14 0))] := hl
  have hx := C.1
  have hb := C.2.1
  have hown := C.2.2.2.2.2.1
  have hts := C.2.2.2.2.2.2.1
  obtain ⟨locs, hlocs⟩ : ∃ z : List Loc, z = [] := ⟨_, rfl⟩
  obtain ⟨H, hHe⟩ : ∃ z : Heap, z = s.heap := ⟨_, rfl⟩
  have hH : Hd G a1 (cmb τ σ) H := by rw [hHe]; exact hH
  have hS : va_S (gA G) s.heap H locs := by rw [hHe, hlocs]; exact hS
  refine W.heap0 hHe.symm hlocs.symm ?_
  refine lv_aload_n hx hb dX14_unfolded_0 rfl (lv_at hl 0 rfl) ?_
  refine lv_iconst (v := 0) hx hb dX14_unfolded_1 (by decide) ?_
  refine p14_59 C hH hS q1999 dX14_unfolded_2 (fun σ1 e1 H locs hH hS => ?_)
  have hw := hw σ1 e1
  refine lv_aload_n hx hb dX14_unfolded_5 rfl (lv_at hl 0 rfl) ?_
  refine g14_56 C hH q1996 dX14_unfolded_6 ?_
  refine lv_istore_n (lv' := [(1, .int (σ1 14 0 56)), (0, .ref (ga G 14 0))]) hx hb dX14_unfolded_9 rfl hl (by decide) rfl (fun ls hl => ?_)
  obtain ⟨n9, hw⟩ := hw
  refine k14_unfolded_L10 C n9 σ1 (σ1 14 0 56) hw H locs ls hH hS (lv_sub hl [1, 0] rfl) (fun σ10 hw H locs ls hH hS hl => ?_) (fun σ11 hw H locs ls hH hS hl => ?_) (fun σ12 hw H locs ls hH hS hl => ?_)
  · refine lv_iconst (v := 0) hx hb dX14_unfolded_100 (by decide) ?_
    exact rt_i C rfl hH hS hw dX14_unfolded_101
  · refine lv_iconst (v := 0) hx hb dX14_unfolded_122 (by decide) ?_
    exact rt_i C rfl hH hS hw dX14_unfolded_123
  exact k14_unfolded_J152 C σ12 hw H locs ls hH hS (lv_sub hl [0] rfl)
/-! WebHost$Requests.isMarked(I)Z -/
abbrev cX9_isMarked : ByteArray := prog_11_method_24_code
def yX9_isMarked : MethodName := ⟨RX9, "isMarked", "(I)Z"⟩
theorem dX9_isMarked_0 : decode cX9_isMarked 0 = .ok (.aload_n 0, 1) := by decide +kernel
theorem dX9_isMarked_1 : decode cX9_isMarked 1 = .ok (.aload_n 0, 1) := by decide +kernel
theorem dX9_isMarked_2 : decode cX9_isMarked 2 = .ok (.getfield 138, 3) := by decide +kernel
theorem dX9_isMarked_5 : decode cX9_isMarked 5 = .ok (.aload_n 0, 1) := by decide +kernel
theorem dX9_isMarked_6 : decode cX9_isMarked 6 = .ok (.getfield 141, 3) := by decide +kernel
theorem dX9_isMarked_9 : decode cX9_isMarked 9 = .ok (.ldc 248, 2) := by decide +kernel
theorem dX9_isMarked_11 : decode cX9_isMarked 11 = .ok (.invokevirtual 86, 3) := by decide +kernel
theorem dX9_isMarked_14 : decode cX9_isMarked 14 = .ok (.ifCond .eq 5, 3) := by decide +kernel
theorem dX9_isMarked_17 : decode cX9_isMarked 17 = .ok (.iconst 1, 1) := by decide +kernel
theorem dX9_isMarked_18 : decode cX9_isMarked 18 = .ok (.ireturn, 1) := by decide +kernel
theorem dX9_isMarked_19 : decode cX9_isMarked 19 = .ok (.aload_n 0, 1) := by decide +kernel
theorem dX9_isMarked_20 : decode cX9_isMarked 20 = .ok (.getfield 141, 3) := by decide +kernel
theorem dX9_isMarked_23 : decode cX9_isMarked 23 = .ok (.aload_n 0, 1) := by decide +kernel
theorem dX9_isMarked_24 : decode cX9_isMarked 24 = .ok (.getfield 138, 3) := by decide +kernel
theorem dX9_isMarked_27 : decode cX9_isMarked 27 = .ok (.isub, 1) := by decide +kernel
theorem dX9_isMarked_28 : decode cX9_isMarked 28 = .ok (.bipush 10, 2) := by decide +kernel
theorem dX9_isMarked_30 : decode cX9_isMarked 30 = .ok (.if_icmp .ne 33, 3) := by decide +kernel
theorem dX9_isMarked_33 : decode cX9_isMarked 33 = .ok (.aload_n 0, 1) := by decide +kernel
theorem dX9_isMarked_34 : decode cX9_isMarked 34 = .ok (.getfield 9, 3) := by decide +kernel
theorem dX9_isMarked_37 : decode cX9_isMarked 37 = .ok (.aload_n 0, 1) := by decide +kernel
theorem dX9_isMarked_38 : decode cX9_isMarked 38 = .ok (.getfield 138, 3) := by decide +kernel
theorem dX9_isMarked_41 : decode cX9_isMarked 41 = .ok (.baload, 1) := by decide +kernel
theorem dX9_isMarked_42 : decode cX9_isMarked 42 = .ok (.bipush 34, 2) := by decide +kernel
theorem dX9_isMarked_44 : decode cX9_isMarked 44 = .ok (.if_icmp .ne 19, 3) := by decide +kernel
theorem dX9_isMarked_47 : decode cX9_isMarked 47 = .ok (.aload_n 0, 1) := by decide +kernel
theorem dX9_isMarked_48 : decode cX9_isMarked 48 = .ok (.getfield 9, 3) := by decide +kernel
theorem dX9_isMarked_51 : decode cX9_isMarked 51 = .ok (.aload_n 0, 1) := by decide +kernel
theorem dX9_isMarked_52 : decode cX9_isMarked 52 = .ok (.getfield 141, 3) := by decide +kernel
theorem dX9_isMarked_55 : decode cX9_isMarked 55 = .ok (.iconst 1, 1) := by decide +kernel
theorem dX9_isMarked_56 : decode cX9_isMarked 56 = .ok (.isub, 1) := by decide +kernel
theorem dX9_isMarked_57 : decode cX9_isMarked 57 = .ok (.baload, 1) := by decide +kernel
theorem dX9_isMarked_58 : decode cX9_isMarked 58 = .ok (.bipush 34, 2) := by decide +kernel
theorem dX9_isMarked_60 : decode cX9_isMarked 60 = .ok (.if_icmp .eq 5, 3) := by decide +kernel
theorem dX9_isMarked_63 : decode cX9_isMarked 63 = .ok (.iconst 0, 1) := by decide +kernel
theorem dX9_isMarked_64 : decode cX9_isMarked 64 = .ok (.ireturn, 1) := by decide +kernel
theorem dX9_isMarked_65 : decode cX9_isMarked 65 = .ok (.aload_n 0, 1) := by decide +kernel
theorem dX9_isMarked_66 : decode cX9_isMarked 66 = .ok (.getfield 18, 3) := by decide +kernel
theorem dX9_isMarked_69 : decode cX9_isMarked 69 = .ok (.iload_n 1, 1) := by decide +kernel
theorem dX9_isMarked_70 : decode cX9_isMarked 70 = .ok (.invokevirtual 250, 3) := by decide +kernel
theorem dX9_isMarked_73 : decode cX9_isMarked 73 = .ok (.istore_n 2, 1) := by decide +kernel
theorem dX9_isMarked_74 : decode cX9_isMarked 74 = .ok (.iconst 0, 1) := by decide +kernel
theorem dX9_isMarked_75 : decode cX9_isMarked 75 = .ok (.istore_n 3, 1) := by decide +kernel
theorem dX9_isMarked_76 : decode cX9_isMarked 76 = .ok (.iload_n 3, 1) := by decide +kernel
theorem dX9_isMarked_77 : decode cX9_isMarked 77 = .ok (.bipush 8, 2) := by decide +kernel
theorem dX9_isMarked_79 : decode cX9_isMarked 79 = .ok (.if_icmp .ge 43, 3) := by decide +kernel
theorem dX9_isMarked_82 : decode cX9_isMarked 82 = .ok (.aload_n 0, 1) := by decide +kernel
theorem dX9_isMarked_83 : decode cX9_isMarked 83 = .ok (.getfield 9, 3) := by decide +kernel
theorem dX9_isMarked_86 : decode cX9_isMarked 86 = .ok (.aload_n 0, 1) := by decide +kernel
theorem dX9_isMarked_87 : decode cX9_isMarked 87 = .ok (.getfield 138, 3) := by decide +kernel
theorem dX9_isMarked_90 : decode cX9_isMarked 90 = .ok (.iconst 1, 1) := by decide +kernel
theorem dX9_isMarked_91 : decode cX9_isMarked 91 = .ok (.iadd, 1) := by decide +kernel
theorem dX9_isMarked_92 : decode cX9_isMarked 92 = .ok (.iload_n 3, 1) := by decide +kernel
theorem dX9_isMarked_93 : decode cX9_isMarked 93 = .ok (.iadd, 1) := by decide +kernel
theorem dX9_isMarked_94 : decode cX9_isMarked 94 = .ok (.baload, 1) := by decide +kernel
theorem dX9_isMarked_95 : decode cX9_isMarked 95 = .ok (.ldc 253, 2) := by decide +kernel
theorem dX9_isMarked_97 : decode cX9_isMarked 97 = .ok (.iload_n 2, 1) := by decide +kernel
theorem dX9_isMarked_98 : decode cX9_isMarked 98 = .ok (.bipush 28, 2) := by decide +kernel
theorem dX9_isMarked_100 : decode cX9_isMarked 100 = .ok (.iconst 4, 1) := by decide +kernel
theorem dX9_isMarked_101 : decode cX9_isMarked 101 = .ok (.iload_n 3, 1) := by decide +kernel
theorem dX9_isMarked_102 : decode cX9_isMarked 102 = .ok (.imul, 1) := by decide +kernel
theorem dX9_isMarked_103 : decode cX9_isMarked 103 = .ok (.isub, 1) := by decide +kernel
theorem dX9_isMarked_104 : decode cX9_isMarked 104 = .ok (.ishr, 1) := by decide +kernel
theorem dX9_isMarked_105 : decode cX9_isMarked 105 = .ok (.bipush 15, 2) := by decide +kernel
theorem dX9_isMarked_107 : decode cX9_isMarked 107 = .ok (.iand, 1) := by decide +kernel
theorem dX9_isMarked_108 : decode cX9_isMarked 108 = .ok (.invokevirtual 74, 3) := by decide +kernel
theorem dX9_isMarked_111 : decode cX9_isMarked 111 = .ok (.if_icmp .eq 5, 3) := by decide +kernel
theorem dX9_isMarked_114 : decode cX9_isMarked 114 = .ok (.iconst 0, 1) := by decide +kernel
theorem dX9_isMarked_115 : decode cX9_isMarked 115 = .ok (.ireturn, 1) := by decide +kernel
theorem dX9_isMarked_116 : decode cX9_isMarked 116 = .ok (.iinc 3 1, 3) := by decide +kernel
theorem dX9_isMarked_119 : decode cX9_isMarked 119 = .ok (.goto (-43), 3) := by decide +kernel
theorem dX9_isMarked_122 : decode cX9_isMarked 122 = .ok (.iconst 1, 1) := by decide +kernel
theorem dX9_isMarked_123 : decode cX9_isMarked 123 = .ok (.ireturn, 1) := by decide +kernel
def rmX9_isMarked : Room := { frames := 5, cells := 0, slots := 0, locals := 109 }
theorem kX9_isMarked : yX9_isMarked.cls = "WebHost$Requests" ∧ yX9_isMarked.cls ≠ "java/lang/invoke/MethodHandle" ∧ yX9_isMarked.cls ≠ "java/lang/invoke/VarHandle" ∧ (parseMethodDescriptor yX9_isMarked.desc).map (fun d => d.parameters.length) = some 1 := by decide +kernel
def w9_isMarked_L76 (σ : St) (x2 : Int32) (Q : Int32 → Prop) (K114 : Prop) (K122 : Prop) : Nat → Int32 → Prop
  | 0, _ => False
  | n + 1, x3 => (8 ≤ x3 → K122) ∧ (¬ 8 ≤ x3 → (vp_in (((σ 9 0 11) + 1) + x3) 4096 ∧ (by8 (σ 40 0 (((σ 9 0 11) + 1) + x3).toNatClampNeg) → (wJ1_charAt 22 ((x2 >>> ((28 - (4 * x3)) &&& 31)) &&& 15) (fun r3 => (((σ 40 0 (((σ 9 0 11) + 1) + x3).toNatClampNeg) = r3 → (w9_isMarked_L76 σ x2 Q K114 K122 n (x3 + 1))) ∧ (¬ (σ 40 0 (((σ 9 0 11) + 1) + x3).toNatClampNeg) = r3 → K114)))))))
set_option maxHeartbeats 4000000 in
theorem k9_isMarked_L76 {p : Program} {l : Launch} {e : Env} {s : State} {m : MethodId} {args : Array Value} {below : List Frame} {meth : Method} {c : Code} {G : Gh} {a1 : Nat → Nat → Nat} {τ : St} {H : Heap} {Q : Int32 → Prop} {K114 : Prop} {K122 : Prop} (C : Cx p e s m args meth c cX9_isMarked 4 (some .boolean) "WebHost$Requests" G) (σ : St) (x2 : Int32) (hH : Hd G a1 (cmb σ τ) H) :
    ∀ (n : Nat) (x3 : Int32), w9_isMarked_L76 σ x2 Q K114 K122 n x3 → ∀ (locs : List Loc) (ls : Array Slot), va_S (gA G) s.heap H locs → lv_has ls 4 [(0, .ref (ga G 9 0)), (2, .int x2), (3, .int x3)] → (K114 → ∀ (locs : List Loc) (ls : Array Slot), va_S (gA G) s.heap H locs → lv_has ls 4 [] → W p l e rmX9_isMarked s m args below meth c H locs 0 0 (MQ below (QIp G H Q) args s 0 0 (gA G)) (F0 m 114 ls [])) → (K122 → ∀ (locs : List Loc) (ls : Array Slot), va_S (gA G) s.heap H locs → lv_has ls 4 [] → W p l e rmX9_isMarked s m args below meth c H locs 0 0 (MQ below (QIp G H Q) args s 0 0 (gA G)) (F0 m 122 ls [])) → W p l e rmX9_isMarked s m args below meth c H locs 0 0 (MQ below (QIp G H Q) args s 0 0 (gA G)) (F0 m 76 ls []) := by
  have hx := C.1
  have hb := C.2.1
  have hown := C.2.2.2.2.2.1
  have hts := C.2.2.2.2.2.2.1
  intro n
  induction n with
  | zero =>
    intro x3 hw
    exact False.elim hw
  | succ n ih =>
    intro x3 hw locs ls hS hl hK114 hK122
    refine lv_iload_n hx hb dX9_isMarked_76 rfl (lv_at hl 2 rfl) ?_
    refine lv_bipush (v := 8) hx hb dX9_isMarked_77 (by decide) ?_
    refine lv_icmp_ge (tgt := 122) hx hb dX9_isMarked_79 (by decide) (fun h => ?_) (fun h => ?_)
    · have hw := hw.1 h
      exact hK122 hw locs ls hS (lv_sub hl [] rfl)
    have hw := hw.2 h
    refine lv_aload_n hx hb dX9_isMarked_82 rfl (lv_at hl 0 rfl) ?_
    refine g9_1 C hH q449 dX9_isMarked_83 ?_
    refine lv_aload_n hx hb dX9_isMarked_86 rfl (lv_at hl 0 rfl) ?_
    refine g9_11 C hH q459 dX9_isMarked_87 ?_
    refine lv_iconst (v := 1) hx hb dX9_isMarked_90 (by decide) ?_
    refine lv_iadd hx hb dX9_isMarked_91 ?_
    refine lv_iload_n hx hb dX9_isMarked_92 rfl (lv_at hl 2 rfl) ?_
    refine lv_iadd hx hb dX9_isMarked_93 ?_
    refine l40 C hH hw.1 dX9_isMarked_94 (fun hz => ?_)
    have hw := hw.2 hz
    refine str_ldc (n := 22) C st22 dX9_isMarked_95 ?_
    refine lv_iload_n hx hb dX9_isMarked_97 rfl (lv_at hl 1 rfl) ?_
    refine lv_bipush (v := 28) hx hb dX9_isMarked_98 (by decide) ?_
    refine lv_iconst (v := 4) hx hb dX9_isMarked_100 (by decide) ?_
    refine lv_iload_n hx hb dX9_isMarked_101 rfl (lv_at hl 2 rfl) ?_
    refine lv_imul hx hb dX9_isMarked_102 ?_
    refine lv_isub hx hb dX9_isMarked_103 ?_
    refine lv_ishr hx hb dX9_isMarked_104 ?_
    refine lv_bipush (v := 15) hx hb dX9_isMarked_105 (by decide) ?_
    refine lv_iand hx hb dX9_isMarked_107 ?_
    refine kc_ip (rn_vS (As := [.int ((x2 >>> ((28 - (4 * x3)) &&& 31)) &&& 15)]) (rest := [.int (σ 40 0 (((σ 9 0 11) + 1) + x3).toNatClampNeg)]) C hH hS (by decide) (mJ1_charAt l G a1 τ (cmb σ τ) H 22 ((x2 >>> ((28 - (4 * x3)) &&& 31)) &&& 15) (by decide) _ hw) (cwV 1 hts (lw_V q1373 q1283 q1284 q178 q1285) rfl rfl rfl kXJ1_charAt ⟨Nat.le_of_ble_eq_true rfl, Nat.le_of_ble_eq_true rfl⟩) rfl hl.1 rfl (Nat.le_of_ble_eq_true rfl) dX9_isMarked_108 ⟨Nat.le_of_ble_eq_true rfl, Nat.le_of_ble_eq_true rfl⟩) hS (fun r3 locs hw hS => ?_)
    refine lv_icmp_eq (tgt := 116) hx hb dX9_isMarked_111 (by decide) (fun h => ?_) (fun h => ?_)
    · have hw := hw.1 h
      refine lv_iinc (v := x3 + 1) (lv' := [(3, .int (x3 + 1)), (0, .ref (ga G 9 0)), (2, .int x2)]) hx hb dX9_isMarked_116 hl (k := 2) rfl rfl (by decide) rfl (fun ls hl => ?_)
      refine lv_goto (tgt := 76) hx hb dX9_isMarked_119 (by decide) ?_
      exact ih (x3 + 1) hw locs ls hS (lv_sub hl [1, 2, 0] rfl) hK114 hK122
    have hw := hw.2 h
    exact hK114 hw locs ls hS (lv_sub hl [] rfl)
def w9_isMarked (σ : St) (x1 : Int32) (Q : Int32 → Prop) : Prop := w9_isExactly σ (σ 9 0 11) (σ 9 0 12) 21 (fun r1 => ((r1 = 0 → ((¬ ((σ 9 0 12) - (σ 9 0 11)) = 10 → Q 0) ∧ (((σ 9 0 12) - (σ 9 0 11)) = 10 → (vp_in (σ 9 0 11) 4096 ∧ (by8 (σ 40 0 (σ 9 0 11).toNatClampNeg) → ((¬ (σ 40 0 (σ 9 0 11).toNatClampNeg) = 34 → Q 0) ∧ ((σ 40 0 (σ 9 0 11).toNatClampNeg) = 34 → (vp_in ((σ 9 0 12) - 1) 4096 ∧ (by8 (σ 40 0 ((σ 9 0 12) - 1).toNatClampNeg) → (((σ 40 0 ((σ 9 0 12) - 1).toNatClampNeg) = 34 → (w1_mark σ x1 (fun r2 => (∃ z4, w9_isMarked_L76 σ r2 Q (Q 0) (Q 1) z4 0)))) ∧ (¬ (σ 40 0 ((σ 9 0 12) - 1).toNatClampNeg) = 34 → Q 0))))))))))) ∧ (¬ r1 = 0 → Q 1)))
set_option maxHeartbeats 4000000 in
theorem m9_isMarked (l : Launch) (G : Gh) (a1 : Nat → Nat → Nat) (τ : St) (σ : St) (H : Heap) (x1 : Int32) (Q : Int32 → Prop) (hw : w9_isMarked σ x1 Q) : Met l yX9_isMarked (ws_ yX9_isMarked cX9_isMarked 4 (some .boolean)) rmX9_isMarked (PcP G a1 (cmb σ τ) H [.ref (ga G 9 0), .int x1]) (QIp G H Q) 0 0 (gA G) := by
  refine met_p (by decide) (Nat.le_of_ble_eq_true rfl) ?_
  intro p e s m below meth c ls hHe C hH hS hl
  have C : Cx p e s m _ meth c cX9_isMarked 4 (some .boolean) "WebHost$Requests" G := C
  have hl : lv_has ls 4 [(0, .ref (ga G 9 0)), (1, .int x1)] := hl
  have hx := C.1
  have hb := C.2.1
  have hown := C.2.2.2.2.2.1
  have hts := C.2.2.2.2.2.2.1
  obtain ⟨locs, hlocs⟩ : ∃ z : List Loc, z = [] := ⟨_, rfl⟩
  rw [← hlocs] at hS ⊢
  refine lv_aload_n hx hb dX9_isMarked_0 rfl (lv_at hl 0 rfl) ?_
  refine lv_aload_n hx hb dX9_isMarked_1 rfl (lv_at hl 0 rfl) ?_
  refine g9_11 C hH q459 dX9_isMarked_2 ?_
  refine lv_aload_n hx hb dX9_isMarked_5 rfl (lv_at hl 0 rfl) ?_
  refine g9_12 C hH q460 dX9_isMarked_6 ?_
  refine str_ldc (n := 21) C st21 dX9_isMarked_9 ?_
  refine kc_ip (rn_vp (As := [.int (σ 9 0 11), .int (σ 9 0 12), .ref (gs G 21)]) (rest := []) C hH hS (by decide) rfl (by decide) (m9_isExactly l G a1 τ σ H (σ 9 0 11) (σ 9 0 12) 21 (by decide) _ hw) (cwV 3 hts (lw_V q1369 q1371 qs56 q166 q1372) rfl rfl rfl kX9_isExactly ⟨Nat.le_of_ble_eq_true rfl, Nat.le_of_ble_eq_true rfl⟩) rfl hl.1 rfl (Nat.le_of_ble_eq_true rfl) dX9_isMarked_11 ⟨Nat.le_of_ble_eq_true rfl, Nat.le_of_ble_eq_true rfl⟩) hS (fun r1 locs hw hS => ?_)
  refine lv_if_eq (tgt := 19) hx hb dX9_isMarked_14 (by decide) (fun h => ?_) (fun h => ?_)
  · have hw := hw.1 h
    refine lv_aload_n hx hb dX9_isMarked_19 rfl (lv_at hl 0 rfl) ?_
    refine g9_12 C hH q460 dX9_isMarked_20 ?_
    refine lv_aload_n hx hb dX9_isMarked_23 rfl (lv_at hl 0 rfl) ?_
    refine g9_11 C hH q459 dX9_isMarked_24 ?_
    refine lv_isub hx hb dX9_isMarked_27 ?_
    refine lv_bipush (v := 10) hx hb dX9_isMarked_28 (by decide) ?_
    refine lv_icmp_ne (tgt := 63) hx hb dX9_isMarked_30 (by decide) (fun h => ?_) (fun h => ?_)
    · have hw := hw.1 h
      refine lv_iconst (v := 0) hx hb dX9_isMarked_63 (by decide) ?_
      exact rt_ip C rfl hS hw dX9_isMarked_64
    have hw := hw.2 h
    refine lv_aload_n hx hb dX9_isMarked_33 rfl (lv_at hl 0 rfl) ?_
    refine g9_1 C hH q449 dX9_isMarked_34 ?_
    refine lv_aload_n hx hb dX9_isMarked_37 rfl (lv_at hl 0 rfl) ?_
    refine g9_11 C hH q459 dX9_isMarked_38 ?_
    refine l40 C hH hw.1 dX9_isMarked_41 (fun hz => ?_)
    have hw := hw.2 hz
    refine lv_bipush (v := 34) hx hb dX9_isMarked_42 (by decide) ?_
    refine lv_icmp_ne (tgt := 63) hx hb dX9_isMarked_44 (by decide) (fun h => ?_) (fun h => ?_)
    · have hw := hw.1 h
      refine lv_iconst (v := 0) hx hb dX9_isMarked_63 (by decide) ?_
      exact rt_ip C rfl hS hw dX9_isMarked_64
    have hw := hw.2 h
    refine lv_aload_n hx hb dX9_isMarked_47 rfl (lv_at hl 0 rfl) ?_
    refine g9_1 C hH q449 dX9_isMarked_48 ?_
    refine lv_aload_n hx hb dX9_isMarked_51 rfl (lv_at hl 0 rfl) ?_
    refine g9_12 C hH q460 dX9_isMarked_52 ?_
    refine lv_iconst (v := 1) hx hb dX9_isMarked_55 (by decide) ?_
    refine lv_isub hx hb dX9_isMarked_56 ?_
    refine l40 C hH hw.1 dX9_isMarked_57 (fun hz => ?_)
    have hw := hw.2 hz
    refine lv_bipush (v := 34) hx hb dX9_isMarked_58 (by decide) ?_
    refine lv_icmp_eq (tgt := 65) hx hb dX9_isMarked_60 (by decide) (fun h => ?_) (fun h => ?_)
    · have hw := hw.1 h
      refine lv_aload_n hx hb dX9_isMarked_65 rfl (lv_at hl 0 rfl) ?_
      refine g9_0 C hH q448 dX9_isMarked_66 ?_
      refine lv_iload_n hx hb dX9_isMarked_69 rfl (lv_at hl 1 rfl) ?_
      refine kc_ip (rn_vp (As := [.int x1]) (rest := []) C hH hS (by decide) rfl (by decide) (m1_mark l G a1 τ σ H x1 _ hw) (cwV 1 hts (lw_V q1518 q1509 q1510 q158 q1511) rfl rfl rfl kX1_mark ⟨Nat.le_of_ble_eq_true rfl, Nat.le_of_ble_eq_true rfl⟩) rfl hl.1 rfl (Nat.le_of_ble_eq_true rfl) dX9_isMarked_70 ⟨Nat.le_of_ble_eq_true rfl, Nat.le_of_ble_eq_true rfl⟩) hS (fun r2 locs hw hS => ?_)
      refine lv_istore_n (lv' := [(2, .int r2), (0, .ref (ga G 9 0)), (1, .int x1)]) hx hb dX9_isMarked_73 rfl hl (by decide) rfl (fun ls hl => ?_)
      refine lv_iconst (v := 0) hx hb dX9_isMarked_74 (by decide) ?_
      refine lv_istore_n (lv' := [(3, .int 0), (2, .int r2), (0, .ref (ga G 9 0)), (1, .int x1)]) hx hb dX9_isMarked_75 rfl hl (by decide) rfl (fun ls hl => ?_)
      obtain ⟨n4, hw⟩ := hw
      refine k9_isMarked_L76 C σ r2 hH n4 0 hw locs ls hS (lv_sub hl [2, 1, 0] rfl) (fun hw locs ls hS hl => ?_) (fun hw locs ls hS hl => ?_)
      · refine lv_iconst (v := 0) hx hb dX9_isMarked_114 (by decide) ?_
        exact rt_ip C rfl hS hw dX9_isMarked_115
      refine lv_iconst (v := 1) hx hb dX9_isMarked_122 (by decide) ?_
      exact rt_ip C rfl hS hw dX9_isMarked_123
    have hw := hw.2 h
    refine lv_iconst (v := 0) hx hb dX9_isMarked_63 (by decide) ?_
    exact rt_ip C rfl hS hw dX9_isMarked_64
  have hw := hw.2 h
  refine lv_iconst (v := 1) hx hb dX9_isMarked_17 (by decide) ?_
  exact rt_ip C rfl hS hw dX9_isMarked_18
