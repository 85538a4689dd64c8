/-! walks -/
set_option maxRecDepth 100000
/-! WebHostModel.oneRequest(LWebHostModel$Connection;)Z -/
abbrev cX14_oneRequest : ByteArray := prog_17_method_78_code
def yX14_oneRequest : MethodName := ⟨RX14, "oneRequest", "(LWebHostModel$Connection;)Z"⟩
theorem dX14_oneRequest_0 : decode cX14_oneRequest 0 = .ok (.aload_n 1, 1) := by decide +kernel
theorem dX14_oneRequest_1 : decode cX14_oneRequest 1 = .ok (.getfield 475, 3) := by decide +kernel
theorem dX14_oneRequest_4 : decode cX14_oneRequest 4 = .ok (.ifCond .ne 56, 3) := by decide +kernel
theorem dX14_oneRequest_7 : decode cX14_oneRequest 7 = .ok (.aload_n 1, 1) := by decide +kernel
theorem dX14_oneRequest_8 : decode cX14_oneRequest 8 = .ok (.iconst 0, 1) := by decide +kernel
theorem dX14_oneRequest_9 : decode cX14_oneRequest 9 = .ok (.invokestatic 621, 3) := by decide +kernel
theorem dX14_oneRequest_12 : decode cX14_oneRequest 12 = .ok (.bipush 10, 2) := by decide +kernel
theorem dX14_oneRequest_14 : decode cX14_oneRequest 14 = .ok (.if_icmp .eq 23, 3) := by decide +kernel
theorem dX14_oneRequest_17 : decode cX14_oneRequest 17 = .ok (.aload_n 1, 1) := by decide +kernel
theorem dX14_oneRequest_18 : decode cX14_oneRequest 18 = .ok (.iconst 0, 1) := by decide +kernel
theorem dX14_oneRequest_19 : decode cX14_oneRequest 19 = .ok (.invokestatic 621, 3) := by decide +kernel
theorem dX14_oneRequest_22 : decode cX14_oneRequest 22 = .ok (.bipush 13, 2) := by decide +kernel
theorem dX14_oneRequest_24 : decode cX14_oneRequest 24 = .ok (.if_icmp .ne 36, 3) := by decide +kernel
theorem dX14_oneRequest_27 : decode cX14_oneRequest 27 = .ok (.aload_n 1, 1) := by decide +kernel
theorem dX14_oneRequest_28 : decode cX14_oneRequest 28 = .ok (.iconst 1, 1) := by decide +kernel
theorem dX14_oneRequest_29 : decode cX14_oneRequest 29 = .ok (.invokestatic 621, 3) := by decide +kernel
theorem dX14_oneRequest_32 : decode cX14_oneRequest 32 = .ok (.bipush 10, 2) := by decide +kernel
theorem dX14_oneRequest_34 : decode cX14_oneRequest 34 = .ok (.if_icmp .ne 26, 3) := by decide +kernel
theorem dX14_oneRequest_37 : decode cX14_oneRequest 37 = .ok (.aload_n 0, 1) := by decide +kernel
theorem dX14_oneRequest_38 : decode cX14_oneRequest 38 = .ok (.aload_n 1, 1) := by decide +kernel
theorem dX14_oneRequest_39 : decode cX14_oneRequest 39 = .ok (.aload_n 1, 1) := by decide +kernel
theorem dX14_oneRequest_40 : decode cX14_oneRequest 40 = .ok (.iconst 0, 1) := by decide +kernel
theorem dX14_oneRequest_41 : decode cX14_oneRequest 41 = .ok (.invokestatic 621, 3) := by decide +kernel
theorem dX14_oneRequest_44 : decode cX14_oneRequest 44 = .ok (.bipush 10, 2) := by decide +kernel
theorem dX14_oneRequest_46 : decode cX14_oneRequest 46 = .ok (.if_icmp .ne 7, 3) := by decide +kernel
theorem dX14_oneRequest_49 : decode cX14_oneRequest 49 = .ok (.iconst 1, 1) := by decide +kernel
theorem dX14_oneRequest_50 : decode cX14_oneRequest 50 = .ok (.goto 4, 3) := by decide +kernel
theorem dX14_oneRequest_53 : decode cX14_oneRequest 53 = .ok (.iconst 2, 1) := by decide +kernel
theorem dX14_oneRequest_54 : decode cX14_oneRequest 54 = .ok (.invokevirtual 615, 3) := by decide +kernel
theorem dX14_oneRequest_57 : decode cX14_oneRequest 57 = .ok (.goto (-57), 3) := by decide +kernel
theorem dX14_oneRequest_60 : decode cX14_oneRequest 60 = .ok (.aload_n 1, 1) := by decide +kernel
theorem dX14_oneRequest_61 : decode cX14_oneRequest 61 = .ok (.getfield 475, 3) := by decide +kernel
theorem dX14_oneRequest_64 : decode cX14_oneRequest 64 = .ok (.ifCond .ne 11, 3) := by decide +kernel
theorem dX14_oneRequest_67 : decode cX14_oneRequest 67 = .ok (.aload_n 0, 1) := by decide +kernel
theorem dX14_oneRequest_68 : decode cX14_oneRequest 68 = .ok (.aload_n 1, 1) := by decide +kernel
theorem dX14_oneRequest_69 : decode cX14_oneRequest 69 = .ok (.invokevirtual 624, 3) := by decide +kernel
theorem dX14_oneRequest_72 : decode cX14_oneRequest 72 = .ok (.goto 4, 3) := by decide +kernel
theorem dX14_oneRequest_75 : decode cX14_oneRequest 75 = .ok (.iconst 0, 1) := by decide +kernel
theorem dX14_oneRequest_76 : decode cX14_oneRequest 76 = .ok (.istore_n 2, 1) := by decide +kernel
theorem dX14_oneRequest_77 : decode cX14_oneRequest 77 = .ok (.iload_n 2, 1) := by decide +kernel
theorem dX14_oneRequest_78 : decode cX14_oneRequest 78 = .ok (.ifCond .le 11, 3) := by decide +kernel
theorem dX14_oneRequest_81 : decode cX14_oneRequest 81 = .ok (.aload_n 0, 1) := by decide +kernel
theorem dX14_oneRequest_82 : decode cX14_oneRequest 82 = .ok (.aload_n 1, 1) := by decide +kernel
theorem dX14_oneRequest_83 : decode cX14_oneRequest 83 = .ok (.iload_n 2, 1) := by decide +kernel
theorem dX14_oneRequest_84 : decode cX14_oneRequest 84 = .ok (.invokevirtual 628, 3) := by decide +kernel
theorem dX14_oneRequest_87 : decode cX14_oneRequest 87 = .ok (.iconst 0, 1) := by decide +kernel
theorem dX14_oneRequest_88 : decode cX14_oneRequest 88 = .ok (.ireturn, 1) := by decide +kernel
theorem dX14_oneRequest_89 : decode cX14_oneRequest 89 = .ok (.aload_n 1, 1) := by decide +kernel
theorem dX14_oneRequest_90 : decode cX14_oneRequest 90 = .ok (.invokevirtual 612, 3) := by decide +kernel
theorem dX14_oneRequest_93 : decode cX14_oneRequest 93 = .ok (.sipush 4096, 3) := by decide +kernel
theorem dX14_oneRequest_96 : decode cX14_oneRequest 96 = .ok (.if_icmp .ne 10, 3) := by decide +kernel
theorem dX14_oneRequest_99 : decode cX14_oneRequest 99 = .ok (.aload_n 0, 1) := by decide +kernel
theorem dX14_oneRequest_100 : decode cX14_oneRequest 100 = .ok (.aload_n 1, 1) := by decide +kernel
theorem dX14_oneRequest_101 : decode cX14_oneRequest 101 = .ok (.invokevirtual 631, 3) := by decide +kernel
theorem dX14_oneRequest_104 : decode cX14_oneRequest 104 = .ok (.iconst 0, 1) := by decide +kernel
theorem dX14_oneRequest_105 : decode cX14_oneRequest 105 = .ok (.ireturn, 1) := by decide +kernel
theorem dX14_oneRequest_106 : decode cX14_oneRequest 106 = .ok (.aload_n 1, 1) := by decide +kernel
theorem dX14_oneRequest_107 : decode cX14_oneRequest 107 = .ok (.getfield 152, 3) := by decide +kernel
theorem dX14_oneRequest_110 : decode cX14_oneRequest 110 = .ok (.bipush 7, 2) := by decide +kernel
theorem dX14_oneRequest_112 : decode cX14_oneRequest 112 = .ok (.if_icmp .ne 8, 3) := by decide +kernel
theorem dX14_oneRequest_115 : decode cX14_oneRequest 115 = .ok (.aload_n 1, 1) := by decide +kernel
theorem dX14_oneRequest_116 : decode cX14_oneRequest 116 = .ok (.iconst 1, 1) := by decide +kernel
theorem dX14_oneRequest_117 : decode cX14_oneRequest 117 = .ok (.putfield 418, 3) := by decide +kernel
theorem dX14_oneRequest_120 : decode cX14_oneRequest 120 = .ok (.iconst 0, 1) := by decide +kernel
theorem dX14_oneRequest_121 : decode cX14_oneRequest 121 = .ok (.ireturn, 1) := by decide +kernel
def rmX14_oneRequest : Room := { frames := 8, cells := 0, slots := 0, locals := 189 }
theorem kX14_oneRequest : yX14_oneRequest.cls = "WebHostModel" ∧ yX14_oneRequest.cls ≠ "java/lang/invoke/MethodHandle" ∧ yX14_oneRequest.cls ≠ "java/lang/invoke/VarHandle" ∧ (parseMethodDescriptor yX14_oneRequest.desc).map (fun d => d.parameters.length) = some 1 := by decide +kernel
def w14_oneRequest_J37 (σ : St) (o1 : Nat) (Q : Int32 → St → Prop) (K0 : St → Prop) : Prop := w14_byteAt σ o1 0 (fun r2 => ((¬ r2 = 10 → (w14_take σ o1 2 (fun σ3 => (K0 σ3)))) ∧ (r2 = 10 → (w14_take σ o1 1 (fun σ4 => (K0 σ4))))))
set_option maxHeartbeats 4000000 in
theorem k14_oneRequest_J37 {p : Program} {l : Launch} {e : Env} {s : State} {m : MethodId} {args : Array Value} {below : List Frame} {meth : Method} {c : Code} {G : Gh} {a1 : Nat → Nat → Nat} {τ : St} {Q : Int32 → St → Prop} {K0 : St → Prop} (C : Cx p e s m args meth c cX14_oneRequest 3 (some .boolean) "WebHostModel" G) (σ : St) (o1 : Nat) (ho1 : o1 < 16) (hw : w14_oneRequest_J37 σ o1 Q K0) (H : Heap) (locs : List Loc) (ls : Array Slot) (hH : Hd G a1 (cmb τ σ) H) (hS : va_S (gA G) s.heap H locs) (hl : lv_has ls 3 [(0, .ref (ga G 14 0)), (1, .ref (ga G 15 o1))]) (hK0 : ∀ (σ : St) , K0 σ → ∀ (H : Heap) (locs : List Loc) (ls : Array Slot), Hd G a1 (cmb τ σ) H → va_S (gA G) s.heap H locs → lv_has ls 3 [(0, .ref (ga G 14 0)), (1, .ref (ga G 15 o1))] → W p l e rmX14_oneRequest s m args below meth c H locs 0 0 (MQ below (QIs G a1 (fun u => cmb τ u) Q) args s 0 0 (gA G)) (F0 m 0 ls [])) : W p l e rmX14_oneRequest s m args below meth c H locs 0 0 (MQ below (QIs G a1 (fun u => cmb τ u) Q) args s 0 0 (gA G)) (F0 m 37 ls []) := by
  have hx := C.1
  have hb := C.2.1
  have hown := C.2.2.2.2.2.1
  have hts := C.2.2.2.2.2.2.1
  refine lv_aload_n hx hb dX14_oneRequest_37 rfl (lv_at hl 0 rfl) ?_
  refine lv_aload_n hx hb dX14_oneRequest_38 rfl (lv_at hl 1 rfl) ?_
  refine lv_aload_n hx hb dX14_oneRequest_39 rfl (lv_at hl 1 rfl) ?_
  refine lv_iconst (v := 0) hx hb dX14_oneRequest_40 (by decide) ?_
  refine kc_ip (rn_sp (As := [.ref (ga G 15 o1), .int 0]) (rest := [.ref (ga G 15 o1), .ref (ga G 14 0)]) C hH hS (m14_byteAt l G a1 τ σ H o1 0 ho1 _ hw) (va_cwS 2 hts (lw_S q2452 q2453 q171 q2454) rfl rfl rfl kX14_byteAt.2 ⟨Nat.le_of_ble_eq_true rfl, Nat.le_of_ble_eq_true rfl⟩) rfl hl.1 rfl (Nat.le_of_ble_eq_true rfl) dX14_oneRequest_41 ⟨Nat.le_of_ble_eq_true rfl, Nat.le_of_ble_eq_true rfl⟩) hS (fun r2 locs hw hS => ?_)
  refine lv_bipush (v := 10) hx hb dX14_oneRequest_44 (by decide) ?_
  refine lv_icmp_ne (tgt := 53) hx hb dX14_oneRequest_46 (by decide) (fun h => ?_) (fun h => ?_)
  · have hw := hw.1 h
    refine lv_iconst (v := 2) hx hb dX14_oneRequest_53 (by decide) ?_
    refine kc_v (rn_v (As := [.ref (ga G 15 o1), .int 2]) (rest := []) C hH hS (by decide) rfl (by decide) (m14_take l G a1 τ σ o1 2 ho1 _ hw) (cwV 2 hts (lw_V q2444 q2446 qs129 q171 q2447) rfl rfl rfl kX14_take ⟨Nat.le_of_ble_eq_true rfl, Nat.le_of_ble_eq_true rfl⟩) rfl hl.1 rfl (Nat.le_of_ble_eq_true rfl) dX14_oneRequest_54 ⟨Nat.le_of_ble_eq_true rfl, Nat.le_of_ble_eq_true rfl⟩) hS (fun σ3 H locs hw hH hS => ?_)
    refine lv_goto (tgt := 0) hx hb dX14_oneRequest_57 (by decide) ?_
    exact hK0 σ3 hw H locs ls hH hS (lv_sub hl [0, 1] rfl)
  have hw := hw.2 h
  refine lv_iconst (v := 1) hx hb dX14_oneRequest_49 (by decide) ?_
  refine lv_goto (tgt := 54) hx hb dX14_oneRequest_50 (by decide) ?_
  refine kc_v (rn_v (As := [.ref (ga G 15 o1), .int 1]) (rest := []) C hH hS (by decide) rfl (by decide) (m14_take l G a1 τ σ o1 1 ho1 _ hw) (cwV 2 hts (lw_V q2444 q2446 qs129 q171 q2447) rfl rfl rfl kX14_take ⟨Nat.le_of_ble_eq_true rfl, Nat.le_of_ble_eq_true rfl⟩) rfl hl.1 rfl (Nat.le_of_ble_eq_true rfl) dX14_oneRequest_54 ⟨Nat.le_of_ble_eq_true rfl, Nat.le_of_ble_eq_true rfl⟩) hS (fun σ4 H locs hw hH hS => ?_)
  refine lv_goto (tgt := 0) hx hb dX14_oneRequest_57 (by decide) ?_
  exact hK0 σ4 hw H locs ls hH hS (lv_sub hl [0, 1] rfl)
def w14_oneRequest_L0 (o1 : Nat) (Q : Int32 → St → Prop) (K60 : St → Prop) : Nat → St → Prop
  | 0, _ => False
  | n + 1, σ => (¬ (σ 15 o1 38) = 0 → K60 σ) ∧ ((σ 15 o1 38) = 0 → (w14_byteAt σ o1 0 (fun r1 => ((r1 = 10 → (w14_oneRequest_J37 σ o1 Q (fun σz => w14_oneRequest_L0 o1 Q K60 n σz))) ∧ (¬ r1 = 10 → (w14_byteAt σ o1 0 (fun r5 => ((¬ r5 = 13 → K60 σ) ∧ (r5 = 13 → (w14_byteAt σ o1 1 (fun r6 => ((¬ r6 = 10 → K60 σ) ∧ (r6 = 10 → (w14_oneRequest_J37 σ o1 Q (fun σz => w14_oneRequest_L0 o1 Q K60 n σz)))))))))))))))
set_option maxHeartbeats 4000000 in
theorem k14_oneRequest_L0 {p : Program} {l : Launch} {e : Env} {s : State} {m : MethodId} {args : Array Value} {below : List Frame} {meth : Method} {c : Code} {G : Gh} {a1 : Nat → Nat → Nat} {τ : St} {Q : Int32 → St → Prop} {K60 : St → Prop} (C : Cx p e s m args meth c cX14_oneRequest 3 (some .boolean) "WebHostModel" G) (o1 : Nat) (ho1 : o1 < 16) :
    ∀ (n : Nat) (σ : St), w14_oneRequest_L0 o1 Q K60 n σ → ∀ (H : Heap) (locs : List Loc) (ls : Array Slot), Hd G a1 (cmb τ σ) H → va_S (gA G) s.heap H locs → lv_has ls 3 [(0, .ref (ga G 14 0)), (1, .ref (ga G 15 o1))] → (∀ (σ : St) , K60 σ → ∀ (H : Heap) (locs : List Loc) (ls : Array Slot), Hd G a1 (cmb τ σ) H → va_S (gA G) s.heap H locs → lv_has ls 3 [(0, .ref (ga G 14 0)), (1, .ref (ga G 15 o1))] → W p l e rmX14_oneRequest s m args below meth c H locs 0 0 (MQ below (QIs G a1 (fun u => cmb τ u) Q) args s 0 0 (gA G)) (F0 m 60 ls [])) → W p l e rmX14_oneRequest s m args below meth c H locs 0 0 (MQ below (QIs G a1 (fun u => cmb τ u) Q) args s 0 0 (gA G)) (F0 m 0 ls []) := by
  have hx := C.1
  have hb := C.2.1
  have hown := C.2.2.2.2.2.1
  have hts := C.2.2.2.2.2.2.1
  intro n
  induction n with
  | zero =>
    intro σ hw
    exact False.elim hw
  | succ n ih =>
    intro σ hw H locs ls hH hS hl hK60
    refine lv_aload_n hx hb dX14_oneRequest_0 rfl (lv_at hl 1 rfl) ?_
    refine g15_38 C hH ho1 q1754 dX14_oneRequest_1 ?_
    refine lv_if_ne (tgt := 60) hx hb dX14_oneRequest_4 (by decide) (fun h => ?_) (fun h => ?_)
    · have hw := hw.1 h
      exact hK60 σ hw H locs ls hH hS (lv_sub hl [0, 1] rfl)
    have hw := hw.2 h
    refine lv_aload_n hx hb dX14_oneRequest_7 rfl (lv_at hl 1 rfl) ?_
    refine lv_iconst (v := 0) hx hb dX14_oneRequest_8 (by decide) ?_
    refine kc_ip (rn_sp (As := [.ref (ga G 15 o1), .int 0]) (rest := []) C hH hS (m14_byteAt l G a1 τ σ H o1 0 ho1 _ hw) (va_cwS 2 hts (lw_S q2452 q2453 q171 q2454) rfl rfl rfl kX14_byteAt.2 ⟨Nat.le_of_ble_eq_true rfl, Nat.le_of_ble_eq_true rfl⟩) rfl hl.1 rfl (Nat.le_of_ble_eq_true rfl) dX14_oneRequest_9 ⟨Nat.le_of_ble_eq_true rfl, Nat.le_of_ble_eq_true rfl⟩) hS (fun r1 locs hw hS => ?_)
    refine lv_bipush (v := 10) hx hb dX14_oneRequest_12 (by decide) ?_
    refine lv_icmp_eq (tgt := 37) hx hb dX14_oneRequest_14 (by decide) (fun h => ?_) (fun h => ?_)
    · have hw := hw.1 h
      exact k14_oneRequest_J37 C σ o1 ho1 hw H locs ls hH hS (lv_sub hl [0, 1] rfl) (fun σz hw H locs ls hH hS hl => ih σz hw H locs ls hH hS hl hK60)
    have hw := hw.2 h
    refine lv_aload_n hx hb dX14_oneRequest_17 rfl (lv_at hl 1 rfl) ?_
    refine lv_iconst (v := 0) hx hb dX14_oneRequest_18 (by decide) ?_
    refine kc_ip (rn_sp (As := [.ref (ga G 15 o1), .int 0]) (rest := []) C hH hS (m14_byteAt l G a1 τ σ H o1 0 ho1 _ hw) (va_cwS 2 hts (lw_S q2452 q2453 q171 q2454) rfl rfl rfl kX14_byteAt.2 ⟨Nat.le_of_ble_eq_true rfl, Nat.le_of_ble_eq_true rfl⟩) rfl hl.1 rfl (Nat.le_of_ble_eq_true rfl) dX14_oneRequest_19 ⟨Nat.le_of_ble_eq_true rfl, Nat.le_of_ble_eq_true rfl⟩) hS (fun r5 locs hw hS => ?_)
    refine lv_bipush (v := 13) hx hb dX14_oneRequest_22 (by decide) ?_
    refine lv_icmp_ne (tgt := 60) hx hb dX14_oneRequest_24 (by decide) (fun h => ?_) (fun h => ?_)
    · have hw := hw.1 h
      exact hK60 σ hw H locs ls hH hS (lv_sub hl [0, 1] rfl)
    have hw := hw.2 h
    refine lv_aload_n hx hb dX14_oneRequest_27 rfl (lv_at hl 1 rfl) ?_
    refine lv_iconst (v := 1) hx hb dX14_oneRequest_28 (by decide) ?_
    refine kc_ip (rn_sp (As := [.ref (ga G 15 o1), .int 1]) (rest := []) C hH hS (m14_byteAt l G a1 τ σ H o1 1 ho1 _ hw) (va_cwS 2 hts (lw_S q2452 q2453 q171 q2454) rfl rfl rfl kX14_byteAt.2 ⟨Nat.le_of_ble_eq_true rfl, Nat.le_of_ble_eq_true rfl⟩) rfl hl.1 rfl (Nat.le_of_ble_eq_true rfl) dX14_oneRequest_29 ⟨Nat.le_of_ble_eq_true rfl, Nat.le_of_ble_eq_true rfl⟩) hS (fun r6 locs hw hS => ?_)
    refine lv_bipush (v := 10) hx hb dX14_oneRequest_32 (by decide) ?_
    refine lv_icmp_ne (tgt := 60) hx hb dX14_oneRequest_34 (by decide) (fun h => ?_) (fun h => ?_)
    · have hw := hw.1 h
      exact hK60 σ hw H locs ls hH hS (lv_sub hl [0, 1] rfl)
    have hw := hw.2 h
    exact k14_oneRequest_J37 C σ o1 ho1 hw H locs ls hH hS (lv_sub hl [0, 1] rfl) (fun σz hw H locs ls hH hS hl => ih σz hw H locs ls hH hS hl hK60)
def w14_oneRequest_J76 (σ : St) (o1 : Nat) (xs0 : Int32) (Q : Int32 → St → Prop) : Prop := (xs0 ≤ 0 → (w15_held σ o1 (fun r9 => ((¬ r9 = 4096 → ((¬ (σ 15 o1 0) = 7 → Q 0 σ) ∧ ((σ 15 o1 0) = 7 → (∀ σ10, σ10 = up3 σ 15 o1 30 1 → (Q 0 σ10))))) ∧ (r9 = 4096 → (w14_refuse σ o1 (fun σ11 => (Q 0 σ11)))))))) ∧ (¬ xs0 ≤ 0 → (w14_answer σ o1 xs0 (fun σ12 => (Q 0 σ12))))
set_option maxHeartbeats 4000000 in
theorem k14_oneRequest_J76 {p : Program} {l : Launch} {e : Env} {s : State} {m : MethodId} {args : Array Value} {below : List Frame} {meth : Method} {c : Code} {G : Gh} {a1 : Nat → Nat → Nat} {τ : St} {Q : Int32 → St → Prop} (C : Cx p e s m args meth c cX14_oneRequest 3 (some .boolean) "WebHostModel" G) (σ : St) (o1 : Nat) (xs0 : Int32) (ho1 : o1 < 16) (hw : w14_oneRequest_J76 σ o1 xs0 Q) (H : Heap) (locs : List Loc) (ls : Array Slot) (hH : Hd G a1 (cmb τ σ) H) (hS : va_S (gA G) s.heap H locs) (hl : lv_has ls 3 [(0, .ref (ga G 14 0)), (1, .ref (ga G 15 o1))]) : W p l e rmX14_oneRequest s m args below meth c H locs 0 0 (MQ below (QIs G a1 (fun u => cmb τ u) Q) args s 0 0 (gA G)) (F0 m 76 ls [.int xs0]) := by
  have hx := C.1
  have hb := C.2.1
  have hown := C.2.2.2.2.2.1
  have hts := C.2.2.2.2.2.2.1
  refine lv_istore_n (lv' := [(2, .int xs0), (0, .ref (ga G 14 0)), (1, .ref (ga G 15 o1))]) hx hb dX14_oneRequest_76 rfl hl (by decide) rfl (fun ls hl => ?_)
  refine lv_iload_n hx hb dX14_oneRequest_77 rfl (lv_at hl 0 rfl) ?_
  refine lv_if_le (tgt := 89) hx hb dX14_oneRequest_78 (by decide) (fun h => ?_) (fun h => ?_)
  · have hw := hw.1 h
    refine lv_aload_n hx hb dX14_oneRequest_89 rfl (lv_at hl 2 rfl) ?_
    refine kc_ip (rn_vp (As := []) (rest := []) C hH hS (by decide) rfl ho1 (m15_held l G a1 τ σ H o1 ho1 _ hw) (cwV 0 hts (lw_V q2443 q2236 q2237 q172 q2238) rfl rfl rfl kX15_held ⟨Nat.le_of_ble_eq_true rfl, Nat.le_of_ble_eq_true rfl⟩) rfl hl.1 rfl (Nat.le_of_ble_eq_true rfl) dX14_oneRequest_90 ⟨Nat.le_of_ble_eq_true rfl, Nat.le_of_ble_eq_true rfl⟩) hS (fun r9 locs hw hS => ?_)
    refine lv_sipush (v := 4096) hx hb dX14_oneRequest_93 (by decide) ?_
    refine lv_icmp_ne (tgt := 106) hx hb dX14_oneRequest_96 (by decide) (fun h => ?_) (fun h => ?_)
    · have hw := hw.1 h
      refine lv_aload_n hx hb dX14_oneRequest_106 rfl (lv_at hl 2 rfl) ?_
      refine g15_0 C hH ho1 q1707 dX14_oneRequest_107 ?_
      refine lv_bipush (v := 7) hx hb dX14_oneRequest_110 (by decide) ?_
      refine lv_icmp_ne (tgt := 120) hx hb dX14_oneRequest_112 (by decide) (fun h => ?_) (fun h => ?_)
      · have hw := hw.1 h
        refine lv_iconst (v := 0) hx hb dX14_oneRequest_120 (by decide) ?_
        exact rt_i C rfl hH hS hw dX14_oneRequest_121
      have hw := hw.2 h
      refine lv_aload_n hx hb dX14_oneRequest_115 rfl (lv_at hl 2 rfl) ?_
      refine lv_iconst (v := 1) hx hb dX14_oneRequest_116 (by decide) ?_
      refine p15_30 C hH hS ho1 (Or.inr rfl) q1742 dX14_oneRequest_117 (fun σ10 e10 H locs hH hS => ?_)
      have hw := hw σ10 e10
      refine lv_iconst (v := 0) hx hb dX14_oneRequest_120 (by decide) ?_
      exact rt_i C rfl hH hS hw dX14_oneRequest_121
    have hw := hw.2 h
    refine lv_aload_n hx hb dX14_oneRequest_99 rfl (lv_at hl 1 rfl) ?_
    refine lv_aload_n hx hb dX14_oneRequest_100 rfl (lv_at hl 2 rfl) ?_
    refine kc_v (rn_v (As := [.ref (ga G 15 o1)]) (rest := []) C hH hS (by decide) rfl (by decide) (m14_refuse l G a1 τ σ o1 ho1 _ hw) (cwV 1 hts (lw_V q2606 q2608 qs153 q171 q2609) rfl rfl rfl kX14_refuse ⟨Nat.le_of_ble_eq_true rfl, Nat.le_of_ble_eq_true rfl⟩) rfl hl.1 rfl (Nat.le_of_ble_eq_true rfl) dX14_oneRequest_101 ⟨Nat.le_of_ble_eq_true rfl, Nat.le_of_ble_eq_true rfl⟩) hS (fun σ11 H locs hw hH hS => ?_)
    refine lv_iconst (v := 0) hx hb dX14_oneRequest_104 (by decide) ?_
    exact rt_i C rfl hH hS hw dX14_oneRequest_105
  have hw := hw.2 h
  refine lv_aload_n hx hb dX14_oneRequest_81 rfl (lv_at hl 1 rfl) ?_
  refine lv_aload_n hx hb dX14_oneRequest_82 rfl (lv_at hl 2 rfl) ?_
  refine lv_iload_n hx hb dX14_oneRequest_83 rfl (lv_at hl 0 rfl) ?_
  refine kc_v (rn_v (As := [.ref (ga G 15 o1), .int xs0]) (rest := []) C hH hS (by decide) rfl (by decide) (m14_answer l G a1 τ σ o1 xs0 ho1 _ hw) (cwV 2 hts (lw_V q2459 q2461 qs132 q171 q2462) rfl rfl rfl kX14_answer ⟨Nat.le_of_ble_eq_true rfl, Nat.le_of_ble_eq_true rfl⟩) rfl hl.1 rfl (Nat.le_of_ble_eq_true rfl) dX14_oneRequest_84 ⟨Nat.le_of_ble_eq_true rfl, Nat.le_of_ble_eq_true rfl⟩) hS (fun σ12 H locs hw hH hS => ?_)
  refine lv_iconst (v := 0) hx hb dX14_oneRequest_87 (by decide) ?_
  exact rt_i C rfl hH hS hw dX14_oneRequest_88
def w14_oneRequest (σ : St) (o1 : Nat) (Q : Int32 → St → Prop) : Prop := ∃ z7, w14_oneRequest_L0 o1 Q (fun σ8 => (¬ (σ8 15 o1 38) = 0 → w14_oneRequest_J76 σ8 o1 0 Q) ∧ ((σ8 15 o1 38) = 0 → (w14_headBytes σ8 o1 (fun r13 => (w14_oneRequest_J76 σ8 o1 r13 Q))))) z7 σ
set_option maxHeartbeats 4000000 in
theorem m14_oneRequest (l : Launch) (G : Gh) (a1 : Nat → Nat → Nat) (τ : St) (σ : St) (o1 : Nat) (ho1 : o1 < 16) (Q : Int32 → St → Prop) (hw : w14_oneRequest σ o1 Q) : Met l yX14_oneRequest (ws_ yX14_oneRequest cX14_oneRequest 3 (some .boolean)) rmX14_oneRequest (PcS G a1 (cmb τ σ) [.ref (ga G 14 0), .ref (ga G 15 o1)]) (QIs G a1 (fun u => cmb τ u) Q) 0 0 (gA G) := by
  refine met_w (by decide) (Nat.le_of_ble_eq_true rfl) ?_
  intro p e s m below meth c ls C hH hS hl
  have C : Cx p e s m _ meth c cX14_oneRequest 3 (some .boolean) "WebHostModel" G := C
  have hl : lv_has ls 3 [(0, .ref (ga G 14 0)), (1, .ref (ga G 15 o1))] := hl
  have hx := C.1
  have hb := C.2.1
  have hown := C.2.2.2.2.2.1
  have hts := C.2.2.2.2.2.2.1
  obtain ⟨locs, hlocs⟩ : ∃ z : List Loc, z = [] := ⟨_, rfl⟩
  obtain ⟨H, hHe⟩ : ∃ z : Heap, z = s.heap := ⟨_, rfl⟩
  have hH : Hd G a1 (cmb τ σ) H := by rw [hHe]; exact hH
  have hS : va_S (gA G) s.heap H locs := by rw [hHe, hlocs]; exact hS
  refine W.heap0 hHe.symm hlocs.symm ?_
  obtain ⟨n7, hw⟩ := hw
  refine k14_oneRequest_L0 C o1 ho1 n7 σ hw H locs ls hH hS (lv_sub hl [0, 1] rfl) (fun σ8 hw H locs ls hH hS hl => ?_)
  refine lv_aload_n hx hb dX14_oneRequest_60 rfl (lv_at hl 1 rfl) ?_
  refine g15_38 C hH ho1 q1754 dX14_oneRequest_61 ?_
  refine lv_if_ne (tgt := 75) hx hb dX14_oneRequest_64 (by decide) (fun h => ?_) (fun h => ?_)
  · have hw := hw.1 h
    refine lv_iconst (v := 0) hx hb dX14_oneRequest_75 (by decide) ?_
    exact k14_oneRequest_J76 C σ8 o1 0 ho1 hw H locs ls hH hS (lv_sub hl [0, 1] rfl)
  have hw := hw.2 h
  refine lv_aload_n hx hb dX14_oneRequest_67 rfl (lv_at hl 0 rfl) ?_
  refine lv_aload_n hx hb dX14_oneRequest_68 rfl (lv_at hl 1 rfl) ?_
  refine kc_ip (rn_vp (As := [.ref (ga G 15 o1)]) (rest := []) C hH hS (by decide) rfl (by decide) (m14_headBytes l G a1 τ σ8 H o1 ho1 _ hw) (cwV 1 hts (lw_V q2455 q2457 qs131 q171 q2458) rfl rfl rfl kX14_headBytes ⟨Nat.le_of_ble_eq_true rfl, Nat.le_of_ble_eq_true rfl⟩) rfl hl.1 rfl (Nat.le_of_ble_eq_true rfl) dX14_oneRequest_69 ⟨Nat.le_of_ble_eq_true rfl, Nat.le_of_ble_eq_true rfl⟩) hS (fun r13 locs hw hS => ?_)
  refine lv_goto (tgt := 76) hx hb dX14_oneRequest_72 (by decide) ?_
  exact k14_oneRequest_J76 C σ8 o1 r13 ho1 hw H locs ls hH hS (lv_sub hl [0, 1] rfl)
/-! WebHost$Requests.bad(LWebHost$Answer;)I -/
abbrev cX9_bad : ByteArray := prog_11_method_18_code
def yX9_bad : MethodName := ⟨RX9, "bad", "(LWebHost$Answer;)I"⟩
theorem dX9_bad_0 : decode cX9_bad 0 = .ok (.aload_n 0, 1) := by decide +kernel
theorem dX9_bad_1 : decode cX9_bad 1 = .ok (.aload_n 1, 1) := by decide +kernel
theorem dX9_bad_2 : decode cX9_bad 2 = .ok (.sipush 400, 3) := by decide +kernel
theorem dX9_bad_5 : decode cX9_bad 5 = .ok (.ldc 233, 2) := by decide +kernel
theorem dX9_bad_7 : decode cX9_bad 7 = .ok (.invokevirtual 185, 3) := by decide +kernel
theorem dX9_bad_10 : decode cX9_bad 10 = .ok (.ireturn, 1) := by decide +kernel
def rmX9_bad : Room := { frames := 9, cells := 1, slots := 66047, locals := 198 }
theorem kX9_bad : yX9_bad.cls = "WebHost$Requests" ∧ yX9_bad.cls ≠ "java/lang/invoke/MethodHandle" ∧ yX9_bad.cls ≠ "java/lang/invoke/VarHandle" ∧ (parseMethodDescriptor yX9_bad.desc).map (fun d => d.parameters.length) = some 1 := by decide +kernel
def w9_bad (σ : St) (o1 : Nat) (Q : Int32 → St → Prop) : Prop := w9_last σ o1 400 19 (fun r1 σ1 => (Q r1 σ1))
set_option maxHeartbeats 4000000 in
theorem m9_bad (l : Launch) (G : Gh) (a1 : Nat → Nat → Nat) (τ : St) (σ : St) (o1 : Nat) (ho1 : o1 < 16) (Q : Int32 → St → Prop) (hw : w9_bad σ o1 Q) : Met l yX9_bad (ws_ yX9_bad cX9_bad 2 (some .int)) rmX9_bad (PcS G a1 (cmb σ τ) [.ref (ga G 9 0), .ref (ga G 13 o1)]) (QIa G (fun u => cmb u τ) Q) 1 66047 (gA G) := by
  refine met_w (by decide) (Nat.le_of_ble_eq_true rfl) ?_
  intro p e s m below meth c ls C hH hS hl
  have C : Cx p e s m _ meth c cX9_bad 2 (some .int) "WebHost$Requests" G := C
  have hl : lv_has ls 2 [(0, .ref (ga G 9 0)), (1, .ref (ga G 13 o1))] := hl
  have hx := C.1
  have hb := C.2.1
  have hown := C.2.2.2.2.2.1
  have hts := C.2.2.2.2.2.2.1
  obtain ⟨locs, hlocs⟩ : ∃ z : List Loc, z = [] := ⟨_, rfl⟩
  obtain ⟨H, hHe⟩ : ∃ z : Heap, z = s.heap := ⟨_, rfl⟩
  have hH : Hd G a1 (cmb σ τ) H := by rw [hHe]; exact hH
  have hS : va_S (gA G) s.heap H locs := by rw [hHe, hlocs]; exact hS
  refine W.heap0 hHe.symm hlocs.symm ?_
  refine lv_aload_n hx hb dX9_bad_0 rfl (lv_at hl 0 rfl) ?_
  refine lv_aload_n hx hb dX9_bad_1 rfl (lv_at hl 1 rfl) ?_
  refine lv_sipush (v := 400) hx hb dX9_bad_2 (by decide) ?_
  refine str_ldc (n := 19) C st19 dX9_bad_5 ?_
  refine kc_ia (rn_v (As := [.ref (ga G 13 o1), .int 400, .ref (gs G 19)]) (rest := []) C hH hS (by decide) rfl (by decide) (m9_last l G a1 τ σ o1 400 19 ho1 (by decide) _ hw) (cwV 3 hts (lw_V q1380 q1382 qs58 q166 q1383) rfl rfl rfl kX9_last ⟨Nat.le_of_ble_eq_true rfl, Nat.le_of_ble_eq_true rfl⟩) rfl hl.1 rfl (Nat.le_of_ble_eq_true rfl) dX9_bad_7 ⟨Nat.le_of_ble_eq_true rfl, Nat.le_of_ble_eq_true rfl⟩) hS (fun r1 σ1 a1 H locs hw hH hS => ?_)
  refine W.cs (cells' := 1) (slots' := 66047) rfl rfl ?_
  exact rt_ia C rfl hH hS hw dX9_bad_10
/-! WebHostModel.requests(LWebHostModel$Connection;)V -/
abbrev cX14_requests : ByteArray := prog_17_method_76_code
def yX14_requests : MethodName := ⟨RX14, "requests", "(LWebHostModel$Connection;)V"⟩
theorem dX14_requests_0 : decode cX14_requests 0 = .ok (.iconst 1, 1) := by decide +kernel
theorem dX14_requests_1 : decode cX14_requests 1 = .ok (.istore_n 2, 1) := by decide +kernel
theorem dX14_requests_2 : decode cX14_requests 2 = .ok (.iload_n 2, 1) := by decide +kernel
theorem dX14_requests_3 : decode cX14_requests 3 = .ok (.ifCond .eq 110, 3) := by decide +kernel
theorem dX14_requests_6 : decode cX14_requests 6 = .ok (.aload_n 1, 1) := by decide +kernel
theorem dX14_requests_7 : decode cX14_requests 7 = .ok (.getfield 475, 3) := by decide +kernel
theorem dX14_requests_10 : decode cX14_requests 10 = .ok (.aload_n 1, 1) := by decide +kernel
theorem dX14_requests_11 : decode cX14_requests 11 = .ok (.invokevirtual 612, 3) := by decide +kernel
theorem dX14_requests_14 : decode cX14_requests 14 = .ok (.invokestatic 411, 3) := by decide +kernel
theorem dX14_requests_17 : decode cX14_requests 17 = .ok (.istore_n 3, 1) := by decide +kernel
theorem dX14_requests_18 : decode cX14_requests 18 = .ok (.iload_n 3, 1) := by decide +kernel
theorem dX14_requests_19 : decode cX14_requests 19 = .ok (.ifCond .le 19, 3) := by decide +kernel
theorem dX14_requests_22 : decode cX14_requests 22 = .ok (.aload_n 1, 1) := by decide +kernel
theorem dX14_requests_23 : decode cX14_requests 23 = .ok (.aload_n 1, 1) := by decide +kernel
theorem dX14_requests_24 : decode cX14_requests 24 = .ok (.getfield 475, 3) := by decide +kernel
theorem dX14_requests_27 : decode cX14_requests 27 = .ok (.iload_n 3, 1) := by decide +kernel
theorem dX14_requests_28 : decode cX14_requests 28 = .ok (.isub, 1) := by decide +kernel
theorem dX14_requests_29 : decode cX14_requests 29 = .ok (.putfield 475, 3) := by decide +kernel
theorem dX14_requests_32 : decode cX14_requests 32 = .ok (.aload_n 0, 1) := by decide +kernel
theorem dX14_requests_33 : decode cX14_requests 33 = .ok (.aload_n 1, 1) := by decide +kernel
theorem dX14_requests_34 : decode cX14_requests 34 = .ok (.iload_n 3, 1) := by decide +kernel
theorem dX14_requests_35 : decode cX14_requests 35 = .ok (.invokevirtual 615, 3) := by decide +kernel
theorem dX14_requests_38 : decode cX14_requests 38 = .ok (.aload_n 1, 1) := by decide +kernel
theorem dX14_requests_39 : decode cX14_requests 39 = .ok (.getfield 152, 3) := by decide +kernel
theorem dX14_requests_42 : decode cX14_requests 42 = .ok (.iconst 2, 1) := by decide +kernel
theorem dX14_requests_43 : decode cX14_requests 43 = .ok (.if_icmp .eq 12, 3) := by decide +kernel
theorem dX14_requests_46 : decode cX14_requests 46 = .ok (.aload_n 1, 1) := by decide +kernel
theorem dX14_requests_47 : decode cX14_requests 47 = .ok (.getfield 152, 3) := by decide +kernel
theorem dX14_requests_50 : decode cX14_requests 50 = .ok (.bipush 7, 2) := by decide +kernel
theorem dX14_requests_52 : decode cX14_requests 52 = .ok (.if_icmp .ne 36, 3) := by decide +kernel
theorem dX14_requests_55 : decode cX14_requests 55 = .ok (.aload_n 1, 1) := by decide +kernel
theorem dX14_requests_56 : decode cX14_requests 56 = .ok (.getfield 418, 3) := by decide +kernel
theorem dX14_requests_59 : decode cX14_requests 59 = .ok (.ifCond .ne 29, 3) := by decide +kernel
theorem dX14_requests_62 : decode cX14_requests 62 = .ok (.aload_n 1, 1) := by decide +kernel
theorem dX14_requests_63 : decode cX14_requests 63 = .ok (.aload_n 1, 1) := by decide +kernel
theorem dX14_requests_64 : decode cX14_requests 64 = .ok (.getfield 345, 3) := by decide +kernel
theorem dX14_requests_67 : decode cX14_requests 67 = .ok (.invokevirtual 425, 3) := by decide +kernel
theorem dX14_requests_70 : decode cX14_requests 70 = .ok (.ifCond .ne 18, 3) := by decide +kernel
theorem dX14_requests_73 : decode cX14_requests 73 = .ok (.aload_n 1, 1) := by decide +kernel
theorem dX14_requests_74 : decode cX14_requests 74 = .ok (.getfield 345, 3) := by decide +kernel
theorem dX14_requests_77 : decode cX14_requests 77 = .ok (.aload_n 1, 1) := by decide +kernel
theorem dX14_requests_78 : decode cX14_requests 78 = .ok (.getfield 428, 3) := by decide +kernel
theorem dX14_requests_81 : decode cX14_requests 81 = .ok (.if_icmp .ne 7, 3) := by decide +kernel
theorem dX14_requests_84 : decode cX14_requests 84 = .ok (.iconst 1, 1) := by decide +kernel
theorem dX14_requests_85 : decode cX14_requests 85 = .ok (.goto 4, 3) := by decide +kernel
theorem dX14_requests_88 : decode cX14_requests 88 = .ok (.iconst 0, 1) := by decide +kernel
theorem dX14_requests_89 : decode cX14_requests 89 = .ok (.istore 4, 2) := by decide +kernel
theorem dX14_requests_91 : decode cX14_requests 91 = .ok (.iload 4, 2) := by decide +kernel
theorem dX14_requests_93 : decode cX14_requests 93 = .ok (.ifCond .eq 15, 3) := by decide +kernel
theorem dX14_requests_96 : decode cX14_requests 96 = .ok (.aload_n 0, 1) := by decide +kernel
theorem dX14_requests_97 : decode cX14_requests 97 = .ok (.aload_n 1, 1) := by decide +kernel
theorem dX14_requests_98 : decode cX14_requests 98 = .ok (.invokevirtual 618, 3) := by decide +kernel
theorem dX14_requests_101 : decode cX14_requests 101 = .ok (.ifCond .eq 7, 3) := by decide +kernel
theorem dX14_requests_104 : decode cX14_requests 104 = .ok (.iconst 1, 1) := by decide +kernel
theorem dX14_requests_105 : decode cX14_requests 105 = .ok (.goto 4, 3) := by decide +kernel
theorem dX14_requests_108 : decode cX14_requests 108 = .ok (.iconst 0, 1) := by decide +kernel
theorem dX14_requests_109 : decode cX14_requests 109 = .ok (.istore_n 2, 1) := by decide +kernel
theorem dX14_requests_110 : decode cX14_requests 110 = .ok (.goto (-108), 3) := by decide +kernel
theorem dX14_requests_113 : decode cX14_requests 113 = .ok (.return_, 1) := by decide +kernel
def rmX14_requests : Room := { frames := 9, cells := 0, slots := 0, locals := 211 }
theorem kX14_requests : yX14_requests.cls = "WebHostModel" ∧ yX14_requests.cls ≠ "java/lang/invoke/MethodHandle" ∧ yX14_requests.cls ≠ "java/lang/invoke/VarHandle" ∧ (parseMethodDescriptor yX14_requests.desc).map (fun d => d.parameters.length) = some 1 := by decide +kernel
def w14_requests_J89 (σ : St) (o1 : Nat) (xs0 : Int32) (Q : St → Prop) (K2 : St → Int32 → Prop) : Prop := (xs0 = 0 → K2 σ 0) ∧ (¬ xs0 = 0 → (w14_oneRequest σ o1 (fun r2 σ2 => ((r2 = 0 → K2 σ2 0) ∧ (¬ r2 = 0 → K2 σ2 1)))))
set_option maxHeartbeats 4000000 in
theorem k14_requests_J89 {p : Program} {l : Launch} {e : Env} {s : State} {m : MethodId} {args : Array Value} {below : List Frame} {meth : Method} {c : Code} {G : Gh} {a1 : Nat → Nat → Nat} {τ : St} {Q : St → Prop} {K2 : St → Int32 → Prop} (C : Cx p e s m args meth c cX14_requests 5 none "WebHostModel" G) (σ : St) (o1 : Nat) (xs0 : Int32) (ho1 : o1 < 16) (hw : w14_requests_J89 σ o1 xs0 Q K2) (H : Heap) (locs : List Loc) (ls : Array Slot) (hH : Hd G a1 (cmb τ σ) H) (hS : va_S (gA G) s.heap H locs) (hl : lv_has ls 5 [(0, .ref (ga G 14 0)), (1, .ref (ga G 15 o1))]) (hK2 : ∀ (σ : St) (x2 : Int32), K2 σ x2 → ∀ (H : Heap) (locs : List Loc) (ls : Array Slot), Hd G a1 (cmb τ σ) H → va_S (gA G) s.heap H locs → lv_has ls 5 [(0, .ref (ga G 14 0)), (1, .ref (ga G 15 o1)), (2, .int x2)] → W p l e rmX14_requests s m args below meth c H locs 0 0 (MQ below (QVs G a1 (fun u => cmb τ u) Q) args s 0 0 (gA G)) (F0 m 2 ls [])) : W p l e rmX14_requests s m args below meth c H locs 0 0 (MQ below (QVs G a1 (fun u => cmb τ u) Q) args s 0 0 (gA G)) (F0 m 89 ls [.int xs0]) := by
  have hx := C.1
  have hb := C.2.1
  have hown := C.2.2.2.2.2.1
  have hts := C.2.2.2.2.2.2.1
  refine lv_istore (lv' := [(4, .int xs0), (0, .ref (ga G 14 0)), (1, .ref (ga G 15 o1))]) hx hb dX14_requests_89 hl (by decide) rfl (fun ls hl => ?_)
  refine lv_iload hx hb dX14_requests_91 (lv_at hl 0 rfl) ?_
  refine lv_if_eq (tgt := 108) hx hb dX14_requests_93 (by decide) (fun h => ?_) (fun h => ?_)
  · have hw := hw.1 h
    refine lv_iconst (v := 0) hx hb dX14_requests_108 (by decide) ?_
    refine lv_istore_n (lv' := [(2, .int 0), (4, .int xs0), (0, .ref (ga G 14 0)), (1, .ref (ga G 15 o1))]) hx hb dX14_requests_109 rfl hl (by decide) rfl (fun ls hl => ?_)
    refine lv_goto (tgt := 2) hx hb dX14_requests_110 (by decide) ?_
    exact hK2 σ 0 hw H locs ls hH hS (lv_sub hl [2, 3, 0] rfl)
  have hw := hw.2 h
  refine lv_aload_n hx hb dX14_requests_96 rfl (lv_at hl 1 rfl) ?_
  refine lv_aload_n hx hb dX14_requests_97 rfl (lv_at hl 2 rfl) ?_
  refine kc_i (rn_v (As := [.ref (ga G 15 o1)]) (rest := []) C hH hS (by decide) rfl (by decide) (m14_oneRequest l G a1 τ σ o1 ho1 _ hw) (cwV 1 hts (lw_V q2448 q2450 qs130 q171 q2451) rfl rfl rfl kX14_oneRequest ⟨Nat.le_of_ble_eq_true rfl, Nat.le_of_ble_eq_true rfl⟩) rfl hl.1 rfl (Nat.le_of_ble_eq_true rfl) dX14_requests_98 ⟨Nat.le_of_ble_eq_true rfl, Nat.le_of_ble_eq_true rfl⟩) hS (fun r2 σ2 H locs hw hH hS => ?_)
  refine lv_if_eq (tgt := 108) hx hb dX14_requests_101 (by decide) (fun h => ?_) (fun h => ?_)
  · have hw := hw.1 h
    refine lv_iconst (v := 0) hx hb dX14_requests_108 (by decide) ?_
    refine lv_istore_n (lv' := [(2, .int 0), (4, .int xs0), (0, .ref (ga G 14 0)), (1, .ref (ga G 15 o1))]) hx hb dX14_requests_109 rfl hl (by decide) rfl (fun ls hl => ?_)
    refine lv_goto (tgt := 2) hx hb dX14_requests_110 (by decide) ?_
    exact hK2 σ2 0 hw H locs ls hH hS (lv_sub hl [2, 3, 0] rfl)
  have hw := hw.2 h
  refine lv_iconst (v := 1) hx hb dX14_requests_104 (by decide) ?_
  refine lv_goto (tgt := 109) hx hb dX14_requests_105 (by decide) ?_
  refine lv_istore_n (lv' := [(2, .int 1), (4, .int xs0), (0, .ref (ga G 14 0)), (1, .ref (ga G 15 o1))]) hx hb dX14_requests_109 rfl hl (by decide) rfl (fun ls hl => ?_)
  refine lv_goto (tgt := 2) hx hb dX14_requests_110 (by decide) ?_
  exact hK2 σ2 1 hw H locs ls hH hS (lv_sub hl [2, 3, 0] rfl)
def w14_requests_J55 (σ : St) (o1 : Nat) (Q : St → Prop) (K2 : St → Int32 → Prop) : Prop := bo (σ 15 o1 30) → ((¬ (σ 15 o1 30) = 0 → w14_requests_J89 σ o1 0 Q K2) ∧ ((σ 15 o1 30) = 0 → (w15_left σ o1 (σ 15 o1 5) (fun r3 => ((¬ r3 = 0 → w14_requests_J89 σ o1 0 Q K2) ∧ (r3 = 0 → ((¬ (σ 15 o1 5) = (σ 15 o1 4) → w14_requests_J89 σ o1 0 Q K2) ∧ ((σ 15 o1 5) = (σ 15 o1 4) → w14_requests_J89 σ o1 1 Q K2))))))))
set_option maxHeartbeats 4000000 in
theorem k14_requests_J55 {p : Program} {l : Launch} {e : Env} {s : State} {m : MethodId} {args : Array Value} {below : List Frame} {meth : Method} {c : Code} {G : Gh} {a1 : Nat → Nat → Nat} {τ : St} {Q : St → Prop} {K2 : St → Int32 → Prop} (C : Cx p e s m args meth c cX14_requests 5 none "WebHostModel" G) (σ : St) (o1 : Nat) (ho1 : o1 < 16) (hw : w14_requests_J55 σ o1 Q K2) (H : Heap) (locs : List Loc) (ls : Array Slot) (hH : Hd G a1 (cmb τ σ) H) (hS : va_S (gA G) s.heap H locs) (hl : lv_has ls 5 [(0, .ref (ga G 14 0)), (1, .ref (ga G 15 o1))]) (hK2 : ∀ (σ : St) (x2 : Int32), K2 σ x2 → ∀ (H : Heap) (locs : List Loc) (ls : Array Slot), Hd G a1 (cmb τ σ) H → va_S (gA G) s.heap H locs → lv_has ls 5 [(0, .ref (ga G 14 0)), (1, .ref (ga G 15 o1)), (2, .int x2)] → W p l e rmX14_requests s m args below meth c H locs 0 0 (MQ below (QVs G a1 (fun u => cmb τ u) Q) args s 0 0 (gA G)) (F0 m 2 ls [])) : W p l e rmX14_requests s m args below meth c H locs 0 0 (MQ below (QVs G a1 (fun u => cmb τ u) Q) args s 0 0 (gA G)) (F0 m 55 ls []) := by
  have hx := C.1
  have hb := C.2.1
  have hown := C.2.2.2.2.2.1
  have hts := C.2.2.2.2.2.2.1
  refine lv_aload_n hx hb dX14_requests_55 rfl (lv_at hl 1 rfl) ?_
  refine g15_30 C hH ho1 q1742 dX14_requests_56 (fun hz => ?_)
  have hw := hw hz
  refine lv_if_ne (tgt := 88) hx hb dX14_requests_59 (by decide) (fun h => ?_) (fun h => ?_)
  · have hw := hw.1 h
    refine lv_iconst (v := 0) hx hb dX14_requests_88 (by decide) ?_
    exact k14_requests_J89 C σ o1 0 ho1 hw H locs ls hH hS (lv_sub hl [0, 1] rfl) hK2
  have hw := hw.2 h
  refine lv_aload_n hx hb dX14_requests_62 rfl (lv_at hl 1 rfl) ?_
  refine lv_aload_n hx hb dX14_requests_63 rfl (lv_at hl 1 rfl) ?_
  refine g15_5 C hH ho1 q1712 dX14_requests_64 ?_
  refine kc_ip (rn_vp (As := [.int (σ 15 o1 5)]) (rest := []) C hH hS (by decide) rfl ho1 (m15_left l G a1 τ σ H o1 (σ 15 o1 5) ho1 _ hw) (cwV 1 hts (lw_V q2193 q2194 q2195 q172 q2196) rfl rfl rfl kX15_left ⟨Nat.le_of_ble_eq_true rfl, Nat.le_of_ble_eq_true rfl⟩) rfl hl.1 rfl (Nat.le_of_ble_eq_true rfl) dX14_requests_67 ⟨Nat.le_of_ble_eq_true rfl, Nat.le_of_ble_eq_true rfl⟩) hS (fun r3 locs hw hS => ?_)
  refine lv_if_ne (tgt := 88) hx hb dX14_requests_70 (by decide) (fun h => ?_) (fun h => ?_)
  · have hw := hw.1 h
    refine lv_iconst (v := 0) hx hb dX14_requests_88 (by decide) ?_
    exact k14_requests_J89 C σ o1 0 ho1 hw H locs ls hH hS (lv_sub hl [0, 1] rfl) hK2
  have hw := hw.2 h
  refine lv_aload_n hx hb dX14_requests_73 rfl (lv_at hl 1 rfl) ?_
  refine g15_5 C hH ho1 q1712 dX14_requests_74 ?_
  refine lv_aload_n hx hb dX14_requests_77 rfl (lv_at hl 1 rfl) ?_
  refine g15_4 C hH ho1 q1711 dX14_requests_78 ?_
  refine lv_icmp_ne (tgt := 88) hx hb dX14_requests_81 (by decide) (fun h => ?_) (fun h => ?_)
  · have hw := hw.1 h
    refine lv_iconst (v := 0) hx hb dX14_requests_88 (by decide) ?_
    exact k14_requests_J89 C σ o1 0 ho1 hw H locs ls hH hS (lv_sub hl [0, 1] rfl) hK2
  have hw := hw.2 h
  refine lv_iconst (v := 1) hx hb dX14_requests_84 (by decide) ?_
  refine lv_goto (tgt := 89) hx hb dX14_requests_85 (by decide) ?_
  exact k14_requests_J89 C σ o1 1 ho1 hw H locs ls hH hS (lv_sub hl [0, 1] rfl) hK2
def w14_requests_L2 (o1 : Nat) (Q : St → Prop) (K113 : St → Prop) : Nat → St → Int32 → Prop
  | 0, _, _ => False
  | n + 1, σ, x2 => (x2 = 0 → K113 σ) ∧ (¬ x2 = 0 → (w15_held σ o1 (fun r1 => (((imin (σ 15 o1 38) r1) ≤ 0 → (((σ 15 o1 0) = 2 → (w14_requests_J55 σ o1 Q (fun σz x2z => w14_requests_L2 o1 Q K113 n σz x2z))) ∧ (¬ (σ 15 o1 0) = 2 → ((¬ (σ 15 o1 0) = 7 → (w14_requests_J89 σ o1 0 Q (fun σz x2z => w14_requests_L2 o1 Q K113 n σz x2z))) ∧ ((σ 15 o1 0) = 7 → (w14_requests_J55 σ o1 Q (fun σz x2z => w14_requests_L2 o1 Q K113 n σz x2z))))))) ∧ (¬ (imin (σ 15 o1 38) r1) ≤ 0 → (∀ σ4, σ4 = up3 σ 15 o1 38 ((σ 15 o1 38) - (imin (σ 15 o1 38) r1)) → (w14_take σ4 o1 (imin (σ 15 o1 38) r1) (fun σ5 => (((σ5 15 o1 0) = 2 → (w14_requests_J55 σ5 o1 Q (fun σz x2z => w14_requests_L2 o1 Q K113 n σz x2z))) ∧ (¬ (σ5 15 o1 0) = 2 → ((¬ (σ5 15 o1 0) = 7 → (w14_requests_J89 σ5 o1 0 Q (fun σz x2z => w14_requests_L2 o1 Q K113 n σz x2z))) ∧ ((σ5 15 o1 0) = 7 → (w14_requests_J55 σ5 o1 Q (fun σz x2z => w14_requests_L2 o1 Q K113 n σz x2z))))))))))))))
set_option maxHeartbeats 4000000 in
theorem k14_requests_L2 {p : Program} {l : Launch} {e : Env} {s : State} {m : MethodId} {args : Array Value} {below : List Frame} {meth : Method} {c : Code} {G : Gh} {a1 : Nat → Nat → Nat} {τ : St} {Q : St → Prop} {K113 : St → Prop} (C : Cx p e s m args meth c cX14_requests 5 none "WebHostModel" G) (o1 : Nat) (ho1 : o1 < 16) :
    ∀ (n : Nat) (σ : St) (x2 : Int32), w14_requests_L2 o1 Q K113 n σ x2 → ∀ (H : Heap) (locs : List Loc) (ls : Array Slot), Hd G a1 (cmb τ σ) H → va_S (gA G) s.heap H locs → lv_has ls 5 [(0, .ref (ga G 14 0)), (1, .ref (ga G 15 o1)), (2, .int x2)] → (∀ (σ : St) , K113 σ → ∀ (H : Heap) (locs : List Loc) (ls : Array Slot), Hd G a1 (cmb τ σ) H → va_S (gA G) s.heap H locs → lv_has ls 5 [] → W p l e rmX14_requests s m args below meth c H locs 0 0 (MQ below (QVs G a1 (fun u => cmb τ u) Q) args s 0 0 (gA G)) (F0 m 113 ls [])) → W p l e rmX14_requests s m args below meth c H locs 0 0 (MQ below (QVs G a1 (fun u => cmb τ u) Q) args s 0 0 (gA G)) (F0 m 2 ls []) := by
  have hx := C.1
  have hb := C.2.1
  have hown := C.2.2.2.2.2.1
  have hts := C.2.2.2.2.2.2.1
  intro n
  induction n with
  | zero =>
    intro σ x2 hw
    exact False.elim hw
  | succ n ih =>
    intro σ x2 hw H locs ls hH hS hl hK113
    refine lv_iload_n hx hb dX14_requests_2 rfl (lv_at hl 2 rfl) ?_
    refine lv_if_eq (tgt := 113) hx hb dX14_requests_3 (by decide) (fun h => ?_) (fun h => ?_)
    · have hw := hw.1 h
      exact hK113 σ hw H locs ls hH hS (lv_sub hl [] rfl)
    have hw := hw.2 h
    refine lv_aload_n hx hb dX14_requests_6 rfl (lv_at hl 1 rfl) ?_
    refine g15_38 C hH ho1 q1754 dX14_requests_7 ?_
    refine lv_aload_n hx hb dX14_requests_10 rfl (lv_at hl 1 rfl) ?_
    refine kc_ip (rn_vp (As := []) (rest := [.int (σ 15 o1 38)]) C hH hS (by decide) rfl ho1 (m15_held l G a1 τ σ H o1 ho1 _ hw) (cwV 0 hts (lw_V q2443 q2236 q2237 q172 q2238) rfl rfl rfl kX15_held ⟨Nat.le_of_ble_eq_true rfl, Nat.le_of_ble_eq_true rfl⟩) rfl hl.1 rfl (Nat.le_of_ble_eq_true rfl) dX14_requests_11 ⟨Nat.le_of_ble_eq_true rfl, Nat.le_of_ble_eq_true rfl⟩) hS (fun r1 locs hw hS => ?_)
    refine r_imin C hl.1 q2281 (Nat.le_of_ble_eq_true rfl) (Nat.le_of_ble_eq_true rfl) (Nat.zero_le _) (Nat.zero_le _) dX14_requests_14 ?_
    refine lv_istore_n (lv' := [(3, .int (imin (σ 15 o1 38) r1)), (0, .ref (ga G 14 0)), (1, .ref (ga G 15 o1)), (2, .int x2)]) hx hb dX14_requests_17 rfl hl (by decide) rfl (fun ls hl => ?_)
    refine lv_iload_n hx hb dX14_requests_18 rfl (lv_at hl 0 rfl) ?_
    refine lv_if_le (tgt := 38) hx hb dX14_requests_19 (by decide) (fun h => ?_) (fun h => ?_)
    · have hw := hw.1 h
      refine lv_aload_n hx hb dX14_requests_38 rfl (lv_at hl 2 rfl) ?_
      refine g15_0 C hH ho1 q1707 dX14_requests_39 ?_
      refine lv_iconst (v := 2) hx hb dX14_requests_42 (by decide) ?_
      refine lv_icmp_eq (tgt := 55) hx hb dX14_requests_43 (by decide) (fun h => ?_) (fun h => ?_)
      · have hw := hw.1 h
        exact k14_requests_J55 C σ o1 ho1 hw H locs ls hH hS (lv_sub hl [1, 2] rfl) (fun σz x2z hw H locs ls hH hS hl => ih σz x2z hw H locs ls hH hS hl hK113)
      have hw := hw.2 h
      refine lv_aload_n hx hb dX14_requests_46 rfl (lv_at hl 2 rfl) ?_
      refine g15_0 C hH ho1 q1707 dX14_requests_47 ?_
      refine lv_bipush (v := 7) hx hb dX14_requests_50 (by decide) ?_
      refine lv_icmp_ne (tgt := 88) hx hb dX14_requests_52 (by decide) (fun h => ?_) (fun h => ?_)
      · have hw := hw.1 h
        refine lv_iconst (v := 0) hx hb dX14_requests_88 (by decide) ?_
        exact k14_requests_J89 C σ o1 0 ho1 hw H locs ls hH hS (lv_sub hl [1, 2] rfl) (fun σz x2z hw H locs ls hH hS hl => ih σz x2z hw H locs ls hH hS hl hK113)
      have hw := hw.2 h
      exact k14_requests_J55 C σ o1 ho1 hw H locs ls hH hS (lv_sub hl [1, 2] rfl) (fun σz x2z hw H locs ls hH hS hl => ih σz x2z hw H locs ls hH hS hl hK113)
    have hw := hw.2 h
    refine lv_aload_n hx hb dX14_requests_22 rfl (lv_at hl 2 rfl) ?_
    refine lv_aload_n hx hb dX14_requests_23 rfl (lv_at hl 2 rfl) ?_
    refine g15_38 C hH ho1 q1754 dX14_requests_24 ?_
    refine lv_iload_n hx hb dX14_requests_27 rfl (lv_at hl 0 rfl) ?_
    refine lv_isub hx hb dX14_requests_28 ?_
    refine p15_38 C hH hS ho1 q1754 dX14_requests_29 (fun σ4 e4 H locs hH hS => ?_)
    have hw := hw σ4 e4
    refine lv_aload_n hx hb dX14_requests_32 rfl (lv_at hl 1 rfl) ?_
    refine lv_aload_n hx hb dX14_requests_33 rfl (lv_at hl 2 rfl) ?_
    refine lv_iload_n hx hb dX14_requests_34 rfl (lv_at hl 0 rfl) ?_
    refine kc_v (rn_v (As := [.ref (ga G 15 o1), .int (imin (σ 15 o1 38) r1)]) (rest := []) C hH hS (by decide) rfl (by decide) (m14_take l G a1 τ σ4 o1 (imin (σ 15 o1 38) r1) ho1 _ hw) (cwV 2 hts (lw_V q2444 q2446 qs129 q171 q2447) rfl rfl rfl kX14_take ⟨Nat.le_of_ble_eq_true rfl, Nat.le_of_ble_eq_true rfl⟩) rfl hl.1 rfl (Nat.le_of_ble_eq_true rfl) dX14_requests_35 ⟨Nat.le_of_ble_eq_true rfl, Nat.le_of_ble_eq_true rfl⟩) hS (fun σ5 H locs hw hH hS => ?_)
    refine lv_aload_n hx hb dX14_requests_38 rfl (lv_at hl 2 rfl) ?_
    refine g15_0 C hH ho1 q1707 dX14_requests_39 ?_
    refine lv_iconst (v := 2) hx hb dX14_requests_42 (by decide) ?_
    refine lv_icmp_eq (tgt := 55) hx hb dX14_requests_43 (by decide) (fun h => ?_) (fun h => ?_)
    · have hw := hw.1 h
      exact k14_requests_J55 C σ5 o1 ho1 hw H locs ls hH hS (lv_sub hl [1, 2] rfl) (fun σz x2z hw H locs ls hH hS hl => ih σz x2z hw H locs ls hH hS hl hK113)
    have hw := hw.2 h
    refine lv_aload_n hx hb dX14_requests_46 rfl (lv_at hl 2 rfl) ?_
    refine g15_0 C hH ho1 q1707 dX14_requests_47 ?_
    refine lv_bipush (v := 7) hx hb dX14_requests_50 (by decide) ?_
    refine lv_icmp_ne (tgt := 88) hx hb dX14_requests_52 (by decide) (fun h => ?_) (fun h => ?_)
    · have hw := hw.1 h
      refine lv_iconst (v := 0) hx hb dX14_requests_88 (by decide) ?_
      exact k14_requests_J89 C σ5 o1 0 ho1 hw H locs ls hH hS (lv_sub hl [1, 2] rfl) (fun σz x2z hw H locs ls hH hS hl => ih σz x2z hw H locs ls hH hS hl hK113)
    have hw := hw.2 h
    exact k14_requests_J55 C σ5 o1 ho1 hw H locs ls hH hS (lv_sub hl [1, 2] rfl) (fun σz x2z hw H locs ls hH hS hl => ih σz x2z hw H locs ls hH hS hl hK113)
def w14_requests (σ : St) (o1 : Nat) (Q : St → Prop) : Prop := ∃ z6, w14_requests_L2 o1 Q (fun σ7 => Q σ7) z6 σ 1
set_option maxHeartbeats 4000000 in
theorem m14_requests (l : Launch) (G : Gh) (a1 : Nat → Nat → Nat) (τ : St) (σ : St) (o1 : Nat) (ho1 : o1 < 16) (Q : St → Prop) (hw : w14_requests σ o1 Q) : Met l yX14_requests (ws_ yX14_requests cX14_requests 5 none) rmX14_requests (PcS G a1 (cmb τ σ) [.ref (ga G 14 0), .ref (ga G 15 o1)]) (QVs G a1 (fun u => cmb τ u) Q) 0 0 (gA G) := by
  refine met_w (by decide) (Nat.le_of_ble_eq_true rfl) ?_
  intro p e s m below meth c ls C hH hS hl
  have C : Cx p e s m _ meth c cX14_requests 5 none "WebHostModel" G := C
  have hl : lv_has ls 5 [(0, .ref (ga G 14 0)), (1, .ref (ga G 15 o1))] := hl
  have hx := C.1
  have hb := C.2.1
  have hown := C.2.2.2.2.2.1
  have hts := C.2.2.2.2.2.2.1
  obtain ⟨locs, hlocs⟩ : ∃ z : List Loc, z = [] := ⟨_, rfl⟩
  obtain ⟨H, hHe⟩ : ∃ z : Heap, z = s.heap := ⟨_, rfl⟩
  have hH : Hd G a1 (cmb τ σ) H := by rw [hHe]; exact hH
  have hS : va_S (gA G) s.heap H locs := by rw [hHe, hlocs]; exact hS
  refine W.heap0 hHe.symm hlocs.symm ?_
  refine lv_iconst (v := 1) hx hb dX14_requests_0 (by decide) ?_
  refine lv_istore_n (lv' := [(2, .int 1), (0, .ref (ga G 14 0)), (1, .ref (ga G 15 o1))]) hx hb dX14_requests_1 rfl hl (by decide) rfl (fun ls hl => ?_)
  obtain ⟨n6, hw⟩ := hw
  refine k14_requests_L2 C o1 ho1 n6 σ 1 hw H locs ls hH hS (lv_sub hl [1, 2, 0] rfl) (fun σ7 hw H locs ls hH hS hl => ?_)
  exact rt_v C hH hS hw dX14_requests_113
/-! WebHost$Requests.answer(LWebHost$Inbox;LWebHost$Answer;)I -/
abbrev cX9_answer : ByteArray := prog_11_method_17_code
def yX9_answer : MethodName := ⟨RX9, "answer", "(LWebHost$Inbox;LWebHost$Answer;)I"⟩
theorem dX9_answer_0 : decode cX9_answer 0 = .ok (.aload_n 0, 1) := by decide +kernel
theorem dX9_answer_1 : decode cX9_answer 1 = .ok (.iconst 0, 1) := by decide +kernel
theorem dX9_answer_2 : decode cX9_answer 2 = .ok (.putfield 40, 3) := by decide +kernel
theorem dX9_answer_5 : decode cX9_answer 5 = .ok (.aload_n 0, 1) := by decide +kernel
theorem dX9_answer_6 : decode cX9_answer 6 = .ok (.iconst 0, 1) := by decide +kernel
theorem dX9_answer_7 : decode cX9_answer 7 = .ok (.invokevirtual 163, 3) := by decide +kernel
theorem dX9_answer_10 : decode cX9_answer 10 = .ok (.istore_n 3, 1) := by decide +kernel
theorem dX9_answer_11 : decode cX9_answer 11 = .ok (.aload_n 0, 1) := by decide +kernel
theorem dX9_answer_12 : decode cX9_answer 12 = .ok (.aload_n 0, 1) := by decide +kernel
theorem dX9_answer_13 : decode cX9_answer 13 = .ok (.iconst 0, 1) := by decide +kernel
theorem dX9_answer_14 : decode cX9_answer 14 = .ok (.iload_n 3, 1) := by decide +kernel
theorem dX9_answer_15 : decode cX9_answer 15 = .ok (.invokevirtual 166, 3) := by decide +kernel
theorem dX9_answer_18 : decode cX9_answer 18 = .ok (.invokevirtual 170, 3) := by decide +kernel
theorem dX9_answer_21 : decode cX9_answer 21 = .ok (.ifCond .ne 9, 3) := by decide +kernel
theorem dX9_answer_24 : decode cX9_answer 24 = .ok (.aload_n 0, 1) := by decide +kernel
theorem dX9_answer_25 : decode cX9_answer 25 = .ok (.aload_n 2, 1) := by decide +kernel
theorem dX9_answer_26 : decode cX9_answer 26 = .ok (.invokevirtual 173, 3) := by decide +kernel
theorem dX9_answer_29 : decode cX9_answer 29 = .ok (.ireturn, 1) := by decide +kernel
theorem dX9_answer_30 : decode cX9_answer 30 = .ok (.aload_n 0, 1) := by decide +kernel
theorem dX9_answer_31 : decode cX9_answer 31 = .ok (.aload_n 0, 1) := by decide +kernel
theorem dX9_answer_32 : decode cX9_answer 32 = .ok (.iconst 0, 1) := by decide +kernel
theorem dX9_answer_33 : decode cX9_answer 33 = .ok (.aload_n 0, 1) := by decide +kernel
theorem dX9_answer_34 : decode cX9_answer 34 = .ok (.getfield 78, 3) := by decide +kernel
theorem dX9_answer_37 : decode cX9_answer 37 = .ok (.ldc 177, 2) := by decide +kernel
theorem dX9_answer_39 : decode cX9_answer 39 = .ok (.invokevirtual 86, 3) := by decide +kernel
theorem dX9_answer_42 : decode cX9_answer 42 = .ok (.putfield 40, 3) := by decide +kernel
theorem dX9_answer_45 : decode cX9_answer 45 = .ok (.aload_n 0, 1) := by decide +kernel
theorem dX9_answer_46 : decode cX9_answer 46 = .ok (.iconst 0, 1) := by decide +kernel
theorem dX9_answer_47 : decode cX9_answer 47 = .ok (.putfield 115, 3) := by decide +kernel
theorem dX9_answer_50 : decode cX9_answer 50 = .ok (.aload_n 0, 1) := by decide +kernel
theorem dX9_answer_51 : decode cX9_answer 51 = .ok (.iconst 0, 1) := by decide +kernel
theorem dX9_answer_52 : decode cX9_answer 52 = .ok (.putfield 144, 3) := by decide +kernel
theorem dX9_answer_55 : decode cX9_answer 55 = .ok (.aload_n 0, 1) := by decide +kernel
theorem dX9_answer_56 : decode cX9_answer 56 = .ok (.iconst 0, 1) := by decide +kernel
theorem dX9_answer_57 : decode cX9_answer 57 = .ok (.putfield 150, 3) := by decide +kernel
theorem dX9_answer_60 : decode cX9_answer 60 = .ok (.aload_n 0, 1) := by decide +kernel
theorem dX9_answer_61 : decode cX9_answer 61 = .ok (.iconst 0, 1) := by decide +kernel
theorem dX9_answer_62 : decode cX9_answer 62 = .ok (.putfield 135, 3) := by decide +kernel
theorem dX9_answer_65 : decode cX9_answer 65 = .ok (.aload_n 0, 1) := by decide +kernel
theorem dX9_answer_66 : decode cX9_answer 66 = .ok (.iconst 1, 1) := by decide +kernel
theorem dX9_answer_67 : decode cX9_answer 67 = .ok (.putfield 147, 3) := by decide +kernel
theorem dX9_answer_70 : decode cX9_answer 70 = .ok (.aload_n 0, 1) := by decide +kernel
theorem dX9_answer_71 : decode cX9_answer 71 = .ok (.iconst 0, 1) := by decide +kernel
theorem dX9_answer_72 : decode cX9_answer 72 = .ok (.putfield 120, 3) := by decide +kernel
theorem dX9_answer_75 : decode cX9_answer 75 = .ok (.aload_n 0, 1) := by decide +kernel
theorem dX9_answer_76 : decode cX9_answer 76 = .ok (.iconst 0, 1) := by decide +kernel
theorem dX9_answer_77 : decode cX9_answer 77 = .ok (.putfield 153, 3) := by decide +kernel
theorem dX9_answer_80 : decode cX9_answer 80 = .ok (.aload_n 0, 1) := by decide +kernel
theorem dX9_answer_81 : decode cX9_answer 81 = .ok (.iconst 0, 1) := by decide +kernel
theorem dX9_answer_82 : decode cX9_answer 82 = .ok (.putfield 158, 3) := by decide +kernel
theorem dX9_answer_85 : decode cX9_answer 85 = .ok (.iload_n 3, 1) := by decide +kernel
theorem dX9_answer_86 : decode cX9_answer 86 = .ok (.iconst 1, 1) := by decide +kernel
theorem dX9_answer_87 : decode cX9_answer 87 = .ok (.iadd, 1) := by decide +kernel
theorem dX9_answer_88 : decode cX9_answer 88 = .ok (.istore 4, 2) := by decide +kernel
theorem dX9_answer_90 : decode cX9_answer 90 = .ok (.aload_n 0, 1) := by decide +kernel
theorem dX9_answer_91 : decode cX9_answer 91 = .ok (.iload 4, 2) := by decide +kernel
theorem dX9_answer_93 : decode cX9_answer 93 = .ok (.invokevirtual 163, 3) := by decide +kernel
theorem dX9_answer_96 : decode cX9_answer 96 = .ok (.istore_n 3, 1) := by decide +kernel
theorem dX9_answer_97 : decode cX9_answer 97 = .ok (.aload_n 0, 1) := by decide +kernel
theorem dX9_answer_98 : decode cX9_answer 98 = .ok (.iload 4, 2) := by decide +kernel
theorem dX9_answer_100 : decode cX9_answer 100 = .ok (.iload_n 3, 1) := by decide +kernel
theorem dX9_answer_101 : decode cX9_answer 101 = .ok (.invokevirtual 166, 3) := by decide +kernel
theorem dX9_answer_104 : decode cX9_answer 104 = .ok (.iload 4, 2) := by decide +kernel
theorem dX9_answer_106 : decode cX9_answer 106 = .ok (.if_icmp .le 40, 3) := by decide +kernel
theorem dX9_answer_109 : decode cX9_answer 109 = .ok (.aload_n 0, 1) := by decide +kernel
theorem dX9_answer_110 : decode cX9_answer 110 = .ok (.iload 4, 2) := by decide +kernel
theorem dX9_answer_112 : decode cX9_answer 112 = .ok (.aload_n 0, 1) := by decide +kernel
theorem dX9_answer_113 : decode cX9_answer 113 = .ok (.iload 4, 2) := by decide +kernel
theorem dX9_answer_115 : decode cX9_answer 115 = .ok (.iload_n 3, 1) := by decide +kernel
theorem dX9_answer_116 : decode cX9_answer 116 = .ok (.invokevirtual 166, 3) := by decide +kernel
theorem dX9_answer_119 : decode cX9_answer 119 = .ok (.invokevirtual 179, 3) := by decide +kernel
theorem dX9_answer_122 : decode cX9_answer 122 = .ok (.ifCond .ne 9, 3) := by decide +kernel
theorem dX9_answer_125 : decode cX9_answer 125 = .ok (.aload_n 0, 1) := by decide +kernel
theorem dX9_answer_126 : decode cX9_answer 126 = .ok (.aload_n 2, 1) := by decide +kernel
theorem dX9_answer_127 : decode cX9_answer 127 = .ok (.invokevirtual 173, 3) := by decide +kernel
theorem dX9_answer_130 : decode cX9_answer 130 = .ok (.ireturn, 1) := by decide +kernel
theorem dX9_answer_131 : decode cX9_answer 131 = .ok (.iload_n 3, 1) := by decide +kernel
theorem dX9_answer_132 : decode cX9_answer 132 = .ok (.iconst 1, 1) := by decide +kernel
theorem dX9_answer_133 : decode cX9_answer 133 = .ok (.iadd, 1) := by decide +kernel
theorem dX9_answer_134 : decode cX9_answer 134 = .ok (.istore 4, 2) := by decide +kernel
theorem dX9_answer_136 : decode cX9_answer 136 = .ok (.aload_n 0, 1) := by decide +kernel
theorem dX9_answer_137 : decode cX9_answer 137 = .ok (.iload 4, 2) := by decide +kernel
theorem dX9_answer_139 : decode cX9_answer 139 = .ok (.invokevirtual 163, 3) := by decide +kernel
theorem dX9_answer_142 : decode cX9_answer 142 = .ok (.istore_n 3, 1) := by decide +kernel
theorem dX9_answer_143 : decode cX9_answer 143 = .ok (.goto (-46), 3) := by decide +kernel
theorem dX9_answer_146 : decode cX9_answer 146 = .ok (.aload_n 0, 1) := by decide +kernel
theorem dX9_answer_147 : decode cX9_answer 147 = .ok (.getfield 90, 3) := by decide +kernel
theorem dX9_answer_150 : decode cX9_answer 150 = .ok (.ifCond .eq 14, 3) := by decide +kernel
theorem dX9_answer_153 : decode cX9_answer 153 = .ok (.aload_n 0, 1) := by decide +kernel
theorem dX9_answer_154 : decode cX9_answer 154 = .ok (.getfield 115, 3) := by decide +kernel
theorem dX9_answer_157 : decode cX9_answer 157 = .ok (.iconst 1, 1) := by decide +kernel
theorem dX9_answer_158 : decode cX9_answer 158 = .ok (.if_icmp .eq 20, 3) := by decide +kernel
theorem dX9_answer_161 : decode cX9_answer 161 = .ok (.goto 11, 3) := by decide +kernel
theorem dX9_answer_164 : decode cX9_answer 164 = .ok (.aload_n 0, 1) := by decide +kernel
theorem dX9_answer_165 : decode cX9_answer 165 = .ok (.getfield 115, 3) := by decide +kernel
theorem dX9_answer_168 : decode cX9_answer 168 = .ok (.iconst 1, 1) := by decide +kernel
theorem dX9_answer_169 : decode cX9_answer 169 = .ok (.if_icmp .le 9, 3) := by decide +kernel
theorem dX9_answer_172 : decode cX9_answer 172 = .ok (.aload_n 0, 1) := by decide +kernel
theorem dX9_answer_173 : decode cX9_answer 173 = .ok (.aload_n 2, 1) := by decide +kernel
theorem dX9_answer_174 : decode cX9_answer 174 = .ok (.invokevirtual 173, 3) := by decide +kernel
theorem dX9_answer_177 : decode cX9_answer 177 = .ok (.ireturn, 1) := by decide +kernel
theorem dX9_answer_178 : decode cX9_answer 178 = .ok (.aload_n 0, 1) := by decide +kernel
theorem dX9_answer_179 : decode cX9_answer 179 = .ok (.getfield 120, 3) := by decide +kernel
theorem dX9_answer_182 : decode cX9_answer 182 = .ok (.ifCond .eq 14, 3) := by decide +kernel
theorem dX9_answer_185 : decode cX9_answer 185 = .ok (.aload_n 0, 1) := by decide +kernel
theorem dX9_answer_186 : decode cX9_answer 186 = .ok (.aload_n 2, 1) := by decide +kernel
theorem dX9_answer_187 : decode cX9_answer 187 = .ok (.sipush 501, 3) := by decide +kernel
theorem dX9_answer_190 : decode cX9_answer 190 = .ok (.ldc 183, 2) := by decide +kernel
theorem dX9_answer_192 : decode cX9_answer 192 = .ok (.invokevirtual 185, 3) := by decide +kernel
theorem dX9_answer_195 : decode cX9_answer 195 = .ok (.ireturn, 1) := by decide +kernel
theorem dX9_answer_196 : decode cX9_answer 196 = .ok (.aload_n 0, 1) := by decide +kernel
theorem dX9_answer_197 : decode cX9_answer 197 = .ok (.getfield 144, 3) := by decide +kernel
theorem dX9_answer_200 : decode cX9_answer 200 = .ok (.iconst 1, 1) := by decide +kernel
theorem dX9_answer_201 : decode cX9_answer 201 = .ok (.if_icmp .gt 10, 3) := by decide +kernel
theorem dX9_answer_204 : decode cX9_answer 204 = .ok (.aload_n 0, 1) := by decide +kernel
theorem dX9_answer_205 : decode cX9_answer 205 = .ok (.getfield 147, 3) := by decide +kernel
theorem dX9_answer_208 : decode cX9_answer 208 = .ok (.ifCond .ne 9, 3) := by decide +kernel
theorem dX9_answer_211 : decode cX9_answer 211 = .ok (.aload_n 0, 1) := by decide +kernel
theorem dX9_answer_212 : decode cX9_answer 212 = .ok (.aload_n 2, 1) := by decide +kernel
theorem dX9_answer_213 : decode cX9_answer 213 = .ok (.invokevirtual 173, 3) := by decide +kernel
theorem dX9_answer_216 : decode cX9_answer 216 = .ok (.ireturn, 1) := by decide +kernel
theorem dX9_answer_217 : decode cX9_answer 217 = .ok (.aload_n 0, 1) := by decide +kernel
theorem dX9_answer_218 : decode cX9_answer 218 = .ok (.getfield 150, 3) := by decide +kernel
theorem dX9_answer_221 : decode cX9_answer 221 = .ok (.ldc 189, 2) := by decide +kernel
theorem dX9_answer_223 : decode cX9_answer 223 = .ok (.if_icmp .le 14, 3) := by decide +kernel
theorem dX9_answer_226 : decode cX9_answer 226 = .ok (.aload_n 0, 1) := by decide +kernel
theorem dX9_answer_227 : decode cX9_answer 227 = .ok (.aload_n 2, 1) := by decide +kernel
theorem dX9_answer_228 : decode cX9_answer 228 = .ok (.sipush 413, 3) := by decide +kernel
theorem dX9_answer_231 : decode cX9_answer 231 = .ok (.ldc 190, 2) := by decide +kernel
theorem dX9_answer_233 : decode cX9_answer 233 = .ok (.invokevirtual 185, 3) := by decide +kernel
theorem dX9_answer_236 : decode cX9_answer 236 = .ok (.ireturn, 1) := by decide +kernel
theorem dX9_answer_237 : decode cX9_answer 237 = .ok (.aload_n 0, 1) := by decide +kernel
theorem dX9_answer_238 : decode cX9_answer 238 = .ok (.getfield 90, 3) := by decide +kernel
theorem dX9_answer_241 : decode cX9_answer 241 = .ok (.ifCond .eq 10, 3) := by decide +kernel
theorem dX9_answer_244 : decode cX9_answer 244 = .ok (.aload_n 0, 1) := by decide +kernel
theorem dX9_answer_245 : decode cX9_answer 245 = .ok (.getfield 153, 3) := by decide +kernel
theorem dX9_answer_248 : decode cX9_answer 248 = .ok (.goto 22, 3) := by decide +kernel
theorem dX9_answer_251 : decode cX9_answer 251 = .ok (.aload_n 0, 1) := by decide +kernel
theorem dX9_answer_252 : decode cX9_answer 252 = .ok (.getfield 153, 3) := by decide +kernel
theorem dX9_answer_255 : decode cX9_answer 255 = .ok (.ifCond .ne 10, 3) := by decide +kernel
theorem dX9_answer_258 : decode cX9_answer 258 = .ok (.aload_n 0, 1) := by decide +kernel
theorem dX9_answer_259 : decode cX9_answer 259 = .ok (.getfield 158, 3) := by decide +kernel
theorem dX9_answer_262 : decode cX9_answer 262 = .ok (.ifCond .ne 7, 3) := by decide +kernel
theorem dX9_answer_265 : decode cX9_answer 265 = .ok (.iconst 1, 1) := by decide +kernel
theorem dX9_answer_266 : decode cX9_answer 266 = .ok (.goto 4, 3) := by decide +kernel
theorem dX9_answer_269 : decode cX9_answer 269 = .ok (.iconst 0, 1) := by decide +kernel
theorem dX9_answer_270 : decode cX9_answer 270 = .ok (.istore 5, 2) := by decide +kernel
theorem dX9_answer_272 : decode cX9_answer 272 = .ok (.aload_n 0, 1) := by decide +kernel
theorem dX9_answer_273 : decode cX9_answer 273 = .ok (.getfield 40, 3) := by decide +kernel
theorem dX9_answer_276 : decode cX9_answer 276 = .ok (.ifCond .ne 31, 3) := by decide +kernel
theorem dX9_answer_279 : decode cX9_answer 279 = .ok (.aload_n 0, 1) := by decide +kernel
theorem dX9_answer_280 : decode cX9_answer 280 = .ok (.iconst 0, 1) := by decide +kernel
theorem dX9_answer_281 : decode cX9_answer 281 = .ok (.aload_n 0, 1) := by decide +kernel
theorem dX9_answer_282 : decode cX9_answer 282 = .ok (.getfield 78, 3) := by decide +kernel
theorem dX9_answer_285 : decode cX9_answer 285 = .ok (.ldc 192, 2) := by decide +kernel
theorem dX9_answer_287 : decode cX9_answer 287 = .ok (.invokevirtual 86, 3) := by decide +kernel
theorem dX9_answer_290 : decode cX9_answer 290 = .ok (.ifCond .ne 17, 3) := by decide +kernel
theorem dX9_answer_293 : decode cX9_answer 293 = .ok (.aload_n 0, 1) := by decide +kernel
theorem dX9_answer_294 : decode cX9_answer 294 = .ok (.aload_n 1, 1) := by decide +kernel
theorem dX9_answer_295 : decode cX9_answer 295 = .ok (.aload_n 2, 1) := by decide +kernel
theorem dX9_answer_296 : decode cX9_answer 296 = .ok (.sipush 405, 3) := by decide +kernel
theorem dX9_answer_299 : decode cX9_answer 299 = .ok (.ldc 194, 2) := by decide +kernel
theorem dX9_answer_301 : decode cX9_answer 301 = .ok (.iload 5, 2) := by decide +kernel
theorem dX9_answer_303 : decode cX9_answer 303 = .ok (.invokevirtual 196, 3) := by decide +kernel
theorem dX9_answer_306 : decode cX9_answer 306 = .ok (.ireturn, 1) := by decide +kernel
theorem dX9_answer_307 : decode cX9_answer 307 = .ok (.aload_n 0, 1) := by decide +kernel
theorem dX9_answer_308 : decode cX9_answer 308 = .ok (.invokevirtual 200, 3) := by decide +kernel
theorem dX9_answer_311 : decode cX9_answer 311 = .ok (.ifCond .ne 9, 3) := by decide +kernel
theorem dX9_answer_314 : decode cX9_answer 314 = .ok (.aload_n 0, 1) := by decide +kernel
theorem dX9_answer_315 : decode cX9_answer 315 = .ok (.aload_n 2, 1) := by decide +kernel
theorem dX9_answer_316 : decode cX9_answer 316 = .ok (.invokevirtual 173, 3) := by decide +kernel
theorem dX9_answer_319 : decode cX9_answer 319 = .ok (.ireturn, 1) := by decide +kernel
theorem dX9_answer_320 : decode cX9_answer 320 = .ok (.aload_n 0, 1) := by decide +kernel
theorem dX9_answer_321 : decode cX9_answer 321 = .ok (.getfield 204, 3) := by decide +kernel
theorem dX9_answer_324 : decode cX9_answer 324 = .ok (.bipush 47, 2) := by decide +kernel
theorem dX9_answer_326 : decode cX9_answer 326 = .ok (.if_icmp .le 7, 3) := by decide +kernel
theorem dX9_answer_329 : decode cX9_answer 329 = .ok (.iconst (-1), 1) := by decide +kernel
theorem dX9_answer_330 : decode cX9_answer 330 = .ok (.goto 18, 3) := by decide +kernel
theorem dX9_answer_333 : decode cX9_answer 333 = .ok (.aload_n 0, 1) := by decide +kernel
theorem dX9_answer_334 : decode cX9_answer 334 = .ok (.getfield 18, 3) := by decide +kernel
theorem dX9_answer_337 : decode cX9_answer 337 = .ok (.aload_n 0, 1) := by decide +kernel
theorem dX9_answer_338 : decode cX9_answer 338 = .ok (.getfield 15, 3) := by decide +kernel
theorem dX9_answer_341 : decode cX9_answer 341 = .ok (.aload_n 0, 1) := by decide +kernel
theorem dX9_answer_342 : decode cX9_answer 342 = .ok (.getfield 204, 3) := by decide +kernel
theorem dX9_answer_345 : decode cX9_answer 345 = .ok (.invokevirtual 207, 3) := by decide +kernel
theorem dX9_answer_348 : decode cX9_answer 348 = .ok (.istore 6, 2) := by decide +kernel
theorem dX9_answer_350 : decode cX9_answer 350 = .ok (.iload 6, 2) := by decide +kernel
theorem dX9_answer_352 : decode cX9_answer 352 = .ok (.ifCond .ge 17, 3) := by decide +kernel
theorem dX9_answer_355 : decode cX9_answer 355 = .ok (.aload_n 0, 1) := by decide +kernel
theorem dX9_answer_356 : decode cX9_answer 356 = .ok (.aload_n 1, 1) := by decide +kernel
theorem dX9_answer_357 : decode cX9_answer 357 = .ok (.aload_n 2, 1) := by decide +kernel
theorem dX9_answer_358 : decode cX9_answer 358 = .ok (.sipush 404, 3) := by decide +kernel
theorem dX9_answer_361 : decode cX9_answer 361 = .ok (.ldc 213, 2) := by decide +kernel
theorem dX9_answer_363 : decode cX9_answer 363 = .ok (.iload 5, 2) := by decide +kernel
theorem dX9_answer_365 : decode cX9_answer 365 = .ok (.invokevirtual 196, 3) := by decide +kernel
theorem dX9_answer_368 : decode cX9_answer 368 = .ok (.ireturn, 1) := by decide +kernel
theorem dX9_answer_369 : decode cX9_answer 369 = .ok (.aload_n 1, 1) := by decide +kernel
theorem dX9_answer_370 : decode cX9_answer 370 = .ok (.aload_n 0, 1) := by decide +kernel
theorem dX9_answer_371 : decode cX9_answer 371 = .ok (.getfield 150, 3) := by decide +kernel
theorem dX9_answer_374 : decode cX9_answer 374 = .ok (.putfield 215, 3) := by decide +kernel
theorem dX9_answer_377 : decode cX9_answer 377 = .ok (.aload_n 0, 1) := by decide +kernel
theorem dX9_answer_378 : decode cX9_answer 378 = .ok (.getfield 18, 3) := by decide +kernel
theorem dX9_answer_381 : decode cX9_answer 381 = .ok (.iload 6, 2) := by decide +kernel
theorem dX9_answer_383 : decode cX9_answer 383 = .ok (.invokevirtual 218, 3) := by decide +kernel
theorem dX9_answer_386 : decode cX9_answer 386 = .ok (.ifCond .ne 14, 3) := by decide +kernel
theorem dX9_answer_389 : decode cX9_answer 389 = .ok (.aload_n 0, 1) := by decide +kernel
theorem dX9_answer_390 : decode cX9_answer 390 = .ok (.aload_n 2, 1) := by decide +kernel
theorem dX9_answer_391 : decode cX9_answer 391 = .ok (.sipush 500, 3) := by decide +kernel
theorem dX9_answer_394 : decode cX9_answer 394 = .ok (.ldc 221, 2) := by decide +kernel
theorem dX9_answer_396 : decode cX9_answer 396 = .ok (.invokevirtual 185, 3) := by decide +kernel
theorem dX9_answer_399 : decode cX9_answer 399 = .ok (.ireturn, 1) := by decide +kernel
theorem dX9_answer_400 : decode cX9_answer 400 = .ok (.aload_n 0, 1) := by decide +kernel
theorem dX9_answer_401 : decode cX9_answer 401 = .ok (.getfield 135, 3) := by decide +kernel
theorem dX9_answer_404 : decode cX9_answer 404 = .ok (.iconst 1, 1) := by decide +kernel
theorem dX9_answer_405 : decode cX9_answer 405 = .ok (.if_icmp .ne 24, 3) := by decide +kernel
theorem dX9_answer_408 : decode cX9_answer 408 = .ok (.aload_n 0, 1) := by decide +kernel
theorem dX9_answer_409 : decode cX9_answer 409 = .ok (.iload 6, 2) := by decide +kernel
theorem dX9_answer_411 : decode cX9_answer 411 = .ok (.invokevirtual 223, 3) := by decide +kernel
theorem dX9_answer_414 : decode cX9_answer 414 = .ok (.ifCond .eq 15, 3) := by decide +kernel
theorem dX9_answer_417 : decode cX9_answer 417 = .ok (.aload_n 0, 1) := by decide +kernel
theorem dX9_answer_418 : decode cX9_answer 418 = .ok (.aload_n 2, 1) := by decide +kernel
theorem dX9_answer_419 : decode cX9_answer 419 = .ok (.iload 6, 2) := by decide +kernel
theorem dX9_answer_421 : decode cX9_answer 421 = .ok (.iload 5, 2) := by decide +kernel
theorem dX9_answer_423 : decode cX9_answer 423 = .ok (.invokevirtual 226, 3) := by decide +kernel
theorem dX9_answer_426 : decode cX9_answer 426 = .ok (.goto 12, 3) := by decide +kernel
theorem dX9_answer_429 : decode cX9_answer 429 = .ok (.aload_n 0, 1) := by decide +kernel
theorem dX9_answer_430 : decode cX9_answer 430 = .ok (.aload_n 2, 1) := by decide +kernel
theorem dX9_answer_431 : decode cX9_answer 431 = .ok (.iload 6, 2) := by decide +kernel
theorem dX9_answer_433 : decode cX9_answer 433 = .ok (.iload 5, 2) := by decide +kernel
theorem dX9_answer_435 : decode cX9_answer 435 = .ok (.invokevirtual 230, 3) := by decide +kernel
theorem dX9_answer_438 : decode cX9_answer 438 = .ok (.iload 5, 2) := by decide +kernel
theorem dX9_answer_440 : decode cX9_answer 440 = .ok (.ifCond .eq 7, 3) := by decide +kernel
theorem dX9_answer_443 : decode cX9_answer 443 = .ok (.iconst 2, 1) := by decide +kernel
theorem dX9_answer_444 : decode cX9_answer 444 = .ok (.goto 4, 3) := by decide +kernel
theorem dX9_answer_447 : decode cX9_answer 447 = .ok (.iconst 1, 1) := by decide +kernel
theorem dX9_answer_448 : decode cX9_answer 448 = .ok (.ireturn, 1) := by decide +kernel
def rmX9_answer : Room := { frames := 10, cells := 1, slots := 66047, locals := 219 }
theorem kX9_answer : yX9_answer.cls = "WebHost$Requests" ∧ yX9_answer.cls ≠ "java/lang/invoke/MethodHandle" ∧ yX9_answer.cls ≠ "java/lang/invoke/VarHandle" ∧ (parseMethodDescriptor yX9_answer.desc).map (fun d => d.parameters.length) = some 2 := by decide +kernel
def w9_answer_L97 (o1 : Nat) (o2 : Nat) (Q : Int32 → St → Prop) (K125 : St → Prop) (K146 : St → Prop) : Nat → St → Int32 → Int32 → Prop
  | 0, _, _, _ => False
  | n + 1, σ, x3, x4 => w9_textEnd σ x4 x3 (fun r16 => ((r16 ≤ x4 → K146 σ) ∧ (¬ r16 ≤ x4 → (w9_textEnd σ x4 x3 (fun r17 => (w9_isField σ x4 r17 (fun r18 σ18 => ((¬ r18 = 0 → (w9_lineEnd σ18 (x3 + 1) (fun r19 => (w9_answer_L97 o1 o2 Q K125 K146 n σ18 r19 (x3 + 1))))) ∧ (r18 = 0 → K125 σ18)))))))))
set_option maxHeartbeats 4000000 in
theorem k9_answer_L97 {p : Program} {l : Launch} {e : Env} {s : State} {m : MethodId} {args : Array Value} {below : List Frame} {meth : Method} {c : Code} {G : Gh} {a1 : Nat → Nat → Nat} {τ : St} {Q : Int32 → St → Prop} {K125 : St → Prop} {K146 : St → Prop} (C : Cx p e s m args meth c cX9_answer 7 (some .int) "WebHost$Requests" G) (o1 : Nat) (o2 : Nat) (ho1 : o1 < 16) (ho2 : o2 < 16) :
    ∀ (n : Nat) (σ : St) (x3 : Int32) (x4 : Int32), w9_answer_L97 o1 o2 Q K125 K146 n σ x3 x4 → ∀ (H : Heap) (locs : List Loc) (ls : Array Slot), Hd G a1 (cmb σ τ) H → va_S (gA G) s.heap H locs → lv_has ls 7 [(0, .ref (ga G 9 0)), (1, .ref (ga G 12 o1)), (2, .ref (ga G 13 o2)), (3, .int x3), (4, .int x4)] → (∀ (σ : St) , K125 σ → ∀ (H : Heap) (locs : List Loc) (ls : Array Slot), Hd G a1 (cmb σ τ) H → va_S (gA G) s.heap H locs → lv_has ls 7 [(0, .ref (ga G 9 0)), (2, .ref (ga G 13 o2))] → W p l e rmX9_answer s m args below meth c H locs 0 0 (MQ below (QIa G (fun u => cmb u τ) Q) args s 1 66047 (gA G)) (F0 m 125 ls [])) → (∀ (σ : St) , K146 σ → ∀ (H : Heap) (locs : List Loc) (ls : Array Slot), Hd G a1 (cmb σ τ) H → va_S (gA G) s.heap H locs → lv_has ls 7 [(0, .ref (ga G 9 0)), (1, .ref (ga G 12 o1)), (2, .ref (ga G 13 o2))] → W p l e rmX9_answer s m args below meth c H locs 0 0 (MQ below (QIa G (fun u => cmb u τ) Q) args s 1 66047 (gA G)) (F0 m 146 ls [])) → W p l e rmX9_answer s m args below meth c H locs 0 0 (MQ below (QIa G (fun u => cmb u τ) Q) args s 1 66047 (gA G)) (F0 m 97 ls []) := by
  have hx := C.1
  have hb := C.2.1
  have hown := C.2.2.2.2.2.1
  have hts := C.2.2.2.2.2.2.1
  intro n
  induction n with
  | zero =>
    intro σ x3 x4 hw
    exact False.elim hw
  | succ n ih =>
    intro σ x3 x4 hw H locs ls hH hS hl hK125 hK146
    refine lv_aload_n hx hb dX9_answer_97 rfl (lv_at hl 0 rfl) ?_
    refine lv_iload hx hb dX9_answer_98 (lv_at hl 4 rfl) ?_
    refine lv_iload_n hx hb dX9_answer_100 rfl (lv_at hl 3 rfl) ?_
    refine kc_ip (rn_vp (As := [.int x4, .int x3]) (rest := []) C hH hS (by decide) rfl (by decide) (m9_textEnd l G a1 τ σ H x4 x3 _ hw) (cwV 2 hts (lw_V q1357 q1359 qs54 q166 q1360) rfl rfl rfl kX9_textEnd ⟨Nat.le_of_ble_eq_true rfl, Nat.le_of_ble_eq_true rfl⟩) rfl hl.1 rfl (Nat.le_of_ble_eq_true rfl) dX9_answer_101 ⟨Nat.le_of_ble_eq_true rfl, Nat.le_of_ble_eq_true rfl⟩) hS (fun r16 locs hw hS => ?_)
    refine lv_iload hx hb dX9_answer_104 (lv_at hl 4 rfl) ?_
    refine lv_icmp_le (tgt := 146) hx hb dX9_answer_106 (by decide) (fun h => ?_) (fun h => ?_)
    · have hw := hw.1 h
      exact hK146 σ hw H locs ls hH hS (lv_sub hl [0, 1, 2] rfl)
    have hw := hw.2 h
    refine lv_aload_n hx hb dX9_answer_109 rfl (lv_at hl 0 rfl) ?_
    refine lv_iload hx hb dX9_answer_110 (lv_at hl 4 rfl) ?_
    refine lv_aload_n hx hb dX9_answer_112 rfl (lv_at hl 0 rfl) ?_
    refine lv_iload hx hb dX9_answer_113 (lv_at hl 4 rfl) ?_
    refine lv_iload_n hx hb dX9_answer_115 rfl (lv_at hl 3 rfl) ?_
    refine kc_ip (rn_vp (As := [.int x4, .int x3]) (rest := [.int x4, .ref (ga G 9 0)]) C hH hS (by decide) rfl (by decide) (m9_textEnd l G a1 τ σ H x4 x3 _ hw) (cwV 2 hts (lw_V q1357 q1359 qs54 q166 q1360) rfl rfl rfl kX9_textEnd ⟨Nat.le_of_ble_eq_true rfl, Nat.le_of_ble_eq_true rfl⟩) rfl hl.1 rfl (Nat.le_of_ble_eq_true rfl) dX9_answer_116 ⟨Nat.le_of_ble_eq_true rfl, Nat.le_of_ble_eq_true rfl⟩) hS (fun r17 locs hw hS => ?_)
    refine kc_i (rn_v (As := [.int x4, .int r17]) (rest := []) C hH hS (by decide) rfl (by decide) (m9_isField l G a1 τ σ x4 r17 _ hw) (cwV 2 hts (lw_V q1385 q1387 qs59 q166 q1388) rfl rfl rfl kX9_isField ⟨Nat.le_of_ble_eq_true rfl, Nat.le_of_ble_eq_true rfl⟩) rfl hl.1 rfl (Nat.le_of_ble_eq_true rfl) dX9_answer_119 ⟨Nat.le_of_ble_eq_true rfl, Nat.le_of_ble_eq_true rfl⟩) hS (fun r18 σ18 H locs hw hH hS => ?_)
    refine lv_if_ne (tgt := 131) hx hb dX9_answer_122 (by decide) (fun h => ?_) (fun h => ?_)
    · have hw := hw.1 h
      refine lv_iload_n hx hb dX9_answer_131 rfl (lv_at hl 3 rfl) ?_
      refine lv_iconst (v := 1) hx hb dX9_answer_132 (by decide) ?_
      refine lv_iadd hx hb dX9_answer_133 ?_
      refine lv_istore (lv' := [(4, .int (x3 + 1)), (0, .ref (ga G 9 0)), (1, .ref (ga G 12 o1)), (2, .ref (ga G 13 o2)), (3, .int x3)]) hx hb dX9_answer_134 hl (by decide) rfl (fun ls hl => ?_)
      refine lv_aload_n hx hb dX9_answer_136 rfl (lv_at hl 1 rfl) ?_
      refine lv_iload hx hb dX9_answer_137 (lv_at hl 0 rfl) ?_
      refine kc_ip (rn_vp (As := [.int (x3 + 1)]) (rest := []) C hH hS (by decide) rfl (by decide) (m9_lineEnd l G a1 τ σ18 H (x3 + 1) _ hw) (cwV 1 hts (lw_V q1353 q1355 qs53 q166 q1356) rfl rfl rfl kX9_lineEnd ⟨Nat.le_of_ble_eq_true rfl, Nat.le_of_ble_eq_true rfl⟩) rfl hl.1 rfl (Nat.le_of_ble_eq_true rfl) dX9_answer_139 ⟨Nat.le_of_ble_eq_true rfl, Nat.le_of_ble_eq_true rfl⟩) hS (fun r19 locs hw hS => ?_)
      refine lv_istore_n (lv' := [(3, .int r19), (4, .int (x3 + 1)), (0, .ref (ga G 9 0)), (1, .ref (ga G 12 o1)), (2, .ref (ga G 13 o2))]) hx hb dX9_answer_142 rfl hl (by decide) rfl (fun ls hl => ?_)
      refine lv_goto (tgt := 97) hx hb dX9_answer_143 (by decide) ?_
      exact ih σ18 r19 (x3 + 1) hw H locs ls hH hS (lv_sub hl [2, 3, 4, 0, 1] rfl) hK125 hK146
    have hw := hw.2 h
    exact hK125 σ18 hw H locs ls hH hS (lv_sub hl [0, 2] rfl)
def w9_answer_J429 (σ : St) (o2 : Nat) (x5 : Int32) (x6 : Int32) (Q : Int32 → St → Prop) : Prop := w9_file σ o2 x6 x5 (fun σ29 => ((x5 = 0 → Q 1 σ29) ∧ (¬ x5 = 0 → Q 2 σ29)))
set_option maxHeartbeats 4000000 in
theorem k9_answer_J429 {p : Program} {l : Launch} {e : Env} {s : State} {m : MethodId} {args : Array Value} {below : List Frame} {meth : Method} {c : Code} {G : Gh} {a1 : Nat → Nat → Nat} {τ : St} {Q : Int32 → St → Prop} (C : Cx p e s m args meth c cX9_answer 7 (some .int) "WebHost$Requests" G) (σ : St) (o2 : Nat) (x5 : Int32) (x6 : Int32) (ho2 : o2 < 16) (hw : w9_answer_J429 σ o2 x5 x6 Q) (H : Heap) (locs : List Loc) (ls : Array Slot) (hH : Hd G a1 (cmb σ τ) H) (hS : va_S (gA G) s.heap H locs) (hl : lv_has ls 7 [(0, .ref (ga G 9 0)), (2, .ref (ga G 13 o2)), (5, .int x5), (6, .int x6)]) : W p l e rmX9_answer s m args below meth c H locs 0 0 (MQ below (QIa G (fun u => cmb u τ) Q) args s 1 66047 (gA G)) (F0 m 429 ls []) := by
  have hx := C.1
  have hb := C.2.1
  have hown := C.2.2.2.2.2.1
  have hts := C.2.2.2.2.2.2.1
  refine lv_aload_n hx hb dX9_answer_429 rfl (lv_at hl 0 rfl) ?_
  refine lv_aload_n hx hb dX9_answer_430 rfl (lv_at hl 1 rfl) ?_
  refine lv_iload hx hb dX9_answer_431 (lv_at hl 3 rfl) ?_
  refine lv_iload hx hb dX9_answer_433 (lv_at hl 2 rfl) ?_
  refine kc_va (rn_v (As := [.ref (ga G 13 o2), .int x6, .int x5]) (rest := []) C hH hS (by decide) rfl (by decide) (m9_file l G a1 τ σ o2 x6 x5 ho2 _ hw) (cwV 3 hts (lw_V q1535 q1537 qs70 q166 q1538) rfl rfl rfl kX9_file ⟨Nat.le_of_ble_eq_true rfl, Nat.le_of_ble_eq_true rfl⟩) rfl hl.1 rfl (Nat.le_of_ble_eq_true rfl) dX9_answer_435 ⟨Nat.le_of_ble_eq_true rfl, Nat.le_of_ble_eq_true rfl⟩) hS (fun σ29 a29 H locs hw hH hS => ?_)
  refine W.cs (cells' := 1) (slots' := 66047) rfl rfl ?_
  refine lv_iload hx hb dX9_answer_438 (lv_at hl 2 rfl) ?_
  refine lv_if_eq (tgt := 447) hx hb dX9_answer_440 (by decide) (fun h => ?_) (fun h => ?_)
  · have hw := hw.1 h
    refine lv_iconst (v := 1) hx hb dX9_answer_447 (by decide) ?_
    exact rt_ia C rfl hH hS hw dX9_answer_448
  have hw := hw.2 h
  refine lv_iconst (v := 2) hx hb dX9_answer_443 (by decide) ?_
  refine lv_goto (tgt := 448) hx hb dX9_answer_444 (by decide) ?_
  exact rt_ia C rfl hH hS hw dX9_answer_448
def w9_answer_J348 (σ : St) (o1 : Nat) (o2 : Nat) (x5 : Int32) (xs0 : Int32) (Q : Int32 → St → Prop) : Prop := (0 ≤ xs0 → (∀ σ27, σ27 = up3 σ 12 o1 3 (σ 9 0 9) → (w1_isWhole σ27 xs0 (fun r28 => ((¬ r28 = 0 → ((¬ (σ27 9 0 10) = 1 → w9_answer_J429 σ27 o2 x5 xs0 Q) ∧ ((σ27 9 0 10) = 1 → (w9_isMarked σ27 xs0 (fun r30 => ((r30 = 0 → w9_answer_J429 σ27 o2 x5 xs0 Q) ∧ (¬ r30 = 0 → (w9_same σ27 o2 xs0 x5 (fun σ31 => ((x5 = 0 → Q 1 σ31) ∧ (¬ x5 = 0 → Q 2 σ31))))))))))) ∧ (r28 = 0 → (w9_last σ27 o2 500 18 (fun r32 σ32 => (Q r32 σ32))))))))) ∧ (¬ 0 ≤ xs0 → (w9_kept σ o1 o2 404 17 x5 (fun r33 σ33 => (Q r33 σ33))))
set_option maxHeartbeats 4000000 in
theorem k9_answer_J348 {p : Program} {l : Launch} {e : Env} {s : State} {m : MethodId} {args : Array Value} {below : List Frame} {meth : Method} {c : Code} {G : Gh} {a1 : Nat → Nat → Nat} {τ : St} {Q : Int32 → St → Prop} (C : Cx p e s m args meth c cX9_answer 7 (some .int) "WebHost$Requests" G) (σ : St) (o1 : Nat) (o2 : Nat) (x5 : Int32) (xs0 : Int32) (ho1 : o1 < 16) (ho2 : o2 < 16) (hw : w9_answer_J348 σ o1 o2 x5 xs0 Q) (H : Heap) (locs : List Loc) (ls : Array Slot) (hH : Hd G a1 (cmb σ τ) H) (hS : va_S (gA G) s.heap H locs) (hl : lv_has ls 7 [(0, .ref (ga G 9 0)), (1, .ref (ga G 12 o1)), (2, .ref (ga G 13 o2)), (5, .int x5)]) : W p l e rmX9_answer s m args below meth c H locs 0 0 (MQ below (QIa G (fun u => cmb u τ) Q) args s 1 66047 (gA G)) (F0 m 348 ls [.int xs0]) := by
  have hx := C.1
  have hb := C.2.1
  have hown := C.2.2.2.2.2.1
  have hts := C.2.2.2.2.2.2.1
  refine lv_istore (lv' := [(6, .int xs0), (0, .ref (ga G 9 0)), (1, .ref (ga G 12 o1)), (2, .ref (ga G 13 o2)), (5, .int x5)]) hx hb dX9_answer_348 hl (by decide) rfl (fun ls hl => ?_)
  refine lv_iload hx hb dX9_answer_350 (lv_at hl 0 rfl) ?_
  refine lv_if_ge (tgt := 369) hx hb dX9_answer_352 (by decide) (fun h => ?_) (fun h => ?_)
  · have hw := hw.1 h
    refine lv_aload_n hx hb dX9_answer_369 rfl (lv_at hl 2 rfl) ?_
    refine lv_aload_n hx hb dX9_answer_370 rfl (lv_at hl 1 rfl) ?_
    refine g9_9 C hH q457 dX9_answer_371 ?_
    refine p12_3 C hH hS ho1 q583 dX9_answer_374 (fun σ27 e27 H locs hH hS => ?_)
    have hw := hw σ27 e27
    refine lv_aload_n hx hb dX9_answer_377 rfl (lv_at hl 1 rfl) ?_
    refine g9_0 C hH q448 dX9_answer_378 ?_
    refine lv_iload hx hb dX9_answer_381 (lv_at hl 0 rfl) ?_
    refine kc_ip (rn_vp (As := [.int xs0]) (rest := []) C hH hS (by decide) rfl (by decide) (m1_isWhole l G a1 τ σ27 H xs0 _ hw) (cwV 1 hts (lw_V q1504 q1505 q1506 q158 q1507) rfl rfl rfl kX1_isWhole ⟨Nat.le_of_ble_eq_true rfl, Nat.le_of_ble_eq_true rfl⟩) rfl hl.1 rfl (Nat.le_of_ble_eq_true rfl) dX9_answer_383 ⟨Nat.le_of_ble_eq_true rfl, Nat.le_of_ble_eq_true rfl⟩) hS (fun r28 locs hw hS => ?_)
    refine lv_if_ne (tgt := 400) hx hb dX9_answer_386 (by decide) (fun h => ?_) (fun h => ?_)
    · have hw := hw.1 h
      refine lv_aload_n hx hb dX9_answer_400 rfl (lv_at hl 1 rfl) ?_
      refine g9_10 C hH q458 dX9_answer_401 ?_
      refine lv_iconst (v := 1) hx hb dX9_answer_404 (by decide) ?_
      refine lv_icmp_ne (tgt := 429) hx hb dX9_answer_405 (by decide) (fun h => ?_) (fun h => ?_)
      · have hw := hw.1 h
        exact k9_answer_J429 C σ27 o2 x5 xs0 ho2 hw H locs ls hH hS (lv_sub hl [1, 3, 4, 0] rfl)
      have hw := hw.2 h
      refine lv_aload_n hx hb dX9_answer_408 rfl (lv_at hl 1 rfl) ?_
      refine lv_iload hx hb dX9_answer_409 (lv_at hl 0 rfl) ?_
      refine kc_ip (rn_vp (As := [.int xs0]) (rest := []) C hH hS (by decide) rfl (by decide) (m9_isMarked l G a1 τ σ27 H xs0 _ hw) (cwV 1 hts (lw_V q1513 q1515 qs67 q166 q1516) rfl rfl rfl kX9_isMarked ⟨Nat.le_of_ble_eq_true rfl, Nat.le_of_ble_eq_true rfl⟩) rfl hl.1 rfl (Nat.le_of_ble_eq_true rfl) dX9_answer_411 ⟨Nat.le_of_ble_eq_true rfl, Nat.le_of_ble_eq_true rfl⟩) hS (fun r30 locs hw hS => ?_)
      refine lv_if_eq (tgt := 429) hx hb dX9_answer_414 (by decide) (fun h => ?_) (fun h => ?_)
      · have hw := hw.1 h
        exact k9_answer_J429 C σ27 o2 x5 xs0 ho2 hw H locs ls hH hS (lv_sub hl [1, 3, 4, 0] rfl)
      have hw := hw.2 h
      refine lv_aload_n hx hb dX9_answer_417 rfl (lv_at hl 1 rfl) ?_
      refine lv_aload_n hx hb dX9_answer_418 rfl (lv_at hl 3 rfl) ?_
      refine lv_iload hx hb dX9_answer_419 (lv_at hl 0 rfl) ?_
      refine lv_iload hx hb dX9_answer_421 (lv_at hl 4 rfl) ?_
      refine kc_va (rn_v (As := [.ref (ga G 13 o2), .int xs0, .int x5]) (rest := []) C hH hS (by decide) rfl (by decide) (m9_same l G a1 τ σ27 o2 xs0 x5 ho2 _ hw) (cwV 3 hts (lw_V q1520 q1522 qs68 q166 q1523) rfl rfl rfl kX9_same ⟨Nat.le_of_ble_eq_true rfl, Nat.le_of_ble_eq_true rfl⟩) rfl hl.1 rfl (Nat.le_of_ble_eq_true rfl) dX9_answer_423 ⟨Nat.le_of_ble_eq_true rfl, Nat.le_of_ble_eq_true rfl⟩) hS (fun σ31 a31 H locs hw hH hS => ?_)
      refine W.cs (cells' := 1) (slots' := 66047) rfl rfl ?_
      refine lv_goto (tgt := 438) hx hb dX9_answer_426 (by decide) ?_
      refine lv_iload hx hb dX9_answer_438 (lv_at hl 4 rfl) ?_
      refine lv_if_eq (tgt := 447) hx hb dX9_answer_440 (by decide) (fun h => ?_) (fun h => ?_)
      · have hw := hw.1 h
        refine lv_iconst (v := 1) hx hb dX9_answer_447 (by decide) ?_
        exact rt_ia C rfl hH hS hw dX9_answer_448
      have hw := hw.2 h
      refine lv_iconst (v := 2) hx hb dX9_answer_443 (by decide) ?_
      refine lv_goto (tgt := 448) hx hb dX9_answer_444 (by decide) ?_
      exact rt_ia C rfl hH hS hw dX9_answer_448
    have hw := hw.2 h
    refine lv_aload_n hx hb dX9_answer_389 rfl (lv_at hl 1 rfl) ?_
    refine lv_aload_n hx hb dX9_answer_390 rfl (lv_at hl 3 rfl) ?_
    refine lv_sipush (v := 500) hx hb dX9_answer_391 (by decide) ?_
    refine str_ldc (n := 18) C st18 dX9_answer_394 ?_
    refine kc_ia (rn_v (As := [.ref (ga G 13 o2), .int 500, .ref (gs G 18)]) (rest := []) C hH hS (by decide) rfl (by decide) (m9_last l G a1 τ σ27 o2 500 18 ho2 (by decide) _ hw) (cwV 3 hts (lw_V q1380 q1382 qs58 q166 q1383) rfl rfl rfl kX9_last ⟨Nat.le_of_ble_eq_true rfl, Nat.le_of_ble_eq_true rfl⟩) rfl hl.1 rfl (Nat.le_of_ble_eq_true rfl) dX9_answer_396 ⟨Nat.le_of_ble_eq_true rfl, Nat.le_of_ble_eq_true rfl⟩) hS (fun r32 σ32 a32 H locs hw hH hS => ?_)
    refine W.cs (cells' := 1) (slots' := 66047) rfl rfl ?_
    exact rt_ia C rfl hH hS hw dX9_answer_399
  have hw := hw.2 h
  refine lv_aload_n hx hb dX9_answer_355 rfl (lv_at hl 1 rfl) ?_
  refine lv_aload_n hx hb dX9_answer_356 rfl (lv_at hl 2 rfl) ?_
  refine lv_aload_n hx hb dX9_answer_357 rfl (lv_at hl 3 rfl) ?_
  refine lv_sipush (v := 404) hx hb dX9_answer_358 (by decide) ?_
  refine str_ldc (n := 17) C st17 dX9_answer_361 ?_
  refine lv_iload hx hb dX9_answer_363 (lv_at hl 4 rfl) ?_
  refine kc_ia (rn_v (As := [.ref (ga G 12 o1), .ref (ga G 13 o2), .int 404, .ref (gs G 17), .int x5]) (rest := []) C hH hS (by decide) rfl (by decide) (m9_kept l G a1 τ σ o1 o2 404 17 x5 ho1 ho2 (by decide) _ hw) (cwV 5 hts (lw_V q1482 q1484 qs64 q166 q1485) rfl rfl rfl kX9_kept ⟨Nat.le_of_ble_eq_true rfl, Nat.le_of_ble_eq_true rfl⟩) rfl hl.1 rfl (Nat.le_of_ble_eq_true rfl) dX9_answer_365 ⟨Nat.le_of_ble_eq_true rfl, Nat.le_of_ble_eq_true rfl⟩) hS (fun r33 σ33 a33 H locs hw hH hS => ?_)
  refine W.cs (cells' := 1) (slots' := 66047) rfl rfl ?_
  exact rt_ia C rfl hH hS hw dX9_answer_368
def w9_answer_J307 (σ : St) (o1 : Nat) (o2 : Nat) (x5 : Int32) (Q : Int32 → St → Prop) : Prop := w9_decode σ (fun r25 σ25 => ((¬ r25 = 0 → (((σ25 9 0 18) ≤ 47 → (w1_find σ25 41 0 (σ25 9 0 18) (fun r26 => (w9_answer_J348 σ25 o1 o2 x5 r26 Q)))) ∧ (¬ (σ25 9 0 18) ≤ 47 → (w9_answer_J348 σ25 o1 o2 x5 (-1) Q)))) ∧ (r25 = 0 → (w9_bad σ25 o2 (fun r34 σ34 => (Q r34 σ34))))))
set_option maxHeartbeats 4000000 in
theorem k9_answer_J307 {p : Program} {l : Launch} {e : Env} {s : State} {m : MethodId} {args : Array Value} {below : List Frame} {meth : Method} {c : Code} {G : Gh} {a1 : Nat → Nat → Nat} {τ : St} {Q : Int32 → St → Prop} (C : Cx p e s m args meth c cX9_answer 7 (some .int) "WebHost$Requests" G) (σ : St) (o1 : Nat) (o2 : Nat) (x5 : Int32) (ho1 : o1 < 16) (ho2 : o2 < 16) (hw : w9_answer_J307 σ o1 o2 x5 Q) (H : Heap) (locs : List Loc) (ls : Array Slot) (hH : Hd G a1 (cmb σ τ) H) (hS : va_S (gA G) s.heap H locs) (hl : lv_has ls 7 [(0, .ref (ga G 9 0)), (1, .ref (ga G 12 o1)), (2, .ref (ga G 13 o2)), (5, .int x5)]) : W p l e rmX9_answer s m args below meth c H locs 0 0 (MQ below (QIa G (fun u => cmb u τ) Q) args s 1 66047 (gA G)) (F0 m 307 ls []) := by
  have hx := C.1
  have hb := C.2.1
  have hown := C.2.2.2.2.2.1
  have hts := C.2.2.2.2.2.2.1
  refine lv_aload_n hx hb dX9_answer_307 rfl (lv_at hl 0 rfl) ?_
  refine kc_i (rn_v (As := []) (rest := []) C hH hS (by decide) rfl (by decide) (m9_decode l G a1 τ σ _ hw) (cwV 0 hts (lw_V q1486 q1488 qs65 q166 q1489) rfl rfl rfl kX9_decode ⟨Nat.le_of_ble_eq_true rfl, Nat.le_of_ble_eq_true rfl⟩) rfl hl.1 rfl (Nat.le_of_ble_eq_true rfl) dX9_answer_308 ⟨Nat.le_of_ble_eq_true rfl, Nat.le_of_ble_eq_true rfl⟩) hS (fun r25 σ25 H locs hw hH hS => ?_)
  refine lv_if_ne (tgt := 320) hx hb dX9_answer_311 (by decide) (fun h => ?_) (fun h => ?_)
  · have hw := hw.1 h
    refine lv_aload_n hx hb dX9_answer_320 rfl (lv_at hl 0 rfl) ?_
    refine g9_18 C hH q466 dX9_answer_321 ?_
    refine lv_bipush (v := 47) hx hb dX9_answer_324 (by decide) ?_
    refine lv_icmp_le (tgt := 333) hx hb dX9_answer_326 (by decide) (fun h => ?_) (fun h => ?_)
    · have hw := hw.1 h
      refine lv_aload_n hx hb dX9_answer_333 rfl (lv_at hl 0 rfl) ?_
      refine g9_0 C hH q448 dX9_answer_334 ?_
      refine lv_aload_n hx hb dX9_answer_337 rfl (lv_at hl 0 rfl) ?_
      refine g9_17 C hH q465 dX9_answer_338 ?_
      refine lv_aload_n hx hb dX9_answer_341 rfl (lv_at hl 0 rfl) ?_
      refine g9_18 C hH q466 dX9_answer_342 ?_
      refine kc_ip (rn_vp (As := [.ref (adr G a1 41 0), .int (σ25 9 0 18)]) (rest := []) C hH hS (by decide) rfl (by decide) (m1_find l G a1 τ σ25 H 41 0 (σ25 9 0 18) (by decide) _ hw) (cwV 2 hts (lw_V q1499 q1500 q1501 q158 q1502) rfl rfl rfl kX1_find ⟨Nat.le_of_ble_eq_true rfl, Nat.le_of_ble_eq_true rfl⟩) rfl hl.1 rfl (Nat.le_of_ble_eq_true rfl) dX9_answer_345 ⟨Nat.le_of_ble_eq_true rfl, Nat.le_of_ble_eq_true rfl⟩) hS (fun r26 locs hw hS => ?_)
      exact k9_answer_J348 C σ25 o1 o2 x5 r26 ho1 ho2 hw H locs ls hH hS (lv_sub hl [0, 1, 2, 3] rfl)
    have hw := hw.2 h
    refine lv_iconst (v := (-1)) hx hb dX9_answer_329 (by decide) ?_
    refine lv_goto (tgt := 348) hx hb dX9_answer_330 (by decide) ?_
    exact k9_answer_J348 C σ25 o1 o2 x5 (-1) ho1 ho2 hw H locs ls hH hS (lv_sub hl [0, 1, 2, 3] rfl)
  have hw := hw.2 h
  refine lv_aload_n hx hb dX9_answer_314 rfl (lv_at hl 0 rfl) ?_
  refine lv_aload_n hx hb dX9_answer_315 rfl (lv_at hl 2 rfl) ?_
  refine kc_ia (rn_v (As := [.ref (ga G 13 o2)]) (rest := []) C hH hS (by decide) rfl (by decide) (m9_bad l G a1 τ σ25 o2 ho2 _ hw) (cwV 1 hts (lw_V q1375 q1377 qs57 q166 q1378) rfl rfl rfl kX9_bad ⟨Nat.le_of_ble_eq_true rfl, Nat.le_of_ble_eq_true rfl⟩) rfl hl.1 rfl (Nat.le_of_ble_eq_true rfl) dX9_answer_316 ⟨Nat.le_of_ble_eq_true rfl, Nat.le_of_ble_eq_true rfl⟩) hS (fun r34 σ34 a34 H locs hw hH hS => ?_)
  refine W.cs (cells' := 1) (slots' := 66047) rfl rfl ?_
  exact rt_ia C rfl hH hS hw dX9_answer_319
def w9_answer_J270 (σ : St) (o1 : Nat) (o2 : Nat) (xs0 : Int32) (Q : Int32 → St → Prop) : Prop := bo (σ 9 0 5) → ((¬ (σ 9 0 5) = 0 → w9_answer_J307 σ o1 o2 xs0 Q) ∧ ((σ 9 0 5) = 0 → (w9_isExactly σ 0 (σ 9 0 3) 15 (fun r35 => ((¬ r35 = 0 → w9_answer_J307 σ o1 o2 xs0 Q) ∧ (r35 = 0 → (w9_kept σ o1 o2 405 16 xs0 (fun r36 σ36 => (Q r36 σ36)))))))))
set_option maxHeartbeats 4000000 in
theorem k9_answer_J270 {p : Program} {l : Launch} {e : Env} {s : State} {m : MethodId} {args : Array Value} {below : List Frame} {meth : Method} {c : Code} {G : Gh} {a1 : Nat → Nat → Nat} {τ : St} {Q : Int32 → St → Prop} (C : Cx p e s m args meth c cX9_answer 7 (some .int) "WebHost$Requests" G) (σ : St) (o1 : Nat) (o2 : Nat) (xs0 : Int32) (ho1 : o1 < 16) (ho2 : o2 < 16) (hw : w9_answer_J270 σ o1 o2 xs0 Q) (H : Heap) (locs : List Loc) (ls : Array Slot) (hH : Hd G a1 (cmb σ τ) H) (hS : va_S (gA G) s.heap H locs) (hl : lv_has ls 7 [(0, .ref (ga G 9 0)), (1, .ref (ga G 12 o1)), (2, .ref (ga G 13 o2))]) : W p l e rmX9_answer s m args below meth c H locs 0 0 (MQ below (QIa G (fun u => cmb u τ) Q) args s 1 66047 (gA G)) (F0 m 270 ls [.int xs0]) := by
  have hx := C.1
  have hb := C.2.1
  have hown := C.2.2.2.2.2.1
  have hts := C.2.2.2.2.2.2.1
  refine lv_istore (lv' := [(5, .int xs0), (0, .ref (ga G 9 0)), (1, .ref (ga G 12 o1)), (2, .ref (ga G 13 o2))]) hx hb dX9_answer_270 hl (by decide) rfl (fun ls hl => ?_)
  refine lv_aload_n hx hb dX9_answer_272 rfl (lv_at hl 1 rfl) ?_
  refine g9_5 C hH q453 dX9_answer_273 (fun hz => ?_)
  have hw := hw hz
  refine lv_if_ne (tgt := 307) hx hb dX9_answer_276 (by decide) (fun h => ?_) (fun h => ?_)
  · have hw := hw.1 h
    exact k9_answer_J307 C σ o1 o2 xs0 ho1 ho2 hw H locs ls hH hS (lv_sub hl [1, 2, 3, 0] rfl)
  have hw := hw.2 h
  refine lv_aload_n hx hb dX9_answer_279 rfl (lv_at hl 1 rfl) ?_
  refine lv_iconst (v := 0) hx hb dX9_answer_280 (by decide) ?_
  refine lv_aload_n hx hb dX9_answer_281 rfl (lv_at hl 1 rfl) ?_
  refine g9_3 C hH q451 dX9_answer_282 ?_
  refine str_ldc (n := 15) C st15 dX9_answer_285 ?_
  refine kc_ip (rn_vp (As := [.int 0, .int (σ 9 0 3), .ref (gs G 15)]) (rest := []) C hH hS (by decide) rfl (by decide) (m9_isExactly l G a1 τ σ H 0 (σ 9 0 3) 15 (by decide) _ hw) (cwV 3 hts (lw_V q1369 q1371 qs56 q166 q1372) rfl rfl rfl kX9_isExactly ⟨Nat.le_of_ble_eq_true rfl, Nat.le_of_ble_eq_true rfl⟩) rfl hl.1 rfl (Nat.le_of_ble_eq_true rfl) dX9_answer_287 ⟨Nat.le_of_ble_eq_true rfl, Nat.le_of_ble_eq_true rfl⟩) hS (fun r35 locs hw hS => ?_)
  refine lv_if_ne (tgt := 307) hx hb dX9_answer_290 (by decide) (fun h => ?_) (fun h => ?_)
  · have hw := hw.1 h
    exact k9_answer_J307 C σ o1 o2 xs0 ho1 ho2 hw H locs ls hH hS (lv_sub hl [1, 2, 3, 0] rfl)
  have hw := hw.2 h
  refine lv_aload_n hx hb dX9_answer_293 rfl (lv_at hl 1 rfl) ?_
  refine lv_aload_n hx hb dX9_answer_294 rfl (lv_at hl 2 rfl) ?_
  refine lv_aload_n hx hb dX9_answer_295 rfl (lv_at hl 3 rfl) ?_
  refine lv_sipush (v := 405) hx hb dX9_answer_296 (by decide) ?_
  refine str_ldc (n := 16) C st16 dX9_answer_299 ?_
  refine lv_iload hx hb dX9_answer_301 (lv_at hl 0 rfl) ?_
  refine kc_ia (rn_v (As := [.ref (ga G 12 o1), .ref (ga G 13 o2), .int 405, .ref (gs G 16), .int xs0]) (rest := []) C hH hS (by decide) rfl (by decide) (m9_kept l G a1 τ σ o1 o2 405 16 xs0 ho1 ho2 (by decide) _ hw) (cwV 5 hts (lw_V q1482 q1484 qs64 q166 q1485) rfl rfl rfl kX9_kept ⟨Nat.le_of_ble_eq_true rfl, Nat.le_of_ble_eq_true rfl⟩) rfl hl.1 rfl (Nat.le_of_ble_eq_true rfl) dX9_answer_303 ⟨Nat.le_of_ble_eq_true rfl, Nat.le_of_ble_eq_true rfl⟩) hS (fun r36 σ36 a36 H locs hw hH hS => ?_)
  refine W.cs (cells' := 1) (slots' := 66047) rfl rfl ?_
  exact rt_ia C rfl hH hS hw dX9_answer_306
def w9_answer_J178 (σ : St) (o1 : Nat) (o2 : Nat) (Q : Int32 → St → Prop) : Prop := bo (σ 9 0 14) → (((σ 9 0 14) = 0 → ((1 < (σ 9 0 8) → (w9_bad σ o2 (fun r24 σ24 => (Q r24 σ24)))) ∧ (¬ 1 < (σ 9 0 8) → (bo (σ 9 0 13) → ((¬ (σ 9 0 13) = 0 → (((σ 9 0 9) ≤ 65536 → (bo (σ 9 0 6) → (((σ 9 0 6) = 0 → (bo (σ 9 0 15) → ((¬ (σ 9 0 15) = 0 → w9_answer_J270 σ o1 o2 1 Q) ∧ ((σ 9 0 15) = 0 → (bo (σ 9 0 16) → ((¬ (σ 9 0 16) = 0 → w9_answer_J270 σ o1 o2 0 Q) ∧ ((σ 9 0 16) = 0 → w9_answer_J270 σ o1 o2 1 Q))))))) ∧ (¬ (σ 9 0 6) = 0 → (bo (σ 9 0 15) → (w9_answer_J270 σ o1 o2 (σ 9 0 15) Q)))))) ∧ (¬ (σ 9 0 9) ≤ 65536 → (w9_last σ o2 413 14 (fun r37 σ37 => (Q r37 σ37)))))) ∧ ((σ 9 0 13) = 0 → (w9_bad σ o2 (fun r38 σ38 => (Q r38 σ38))))))))) ∧ (¬ (σ 9 0 14) = 0 → (w9_last σ o2 501 13 (fun r39 σ39 => (Q r39 σ39)))))
set_option maxHeartbeats 4000000 in
theorem k9_answer_J178 {p : Program} {l : Launch} {e : Env} {s : State} {m : MethodId} {args : Array Value} {below : List Frame} {meth : Method} {c : Code} {G : Gh} {a1 : Nat → Nat → Nat} {τ : St} {Q : Int32 → St → Prop} (C : Cx p e s m args meth c cX9_answer 7 (some .int) "WebHost$Requests" G) (σ : St) (o1 : Nat) (o2 : Nat) (ho1 : o1 < 16) (ho2 : o2 < 16) (hw : w9_answer_J178 σ o1 o2 Q) (H : Heap) (locs : List Loc) (ls : Array Slot) (hH : Hd G a1 (cmb σ τ) H) (hS : va_S (gA G) s.heap H locs) (hl : lv_has ls 7 [(0, .ref (ga G 9 0)), (1, .ref (ga G 12 o1)), (2, .ref (ga G 13 o2))]) : W p l e rmX9_answer s m args below meth c H locs 0 0 (MQ below (QIa G (fun u => cmb u τ) Q) args s 1 66047 (gA G)) (F0 m 178 ls []) := by
  have hx := C.1
  have hb := C.2.1
  have hown := C.2.2.2.2.2.1
  have hts := C.2.2.2.2.2.2.1
  refine lv_aload_n hx hb dX9_answer_178 rfl (lv_at hl 0 rfl) ?_
  refine g9_14 C hH q462 dX9_answer_179 (fun hz => ?_)
  have hw := hw hz
  refine lv_if_eq (tgt := 196) hx hb dX9_answer_182 (by decide) (fun h => ?_) (fun h => ?_)
  · have hw := hw.1 h
    refine lv_aload_n hx hb dX9_answer_196 rfl (lv_at hl 0 rfl) ?_
    refine g9_8 C hH q456 dX9_answer_197 ?_
    refine lv_iconst (v := 1) hx hb dX9_answer_200 (by decide) ?_
    refine lv_icmp_gt (tgt := 211) hx hb dX9_answer_201 (by decide) (fun h => ?_) (fun h => ?_)
    · have hw := hw.1 h
      refine lv_aload_n hx hb dX9_answer_211 rfl (lv_at hl 0 rfl) ?_
      refine lv_aload_n hx hb dX9_answer_212 rfl (lv_at hl 2 rfl) ?_
      refine kc_ia (rn_v (As := [.ref (ga G 13 o2)]) (rest := []) C hH hS (by decide) rfl (by decide) (m9_bad l G a1 τ σ o2 ho2 _ hw) (cwV 1 hts (lw_V q1375 q1377 qs57 q166 q1378) rfl rfl rfl kX9_bad ⟨Nat.le_of_ble_eq_true rfl, Nat.le_of_ble_eq_true rfl⟩) rfl hl.1 rfl (Nat.le_of_ble_eq_true rfl) dX9_answer_213 ⟨Nat.le_of_ble_eq_true rfl, Nat.le_of_ble_eq_true rfl⟩) hS (fun r24 σ24 a24 H locs hw hH hS => ?_)
      refine W.cs (cells' := 1) (slots' := 66047) rfl rfl ?_
      exact rt_ia C rfl hH hS hw dX9_answer_216
    have hw := hw.2 h
    refine lv_aload_n hx hb dX9_answer_204 rfl (lv_at hl 0 rfl) ?_
    refine g9_13 C hH q461 dX9_answer_205 (fun hz => ?_)
    have hw := hw hz
    refine lv_if_ne (tgt := 217) hx hb dX9_answer_208 (by decide) (fun h => ?_) (fun h => ?_)
    · have hw := hw.1 h
      refine lv_aload_n hx hb dX9_answer_217 rfl (lv_at hl 0 rfl) ?_
      refine g9_9 C hH q457 dX9_answer_218 ?_
      refine lv_ldc (v := 65536) hx hb hown (hts _ q1478) dX9_answer_221 ?_
      refine lv_icmp_le (tgt := 237) hx hb dX9_answer_223 (by decide) (fun h => ?_) (fun h => ?_)
      · have hw := hw.1 h
        refine lv_aload_n hx hb dX9_answer_237 rfl (lv_at hl 0 rfl) ?_
        refine g9_6 C hH q454 dX9_answer_238 (fun hz => ?_)
        have hw := hw hz
        refine lv_if_eq (tgt := 251) hx hb dX9_answer_241 (by decide) (fun h => ?_) (fun h => ?_)
        · have hw := hw.1 h
          refine lv_aload_n hx hb dX9_answer_251 rfl (lv_at hl 0 rfl) ?_
          refine g9_15 C hH q463 dX9_answer_252 (fun hz => ?_)
          have hw := hw hz
          refine lv_if_ne (tgt := 265) hx hb dX9_answer_255 (by decide) (fun h => ?_) (fun h => ?_)
          · have hw := hw.1 h
            refine lv_iconst (v := 1) hx hb dX9_answer_265 (by decide) ?_
            refine lv_goto (tgt := 270) hx hb dX9_answer_266 (by decide) ?_
            exact k9_answer_J270 C σ o1 o2 1 ho1 ho2 hw H locs ls hH hS (lv_sub hl [0, 1, 2] rfl)
          have hw := hw.2 h
          refine lv_aload_n hx hb dX9_answer_258 rfl (lv_at hl 0 rfl) ?_
          refine g9_16 C hH q464 dX9_answer_259 (fun hz => ?_)
          have hw := hw hz
          refine lv_if_ne (tgt := 269) hx hb dX9_answer_262 (by decide) (fun h => ?_) (fun h => ?_)
          · have hw := hw.1 h
            refine lv_iconst (v := 0) hx hb dX9_answer_269 (by decide) ?_
            exact k9_answer_J270 C σ o1 o2 0 ho1 ho2 hw H locs ls hH hS (lv_sub hl [0, 1, 2] rfl)
          have hw := hw.2 h
          refine lv_iconst (v := 1) hx hb dX9_answer_265 (by decide) ?_
          refine lv_goto (tgt := 270) hx hb dX9_answer_266 (by decide) ?_
          exact k9_answer_J270 C σ o1 o2 1 ho1 ho2 hw H locs ls hH hS (lv_sub hl [0, 1, 2] rfl)
        have hw := hw.2 h
        refine lv_aload_n hx hb dX9_answer_244 rfl (lv_at hl 0 rfl) ?_
        refine g9_15 C hH q463 dX9_answer_245 (fun hz => ?_)
        have hw := hw hz
        refine lv_goto (tgt := 270) hx hb dX9_answer_248 (by decide) ?_
        exact k9_answer_J270 C σ o1 o2 (σ 9 0 15) ho1 ho2 hw H locs ls hH hS (lv_sub hl [0, 1, 2] rfl)
      have hw := hw.2 h
      refine lv_aload_n hx hb dX9_answer_226 rfl (lv_at hl 0 rfl) ?_
      refine lv_aload_n hx hb dX9_answer_227 rfl (lv_at hl 2 rfl) ?_
      refine lv_sipush (v := 413) hx hb dX9_answer_228 (by decide) ?_
      refine str_ldc (n := 14) C st14 dX9_answer_231 ?_
      refine kc_ia (rn_v (As := [.ref (ga G 13 o2), .int 413, .ref (gs G 14)]) (rest := []) C hH hS (by decide) rfl (by decide) (m9_last l G a1 τ σ o2 413 14 ho2 (by decide) _ hw) (cwV 3 hts (lw_V q1380 q1382 qs58 q166 q1383) rfl rfl rfl kX9_last ⟨Nat.le_of_ble_eq_true rfl, Nat.le_of_ble_eq_true rfl⟩) rfl hl.1 rfl (Nat.le_of_ble_eq_true rfl) dX9_answer_233 ⟨Nat.le_of_ble_eq_true rfl, Nat.le_of_ble_eq_true rfl⟩) hS (fun r37 σ37 a37 H locs hw hH hS => ?_)
      refine W.cs (cells' := 1) (slots' := 66047) rfl rfl ?_
      exact rt_ia C rfl hH hS hw dX9_answer_236
    have hw := hw.2 h
    refine lv_aload_n hx hb dX9_answer_211 rfl (lv_at hl 0 rfl) ?_
    refine lv_aload_n hx hb dX9_answer_212 rfl (lv_at hl 2 rfl) ?_
    refine kc_ia (rn_v (As := [.ref (ga G 13 o2)]) (rest := []) C hH hS (by decide) rfl (by decide) (m9_bad l G a1 τ σ o2 ho2 _ hw) (cwV 1 hts (lw_V q1375 q1377 qs57 q166 q1378) rfl rfl rfl kX9_bad ⟨Nat.le_of_ble_eq_true rfl, Nat.le_of_ble_eq_true rfl⟩) rfl hl.1 rfl (Nat.le_of_ble_eq_true rfl) dX9_answer_213 ⟨Nat.le_of_ble_eq_true rfl, Nat.le_of_ble_eq_true rfl⟩) hS (fun r38 σ38 a38 H locs hw hH hS => ?_)
    refine W.cs (cells' := 1) (slots' := 66047) rfl rfl ?_
    exact rt_ia C rfl hH hS hw dX9_answer_216
  have hw := hw.2 h
  refine lv_aload_n hx hb dX9_answer_185 rfl (lv_at hl 0 rfl) ?_
  refine lv_aload_n hx hb dX9_answer_186 rfl (lv_at hl 2 rfl) ?_
  refine lv_sipush (v := 501) hx hb dX9_answer_187 (by decide) ?_
  refine str_ldc (n := 13) C st13 dX9_answer_190 ?_
  refine kc_ia (rn_v (As := [.ref (ga G 13 o2), .int 501, .ref (gs G 13)]) (rest := []) C hH hS (by decide) rfl (by decide) (m9_last l G a1 τ σ o2 501 13 ho2 (by decide) _ hw) (cwV 3 hts (lw_V q1380 q1382 qs58 q166 q1383) rfl rfl rfl kX9_last ⟨Nat.le_of_ble_eq_true rfl, Nat.le_of_ble_eq_true rfl⟩) rfl hl.1 rfl (Nat.le_of_ble_eq_true rfl) dX9_answer_192 ⟨Nat.le_of_ble_eq_true rfl, Nat.le_of_ble_eq_true rfl⟩) hS (fun r39 σ39 a39 H locs hw hH hS => ?_)
  refine W.cs (cells' := 1) (slots' := 66047) rfl rfl ?_
  exact rt_ia C rfl hH hS hw dX9_answer_195
def w9_answer (σ : St) (o1 : Nat) (o2 : Nat) (Q : Int32 → St → Prop) : Prop := ∀ σ1, σ1 = up3 σ 9 0 5 0 → (w9_lineEnd σ1 0 (fun r2 => (w9_textEnd σ1 0 r2 (fun r3 => (w9_isRequestLine σ1 r3 (fun r4 σ4 => ((¬ r4 = 0 → (w9_isExactly σ4 0 (σ4 9 0 3) 12 (fun r5 => (bo r5 ∧ (∀ σ6, σ6 = up3 σ4 9 0 5 r5 → (∀ σ7, σ7 = up3 σ6 9 0 7 0 → (∀ σ8, σ8 = up3 σ7 9 0 8 0 → (∀ σ9, σ9 = up3 σ8 9 0 9 0 → (∀ σ10, σ10 = up3 σ9 9 0 10 0 → (∀ σ11, σ11 = up3 σ10 9 0 13 1 → (∀ σ12, σ12 = up3 σ11 9 0 14 0 → (∀ σ13, σ13 = up3 σ12 9 0 15 0 → (∀ σ14, σ14 = up3 σ13 9 0 16 0 → (w9_lineEnd σ14 (r2 + 1) (fun r15 => (∃ z20, w9_answer_L97 o1 o2 Q (fun σ21 => w9_bad σ21 o2 (fun r23 σ23 => (Q r23 σ23))) (fun σ22 => bo (σ22 9 0 6) → (((σ22 9 0 6) = 0 → (((σ22 9 0 7) ≤ 1 → w9_answer_J178 σ22 o1 o2 Q) ∧ (¬ (σ22 9 0 7) ≤ 1 → (w9_bad σ22 o2 (fun r40 σ40 => (Q r40 σ40)))))) ∧ (¬ (σ22 9 0 6) = 0 → (((σ22 9 0 7) = 1 → w9_answer_J178 σ22 o1 o2 Q) ∧ (¬ (σ22 9 0 7) = 1 → (w9_bad σ22 o2 (fun r41 σ41 => (Q r41 σ41)))))))) z20 σ14 r15 (r2 + 1))))))))))))))))) ∧ (r4 = 0 → (w9_bad σ4 o2 (fun r42 σ42 => (Q r42 σ42)))))))))))
set_option maxHeartbeats 4000000 in
theorem m9_answer (l : Launch) (G : Gh) (a1 : Nat → Nat → Nat) (τ : St) (σ : St) (o1 : Nat) (o2 : Nat) (ho1 : o1 < 16) (ho2 : o2 < 16) (Q : Int32 → St → Prop) (hw : w9_answer σ o1 o2 Q) : Met l yX9_answer (ws_ yX9_answer cX9_answer 7 (some .int)) rmX9_answer (PcS G a1 (cmb σ τ) [.ref (ga G 9 0), .ref (ga G 12 o1), .ref (ga G 13 o2)]) (QIa G (fun u => cmb u τ) Q) 1 66047 (gA G) := by
  refine met_w (by decide) (Nat.le_of_ble_eq_true rfl) ?_
  intro p e s m below meth c ls C hH hS hl
  have C : Cx p e s m _ meth c cX9_answer 7 (some .int) "WebHost$Requests" G := C
  have hl : lv_has ls 7 [(0, .ref (ga G 9 0)), (1, .ref (ga G 12 o1)), (2, .ref (ga G 13 o2))] := hl
  have hx := C.1
  have hb := C.2.1
  have hown := C.2.2.2.2.2.1
  have hts := C.2.2.2.2.2.2.1
  obtain ⟨locs, hlocs⟩ : ∃ z : List Loc, z = [] := ⟨_, rfl⟩
  obtain ⟨H, hHe⟩ : ∃ z : Heap, z = s.heap := ⟨_, rfl⟩
  have hH : Hd G a1 (cmb σ τ) H := by rw [hHe]; exact hH
  have hS : va_S (gA G) s.heap H locs := by rw [hHe, hlocs]; exact hS
  refine W.heap0 hHe.symm hlocs.symm ?_
  refine lv_aload_n hx hb dX9_answer_0 rfl (lv_at hl 0 rfl) ?_
  refine lv_iconst (v := 0) hx hb dX9_answer_1 (by decide) ?_
  refine p9_5 C hH hS (Or.inl rfl) q453 dX9_answer_2 (fun σ1 e1 H locs hH hS => ?_)
  have hw := hw σ1 e1
  refine lv_aload_n hx hb dX9_answer_5 rfl (lv_at hl 0 rfl) ?_
  refine lv_iconst (v := 0) hx hb dX9_answer_6 (by decide) ?_
  refine kc_ip (rn_vp (As := [.int 0]) (rest := []) C hH hS (by decide) rfl (by decide) (m9_lineEnd l G a1 τ σ1 H 0 _ hw) (cwV 1 hts (lw_V q1353 q1355 qs53 q166 q1356) rfl rfl rfl kX9_lineEnd ⟨Nat.le_of_ble_eq_true rfl, Nat.le_of_ble_eq_true rfl⟩) rfl hl.1 rfl (Nat.le_of_ble_eq_true rfl) dX9_answer_7 ⟨Nat.le_of_ble_eq_true rfl, Nat.le_of_ble_eq_true rfl⟩) hS (fun r2 locs hw hS => ?_)
  refine lv_istore_n (lv' := [(3, .int r2), (0, .ref (ga G 9 0)), (1, .ref (ga G 12 o1)), (2, .ref (ga G 13 o2))]) hx hb dX9_answer_10 rfl hl (by decide) rfl (fun ls hl => ?_)
  refine lv_aload_n hx hb dX9_answer_11 rfl (lv_at hl 1 rfl) ?_
  refine lv_aload_n hx hb dX9_answer_12 rfl (lv_at hl 1 rfl) ?_
  refine lv_iconst (v := 0) hx hb dX9_answer_13 (by decide) ?_
  refine lv_iload_n hx hb dX9_answer_14 rfl (lv_at hl 0 rfl) ?_
  refine kc_ip (rn_vp (As := [.int 0, .int r2]) (rest := [.ref (ga G 9 0)]) C hH hS (by decide) rfl (by decide) (m9_textEnd l G a1 τ σ1 H 0 r2 _ hw) (cwV 2 hts (lw_V q1357 q1359 qs54 q166 q1360) rfl rfl rfl kX9_textEnd ⟨Nat.le_of_ble_eq_true rfl, Nat.le_of_ble_eq_true rfl⟩) rfl hl.1 rfl (Nat.le_of_ble_eq_true rfl) dX9_answer_15 ⟨Nat.le_of_ble_eq_true rfl, Nat.le_of_ble_eq_true rfl⟩) hS (fun r3 locs hw hS => ?_)
  refine kc_i (rn_v (As := [.int r3]) (rest := []) C hH hS (by decide) rfl (by decide) (m9_isRequestLine l G a1 τ σ1 r3 _ hw) (cwV 1 hts (lw_V q1361 q1363 qs55 q166 q1364) rfl rfl rfl kX9_isRequestLine ⟨Nat.le_of_ble_eq_true rfl, Nat.le_of_ble_eq_true rfl⟩) rfl hl.1 rfl (Nat.le_of_ble_eq_true rfl) dX9_answer_18 ⟨Nat.le_of_ble_eq_true rfl, Nat.le_of_ble_eq_true rfl⟩) hS (fun r4 σ4 H locs hw hH hS => ?_)
  refine lv_if_ne (tgt := 30) hx hb dX9_answer_21 (by decide) (fun h => ?_) (fun h => ?_)
  · have hw := hw.1 h
    refine lv_aload_n hx hb dX9_answer_30 rfl (lv_at hl 1 rfl) ?_
    refine lv_aload_n hx hb dX9_answer_31 rfl (lv_at hl 1 rfl) ?_
    refine lv_iconst (v := 0) hx hb dX9_answer_32 (by decide) ?_
    refine lv_aload_n hx hb dX9_answer_33 rfl (lv_at hl 1 rfl) ?_
    refine g9_3 C hH q451 dX9_answer_34 ?_
    refine str_ldc (n := 12) C st12 dX9_answer_37 ?_
    refine kc_ip (rn_vp (As := [.int 0, .int (σ4 9 0 3), .ref (gs G 12)]) (rest := [.ref (ga G 9 0)]) C hH hS (by decide) rfl (by decide) (m9_isExactly l G a1 τ σ4 H 0 (σ4 9 0 3) 12 (by decide) _ hw) (cwV 3 hts (lw_V q1369 q1371 qs56 q166 q1372) rfl rfl rfl kX9_isExactly ⟨Nat.le_of_ble_eq_true rfl, Nat.le_of_ble_eq_true rfl⟩) rfl hl.1 rfl (Nat.le_of_ble_eq_true rfl) dX9_answer_39 ⟨Nat.le_of_ble_eq_true rfl, Nat.le_of_ble_eq_true rfl⟩) hS (fun r5 locs hw hS => ?_)
    refine p9_5 C hH hS hw.1 q453 dX9_answer_42 (fun σ6 e6 H locs hH hS => ?_)
    have hw := hw.2 σ6 e6
    refine lv_aload_n hx hb dX9_answer_45 rfl (lv_at hl 1 rfl) ?_
    refine lv_iconst (v := 0) hx hb dX9_answer_46 (by decide) ?_
    refine p9_7 C hH hS q455 dX9_answer_47 (fun σ7 e7 H locs hH hS => ?_)
    have hw := hw σ7 e7
    refine lv_aload_n hx hb dX9_answer_50 rfl (lv_at hl 1 rfl) ?_
    refine lv_iconst (v := 0) hx hb dX9_answer_51 (by decide) ?_
    refine p9_8 C hH hS q456 dX9_answer_52 (fun σ8 e8 H locs hH hS => ?_)
    have hw := hw σ8 e8
    refine lv_aload_n hx hb dX9_answer_55 rfl (lv_at hl 1 rfl) ?_
    refine lv_iconst (v := 0) hx hb dX9_answer_56 (by decide) ?_
    refine p9_9 C hH hS q457 dX9_answer_57 (fun σ9 e9 H locs hH hS => ?_)
    have hw := hw σ9 e9
    refine lv_aload_n hx hb dX9_answer_60 rfl (lv_at hl 1 rfl) ?_
    refine lv_iconst (v := 0) hx hb dX9_answer_61 (by decide) ?_
    refine p9_10 C hH hS q458 dX9_answer_62 (fun σ10 e10 H locs hH hS => ?_)
    have hw := hw σ10 e10
    refine lv_aload_n hx hb dX9_answer_65 rfl (lv_at hl 1 rfl) ?_
    refine lv_iconst (v := 1) hx hb dX9_answer_66 (by decide) ?_
    refine p9_13 C hH hS (Or.inr rfl) q461 dX9_answer_67 (fun σ11 e11 H locs hH hS => ?_)
    have hw := hw σ11 e11
    refine lv_aload_n hx hb dX9_answer_70 rfl (lv_at hl 1 rfl) ?_
    refine lv_iconst (v := 0) hx hb dX9_answer_71 (by decide) ?_
    refine p9_14 C hH hS (Or.inl rfl) q462 dX9_answer_72 (fun σ12 e12 H locs hH hS => ?_)
    have hw := hw σ12 e12
    refine lv_aload_n hx hb dX9_answer_75 rfl (lv_at hl 1 rfl) ?_
    refine lv_iconst (v := 0) hx hb dX9_answer_76 (by decide) ?_
    refine p9_15 C hH hS (Or.inl rfl) q463 dX9_answer_77 (fun σ13 e13 H locs hH hS => ?_)
    have hw := hw σ13 e13
    refine lv_aload_n hx hb dX9_answer_80 rfl (lv_at hl 1 rfl) ?_
    refine lv_iconst (v := 0) hx hb dX9_answer_81 (by decide) ?_
    refine p9_16 C hH hS (Or.inl rfl) q464 dX9_answer_82 (fun σ14 e14 H locs hH hS => ?_)
    have hw := hw σ14 e14
    refine lv_iload_n hx hb dX9_answer_85 rfl (lv_at hl 0 rfl) ?_
    refine lv_iconst (v := 1) hx hb dX9_answer_86 (by decide) ?_
    refine lv_iadd hx hb dX9_answer_87 ?_
    refine lv_istore (lv' := [(4, .int (r2 + 1)), (3, .int r2), (0, .ref (ga G 9 0)), (1, .ref (ga G 12 o1)), (2, .ref (ga G 13 o2))]) hx hb dX9_answer_88 hl (by decide) rfl (fun ls hl => ?_)
    refine lv_aload_n hx hb dX9_answer_90 rfl (lv_at hl 2 rfl) ?_
    refine lv_iload hx hb dX9_answer_91 (lv_at hl 0 rfl) ?_
    refine kc_ip (rn_vp (As := [.int (r2 + 1)]) (rest := []) C hH hS (by decide) rfl (by decide) (m9_lineEnd l G a1 τ σ14 H (r2 + 1) _ hw) (cwV 1 hts (lw_V q1353 q1355 qs53 q166 q1356) rfl rfl rfl kX9_lineEnd ⟨Nat.le_of_ble_eq_true rfl, Nat.le_of_ble_eq_true rfl⟩) rfl hl.1 rfl (Nat.le_of_ble_eq_true rfl) dX9_answer_93 ⟨Nat.le_of_ble_eq_true rfl, Nat.le_of_ble_eq_true rfl⟩) hS (fun r15 locs hw hS => ?_)
    refine lv_istore_n (lv' := [(3, .int r15), (4, .int (r2 + 1)), (0, .ref (ga G 9 0)), (1, .ref (ga G 12 o1)), (2, .ref (ga G 13 o2))]) hx hb dX9_answer_96 rfl hl (by decide) rfl (fun ls hl => ?_)
    obtain ⟨n20, hw⟩ := hw
    refine k9_answer_L97 C o1 o2 ho1 ho2 n20 σ14 r15 (r2 + 1) hw H locs ls hH hS (lv_sub hl [2, 3, 4, 0, 1] rfl) (fun σ21 hw H locs ls hH hS hl => ?_) (fun σ22 hw H locs ls hH hS hl => ?_)
    · refine lv_aload_n hx hb dX9_answer_125 rfl (lv_at hl 0 rfl) ?_
      refine lv_aload_n hx hb dX9_answer_126 rfl (lv_at hl 1 rfl) ?_
      refine kc_ia (rn_v (As := [.ref (ga G 13 o2)]) (rest := []) C hH hS (by decide) rfl (by decide) (m9_bad l G a1 τ σ21 o2 ho2 _ hw) (cwV 1 hts (lw_V q1375 q1377 qs57 q166 q1378) rfl rfl rfl kX9_bad ⟨Nat.le_of_ble_eq_true rfl, Nat.le_of_ble_eq_true rfl⟩) rfl hl.1 rfl (Nat.le_of_ble_eq_true rfl) dX9_answer_127 ⟨Nat.le_of_ble_eq_true rfl, Nat.le_of_ble_eq_true rfl⟩) hS (fun r23 σ23 a23 H locs hw hH hS => ?_)
      refine W.cs (cells' := 1) (slots' := 66047) rfl rfl ?_
      exact rt_ia C rfl hH hS hw dX9_answer_130
    refine lv_aload_n hx hb dX9_answer_146 rfl (lv_at hl 0 rfl) ?_
    refine g9_6 C hH q454 dX9_answer_147 (fun hz => ?_)
    have hw := hw hz
    refine lv_if_eq (tgt := 164) hx hb dX9_answer_150 (by decide) (fun h => ?_) (fun h => ?_)
    · have hw := hw.1 h
      refine lv_aload_n hx hb dX9_answer_164 rfl (lv_at hl 0 rfl) ?_
      refine g9_7 C hH q455 dX9_answer_165 ?_
      refine lv_iconst (v := 1) hx hb dX9_answer_168 (by decide) ?_
      refine lv_icmp_le (tgt := 178) hx hb dX9_answer_169 (by decide) (fun h => ?_) (fun h => ?_)
      · have hw := hw.1 h
        exact k9_answer_J178 C σ22 o1 o2 ho1 ho2 hw H locs ls hH hS (lv_sub hl [0, 1, 2] rfl)
      have hw := hw.2 h
      refine lv_aload_n hx hb dX9_answer_172 rfl (lv_at hl 0 rfl) ?_
      refine lv_aload_n hx hb dX9_answer_173 rfl (lv_at hl 2 rfl) ?_
      refine kc_ia (rn_v (As := [.ref (ga G 13 o2)]) (rest := []) C hH hS (by decide) rfl (by decide) (m9_bad l G a1 τ σ22 o2 ho2 _ hw) (cwV 1 hts (lw_V q1375 q1377 qs57 q166 q1378) rfl rfl rfl kX9_bad ⟨Nat.le_of_ble_eq_true rfl, Nat.le_of_ble_eq_true rfl⟩) rfl hl.1 rfl (Nat.le_of_ble_eq_true rfl) dX9_answer_174 ⟨Nat.le_of_ble_eq_true rfl, Nat.le_of_ble_eq_true rfl⟩) hS (fun r40 σ40 a40 H locs hw hH hS => ?_)
      refine W.cs (cells' := 1) (slots' := 66047) rfl rfl ?_
      exact rt_ia C rfl hH hS hw dX9_answer_177
    have hw := hw.2 h
    refine lv_aload_n hx hb dX9_answer_153 rfl (lv_at hl 0 rfl) ?_
    refine g9_7 C hH q455 dX9_answer_154 ?_
    refine lv_iconst (v := 1) hx hb dX9_answer_157 (by decide) ?_
    refine lv_icmp_eq (tgt := 178) hx hb dX9_answer_158 (by decide) (fun h => ?_) (fun h => ?_)
    · have hw := hw.1 h
      exact k9_answer_J178 C σ22 o1 o2 ho1 ho2 hw H locs ls hH hS (lv_sub hl [0, 1, 2] rfl)
    have hw := hw.2 h
    refine lv_goto (tgt := 172) hx hb dX9_answer_161 (by decide) ?_
    refine lv_aload_n hx hb dX9_answer_172 rfl (lv_at hl 0 rfl) ?_
    refine lv_aload_n hx hb dX9_answer_173 rfl (lv_at hl 2 rfl) ?_
    refine kc_ia (rn_v (As := [.ref (ga G 13 o2)]) (rest := []) C hH hS (by decide) rfl (by decide) (m9_bad l G a1 τ σ22 o2 ho2 _ hw) (cwV 1 hts (lw_V q1375 q1377 qs57 q166 q1378) rfl rfl rfl kX9_bad ⟨Nat.le_of_ble_eq_true rfl, Nat.le_of_ble_eq_true rfl⟩) rfl hl.1 rfl (Nat.le_of_ble_eq_true rfl) dX9_answer_174 ⟨Nat.le_of_ble_eq_true rfl, Nat.le_of_ble_eq_true rfl⟩) hS (fun r41 σ41 a41 H locs hw hH hS => ?_)
    refine W.cs (cells' := 1) (slots' := 66047) rfl rfl ?_
    exact rt_ia C rfl hH hS hw dX9_answer_177
  have hw := hw.2 h
  refine lv_aload_n hx hb dX9_answer_24 rfl (lv_at hl 1 rfl) ?_
  refine lv_aload_n hx hb dX9_answer_25 rfl (lv_at hl 3 rfl) ?_
  refine kc_ia (rn_v (As := [.ref (ga G 13 o2)]) (rest := []) C hH hS (by decide) rfl (by decide) (m9_bad l G a1 τ σ4 o2 ho2 _ hw) (cwV 1 hts (lw_V q1375 q1377 qs57 q166 q1378) rfl rfl rfl kX9_bad ⟨Nat.le_of_ble_eq_true rfl, Nat.le_of_ble_eq_true rfl⟩) rfl hl.1 rfl (Nat.le_of_ble_eq_true rfl) dX9_answer_26 ⟨Nat.le_of_ble_eq_true rfl, Nat.le_of_ble_eq_true rfl⟩) hS (fun r42 σ42 a42 H locs hw hH hS => ?_)
  refine W.cs (cells' := 1) (slots' := 66047) rfl rfl ?_
  exact rt_ia C rfl hH hS hw dX9_answer_29
/-! WebHostModel.segment(LWebHostModel$Connection;)V -/
abbrev cX14_segment : ByteArray := prog_17_method_57_code
def yX14_segment : MethodName := ⟨RX14, "segment", "(LWebHostModel$Connection;)V"⟩
theorem dX14_segment_0 : decode cX14_segment 0 = .ok (.aload_n 0, 1) := by decide +kernel
theorem dX14_segment_1 : decode cX14_segment 1 = .ok (.aload_n 1, 1) := by decide +kernel
theorem dX14_segment_2 : decode cX14_segment 2 = .ok (.invokevirtual 492, 3) := by decide +kernel
theorem dX14_segment_5 : decode cX14_segment 5 = .ok (.ifCond .ne 43, 3) := by decide +kernel
theorem dX14_segment_8 : decode cX14_segment 8 = .ok (.aload_n 0, 1) := by decide +kernel
theorem dX14_segment_9 : decode cX14_segment 9 = .ok (.iconst 4, 1) := by decide +kernel
theorem dX14_segment_10 : decode cX14_segment 10 = .ok (.invokevirtual 325, 3) := by decide +kernel
theorem dX14_segment_13 : decode cX14_segment 13 = .ok (.ifCond .eq 4, 3) := by decide +kernel
theorem dX14_segment_16 : decode cX14_segment 16 = .ok (.return_, 1) := by decide +kernel
theorem dX14_segment_17 : decode cX14_segment 17 = .ok (.aload_n 0, 1) := by decide +kernel
theorem dX14_segment_18 : decode cX14_segment 18 = .ok (.aload_n 1, 1) := by decide +kernel
theorem dX14_segment_19 : decode cX14_segment 19 = .ok (.invokevirtual 496, 3) := by decide +kernel
theorem dX14_segment_22 : decode cX14_segment 22 = .ok (.aload_n 1, 1) := by decide +kernel
theorem dX14_segment_23 : decode cX14_segment 23 = .ok (.getfield 152, 3) := by decide +kernel
theorem dX14_segment_26 : decode cX14_segment 26 = .ok (.bipush 6, 2) := by decide +kernel
theorem dX14_segment_28 : decode cX14_segment 28 = .ok (.if_icmp .ne 19, 3) := by decide +kernel
theorem dX14_segment_31 : decode cX14_segment 31 = .ok (.aload_n 0, 1) := by decide +kernel
theorem dX14_segment_32 : decode cX14_segment 32 = .ok (.iconst 1, 1) := by decide +kernel
theorem dX14_segment_33 : decode cX14_segment 33 = .ok (.invokevirtual 325, 3) := by decide +kernel
theorem dX14_segment_36 : decode cX14_segment 36 = .ok (.ifCond .eq 11, 3) := by decide +kernel
theorem dX14_segment_39 : decode cX14_segment 39 = .ok (.aload_n 1, 1) := by decide +kernel
theorem dX14_segment_40 : decode cX14_segment 40 = .ok (.aload_n 0, 1) := by decide +kernel
theorem dX14_segment_41 : decode cX14_segment 41 = .ok (.getfield 134, 3) := by decide +kernel
theorem dX14_segment_44 : decode cX14_segment 44 = .ok (.putfield 499, 3) := by decide +kernel
theorem dX14_segment_47 : decode cX14_segment 47 = .ok (.return_, 1) := by decide +kernel
theorem dX14_segment_48 : decode cX14_segment 48 = .ok (.aload_n 0, 1) := by decide +kernel
theorem dX14_segment_49 : decode cX14_segment 49 = .ok (.iconst 4, 1) := by decide +kernel
theorem dX14_segment_50 : decode cX14_segment 50 = .ok (.invokevirtual 325, 3) := by decide +kernel
theorem dX14_segment_53 : decode cX14_segment 53 = .ok (.ifCond .eq 9, 3) := by decide +kernel
theorem dX14_segment_56 : decode cX14_segment 56 = .ok (.aload_n 0, 1) := by decide +kernel
theorem dX14_segment_57 : decode cX14_segment 57 = .ok (.aload_n 1, 1) := by decide +kernel
theorem dX14_segment_58 : decode cX14_segment 58 = .ok (.invokevirtual 502, 3) := by decide +kernel
theorem dX14_segment_61 : decode cX14_segment 61 = .ok (.return_, 1) := by decide +kernel
theorem dX14_segment_62 : decode cX14_segment 62 = .ok (.aload_n 0, 1) := by decide +kernel
theorem dX14_segment_63 : decode cX14_segment 63 = .ok (.iconst 2, 1) := by decide +kernel
theorem dX14_segment_64 : decode cX14_segment 64 = .ok (.invokevirtual 325, 3) := by decide +kernel
theorem dX14_segment_67 : decode cX14_segment 67 = .ok (.ifCond .eq 13, 3) := by decide +kernel
theorem dX14_segment_70 : decode cX14_segment 70 = .ok (.aload_n 0, 1) := by decide +kernel
theorem dX14_segment_71 : decode cX14_segment 71 = .ok (.invokevirtual 438, 3) := by decide +kernel
theorem dX14_segment_74 : decode cX14_segment 74 = .ok (.aload_n 0, 1) := by decide +kernel
theorem dX14_segment_75 : decode cX14_segment 75 = .ok (.aload_n 1, 1) := by decide +kernel
theorem dX14_segment_76 : decode cX14_segment 76 = .ok (.invokevirtual 502, 3) := by decide +kernel
theorem dX14_segment_79 : decode cX14_segment 79 = .ok (.return_, 1) := by decide +kernel
theorem dX14_segment_80 : decode cX14_segment 80 = .ok (.aload_n 0, 1) := by decide +kernel
theorem dX14_segment_81 : decode cX14_segment 81 = .ok (.bipush 16, 2) := by decide +kernel
theorem dX14_segment_83 : decode cX14_segment 83 = .ok (.invokevirtual 325, 3) := by decide +kernel
theorem dX14_segment_86 : decode cX14_segment 86 = .ok (.ifCond .eq 11, 3) := by decide +kernel
theorem dX14_segment_89 : decode cX14_segment 89 = .ok (.aload_n 0, 1) := by decide +kernel
theorem dX14_segment_90 : decode cX14_segment 90 = .ok (.aload_n 1, 1) := by decide +kernel
theorem dX14_segment_91 : decode cX14_segment 91 = .ok (.invokevirtual 505, 3) := by decide +kernel
theorem dX14_segment_94 : decode cX14_segment 94 = .ok (.ifCond .ne 4, 3) := by decide +kernel
theorem dX14_segment_97 : decode cX14_segment 97 = .ok (.return_, 1) := by decide +kernel
theorem dX14_segment_98 : decode cX14_segment 98 = .ok (.aload_n 0, 1) := by decide +kernel
theorem dX14_segment_99 : decode cX14_segment 99 = .ok (.aload_n 1, 1) := by decide +kernel
theorem dX14_segment_100 : decode cX14_segment 100 = .ok (.invokevirtual 508, 3) := by decide +kernel
theorem dX14_segment_103 : decode cX14_segment 103 = .ok (.aload_n 1, 1) := by decide +kernel
theorem dX14_segment_104 : decode cX14_segment 104 = .ok (.getfield 152, 3) := by decide +kernel
theorem dX14_segment_107 : decode cX14_segment 107 = .ok (.bipush 6, 2) := by decide +kernel
theorem dX14_segment_109 : decode cX14_segment 109 = .ok (.if_icmp .ne 19, 3) := by decide +kernel
theorem dX14_segment_112 : decode cX14_segment 112 = .ok (.aload_n 0, 1) := by decide +kernel
theorem dX14_segment_113 : decode cX14_segment 113 = .ok (.iconst 1, 1) := by decide +kernel
theorem dX14_segment_114 : decode cX14_segment 114 = .ok (.invokevirtual 325, 3) := by decide +kernel
theorem dX14_segment_117 : decode cX14_segment 117 = .ok (.ifCond .eq 11, 3) := by decide +kernel
theorem dX14_segment_120 : decode cX14_segment 120 = .ok (.aload_n 1, 1) := by decide +kernel
theorem dX14_segment_121 : decode cX14_segment 121 = .ok (.aload_n 0, 1) := by decide +kernel
theorem dX14_segment_122 : decode cX14_segment 122 = .ok (.getfield 134, 3) := by decide +kernel
theorem dX14_segment_125 : decode cX14_segment 125 = .ok (.putfield 499, 3) := by decide +kernel
theorem dX14_segment_128 : decode cX14_segment 128 = .ok (.aload_n 0, 1) := by decide +kernel
theorem dX14_segment_129 : decode cX14_segment 129 = .ok (.aload_n 1, 1) := by decide +kernel
theorem dX14_segment_130 : decode cX14_segment 130 = .ok (.invokevirtual 511, 3) := by decide +kernel
theorem dX14_segment_133 : decode cX14_segment 133 = .ok (.aload_n 0, 1) := by decide +kernel
theorem dX14_segment_134 : decode cX14_segment 134 = .ok (.aload_n 1, 1) := by decide +kernel
theorem dX14_segment_135 : decode cX14_segment 135 = .ok (.invokevirtual 514, 3) := by decide +kernel
theorem dX14_segment_138 : decode cX14_segment 138 = .ok (.aload_n 1, 1) := by decide +kernel
theorem dX14_segment_139 : decode cX14_segment 139 = .ok (.getfield 336, 3) := by decide +kernel
theorem dX14_segment_142 : decode cX14_segment 142 = .ok (.ifCond .eq 8, 3) := by decide +kernel
theorem dX14_segment_145 : decode cX14_segment 145 = .ok (.aload_n 0, 1) := by decide +kernel
theorem dX14_segment_146 : decode cX14_segment 146 = .ok (.aload_n 1, 1) := by decide +kernel
theorem dX14_segment_147 : decode cX14_segment 147 = .ok (.invokevirtual 496, 3) := by decide +kernel
theorem dX14_segment_150 : decode cX14_segment 150 = .ok (.return_, 1) := by decide +kernel
def rmX14_segment : Room := { frames := 10, cells := 0, slots := 0, locals := 235 }
theorem kX14_segment : yX14_segment.cls = "WebHostModel" ∧ yX14_segment.cls ≠ "java/lang/invoke/MethodHandle" ∧ yX14_segment.cls ≠ "java/lang/invoke/VarHandle" ∧ (parseMethodDescriptor yX14_segment.desc).map (fun d => d.parameters.length) = some 1 := by decide +kernel
def w14_segment_J128 (σ : St) (o1 : Nat) (Q : St → Prop) : Prop := w14_requests σ o1 (fun σ7 => (w14_sendAll σ7 o1 (fun σ8 => (bo (σ8 15 o1 39) → (((σ8 15 o1 39) = 0 → Q σ8) ∧ (¬ (σ8 15 o1 39) = 0 → (w14_acknowledge σ8 o1 (fun σ9 => (Q σ9)))))))))
set_option maxHeartbeats 4000000 in
theorem k14_segment_J128 {p : Program} {l : Launch} {e : Env} {s : State} {m : MethodId} {args : Array Value} {below : List Frame} {meth : Method} {c : Code} {G : Gh} {a1 : Nat → Nat → Nat} {τ : St} {Q : St → Prop} (C : Cx p e s m args meth c cX14_segment 2 none "WebHostModel" G) (σ : St) (o1 : Nat) (ho1 : o1 < 16) (hw : w14_segment_J128 σ o1 Q) (H : Heap) (locs : List Loc) (ls : Array Slot) (hH : Hd G a1 (cmb τ σ) H) (hS : va_S (gA G) s.heap H locs) (hl : lv_has ls 2 [(0, .ref (ga G 14 0)), (1, .ref (ga G 15 o1))]) : W p l e rmX14_segment s m args below meth c H locs 0 0 (MQ below (QVs G a1 (fun u => cmb τ u) Q) args s 0 0 (gA G)) (F0 m 128 ls []) := by
  have hx := C.1
  have hb := C.2.1
  have hown := C.2.2.2.2.2.1
  have hts := C.2.2.2.2.2.2.1
  refine lv_aload_n hx hb dX14_segment_128 rfl (lv_at hl 0 rfl) ?_
  refine lv_aload_n hx hb dX14_segment_129 rfl (lv_at hl 1 rfl) ?_
  refine kc_v (rn_v (As := [.ref (ga G 15 o1)]) (rest := []) C hH hS (by decide) rfl (by decide) (m14_requests l G a1 τ σ o1 ho1 _ hw) (cwV 1 hts (lw_V q2439 q2441 qs128 q171 q2442) rfl rfl rfl kX14_requests ⟨Nat.le_of_ble_eq_true rfl, Nat.le_of_ble_eq_true rfl⟩) rfl hl.1 rfl (Nat.le_of_ble_eq_true rfl) dX14_segment_130 ⟨Nat.le_of_ble_eq_true rfl, Nat.le_of_ble_eq_true rfl⟩) hS (fun σ7 H locs hw hH hS => ?_)
  refine lv_aload_n hx hb dX14_segment_133 rfl (lv_at hl 0 rfl) ?_
  refine lv_aload_n hx hb dX14_segment_134 rfl (lv_at hl 1 rfl) ?_
  refine kc_v (rn_v (As := [.ref (ga G 15 o1)]) (rest := []) C hH hS (by decide) rfl (by decide) (m14_sendAll l G a1 τ σ7 o1 ho1 _ hw) (cwV 1 hts (lw_V q2321 q2323 qs103 q171 q2324) rfl rfl rfl kX14_sendAll ⟨Nat.le_of_ble_eq_true rfl, Nat.le_of_ble_eq_true rfl⟩) rfl hl.1 rfl (Nat.le_of_ble_eq_true rfl) dX14_segment_135 ⟨Nat.le_of_ble_eq_true rfl, Nat.le_of_ble_eq_true rfl⟩) hS (fun σ8 H locs hw hH hS => ?_)
  refine lv_aload_n hx hb dX14_segment_138 rfl (lv_at hl 1 rfl) ?_
  refine g15_39 C hH ho1 q1755 dX14_segment_139 (fun hz => ?_)
  have hw := hw hz
  refine lv_if_eq (tgt := 150) hx hb dX14_segment_142 (by decide) (fun h => ?_) (fun h => ?_)
  · have hw := hw.1 h
    exact rt_v C hH hS hw dX14_segment_150
  have hw := hw.2 h
  refine lv_aload_n hx hb dX14_segment_145 rfl (lv_at hl 0 rfl) ?_
  refine lv_aload_n hx hb dX14_segment_146 rfl (lv_at hl 1 rfl) ?_
  refine kc_v (rn_v (As := [.ref (ga G 15 o1)]) (rest := []) C hH hS (by decide) rfl (by decide) (m14_acknowledge l G a1 τ σ8 o1 ho1 _ hw) (cwV 1 hts (lw_V q2401 q2403 qs122 q171 q2404) rfl rfl rfl kX14_acknowledge ⟨Nat.le_of_ble_eq_true rfl, Nat.le_of_ble_eq_true rfl⟩) rfl hl.1 rfl (Nat.le_of_ble_eq_true rfl) dX14_segment_147 ⟨Nat.le_of_ble_eq_true rfl, Nat.le_of_ble_eq_true rfl⟩) hS (fun σ9 H locs hw hH hS => ?_)
  exact rt_v C hH hS hw dX14_segment_150
def w14_segment (σ : St) (o1 : Nat) (Q : St → Prop) : Prop := w14_isAcceptable σ o1 (fun r1 => ((¬ r1 = 0 → (w14_is σ 4 (fun r2 => ((r2 = 0 → (w14_is σ 2 (fun r3 => ((r3 = 0 → (w14_is σ 16 (fun r4 => ((r4 = 0 → Q σ) ∧ (¬ r4 = 0 → (w14_acknowledgement σ o1 (fun r5 σ5 => ((¬ r5 = 0 → (w14_arrived σ5 o1 (fun σ6 => ((¬ (σ6 15 o1 0) = 6 → w14_segment_J128 σ6 o1 Q) ∧ ((σ6 15 o1 0) = 6 → (w14_is σ6 1 (fun r10 => ((r10 = 0 → w14_segment_J128 σ6 o1 Q) ∧ (¬ r10 = 0 → (∀ σ11, σ11 = up3 σ6 15 o1 45 (σ6 14 0 10) → (w14_segment_J128 σ11 o1 Q))))))))))) ∧ (r5 = 0 → Q σ5))))))))) ∧ (¬ r3 = 0 → (w14_reset σ (fun σ12 => (w14_gone σ12 o1 (fun σ13 => (Q σ13)))))))))) ∧ (¬ r2 = 0 → (w14_gone σ o1 (fun σ14 => (Q σ14)))))))) ∧ (r1 = 0 → (w14_is σ 4 (fun r15 => ((r15 = 0 → (w14_acknowledge σ o1 (fun σ16 => ((¬ (σ16 15 o1 0) = 6 → Q σ16) ∧ ((σ16 15 o1 0) = 6 → (w14_is σ16 1 (fun r17 => ((r17 = 0 → Q σ16) ∧ (¬ r17 = 0 → (∀ σ18, σ18 = up3 σ16 15 o1 45 (σ16 14 0 10) → (Q σ18))))))))))) ∧ (¬ r15 = 0 → Q σ)))))))
set_option maxHeartbeats 4000000 in
theorem m14_segment (l : Launch) (G : Gh) (a1 : Nat → Nat → Nat) (τ : St) (σ : St) (o1 : Nat) (ho1 : o1 < 16) (Q : St → Prop) (hw : w14_segment σ o1 Q) : Met l yX14_segment (ws_ yX14_segment cX14_segment 2 none) rmX14_segment (PcS G a1 (cmb τ σ) [.ref (ga G 14 0), .ref (ga G 15 o1)]) (QVs G a1 (fun u => cmb τ u) Q) 0 0 (gA G) := by
  refine met_w (by decide) (Nat.le_of_ble_eq_true rfl) ?_
  intro p e s m below meth c ls C hH hS hl
  have C : Cx p e s m _ meth c cX14_segment 2 none "WebHostModel" G := C
  have hl : lv_has ls 2 [(0, .ref (ga G 14 0)), (1, .ref (ga G 15 o1))] := hl
  have hx := C.1
  have hb := C.2.1
  have hown := C.2.2.2.2.2.1
  have hts := C.2.2.2.2.2.2.1
  obtain ⟨locs, hlocs⟩ : ∃ z : List Loc, z = [] := ⟨_, rfl⟩
  obtain ⟨H, hHe⟩ : ∃ z : Heap, z = s.heap := ⟨_, rfl⟩
  have hH : Hd G a1 (cmb τ σ) H := by rw [hHe]; exact hH
  have hS : va_S (gA G) s.heap H locs := by rw [hHe, hlocs]; exact hS
  refine W.heap0 hHe.symm hlocs.symm ?_
  refine lv_aload_n hx hb dX14_segment_0 rfl (lv_at hl 0 rfl) ?_
  refine lv_aload_n hx hb dX14_segment_1 rfl (lv_at hl 1 rfl) ?_
  refine kc_ip (rn_vp (As := [.ref (ga G 15 o1)]) (rest := []) C hH hS (by decide) rfl (by decide) (m14_isAcceptable l G a1 τ σ H o1 ho1 _ hw) (cwV 1 hts (lw_V q2394 q2396 qs121 q171 q2397) rfl rfl rfl kX14_isAcceptable ⟨Nat.le_of_ble_eq_true rfl, Nat.le_of_ble_eq_true rfl⟩) rfl hl.1 rfl (Nat.le_of_ble_eq_true rfl) dX14_segment_2 ⟨Nat.le_of_ble_eq_true rfl, Nat.le_of_ble_eq_true rfl⟩) hS (fun r1 locs hw hS => ?_)
  refine lv_if_ne (tgt := 48) hx hb dX14_segment_5 (by decide) (fun h => ?_) (fun h => ?_)
  · have hw := hw.1 h
    refine lv_aload_n hx hb dX14_segment_48 rfl (lv_at hl 0 rfl) ?_
    refine lv_iconst (v := 4) hx hb dX14_segment_49 (by decide) ?_
    refine kc_ip (rn_vp (As := [.int 4]) (rest := []) C hH hS (by decide) rfl (by decide) (m14_is l G a1 τ σ H 4 _ hw) (cwV 1 hts (lw_V q2373 q2375 qs116 q171 q2376) rfl rfl rfl kX14_is ⟨Nat.le_of_ble_eq_true rfl, Nat.le_of_ble_eq_true rfl⟩) rfl hl.1 rfl (Nat.le_of_ble_eq_true rfl) dX14_segment_50 ⟨Nat.le_of_ble_eq_true rfl, Nat.le_of_ble_eq_true rfl⟩) hS (fun r2 locs hw hS => ?_)
    refine lv_if_eq (tgt := 62) hx hb dX14_segment_53 (by decide) (fun h => ?_) (fun h => ?_)
    · have hw := hw.1 h
      refine lv_aload_n hx hb dX14_segment_62 rfl (lv_at hl 0 rfl) ?_
      refine lv_iconst (v := 2) hx hb dX14_segment_63 (by decide) ?_
      refine kc_ip (rn_vp (As := [.int 2]) (rest := []) C hH hS (by decide) rfl (by decide) (m14_is l G a1 τ σ H 2 _ hw) (cwV 1 hts (lw_V q2373 q2375 qs116 q171 q2376) rfl rfl rfl kX14_is ⟨Nat.le_of_ble_eq_true rfl, Nat.le_of_ble_eq_true rfl⟩) rfl hl.1 rfl (Nat.le_of_ble_eq_true rfl) dX14_segment_64 ⟨Nat.le_of_ble_eq_true rfl, Nat.le_of_ble_eq_true rfl⟩) hS (fun r3 locs hw hS => ?_)
      refine lv_if_eq (tgt := 80) hx hb dX14_segment_67 (by decide) (fun h => ?_) (fun h => ?_)
      · have hw := hw.1 h
        refine lv_aload_n hx hb dX14_segment_80 rfl (lv_at hl 0 rfl) ?_
        refine lv_bipush (v := 16) hx hb dX14_segment_81 (by decide) ?_
        refine kc_ip (rn_vp (As := [.int 16]) (rest := []) C hH hS (by decide) rfl (by decide) (m14_is l G a1 τ σ H 16 _ hw) (cwV 1 hts (lw_V q2373 q2375 qs116 q171 q2376) rfl rfl rfl kX14_is ⟨Nat.le_of_ble_eq_true rfl, Nat.le_of_ble_eq_true rfl⟩) rfl hl.1 rfl (Nat.le_of_ble_eq_true rfl) dX14_segment_83 ⟨Nat.le_of_ble_eq_true rfl, Nat.le_of_ble_eq_true rfl⟩) hS (fun r4 locs hw hS => ?_)
        refine lv_if_eq (tgt := 97) hx hb dX14_segment_86 (by decide) (fun h => ?_) (fun h => ?_)
        · have hw := hw.1 h
          exact rt_v C hH hS hw dX14_segment_97
        have hw := hw.2 h
        refine lv_aload_n hx hb dX14_segment_89 rfl (lv_at hl 0 rfl) ?_
        refine lv_aload_n hx hb dX14_segment_90 rfl (lv_at hl 1 rfl) ?_
        refine kc_i (rn_v (As := [.ref (ga G 15 o1)]) (rest := []) C hH hS (by decide) rfl (by decide) (m14_acknowledgement l G a1 τ σ o1 ho1 _ hw) (cwV 1 hts (lw_V q2405 q2407 qs123 q171 q2408) rfl rfl rfl kX14_acknowledgement ⟨Nat.le_of_ble_eq_true rfl, Nat.le_of_ble_eq_true rfl⟩) rfl hl.1 rfl (Nat.le_of_ble_eq_true rfl) dX14_segment_91 ⟨Nat.le_of_ble_eq_true rfl, Nat.le_of_ble_eq_true rfl⟩) hS (fun r5 σ5 H locs hw hH hS => ?_)
        refine lv_if_ne (tgt := 98) hx hb dX14_segment_94 (by decide) (fun h => ?_) (fun h => ?_)
        · have hw := hw.1 h
          refine lv_aload_n hx hb dX14_segment_98 rfl (lv_at hl 0 rfl) ?_
          refine lv_aload_n hx hb dX14_segment_99 rfl (lv_at hl 1 rfl) ?_
          refine kc_v (rn_v (As := [.ref (ga G 15 o1)]) (rest := []) C hH hS (by decide) rfl (by decide) (m14_arrived l G a1 τ σ5 o1 ho1 _ hw) (cwV 1 hts (lw_V q2432 q2434 qs127 q171 q2435) rfl rfl rfl kX14_arrived ⟨Nat.le_of_ble_eq_true rfl, Nat.le_of_ble_eq_true rfl⟩) rfl hl.1 rfl (Nat.le_of_ble_eq_true rfl) dX14_segment_100 ⟨Nat.le_of_ble_eq_true rfl, Nat.le_of_ble_eq_true rfl⟩) hS (fun σ6 H locs hw hH hS => ?_)
          refine lv_aload_n hx hb dX14_segment_103 rfl (lv_at hl 1 rfl) ?_
          refine g15_0 C hH ho1 q1707 dX14_segment_104 ?_
          refine lv_bipush (v := 6) hx hb dX14_segment_107 (by decide) ?_
          refine lv_icmp_ne (tgt := 128) hx hb dX14_segment_109 (by decide) (fun h => ?_) (fun h => ?_)
          · have hw := hw.1 h
            exact k14_segment_J128 C σ6 o1 ho1 hw H locs ls hH hS (lv_sub hl [0, 1] rfl)
          have hw := hw.2 h
          refine lv_aload_n hx hb dX14_segment_112 rfl (lv_at hl 0 rfl) ?_
          refine lv_iconst (v := 1) hx hb dX14_segment_113 (by decide) ?_
          refine kc_ip (rn_vp (As := [.int 1]) (rest := []) C hH hS (by decide) rfl (by decide) (m14_is l G a1 τ σ6 H 1 _ hw) (cwV 1 hts (lw_V q2373 q2375 qs116 q171 q2376) rfl rfl rfl kX14_is ⟨Nat.le_of_ble_eq_true rfl, Nat.le_of_ble_eq_true rfl⟩) rfl hl.1 rfl (Nat.le_of_ble_eq_true rfl) dX14_segment_114 ⟨Nat.le_of_ble_eq_true rfl, Nat.le_of_ble_eq_true rfl⟩) hS (fun r10 locs hw hS => ?_)
          refine lv_if_eq (tgt := 128) hx hb dX14_segment_117 (by decide) (fun h => ?_) (fun h => ?_)
          · have hw := hw.1 h
            exact k14_segment_J128 C σ6 o1 ho1 hw H locs ls hH hS (lv_sub hl [0, 1] rfl)
          have hw := hw.2 h
          refine lv_aload_n hx hb dX14_segment_120 rfl (lv_at hl 1 rfl) ?_
          refine lv_aload_n hx hb dX14_segment_121 rfl (lv_at hl 0 rfl) ?_
          refine g14_10 C hH q1950 dX14_segment_122 ?_
          refine p15_45 C hH hS ho1 q1762 dX14_segment_125 (fun σ11 e11 H locs hH hS => ?_)
          have hw := hw σ11 e11
          exact k14_segment_J128 C σ11 o1 ho1 hw H locs ls hH hS (lv_sub hl [0, 1] rfl)
        have hw := hw.2 h
        exact rt_v C hH hS hw dX14_segment_97
      have hw := hw.2 h
      refine lv_aload_n hx hb dX14_segment_70 rfl (lv_at hl 0 rfl) ?_
      refine kc_v (rn_v (As := []) (rest := []) C hH hS (by decide) rfl (by decide) (m14_reset l G a1 τ σ _ hw) (cwV 0 hts (lw_V q2377 q2379 qs117 q171 q2380) rfl rfl rfl kX14_reset ⟨Nat.le_of_ble_eq_true rfl, Nat.le_of_ble_eq_true rfl⟩) rfl hl.1 rfl (Nat.le_of_ble_eq_true rfl) dX14_segment_71 ⟨Nat.le_of_ble_eq_true rfl, Nat.le_of_ble_eq_true rfl⟩) hS (fun σ12 H locs hw hH hS => ?_)
      refine lv_aload_n hx hb dX14_segment_74 rfl (lv_at hl 0 rfl) ?_
      refine lv_aload_n hx hb dX14_segment_75 rfl (lv_at hl 1 rfl) ?_
      refine kc_v (rn_v (As := [.ref (ga G 15 o1)]) (rest := []) C hH hS (by decide) rfl (by decide) (m14_gone l G a1 τ σ12 o1 ho1 _ hw) (cwV 1 hts (lw_V q2277 q2279 qs94 q171 q2280) rfl rfl rfl kX14_gone ⟨Nat.le_of_ble_eq_true rfl, Nat.le_of_ble_eq_true rfl⟩) rfl hl.1 rfl (Nat.le_of_ble_eq_true rfl) dX14_segment_76 ⟨Nat.le_of_ble_eq_true rfl, Nat.le_of_ble_eq_true rfl⟩) hS (fun σ13 H locs hw hH hS => ?_)
      exact rt_v C hH hS hw dX14_segment_79
    have hw := hw.2 h
    refine lv_aload_n hx hb dX14_segment_56 rfl (lv_at hl 0 rfl) ?_
    refine lv_aload_n hx hb dX14_segment_57 rfl (lv_at hl 1 rfl) ?_
    refine kc_v (rn_v (As := [.ref (ga G 15 o1)]) (rest := []) C hH hS (by decide) rfl (by decide) (m14_gone l G a1 τ σ o1 ho1 _ hw) (cwV 1 hts (lw_V q2277 q2279 qs94 q171 q2280) rfl rfl rfl kX14_gone ⟨Nat.le_of_ble_eq_true rfl, Nat.le_of_ble_eq_true rfl⟩) rfl hl.1 rfl (Nat.le_of_ble_eq_true rfl) dX14_segment_58 ⟨Nat.le_of_ble_eq_true rfl, Nat.le_of_ble_eq_true rfl⟩) hS (fun σ14 H locs hw hH hS => ?_)
    exact rt_v C hH hS hw dX14_segment_61
  have hw := hw.2 h
  refine lv_aload_n hx hb dX14_segment_8 rfl (lv_at hl 0 rfl) ?_
  refine lv_iconst (v := 4) hx hb dX14_segment_9 (by decide) ?_
  refine kc_ip (rn_vp (As := [.int 4]) (rest := []) C hH hS (by decide) rfl (by decide) (m14_is l G a1 τ σ H 4 _ hw) (cwV 1 hts (lw_V q2373 q2375 qs116 q171 q2376) rfl rfl rfl kX14_is ⟨Nat.le_of_ble_eq_true rfl, Nat.le_of_ble_eq_true rfl⟩) rfl hl.1 rfl (Nat.le_of_ble_eq_true rfl) dX14_segment_10 ⟨Nat.le_of_ble_eq_true rfl, Nat.le_of_ble_eq_true rfl⟩) hS (fun r15 locs hw hS => ?_)
  refine lv_if_eq (tgt := 17) hx hb dX14_segment_13 (by decide) (fun h => ?_) (fun h => ?_)
  · have hw := hw.1 h
    refine lv_aload_n hx hb dX14_segment_17 rfl (lv_at hl 0 rfl) ?_
    refine lv_aload_n hx hb dX14_segment_18 rfl (lv_at hl 1 rfl) ?_
    refine kc_v (rn_v (As := [.ref (ga G 15 o1)]) (rest := []) C hH hS (by decide) rfl (by decide) (m14_acknowledge l G a1 τ σ o1 ho1 _ hw) (cwV 1 hts (lw_V q2401 q2403 qs122 q171 q2404) rfl rfl rfl kX14_acknowledge ⟨Nat.le_of_ble_eq_true rfl, Nat.le_of_ble_eq_true rfl⟩) rfl hl.1 rfl (Nat.le_of_ble_eq_true rfl) dX14_segment_19 ⟨Nat.le_of_ble_eq_true rfl, Nat.le_of_ble_eq_true rfl⟩) hS (fun σ16 H locs hw hH hS => ?_)
    refine lv_aload_n hx hb dX14_segment_22 rfl (lv_at hl 1 rfl) ?_
    refine g15_0 C hH ho1 q1707 dX14_segment_23 ?_
    refine lv_bipush (v := 6) hx hb dX14_segment_26 (by decide) ?_
    refine lv_icmp_ne (tgt := 47) hx hb dX14_segment_28 (by decide) (fun h => ?_) (fun h => ?_)
    · have hw := hw.1 h
      exact rt_v C hH hS hw dX14_segment_47
    have hw := hw.2 h
    refine lv_aload_n hx hb dX14_segment_31 rfl (lv_at hl 0 rfl) ?_
    refine lv_iconst (v := 1) hx hb dX14_segment_32 (by decide) ?_
    refine kc_ip (rn_vp (As := [.int 1]) (rest := []) C hH hS (by decide) rfl (by decide) (m14_is l G a1 τ σ16 H 1 _ hw) (cwV 1 hts (lw_V q2373 q2375 qs116 q171 q2376) rfl rfl rfl kX14_is ⟨Nat.le_of_ble_eq_true rfl, Nat.le_of_ble_eq_true rfl⟩) rfl hl.1 rfl (Nat.le_of_ble_eq_true rfl) dX14_segment_33 ⟨Nat.le_of_ble_eq_true rfl, Nat.le_of_ble_eq_true rfl⟩) hS (fun r17 locs hw hS => ?_)
    refine lv_if_eq (tgt := 47) hx hb dX14_segment_36 (by decide) (fun h => ?_) (fun h => ?_)
    · have hw := hw.1 h
      exact rt_v C hH hS hw dX14_segment_47
    have hw := hw.2 h
    refine lv_aload_n hx hb dX14_segment_39 rfl (lv_at hl 1 rfl) ?_
    refine lv_aload_n hx hb dX14_segment_40 rfl (lv_at hl 0 rfl) ?_
    refine g14_10 C hH q1950 dX14_segment_41 ?_
    refine p15_45 C hH hS ho1 q1762 dX14_segment_44 (fun σ18 e18 H locs hH hS => ?_)
    have hw := hw σ18 e18
    exact rt_v C hH hS hw dX14_segment_47
  have hw := hw.2 h
  exact rt_v C hH hS hw dX14_segment_16
/-! WebHost$Requests.look(LWebHost$Inbox;LWebHost$Answer;Z)I -/
abbrev cX9_look : ByteArray := prog_11_method_2_code
def yX9_look : MethodName := ⟨RX9, "look", "(LWebHost$Inbox;LWebHost$Answer;Z)I"⟩
theorem dX9_look_0 : decode cX9_look 0 = .ok (.iconst 1, 1) := by decide +kernel
theorem dX9_look_1 : decode cX9_look 1 = .ok (.istore 4, 2) := by decide +kernel
theorem dX9_look_3 : decode cX9_look 3 = .ok (.iload 4, 2) := by decide +kernel
theorem dX9_look_5 : decode cX9_look 5 = .ok (.ifCond .eq 73, 3) := by decide +kernel
theorem dX9_look_8 : decode cX9_look 8 = .ok (.aload_n 1, 1) := by decide +kernel
theorem dX9_look_9 : decode cX9_look 9 = .ok (.getfield 22, 3) := by decide +kernel
theorem dX9_look_12 : decode cX9_look 12 = .ok (.ifCond .le 22, 3) := by decide +kernel
theorem dX9_look_15 : decode cX9_look 15 = .ok (.aload_n 1, 1) := by decide +kernel
theorem dX9_look_16 : decode cX9_look 16 = .ok (.getfield 26, 3) := by decide +kernel
theorem dX9_look_19 : decode cX9_look 19 = .ok (.iconst 0, 1) := by decide +kernel
theorem dX9_look_20 : decode cX9_look 20 = .ok (.baload, 1) := by decide +kernel
theorem dX9_look_21 : decode cX9_look 21 = .ok (.bipush 10, 2) := by decide +kernel
theorem dX9_look_23 : decode cX9_look 23 = .ok (.if_icmp .ne 11, 3) := by decide +kernel
theorem dX9_look_26 : decode cX9_look 26 = .ok (.aload_n 1, 1) := by decide +kernel
theorem dX9_look_27 : decode cX9_look 27 = .ok (.iconst 1, 1) := by decide +kernel
theorem dX9_look_28 : decode cX9_look 28 = .ok (.invokevirtual 29, 3) := by decide +kernel
theorem dX9_look_31 : decode cX9_look 31 = .ok (.goto (-28), 3) := by decide +kernel
theorem dX9_look_34 : decode cX9_look 34 = .ok (.aload_n 1, 1) := by decide +kernel
theorem dX9_look_35 : decode cX9_look 35 = .ok (.getfield 22, 3) := by decide +kernel
theorem dX9_look_38 : decode cX9_look 38 = .ok (.iconst 1, 1) := by decide +kernel
theorem dX9_look_39 : decode cX9_look 39 = .ok (.if_icmp .le 33, 3) := by decide +kernel
theorem dX9_look_42 : decode cX9_look 42 = .ok (.aload_n 1, 1) := by decide +kernel
theorem dX9_look_43 : decode cX9_look 43 = .ok (.getfield 26, 3) := by decide +kernel
theorem dX9_look_46 : decode cX9_look 46 = .ok (.iconst 0, 1) := by decide +kernel
theorem dX9_look_47 : decode cX9_look 47 = .ok (.baload, 1) := by decide +kernel
theorem dX9_look_48 : decode cX9_look 48 = .ok (.bipush 13, 2) := by decide +kernel
theorem dX9_look_50 : decode cX9_look 50 = .ok (.if_icmp .ne 22, 3) := by decide +kernel
theorem dX9_look_53 : decode cX9_look 53 = .ok (.aload_n 1, 1) := by decide +kernel
theorem dX9_look_54 : decode cX9_look 54 = .ok (.getfield 26, 3) := by decide +kernel
theorem dX9_look_57 : decode cX9_look 57 = .ok (.iconst 1, 1) := by decide +kernel
theorem dX9_look_58 : decode cX9_look 58 = .ok (.baload, 1) := by decide +kernel
theorem dX9_look_59 : decode cX9_look 59 = .ok (.bipush 10, 2) := by decide +kernel
theorem dX9_look_61 : decode cX9_look 61 = .ok (.if_icmp .ne 11, 3) := by decide +kernel
theorem dX9_look_64 : decode cX9_look 64 = .ok (.aload_n 1, 1) := by decide +kernel
theorem dX9_look_65 : decode cX9_look 65 = .ok (.iconst 2, 1) := by decide +kernel
theorem dX9_look_66 : decode cX9_look 66 = .ok (.invokevirtual 29, 3) := by decide +kernel
theorem dX9_look_69 : decode cX9_look 69 = .ok (.goto (-66), 3) := by decide +kernel
theorem dX9_look_72 : decode cX9_look 72 = .ok (.iconst 0, 1) := by decide +kernel
theorem dX9_look_73 : decode cX9_look 73 = .ok (.istore 4, 2) := by decide +kernel
theorem dX9_look_75 : decode cX9_look 75 = .ok (.goto (-72), 3) := by decide +kernel
theorem dX9_look_78 : decode cX9_look 78 = .ok (.aload_n 0, 1) := by decide +kernel
theorem dX9_look_79 : decode cX9_look 79 = .ok (.aload_n 1, 1) := by decide +kernel
theorem dX9_look_80 : decode cX9_look 80 = .ok (.invokestatic 33, 3) := by decide +kernel
theorem dX9_look_83 : decode cX9_look 83 = .ok (.putfield 37, 3) := by decide +kernel
theorem dX9_look_86 : decode cX9_look 86 = .ok (.aload_n 0, 1) := by decide +kernel
theorem dX9_look_87 : decode cX9_look 87 = .ok (.getfield 37, 3) := by decide +kernel
theorem dX9_look_90 : decode cX9_look 90 = .ok (.ifCond .ge 49, 3) := by decide +kernel
theorem dX9_look_93 : decode cX9_look 93 = .ok (.aload_n 1, 1) := by decide +kernel
theorem dX9_look_94 : decode cX9_look 94 = .ok (.getfield 22, 3) := by decide +kernel
theorem dX9_look_97 : decode cX9_look 97 = .ok (.sipush 4096, 3) := by decide +kernel
theorem dX9_look_100 : decode cX9_look 100 = .ok (.if_icmp .ge 13, 3) := by decide +kernel
theorem dX9_look_103 : decode cX9_look 103 = .ok (.iload_n 3, 1) := by decide +kernel
theorem dX9_look_104 : decode cX9_look 104 = .ok (.ifCond .eq 7, 3) := by decide +kernel
theorem dX9_look_107 : decode cX9_look 107 = .ok (.iconst 3, 1) := by decide +kernel
theorem dX9_look_108 : decode cX9_look 108 = .ok (.goto 4, 3) := by decide +kernel
theorem dX9_look_111 : decode cX9_look 111 = .ok (.iconst 0, 1) := by decide +kernel
theorem dX9_look_112 : decode cX9_look 112 = .ok (.ireturn, 1) := by decide +kernel
theorem dX9_look_113 : decode cX9_look 113 = .ok (.aload_n 1, 1) := by decide +kernel
theorem dX9_look_114 : decode cX9_look 114 = .ok (.aload_n 1, 1) := by decide +kernel
theorem dX9_look_115 : decode cX9_look 115 = .ok (.getfield 22, 3) := by decide +kernel
theorem dX9_look_118 : decode cX9_look 118 = .ok (.invokevirtual 29, 3) := by decide +kernel
theorem dX9_look_121 : decode cX9_look 121 = .ok (.aload_n 0, 1) := by decide +kernel
theorem dX9_look_122 : decode cX9_look 122 = .ok (.iconst 0, 1) := by decide +kernel
theorem dX9_look_123 : decode cX9_look 123 = .ok (.putfield 40, 3) := by decide +kernel
theorem dX9_look_126 : decode cX9_look 126 = .ok (.aload_n 0, 1) := by decide +kernel
theorem dX9_look_127 : decode cX9_look 127 = .ok (.aload_n 2, 1) := by decide +kernel
theorem dX9_look_128 : decode cX9_look 128 = .ok (.sipush 431, 3) := by decide +kernel
theorem dX9_look_131 : decode cX9_look 131 = .ok (.ldc 44, 2) := by decide +kernel
theorem dX9_look_133 : decode cX9_look 133 = .ok (.iconst 1, 1) := by decide +kernel
theorem dX9_look_134 : decode cX9_look 134 = .ok (.invokevirtual 46, 3) := by decide +kernel
theorem dX9_look_137 : decode cX9_look 137 = .ok (.iconst 2, 1) := by decide +kernel
theorem dX9_look_138 : decode cX9_look 138 = .ok (.ireturn, 1) := by decide +kernel
theorem dX9_look_139 : decode cX9_look 139 = .ok (.aload_n 1, 1) := by decide +kernel
theorem dX9_look_140 : decode cX9_look 140 = .ok (.getfield 26, 3) := by decide +kernel
theorem dX9_look_143 : decode cX9_look 143 = .ok (.iconst 0, 1) := by decide +kernel
theorem dX9_look_144 : decode cX9_look 144 = .ok (.aload_n 0, 1) := by decide +kernel
theorem dX9_look_145 : decode cX9_look 145 = .ok (.getfield 9, 3) := by decide +kernel
theorem dX9_look_148 : decode cX9_look 148 = .ok (.iconst 0, 1) := by decide +kernel
theorem dX9_look_149 : decode cX9_look 149 = .ok (.aload_n 0, 1) := by decide +kernel
theorem dX9_look_150 : decode cX9_look 150 = .ok (.getfield 37, 3) := by decide +kernel
theorem dX9_look_153 : decode cX9_look 153 = .ok (.invokestatic 50, 3) := by decide +kernel
theorem dX9_look_156 : decode cX9_look 156 = .ok (.aload_n 1, 1) := by decide +kernel
theorem dX9_look_157 : decode cX9_look 157 = .ok (.aload_n 0, 1) := by decide +kernel
theorem dX9_look_158 : decode cX9_look 158 = .ok (.getfield 37, 3) := by decide +kernel
theorem dX9_look_161 : decode cX9_look 161 = .ok (.invokevirtual 29, 3) := by decide +kernel
theorem dX9_look_164 : decode cX9_look 164 = .ok (.aload_n 0, 1) := by decide +kernel
theorem dX9_look_165 : decode cX9_look 165 = .ok (.aload_n 1, 1) := by decide +kernel
theorem dX9_look_166 : decode cX9_look 166 = .ok (.aload_n 2, 1) := by decide +kernel
theorem dX9_look_167 : decode cX9_look 167 = .ok (.invokevirtual 56, 3) := by decide +kernel
theorem dX9_look_170 : decode cX9_look 170 = .ok (.ireturn, 1) := by decide +kernel
def rmX9_look : Room := { frames := 11, cells := 1, slots := 66047, locals := 245 }
theorem kX9_look : yX9_look.cls = "WebHost$Requests" ∧ yX9_look.cls ≠ "java/lang/invoke/MethodHandle" ∧ yX9_look.cls ≠ "java/lang/invoke/VarHandle" ∧ (parseMethodDescriptor yX9_look.desc).map (fun d => d.parameters.length) = some 3 := by decide +kernel
def w9_look_J34 (σ : St) (o1 : Nat) (o2 : Nat) (x3 : Int32) (x4 : Int32) (Q : Int32 → St → Prop) (K3 : St → Int32 → Prop) : Prop := ((σ 12 o1 2) ≤ 1 → K3 σ 0) ∧ (¬ (σ 12 o1 2) ≤ 1 → (vp_in 0 4096 ∧ (by8 (σ 42 o1 (0 : Int32).toNatClampNeg) → ((¬ (σ 42 o1 (0 : Int32).toNatClampNeg) = 13 → K3 σ 0) ∧ ((σ 42 o1 (0 : Int32).toNatClampNeg) = 13 → (vp_in 1 4096 ∧ (by8 (σ 42 o1 (1 : Int32).toNatClampNeg) → ((¬ (σ 42 o1 (1 : Int32).toNatClampNeg) = 10 → K3 σ 0) ∧ ((σ 42 o1 (1 : Int32).toNatClampNeg) = 10 → (w12_take σ o1 2 (fun σ1 => (K3 σ1 x4))))))))))))
set_option maxHeartbeats 4000000 in
theorem k9_look_J34 {p : Program} {l : Launch} {e : Env} {s : State} {m : MethodId} {args : Array Value} {below : List Frame} {meth : Method} {c : Code} {G : Gh} {a1 : Nat → Nat → Nat} {τ : St} {Q : Int32 → St → Prop} {K3 : St → Int32 → Prop} (C : Cx p e s m args meth c cX9_look 5 (some .int) "WebHost$Requests" G) (σ : St) (o1 : Nat) (o2 : Nat) (x3 : Int32) (x4 : Int32) (ho1 : o1 < 16) (ho2 : o2 < 16) (hw : w9_look_J34 σ o1 o2 x3 x4 Q K3) (H : Heap) (locs : List Loc) (ls : Array Slot) (hH : Hd G a1 (cmb σ τ) H) (hS : va_S (gA G) s.heap H locs) (hl : lv_has ls 5 [(0, .ref (ga G 9 0)), (1, .ref (ga G 12 o1)), (2, .ref (ga G 13 o2)), (3, .int x3), (4, .int x4)]) (hK3 : ∀ (σ : St) (x4 : Int32), K3 σ x4 → ∀ (H : Heap) (locs : List Loc) (ls : Array Slot), Hd G a1 (cmb σ τ) H → va_S (gA G) s.heap H locs → lv_has ls 5 [(0, .ref (ga G 9 0)), (1, .ref (ga G 12 o1)), (2, .ref (ga G 13 o2)), (3, .int x3), (4, .int x4)] → W p l e rmX9_look s m args below meth c H locs 0 0 (MQ below (QIa G (fun u => cmb u τ) Q) args s 1 66047 (gA G)) (F0 m 3 ls [])) : W p l e rmX9_look s m args below meth c H locs 0 0 (MQ below (QIa G (fun u => cmb u τ) Q) args s 1 66047 (gA G)) (F0 m 34 ls []) := by
  have hx := C.1
  have hb := C.2.1
  have hown := C.2.2.2.2.2.1
  have hts := C.2.2.2.2.2.2.1
  refine lv_aload_n hx hb dX9_look_34 rfl (lv_at hl 1 rfl) ?_
  refine g12_2 C hH ho1 q580 dX9_look_35 ?_
  refine lv_iconst (v := 1) hx hb dX9_look_38 (by decide) ?_
  refine lv_icmp_le (tgt := 72) hx hb dX9_look_39 (by decide) (fun h => ?_) (fun h => ?_)
  · have hw := hw.1 h
    refine lv_iconst (v := 0) hx hb dX9_look_72 (by decide) ?_
    refine lv_istore (lv' := [(4, .int 0), (0, .ref (ga G 9 0)), (1, .ref (ga G 12 o1)), (2, .ref (ga G 13 o2)), (3, .int x3)]) hx hb dX9_look_73 hl (by decide) rfl (fun ls hl => ?_)
    refine lv_goto (tgt := 3) hx hb dX9_look_75 (by decide) ?_
    exact hK3 σ 0 hw H locs ls hH hS (lv_sub hl [1, 2, 3, 4, 0] rfl)
  have hw := hw.2 h
  refine lv_aload_n hx hb dX9_look_42 rfl (lv_at hl 1 rfl) ?_
  refine g12_0 C hH ho1 q577 dX9_look_43 ?_
  refine lv_iconst (v := 0) hx hb dX9_look_46 (by decide) ?_
  refine l42 C hH ho1 hw.1 dX9_look_47 (fun hz => ?_)
  have hw := hw.2 hz
  refine lv_bipush (v := 13) hx hb dX9_look_48 (by decide) ?_
  refine lv_icmp_ne (tgt := 72) hx hb dX9_look_50 (by decide) (fun h => ?_) (fun h => ?_)
  · have hw := hw.1 h
    refine lv_iconst (v := 0) hx hb dX9_look_72 (by decide) ?_
    refine lv_istore (lv' := [(4, .int 0), (0, .ref (ga G 9 0)), (1, .ref (ga G 12 o1)), (2, .ref (ga G 13 o2)), (3, .int x3)]) hx hb dX9_look_73 hl (by decide) rfl (fun ls hl => ?_)
    refine lv_goto (tgt := 3) hx hb dX9_look_75 (by decide) ?_
    exact hK3 σ 0 hw H locs ls hH hS (lv_sub hl [1, 2, 3, 4, 0] rfl)
  have hw := hw.2 h
  refine lv_aload_n hx hb dX9_look_53 rfl (lv_at hl 1 rfl) ?_
  refine g12_0 C hH ho1 q577 dX9_look_54 ?_
  refine lv_iconst (v := 1) hx hb dX9_look_57 (by decide) ?_
  refine l42 C hH ho1 hw.1 dX9_look_58 (fun hz => ?_)
  have hw := hw.2 hz
  refine lv_bipush (v := 10) hx hb dX9_look_59 (by decide) ?_
  refine lv_icmp_ne (tgt := 72) hx hb dX9_look_61 (by decide) (fun h => ?_) (fun h => ?_)
  · have hw := hw.1 h
    refine lv_iconst (v := 0) hx hb dX9_look_72 (by decide) ?_
    refine lv_istore (lv' := [(4, .int 0), (0, .ref (ga G 9 0)), (1, .ref (ga G 12 o1)), (2, .ref (ga G 13 o2)), (3, .int x3)]) hx hb dX9_look_73 hl (by decide) rfl (fun ls hl => ?_)
    refine lv_goto (tgt := 3) hx hb dX9_look_75 (by decide) ?_
    exact hK3 σ 0 hw H locs ls hH hS (lv_sub hl [1, 2, 3, 4, 0] rfl)
  have hw := hw.2 h
  refine lv_aload_n hx hb dX9_look_64 rfl (lv_at hl 1 rfl) ?_
  refine lv_iconst (v := 2) hx hb dX9_look_65 (by decide) ?_
  refine kc_v (rn_v (As := [.int 2]) (rest := []) C hH hS (by decide) rfl ho1 (m12_take l G a1 τ σ o1 2 ho1 _ hw) (cwV 1 hts (lw_V q1249 q1238 q1239 q169 q1240) rfl rfl rfl kX12_take ⟨Nat.le_of_ble_eq_true rfl, Nat.le_of_ble_eq_true rfl⟩) rfl hl.1 rfl (Nat.le_of_ble_eq_true rfl) dX9_look_66 ⟨Nat.le_of_ble_eq_true rfl, Nat.le_of_ble_eq_true rfl⟩) hS (fun σ1 H locs hw hH hS => ?_)
  refine lv_goto (tgt := 3) hx hb dX9_look_69 (by decide) ?_
  exact hK3 σ1 x4 hw H locs ls hH hS (lv_sub hl [0, 1, 2, 3, 4] rfl)
def w9_look_L3 (o1 : Nat) (o2 : Nat) (x3 : Int32) (Q : Int32 → St → Prop) (K78 : St → Prop) : Nat → St → Int32 → Prop
  | 0, _, _ => False
  | n + 1, σ, x4 => (x4 = 0 → K78 σ) ∧ (¬ x4 = 0 → (((σ 12 o1 2) ≤ 0 → (w9_look_J34 σ o1 o2 x3 x4 Q (fun σz x4z => w9_look_L3 o1 o2 x3 Q K78 n σz x4z))) ∧ (¬ (σ 12 o1 2) ≤ 0 → (vp_in 0 4096 ∧ (by8 (σ 42 o1 (0 : Int32).toNatClampNeg) → ((¬ (σ 42 o1 (0 : Int32).toNatClampNeg) = 10 → (w9_look_J34 σ o1 o2 x3 x4 Q (fun σz x4z => w9_look_L3 o1 o2 x3 Q K78 n σz x4z))) ∧ ((σ 42 o1 (0 : Int32).toNatClampNeg) = 10 → (w12_take σ o1 1 (fun σ2 => (w9_look_L3 o1 o2 x3 Q K78 n σ2 x4))))))))))
set_option maxHeartbeats 4000000 in
theorem k9_look_L3 {p : Program} {l : Launch} {e : Env} {s : State} {m : MethodId} {args : Array Value} {below : List Frame} {meth : Method} {c : Code} {G : Gh} {a1 : Nat → Nat → Nat} {τ : St} {Q : Int32 → St → Prop} {K78 : St → Prop} (C : Cx p e s m args meth c cX9_look 5 (some .int) "WebHost$Requests" G) (o1 : Nat) (o2 : Nat) (x3 : Int32) (ho1 : o1 < 16) (ho2 : o2 < 16) :
    ∀ (n : Nat) (σ : St) (x4 : Int32), w9_look_L3 o1 o2 x3 Q K78 n σ x4 → ∀ (H : Heap) (locs : List Loc) (ls : Array Slot), Hd G a1 (cmb σ τ) H → va_S (gA G) s.heap H locs → lv_has ls 5 [(0, .ref (ga G 9 0)), (1, .ref (ga G 12 o1)), (2, .ref (ga G 13 o2)), (3, .int x3), (4, .int x4)] → (∀ (σ : St) , K78 σ → ∀ (H : Heap) (locs : List Loc) (ls : Array Slot), Hd G a1 (cmb σ τ) H → va_S (gA G) s.heap H locs → lv_has ls 5 [(0, .ref (ga G 9 0)), (1, .ref (ga G 12 o1)), (2, .ref (ga G 13 o2)), (3, .int x3)] → W p l e rmX9_look s m args below meth c H locs 0 0 (MQ below (QIa G (fun u => cmb u τ) Q) args s 1 66047 (gA G)) (F0 m 78 ls [])) → W p l e rmX9_look s m args below meth c H locs 0 0 (MQ below (QIa G (fun u => cmb u τ) Q) args s 1 66047 (gA G)) (F0 m 3 ls []) := by
  have hx := C.1
  have hb := C.2.1
  have hown := C.2.2.2.2.2.1
  have hts := C.2.2.2.2.2.2.1
  intro n
  induction n with
  | zero =>
    intro σ x4 hw
    exact False.elim hw
  | succ n ih =>
    intro σ x4 hw H locs ls hH hS hl hK78
    refine lv_iload hx hb dX9_look_3 (lv_at hl 4 rfl) ?_
    refine lv_if_eq (tgt := 78) hx hb dX9_look_5 (by decide) (fun h => ?_) (fun h => ?_)
    · have hw := hw.1 h
      exact hK78 σ hw H locs ls hH hS (lv_sub hl [0, 1, 2, 3] rfl)
    have hw := hw.2 h
    refine lv_aload_n hx hb dX9_look_8 rfl (lv_at hl 1 rfl) ?_
    refine g12_2 C hH ho1 q580 dX9_look_9 ?_
    refine lv_if_le (tgt := 34) hx hb dX9_look_12 (by decide) (fun h => ?_) (fun h => ?_)
    · have hw := hw.1 h
      exact k9_look_J34 C σ o1 o2 x3 x4 ho1 ho2 hw H locs ls hH hS (lv_sub hl [0, 1, 2, 3, 4] rfl) (fun σz x4z hw H locs ls hH hS hl => ih σz x4z hw H locs ls hH hS hl hK78)
    have hw := hw.2 h
    refine lv_aload_n hx hb dX9_look_15 rfl (lv_at hl 1 rfl) ?_
    refine g12_0 C hH ho1 q577 dX9_look_16 ?_
    refine lv_iconst (v := 0) hx hb dX9_look_19 (by decide) ?_
    refine l42 C hH ho1 hw.1 dX9_look_20 (fun hz => ?_)
    have hw := hw.2 hz
    refine lv_bipush (v := 10) hx hb dX9_look_21 (by decide) ?_
    refine lv_icmp_ne (tgt := 34) hx hb dX9_look_23 (by decide) (fun h => ?_) (fun h => ?_)
    · have hw := hw.1 h
      exact k9_look_J34 C σ o1 o2 x3 x4 ho1 ho2 hw H locs ls hH hS (lv_sub hl [0, 1, 2, 3, 4] rfl) (fun σz x4z hw H locs ls hH hS hl => ih σz x4z hw H locs ls hH hS hl hK78)
    have hw := hw.2 h
    refine lv_aload_n hx hb dX9_look_26 rfl (lv_at hl 1 rfl) ?_
    refine lv_iconst (v := 1) hx hb dX9_look_27 (by decide) ?_
    refine kc_v (rn_v (As := [.int 1]) (rest := []) C hH hS (by decide) rfl ho1 (m12_take l G a1 τ σ o1 1 ho1 _ hw) (cwV 1 hts (lw_V q1249 q1238 q1239 q169 q1240) rfl rfl rfl kX12_take ⟨Nat.le_of_ble_eq_true rfl, Nat.le_of_ble_eq_true rfl⟩) rfl hl.1 rfl (Nat.le_of_ble_eq_true rfl) dX9_look_28 ⟨Nat.le_of_ble_eq_true rfl, Nat.le_of_ble_eq_true rfl⟩) hS (fun σ2 H locs hw hH hS => ?_)
    refine lv_goto (tgt := 3) hx hb dX9_look_31 (by decide) ?_
    exact ih σ2 x4 hw H locs ls hH hS (lv_sub hl [0, 1, 2, 3, 4] rfl) hK78
def w9_look (σ : St) (o1 : Nat) (o2 : Nat) (x3 : Int32) (Q : Int32 → St → Prop) : Prop := ∃ z3, w9_look_L3 o1 o2 x3 Q (fun σ4 => w9_headEnd σ4 o1 (fun r5 => (∀ σ6, σ6 = up3 σ4 9 0 2 r5 → ((0 ≤ (σ6 9 0 2) → (w19_copy σ6 42 o1 0 40 0 0 (σ6 9 0 2) (fun σ7 => (w12_take σ7 o1 (σ7 9 0 2) (fun σ8 => (w9_answer σ8 o1 o2 (fun r9 σ9 => (Q r9 σ9)))))))) ∧ (¬ 0 ≤ (σ6 9 0 2) → ((4096 ≤ (σ6 12 o1 2) → (w12_take σ6 o1 (σ6 12 o1 2) (fun σ10 => (∀ σ11, σ11 = up3 σ10 9 0 5 0 → (w9_plain σ11 o2 431 1 1 (fun σ12 => (Q 2 σ12))))))) ∧ (¬ 4096 ≤ (σ6 12 o1 2) → ((x3 = 0 → Q 0 σ6) ∧ (¬ x3 = 0 → Q 3 σ6))))))))) z3 σ 1
set_option maxHeartbeats 4000000 in
theorem m9_look (l : Launch) (G : Gh) (a1 : Nat → Nat → Nat) (τ : St) (σ : St) (o1 : Nat) (o2 : Nat) (x3 : Int32) (ho1 : o1 < 16) (ho2 : o2 < 16) (Q : Int32 → St → Prop) (hw : w9_look σ o1 o2 x3 Q) : Met l yX9_look (ws_ yX9_look cX9_look 5 (some .int)) rmX9_look (PcS G a1 (cmb σ τ) [.ref (ga G 9 0), .ref (ga G 12 o1), .ref (ga G 13 o2), .int x3]) (QIa G (fun u => cmb u τ) Q) 1 66047 (gA G) := by
  refine met_w (by decide) (Nat.le_of_ble_eq_true rfl) ?_
  intro p e s m below meth c ls C hH hS hl
  have C : Cx p e s m _ meth c cX9_look 5 (some .int) "WebHost$Requests" G := C
  have hl : lv_has ls 5 [(0, .ref (ga G 9 0)), (1, .ref (ga G 12 o1)), (2, .ref (ga G 13 o2)), (3, .int x3)] := hl
  have hx := C.1
  have hb := C.2.1
  have hown := C.2.2.2.2.2.1
  have hts := C.2.2.2.2.2.2.1
  obtain ⟨locs, hlocs⟩ : ∃ z : List Loc, z = [] := ⟨_, rfl⟩
  obtain ⟨H, hHe⟩ : ∃ z : Heap, z = s.heap := ⟨_, rfl⟩
  have hH : Hd G a1 (cmb σ τ) H := by rw [hHe]; exact hH
  have hS : va_S (gA G) s.heap H locs := by rw [hHe, hlocs]; exact hS
  refine W.heap0 hHe.symm hlocs.symm ?_
  refine lv_iconst (v := 1) hx hb dX9_look_0 (by decide) ?_
  refine lv_istore (lv' := [(4, .int 1), (0, .ref (ga G 9 0)), (1, .ref (ga G 12 o1)), (2, .ref (ga G 13 o2)), (3, .int x3)]) hx hb dX9_look_1 hl (by decide) rfl (fun ls hl => ?_)
  obtain ⟨n3, hw⟩ := hw
  refine k9_look_L3 C o1 o2 x3 ho1 ho2 n3 σ 1 hw H locs ls hH hS (lv_sub hl [1, 2, 3, 4, 0] rfl) (fun σ4 hw H locs ls hH hS hl => ?_)
  refine lv_aload_n hx hb dX9_look_78 rfl (lv_at hl 0 rfl) ?_
  refine lv_aload_n hx hb dX9_look_79 rfl (lv_at hl 1 rfl) ?_
  refine kc_ip (rn_sp (As := [.ref (ga G 12 o1)]) (rest := [.ref (ga G 9 0)]) C hH hS (m9_headEnd l G a1 τ σ4 H o1 ho1 _ hw) (va_cwS 1 hts (lw_S q1250 q1251 q166 q1252) rfl rfl rfl kX9_headEnd.2 ⟨Nat.le_of_ble_eq_true rfl, Nat.le_of_ble_eq_true rfl⟩) rfl hl.1 rfl (Nat.le_of_ble_eq_true rfl) dX9_look_80 ⟨Nat.le_of_ble_eq_true rfl, Nat.le_of_ble_eq_true rfl⟩) hS (fun r5 locs hw hS => ?_)
  refine p9_2 C hH hS q450 dX9_look_83 (fun σ6 e6 H locs hH hS => ?_)
  have hw := hw σ6 e6
  refine lv_aload_n hx hb dX9_look_86 rfl (lv_at hl 0 rfl) ?_
  refine g9_2 C hH q450 dX9_look_87 ?_
  refine lv_if_ge (tgt := 139) hx hb dX9_look_90 (by decide) (fun h => ?_) (fun h => ?_)
  · have hw := hw.1 h
    refine lv_aload_n hx hb dX9_look_139 rfl (lv_at hl 1 rfl) ?_
    refine g12_0 C hH ho1 q577 dX9_look_140 ?_
    refine lv_iconst (v := 0) hx hb dX9_look_143 (by decide) ?_
    refine lv_aload_n hx hb dX9_look_144 rfl (lv_at hl 0 rfl) ?_
    refine g9_1 C hH q449 dX9_look_145 ?_
    refine lv_iconst (v := 0) hx hb dX9_look_148 (by decide) ?_
    refine lv_aload_n hx hb dX9_look_149 rfl (lv_at hl 0 rfl) ?_
    refine g9_2 C hH q450 dX9_look_150 ?_
    refine kc_v (rn_s (As := [.ref (adr G a1 42 o1), .int 0, .ref (adr G a1 40 0), .int 0, .int (σ6 9 0 2)]) (rest := []) C hH hS (m19_copy l G a1 τ σ6 42 o1 0 40 0 0 (σ6 9 0 2) (ok42 ho1) (by decide) _ hw) (va_cwS 5 hts (lw_S q1348 q806 q176 q807) rfl rfl rfl kX19_copy.2 ⟨Nat.le_of_ble_eq_true rfl, Nat.le_of_ble_eq_true rfl⟩) rfl hl.1 rfl (Nat.le_of_ble_eq_true rfl) dX9_look_153 ⟨Nat.le_of_ble_eq_true rfl, Nat.le_of_ble_eq_true rfl⟩) hS (fun σ7 H locs hw hH hS => ?_)
    refine lv_aload_n hx hb dX9_look_156 rfl (lv_at hl 1 rfl) ?_
    refine lv_aload_n hx hb dX9_look_157 rfl (lv_at hl 0 rfl) ?_
    refine g9_2 C hH q450 dX9_look_158 ?_
    refine kc_v (rn_v (As := [.int (σ7 9 0 2)]) (rest := []) C hH hS (by decide) rfl ho1 (m12_take l G a1 τ σ7 o1 (σ7 9 0 2) ho1 _ hw) (cwV 1 hts (lw_V q1249 q1238 q1239 q169 q1240) rfl rfl rfl kX12_take ⟨Nat.le_of_ble_eq_true rfl, Nat.le_of_ble_eq_true rfl⟩) rfl hl.1 rfl (Nat.le_of_ble_eq_true rfl) dX9_look_161 ⟨Nat.le_of_ble_eq_true rfl, Nat.le_of_ble_eq_true rfl⟩) hS (fun σ8 H locs hw hH hS => ?_)
    refine lv_aload_n hx hb dX9_look_164 rfl (lv_at hl 0 rfl) ?_
    refine lv_aload_n hx hb dX9_look_165 rfl (lv_at hl 1 rfl) ?_
    refine lv_aload_n hx hb dX9_look_166 rfl (lv_at hl 2 rfl) ?_
    refine kc_ia (rn_v (As := [.ref (ga G 12 o1), .ref (ga G 13 o2)]) (rest := []) C hH hS (by decide) rfl (by decide) (m9_answer l G a1 τ σ8 o1 o2 ho1 ho2 _ hw) (cwV 2 hts (lw_V q1349 q1351 qs52 q166 q1352) rfl rfl rfl kX9_answer ⟨Nat.le_of_ble_eq_true rfl, Nat.le_of_ble_eq_true rfl⟩) rfl hl.1 rfl (Nat.le_of_ble_eq_true rfl) dX9_look_167 ⟨Nat.le_of_ble_eq_true rfl, Nat.le_of_ble_eq_true rfl⟩) hS (fun r9 σ9 a9 H locs hw hH hS => ?_)
    refine W.cs (cells' := 1) (slots' := 66047) rfl rfl ?_
    exact rt_ia C rfl hH hS hw dX9_look_170
  have hw := hw.2 h
  refine lv_aload_n hx hb dX9_look_93 rfl (lv_at hl 1 rfl) ?_
  refine g12_2 C hH ho1 q580 dX9_look_94 ?_
  refine lv_sipush (v := 4096) hx hb dX9_look_97 (by decide) ?_
  refine lv_icmp_ge (tgt := 113) hx hb dX9_look_100 (by decide) (fun h => ?_) (fun h => ?_)
  · have hw := hw.1 h
    refine lv_aload_n hx hb dX9_look_113 rfl (lv_at hl 1 rfl) ?_
    refine lv_aload_n hx hb dX9_look_114 rfl (lv_at hl 1 rfl) ?_
    refine g12_2 C hH ho1 q580 dX9_look_115 ?_
    refine kc_v (rn_v (As := [.int (σ6 12 o1 2)]) (rest := []) C hH hS (by decide) rfl ho1 (m12_take l G a1 τ σ6 o1 (σ6 12 o1 2) ho1 _ hw) (cwV 1 hts (lw_V q1249 q1238 q1239 q169 q1240) rfl rfl rfl kX12_take ⟨Nat.le_of_ble_eq_true rfl, Nat.le_of_ble_eq_true rfl⟩) rfl hl.1 rfl (Nat.le_of_ble_eq_true rfl) dX9_look_118 ⟨Nat.le_of_ble_eq_true rfl, Nat.le_of_ble_eq_true rfl⟩) hS (fun σ10 H locs hw hH hS => ?_)
    refine lv_aload_n hx hb dX9_look_121 rfl (lv_at hl 0 rfl) ?_
    refine lv_iconst (v := 0) hx hb dX9_look_122 (by decide) ?_
    refine p9_5 C hH hS (Or.inl rfl) q453 dX9_look_123 (fun σ11 e11 H locs hH hS => ?_)
    have hw := hw σ11 e11
    refine lv_aload_n hx hb dX9_look_126 rfl (lv_at hl 0 rfl) ?_
    refine lv_aload_n hx hb dX9_look_127 rfl (lv_at hl 2 rfl) ?_
    refine lv_sipush (v := 431) hx hb dX9_look_128 (by decide) ?_
    refine str_ldc (n := 1) C st1 dX9_look_131 ?_
    refine lv_iconst (v := 1) hx hb dX9_look_133 (by decide) ?_
    refine kc_va (rn_v (As := [.ref (ga G 13 o2), .int 431, .ref (gs G 1), .int 1]) (rest := []) C hH hS (by decide) rfl (by decide) (m9_plain l G a1 τ σ11 o2 431 1 1 ho2 (by decide) _ hw) (cwV 4 hts (lw_V q1254 q1256 qs48 q166 q1257) rfl rfl rfl kX9_plain ⟨Nat.le_of_ble_eq_true rfl, Nat.le_of_ble_eq_true rfl⟩) rfl hl.1 rfl (Nat.le_of_ble_eq_true rfl) dX9_look_134 ⟨Nat.le_of_ble_eq_true rfl, Nat.le_of_ble_eq_true rfl⟩) hS (fun σ12 a12 H locs hw hH hS => ?_)
    refine W.cs (cells' := 1) (slots' := 66047) rfl rfl ?_
    refine lv_iconst (v := 2) hx hb dX9_look_137 (by decide) ?_
    exact rt_ia C rfl hH hS hw dX9_look_138
  have hw := hw.2 h
  refine lv_iload_n hx hb dX9_look_103 rfl (lv_at hl 3 rfl) ?_
  refine lv_if_eq (tgt := 111) hx hb dX9_look_104 (by decide) (fun h => ?_) (fun h => ?_)
  · have hw := hw.1 h
    refine lv_iconst (v := 0) hx hb dX9_look_111 (by decide) ?_
    refine W.widen (k := 1) (n := 66047) (Nat.zero_le _) (Nat.zero_le _) ?_
    exact rt_ia C rfl hH hS hw dX9_look_112
  have hw := hw.2 h
  refine lv_iconst (v := 3) hx hb dX9_look_107 (by decide) ?_
  refine lv_goto (tgt := 112) hx hb dX9_look_108 (by decide) ?_
  refine W.widen (k := 1) (n := 66047) (Nat.zero_le _) (Nat.zero_le _) ?_
  exact rt_ia C rfl hH hS hw dX9_look_112
/-! WebHostModel.tcp(I)V -/
abbrev cX14_tcp : ByteArray := prog_17_method_37_code
def yX14_tcp : MethodName := ⟨RX14, "tcp", "(I)V"⟩
theorem dX14_tcp_0 : decode cX14_tcp 0 = .ok (.iload_n 1, 1) := by decide +kernel
theorem dX14_tcp_1 : decode cX14_tcp 1 = .ok (.bipush 20, 2) := by decide +kernel
theorem dX14_tcp_3 : decode cX14_tcp 3 = .ok (.if_icmp .ge 4, 3) := by decide +kernel
theorem dX14_tcp_6 : decode cX14_tcp 6 = .ok (.return_, 1) := by decide +kernel
theorem dX14_tcp_7 : decode cX14_tcp 7 = .ok (.aload_n 0, 1) := by decide +kernel
theorem dX14_tcp_8 : decode cX14_tcp 8 = .ok (.aload_n 0, 1) := by decide +kernel
theorem dX14_tcp_9 : decode cX14_tcp 9 = .ok (.getfield 65, 3) := by decide +kernel
theorem dX14_tcp_12 : decode cX14_tcp 12 = .ok (.bipush 12, 2) := by decide +kernel
theorem dX14_tcp_14 : decode cX14_tcp 14 = .ok (.baload, 1) := by decide +kernel
theorem dX14_tcp_15 : decode cX14_tcp 15 = .ok (.iconst 4, 1) := by decide +kernel
theorem dX14_tcp_16 : decode cX14_tcp 16 = .ok (.ishr, 1) := by decide +kernel
theorem dX14_tcp_17 : decode cX14_tcp 17 = .ok (.bipush 15, 2) := by decide +kernel
theorem dX14_tcp_19 : decode cX14_tcp 19 = .ok (.iand, 1) := by decide +kernel
theorem dX14_tcp_20 : decode cX14_tcp 20 = .ok (.iconst 4, 1) := by decide +kernel
theorem dX14_tcp_21 : decode cX14_tcp 21 = .ok (.imul, 1) := by decide +kernel
theorem dX14_tcp_22 : decode cX14_tcp 22 = .ok (.putfield 282, 3) := by decide +kernel
theorem dX14_tcp_25 : decode cX14_tcp 25 = .ok (.aload_n 0, 1) := by decide +kernel
theorem dX14_tcp_26 : decode cX14_tcp 26 = .ok (.getfield 282, 3) := by decide +kernel
theorem dX14_tcp_29 : decode cX14_tcp 29 = .ok (.bipush 20, 2) := by decide +kernel
theorem dX14_tcp_31 : decode cX14_tcp 31 = .ok (.if_icmp .lt 39, 3) := by decide +kernel
theorem dX14_tcp_34 : decode cX14_tcp 34 = .ok (.aload_n 0, 1) := by decide +kernel
theorem dX14_tcp_35 : decode cX14_tcp 35 = .ok (.getfield 282, 3) := by decide +kernel
theorem dX14_tcp_38 : decode cX14_tcp 38 = .ok (.iload_n 1, 1) := by decide +kernel
theorem dX14_tcp_39 : decode cX14_tcp 39 = .ok (.if_icmp .gt 31, 3) := by decide +kernel
theorem dX14_tcp_42 : decode cX14_tcp 42 = .ok (.aload_n 0, 1) := by decide +kernel
theorem dX14_tcp_43 : decode cX14_tcp 43 = .ok (.getfield 65, 3) := by decide +kernel
theorem dX14_tcp_46 : decode cX14_tcp 46 = .ok (.iconst 0, 1) := by decide +kernel
theorem dX14_tcp_47 : decode cX14_tcp 47 = .ok (.iload_n 1, 1) := by decide +kernel
theorem dX14_tcp_48 : decode cX14_tcp 48 = .ok (.aload_n 0, 1) := by decide +kernel
theorem dX14_tcp_49 : decode cX14_tcp 49 = .ok (.aload_n 0, 1) := by decide +kernel
theorem dX14_tcp_50 : decode cX14_tcp 50 = .ok (.getfield 240, 3) := by decide +kernel
theorem dX14_tcp_53 : decode cX14_tcp 53 = .ok (.aload_n 0, 1) := by decide +kernel
theorem dX14_tcp_54 : decode cX14_tcp 54 = .ok (.getfield 119, 3) := by decide +kernel
theorem dX14_tcp_57 : decode cX14_tcp 57 = .ok (.iload_n 1, 1) := by decide +kernel
theorem dX14_tcp_58 : decode cX14_tcp 58 = .ok (.invokevirtual 285, 3) := by decide +kernel
theorem dX14_tcp_61 : decode cX14_tcp 61 = .ok (.invokestatic 216, 3) := by decide +kernel
theorem dX14_tcp_64 : decode cX14_tcp 64 = .ok (.invokestatic 220, 3) := by decide +kernel
theorem dX14_tcp_67 : decode cX14_tcp 67 = .ok (.ifCond .eq 4, 3) := by decide +kernel
theorem dX14_tcp_70 : decode cX14_tcp 70 = .ok (.return_, 1) := by decide +kernel
theorem dX14_tcp_71 : decode cX14_tcp 71 = .ok (.aload_n 0, 1) := by decide +kernel
theorem dX14_tcp_72 : decode cX14_tcp 72 = .ok (.aload_n 0, 1) := by decide +kernel
theorem dX14_tcp_73 : decode cX14_tcp 73 = .ok (.iconst 0, 1) := by decide +kernel
theorem dX14_tcp_74 : decode cX14_tcp 74 = .ok (.invokevirtual 277, 3) := by decide +kernel
theorem dX14_tcp_77 : decode cX14_tcp 77 = .ok (.putfield 289, 3) := by decide +kernel
theorem dX14_tcp_80 : decode cX14_tcp 80 = .ok (.aload_n 0, 1) := by decide +kernel
theorem dX14_tcp_81 : decode cX14_tcp 81 = .ok (.aload_n 0, 1) := by decide +kernel
theorem dX14_tcp_82 : decode cX14_tcp 82 = .ok (.iconst 2, 1) := by decide +kernel
theorem dX14_tcp_83 : decode cX14_tcp 83 = .ok (.invokevirtual 277, 3) := by decide +kernel
theorem dX14_tcp_86 : decode cX14_tcp 86 = .ok (.putfield 292, 3) := by decide +kernel
theorem dX14_tcp_89 : decode cX14_tcp 89 = .ok (.aload_n 0, 1) := by decide +kernel
theorem dX14_tcp_90 : decode cX14_tcp 90 = .ok (.aload_n 0, 1) := by decide +kernel
theorem dX14_tcp_91 : decode cX14_tcp 91 = .ok (.iconst 4, 1) := by decide +kernel
theorem dX14_tcp_92 : decode cX14_tcp 92 = .ok (.invokevirtual 295, 3) := by decide +kernel
theorem dX14_tcp_95 : decode cX14_tcp 95 = .ok (.putfield 298, 3) := by decide +kernel
theorem dX14_tcp_98 : decode cX14_tcp 98 = .ok (.aload_n 0, 1) := by decide +kernel
theorem dX14_tcp_99 : decode cX14_tcp 99 = .ok (.aload_n 0, 1) := by decide +kernel
theorem dX14_tcp_100 : decode cX14_tcp 100 = .ok (.bipush 8, 2) := by decide +kernel
theorem dX14_tcp_102 : decode cX14_tcp 102 = .ok (.invokevirtual 295, 3) := by decide +kernel
theorem dX14_tcp_105 : decode cX14_tcp 105 = .ok (.putfield 299, 3) := by decide +kernel
theorem dX14_tcp_108 : decode cX14_tcp 108 = .ok (.aload_n 0, 1) := by decide +kernel
theorem dX14_tcp_109 : decode cX14_tcp 109 = .ok (.aload_n 0, 1) := by decide +kernel
theorem dX14_tcp_110 : decode cX14_tcp 110 = .ok (.getfield 65, 3) := by decide +kernel
theorem dX14_tcp_113 : decode cX14_tcp 113 = .ok (.bipush 13, 2) := by decide +kernel
theorem dX14_tcp_115 : decode cX14_tcp 115 = .ok (.baload, 1) := by decide +kernel
theorem dX14_tcp_116 : decode cX14_tcp 116 = .ok (.bipush 31, 2) := by decide +kernel
theorem dX14_tcp_118 : decode cX14_tcp 118 = .ok (.iand, 1) := by decide +kernel
theorem dX14_tcp_119 : decode cX14_tcp 119 = .ok (.putfield 302, 3) := by decide +kernel
theorem dX14_tcp_122 : decode cX14_tcp 122 = .ok (.aload_n 0, 1) := by decide +kernel
theorem dX14_tcp_123 : decode cX14_tcp 123 = .ok (.aload_n 0, 1) := by decide +kernel
theorem dX14_tcp_124 : decode cX14_tcp 124 = .ok (.bipush 14, 2) := by decide +kernel
theorem dX14_tcp_126 : decode cX14_tcp 126 = .ok (.invokevirtual 277, 3) := by decide +kernel
theorem dX14_tcp_129 : decode cX14_tcp 129 = .ok (.putfield 305, 3) := by decide +kernel
theorem dX14_tcp_132 : decode cX14_tcp 132 = .ok (.aload_n 0, 1) := by decide +kernel
theorem dX14_tcp_133 : decode cX14_tcp 133 = .ok (.aload_n 0, 1) := by decide +kernel
theorem dX14_tcp_134 : decode cX14_tcp 134 = .ok (.getfield 282, 3) := by decide +kernel
theorem dX14_tcp_137 : decode cX14_tcp 137 = .ok (.putfield 308, 3) := by decide +kernel
theorem dX14_tcp_140 : decode cX14_tcp 140 = .ok (.aload_n 0, 1) := by decide +kernel
theorem dX14_tcp_141 : decode cX14_tcp 141 = .ok (.iload_n 1, 1) := by decide +kernel
theorem dX14_tcp_142 : decode cX14_tcp 142 = .ok (.aload_n 0, 1) := by decide +kernel
theorem dX14_tcp_143 : decode cX14_tcp 143 = .ok (.getfield 282, 3) := by decide +kernel
theorem dX14_tcp_146 : decode cX14_tcp 146 = .ok (.isub, 1) := by decide +kernel
theorem dX14_tcp_147 : decode cX14_tcp 147 = .ok (.putfield 311, 3) := by decide +kernel
theorem dX14_tcp_150 : decode cX14_tcp 150 = .ok (.aconst_null, 1) := by decide +kernel
theorem dX14_tcp_151 : decode cX14_tcp 151 = .ok (.astore_n 2, 1) := by decide +kernel
theorem dX14_tcp_152 : decode cX14_tcp 152 = .ok (.iconst 0, 1) := by decide +kernel
theorem dX14_tcp_153 : decode cX14_tcp 153 = .ok (.istore_n 3, 1) := by decide +kernel
theorem dX14_tcp_154 : decode cX14_tcp 154 = .ok (.iload_n 3, 1) := by decide +kernel
theorem dX14_tcp_155 : decode cX14_tcp 155 = .ok (.bipush 16, 2) := by decide +kernel
theorem dX14_tcp_157 : decode cX14_tcp 157 = .ok (.if_icmp .ge 61, 3) := by decide +kernel
theorem dX14_tcp_160 : decode cX14_tcp 160 = .ok (.aload_n 0, 1) := by decide +kernel
theorem dX14_tcp_161 : decode cX14_tcp 161 = .ok (.getfield 292, 3) := by decide +kernel
theorem dX14_tcp_164 : decode cX14_tcp 164 = .ok (.bipush 80, 2) := by decide +kernel
theorem dX14_tcp_166 : decode cX14_tcp 166 = .ok (.if_icmp .ne 52, 3) := by decide +kernel
theorem dX14_tcp_169 : decode cX14_tcp 169 = .ok (.aload_n 0, 1) := by decide +kernel
theorem dX14_tcp_170 : decode cX14_tcp 170 = .ok (.getfield 70, 3) := by decide +kernel
theorem dX14_tcp_173 : decode cX14_tcp 173 = .ok (.iload_n 3, 1) := by decide +kernel
theorem dX14_tcp_174 : decode cX14_tcp 174 = .ok (.aaload, 1) := by decide +kernel
theorem dX14_tcp_175 : decode cX14_tcp 175 = .ok (.astore 4, 2) := by decide +kernel
theorem dX14_tcp_177 : decode cX14_tcp 177 = .ok (.aload 4, 2) := by decide +kernel
theorem dX14_tcp_179 : decode cX14_tcp 179 = .ok (.getfield 152, 3) := by decide +kernel
theorem dX14_tcp_182 : decode cX14_tcp 182 = .ok (.ifCond .eq 30, 3) := by decide +kernel
theorem dX14_tcp_185 : decode cX14_tcp 185 = .ok (.aload 4, 2) := by decide +kernel
theorem dX14_tcp_187 : decode cX14_tcp 187 = .ok (.getfield 314, 3) := by decide +kernel
theorem dX14_tcp_190 : decode cX14_tcp 190 = .ok (.aload_n 0, 1) := by decide +kernel
theorem dX14_tcp_191 : decode cX14_tcp 191 = .ok (.getfield 240, 3) := by decide +kernel
theorem dX14_tcp_194 : decode cX14_tcp 194 = .ok (.if_icmp .ne 18, 3) := by decide +kernel
theorem dX14_tcp_197 : decode cX14_tcp 197 = .ok (.aload 4, 2) := by decide +kernel
theorem dX14_tcp_199 : decode cX14_tcp 199 = .ok (.getfield 315, 3) := by decide +kernel
theorem dX14_tcp_202 : decode cX14_tcp 202 = .ok (.aload_n 0, 1) := by decide +kernel
theorem dX14_tcp_203 : decode cX14_tcp 203 = .ok (.getfield 289, 3) := by decide +kernel
theorem dX14_tcp_206 : decode cX14_tcp 206 = .ok (.if_icmp .ne 6, 3) := by decide +kernel
theorem dX14_tcp_209 : decode cX14_tcp 209 = .ok (.aload 4, 2) := by decide +kernel
theorem dX14_tcp_211 : decode cX14_tcp 211 = .ok (.astore_n 2, 1) := by decide +kernel
theorem dX14_tcp_212 : decode cX14_tcp 212 = .ok (.iinc 3 1, 3) := by decide +kernel
theorem dX14_tcp_215 : decode cX14_tcp 215 = .ok (.goto (-61), 3) := by decide +kernel
theorem dX14_tcp_218 : decode cX14_tcp 218 = .ok (.aload_n 2, 1) := by decide +kernel
theorem dX14_tcp_219 : decode cX14_tcp 219 = .ok (.ifnonnull 10, 3) := by decide +kernel
theorem dX14_tcp_222 : decode cX14_tcp 222 = .ok (.aload_n 0, 1) := by decide +kernel
theorem dX14_tcp_223 : decode cX14_tcp 223 = .ok (.invokevirtual 318, 3) := by decide +kernel
theorem dX14_tcp_226 : decode cX14_tcp 226 = .ok (.goto 8, 3) := by decide +kernel
theorem dX14_tcp_229 : decode cX14_tcp 229 = .ok (.aload_n 0, 1) := by decide +kernel
theorem dX14_tcp_230 : decode cX14_tcp 230 = .ok (.aload_n 2, 1) := by decide +kernel
theorem dX14_tcp_231 : decode cX14_tcp 231 = .ok (.invokevirtual 321, 3) := by decide +kernel
theorem dX14_tcp_234 : decode cX14_tcp 234 = .ok (.return_, 1) := by decide +kernel
def rmX14_tcp : Room := { frames := 11, cells := 0, slots := 0, locals := 256 }
theorem kX14_tcp : yX14_tcp.cls = "WebHostModel" ∧ yX14_tcp.cls ≠ "java/lang/invoke/MethodHandle" ∧ yX14_tcp.cls ≠ "java/lang/invoke/VarHandle" ∧ (parseMethodDescriptor yX14_tcp.desc).map (fun d => d.parameters.length) = some 1 := by decide +kernel
def w14_tcp_L154 (σ : St) (Q : St → Prop) (K218 : Option Nat → Prop) : Nat → Option Nat → Int32 → Prop
  | 0, _, _ => False
  | n + 1, p2, x3 => (16 ≤ x3 → K218 p2) ∧ (¬ 16 ≤ x3 → ((¬ (σ 14 0 33) = 80 → K218 p2) ∧ ((σ 14 0 33) = 80 → (vp_in x3 16 ∧ (((σ 15 x3.toNatClampNeg 0) = 0 → (w14_tcp_L154 σ Q K218 n p2 (x3 + 1))) ∧ (¬ (σ 15 x3.toNatClampNeg 0) = 0 → ((¬ (σ 15 x3.toNatClampNeg 1) = (σ 14 0 30) → (w14_tcp_L154 σ Q K218 n p2 (x3 + 1))) ∧ ((σ 15 x3.toNatClampNeg 1) = (σ 14 0 30) → ((¬ (σ 15 x3.toNatClampNeg 2) = (σ 14 0 32) → (w14_tcp_L154 σ Q K218 n p2 (x3 + 1))) ∧ ((σ 15 x3.toNatClampNeg 2) = (σ 14 0 32) → (w14_tcp_L154 σ Q K218 n (some x3.toNatClampNeg) (x3 + 1))))))))))))
set_option maxHeartbeats 4000000 in
theorem k14_tcp_L154 {p : Program} {l : Launch} {e : Env} {s : State} {m : MethodId} {args : Array Value} {below : List Frame} {meth : Method} {c : Code} {G : Gh} {a1 : Nat → Nat → Nat} {τ : St} {Q : St → Prop} {K218 : Option Nat → Prop} (C : Cx p e s m args meth c cX14_tcp 5 none "WebHostModel" G) (σ : St) :
    ∀ (n : Nat) (p2 : Option Nat) (x3 : Int32), w14_tcp_L154 σ Q K218 n p2 x3 → ∀ (H : Heap) (locs : List Loc) (ls : Array Slot), Hd G a1 (cmb τ σ) H → va_S (gA G) s.heap H locs → lv_has ls 5 [(0, .ref (ga G 14 0)), (2, va_re (ga G 15) p2), (3, .int x3)] → (∀ (p2 : Option Nat), K218 p2 → ∀ (H : Heap) (locs : List Loc) (ls : Array Slot), Hd G a1 (cmb τ σ) H → va_S (gA G) s.heap H locs → lv_has ls 5 [(0, .ref (ga G 14 0)), (2, va_re (ga G 15) p2)] → W p l e rmX14_tcp s m args below meth c H locs 0 0 (MQ below (QVs G a1 (fun u => cmb τ u) Q) args s 0 0 (gA G)) (F0 m 218 ls [])) → W p l e rmX14_tcp s m args below meth c H locs 0 0 (MQ below (QVs G a1 (fun u => cmb τ u) Q) args s 0 0 (gA G)) (F0 m 154 ls []) := by
  have hx := C.1
  have hb := C.2.1
  have hown := C.2.2.2.2.2.1
  have hts := C.2.2.2.2.2.2.1
  intro n
  induction n with
  | zero =>
    intro p2 x3 hw
    exact False.elim hw
  | succ n ih =>
    intro p2 x3 hw H locs ls hH hS hl hK218
    refine lv_iload_n hx hb dX14_tcp_154 rfl (lv_at hl 2 rfl) ?_
    refine lv_bipush (v := 16) hx hb dX14_tcp_155 (by decide) ?_
    refine lv_icmp_ge (tgt := 218) hx hb dX14_tcp_157 (by decide) (fun h => ?_) (fun h => ?_)
    · have hw := hw.1 h
      exact hK218 p2 hw H locs ls hH hS (lv_sub hl [0, 1] rfl)
    have hw := hw.2 h
    refine lv_aload_n hx hb dX14_tcp_160 rfl (lv_at hl 0 rfl) ?_
    refine g14_33 C hH q1973 dX14_tcp_161 ?_
    refine lv_bipush (v := 80) hx hb dX14_tcp_164 (by decide) ?_
    refine lv_icmp_ne (tgt := 218) hx hb dX14_tcp_166 (by decide) (fun h => ?_) (fun h => ?_)
    · have hw := hw.1 h
      exact hK218 p2 hw H locs ls hH hS (lv_sub hl [0, 1] rfl)
    have hw := hw.2 h
    refine lv_aload_n hx hb dX14_tcp_169 rfl (lv_at hl 0 rfl) ?_
    refine g14_31 C hH q1971 dX14_tcp_170 ?_
    refine lv_iload_n hx hb dX14_tcp_173 rfl (lv_at hl 2 rfl) ?_
    have hq18 := vp_lt hw.1
    refine l65 C hH hw.1 dX14_tcp_174 ?_
    have hw := hw.2
    refine lv_astore (lv' := [(4, .ref (ga G 15 x3.toNatClampNeg)), (0, .ref (ga G 14 0)), (2, va_re (ga G 15) p2), (3, .int x3)]) hx hb dX14_tcp_175 hl (by decide) rfl (fun ls hl => ?_)
    refine lv_aload hx hb dX14_tcp_177 (lv_at hl 0 rfl) ?_
    refine g15_0 C hH hq18 q1707 dX14_tcp_179 ?_
    refine lv_if_eq (tgt := 212) hx hb dX14_tcp_182 (by decide) (fun h => ?_) (fun h => ?_)
    · have hw := hw.1 h
      refine lv_iinc (v := x3 + 1) (lv' := [(3, .int (x3 + 1)), (4, .ref (ga G 15 x3.toNatClampNeg)), (0, .ref (ga G 14 0)), (2, va_re (ga G 15) p2)]) hx hb dX14_tcp_212 hl (k := 3) rfl rfl (by decide) (by simp [va_re_cat, nav_cat]) (fun ls hl => ?_)
      refine lv_goto (tgt := 154) hx hb dX14_tcp_215 (by decide) ?_
      exact ih p2 (x3 + 1) hw H locs ls hH hS (lv_sub hl [2, 3, 0] rfl) hK218
    have hw := hw.2 h
    refine lv_aload hx hb dX14_tcp_185 (lv_at hl 0 rfl) ?_
    refine g15_1 C hH hq18 q1708 dX14_tcp_187 ?_
    refine lv_aload_n hx hb dX14_tcp_190 rfl (lv_at hl 1 rfl) ?_
    refine g14_30 C hH q1970 dX14_tcp_191 ?_
    refine lv_icmp_ne (tgt := 212) hx hb dX14_tcp_194 (by decide) (fun h => ?_) (fun h => ?_)
    · have hw := hw.1 h
      refine lv_iinc (v := x3 + 1) (lv' := [(3, .int (x3 + 1)), (4, .ref (ga G 15 x3.toNatClampNeg)), (0, .ref (ga G 14 0)), (2, va_re (ga G 15) p2)]) hx hb dX14_tcp_212 hl (k := 3) rfl rfl (by decide) (by simp [va_re_cat, nav_cat]) (fun ls hl => ?_)
      refine lv_goto (tgt := 154) hx hb dX14_tcp_215 (by decide) ?_
      exact ih p2 (x3 + 1) hw H locs ls hH hS (lv_sub hl [2, 3, 0] rfl) hK218
    have hw := hw.2 h
    refine lv_aload hx hb dX14_tcp_197 (lv_at hl 0 rfl) ?_
    refine g15_2 C hH hq18 q1709 dX14_tcp_199 ?_
    refine lv_aload_n hx hb dX14_tcp_202 rfl (lv_at hl 1 rfl) ?_
    refine g14_32 C hH q1972 dX14_tcp_203 ?_
    refine lv_icmp_ne (tgt := 212) hx hb dX14_tcp_206 (by decide) (fun h => ?_) (fun h => ?_)
    · have hw := hw.1 h
      refine lv_iinc (v := x3 + 1) (lv' := [(3, .int (x3 + 1)), (4, .ref (ga G 15 x3.toNatClampNeg)), (0, .ref (ga G 14 0)), (2, va_re (ga G 15) p2)]) hx hb dX14_tcp_212 hl (k := 3) rfl rfl (by decide) (by simp [va_re_cat, nav_cat]) (fun ls hl => ?_)
      refine lv_goto (tgt := 154) hx hb dX14_tcp_215 (by decide) ?_
      exact ih p2 (x3 + 1) hw H locs ls hH hS (lv_sub hl [2, 3, 0] rfl) hK218
    have hw := hw.2 h
    refine lv_aload hx hb dX14_tcp_209 (lv_at hl 0 rfl) ?_
    refine lv_astore_n (lv' := [(2, .ref (ga G 15 x3.toNatClampNeg)), (4, .ref (ga G 15 x3.toNatClampNeg)), (0, .ref (ga G 14 0)), (3, .int x3)]) hx hb dX14_tcp_211 rfl hl (by decide) rfl (fun ls hl => ?_)
    refine lv_iinc (v := x3 + 1) (lv' := [(3, .int (x3 + 1)), (2, .ref (ga G 15 x3.toNatClampNeg)), (4, .ref (ga G 15 x3.toNatClampNeg)), (0, .ref (ga G 14 0))]) hx hb dX14_tcp_212 hl (k := 3) rfl rfl (by decide) rfl (fun ls hl => ?_)
    refine lv_goto (tgt := 154) hx hb dX14_tcp_215 (by decide) ?_
    exact ih (some x3.toNatClampNeg) (x3 + 1) hw H locs ls hH hS (lv_sub hl [3, 1, 0] rfl) hK218
def w14_tcp_J218 (σ : St) (p2 : Option Nat) (Q : St → Prop) : Prop := (p2 = none → (w14_alone σ (fun σ22 => (Q σ22)))) ∧ (∀ i21, p2 = some i21 → (i21 < 16 ∧ (w14_segment σ i21 (fun σ23 => (Q σ23)))))
set_option maxHeartbeats 4000000 in
theorem k14_tcp_J218 {p : Program} {l : Launch} {e : Env} {s : State} {m : MethodId} {args : Array Value} {below : List Frame} {meth : Method} {c : Code} {G : Gh} {a1 : Nat → Nat → Nat} {τ : St} {Q : St → Prop} (C : Cx p e s m args meth c cX14_tcp 5 none "WebHostModel" G) (σ : St) (p2 : Option Nat) (hw : w14_tcp_J218 σ p2 Q) (H : Heap) (locs : List Loc) (ls : Array Slot) (hH : Hd G a1 (cmb τ σ) H) (hS : va_S (gA G) s.heap H locs) (hl : lv_has ls 5 [(0, .ref (ga G 14 0)), (2, va_re (ga G 15) p2)]) : W p l e rmX14_tcp s m args below meth c H locs 0 0 (MQ below (QVs G a1 (fun u => cmb τ u) Q) args s 0 0 (gA G)) (F0 m 218 ls []) := by
  have hx := C.1
  have hb := C.2.1
  have hown := C.2.2.2.2.2.1
  have hts := C.2.2.2.2.2.2.1
  refine lv_aload_nV hx hb dX14_tcp_218 rfl (va_re_or _ _) (lv_at hl 1 rfl) ?_
  rcases p2 with _ | i21
  · have hw := hw.1 rfl
    have hl : lv_has ls 5 [(0, .ref (ga G 14 0)), (2, .null)] := hl
    refine lv_ifnonnullN hx hb dX14_tcp_219 ?_
    refine lv_aload_n hx hb dX14_tcp_222 rfl (lv_at hl 0 rfl) ?_
    refine kc_v (rn_v (As := []) (rest := []) C hH hS (by decide) rfl (by decide) (m14_alone l G a1 τ σ _ hw) (cwV 0 hts (lw_V q2369 q2371 qs115 q171 q2372) rfl rfl rfl kX14_alone ⟨Nat.le_of_ble_eq_true rfl, Nat.le_of_ble_eq_true rfl⟩) rfl hl.1 rfl (Nat.le_of_ble_eq_true rfl) dX14_tcp_223 ⟨Nat.le_of_ble_eq_true rfl, Nat.le_of_ble_eq_true rfl⟩) hS (fun σ22 H locs hw hH hS => ?_)
    refine lv_goto (tgt := 234) hx hb dX14_tcp_226 (by decide) ?_
    exact rt_v C hH hS hw dX14_tcp_234
  obtain ⟨hq21, hw⟩ := hw.2 i21 rfl
  have hl : lv_has ls 5 [(0, .ref (ga G 14 0)), (2, .ref (ga G 15 i21))] := hl
  refine lv_ifnonnull (tgt := 229) hx hb dX14_tcp_219 (by decide) ?_
  refine lv_aload_n hx hb dX14_tcp_229 rfl (lv_at hl 0 rfl) ?_
  refine lv_aload_n hx hb dX14_tcp_230 rfl (lv_at hl 1 rfl) ?_
  refine kc_v (rn_v (As := [.ref (ga G 15 i21)]) (rest := []) C hH hS (by decide) rfl (by decide) (m14_segment l G a1 τ σ i21 hq21 _ hw) (cwV 1 hts (lw_V q2390 q2392 qs120 q171 q2393) rfl rfl rfl kX14_segment ⟨Nat.le_of_ble_eq_true rfl, Nat.le_of_ble_eq_true rfl⟩) rfl hl.1 rfl (Nat.le_of_ble_eq_true rfl) dX14_tcp_231 ⟨Nat.le_of_ble_eq_true rfl, Nat.le_of_ble_eq_true rfl⟩) hS (fun σ23 H locs hw hH hS => ?_)
  exact rt_v C hH hS hw dX14_tcp_234
def w14_tcp (σ : St) (x1 : Int32) (Q : St → Prop) : Prop := (20 ≤ x1 → (vp_in 12 4096 ∧ (by8 (σ 64 0 (12 : Int32).toNatClampNeg) → (∀ σ1, σ1 = up3 σ 14 0 40 ((((σ 64 0 (12 : Int32).toNatClampNeg) >>> ((4 : Int32) &&& 31)) &&& 15) * 4) → (((σ1 14 0 40) < 20 → Q σ1) ∧ (¬ (σ1 14 0 40) < 20 → ((x1 < (σ1 14 0 40) → Q σ1) ∧ (¬ x1 < (σ1 14 0 40) → (w14_pseudo σ1 (σ1 14 0 30) (σ1 14 0 5) x1 (fun r2 => (w14_added σ1 64 0 0 x1 r2 (fun r3 => (w14_sixteen σ1 r3 (fun r4 => ((r4 = 0 → (w14_half σ1 0 (fun r5 => (∀ σ6, σ6 = up3 σ1 14 0 32 r5 → (w14_half σ6 2 (fun r7 => (∀ σ8, σ8 = up3 σ6 14 0 33 r7 → (w14_wholeWord σ8 4 (fun r9 => (∀ σ10, σ10 = up3 σ8 14 0 34 r9 → (w14_wholeWord σ10 8 (fun r11 => (∀ σ12, σ12 = up3 σ10 14 0 35 r11 → (vp_in 13 4096 ∧ (by8 (σ12 64 0 (13 : Int32).toNatClampNeg) → (∀ σ13, σ13 = up3 σ12 14 0 36 ((σ12 64 0 (13 : Int32).toNatClampNeg) &&& 31) → (w14_half σ13 14 (fun r14 => (∀ σ15, σ15 = up3 σ13 14 0 37 r14 → (∀ σ16, σ16 = up3 σ15 14 0 38 (σ15 14 0 40) → (∀ σ17, σ17 = up3 σ16 14 0 39 (x1 - (σ16 14 0 40)) → (∃ z19, w14_tcp_L154 σ17 Q (fun p2_20 => w14_tcp_J218 σ17 p2_20 Q) z19 none 0)))))))))))))))))))))) ∧ (¬ r4 = 0 → Q σ1)))))))))))))))) ∧ (¬ 20 ≤ x1 → Q σ)
set_option maxHeartbeats 4000000 in
theorem m14_tcp (l : Launch) (G : Gh) (a1 : Nat → Nat → Nat) (τ : St) (σ : St) (x1 : Int32) (Q : St → Prop) (hw : w14_tcp σ x1 Q) : Met l yX14_tcp (ws_ yX14_tcp cX14_tcp 5 none) rmX14_tcp (PcS G a1 (cmb τ σ) [.ref (ga G 14 0), .int x1]) (QVs G a1 (fun u => cmb τ u) Q) 0 0 (gA G) := by
  refine met_w (by decide) (Nat.le_of_ble_eq_true rfl) ?_
  intro p e s m below meth c ls C hH hS hl
  have C : Cx p e s m _ meth c cX14_tcp 5 none "WebHostModel" G := C
  have hl : lv_has ls 5 [(0, .ref (ga G 14 0)), (1, .int x1)] := hl
  have hx := C.1
  have hb := C.2.1
  have hown := C.2.2.2.2.2.1
  have hts := C.2.2.2.2.2.2.1
  obtain ⟨locs, hlocs⟩ : ∃ z : List Loc, z = [] := ⟨_, rfl⟩
  obtain ⟨H, hHe⟩ : ∃ z : Heap, z = s.heap := ⟨_, rfl⟩
  have hH : Hd G a1 (cmb τ σ) H := by rw [hHe]; exact hH
  have hS : va_S (gA G) s.heap H locs := by rw [hHe, hlocs]; exact hS
  refine W.heap0 hHe.symm hlocs.symm ?_
  refine lv_iload_n hx hb dX14_tcp_0 rfl (lv_at hl 1 rfl) ?_
  refine lv_bipush (v := 20) hx hb dX14_tcp_1 (by decide) ?_
  refine lv_icmp_ge (tgt := 7) hx hb dX14_tcp_3 (by decide) (fun h => ?_) (fun h => ?_)
  · have hw := hw.1 h
    refine lv_aload_n hx hb dX14_tcp_7 rfl (lv_at hl 0 rfl) ?_
    refine lv_aload_n hx hb dX14_tcp_8 rfl (lv_at hl 0 rfl) ?_
    refine g14_29 C hH q1969 dX14_tcp_9 ?_
    refine lv_bipush (v := 12) hx hb dX14_tcp_12 (by decide) ?_
    refine l64 C hH hw.1 dX14_tcp_14 (fun hz => ?_)
    have hw := hw.2 hz
    refine lv_iconst (v := 4) hx hb dX14_tcp_15 (by decide) ?_
    refine lv_ishr hx hb dX14_tcp_16 ?_
    refine lv_bipush (v := 15) hx hb dX14_tcp_17 (by decide) ?_
    refine lv_iand hx hb dX14_tcp_19 ?_
    refine lv_iconst (v := 4) hx hb dX14_tcp_20 (by decide) ?_
    refine lv_imul hx hb dX14_tcp_21 ?_
    refine p14_40 C hH hS q1980 dX14_tcp_22 (fun σ1 e1 H locs hH hS => ?_)
    have hw := hw σ1 e1
    refine lv_aload_n hx hb dX14_tcp_25 rfl (lv_at hl 0 rfl) ?_
    refine g14_40 C hH q1980 dX14_tcp_26 ?_
    refine lv_bipush (v := 20) hx hb dX14_tcp_29 (by decide) ?_
    refine lv_icmp_lt (tgt := 70) hx hb dX14_tcp_31 (by decide) (fun h => ?_) (fun h => ?_)
    · have hw := hw.1 h
      exact rt_v C hH hS hw dX14_tcp_70
    have hw := hw.2 h
    refine lv_aload_n hx hb dX14_tcp_34 rfl (lv_at hl 0 rfl) ?_
    refine g14_40 C hH q1980 dX14_tcp_35 ?_
    refine lv_iload_n hx hb dX14_tcp_38 rfl (lv_at hl 1 rfl) ?_
    refine lv_icmp_gt (tgt := 70) hx hb dX14_tcp_39 (by decide) (fun h => ?_) (fun h => ?_)
    · have hw := hw.1 h
      exact rt_v C hH hS hw dX14_tcp_70
    have hw := hw.2 h
    refine lv_aload_n hx hb dX14_tcp_42 rfl (lv_at hl 0 rfl) ?_
    refine g14_29 C hH q1969 dX14_tcp_43 ?_
    refine lv_iconst (v := 0) hx hb dX14_tcp_46 (by decide) ?_
    refine lv_iload_n hx hb dX14_tcp_47 rfl (lv_at hl 1 rfl) ?_
    refine lv_aload_n hx hb dX14_tcp_48 rfl (lv_at hl 0 rfl) ?_
    refine lv_aload_n hx hb dX14_tcp_49 rfl (lv_at hl 0 rfl) ?_
    refine g14_30 C hH q1970 dX14_tcp_50 ?_
    refine lv_aload_n hx hb dX14_tcp_53 rfl (lv_at hl 0 rfl) ?_
    refine g14_5 C hH q1945 dX14_tcp_54 ?_
    refine lv_iload_n hx hb dX14_tcp_57 rfl (lv_at hl 1 rfl) ?_
    refine kc_jp (rn_vp (As := [.int (σ1 14 0 30), .int (σ1 14 0 5), .int x1]) (rest := [.int x1, .int 0, .ref (adr G a1 64 0)]) C hH hS (by decide) rfl (by decide) (m14_pseudo l G a1 τ σ1 H (σ1 14 0 30) (σ1 14 0 5) x1 _ hw) (cwV 3 hts (lw_V q2244 q2246 qs88 q171 q2247) rfl rfl rfl kX14_pseudo ⟨Nat.le_of_ble_eq_true rfl, Nat.le_of_ble_eq_true rfl⟩) rfl hl.1 rfl (Nat.le_of_ble_eq_true rfl) dX14_tcp_58 ⟨Nat.le_of_ble_eq_true rfl, Nat.le_of_ble_eq_true rfl⟩) hS (fun r2 locs hw hS => ?_)
    refine kc_jp (rn_sp (As := [.ref (adr G a1 64 0), .int 0, .int x1, .long r2]) (rest := []) C hH hS (m14_added l G a1 τ σ1 H 64 0 0 x1 r2 (by decide) _ hw) (va_cwS 4 hts (lw_S q2249 q2250 q171 q2251) rfl rfl rfl kX14_added.2 ⟨Nat.le_of_ble_eq_true rfl, Nat.le_of_ble_eq_true rfl⟩) rfl hl.1 rfl (Nat.le_of_ble_eq_true rfl) dX14_tcp_61 ⟨Nat.le_of_ble_eq_true rfl, Nat.le_of_ble_eq_true rfl⟩) hS (fun r3 locs hw hS => ?_)
    refine kc_ip (rn_sp (As := [.long r3]) (rest := []) C hH hS (m14_sixteen l G a1 τ σ1 H r3 _ hw) (va_cwS 1 hts (lw_S q2252 q2253 q171 q2254) rfl rfl rfl kX14_sixteen.2 ⟨Nat.le_of_ble_eq_true rfl, Nat.le_of_ble_eq_true rfl⟩) rfl hl.1 rfl (Nat.le_of_ble_eq_true rfl) dX14_tcp_64 ⟨Nat.le_of_ble_eq_true rfl, Nat.le_of_ble_eq_true rfl⟩) hS (fun r4 locs hw hS => ?_)
    refine lv_if_eq (tgt := 71) hx hb dX14_tcp_67 (by decide) (fun h => ?_) (fun h => ?_)
    · have hw := hw.1 h
      refine lv_aload_n hx hb dX14_tcp_71 rfl (lv_at hl 0 rfl) ?_
      refine lv_aload_n hx hb dX14_tcp_72 rfl (lv_at hl 0 rfl) ?_
      refine lv_iconst (v := 0) hx hb dX14_tcp_73 (by decide) ?_
      refine kc_ip (rn_vp (As := [.int 0]) (rest := [.ref (ga G 14 0)]) C hH hS (by decide) rfl (by decide) (m14_half l G a1 τ σ1 H 0 _ hw) (cwV 1 hts (lw_V q2361 q2363 qs113 q171 q2364) rfl rfl rfl kX14_half ⟨Nat.le_of_ble_eq_true rfl, Nat.le_of_ble_eq_true rfl⟩) rfl hl.1 rfl (Nat.le_of_ble_eq_true rfl) dX14_tcp_74 ⟨Nat.le_of_ble_eq_true rfl, Nat.le_of_ble_eq_true rfl⟩) hS (fun r5 locs hw hS => ?_)
      refine p14_32 C hH hS q1972 dX14_tcp_77 (fun σ6 e6 H locs hH hS => ?_)
      have hw := hw σ6 e6
      refine lv_aload_n hx hb dX14_tcp_80 rfl (lv_at hl 0 rfl) ?_
      refine lv_aload_n hx hb dX14_tcp_81 rfl (lv_at hl 0 rfl) ?_
      refine lv_iconst (v := 2) hx hb dX14_tcp_82 (by decide) ?_
      refine kc_ip (rn_vp (As := [.int 2]) (rest := [.ref (ga G 14 0)]) C hH hS (by decide) rfl (by decide) (m14_half l G a1 τ σ6 H 2 _ hw) (cwV 1 hts (lw_V q2361 q2363 qs113 q171 q2364) rfl rfl rfl kX14_half ⟨Nat.le_of_ble_eq_true rfl, Nat.le_of_ble_eq_true rfl⟩) rfl hl.1 rfl (Nat.le_of_ble_eq_true rfl) dX14_tcp_83 ⟨Nat.le_of_ble_eq_true rfl, Nat.le_of_ble_eq_true rfl⟩) hS (fun r7 locs hw hS => ?_)
      refine p14_33 C hH hS q1973 dX14_tcp_86 (fun σ8 e8 H locs hH hS => ?_)
      have hw := hw σ8 e8
      refine lv_aload_n hx hb dX14_tcp_89 rfl (lv_at hl 0 rfl) ?_
      refine lv_aload_n hx hb dX14_tcp_90 rfl (lv_at hl 0 rfl) ?_
      refine lv_iconst (v := 4) hx hb dX14_tcp_91 (by decide) ?_
      refine kc_ip (rn_vp (As := [.int 4]) (rest := [.ref (ga G 14 0)]) C hH hS (by decide) rfl (by decide) (m14_wholeWord l G a1 τ σ8 H 4 _ hw) (cwV 1 hts (lw_V q2365 q2367 qs114 q171 q2368) rfl rfl rfl kX14_wholeWord ⟨Nat.le_of_ble_eq_true rfl, Nat.le_of_ble_eq_true rfl⟩) rfl hl.1 rfl (Nat.le_of_ble_eq_true rfl) dX14_tcp_92 ⟨Nat.le_of_ble_eq_true rfl, Nat.le_of_ble_eq_true rfl⟩) hS (fun r9 locs hw hS => ?_)
      refine p14_34 C hH hS q1974 dX14_tcp_95 (fun σ10 e10 H locs hH hS => ?_)
      have hw := hw σ10 e10
      refine lv_aload_n hx hb dX14_tcp_98 rfl (lv_at hl 0 rfl) ?_
      refine lv_aload_n hx hb dX14_tcp_99 rfl (lv_at hl 0 rfl) ?_
      refine lv_bipush (v := 8) hx hb dX14_tcp_100 (by decide) ?_
      refine kc_ip (rn_vp (As := [.int 8]) (rest := [.ref (ga G 14 0)]) C hH hS (by decide) rfl (by decide) (m14_wholeWord l G a1 τ σ10 H 8 _ hw) (cwV 1 hts (lw_V q2365 q2367 qs114 q171 q2368) rfl rfl rfl kX14_wholeWord ⟨Nat.le_of_ble_eq_true rfl, Nat.le_of_ble_eq_true rfl⟩) rfl hl.1 rfl (Nat.le_of_ble_eq_true rfl) dX14_tcp_102 ⟨Nat.le_of_ble_eq_true rfl, Nat.le_of_ble_eq_true rfl⟩) hS (fun r11 locs hw hS => ?_)
      refine p14_35 C hH hS q1975 dX14_tcp_105 (fun σ12 e12 H locs hH hS => ?_)
      have hw := hw σ12 e12
      refine lv_aload_n hx hb dX14_tcp_108 rfl (lv_at hl 0 rfl) ?_
      refine lv_aload_n hx hb dX14_tcp_109 rfl (lv_at hl 0 rfl) ?_
      refine g14_29 C hH q1969 dX14_tcp_110 ?_
      refine lv_bipush (v := 13) hx hb dX14_tcp_113 (by decide) ?_
      refine l64 C hH hw.1 dX14_tcp_115 (fun hz => ?_)
      have hw := hw.2 hz
      refine lv_bipush (v := 31) hx hb dX14_tcp_116 (by decide) ?_
      refine lv_iand hx hb dX14_tcp_118 ?_
      refine p14_36 C hH hS q1976 dX14_tcp_119 (fun σ13 e13 H locs hH hS => ?_)
      have hw := hw σ13 e13
      refine lv_aload_n hx hb dX14_tcp_122 rfl (lv_at hl 0 rfl) ?_
      refine lv_aload_n hx hb dX14_tcp_123 rfl (lv_at hl 0 rfl) ?_
      refine lv_bipush (v := 14) hx hb dX14_tcp_124 (by decide) ?_
      refine kc_ip (rn_vp (As := [.int 14]) (rest := [.ref (ga G 14 0)]) C hH hS (by decide) rfl (by decide) (m14_half l G a1 τ σ13 H 14 _ hw) (cwV 1 hts (lw_V q2361 q2363 qs113 q171 q2364) rfl rfl rfl kX14_half ⟨Nat.le_of_ble_eq_true rfl, Nat.le_of_ble_eq_true rfl⟩) rfl hl.1 rfl (Nat.le_of_ble_eq_true rfl) dX14_tcp_126 ⟨Nat.le_of_ble_eq_true rfl, Nat.le_of_ble_eq_true rfl⟩) hS (fun r14 locs hw hS => ?_)
      refine p14_37 C hH hS q1977 dX14_tcp_129 (fun σ15 e15 H locs hH hS => ?_)
      have hw := hw σ15 e15
      refine lv_aload_n hx hb dX14_tcp_132 rfl (lv_at hl 0 rfl) ?_
      refine lv_aload_n hx hb dX14_tcp_133 rfl (lv_at hl 0 rfl) ?_
      refine g14_40 C hH q1980 dX14_tcp_134 ?_
      refine p14_38 C hH hS q1978 dX14_tcp_137 (fun σ16 e16 H locs hH hS => ?_)
      have hw := hw σ16 e16
      refine lv_aload_n hx hb dX14_tcp_140 rfl (lv_at hl 0 rfl) ?_
      refine lv_iload_n hx hb dX14_tcp_141 rfl (lv_at hl 1 rfl) ?_
      refine lv_aload_n hx hb dX14_tcp_142 rfl (lv_at hl 0 rfl) ?_
      refine g14_40 C hH q1980 dX14_tcp_143 ?_
      refine lv_isub hx hb dX14_tcp_146 ?_
      refine p14_39 C hH hS q1979 dX14_tcp_147 (fun σ17 e17 H locs hH hS => ?_)
      have hw := hw σ17 e17
      refine lv_null hx hb dX14_tcp_150 ?_
      refine lv_astore_nN (lv' := [(2, .null), (0, .ref (ga G 14 0)), (1, .int x1)]) hx hb dX14_tcp_151 rfl hl (by decide) rfl (fun ls hl => ?_)
      refine lv_iconst (v := 0) hx hb dX14_tcp_152 (by decide) ?_
      refine lv_istore_n (lv' := [(3, .int 0), (2, .null), (0, .ref (ga G 14 0)), (1, .int x1)]) hx hb dX14_tcp_153 rfl hl (by decide) rfl (fun ls hl => ?_)
      obtain ⟨n19, hw⟩ := hw
      refine k14_tcp_L154 C σ17 n19 none 0 hw H locs ls hH hS (lv_sub hl [2, 1, 0] rfl) (fun p2_20 hw H locs ls hH hS hl => ?_)
      exact k14_tcp_J218 C σ17 p2_20 hw H locs ls hH hS (lv_sub hl [0, 1] rfl)
    have hw := hw.2 h
    exact rt_v C hH hS hw dX14_tcp_70
  have hw := hw.2 h
  exact rt_v C hH hS hw dX14_tcp_6
/-! WebHost$Connection.look()V -/
abbrev cX11_look : ByteArray := prog_3_method_20_code
def yX11_look : MethodName := ⟨RX11, "look", "()V"⟩
theorem dX11_look_0 : decode cX11_look 0 = .ok (.aload_n 0, 1) := by decide +kernel
theorem dX11_look_1 : decode cX11_look 1 = .ok (.getfield 79, 3) := by decide +kernel
theorem dX11_look_4 : decode cX11_look 4 = .ok (.ifCond .ne 109, 3) := by decide +kernel
theorem dX11_look_7 : decode cX11_look 7 = .ok (.aload_n 0, 1) := by decide +kernel
theorem dX11_look_8 : decode cX11_look 8 = .ok (.invokevirtual 85, 3) := by decide +kernel
theorem dX11_look_11 : decode cX11_look 11 = .ok (.ifCond .ne 102, 3) := by decide +kernel
theorem dX11_look_14 : decode cX11_look 14 = .ok (.aload_n 0, 1) := by decide +kernel
theorem dX11_look_15 : decode cX11_look 15 = .ok (.invokevirtual 152, 3) := by decide +kernel
theorem dX11_look_18 : decode cX11_look 18 = .ok (.ifCond .ne 95, 3) := by decide +kernel
theorem dX11_look_21 : decode cX11_look 21 = .ok (.aload_n 0, 1) := by decide +kernel
theorem dX11_look_22 : decode cX11_look 22 = .ok (.getfield 29, 3) := by decide +kernel
theorem dX11_look_25 : decode cX11_look 25 = .ok (.aload_n 0, 1) := by decide +kernel
theorem dX11_look_26 : decode cX11_look 26 = .ok (.getfield 12, 3) := by decide +kernel
theorem dX11_look_29 : decode cX11_look 29 = .ok (.aload_n 0, 1) := by decide +kernel
theorem dX11_look_30 : decode cX11_look 30 = .ok (.getfield 21, 3) := by decide +kernel
theorem dX11_look_33 : decode cX11_look 33 = .ok (.aload_n 0, 1) := by decide +kernel
theorem dX11_look_34 : decode cX11_look 34 = .ok (.getfield 73, 3) := by decide +kernel
theorem dX11_look_37 : decode cX11_look 37 = .ok (.bipush 7, 2) := by decide +kernel
theorem dX11_look_39 : decode cX11_look 39 = .ok (.if_icmp .ne 7, 3) := by decide +kernel
theorem dX11_look_42 : decode cX11_look 42 = .ok (.iconst 1, 1) := by decide +kernel
theorem dX11_look_43 : decode cX11_look 43 = .ok (.goto 4, 3) := by decide +kernel
theorem dX11_look_46 : decode cX11_look 46 = .ok (.iconst 0, 1) := by decide +kernel
theorem dX11_look_47 : decode cX11_look 47 = .ok (.invokevirtual 253, 3) := by decide +kernel
theorem dX11_look_50 : decode cX11_look 50 = .ok (.istore_n 1, 1) := by decide +kernel
theorem dX11_look_51 : decode cX11_look 51 = .ok (.iload_n 1, 1) := by decide +kernel
theorem dX11_look_52 : decode cX11_look 52 = .ok (.ifCond .eq 54, 3) := by decide +kernel
theorem dX11_look_55 : decode cX11_look 55 = .ok (.aload_n 0, 1) := by decide +kernel
theorem dX11_look_56 : decode cX11_look 56 = .ok (.aload_n 0, 1) := by decide +kernel
theorem dX11_look_57 : decode cX11_look 57 = .ok (.getfield 60, 3) := by decide +kernel
theorem dX11_look_60 : decode cX11_look 60 = .ok (.putfield 67, 3) := by decide +kernel
theorem dX11_look_63 : decode cX11_look 63 = .ok (.iload_n 1, 1) := by decide +kernel
theorem dX11_look_64 : decode cX11_look 64 = .ok (.iconst 3, 1) := by decide +kernel
theorem dX11_look_65 : decode cX11_look 65 = .ok (.if_icmp .ne 14, 3) := by decide +kernel
theorem dX11_look_68 : decode cX11_look 68 = .ok (.aload_n 0, 1) := by decide +kernel
theorem dX11_look_69 : decode cX11_look 69 = .ok (.getfield 21, 3) := by decide +kernel
theorem dX11_look_72 : decode cX11_look 72 = .ok (.iconst 0, 1) := by decide +kernel
theorem dX11_look_73 : decode cX11_look 73 = .ok (.putfield 70, 3) := by decide +kernel
theorem dX11_look_76 : decode cX11_look 76 = .ok (.goto 16, 3) := by decide +kernel
theorem dX11_look_79 : decode cX11_look 79 = .ok (.aload_n 0, 1) := by decide +kernel
theorem dX11_look_80 : decode cX11_look 80 = .ok (.getfield 25, 3) := by decide +kernel
theorem dX11_look_83 : decode cX11_look 83 = .ok (.dup, 1) := by decide +kernel
theorem dX11_look_84 : decode cX11_look 84 = .ok (.getfield 258, 3) := by decide +kernel
theorem dX11_look_87 : decode cX11_look 87 = .ok (.iconst 1, 1) := by decide +kernel
theorem dX11_look_88 : decode cX11_look 88 = .ok (.iadd, 1) := by decide +kernel
theorem dX11_look_89 : decode cX11_look 89 = .ok (.putfield 258, 3) := by decide +kernel
theorem dX11_look_92 : decode cX11_look 92 = .ok (.aload_n 0, 1) := by decide +kernel
theorem dX11_look_93 : decode cX11_look 93 = .ok (.iload_n 1, 1) := by decide +kernel
theorem dX11_look_94 : decode cX11_look 94 = .ok (.iconst 1, 1) := by decide +kernel
theorem dX11_look_95 : decode cX11_look 95 = .ok (.if_icmp .eq 7, 3) := by decide +kernel
theorem dX11_look_98 : decode cX11_look 98 = .ok (.iconst 1, 1) := by decide +kernel
theorem dX11_look_99 : decode cX11_look 99 = .ok (.goto 4, 3) := by decide +kernel
theorem dX11_look_102 : decode cX11_look 102 = .ok (.iconst 0, 1) := by decide +kernel
theorem dX11_look_103 : decode cX11_look 103 = .ok (.putfield 79, 3) := by decide +kernel
theorem dX11_look_106 : decode cX11_look 106 = .ok (.aload_n 0, 1) := by decide +kernel
theorem dX11_look_107 : decode cX11_look 107 = .ok (.getfield 12, 3) := by decide +kernel
theorem dX11_look_110 : decode cX11_look 110 = .ok (.invokevirtual 241, 3) := by decide +kernel
theorem dX11_look_113 : decode cX11_look 113 = .ok (.return_, 1) := by decide +kernel
def rmX11_look : Room := { frames := 12, cells := 1, slots := 66047, locals := 269 }
theorem kX11_look : yX11_look.cls = "WebHost$Connection" ∧ yX11_look.cls ≠ "java/lang/invoke/MethodHandle" ∧ yX11_look.cls ≠ "java/lang/invoke/VarHandle" ∧ (parseMethodDescriptor yX11_look.desc).map (fun d => d.parameters.length) = some 0 := by decide +kernel
def w11_look_J92 (σ : St) (o0 : Nat) (x1 : Int32) (Q : St → Prop) : Prop := (x1 = 1 → (∀ σ7, σ7 = up3 σ 11 o0 27 0 → (w12_leaveOut σ7 o0 (fun σ8 => (Q σ8))))) ∧ (¬ x1 = 1 → (∀ σ9, σ9 = up3 σ 11 o0 27 1 → (w12_leaveOut σ9 o0 (fun σ10 => (Q σ10)))))
set_option maxHeartbeats 4000000 in
theorem k11_look_J92 {p : Program} {l : Launch} {e : Env} {s : State} {m : MethodId} {args : Array Value} {below : List Frame} {meth : Method} {c : Code} {G : Gh} {a1 : Nat → Nat → Nat} {τ : St} {Q : St → Prop} (C : Cx p e s m args meth c cX11_look 2 none "WebHost$Connection" G) (σ : St) (o0 : Nat) (x1 : Int32) (ho0 : o0 < 16) (hw : w11_look_J92 σ o0 x1 Q) (H : Heap) (locs : List Loc) (ls : Array Slot) (hH : Hd G a1 (cmb σ τ) H) (hS : va_S (gA G) s.heap H locs) (hl : lv_has ls 2 [(0, .ref (ga G 11 o0)), (1, .int x1)]) : W p l e rmX11_look s m args below meth c H locs 1 66047 (MQ below (QVa G (fun u => cmb u τ) Q) args s 1 66047 (gA G)) (F0 m 92 ls []) := by
  have hx := C.1
  have hb := C.2.1
  have hown := C.2.2.2.2.2.1
  have hts := C.2.2.2.2.2.2.1
  refine lv_aload_n hx hb dX11_look_92 rfl (lv_at hl 0 rfl) ?_
  refine lv_iload_n hx hb dX11_look_93 rfl (lv_at hl 1 rfl) ?_
  refine lv_iconst (v := 1) hx hb dX11_look_94 (by decide) ?_
  refine lv_icmp_eq (tgt := 102) hx hb dX11_look_95 (by decide) (fun h => ?_) (fun h => ?_)
  · have hw := hw.1 h
    refine lv_iconst (v := 0) hx hb dX11_look_102 (by decide) ?_
    refine p11_27 C hH hS ho0 (Or.inl rfl) q649 dX11_look_103 (fun σ7 e7 H locs hH hS => ?_)
    have hw := hw σ7 e7
    refine lv_aload_n hx hb dX11_look_106 rfl (lv_at hl 0 rfl) ?_
    refine g11_20 C hH ho0 q641 dX11_look_107 ?_
    refine kc_v (rn_v (As := []) (rest := []) C hH hS (by decide) rfl ho0 (m12_leaveOut l G a1 τ σ7 o0 ho0 _ hw) (cwV 0 hts (lw_V q1232 q1233 q1234 q169 q1235) rfl rfl rfl kX12_leaveOut ⟨Nat.le_of_ble_eq_true rfl, Nat.le_of_ble_eq_true rfl⟩) rfl hl.1 rfl (Nat.le_of_ble_eq_true rfl) dX11_look_110 ⟨Nat.le_of_ble_eq_true rfl, Nat.le_of_ble_eq_true rfl⟩) hS (fun σ8 H locs hw hH hS => ?_)
    exact rt_va C hH hS hw dX11_look_113
  have hw := hw.2 h
  refine lv_iconst (v := 1) hx hb dX11_look_98 (by decide) ?_
  refine lv_goto (tgt := 103) hx hb dX11_look_99 (by decide) ?_
  refine p11_27 C hH hS ho0 (Or.inr rfl) q649 dX11_look_103 (fun σ9 e9 H locs hH hS => ?_)
  have hw := hw σ9 e9
  refine lv_aload_n hx hb dX11_look_106 rfl (lv_at hl 0 rfl) ?_
  refine g11_20 C hH ho0 q641 dX11_look_107 ?_
  refine kc_v (rn_v (As := []) (rest := []) C hH hS (by decide) rfl ho0 (m12_leaveOut l G a1 τ σ9 o0 ho0 _ hw) (cwV 0 hts (lw_V q1232 q1233 q1234 q169 q1235) rfl rfl rfl kX12_leaveOut ⟨Nat.le_of_ble_eq_true rfl, Nat.le_of_ble_eq_true rfl⟩) rfl hl.1 rfl (Nat.le_of_ble_eq_true rfl) dX11_look_110 ⟨Nat.le_of_ble_eq_true rfl, Nat.le_of_ble_eq_true rfl⟩) hS (fun σ10 H locs hw hH hS => ?_)
  exact rt_va C hH hS hw dX11_look_113
def w11_look_J47 (σ : St) (o0 : Nat) (xs0 : Int32) (os1 : Nat) (os2 : Nat) (Q : St → Prop) : Prop := w9_look σ os2 os1 xs0 (fun r3 σ3 => ((r3 = 0 → (w12_leaveOut σ3 o0 (fun σ4 => (Q σ4)))) ∧ (¬ r3 = 0 → (∀ σ5, σ5 = up3 σ3 11 o0 26 (σ3 11 o0 10) → ((¬ r3 = 3 → (∀ σ6, σ6 = up3 σ5 8 0 5 ((σ5 8 0 5) + 1) → (w11_look_J92 σ6 o0 r3 Q))) ∧ (r3 = 3 → (∀ σ11, σ11 = up3 σ5 13 o0 1 0 → (w11_look_J92 σ11 o0 r3 Q))))))))
set_option maxHeartbeats 4000000 in
theorem k11_look_J47 {p : Program} {l : Launch} {e : Env} {s : State} {m : MethodId} {args : Array Value} {below : List Frame} {meth : Method} {c : Code} {G : Gh} {a1 : Nat → Nat → Nat} {τ : St} {Q : St → Prop} (C : Cx p e s m args meth c cX11_look 2 none "WebHost$Connection" G) (σ : St) (o0 : Nat) (xs0 : Int32) (os1 : Nat) (os2 : Nat) (ho0 : o0 < 16) (hos1 : os1 < 16) (hos2 : os2 < 16) (hw : w11_look_J47 σ o0 xs0 os1 os2 Q) (H : Heap) (locs : List Loc) (ls : Array Slot) (hH : Hd G a1 (cmb σ τ) H) (hS : va_S (gA G) s.heap H locs) (hl : lv_has ls 2 [(0, .ref (ga G 11 o0))]) : W p l e rmX11_look s m args below meth c H locs 0 0 (MQ below (QVa G (fun u => cmb u τ) Q) args s 1 66047 (gA G)) (F0 m 47 ls [.int xs0, .ref (ga G 13 os1), .ref (ga G 12 os2), .ref (ga G 9 0)]) := by
  have hx := C.1
  have hb := C.2.1
  have hown := C.2.2.2.2.2.1
  have hts := C.2.2.2.2.2.2.1
  refine kc_ia (rn_v (As := [.ref (ga G 12 os2), .ref (ga G 13 os1), .int xs0]) (rest := []) C hH hS (by decide) rfl (by decide) (m9_look l G a1 τ σ os2 os1 xs0 hos2 hos1 _ hw) (cwV 3 hts (lw_V q1245 q1246 q1247 q166 q1248) rfl rfl rfl kX9_look ⟨Nat.le_of_ble_eq_true rfl, Nat.le_of_ble_eq_true rfl⟩) rfl hl.1 rfl (Nat.le_of_ble_eq_true rfl) dX11_look_47 ⟨Nat.le_of_ble_eq_true rfl, Nat.le_of_ble_eq_true rfl⟩) hS (fun r3 σ3 a3 H locs hw hH hS => ?_)
  refine W.cs (cells' := 1) (slots' := 66047) rfl rfl ?_
  refine lv_istore_n (lv' := [(1, .int r3), (0, .ref (ga G 11 o0))]) hx hb dX11_look_50 rfl hl (by decide) rfl (fun ls hl => ?_)
  refine lv_iload_n hx hb dX11_look_51 rfl (lv_at hl 0 rfl) ?_
  refine lv_if_eq (tgt := 106) hx hb dX11_look_52 (by decide) (fun h => ?_) (fun h => ?_)
  · have hw := hw.1 h
    refine lv_aload_n hx hb dX11_look_106 rfl (lv_at hl 1 rfl) ?_
    refine g11_20 C hH ho0 q641 dX11_look_107 ?_
    refine kc_v (rn_v (As := []) (rest := []) C hH hS (by decide) rfl ho0 (m12_leaveOut l G a3 τ σ3 o0 ho0 _ hw) (cwV 0 hts (lw_V q1232 q1233 q1234 q169 q1235) rfl rfl rfl kX12_leaveOut ⟨Nat.le_of_ble_eq_true rfl, Nat.le_of_ble_eq_true rfl⟩) rfl hl.1 rfl (Nat.le_of_ble_eq_true rfl) dX11_look_110 ⟨Nat.le_of_ble_eq_true rfl, Nat.le_of_ble_eq_true rfl⟩) hS (fun σ4 H locs hw hH hS => ?_)
    exact rt_va C hH hS hw dX11_look_113
  have hw := hw.2 h
  refine lv_aload_n hx hb dX11_look_55 rfl (lv_at hl 1 rfl) ?_
  refine lv_aload_n hx hb dX11_look_56 rfl (lv_at hl 1 rfl) ?_
  refine g11_10 C hH ho0 q622 dX11_look_57 ?_
  refine p11_26 C hH hS ho0 q648 dX11_look_60 (fun σ5 e5 H locs hH hS => ?_)
  have hw := hw σ5 e5
  refine lv_iload_n hx hb dX11_look_63 rfl (lv_at hl 0 rfl) ?_
  refine lv_iconst (v := 3) hx hb dX11_look_64 (by decide) ?_
  refine lv_icmp_ne (tgt := 79) hx hb dX11_look_65 (by decide) (fun h => ?_) (fun h => ?_)
  · have hw := hw.1 h
    refine lv_aload_n hx hb dX11_look_79 rfl (lv_at hl 1 rfl) ?_
    refine g11_0 C hH ho0 q608 dX11_look_80 ?_
    refine lv_dup hx hb dX11_look_83 rfl ?_
    refine g8_5 C hH q413 dX11_look_84 ?_
    refine lv_iconst (v := 1) hx hb dX11_look_87 (by decide) ?_
    refine lv_iadd hx hb dX11_look_88 ?_
    refine p8_5 C hH hS q413 dX11_look_89 (fun σ6 e6 H locs hH hS => ?_)
    have hw := hw σ6 e6
    exact k11_look_J92 C σ6 o0 r3 ho0 hw H locs ls hH hS (lv_sub hl [1, 0] rfl)
  have hw := hw.2 h
  refine lv_aload_n hx hb dX11_look_68 rfl (lv_at hl 1 rfl) ?_
  refine g11_25 C hH ho0 q647 dX11_look_69 ?_
  refine lv_iconst (v := 0) hx hb dX11_look_72 (by decide) ?_
  refine p13_1 C hH hS ho0 q602 dX11_look_73 (fun σ11 e11 H locs hH hS => ?_)
  have hw := hw σ11 e11
  refine lv_goto (tgt := 92) hx hb dX11_look_76 (by decide) ?_
  exact k11_look_J92 C σ11 o0 r3 ho0 hw H locs ls hH hS (lv_sub hl [1, 0] rfl)
def w11_look (σ : St) (o0 : Nat) (Q : St → Prop) : Prop := bo (σ 11 o0 27) → ((¬ (σ 11 o0 27) = 0 → Q σ) ∧ ((σ 11 o0 27) = 0 → (w11_left σ o0 (fun r1 => ((¬ r1 = 0 → Q σ) ∧ (r1 = 0 → (w11_flight σ o0 (fun r2 => ((¬ r2 = 0 → Q σ) ∧ (r2 = 0 → ((¬ (σ 11 o0 2) = 7 → w11_look_J47 σ o0 0 o0 o0 Q) ∧ ((σ 11 o0 2) = 7 → w11_look_J47 σ o0 1 o0 o0 Q))))))))))))
set_option maxHeartbeats 4000000 in
theorem m11_look (l : Launch) (G : Gh) (a1 : Nat → Nat → Nat) (τ : St) (σ : St) (o0 : Nat) (ho0 : o0 < 16) (Q : St → Prop) (hw : w11_look σ o0 Q) : Met l yX11_look (ws_ yX11_look cX11_look 2 none) rmX11_look (PcS G a1 (cmb σ τ) [.ref (ga G 11 o0)]) (QVa G (fun u => cmb u τ) Q) 1 66047 (gA G) := by
  refine met_w (by decide) (Nat.le_of_ble_eq_true rfl) ?_
  intro p e s m below meth c ls C hH hS hl
  have C : Cx p e s m _ meth c cX11_look 2 none "WebHost$Connection" G := C
  have hl : lv_has ls 2 [(0, .ref (ga G 11 o0))] := hl
  have hx := C.1
  have hb := C.2.1
  have hown := C.2.2.2.2.2.1
  have hts := C.2.2.2.2.2.2.1
  obtain ⟨locs, hlocs⟩ : ∃ z : List Loc, z = [] := ⟨_, rfl⟩
  obtain ⟨H, hHe⟩ : ∃ z : Heap, z = s.heap := ⟨_, rfl⟩
  have hH : Hd G a1 (cmb σ τ) H := by rw [hHe]; exact hH
  have hS : va_S (gA G) s.heap H locs := by rw [hHe, hlocs]; exact hS
  refine W.heap0 hHe.symm hlocs.symm ?_
  refine lv_aload_n hx hb dX11_look_0 rfl (lv_at hl 0 rfl) ?_
  refine g11_27 C hH ho0 q649 dX11_look_1 (fun hz => ?_)
  have hw := hw hz
  refine lv_if_ne (tgt := 113) hx hb dX11_look_4 (by decide) (fun h => ?_) (fun h => ?_)
  · have hw := hw.1 h
    refine W.widen (k := 1) (n := 66047) (Nat.zero_le _) (Nat.zero_le _) ?_
    exact rt_va C hH hS hw dX11_look_113
  have hw := hw.2 h
  refine lv_aload_n hx hb dX11_look_7 rfl (lv_at hl 0 rfl) ?_
  refine kc_ip (rn_vp (As := []) (rest := []) C hH hS (by decide) rfl ho0 (m11_left l G a1 τ σ H o0 ho0 _ hw) (cwV 0 hts (lw_V q1034 q1035 q1036 q168 q1037) rfl rfl rfl kX11_left ⟨Nat.le_of_ble_eq_true rfl, Nat.le_of_ble_eq_true rfl⟩) rfl hl.1 rfl (Nat.le_of_ble_eq_true rfl) dX11_look_8 ⟨Nat.le_of_ble_eq_true rfl, Nat.le_of_ble_eq_true rfl⟩) hS (fun r1 locs hw hS => ?_)
  refine lv_if_ne (tgt := 113) hx hb dX11_look_11 (by decide) (fun h => ?_) (fun h => ?_)
  · have hw := hw.1 h
    refine W.widen (k := 1) (n := 66047) (Nat.zero_le _) (Nat.zero_le _) ?_
    exact rt_va C hH hS hw dX11_look_113
  have hw := hw.2 h
  refine lv_aload_n hx hb dX11_look_14 rfl (lv_at hl 0 rfl) ?_
  refine kc_ip (rn_vp (As := []) (rest := []) C hH hS (by decide) rfl ho0 (m11_flight l G a1 τ σ H o0 ho0 _ hw) (cwV 0 hts (lw_V q1061 q1063 qs21 q168 q1064) rfl rfl rfl kX11_flight ⟨Nat.le_of_ble_eq_true rfl, Nat.le_of_ble_eq_true rfl⟩) rfl hl.1 rfl (Nat.le_of_ble_eq_true rfl) dX11_look_15 ⟨Nat.le_of_ble_eq_true rfl, Nat.le_of_ble_eq_true rfl⟩) hS (fun r2 locs hw hS => ?_)
  refine lv_if_ne (tgt := 113) hx hb dX11_look_18 (by decide) (fun h => ?_) (fun h => ?_)
  · have hw := hw.1 h
    refine W.widen (k := 1) (n := 66047) (Nat.zero_le _) (Nat.zero_le _) ?_
    exact rt_va C hH hS hw dX11_look_113
  have hw := hw.2 h
  refine lv_aload_n hx hb dX11_look_21 rfl (lv_at hl 0 rfl) ?_
  refine g11_1 C hH ho0 q609 dX11_look_22 ?_
  refine lv_aload_n hx hb dX11_look_25 rfl (lv_at hl 0 rfl) ?_
  refine g11_20 C hH ho0 q641 dX11_look_26 ?_
  refine lv_aload_n hx hb dX11_look_29 rfl (lv_at hl 0 rfl) ?_
  refine g11_25 C hH ho0 q647 dX11_look_30 ?_
  refine lv_aload_n hx hb dX11_look_33 rfl (lv_at hl 0 rfl) ?_
  refine g11_2 C hH ho0 q610 dX11_look_34 ?_
  refine lv_bipush (v := 7) hx hb dX11_look_37 (by decide) ?_
  refine lv_icmp_ne (tgt := 46) hx hb dX11_look_39 (by decide) (fun h => ?_) (fun h => ?_)
  · have hw := hw.1 h
    refine lv_iconst (v := 0) hx hb dX11_look_46 (by decide) ?_
    exact k11_look_J47 C σ o0 0 o0 o0 ho0 ho0 ho0 hw H locs ls hH hS (lv_sub hl [0] rfl)
  have hw := hw.2 h
  refine lv_iconst (v := 1) hx hb dX11_look_42 (by decide) ?_
  refine lv_goto (tgt := 47) hx hb dX11_look_43 (by decide) ?_
  exact k11_look_J47 C σ o0 1 o0 o0 ho0 ho0 ho0 hw H locs ls hH hS (lv_sub hl [0] rfl)
/-! WebHostModel.taken(II)V -/
abbrev cX14_taken : ByteArray := prog_17_method_30_code
def yX14_taken : MethodName := ⟨RX14, "taken", "(II)V"⟩
theorem dX14_taken_0 : decode cX14_taken 0 = .ok (.iload_n 1, 1) := by decide +kernel
theorem dX14_taken_1 : decode cX14_taken 1 = .ok (.iconst 1, 1) := by decide +kernel
theorem dX14_taken_2 : decode cX14_taken 2 = .ok (.if_icmp .ne 11, 3) := by decide +kernel
theorem dX14_taken_5 : decode cX14_taken 5 = .ok (.aload_n 0, 1) := by decide +kernel
theorem dX14_taken_6 : decode cX14_taken 6 = .ok (.iload_n 2, 1) := by decide +kernel
theorem dX14_taken_7 : decode cX14_taken 7 = .ok (.invokevirtual 268, 3) := by decide +kernel
theorem dX14_taken_10 : decode cX14_taken 10 = .ok (.goto 14, 3) := by decide +kernel
theorem dX14_taken_13 : decode cX14_taken 13 = .ok (.iload_n 1, 1) := by decide +kernel
theorem dX14_taken_14 : decode cX14_taken 14 = .ok (.bipush 6, 2) := by decide +kernel
theorem dX14_taken_16 : decode cX14_taken 16 = .ok (.if_icmp .ne 8, 3) := by decide +kernel
theorem dX14_taken_19 : decode cX14_taken 19 = .ok (.aload_n 0, 1) := by decide +kernel
theorem dX14_taken_20 : decode cX14_taken 20 = .ok (.iload_n 2, 1) := by decide +kernel
theorem dX14_taken_21 : decode cX14_taken 21 = .ok (.invokevirtual 271, 3) := by decide +kernel
theorem dX14_taken_24 : decode cX14_taken 24 = .ok (.return_, 1) := by decide +kernel
def rmX14_taken : Room := { frames := 12, cells := 0, slots := 0, locals := 280 }
theorem kX14_taken : yX14_taken.cls = "WebHostModel" ∧ yX14_taken.cls ≠ "java/lang/invoke/MethodHandle" ∧ yX14_taken.cls ≠ "java/lang/invoke/VarHandle" ∧ (parseMethodDescriptor yX14_taken.desc).map (fun d => d.parameters.length) = some 2 := by decide +kernel
def w14_taken (σ : St) (x1 : Int32) (x2 : Int32) (Q : St → Prop) : Prop := (¬ x1 = 1 → ((¬ x1 = 6 → Q σ) ∧ (x1 = 6 → (w14_tcp σ x2 (fun σ1 => (Q σ1)))))) ∧ (x1 = 1 → (w14_echo σ x2 (fun σ2 => (Q σ2))))
set_option maxHeartbeats 4000000 in
theorem m14_taken (l : Launch) (G : Gh) (a1 : Nat → Nat → Nat) (τ : St) (σ : St) (x1 : Int32) (x2 : Int32) (Q : St → Prop) (hw : w14_taken σ x1 x2 Q) : Met l yX14_taken (ws_ yX14_taken cX14_taken 3 none) rmX14_taken (PcS G a1 (cmb τ σ) [.ref (ga G 14 0), .int x1, .int x2]) (QVs G a1 (fun u => cmb τ u) Q) 0 0 (gA G) := by
  refine met_w (by decide) (Nat.le_of_ble_eq_true rfl) ?_
  intro p e s m below meth c ls C hH hS hl
  have C : Cx p e s m _ meth c cX14_taken 3 none "WebHostModel" G := C
  have hl : lv_has ls 3 [(0, .ref (ga G 14 0)), (1, .int x1), (2, .int x2)] := hl
  have hx := C.1
  have hb := C.2.1
  have hown := C.2.2.2.2.2.1
  have hts := C.2.2.2.2.2.2.1
  obtain ⟨locs, hlocs⟩ : ∃ z : List Loc, z = [] := ⟨_, rfl⟩
  obtain ⟨H, hHe⟩ : ∃ z : Heap, z = s.heap := ⟨_, rfl⟩
  have hH : Hd G a1 (cmb τ σ) H := by rw [hHe]; exact hH
  have hS : va_S (gA G) s.heap H locs := by rw [hHe, hlocs]; exact hS
  refine W.heap0 hHe.symm hlocs.symm ?_
  refine lv_iload_n hx hb dX14_taken_0 rfl (lv_at hl 1 rfl) ?_
  refine lv_iconst (v := 1) hx hb dX14_taken_1 (by decide) ?_
  refine lv_icmp_ne (tgt := 13) hx hb dX14_taken_2 (by decide) (fun h => ?_) (fun h => ?_)
  · have hw := hw.1 h
    refine lv_iload_n hx hb dX14_taken_13 rfl (lv_at hl 1 rfl) ?_
    refine lv_bipush (v := 6) hx hb dX14_taken_14 (by decide) ?_
    refine lv_icmp_ne (tgt := 24) hx hb dX14_taken_16 (by decide) (fun h => ?_) (fun h => ?_)
    · have hw := hw.1 h
      exact rt_v C hH hS hw dX14_taken_24
    have hw := hw.2 h
    refine lv_aload_n hx hb dX14_taken_19 rfl (lv_at hl 0 rfl) ?_
    refine lv_iload_n hx hb dX14_taken_20 rfl (lv_at hl 2 rfl) ?_
    refine kc_v (rn_v (As := [.int x2]) (rest := []) C hH hS (by decide) rfl (by decide) (m14_tcp l G a1 τ σ x2 _ hw) (cwV 1 hts (lw_V q2357 q2359 qs112 q171 q2360) rfl rfl rfl kX14_tcp ⟨Nat.le_of_ble_eq_true rfl, Nat.le_of_ble_eq_true rfl⟩) rfl hl.1 rfl (Nat.le_of_ble_eq_true rfl) dX14_taken_21 ⟨Nat.le_of_ble_eq_true rfl, Nat.le_of_ble_eq_true rfl⟩) hS (fun σ1 H locs hw hH hS => ?_)
    exact rt_v C hH hS hw dX14_taken_24
  have hw := hw.2 h
  refine lv_aload_n hx hb dX14_taken_5 rfl (lv_at hl 0 rfl) ?_
  refine lv_iload_n hx hb dX14_taken_6 rfl (lv_at hl 2 rfl) ?_
  refine kc_v (rn_v (As := [.int x2]) (rest := []) C hH hS (by decide) rfl (by decide) (m14_echo l G a1 τ σ x2 _ hw) (cwV 1 hts (lw_V q2353 q2355 qs111 q171 q2356) rfl rfl rfl kX14_echo ⟨Nat.le_of_ble_eq_true rfl, Nat.le_of_ble_eq_true rfl⟩) rfl hl.1 rfl (Nat.le_of_ble_eq_true rfl) dX14_taken_7 ⟨Nat.le_of_ble_eq_true rfl, Nat.le_of_ble_eq_true rfl⟩) hS (fun σ2 H locs hw hH hS => ?_)
  refine lv_goto (tgt := 24) hx hb dX14_taken_10 (by decide) ?_
  exact rt_v C hH hS hw dX14_taken_24
/-! WebHost$Connection.goOn()V -/
abbrev cX11_goOn : ByteArray := prog_3_method_19_code
def yX11_goOn : MethodName := ⟨RX11, "goOn", "()V"⟩
theorem dX11_goOn_0 : decode cX11_goOn 0 = .ok (.aload_n 0, 1) := by decide +kernel
theorem dX11_goOn_1 : decode cX11_goOn 1 = .ok (.getfield 12, 3) := by decide +kernel
theorem dX11_goOn_4 : decode cX11_goOn 4 = .ok (.invokevirtual 241, 3) := by decide +kernel
theorem dX11_goOn_7 : decode cX11_goOn 7 = .ok (.aload_n 0, 1) := by decide +kernel
theorem dX11_goOn_8 : decode cX11_goOn 8 = .ok (.getfield 73, 3) := by decide +kernel
theorem dX11_goOn_11 : decode cX11_goOn 11 = .ok (.iconst 2, 1) := by decide +kernel
theorem dX11_goOn_12 : decode cX11_goOn 12 = .ok (.if_icmp .eq 12, 3) := by decide +kernel
theorem dX11_goOn_15 : decode cX11_goOn 15 = .ok (.aload_n 0, 1) := by decide +kernel
theorem dX11_goOn_16 : decode cX11_goOn 16 = .ok (.getfield 73, 3) := by decide +kernel
theorem dX11_goOn_19 : decode cX11_goOn 19 = .ok (.bipush 7, 2) := by decide +kernel
theorem dX11_goOn_21 : decode cX11_goOn 21 = .ok (.if_icmp .ne 7, 3) := by decide +kernel
theorem dX11_goOn_24 : decode cX11_goOn 24 = .ok (.aload_n 0, 1) := by decide +kernel
theorem dX11_goOn_25 : decode cX11_goOn 25 = .ok (.invokevirtual 244, 3) := by decide +kernel
theorem dX11_goOn_28 : decode cX11_goOn 28 = .ok (.aload_n 0, 1) := by decide +kernel
theorem dX11_goOn_29 : decode cX11_goOn 29 = .ok (.getfield 12, 3) := by decide +kernel
theorem dX11_goOn_32 : decode cX11_goOn 32 = .ok (.invokevirtual 37, 3) := by decide +kernel
theorem dX11_goOn_35 : decode cX11_goOn 35 = .ok (.aload_n 0, 1) := by decide +kernel
theorem dX11_goOn_36 : decode cX11_goOn 36 = .ok (.getfield 41, 3) := by decide +kernel
theorem dX11_goOn_39 : decode cX11_goOn 39 = .ok (.isub, 1) := by decide +kernel
theorem dX11_goOn_40 : decode cX11_goOn 40 = .ok (.sipush 2048, 3) := by decide +kernel
theorem dX11_goOn_43 : decode cX11_goOn 43 = .ok (.if_icmp .lt 8, 3) := by decide +kernel
theorem dX11_goOn_46 : decode cX11_goOn 46 = .ok (.aload_n 0, 1) := by decide +kernel
theorem dX11_goOn_47 : decode cX11_goOn 47 = .ok (.iconst 1, 1) := by decide +kernel
theorem dX11_goOn_48 : decode cX11_goOn 48 = .ok (.putfield 56, 3) := by decide +kernel
theorem dX11_goOn_51 : decode cX11_goOn 51 = .ok (.aload_n 0, 1) := by decide +kernel
theorem dX11_goOn_52 : decode cX11_goOn 52 = .ok (.invokevirtual 247, 3) := by decide +kernel
theorem dX11_goOn_55 : decode cX11_goOn 55 = .ok (.aload_n 0, 1) := by decide +kernel
theorem dX11_goOn_56 : decode cX11_goOn 56 = .ok (.getfield 56, 3) := by decide +kernel
theorem dX11_goOn_59 : decode cX11_goOn 59 = .ok (.ifCond .eq 7, 3) := by decide +kernel
theorem dX11_goOn_62 : decode cX11_goOn 62 = .ok (.aload_n 0, 1) := by decide +kernel
theorem dX11_goOn_63 : decode cX11_goOn 63 = .ok (.invokevirtual 222, 3) := by decide +kernel
theorem dX11_goOn_66 : decode cX11_goOn 66 = .ok (.aload_n 0, 1) := by decide +kernel
theorem dX11_goOn_67 : decode cX11_goOn 67 = .ok (.getfield 73, 3) := by decide +kernel
theorem dX11_goOn_70 : decode cX11_goOn 70 = .ok (.iconst 2, 1) := by decide +kernel
theorem dX11_goOn_71 : decode cX11_goOn 71 = .ok (.if_icmp .ne 42, 3) := by decide +kernel
theorem dX11_goOn_74 : decode cX11_goOn 74 = .ok (.aload_n 0, 1) := by decide +kernel
theorem dX11_goOn_75 : decode cX11_goOn 75 = .ok (.aload_n 0, 1) := by decide +kernel
theorem dX11_goOn_76 : decode cX11_goOn 76 = .ok (.invokevirtual 85, 3) := by decide +kernel
theorem dX11_goOn_79 : decode cX11_goOn 79 = .ok (.ifCond .ne 18, 3) := by decide +kernel
theorem dX11_goOn_82 : decode cX11_goOn 82 = .ok (.aload_n 0, 1) := by decide +kernel
theorem dX11_goOn_83 : decode cX11_goOn 83 = .ok (.getfield 88, 3) := by decide +kernel
theorem dX11_goOn_86 : decode cX11_goOn 86 = .ok (.aload_n 0, 1) := by decide +kernel
theorem dX11_goOn_87 : decode cX11_goOn 87 = .ok (.getfield 82, 3) := by decide +kernel
theorem dX11_goOn_90 : decode cX11_goOn 90 = .ok (.if_icmp .ne 7, 3) := by decide +kernel
theorem dX11_goOn_93 : decode cX11_goOn 93 = .ok (.iconst 1, 1) := by decide +kernel
theorem dX11_goOn_94 : decode cX11_goOn 94 = .ok (.goto 4, 3) := by decide +kernel
theorem dX11_goOn_97 : decode cX11_goOn 97 = .ok (.iconst 0, 1) := by decide +kernel
theorem dX11_goOn_98 : decode cX11_goOn 98 = .ok (.putfield 116, 3) := by decide +kernel
theorem dX11_goOn_101 : decode cX11_goOn 101 = .ok (.aload_n 0, 1) := by decide +kernel
theorem dX11_goOn_102 : decode cX11_goOn 102 = .ok (.aload_n 0, 1) := by decide +kernel
theorem dX11_goOn_103 : decode cX11_goOn 103 = .ok (.getfield 201, 3) := by decide +kernel
theorem dX11_goOn_106 : decode cX11_goOn 106 = .ok (.sipush 30000, 3) := by decide +kernel
theorem dX11_goOn_109 : decode cX11_goOn 109 = .ok (.iadd, 1) := by decide +kernel
theorem dX11_goOn_110 : decode cX11_goOn 110 = .ok (.putfield 250, 3) := by decide +kernel
theorem dX11_goOn_113 : decode cX11_goOn 113 = .ok (.return_, 1) := by decide +kernel
def rmX11_goOn : Room := { frames := 13, cells := 1, slots := 66047, locals := 290 }
theorem kX11_goOn : yX11_goOn.cls = "WebHost$Connection" ∧ yX11_goOn.cls ≠ "java/lang/invoke/MethodHandle" ∧ yX11_goOn.cls ≠ "java/lang/invoke/VarHandle" ∧ (parseMethodDescriptor yX11_goOn.desc).map (fun d => d.parameters.length) = some 0 := by decide +kernel
def w11_goOn_J66 (σ : St) (o0 : Nat) (Q : St → Prop) : Prop := (¬ (σ 11 o0 2) = 2 → Q σ) ∧ ((σ 11 o0 2) = 2 → (w11_left σ o0 (fun r5 => ((¬ r5 = 0 → (∀ σ6, σ6 = up3 σ 11 o0 33 0 → (∀ σ7, σ7 = up3 σ6 11 o0 31 ((σ6 11 o0 32) + 30000) → (Q σ7)))) ∧ (r5 = 0 → ((¬ (σ 11 o0 11) = (σ 11 o0 9) → (∀ σ8, σ8 = up3 σ 11 o0 33 0 → (∀ σ9, σ9 = up3 σ8 11 o0 31 ((σ8 11 o0 32) + 30000) → (Q σ9)))) ∧ ((σ 11 o0 11) = (σ 11 o0 9) → (∀ σ10, σ10 = up3 σ 11 o0 33 1 → (∀ σ11, σ11 = up3 σ10 11 o0 31 ((σ10 11 o0 32) + 30000) → (Q σ11))))))))))
set_option maxHeartbeats 4000000 in
theorem k11_goOn_J66 {p : Program} {l : Launch} {e : Env} {s : State} {m : MethodId} {args : Array Value} {below : List Frame} {meth : Method} {c : Code} {G : Gh} {a1 : Nat → Nat → Nat} {τ : St} {Q : St → Prop} (C : Cx p e s m args meth c cX11_goOn 1 none "WebHost$Connection" G) (σ : St) (o0 : Nat) (ho0 : o0 < 16) (hw : w11_goOn_J66 σ o0 Q) (H : Heap) (locs : List Loc) (ls : Array Slot) (hH : Hd G a1 (cmb σ τ) H) (hS : va_S (gA G) s.heap H locs) (hl : lv_has ls 1 [(0, .ref (ga G 11 o0))]) : W p l e rmX11_goOn s m args below meth c H locs 1 66047 (MQ below (QVa G (fun u => cmb u τ) Q) args s 1 66047 (gA G)) (F0 m 66 ls []) := by
  have hx := C.1
  have hb := C.2.1
  have hown := C.2.2.2.2.2.1
  have hts := C.2.2.2.2.2.2.1
  refine lv_aload_n hx hb dX11_goOn_66 rfl (lv_at hl 0 rfl) ?_
  refine g11_2 C hH ho0 q610 dX11_goOn_67 ?_
  refine lv_iconst (v := 2) hx hb dX11_goOn_70 (by decide) ?_
  refine lv_icmp_ne (tgt := 113) hx hb dX11_goOn_71 (by decide) (fun h => ?_) (fun h => ?_)
  · have hw := hw.1 h
    exact rt_va C hH hS hw dX11_goOn_113
  have hw := hw.2 h
  refine lv_aload_n hx hb dX11_goOn_74 rfl (lv_at hl 0 rfl) ?_
  refine lv_aload_n hx hb dX11_goOn_75 rfl (lv_at hl 0 rfl) ?_
  refine kc_ip (rn_vp (As := []) (rest := [.ref (ga G 11 o0)]) C hH hS (by decide) rfl ho0 (m11_left l G a1 τ σ H o0 ho0 _ hw) (cwV 0 hts (lw_V q1034 q1035 q1036 q168 q1037) rfl rfl rfl kX11_left ⟨Nat.le_of_ble_eq_true rfl, Nat.le_of_ble_eq_true rfl⟩) rfl hl.1 rfl (Nat.le_of_ble_eq_true rfl) dX11_goOn_76 ⟨Nat.le_of_ble_eq_true rfl, Nat.le_of_ble_eq_true rfl⟩) hS (fun r5 locs hw hS => ?_)
  refine lv_if_ne (tgt := 97) hx hb dX11_goOn_79 (by decide) (fun h => ?_) (fun h => ?_)
  · have hw := hw.1 h
    refine lv_iconst (v := 0) hx hb dX11_goOn_97 (by decide) ?_
    refine p11_33 C hH hS ho0 (Or.inl rfl) q655 dX11_goOn_98 (fun σ6 e6 H locs hH hS => ?_)
    have hw := hw σ6 e6
    refine lv_aload_n hx hb dX11_goOn_101 rfl (lv_at hl 0 rfl) ?_
    refine lv_aload_n hx hb dX11_goOn_102 rfl (lv_at hl 0 rfl) ?_
    refine g11_32 C hH ho0 q654 dX11_goOn_103 ?_
    refine lv_sipush (v := 30000) hx hb dX11_goOn_106 (by decide) ?_
    refine lv_iadd hx hb dX11_goOn_109 ?_
    refine p11_31 C hH hS ho0 q653 dX11_goOn_110 (fun σ7 e7 H locs hH hS => ?_)
    have hw := hw σ7 e7
    exact rt_va C hH hS hw dX11_goOn_113
  have hw := hw.2 h
  refine lv_aload_n hx hb dX11_goOn_82 rfl (lv_at hl 0 rfl) ?_
  refine g11_11 C hH ho0 q624 dX11_goOn_83 ?_
  refine lv_aload_n hx hb dX11_goOn_86 rfl (lv_at hl 0 rfl) ?_
  refine g11_9 C hH ho0 q620 dX11_goOn_87 ?_
  refine lv_icmp_ne (tgt := 97) hx hb dX11_goOn_90 (by decide) (fun h => ?_) (fun h => ?_)
  · have hw := hw.1 h
    refine lv_iconst (v := 0) hx hb dX11_goOn_97 (by decide) ?_
    refine p11_33 C hH hS ho0 (Or.inl rfl) q655 dX11_goOn_98 (fun σ8 e8 H locs hH hS => ?_)
    have hw := hw σ8 e8
    refine lv_aload_n hx hb dX11_goOn_101 rfl (lv_at hl 0 rfl) ?_
    refine lv_aload_n hx hb dX11_goOn_102 rfl (lv_at hl 0 rfl) ?_
    refine g11_32 C hH ho0 q654 dX11_goOn_103 ?_
    refine lv_sipush (v := 30000) hx hb dX11_goOn_106 (by decide) ?_
    refine lv_iadd hx hb dX11_goOn_109 ?_
    refine p11_31 C hH hS ho0 q653 dX11_goOn_110 (fun σ9 e9 H locs hH hS => ?_)
    have hw := hw σ9 e9
    exact rt_va C hH hS hw dX11_goOn_113
  have hw := hw.2 h
  refine lv_iconst (v := 1) hx hb dX11_goOn_93 (by decide) ?_
  refine lv_goto (tgt := 98) hx hb dX11_goOn_94 (by decide) ?_
  refine p11_33 C hH hS ho0 (Or.inr rfl) q655 dX11_goOn_98 (fun σ10 e10 H locs hH hS => ?_)
  have hw := hw σ10 e10
  refine lv_aload_n hx hb dX11_goOn_101 rfl (lv_at hl 0 rfl) ?_
  refine lv_aload_n hx hb dX11_goOn_102 rfl (lv_at hl 0 rfl) ?_
  refine g11_32 C hH ho0 q654 dX11_goOn_103 ?_
  refine lv_sipush (v := 30000) hx hb dX11_goOn_106 (by decide) ?_
  refine lv_iadd hx hb dX11_goOn_109 ?_
  refine p11_31 C hH hS ho0 q653 dX11_goOn_110 (fun σ11 e11 H locs hH hS => ?_)
  have hw := hw σ11 e11
  exact rt_va C hH hS hw dX11_goOn_113
def w11_goOn_J51 (σ : St) (o0 : Nat) (Q : St → Prop) : Prop := w11_output σ o0 (fun σ4 => (bo (σ4 11 o0 22) → (((σ4 11 o0 22) = 0 → w11_goOn_J66 σ4 o0 Q) ∧ (¬ (σ4 11 o0 22) = 0 → (w11_acknowledge σ4 o0 (fun σ12 => (w11_goOn_J66 σ12 o0 Q)))))))
set_option maxHeartbeats 4000000 in
theorem k11_goOn_J51 {p : Program} {l : Launch} {e : Env} {s : State} {m : MethodId} {args : Array Value} {below : List Frame} {meth : Method} {c : Code} {G : Gh} {a1 : Nat → Nat → Nat} {τ : St} {Q : St → Prop} (C : Cx p e s m args meth c cX11_goOn 1 none "WebHost$Connection" G) (σ : St) (o0 : Nat) (ho0 : o0 < 16) (hw : w11_goOn_J51 σ o0 Q) (H : Heap) (locs : List Loc) (ls : Array Slot) (hH : Hd G a1 (cmb σ τ) H) (hS : va_S (gA G) s.heap H locs) (hl : lv_has ls 1 [(0, .ref (ga G 11 o0))]) : W p l e rmX11_goOn s m args below meth c H locs 1 66047 (MQ below (QVa G (fun u => cmb u τ) Q) args s 1 66047 (gA G)) (F0 m 51 ls []) := by
  have hx := C.1
  have hb := C.2.1
  have hown := C.2.2.2.2.2.1
  have hts := C.2.2.2.2.2.2.1
  refine lv_aload_n hx hb dX11_goOn_51 rfl (lv_at hl 0 rfl) ?_
  refine kc_v (rn_v (As := []) (rest := []) C hH hS (by decide) rfl ho0 (m11_output l G a1 τ σ o0 ho0 _ hw) (cwV 0 hts (lw_V q1057 q1059 qs20 q168 q1060) rfl rfl rfl kX11_output ⟨Nat.le_of_ble_eq_true rfl, Nat.le_of_ble_eq_true rfl⟩) rfl hl.1 rfl (Nat.le_of_ble_eq_true rfl) dX11_goOn_52 ⟨Nat.le_of_ble_eq_true rfl, Nat.le_of_ble_eq_true rfl⟩) hS (fun σ4 H locs hw hH hS => ?_)
  refine lv_aload_n hx hb dX11_goOn_55 rfl (lv_at hl 0 rfl) ?_
  refine g11_22 C hH ho0 q644 dX11_goOn_56 (fun hz => ?_)
  have hw := hw hz
  refine lv_if_eq (tgt := 66) hx hb dX11_goOn_59 (by decide) (fun h => ?_) (fun h => ?_)
  · have hw := hw.1 h
    exact k11_goOn_J66 C σ4 o0 ho0 hw H locs ls hH hS (lv_sub hl [0] rfl)
  have hw := hw.2 h
  refine lv_aload_n hx hb dX11_goOn_62 rfl (lv_at hl 0 rfl) ?_
  refine kc_v (rn_v (As := []) (rest := []) C hH hS (by decide) rfl ho0 (m11_acknowledge l G a1 τ σ4 o0 ho0 _ hw) (cwV 0 hts (lw_V q1161 q1163 qs35 q168 q1164) rfl rfl rfl kX11_acknowledge ⟨Nat.le_of_ble_eq_true rfl, Nat.le_of_ble_eq_true rfl⟩) rfl hl.1 rfl (Nat.le_of_ble_eq_true rfl) dX11_goOn_63 ⟨Nat.le_of_ble_eq_true rfl, Nat.le_of_ble_eq_true rfl⟩) hS (fun σ12 H locs hw hH hS => ?_)
  exact k11_goOn_J66 C σ12 o0 ho0 hw H locs ls hH hS (lv_sub hl [0] rfl)
def w11_goOn_J28 (σ : St) (o0 : Nat) (Q : St → Prop) : Prop := w12_window σ o0 (fun r3 => (((r3 - (σ 11 o0 21)) < 2048 → w11_goOn_J51 σ o0 Q) ∧ (¬ (r3 - (σ 11 o0 21)) < 2048 → (∀ σ13, σ13 = up3 σ 11 o0 22 1 → (w11_goOn_J51 σ13 o0 Q)))))
set_option maxHeartbeats 4000000 in
theorem k11_goOn_J28 {p : Program} {l : Launch} {e : Env} {s : State} {m : MethodId} {args : Array Value} {below : List Frame} {meth : Method} {c : Code} {G : Gh} {a1 : Nat → Nat → Nat} {τ : St} {Q : St → Prop} (C : Cx p e s m args meth c cX11_goOn 1 none "WebHost$Connection" G) (σ : St) (o0 : Nat) (ho0 : o0 < 16) (hw : w11_goOn_J28 σ o0 Q) (H : Heap) (locs : List Loc) (ls : Array Slot) (hH : Hd G a1 (cmb σ τ) H) (hS : va_S (gA G) s.heap H locs) (hl : lv_has ls 1 [(0, .ref (ga G 11 o0))]) : W p l e rmX11_goOn s m args below meth c H locs 1 66047 (MQ below (QVa G (fun u => cmb u τ) Q) args s 1 66047 (gA G)) (F0 m 28 ls []) := by
  have hx := C.1
  have hb := C.2.1
  have hown := C.2.2.2.2.2.1
  have hts := C.2.2.2.2.2.2.1
  refine lv_aload_n hx hb dX11_goOn_28 rfl (lv_at hl 0 rfl) ?_
  refine g11_20 C hH ho0 q641 dX11_goOn_29 ?_
  refine kc_ip (rn_vp (As := []) (rest := []) C hH hS (by decide) rfl ho0 (m12_window l G a1 τ σ H o0 ho0 _ hw) (cwV 0 hts (lw_V q976 q977 q978 q169 q979) rfl rfl rfl kX12_window ⟨Nat.le_of_ble_eq_true rfl, Nat.le_of_ble_eq_true rfl⟩) rfl hl.1 rfl (Nat.le_of_ble_eq_true rfl) dX11_goOn_32 ⟨Nat.le_of_ble_eq_true rfl, Nat.le_of_ble_eq_true rfl⟩) hS (fun r3 locs hw hS => ?_)
  refine lv_aload_n hx hb dX11_goOn_35 rfl (lv_at hl 0 rfl) ?_
  refine g11_21 C hH ho0 q643 dX11_goOn_36 ?_
  refine lv_isub hx hb dX11_goOn_39 ?_
  refine lv_sipush (v := 2048) hx hb dX11_goOn_40 (by decide) ?_
  refine lv_icmp_lt (tgt := 51) hx hb dX11_goOn_43 (by decide) (fun h => ?_) (fun h => ?_)
  · have hw := hw.1 h
    exact k11_goOn_J51 C σ o0 ho0 hw H locs ls hH hS (lv_sub hl [0] rfl)
  have hw := hw.2 h
  refine lv_aload_n hx hb dX11_goOn_46 rfl (lv_at hl 0 rfl) ?_
  refine lv_iconst (v := 1) hx hb dX11_goOn_47 (by decide) ?_
  refine p11_22 C hH hS ho0 (Or.inr rfl) q644 dX11_goOn_48 (fun σ13 e13 H locs hH hS => ?_)
  have hw := hw σ13 e13
  exact k11_goOn_J51 C σ13 o0 ho0 hw H locs ls hH hS (lv_sub hl [0] rfl)
def w11_goOn (σ : St) (o0 : Nat) (Q : St → Prop) : Prop := w12_leaveOut σ o0 (fun σ1 => (((σ1 11 o0 2) = 2 → (w11_look σ1 o0 (fun σ2 => (w11_goOn_J28 σ2 o0 Q)))) ∧ (¬ (σ1 11 o0 2) = 2 → ((¬ (σ1 11 o0 2) = 7 → w11_goOn_J28 σ1 o0 Q) ∧ ((σ1 11 o0 2) = 7 → (w11_look σ1 o0 (fun σ14 => (w11_goOn_J28 σ14 o0 Q))))))))
set_option maxHeartbeats 4000000 in
theorem m11_goOn (l : Launch) (G : Gh) (a1 : Nat → Nat → Nat) (τ : St) (σ : St) (o0 : Nat) (ho0 : o0 < 16) (Q : St → Prop) (hw : w11_goOn σ o0 Q) : Met l yX11_goOn (ws_ yX11_goOn cX11_goOn 1 none) rmX11_goOn (PcS G a1 (cmb σ τ) [.ref (ga G 11 o0)]) (QVa G (fun u => cmb u τ) Q) 1 66047 (gA G) := by
  refine met_w (by decide) (Nat.le_of_ble_eq_true rfl) ?_
  intro p e s m below meth c ls C hH hS hl
  have C : Cx p e s m _ meth c cX11_goOn 1 none "WebHost$Connection" G := C
  have hl : lv_has ls 1 [(0, .ref (ga G 11 o0))] := hl
  have hx := C.1
  have hb := C.2.1
  have hown := C.2.2.2.2.2.1
  have hts := C.2.2.2.2.2.2.1
  obtain ⟨locs, hlocs⟩ : ∃ z : List Loc, z = [] := ⟨_, rfl⟩
  obtain ⟨H, hHe⟩ : ∃ z : Heap, z = s.heap := ⟨_, rfl⟩
  have hH : Hd G a1 (cmb σ τ) H := by rw [hHe]; exact hH
  have hS : va_S (gA G) s.heap H locs := by rw [hHe, hlocs]; exact hS
  refine W.heap0 hHe.symm hlocs.symm ?_
  refine lv_aload_n hx hb dX11_goOn_0 rfl (lv_at hl 0 rfl) ?_
  refine g11_20 C hH ho0 q641 dX11_goOn_1 ?_
  refine kc_v (rn_v (As := []) (rest := []) C hH hS (by decide) rfl ho0 (m12_leaveOut l G a1 τ σ o0 ho0 _ hw) (cwV 0 hts (lw_V q1232 q1233 q1234 q169 q1235) rfl rfl rfl kX12_leaveOut ⟨Nat.le_of_ble_eq_true rfl, Nat.le_of_ble_eq_true rfl⟩) rfl hl.1 rfl (Nat.le_of_ble_eq_true rfl) dX11_goOn_4 ⟨Nat.le_of_ble_eq_true rfl, Nat.le_of_ble_eq_true rfl⟩) hS (fun σ1 H locs hw hH hS => ?_)
  refine lv_aload_n hx hb dX11_goOn_7 rfl (lv_at hl 0 rfl) ?_
  refine g11_2 C hH ho0 q610 dX11_goOn_8 ?_
  refine lv_iconst (v := 2) hx hb dX11_goOn_11 (by decide) ?_
  refine lv_icmp_eq (tgt := 24) hx hb dX11_goOn_12 (by decide) (fun h => ?_) (fun h => ?_)
  · have hw := hw.1 h
    refine lv_aload_n hx hb dX11_goOn_24 rfl (lv_at hl 0 rfl) ?_
    refine kc_va (rn_v (As := []) (rest := []) C hH hS (by decide) rfl ho0 (m11_look l G a1 τ σ1 o0 ho0 _ hw) (cwV 0 hts (lw_V q1241 q1243 qs47 q168 q1244) rfl rfl rfl kX11_look ⟨Nat.le_of_ble_eq_true rfl, Nat.le_of_ble_eq_true rfl⟩) rfl hl.1 rfl (Nat.le_of_ble_eq_true rfl) dX11_goOn_25 ⟨Nat.le_of_ble_eq_true rfl, Nat.le_of_ble_eq_true rfl⟩) hS (fun σ2 a2 H locs hw hH hS => ?_)
    refine W.cs (cells' := 1) (slots' := 66047) rfl rfl ?_
    exact k11_goOn_J28 C σ2 o0 ho0 hw H locs ls hH hS (lv_sub hl [0] rfl)
  have hw := hw.2 h
  refine lv_aload_n hx hb dX11_goOn_15 rfl (lv_at hl 0 rfl) ?_
  refine g11_2 C hH ho0 q610 dX11_goOn_16 ?_
  refine lv_bipush (v := 7) hx hb dX11_goOn_19 (by decide) ?_
  refine lv_icmp_ne (tgt := 28) hx hb dX11_goOn_21 (by decide) (fun h => ?_) (fun h => ?_)
  · have hw := hw.1 h
    refine W.widen (k := 1) (n := 66047) (Nat.zero_le _) (Nat.zero_le _) ?_
    exact k11_goOn_J28 C σ1 o0 ho0 hw H locs ls hH hS (lv_sub hl [0] rfl)
  have hw := hw.2 h
  refine lv_aload_n hx hb dX11_goOn_24 rfl (lv_at hl 0 rfl) ?_
  refine kc_va (rn_v (As := []) (rest := []) C hH hS (by decide) rfl ho0 (m11_look l G a1 τ σ1 o0 ho0 _ hw) (cwV 0 hts (lw_V q1241 q1243 qs47 q168 q1244) rfl rfl rfl kX11_look ⟨Nat.le_of_ble_eq_true rfl, Nat.le_of_ble_eq_true rfl⟩) rfl hl.1 rfl (Nat.le_of_ble_eq_true rfl) dX11_goOn_25 ⟨Nat.le_of_ble_eq_true rfl, Nat.le_of_ble_eq_true rfl⟩) hS (fun σ14 a14 H locs hw hH hS => ?_)
  refine W.cs (cells' := 1) (slots' := 66047) rfl rfl ?_
  exact k11_goOn_J28 C σ14 o0 ho0 hw H locs ls hH hS (lv_sub hl [0] rfl)
