/-! walks -/
set_option maxRecDepth 100000
/-! WebHost$Inbox.clear()V -/
abbrev cX12_clear : ByteArray := prog_7_method_2_code
def yX12_clear : MethodName := ⟨RX12, "clear", "()V"⟩
theorem dX12_clear_0 : decode cX12_clear 0 = .ok (.aload_n 0, 1) := by decide +kernel
theorem dX12_clear_1 : decode cX12_clear 1 = .ok (.iconst 0, 1) := by decide +kernel
theorem dX12_clear_2 : decode cX12_clear 2 = .ok (.putfield 17, 3) := by decide +kernel
theorem dX12_clear_5 : decode cX12_clear 5 = .ok (.aload_n 0, 1) := by decide +kernel
theorem dX12_clear_6 : decode cX12_clear 6 = .ok (.iconst 0, 1) := by decide +kernel
theorem dX12_clear_7 : decode cX12_clear 7 = .ok (.putfield 21, 3) := by decide +kernel
theorem dX12_clear_10 : decode cX12_clear 10 = .ok (.iconst 0, 1) := by decide +kernel
theorem dX12_clear_11 : decode cX12_clear 11 = .ok (.istore_n 1, 1) := by decide +kernel
theorem dX12_clear_12 : decode cX12_clear 12 = .ok (.iload_n 1, 1) := by decide +kernel
theorem dX12_clear_13 : decode cX12_clear 13 = .ok (.sipush 4096, 3) := by decide +kernel
theorem dX12_clear_16 : decode cX12_clear 16 = .ok (.if_icmp .ge 16, 3) := by decide +kernel
theorem dX12_clear_19 : decode cX12_clear 19 = .ok (.aload_n 0, 1) := by decide +kernel
theorem dX12_clear_20 : decode cX12_clear 20 = .ok (.getfield 13, 3) := by decide +kernel
theorem dX12_clear_23 : decode cX12_clear 23 = .ok (.iload_n 1, 1) := by decide +kernel
theorem dX12_clear_24 : decode cX12_clear 24 = .ok (.iconst 0, 1) := by decide +kernel
theorem dX12_clear_25 : decode cX12_clear 25 = .ok (.bastore, 1) := by decide +kernel
theorem dX12_clear_26 : decode cX12_clear 26 = .ok (.iinc 1 1, 3) := by decide +kernel
theorem dX12_clear_29 : decode cX12_clear 29 = .ok (.goto (-17), 3) := by decide +kernel
theorem dX12_clear_32 : decode cX12_clear 32 = .ok (.return_, 1) := by decide +kernel
def rmX12_clear : Room := { frames := 0, cells := 0, slots := 0, locals := 0 }
theorem kX12_clear : yX12_clear.cls = "WebHost$Inbox" ∧ yX12_clear.cls ≠ "java/lang/invoke/MethodHandle" ∧ yX12_clear.cls ≠ "java/lang/invoke/VarHandle" ∧ (parseMethodDescriptor yX12_clear.desc).map (fun d => d.parameters.length) = some 0 := by decide +kernel
def w12_clear_L12 (o0 : Nat) (Q : St → Prop) (K32 : St → Prop) : Nat → St → Int32 → Prop
  | 0, _, _ => False
  | n + 1, σ, x1 => (4096 ≤ x1 → K32 σ) ∧ (¬ 4096 ≤ x1 → (vp_in x1 4096 ∧ (∀ σ3, σ3 = up3 σ 43 o0 x1.toNatClampNeg 0 → (w12_clear_L12 o0 Q K32 n σ3 (x1 + 1)))))
set_option maxHeartbeats 4000000 in
theorem k12_clear_L12 {p : Program} {l : Launch} {e : Env} {s : State} {m : MethodId} {args : Array Value} {below : List Frame} {meth : Method} {c : Code} {G : Gh} {a1 : Nat → Nat → Nat} {τ : St} {Q : St → Prop} {K32 : St → Prop} (C : Cx p e s m args meth c cX12_clear 2 none "WebHost$Inbox" G) (o0 : Nat) (ho0 : o0 < 16) :
    ∀ (n : Nat) (σ : St) (x1 : Int32), w12_clear_L12 o0 Q K32 n σ x1 → ∀ (H : Heap) (locs : List Loc) (ls : Array Slot), Hd G a1 (cmb σ τ) H → va_S (gA G) s.heap H locs → lv_has ls 2 [(0, .ref (ga G 12 o0)), (1, .int x1)] → (∀ (σ : St) , K32 σ → ∀ (H : Heap) (locs : List Loc) (ls : Array Slot), Hd G a1 (cmb σ τ) H → va_S (gA G) s.heap H locs → lv_has ls 2 [] → W p l e rmX12_clear s m args below meth c H locs 0 0 (MQ below (QVs G a1 (fun u => cmb u τ) Q) args s 0 0 (gA G)) (F0 m 32 ls [])) → W p l e rmX12_clear s m args below meth c H locs 0 0 (MQ below (QVs G a1 (fun u => cmb u τ) Q) args s 0 0 (gA G)) (F0 m 12 ls []) := by
  have hx := C.1
  have hb := C.2.1
  have hown := C.2.2.2.2.2.1
  have hts := C.2.2.2.2.2.2.1
  intro n
  induction n with
  | zero =>
    intro σ x1 hw
    exact False.elim hw
  | succ n ih =>
    intro σ x1 hw H locs ls hH hS hl hK32
    refine lv_iload_n hx hb dX12_clear_12 rfl (lv_at hl 1 rfl) ?_
    refine lv_sipush (v := 4096) hx hb dX12_clear_13 (by decide) ?_
    refine lv_icmp_ge (tgt := 32) hx hb dX12_clear_16 (by decide) (fun h => ?_) (fun h => ?_)
    · have hw := hw.1 h
      exact hK32 σ hw H locs ls hH hS (lv_sub hl [] rfl)
    have hw := hw.2 h
    refine lv_aload_n hx hb dX12_clear_19 rfl (lv_at hl 0 rfl) ?_
    refine g12_1 C hH ho0 q578 dX12_clear_20 ?_
    refine lv_iload_n hx hb dX12_clear_23 rfl (lv_at hl 1 rfl) ?_
    refine lv_iconst (v := 0) hx hb dX12_clear_24 (by decide) ?_
    refine s43 C hH hS ho0 hw.1 (Or.inl rfl) dX12_clear_25 (fun σ3 e3 H locs hH hS => ?_)
    have hw := hw.2 σ3 e3
    refine lv_iinc (v := x1 + 1) (lv' := [(1, .int (x1 + 1)), (0, .ref (ga G 12 o0))]) hx hb dX12_clear_26 hl (k := 1) rfl rfl (by decide) rfl (fun ls hl => ?_)
    refine lv_goto (tgt := 12) hx hb dX12_clear_29 (by decide) ?_
    exact ih σ3 (x1 + 1) hw H locs ls hH hS (lv_sub hl [1, 0] rfl) hK32
def w12_clear (σ : St) (o0 : Nat) (Q : St → Prop) : Prop := ∀ σ1, σ1 = up3 σ 12 o0 2 0 → (∀ σ2, σ2 = up3 σ1 12 o0 3 0 → (∃ z4, w12_clear_L12 o0 Q (fun σ5 => Q σ5) z4 σ2 0))
set_option maxHeartbeats 4000000 in
theorem m12_clear (l : Launch) (G : Gh) (a1 : Nat → Nat → Nat) (τ : St) (σ : St) (o0 : Nat) (ho0 : o0 < 16) (Q : St → Prop) (hw : w12_clear σ o0 Q) : Met l yX12_clear (ws_ yX12_clear cX12_clear 2 none) rmX12_clear (PcS G a1 (cmb σ τ) [.ref (ga G 12 o0)]) (QVs G a1 (fun u => cmb u τ) Q) 0 0 (gA G) := by
  refine met_w (by decide) (Nat.le_of_ble_eq_true rfl) ?_
  intro p e s m below meth c ls C hH hS hl
  have C : Cx p e s m _ meth c cX12_clear 2 none "WebHost$Inbox" G := C
  have hl : lv_has ls 2 [(0, .ref (ga G 12 o0))] := hl
  have hx := C.1
  have hb := C.2.1
  have hown := C.2.2.2.2.2.1
  have hts := C.2.2.2.2.2.2.1
  obtain ⟨locs, hlocs⟩ : ∃ z : List Loc, z = [] := ⟨_, rfl⟩
  obtain ⟨H, hHe⟩ : ∃ z : Heap, z = s.heap := ⟨_, rfl⟩
  have hH : Hd G a1 (cmb σ τ) H := by rw [hHe]; exact hH
  have hS : va_S (gA G) s.heap H locs := by rw [hHe, hlocs]; exact hS
  refine W.heap0 hHe.symm hlocs.symm ?_
  refine lv_aload_n hx hb dX12_clear_0 rfl (lv_at hl 0 rfl) ?_
  refine lv_iconst (v := 0) hx hb dX12_clear_1 (by decide) ?_
  refine p12_2 C hH hS ho0 q579 dX12_clear_2 (fun σ1 e1 H locs hH hS => ?_)
  have hw := hw σ1 e1
  refine lv_aload_n hx hb dX12_clear_5 rfl (lv_at hl 0 rfl) ?_
  refine lv_iconst (v := 0) hx hb dX12_clear_6 (by decide) ?_
  refine p12_3 C hH hS ho0 q582 dX12_clear_7 (fun σ2 e2 H locs hH hS => ?_)
  have hw := hw σ2 e2
  refine lv_iconst (v := 0) hx hb dX12_clear_10 (by decide) ?_
  refine lv_istore_n (lv' := [(1, .int 0), (0, .ref (ga G 12 o0))]) hx hb dX12_clear_11 rfl hl (by decide) rfl (fun ls hl => ?_)
  obtain ⟨n4, hw⟩ := hw
  refine k12_clear_L12 C o0 ho0 n4 σ2 0 hw H locs ls hH hS (lv_sub hl [1, 0] rfl) (fun σ5 hw H locs ls hH hS hl => ?_)
  exact rt_v C hH hS hw dX12_clear_32
/-! WebHost$Inbox.put(IB)V -/
abbrev cX12_put : ByteArray := prog_7_method_4_code
def yX12_put : MethodName := ⟨RX12, "put", "(IB)V"⟩
theorem dX12_put_0 : decode cX12_put 0 = .ok (.aload_n 0, 1) := by decide +kernel
theorem dX12_put_1 : decode cX12_put 1 = .ok (.getfield 17, 3) := by decide +kernel
theorem dX12_put_4 : decode cX12_put 4 = .ok (.iload_n 1, 1) := by decide +kernel
theorem dX12_put_5 : decode cX12_put 5 = .ok (.iadd, 1) := by decide +kernel
theorem dX12_put_6 : decode cX12_put 6 = .ok (.istore_n 3, 1) := by decide +kernel
theorem dX12_put_7 : decode cX12_put 7 = .ok (.aload_n 0, 1) := by decide +kernel
theorem dX12_put_8 : decode cX12_put 8 = .ok (.getfield 13, 3) := by decide +kernel
theorem dX12_put_11 : decode cX12_put 11 = .ok (.iload_n 3, 1) := by decide +kernel
theorem dX12_put_12 : decode cX12_put 12 = .ok (.baload, 1) := by decide +kernel
theorem dX12_put_13 : decode cX12_put 13 = .ok (.ifCond .ne 10, 3) := by decide +kernel
theorem dX12_put_16 : decode cX12_put 16 = .ok (.aload_n 0, 1) := by decide +kernel
theorem dX12_put_17 : decode cX12_put 17 = .ok (.getfield 9, 3) := by decide +kernel
theorem dX12_put_20 : decode cX12_put 20 = .ok (.iload_n 3, 1) := by decide +kernel
theorem dX12_put_21 : decode cX12_put 21 = .ok (.iload_n 2, 1) := by decide +kernel
theorem dX12_put_22 : decode cX12_put 22 = .ok (.bastore, 1) := by decide +kernel
theorem dX12_put_23 : decode cX12_put 23 = .ok (.aload_n 0, 1) := by decide +kernel
theorem dX12_put_24 : decode cX12_put 24 = .ok (.getfield 13, 3) := by decide +kernel
theorem dX12_put_27 : decode cX12_put 27 = .ok (.iload_n 3, 1) := by decide +kernel
theorem dX12_put_28 : decode cX12_put 28 = .ok (.iconst 1, 1) := by decide +kernel
theorem dX12_put_29 : decode cX12_put 29 = .ok (.bastore, 1) := by decide +kernel
theorem dX12_put_30 : decode cX12_put 30 = .ok (.return_, 1) := by decide +kernel
def rmX12_put : Room := { frames := 0, cells := 0, slots := 0, locals := 0 }
theorem kX12_put : yX12_put.cls = "WebHost$Inbox" ∧ yX12_put.cls ≠ "java/lang/invoke/MethodHandle" ∧ yX12_put.cls ≠ "java/lang/invoke/VarHandle" ∧ (parseMethodDescriptor yX12_put.desc).map (fun d => d.parameters.length) = some 2 := by decide +kernel
def w12_put (σ : St) (o0 : Nat) (x1 : Int32) (x2 : Int32) (Q : St → Prop) : Prop := vp_in ((σ 12 o0 2) + x1) 4096 ∧ (bo (σ 43 o0 ((σ 12 o0 2) + x1).toNatClampNeg) → ((¬ (σ 43 o0 ((σ 12 o0 2) + x1).toNatClampNeg) = 0 → (vp_in ((σ 12 o0 2) + x1) 4096 ∧ (∀ σ1, σ1 = up3 σ 43 o0 ((σ 12 o0 2) + x1).toNatClampNeg 1 → (Q σ1)))) ∧ ((σ 43 o0 ((σ 12 o0 2) + x1).toNatClampNeg) = 0 → (vp_in ((σ 12 o0 2) + x1) 4096 ∧ (∀ σ2, σ2 = up3 σ 42 o0 ((σ 12 o0 2) + x1).toNatClampNeg x2.toInt8.toInt32 → (vp_in ((σ 12 o0 2) + x1) 4096 ∧ (∀ σ3, σ3 = up3 σ2 43 o0 ((σ 12 o0 2) + x1).toNatClampNeg 1 → (Q σ3))))))))
set_option maxHeartbeats 4000000 in
theorem m12_put (l : Launch) (G : Gh) (a1 : Nat → Nat → Nat) (τ : St) (σ : St) (o0 : Nat) (x1 : Int32) (x2 : Int32) (ho0 : o0 < 16) (Q : St → Prop) (hw : w12_put σ o0 x1 x2 Q) : Met l yX12_put (ws_ yX12_put cX12_put 4 none) rmX12_put (PcS G a1 (cmb σ τ) [.ref (ga G 12 o0), .int x1, .int x2]) (QVs G a1 (fun u => cmb u τ) Q) 0 0 (gA G) := by
  refine met_w (by decide) (Nat.le_of_ble_eq_true rfl) ?_
  intro p e s m below meth c ls C hH hS hl
  have C : Cx p e s m _ meth c cX12_put 4 none "WebHost$Inbox" G := C
  have hl : lv_has ls 4 [(0, .ref (ga G 12 o0)), (1, .int x1), (2, .int x2)] := hl
  have hx := C.1
  have hb := C.2.1
  have hown := C.2.2.2.2.2.1
  have hts := C.2.2.2.2.2.2.1
  obtain ⟨locs, hlocs⟩ : ∃ z : List Loc, z = [] := ⟨_, rfl⟩
  obtain ⟨H, hHe⟩ : ∃ z : Heap, z = s.heap := ⟨_, rfl⟩
  have hH : Hd G a1 (cmb σ τ) H := by rw [hHe]; exact hH
  have hS : va_S (gA G) s.heap H locs := by rw [hHe, hlocs]; exact hS
  refine W.heap0 hHe.symm hlocs.symm ?_
  refine lv_aload_n hx hb dX12_put_0 rfl (lv_at hl 0 rfl) ?_
  refine g12_2 C hH ho0 q579 dX12_put_1 ?_
  refine lv_iload_n hx hb dX12_put_4 rfl (lv_at hl 1 rfl) ?_
  refine lv_iadd hx hb dX12_put_5 ?_
  refine lv_istore_n (lv' := [(3, .int ((σ 12 o0 2) + x1)), (0, .ref (ga G 12 o0)), (1, .int x1), (2, .int x2)]) hx hb dX12_put_6 rfl hl (by decide) rfl (fun ls hl => ?_)
  refine lv_aload_n hx hb dX12_put_7 rfl (lv_at hl 1 rfl) ?_
  refine g12_1 C hH ho0 q578 dX12_put_8 ?_
  refine lv_iload_n hx hb dX12_put_11 rfl (lv_at hl 0 rfl) ?_
  refine l43 C hH ho0 hw.1 dX12_put_12 (fun hz => ?_)
  have hw := hw.2 hz
  refine lv_if_ne (tgt := 23) hx hb dX12_put_13 (by decide) (fun h => ?_) (fun h => ?_)
  · have hw := hw.1 h
    refine lv_aload_n hx hb dX12_put_23 rfl (lv_at hl 1 rfl) ?_
    refine g12_1 C hH ho0 q578 dX12_put_24 ?_
    refine lv_iload_n hx hb dX12_put_27 rfl (lv_at hl 0 rfl) ?_
    refine lv_iconst (v := 1) hx hb dX12_put_28 (by decide) ?_
    refine s43 C hH hS ho0 hw.1 (Or.inr rfl) dX12_put_29 (fun σ1 e1 H locs hH hS => ?_)
    have hw := hw.2 σ1 e1
    exact rt_v C hH hS hw dX12_put_30
  have hw := hw.2 h
  refine lv_aload_n hx hb dX12_put_16 rfl (lv_at hl 1 rfl) ?_
  refine g12_0 C hH ho0 q576 dX12_put_17 ?_
  refine lv_iload_n hx hb dX12_put_20 rfl (lv_at hl 0 rfl) ?_
  refine lv_iload_n hx hb dX12_put_21 rfl (lv_at hl 3 rfl) ?_
  refine s42 C hH hS ho0 hw.1 dX12_put_22 (fun σ2 e2 H locs hH hS => ?_)
  have hw := hw.2 σ2 e2
  refine lv_aload_n hx hb dX12_put_23 rfl (lv_at hl 1 rfl) ?_
  refine g12_1 C hH ho0 q578 dX12_put_24 ?_
  refine lv_iload_n hx hb dX12_put_27 rfl (lv_at hl 0 rfl) ?_
  refine lv_iconst (v := 1) hx hb dX12_put_28 (by decide) ?_
  refine s43 C hH hS ho0 hw.1 (Or.inr rfl) dX12_put_29 (fun σ3 e3 H locs hH hS => ?_)
  have hw := hw.2 σ3 e3
  exact rt_v C hH hS hw dX12_put_30
/-! WebHost$Inbox.take(I)V -/
abbrev cX12_take : ByteArray := prog_7_method_6_code
def yX12_take : MethodName := ⟨RX12, "take", "(I)V"⟩
theorem dX12_take_0 : decode cX12_take 0 = .ok (.iconst 0, 1) := by decide +kernel
theorem dX12_take_1 : decode cX12_take 1 = .ok (.istore_n 2, 1) := by decide +kernel
theorem dX12_take_2 : decode cX12_take 2 = .ok (.iload_n 2, 1) := by decide +kernel
theorem dX12_take_3 : decode cX12_take 3 = .ok (.iload_n 1, 1) := by decide +kernel
theorem dX12_take_4 : decode cX12_take 4 = .ok (.iadd, 1) := by decide +kernel
theorem dX12_take_5 : decode cX12_take 5 = .ok (.sipush 4096, 3) := by decide +kernel
theorem dX12_take_8 : decode cX12_take 8 = .ok (.if_icmp .ge 37, 3) := by decide +kernel
theorem dX12_take_11 : decode cX12_take 11 = .ok (.aload_n 0, 1) := by decide +kernel
theorem dX12_take_12 : decode cX12_take 12 = .ok (.getfield 9, 3) := by decide +kernel
theorem dX12_take_15 : decode cX12_take 15 = .ok (.iload_n 2, 1) := by decide +kernel
theorem dX12_take_16 : decode cX12_take 16 = .ok (.aload_n 0, 1) := by decide +kernel
theorem dX12_take_17 : decode cX12_take 17 = .ok (.getfield 9, 3) := by decide +kernel
theorem dX12_take_20 : decode cX12_take 20 = .ok (.iload_n 2, 1) := by decide +kernel
theorem dX12_take_21 : decode cX12_take 21 = .ok (.iload_n 1, 1) := by decide +kernel
theorem dX12_take_22 : decode cX12_take 22 = .ok (.iadd, 1) := by decide +kernel
theorem dX12_take_23 : decode cX12_take 23 = .ok (.baload, 1) := by decide +kernel
theorem dX12_take_24 : decode cX12_take 24 = .ok (.bastore, 1) := by decide +kernel
theorem dX12_take_25 : decode cX12_take 25 = .ok (.aload_n 0, 1) := by decide +kernel
theorem dX12_take_26 : decode cX12_take 26 = .ok (.getfield 13, 3) := by decide +kernel
theorem dX12_take_29 : decode cX12_take 29 = .ok (.iload_n 2, 1) := by decide +kernel
theorem dX12_take_30 : decode cX12_take 30 = .ok (.aload_n 0, 1) := by decide +kernel
theorem dX12_take_31 : decode cX12_take 31 = .ok (.getfield 13, 3) := by decide +kernel
theorem dX12_take_34 : decode cX12_take 34 = .ok (.iload_n 2, 1) := by decide +kernel
theorem dX12_take_35 : decode cX12_take 35 = .ok (.iload_n 1, 1) := by decide +kernel
theorem dX12_take_36 : decode cX12_take 36 = .ok (.iadd, 1) := by decide +kernel
theorem dX12_take_37 : decode cX12_take 37 = .ok (.baload, 1) := by decide +kernel
theorem dX12_take_38 : decode cX12_take 38 = .ok (.bastore, 1) := by decide +kernel
theorem dX12_take_39 : decode cX12_take 39 = .ok (.iinc 2 1, 3) := by decide +kernel
theorem dX12_take_42 : decode cX12_take 42 = .ok (.goto (-40), 3) := by decide +kernel
theorem dX12_take_45 : decode cX12_take 45 = .ok (.sipush 4096, 3) := by decide +kernel
theorem dX12_take_48 : decode cX12_take 48 = .ok (.iload_n 1, 1) := by decide +kernel
theorem dX12_take_49 : decode cX12_take 49 = .ok (.isub, 1) := by decide +kernel
theorem dX12_take_50 : decode cX12_take 50 = .ok (.istore_n 2, 1) := by decide +kernel
theorem dX12_take_51 : decode cX12_take 51 = .ok (.iload_n 2, 1) := by decide +kernel
theorem dX12_take_52 : decode cX12_take 52 = .ok (.sipush 4096, 3) := by decide +kernel
theorem dX12_take_55 : decode cX12_take 55 = .ok (.if_icmp .ge 16, 3) := by decide +kernel
theorem dX12_take_58 : decode cX12_take 58 = .ok (.aload_n 0, 1) := by decide +kernel
theorem dX12_take_59 : decode cX12_take 59 = .ok (.getfield 13, 3) := by decide +kernel
theorem dX12_take_62 : decode cX12_take 62 = .ok (.iload_n 2, 1) := by decide +kernel
theorem dX12_take_63 : decode cX12_take 63 = .ok (.iconst 0, 1) := by decide +kernel
theorem dX12_take_64 : decode cX12_take 64 = .ok (.bastore, 1) := by decide +kernel
theorem dX12_take_65 : decode cX12_take 65 = .ok (.iinc 2 1, 3) := by decide +kernel
theorem dX12_take_68 : decode cX12_take 68 = .ok (.goto (-17), 3) := by decide +kernel
theorem dX12_take_71 : decode cX12_take 71 = .ok (.aload_n 0, 1) := by decide +kernel
theorem dX12_take_72 : decode cX12_take 72 = .ok (.dup, 1) := by decide +kernel
theorem dX12_take_73 : decode cX12_take 73 = .ok (.getfield 17, 3) := by decide +kernel
theorem dX12_take_76 : decode cX12_take 76 = .ok (.iload_n 1, 1) := by decide +kernel
theorem dX12_take_77 : decode cX12_take 77 = .ok (.isub, 1) := by decide +kernel
theorem dX12_take_78 : decode cX12_take 78 = .ok (.putfield 17, 3) := by decide +kernel
theorem dX12_take_81 : decode cX12_take 81 = .ok (.return_, 1) := by decide +kernel
def rmX12_take : Room := { frames := 0, cells := 0, slots := 0, locals := 0 }
theorem kX12_take : yX12_take.cls = "WebHost$Inbox" ∧ yX12_take.cls ≠ "java/lang/invoke/MethodHandle" ∧ yX12_take.cls ≠ "java/lang/invoke/VarHandle" ∧ (parseMethodDescriptor yX12_take.desc).map (fun d => d.parameters.length) = some 1 := by decide +kernel
def w12_take_L2 (o0 : Nat) (x1 : Int32) (Q : St → Prop) (K45 : St → Prop) : Nat → St → Int32 → Prop
  | 0, _, _ => False
  | n + 1, σ, x2 => (4096 ≤ (x2 + x1) → K45 σ) ∧ (¬ 4096 ≤ (x2 + x1) → (vp_in (x2 + x1) 4096 ∧ (by8 (σ 42 o0 (x2 + x1).toNatClampNeg) → (vp_in x2 4096 ∧ (∀ σ1, σ1 = up3 σ 42 o0 x2.toNatClampNeg (σ 42 o0 (x2 + x1).toNatClampNeg).toInt8.toInt32 → (vp_in (x2 + x1) 4096 ∧ (bo (σ1 43 o0 (x2 + x1).toNatClampNeg) → (vp_in x2 4096 ∧ (bo (σ1 43 o0 (x2 + x1).toNatClampNeg) ∧ (∀ σ2, σ2 = up3 σ1 43 o0 x2.toNatClampNeg (σ1 43 o0 (x2 + x1).toNatClampNeg) → (w12_take_L2 o0 x1 Q K45 n σ2 (x2 + 1))))))))))))
set_option maxHeartbeats 4000000 in
theorem k12_take_L2 {p : Program} {l : Launch} {e : Env} {s : State} {m : MethodId} {args : Array Value} {below : List Frame} {meth : Method} {c : Code} {G : Gh} {a1 : Nat → Nat → Nat} {τ : St} {Q : St → Prop} {K45 : St → Prop} (C : Cx p e s m args meth c cX12_take 3 none "WebHost$Inbox" G) (o0 : Nat) (x1 : Int32) (ho0 : o0 < 16) :
    ∀ (n : Nat) (σ : St) (x2 : Int32), w12_take_L2 o0 x1 Q K45 n σ x2 → ∀ (H : Heap) (locs : List Loc) (ls : Array Slot), Hd G a1 (cmb σ τ) H → va_S (gA G) s.heap H locs → lv_has ls 3 [(0, .ref (ga G 12 o0)), (1, .int x1), (2, .int x2)] → (∀ (σ : St) , K45 σ → ∀ (H : Heap) (locs : List Loc) (ls : Array Slot), Hd G a1 (cmb σ τ) H → va_S (gA G) s.heap H locs → lv_has ls 3 [(0, .ref (ga G 12 o0)), (1, .int x1)] → W p l e rmX12_take s m args below meth c H locs 0 0 (MQ below (QVs G a1 (fun u => cmb u τ) Q) args s 0 0 (gA G)) (F0 m 45 ls [])) → W p l e rmX12_take s m args below meth c H locs 0 0 (MQ below (QVs G a1 (fun u => cmb u τ) Q) args s 0 0 (gA G)) (F0 m 2 ls []) := by
  have hx := C.1
  have hb := C.2.1
  have hown := C.2.2.2.2.2.1
  have hts := C.2.2.2.2.2.2.1
  intro n
  induction n with
  | zero =>
    intro σ x2 hw
    exact False.elim hw
  | succ n ih =>
    intro σ x2 hw H locs ls hH hS hl hK45
    refine lv_iload_n hx hb dX12_take_2 rfl (lv_at hl 2 rfl) ?_
    refine lv_iload_n hx hb dX12_take_3 rfl (lv_at hl 1 rfl) ?_
    refine lv_iadd hx hb dX12_take_4 ?_
    refine lv_sipush (v := 4096) hx hb dX12_take_5 (by decide) ?_
    refine lv_icmp_ge (tgt := 45) hx hb dX12_take_8 (by decide) (fun h => ?_) (fun h => ?_)
    · have hw := hw.1 h
      exact hK45 σ hw H locs ls hH hS (lv_sub hl [0, 1] rfl)
    have hw := hw.2 h
    refine lv_aload_n hx hb dX12_take_11 rfl (lv_at hl 0 rfl) ?_
    refine g12_0 C hH ho0 q576 dX12_take_12 ?_
    refine lv_iload_n hx hb dX12_take_15 rfl (lv_at hl 2 rfl) ?_
    refine lv_aload_n hx hb dX12_take_16 rfl (lv_at hl 0 rfl) ?_
    refine g12_0 C hH ho0 q576 dX12_take_17 ?_
    refine lv_iload_n hx hb dX12_take_20 rfl (lv_at hl 2 rfl) ?_
    refine lv_iload_n hx hb dX12_take_21 rfl (lv_at hl 1 rfl) ?_
    refine lv_iadd hx hb dX12_take_22 ?_
    refine l42 C hH ho0 hw.1 dX12_take_23 (fun hz => ?_)
    have hw := hw.2 hz
    refine s42 C hH hS ho0 hw.1 dX12_take_24 (fun σ1 e1 H locs hH hS => ?_)
    have hw := hw.2 σ1 e1
    refine lv_aload_n hx hb dX12_take_25 rfl (lv_at hl 0 rfl) ?_
    refine g12_1 C hH ho0 q578 dX12_take_26 ?_
    refine lv_iload_n hx hb dX12_take_29 rfl (lv_at hl 2 rfl) ?_
    refine lv_aload_n hx hb dX12_take_30 rfl (lv_at hl 0 rfl) ?_
    refine g12_1 C hH ho0 q578 dX12_take_31 ?_
    refine lv_iload_n hx hb dX12_take_34 rfl (lv_at hl 2 rfl) ?_
    refine lv_iload_n hx hb dX12_take_35 rfl (lv_at hl 1 rfl) ?_
    refine lv_iadd hx hb dX12_take_36 ?_
    refine l43 C hH ho0 hw.1 dX12_take_37 (fun hz => ?_)
    have hw := hw.2 hz
    refine s43 C hH hS ho0 hw.1 hw.2.1 dX12_take_38 (fun σ2 e2 H locs hH hS => ?_)
    have hw := hw.2.2 σ2 e2
    refine lv_iinc (v := x2 + 1) (lv' := [(2, .int (x2 + 1)), (0, .ref (ga G 12 o0)), (1, .int x1)]) hx hb dX12_take_39 hl (k := 2) rfl rfl (by decide) rfl (fun ls hl => ?_)
    refine lv_goto (tgt := 2) hx hb dX12_take_42 (by decide) ?_
    exact ih σ2 (x2 + 1) hw H locs ls hH hS (lv_sub hl [1, 2, 0] rfl) hK45
def w12_take_L51 (o0 : Nat) (x1 : Int32) (Q : St → Prop) (K71 : St → Prop) : Nat → St → Int32 → Prop
  | 0, _, _ => False
  | n + 1, σ, x2 => (4096 ≤ x2 → K71 σ) ∧ (¬ 4096 ≤ x2 → (vp_in x2 4096 ∧ (∀ σ5, σ5 = up3 σ 43 o0 x2.toNatClampNeg 0 → (w12_take_L51 o0 x1 Q K71 n σ5 (x2 + 1)))))
set_option maxHeartbeats 4000000 in
theorem k12_take_L51 {p : Program} {l : Launch} {e : Env} {s : State} {m : MethodId} {args : Array Value} {below : List Frame} {meth : Method} {c : Code} {G : Gh} {a1 : Nat → Nat → Nat} {τ : St} {Q : St → Prop} {K71 : St → Prop} (C : Cx p e s m args meth c cX12_take 3 none "WebHost$Inbox" G) (o0 : Nat) (x1 : Int32) (ho0 : o0 < 16) :
    ∀ (n : Nat) (σ : St) (x2 : Int32), w12_take_L51 o0 x1 Q K71 n σ x2 → ∀ (H : Heap) (locs : List Loc) (ls : Array Slot), Hd G a1 (cmb σ τ) H → va_S (gA G) s.heap H locs → lv_has ls 3 [(0, .ref (ga G 12 o0)), (1, .int x1), (2, .int x2)] → (∀ (σ : St) , K71 σ → ∀ (H : Heap) (locs : List Loc) (ls : Array Slot), Hd G a1 (cmb σ τ) H → va_S (gA G) s.heap H locs → lv_has ls 3 [(0, .ref (ga G 12 o0)), (1, .int x1)] → W p l e rmX12_take s m args below meth c H locs 0 0 (MQ below (QVs G a1 (fun u => cmb u τ) Q) args s 0 0 (gA G)) (F0 m 71 ls [])) → W p l e rmX12_take s m args below meth c H locs 0 0 (MQ below (QVs G a1 (fun u => cmb u τ) Q) args s 0 0 (gA G)) (F0 m 51 ls []) := by
  have hx := C.1
  have hb := C.2.1
  have hown := C.2.2.2.2.2.1
  have hts := C.2.2.2.2.2.2.1
  intro n
  induction n with
  | zero =>
    intro σ x2 hw
    exact False.elim hw
  | succ n ih =>
    intro σ x2 hw H locs ls hH hS hl hK71
    refine lv_iload_n hx hb dX12_take_51 rfl (lv_at hl 2 rfl) ?_
    refine lv_sipush (v := 4096) hx hb dX12_take_52 (by decide) ?_
    refine lv_icmp_ge (tgt := 71) hx hb dX12_take_55 (by decide) (fun h => ?_) (fun h => ?_)
    · have hw := hw.1 h
      exact hK71 σ hw H locs ls hH hS (lv_sub hl [0, 1] rfl)
    have hw := hw.2 h
    refine lv_aload_n hx hb dX12_take_58 rfl (lv_at hl 0 rfl) ?_
    refine g12_1 C hH ho0 q578 dX12_take_59 ?_
    refine lv_iload_n hx hb dX12_take_62 rfl (lv_at hl 2 rfl) ?_
    refine lv_iconst (v := 0) hx hb dX12_take_63 (by decide) ?_
    refine s43 C hH hS ho0 hw.1 (Or.inl rfl) dX12_take_64 (fun σ5 e5 H locs hH hS => ?_)
    have hw := hw.2 σ5 e5
    refine lv_iinc (v := x2 + 1) (lv' := [(2, .int (x2 + 1)), (0, .ref (ga G 12 o0)), (1, .int x1)]) hx hb dX12_take_65 hl (k := 2) rfl rfl (by decide) rfl (fun ls hl => ?_)
    refine lv_goto (tgt := 51) hx hb dX12_take_68 (by decide) ?_
    exact ih σ5 (x2 + 1) hw H locs ls hH hS (lv_sub hl [1, 2, 0] rfl) hK71
def w12_take (σ : St) (o0 : Nat) (x1 : Int32) (Q : St → Prop) : Prop := ∃ z3, w12_take_L2 o0 x1 Q (fun σ4 => ∃ z6, w12_take_L51 o0 x1 Q (fun σ7 => ∀ σ8, σ8 = up3 σ7 12 o0 2 ((σ7 12 o0 2) - x1) → (Q σ8)) z6 σ4 (4096 - x1)) z3 σ 0
set_option maxHeartbeats 4000000 in
theorem m12_take (l : Launch) (G : Gh) (a1 : Nat → Nat → Nat) (τ : St) (σ : St) (o0 : Nat) (x1 : Int32) (ho0 : o0 < 16) (Q : St → Prop) (hw : w12_take σ o0 x1 Q) : Met l yX12_take (ws_ yX12_take cX12_take 3 none) rmX12_take (PcS G a1 (cmb σ τ) [.ref (ga G 12 o0), .int x1]) (QVs G a1 (fun u => cmb u τ) Q) 0 0 (gA G) := by
  refine met_w (by decide) (Nat.le_of_ble_eq_true rfl) ?_
  intro p e s m below meth c ls C hH hS hl
  have C : Cx p e s m _ meth c cX12_take 3 none "WebHost$Inbox" G := C
  have hl : lv_has ls 3 [(0, .ref (ga G 12 o0)), (1, .int x1)] := hl
  have hx := C.1
  have hb := C.2.1
  have hown := C.2.2.2.2.2.1
  have hts := C.2.2.2.2.2.2.1
  obtain ⟨locs, hlocs⟩ : ∃ z : List Loc, z = [] := ⟨_, rfl⟩
  obtain ⟨H, hHe⟩ : ∃ z : Heap, z = s.heap := ⟨_, rfl⟩
  have hH : Hd G a1 (cmb σ τ) H := by rw [hHe]; exact hH
  have hS : va_S (gA G) s.heap H locs := by rw [hHe, hlocs]; exact hS
  refine W.heap0 hHe.symm hlocs.symm ?_
  refine lv_iconst (v := 0) hx hb dX12_take_0 (by decide) ?_
  refine lv_istore_n (lv' := [(2, .int 0), (0, .ref (ga G 12 o0)), (1, .int x1)]) hx hb dX12_take_1 rfl hl (by decide) rfl (fun ls hl => ?_)
  obtain ⟨n3, hw⟩ := hw
  refine k12_take_L2 C o0 x1 ho0 n3 σ 0 hw H locs ls hH hS (lv_sub hl [1, 2, 0] rfl) (fun σ4 hw H locs ls hH hS hl => ?_)
  refine lv_sipush (v := 4096) hx hb dX12_take_45 (by decide) ?_
  refine lv_iload_n hx hb dX12_take_48 rfl (lv_at hl 1 rfl) ?_
  refine lv_isub hx hb dX12_take_49 ?_
  refine lv_istore_n (lv' := [(2, .int (4096 - x1)), (0, .ref (ga G 12 o0)), (1, .int x1)]) hx hb dX12_take_50 rfl hl (by decide) rfl (fun ls hl => ?_)
  obtain ⟨n6, hw⟩ := hw
  refine k12_take_L51 C o0 x1 ho0 n6 σ4 (4096 - x1) hw H locs ls hH hS (lv_sub hl [1, 2, 0] rfl) (fun σ7 hw H locs ls hH hS hl => ?_)
  refine lv_aload_n hx hb dX12_take_71 rfl (lv_at hl 0 rfl) ?_
  refine lv_dup hx hb dX12_take_72 rfl ?_
  refine g12_2 C hH ho0 q579 dX12_take_73 ?_
  refine lv_iload_n hx hb dX12_take_76 rfl (lv_at hl 1 rfl) ?_
  refine lv_isub hx hb dX12_take_77 ?_
  refine p12_2 C hH hS ho0 q579 dX12_take_78 (fun σ8 e8 H locs hH hS => ?_)
  have hw := hw σ8 e8
  exact rt_v C hH hS hw dX12_take_81
/-! WebHost$Inbox.window()I -/
abbrev cX12_window : ByteArray := prog_7_method_3_code
def yX12_window : MethodName := ⟨RX12, "window", "()I"⟩
theorem dX12_window_0 : decode cX12_window 0 = .ok (.sipush 4096, 3) := by decide +kernel
theorem dX12_window_3 : decode cX12_window 3 = .ok (.aload_n 0, 1) := by decide +kernel
theorem dX12_window_4 : decode cX12_window 4 = .ok (.getfield 17, 3) := by decide +kernel
theorem dX12_window_7 : decode cX12_window 7 = .ok (.isub, 1) := by decide +kernel
theorem dX12_window_8 : decode cX12_window 8 = .ok (.ireturn, 1) := by decide +kernel
def rmX12_window : Room := { frames := 0, cells := 0, slots := 0, locals := 0 }
theorem kX12_window : yX12_window.cls = "WebHost$Inbox" ∧ yX12_window.cls ≠ "java/lang/invoke/MethodHandle" ∧ yX12_window.cls ≠ "java/lang/invoke/VarHandle" ∧ (parseMethodDescriptor yX12_window.desc).map (fun d => d.parameters.length) = some 0 := by decide +kernel
def w12_window (σ : St) (o0 : Nat) (Q : Int32 → Prop) : Prop := Q (4096 - (σ 12 o0 2))
set_option maxHeartbeats 4000000 in
theorem m12_window (l : Launch) (G : Gh) (a1 : Nat → Nat → Nat) (τ : St) (σ : St) (H : Heap) (o0 : Nat) (ho0 : o0 < 16) (Q : Int32 → Prop) (hw : w12_window σ o0 Q) : Met l yX12_window (ws_ yX12_window cX12_window 1 (some .int)) rmX12_window (PcP G a1 (cmb σ τ) H [.ref (ga G 12 o0)]) (QIp G H Q) 0 0 (gA G) := by
  refine met_p (by decide) (Nat.le_of_ble_eq_true rfl) ?_
  intro p e s m below meth c ls hHe C hH hS hl
  have C : Cx p e s m _ meth c cX12_window 1 (some .int) "WebHost$Inbox" G := C
  have hl : lv_has ls 1 [(0, .ref (ga G 12 o0))] := hl
  have hx := C.1
  have hb := C.2.1
  have hown := C.2.2.2.2.2.1
  have hts := C.2.2.2.2.2.2.1
  obtain ⟨locs, hlocs⟩ : ∃ z : List Loc, z = [] := ⟨_, rfl⟩
  rw [← hlocs] at hS ⊢
  refine lv_sipush (v := 4096) hx hb dX12_window_0 (by decide) ?_
  refine lv_aload_n hx hb dX12_window_3 rfl (lv_at hl 0 rfl) ?_
  refine g12_2 C hH ho0 q579 dX12_window_4 ?_
  refine lv_isub hx hb dX12_window_7 ?_
  exact rt_ip C rfl hS hw dX12_window_8
/-! WebHost$Answer.put(I)V -/
abbrev cX13_put : ByteArray := prog_2_method_3_code
def yX13_put : MethodName := ⟨RX13, "put", "(I)V"⟩
theorem dX13_put_0 : decode cX13_put 0 = .ok (.aload_n 0, 1) := by decide +kernel
theorem dX13_put_1 : decode cX13_put 1 = .ok (.getfield 9, 3) := by decide +kernel
theorem dX13_put_4 : decode cX13_put 4 = .ok (.aload_n 0, 1) := by decide +kernel
theorem dX13_put_5 : decode cX13_put 5 = .ok (.getfield 16, 3) := by decide +kernel
theorem dX13_put_8 : decode cX13_put 8 = .ok (.iload_n 1, 1) := by decide +kernel
theorem dX13_put_9 : decode cX13_put 9 = .ok (.i2b, 1) := by decide +kernel
theorem dX13_put_10 : decode cX13_put 10 = .ok (.bastore, 1) := by decide +kernel
theorem dX13_put_11 : decode cX13_put 11 = .ok (.aload_n 0, 1) := by decide +kernel
theorem dX13_put_12 : decode cX13_put 12 = .ok (.dup, 1) := by decide +kernel
theorem dX13_put_13 : decode cX13_put 13 = .ok (.getfield 16, 3) := by decide +kernel
theorem dX13_put_16 : decode cX13_put 16 = .ok (.iconst 1, 1) := by decide +kernel
theorem dX13_put_17 : decode cX13_put 17 = .ok (.iadd, 1) := by decide +kernel
theorem dX13_put_18 : decode cX13_put 18 = .ok (.putfield 16, 3) := by decide +kernel
theorem dX13_put_21 : decode cX13_put 21 = .ok (.return_, 1) := by decide +kernel
def rmX13_put : Room := { frames := 0, cells := 0, slots := 0, locals := 0 }
theorem kX13_put : yX13_put.cls = "WebHost$Answer" ∧ yX13_put.cls ≠ "java/lang/invoke/MethodHandle" ∧ yX13_put.cls ≠ "java/lang/invoke/VarHandle" ∧ (parseMethodDescriptor yX13_put.desc).map (fun d => d.parameters.length) = some 1 := by decide +kernel
def w13_put (σ : St) (o0 : Nat) (x1 : Int32) (Q : St → Prop) : Prop := vp_in (σ 13 o0 1) (σ 90 (o0 + 1) 0).toNatClampNeg ∧ (∀ σ1, σ1 = up3 σ 44 o0 (σ 13 o0 1).toNatClampNeg x1.toInt8.toInt32.toInt8.toInt32 → (∀ σ2, σ2 = up3 σ1 13 o0 1 ((σ1 13 o0 1) + 1) → (Q σ2)))
set_option maxHeartbeats 4000000 in
theorem m13_put (l : Launch) (G : Gh) (a1 : Nat → Nat → Nat) (τ : St) (σ : St) (o0 : Nat) (x1 : Int32) (ho0 : o0 < 16) (Q : St → Prop) (hw : w13_put σ o0 x1 Q) : Met l yX13_put (ws_ yX13_put cX13_put 2 none) rmX13_put (PcS G a1 (cmb σ τ) [.ref (ga G 13 o0), .int x1]) (QVs G a1 (fun u => cmb u τ) Q) 0 0 (gA G) := by
  refine met_w (by decide) (Nat.le_of_ble_eq_true rfl) ?_
  intro p e s m below meth c ls C hH hS hl
  have C : Cx p e s m _ meth c cX13_put 2 none "WebHost$Answer" G := C
  have hl : lv_has ls 2 [(0, .ref (ga G 13 o0)), (1, .int x1)] := hl
  have hx := C.1
  have hb := C.2.1
  have hown := C.2.2.2.2.2.1
  have hts := C.2.2.2.2.2.2.1
  obtain ⟨locs, hlocs⟩ : ∃ z : List Loc, z = [] := ⟨_, rfl⟩
  obtain ⟨H, hHe⟩ : ∃ z : Heap, z = s.heap := ⟨_, rfl⟩
  have hH : Hd G a1 (cmb σ τ) H := by rw [hHe]; exact hH
  have hS : va_S (gA G) s.heap H locs := by rw [hHe, hlocs]; exact hS
  refine W.heap0 hHe.symm hlocs.symm ?_
  refine lv_aload_n hx hb dX13_put_0 rfl (lv_at hl 0 rfl) ?_
  refine g13_0 C hH ho0 q599 dX13_put_1 ?_
  refine lv_aload_n hx hb dX13_put_4 rfl (lv_at hl 0 rfl) ?_
  refine g13_1 C hH ho0 q601 dX13_put_5 ?_
  refine lv_iload_n hx hb dX13_put_8 rfl (lv_at hl 1 rfl) ?_
  refine lv_i2b (v := x1.toInt8.toInt32) hx hb dX13_put_9 rfl ?_
  refine s44 C hH hS ho0 hw.1 dX13_put_10 (fun σ1 e1 H locs hH hS => ?_)
  have hw := hw.2 σ1 e1
  refine lv_aload_n hx hb dX13_put_11 rfl (lv_at hl 0 rfl) ?_
  refine lv_dup hx hb dX13_put_12 rfl ?_
  refine g13_1 C hH ho0 q601 dX13_put_13 ?_
  refine lv_iconst (v := 1) hx hb dX13_put_16 (by decide) ?_
  refine lv_iadd hx hb dX13_put_17 ?_
  refine p13_1 C hH hS ho0 q601 dX13_put_18 (fun σ2 e2 H locs hH hS => ?_)
  have hw := hw σ2 e2
  exact rt_v C hH hS hw dX13_put_21
/-! WebHost$Net.added(I[BII)I -/
abbrev cX19_added : ByteArray := prog_9_method_6_code
def yX19_added : MethodName := ⟨RX19, "added", "(I[BII)I"⟩
theorem dX19_added_0 : decode cX19_added 0 = .ok (.iload_n 0, 1) := by decide +kernel
theorem dX19_added_1 : decode cX19_added 1 = .ok (.istore 4, 2) := by decide +kernel
theorem dX19_added_3 : decode cX19_added 3 = .ok (.iconst 0, 1) := by decide +kernel
theorem dX19_added_4 : decode cX19_added 4 = .ok (.istore 5, 2) := by decide +kernel
theorem dX19_added_6 : decode cX19_added 6 = .ok (.iload 5, 2) := by decide +kernel
theorem dX19_added_8 : decode cX19_added 8 = .ok (.iload_n 3, 1) := by decide +kernel
theorem dX19_added_9 : decode cX19_added 9 = .ok (.if_icmp .ge 47, 3) := by decide +kernel
theorem dX19_added_12 : decode cX19_added 12 = .ok (.iload 4, 2) := by decide +kernel
theorem dX19_added_14 : decode cX19_added 14 = .ok (.iload 5, 2) := by decide +kernel
theorem dX19_added_16 : decode cX19_added 16 = .ok (.iconst 2, 1) := by decide +kernel
theorem dX19_added_17 : decode cX19_added 17 = .ok (.irem, 1) := by decide +kernel
theorem dX19_added_18 : decode cX19_added 18 = .ok (.ifCond .ne 19, 3) := by decide +kernel
theorem dX19_added_21 : decode cX19_added 21 = .ok (.aload_n 1, 1) := by decide +kernel
theorem dX19_added_22 : decode cX19_added 22 = .ok (.iload_n 2, 1) := by decide +kernel
theorem dX19_added_23 : decode cX19_added 23 = .ok (.iload 5, 2) := by decide +kernel
theorem dX19_added_25 : decode cX19_added 25 = .ok (.iadd, 1) := by decide +kernel
theorem dX19_added_26 : decode cX19_added 26 = .ok (.baload, 1) := by decide +kernel
theorem dX19_added_27 : decode cX19_added 27 = .ok (.sipush 255, 3) := by decide +kernel
theorem dX19_added_30 : decode cX19_added 30 = .ok (.iand, 1) := by decide +kernel
theorem dX19_added_31 : decode cX19_added 31 = .ok (.bipush 8, 2) := by decide +kernel
theorem dX19_added_33 : decode cX19_added 33 = .ok (.ishl, 1) := by decide +kernel
theorem dX19_added_34 : decode cX19_added 34 = .ok (.goto 13, 3) := by decide +kernel
theorem dX19_added_37 : decode cX19_added 37 = .ok (.aload_n 1, 1) := by decide +kernel
theorem dX19_added_38 : decode cX19_added 38 = .ok (.iload_n 2, 1) := by decide +kernel
theorem dX19_added_39 : decode cX19_added 39 = .ok (.iload 5, 2) := by decide +kernel
theorem dX19_added_41 : decode cX19_added 41 = .ok (.iadd, 1) := by decide +kernel
theorem dX19_added_42 : decode cX19_added 42 = .ok (.baload, 1) := by decide +kernel
theorem dX19_added_43 : decode cX19_added 43 = .ok (.sipush 255, 3) := by decide +kernel
theorem dX19_added_46 : decode cX19_added 46 = .ok (.iand, 1) := by decide +kernel
theorem dX19_added_47 : decode cX19_added 47 = .ok (.iadd, 1) := by decide +kernel
theorem dX19_added_48 : decode cX19_added 48 = .ok (.istore 4, 2) := by decide +kernel
theorem dX19_added_50 : decode cX19_added 50 = .ok (.iinc 5 1, 3) := by decide +kernel
theorem dX19_added_53 : decode cX19_added 53 = .ok (.goto (-47), 3) := by decide +kernel
theorem dX19_added_56 : decode cX19_added 56 = .ok (.iload 4, 2) := by decide +kernel
theorem dX19_added_58 : decode cX19_added 58 = .ok (.ireturn, 1) := by decide +kernel
def rmX19_added : Room := { frames := 0, cells := 0, slots := 0, locals := 0 }
theorem kX19_added : yX19_added.cls = "WebHost$Net" ∧ yX19_added.cls ≠ "java/lang/invoke/MethodHandle" ∧ yX19_added.cls ≠ "java/lang/invoke/VarHandle" ∧ (parseMethodDescriptor yX19_added.desc).map (fun d => d.parameters.length) = some 4 := by decide +kernel
def w19_added_L6 (σ : St) (k1 : Nat) (i1 : Nat) (x2 : Int32) (x3 : Int32) (Q : Int32 → Prop) (K56 : Int32 → Prop) : Nat → Int32 → Int32 → Prop
  | 0, _, _ => False
  | n + 1, x4, x5 => (x3 ≤ x5 → K56 x4) ∧ (¬ x3 ≤ x5 → ((¬ (x5 - x5 / 2 * 2) = 0 → (vp_in (x2 + x5) (alen σ k1 i1) ∧ (by8 (σ k1 i1 (x2 + x5).toNatClampNeg) → (w19_added_L6 σ k1 i1 x2 x3 Q K56 n (x4 + ((σ k1 i1 (x2 + x5).toNatClampNeg) &&& 255)) (x5 + 1))))) ∧ ((x5 - x5 / 2 * 2) = 0 → (vp_in (x2 + x5) (alen σ k1 i1) ∧ (by8 (σ k1 i1 (x2 + x5).toNatClampNeg) → (w19_added_L6 σ k1 i1 x2 x3 Q K56 n (x4 + (((σ k1 i1 (x2 + x5).toNatClampNeg) &&& 255) <<< ((8 : Int32) &&& 31))) (x5 + 1)))))))
set_option maxHeartbeats 4000000 in
theorem k19_added_L6 {p : Program} {l : Launch} {e : Env} {s : State} {m : MethodId} {args : Array Value} {below : List Frame} {meth : Method} {c : Code} {G : Gh} {a1 : Nat → Nat → Nat} {τ : St} {H : Heap} {Q : Int32 → Prop} {K56 : Int32 → Prop} (C : Cx p e s m args meth c cX19_added 6 (some .int) "WebHost$Net" G) (σ : St) (k1 : Nat) (i1 : Nat) (x2 : Int32) (x3 : Int32) (hk1 : abc k1 i1 = true) (hH : Hd G a1 (cmb σ τ) H) :
    ∀ (n : Nat) (x4 : Int32) (x5 : Int32), w19_added_L6 σ k1 i1 x2 x3 Q K56 n x4 x5 → ∀ (locs : List Loc) (ls : Array Slot), va_S (gA G) s.heap H locs → lv_has ls 6 [(1, .ref (adr G a1 k1 i1)), (2, .int x2), (3, .int x3), (4, .int x4), (5, .int x5)] → (∀ (x4 : Int32), K56 x4 → ∀ (locs : List Loc) (ls : Array Slot), va_S (gA G) s.heap H locs → lv_has ls 6 [(4, .int x4)] → W p l e rmX19_added s m args below meth c H locs 0 0 (MQ below (QIp G H Q) args s 0 0 (gA G)) (F0 m 56 ls [])) → W p l e rmX19_added s m args below meth c H locs 0 0 (MQ below (QIp G H Q) args s 0 0 (gA G)) (F0 m 6 ls []) := by
  have hx := C.1
  have hb := C.2.1
  have hown := C.2.2.2.2.2.1
  have hts := C.2.2.2.2.2.2.1
  intro n
  induction n with
  | zero =>
    intro x4 x5 hw
    exact False.elim hw
  | succ n ih =>
    intro x4 x5 hw locs ls hS hl hK56
    refine lv_iload hx hb dX19_added_6 (lv_at hl 4 rfl) ?_
    refine lv_iload_n hx hb dX19_added_8 rfl (lv_at hl 2 rfl) ?_
    refine lv_icmp_ge (tgt := 56) hx hb dX19_added_9 (by decide) (fun h => ?_) (fun h => ?_)
    · have hw := hw.1 h
      exact hK56 x4 hw locs ls hS (lv_sub hl [3] rfl)
    have hw := hw.2 h
    refine lv_iload hx hb dX19_added_12 (lv_at hl 3 rfl) ?_
    refine lv_iload hx hb dX19_added_14 (lv_at hl 4 rfl) ?_
    refine lv_iconst (v := 2) hx hb dX19_added_16 (by decide) ?_
    refine lv_irem hx hb dX19_added_17 (by decide) ?_
    refine lv_if_ne (tgt := 37) hx hb dX19_added_18 (by decide) (fun h => ?_) (fun h => ?_)
    · have hw := hw.1 h
      refine lv_aload_n hx hb dX19_added_37 rfl (lv_at hl 0 rfl) ?_
      refine lv_iload_n hx hb dX19_added_38 rfl (lv_at hl 1 rfl) ?_
      refine lv_iload hx hb dX19_added_39 (lv_at hl 4 rfl) ?_
      refine lv_iadd hx hb dX19_added_41 ?_
      refine lb_c C hH hk1 rfl hw.1 dX19_added_42 (fun hz => ?_)
      have hw := hw.2 hz
      refine lv_sipush (v := 255) hx hb dX19_added_43 (by decide) ?_
      refine lv_iand hx hb dX19_added_46 ?_
      refine lv_iadd hx hb dX19_added_47 ?_
      refine lv_istore (lv' := [(4, .int (x4 + ((σ k1 i1 (x2 + x5).toNatClampNeg) &&& 255))), (1, .ref (adr G a1 k1 i1)), (2, .int x2), (3, .int x3), (5, .int x5)]) hx hb dX19_added_48 hl (by decide) rfl (fun ls hl => ?_)
      refine lv_iinc (v := x5 + 1) (lv' := [(5, .int (x5 + 1)), (4, .int (x4 + ((σ k1 i1 (x2 + x5).toNatClampNeg) &&& 255))), (1, .ref (adr G a1 k1 i1)), (2, .int x2), (3, .int x3)]) hx hb dX19_added_50 hl (k := 4) rfl rfl (by decide) rfl (fun ls hl => ?_)
      refine lv_goto (tgt := 6) hx hb dX19_added_53 (by decide) ?_
      exact ih (x4 + ((σ k1 i1 (x2 + x5).toNatClampNeg) &&& 255)) (x5 + 1) hw locs ls hS (lv_sub hl [2, 3, 4, 1, 0] rfl) hK56
    have hw := hw.2 h
    refine lv_aload_n hx hb dX19_added_21 rfl (lv_at hl 0 rfl) ?_
    refine lv_iload_n hx hb dX19_added_22 rfl (lv_at hl 1 rfl) ?_
    refine lv_iload hx hb dX19_added_23 (lv_at hl 4 rfl) ?_
    refine lv_iadd hx hb dX19_added_25 ?_
    refine lb_c C hH hk1 rfl hw.1 dX19_added_26 (fun hz => ?_)
    have hw := hw.2 hz
    refine lv_sipush (v := 255) hx hb dX19_added_27 (by decide) ?_
    refine lv_iand hx hb dX19_added_30 ?_
    refine lv_bipush (v := 8) hx hb dX19_added_31 (by decide) ?_
    refine lv_ishl hx hb dX19_added_33 ?_
    refine lv_goto (tgt := 47) hx hb dX19_added_34 (by decide) ?_
    refine lv_iadd hx hb dX19_added_47 ?_
    refine lv_istore (lv' := [(4, .int (x4 + (((σ k1 i1 (x2 + x5).toNatClampNeg) &&& 255) <<< ((8 : Int32) &&& 31)))), (1, .ref (adr G a1 k1 i1)), (2, .int x2), (3, .int x3), (5, .int x5)]) hx hb dX19_added_48 hl (by decide) rfl (fun ls hl => ?_)
    refine lv_iinc (v := x5 + 1) (lv' := [(5, .int (x5 + 1)), (4, .int (x4 + (((σ k1 i1 (x2 + x5).toNatClampNeg) &&& 255) <<< ((8 : Int32) &&& 31)))), (1, .ref (adr G a1 k1 i1)), (2, .int x2), (3, .int x3)]) hx hb dX19_added_50 hl (k := 4) rfl rfl (by decide) rfl (fun ls hl => ?_)
    refine lv_goto (tgt := 6) hx hb dX19_added_53 (by decide) ?_
    exact ih (x4 + (((σ k1 i1 (x2 + x5).toNatClampNeg) &&& 255) <<< ((8 : Int32) &&& 31))) (x5 + 1) hw locs ls hS (lv_sub hl [2, 3, 4, 1, 0] rfl) hK56
def w19_added (σ : St) (x0 : Int32) (k1 : Nat) (i1 : Nat) (x2 : Int32) (x3 : Int32) (Q : Int32 → Prop) : Prop := ∃ z1, w19_added_L6 σ k1 i1 x2 x3 Q (fun x4_2 => Q x4_2) z1 x0 0
set_option maxHeartbeats 4000000 in
theorem m19_added (l : Launch) (G : Gh) (a1 : Nat → Nat → Nat) (τ : St) (σ : St) (H : Heap) (x0 : Int32) (k1 : Nat) (i1 : Nat) (x2 : Int32) (x3 : Int32) (hk1 : abc k1 i1 = true) (Q : Int32 → Prop) (hw : w19_added σ x0 k1 i1 x2 x3 Q) : Met l yX19_added (ws_ yX19_added cX19_added 6 (some .int)) rmX19_added (PcP G a1 (cmb σ τ) H [.int x0, .ref (adr G a1 k1 i1), .int x2, .int x3]) (QIp G H Q) 0 0 (gA G) := by
  refine met_p (by decide) (Nat.le_of_ble_eq_true rfl) ?_
  intro p e s m below meth c ls hHe C hH hS hl
  have C : Cx p e s m _ meth c cX19_added 6 (some .int) "WebHost$Net" G := C
  have hl : lv_has ls 6 [(0, .int x0), (1, .ref (adr G a1 k1 i1)), (2, .int x2), (3, .int x3)] := hl
  have hx := C.1
  have hb := C.2.1
  have hown := C.2.2.2.2.2.1
  have hts := C.2.2.2.2.2.2.1
  obtain ⟨locs, hlocs⟩ : ∃ z : List Loc, z = [] := ⟨_, rfl⟩
  rw [← hlocs] at hS ⊢
  refine lv_iload_n hx hb dX19_added_0 rfl (lv_at hl 0 rfl) ?_
  refine lv_istore (lv' := [(4, .int x0), (0, .int x0), (1, .ref (adr G a1 k1 i1)), (2, .int x2), (3, .int x3)]) hx hb dX19_added_1 hl (by decide) rfl (fun ls hl => ?_)
  refine lv_iconst (v := 0) hx hb dX19_added_3 (by decide) ?_
  refine lv_istore (lv' := [(5, .int 0), (4, .int x0), (0, .int x0), (1, .ref (adr G a1 k1 i1)), (2, .int x2), (3, .int x3)]) hx hb dX19_added_4 hl (by decide) rfl (fun ls hl => ?_)
  obtain ⟨n1, hw⟩ := hw
  refine k19_added_L6 C σ k1 i1 x2 x3 hk1 hH n1 x0 0 hw locs ls hS (lv_sub hl [3, 4, 5, 1, 0] rfl) (fun x4_2 hw locs ls hS hl => ?_)
  refine lv_iload hx hb dX19_added_56 (lv_at hl 0 rfl) ?_
  exact rt_ip C rfl hS hw dX19_added_58
/-! WebHost$Net.copy([BI[BII)V -/
abbrev cX19_copy : ByteArray := prog_9_method_8_code
def yX19_copy : MethodName := ⟨RX19, "copy", "([BI[BII)V"⟩
theorem dX19_copy_0 : decode cX19_copy 0 = .ok (.iconst 0, 1) := by decide +kernel
theorem dX19_copy_1 : decode cX19_copy 1 = .ok (.istore 5, 2) := by decide +kernel
theorem dX19_copy_3 : decode cX19_copy 3 = .ok (.iload 5, 2) := by decide +kernel
theorem dX19_copy_5 : decode cX19_copy 5 = .ok (.iload 4, 2) := by decide +kernel
theorem dX19_copy_7 : decode cX19_copy 7 = .ok (.if_icmp .ge 21, 3) := by decide +kernel
theorem dX19_copy_10 : decode cX19_copy 10 = .ok (.aload_n 2, 1) := by decide +kernel
theorem dX19_copy_11 : decode cX19_copy 11 = .ok (.iload_n 3, 1) := by decide +kernel
theorem dX19_copy_12 : decode cX19_copy 12 = .ok (.iload 5, 2) := by decide +kernel
theorem dX19_copy_14 : decode cX19_copy 14 = .ok (.iadd, 1) := by decide +kernel
theorem dX19_copy_15 : decode cX19_copy 15 = .ok (.aload_n 0, 1) := by decide +kernel
theorem dX19_copy_16 : decode cX19_copy 16 = .ok (.iload_n 1, 1) := by decide +kernel
theorem dX19_copy_17 : decode cX19_copy 17 = .ok (.iload 5, 2) := by decide +kernel
theorem dX19_copy_19 : decode cX19_copy 19 = .ok (.iadd, 1) := by decide +kernel
theorem dX19_copy_20 : decode cX19_copy 20 = .ok (.baload, 1) := by decide +kernel
theorem dX19_copy_21 : decode cX19_copy 21 = .ok (.bastore, 1) := by decide +kernel
theorem dX19_copy_22 : decode cX19_copy 22 = .ok (.iinc 5 1, 3) := by decide +kernel
theorem dX19_copy_25 : decode cX19_copy 25 = .ok (.goto (-22), 3) := by decide +kernel
theorem dX19_copy_28 : decode cX19_copy 28 = .ok (.return_, 1) := by decide +kernel
def rmX19_copy : Room := { frames := 0, cells := 0, slots := 0, locals := 0 }
theorem kX19_copy : yX19_copy.cls = "WebHost$Net" ∧ yX19_copy.cls ≠ "java/lang/invoke/MethodHandle" ∧ yX19_copy.cls ≠ "java/lang/invoke/VarHandle" ∧ (parseMethodDescriptor yX19_copy.desc).map (fun d => d.parameters.length) = some 5 := by decide +kernel
def w19_copy_L3 (k0 : Nat) (i0 : Nat) (x1 : Int32) (k2 : Nat) (i2 : Nat) (x3 : Int32) (x4 : Int32) (Q : St → Prop) (K28 : St → Prop) : Nat → St → Int32 → Prop
  | 0, _, _ => False
  | n + 1, σ, x5 => (x4 ≤ x5 → K28 σ) ∧ (¬ x4 ≤ x5 → (vp_in (x1 + x5) (alen σ k0 i0) ∧ (by8 (σ k0 i0 (x1 + x5).toNatClampNeg) → (vp_in (x3 + x5) (alen σ k2 i2) ∧ (∀ σ1, σ1 = up3 σ k2 i2 (x3 + x5).toNatClampNeg (σ k0 i0 (x1 + x5).toNatClampNeg).toInt8.toInt32 → (w19_copy_L3 k0 i0 x1 k2 i2 x3 x4 Q K28 n σ1 (x5 + 1)))))))
set_option maxHeartbeats 4000000 in
theorem k19_copy_L3 {p : Program} {l : Launch} {e : Env} {s : State} {m : MethodId} {args : Array Value} {below : List Frame} {meth : Method} {c : Code} {G : Gh} {a1 : Nat → Nat → Nat} {τ : St} {Q : St → Prop} {K28 : St → Prop} (C : Cx p e s m args meth c cX19_copy 6 none "WebHost$Net" G) (k0 : Nat) (i0 : Nat) (x1 : Int32) (k2 : Nat) (i2 : Nat) (x3 : Int32) (x4 : Int32) (hk0 : abc k0 i0 = true) (hk2 : abc k2 i2 = true) :
    ∀ (n : Nat) (σ : St) (x5 : Int32), w19_copy_L3 k0 i0 x1 k2 i2 x3 x4 Q K28 n σ x5 → ∀ (H : Heap) (locs : List Loc) (ls : Array Slot), Hd G a1 (cmb σ τ) H → va_S (gA G) s.heap H locs → lv_has ls 6 [(0, .ref (adr G a1 k0 i0)), (1, .int x1), (2, .ref (adr G a1 k2 i2)), (3, .int x3), (4, .int x4), (5, .int x5)] → (∀ (σ : St) , K28 σ → ∀ (H : Heap) (locs : List Loc) (ls : Array Slot), Hd G a1 (cmb σ τ) H → va_S (gA G) s.heap H locs → lv_has ls 6 [] → W p l e rmX19_copy s m args below meth c H locs 0 0 (MQ below (QVs G a1 (fun u => cmb u τ) Q) args s 0 0 (gA G)) (F0 m 28 ls [])) → W p l e rmX19_copy s m args below meth c H locs 0 0 (MQ below (QVs G a1 (fun u => cmb u τ) Q) args s 0 0 (gA G)) (F0 m 3 ls []) := by
  have hx := C.1
  have hb := C.2.1
  have hown := C.2.2.2.2.2.1
  have hts := C.2.2.2.2.2.2.1
  intro n
  induction n with
  | zero =>
    intro σ x5 hw
    exact False.elim hw
  | succ n ih =>
    intro σ x5 hw H locs ls hH hS hl hK28
    refine lv_iload hx hb dX19_copy_3 (lv_at hl 5 rfl) ?_
    refine lv_iload hx hb dX19_copy_5 (lv_at hl 4 rfl) ?_
    refine lv_icmp_ge (tgt := 28) hx hb dX19_copy_7 (by decide) (fun h => ?_) (fun h => ?_)
    · have hw := hw.1 h
      exact hK28 σ hw H locs ls hH hS (lv_sub hl [] rfl)
    have hw := hw.2 h
    refine lv_aload_n hx hb dX19_copy_10 rfl (lv_at hl 2 rfl) ?_
    refine lv_iload_n hx hb dX19_copy_11 rfl (lv_at hl 3 rfl) ?_
    refine lv_iload hx hb dX19_copy_12 (lv_at hl 5 rfl) ?_
    refine lv_iadd hx hb dX19_copy_14 ?_
    refine lv_aload_n hx hb dX19_copy_15 rfl (lv_at hl 0 rfl) ?_
    refine lv_iload_n hx hb dX19_copy_16 rfl (lv_at hl 1 rfl) ?_
    refine lv_iload hx hb dX19_copy_17 (lv_at hl 5 rfl) ?_
    refine lv_iadd hx hb dX19_copy_19 ?_
    refine lb_c C hH hk0 rfl hw.1 dX19_copy_20 (fun hz => ?_)
    have hw := hw.2 hz
    refine sb_c C hH hS hk2 rfl hw.1 dX19_copy_21 (fun σ1 e1 H locs hH hS => ?_)
    have hw := hw.2 σ1 e1
    refine lv_iinc (v := x5 + 1) (lv' := [(5, .int (x5 + 1)), (0, .ref (adr G a1 k0 i0)), (1, .int x1), (2, .ref (adr G a1 k2 i2)), (3, .int x3), (4, .int x4)]) hx hb dX19_copy_22 hl (k := 5) rfl rfl (by decide) rfl (fun ls hl => ?_)
    refine lv_goto (tgt := 3) hx hb dX19_copy_25 (by decide) ?_
    exact ih σ1 (x5 + 1) hw H locs ls hH hS (lv_sub hl [1, 2, 3, 4, 5, 0] rfl) hK28
def w19_copy (σ : St) (k0 : Nat) (i0 : Nat) (x1 : Int32) (k2 : Nat) (i2 : Nat) (x3 : Int32) (x4 : Int32) (Q : St → Prop) : Prop := ∃ z2, w19_copy_L3 k0 i0 x1 k2 i2 x3 x4 Q (fun σ3 => Q σ3) z2 σ 0
set_option maxHeartbeats 4000000 in
theorem m19_copy (l : Launch) (G : Gh) (a1 : Nat → Nat → Nat) (τ : St) (σ : St) (k0 : Nat) (i0 : Nat) (x1 : Int32) (k2 : Nat) (i2 : Nat) (x3 : Int32) (x4 : Int32) (hk0 : abc k0 i0 = true) (hk2 : abc k2 i2 = true) (Q : St → Prop) (hw : w19_copy σ k0 i0 x1 k2 i2 x3 x4 Q) : Met l yX19_copy (ws_ yX19_copy cX19_copy 6 none) rmX19_copy (PcS G a1 (cmb σ τ) [.ref (adr G a1 k0 i0), .int x1, .ref (adr G a1 k2 i2), .int x3, .int x4]) (QVs G a1 (fun u => cmb u τ) Q) 0 0 (gA G) := by
  refine met_w (by decide) (Nat.le_of_ble_eq_true rfl) ?_
  intro p e s m below meth c ls C hH hS hl
  have C : Cx p e s m _ meth c cX19_copy 6 none "WebHost$Net" G := C
  have hl : lv_has ls 6 [(0, .ref (adr G a1 k0 i0)), (1, .int x1), (2, .ref (adr G a1 k2 i2)), (3, .int x3), (4, .int x4)] := hl
  have hx := C.1
  have hb := C.2.1
  have hown := C.2.2.2.2.2.1
  have hts := C.2.2.2.2.2.2.1
  obtain ⟨locs, hlocs⟩ : ∃ z : List Loc, z = [] := ⟨_, rfl⟩
  obtain ⟨H, hHe⟩ : ∃ z : Heap, z = s.heap := ⟨_, rfl⟩
  have hH : Hd G a1 (cmb σ τ) H := by rw [hHe]; exact hH
  have hS : va_S (gA G) s.heap H locs := by rw [hHe, hlocs]; exact hS
  refine W.heap0 hHe.symm hlocs.symm ?_
  refine lv_iconst (v := 0) hx hb dX19_copy_0 (by decide) ?_
  refine lv_istore (lv' := [(5, .int 0), (0, .ref (adr G a1 k0 i0)), (1, .int x1), (2, .ref (adr G a1 k2 i2)), (3, .int x3), (4, .int x4)]) hx hb dX19_copy_1 hl (by decide) rfl (fun ls hl => ?_)
  obtain ⟨n2, hw⟩ := hw
  refine k19_copy_L3 C k0 i0 x1 k2 i2 x3 x4 hk0 hk2 n2 σ 0 hw H locs ls hH hS (lv_sub hl [1, 2, 3, 4, 5, 0] rfl) (fun σ3 hw H locs ls hH hS hl => ?_)
  exact rt_v C hH hS hw dX19_copy_28
/-! WebHost$Net.folded(I)I -/
abbrev cX19_folded : ByteArray := prog_9_method_7_code
def yX19_folded : MethodName := ⟨RX19, "folded", "(I)I"⟩
theorem dX19_folded_0 : decode cX19_folded 0 = .ok (.iload_n 0, 1) := by decide +kernel
theorem dX19_folded_1 : decode cX19_folded 1 = .ok (.istore_n 1, 1) := by decide +kernel
theorem dX19_folded_2 : decode cX19_folded 2 = .ok (.iload_n 1, 1) := by decide +kernel
theorem dX19_folded_3 : decode cX19_folded 3 = .ok (.ldc 17, 2) := by decide +kernel
theorem dX19_folded_5 : decode cX19_folded 5 = .ok (.if_icmp .le 16, 3) := by decide +kernel
theorem dX19_folded_8 : decode cX19_folded 8 = .ok (.iload_n 1, 1) := by decide +kernel
theorem dX19_folded_9 : decode cX19_folded 9 = .ok (.ldc 17, 2) := by decide +kernel
theorem dX19_folded_11 : decode cX19_folded 11 = .ok (.iand, 1) := by decide +kernel
theorem dX19_folded_12 : decode cX19_folded 12 = .ok (.iload_n 1, 1) := by decide +kernel
theorem dX19_folded_13 : decode cX19_folded 13 = .ok (.bipush 16, 2) := by decide +kernel
theorem dX19_folded_15 : decode cX19_folded 15 = .ok (.ishr, 1) := by decide +kernel
theorem dX19_folded_16 : decode cX19_folded 16 = .ok (.iadd, 1) := by decide +kernel
theorem dX19_folded_17 : decode cX19_folded 17 = .ok (.istore_n 1, 1) := by decide +kernel
theorem dX19_folded_18 : decode cX19_folded 18 = .ok (.goto (-16), 3) := by decide +kernel
theorem dX19_folded_21 : decode cX19_folded 21 = .ok (.iload_n 1, 1) := by decide +kernel
theorem dX19_folded_22 : decode cX19_folded 22 = .ok (.iconst (-1), 1) := by decide +kernel
theorem dX19_folded_23 : decode cX19_folded 23 = .ok (.ixor, 1) := by decide +kernel
theorem dX19_folded_24 : decode cX19_folded 24 = .ok (.ldc 17, 2) := by decide +kernel
theorem dX19_folded_26 : decode cX19_folded 26 = .ok (.iand, 1) := by decide +kernel
theorem dX19_folded_27 : decode cX19_folded 27 = .ok (.ireturn, 1) := by decide +kernel
def rmX19_folded : Room := { frames := 0, cells := 0, slots := 0, locals := 0 }
theorem kX19_folded : yX19_folded.cls = "WebHost$Net" ∧ yX19_folded.cls ≠ "java/lang/invoke/MethodHandle" ∧ yX19_folded.cls ≠ "java/lang/invoke/VarHandle" ∧ (parseMethodDescriptor yX19_folded.desc).map (fun d => d.parameters.length) = some 1 := by decide +kernel
def w19_folded_L2 (σ : St) (Q : Int32 → Prop) (K21 : Int32 → Prop) : Nat → Int32 → Prop
  | 0, _ => False
  | n + 1, x1 => (x1 ≤ 65535 → K21 x1) ∧ (¬ x1 ≤ 65535 → (w19_folded_L2 σ Q K21 n ((x1 &&& 65535) + (x1 >>> ((16 : Int32) &&& 31)))))
set_option maxHeartbeats 4000000 in
theorem k19_folded_L2 {p : Program} {l : Launch} {e : Env} {s : State} {m : MethodId} {args : Array Value} {below : List Frame} {meth : Method} {c : Code} {G : Gh} {a1 : Nat → Nat → Nat} {τ : St} {H : Heap} {Q : Int32 → Prop} {K21 : Int32 → Prop} (C : Cx p e s m args meth c cX19_folded 2 (some .int) "WebHost$Net" G) (σ : St) (hH : Hd G a1 (cmb σ τ) H) :
    ∀ (n : Nat) (x1 : Int32), w19_folded_L2 σ Q K21 n x1 → ∀ (locs : List Loc) (ls : Array Slot), va_S (gA G) s.heap H locs → lv_has ls 2 [(1, .int x1)] → (∀ (x1 : Int32), K21 x1 → ∀ (locs : List Loc) (ls : Array Slot), va_S (gA G) s.heap H locs → lv_has ls 2 [(1, .int x1)] → W p l e rmX19_folded s m args below meth c H locs 0 0 (MQ below (QIp G H Q) args s 0 0 (gA G)) (F0 m 21 ls [])) → W p l e rmX19_folded s m args below meth c H locs 0 0 (MQ below (QIp G H Q) args s 0 0 (gA G)) (F0 m 2 ls []) := by
  have hx := C.1
  have hb := C.2.1
  have hown := C.2.2.2.2.2.1
  have hts := C.2.2.2.2.2.2.1
  intro n
  induction n with
  | zero =>
    intro x1 hw
    exact False.elim hw
  | succ n ih =>
    intro x1 hw locs ls hS hl hK21
    refine lv_iload_n hx hb dX19_folded_2 rfl (lv_at hl 0 rfl) ?_
    refine lv_ldc (v := 65535) hx hb hown (hts _ q995) dX19_folded_3 ?_
    refine lv_icmp_le (tgt := 21) hx hb dX19_folded_5 (by decide) (fun h => ?_) (fun h => ?_)
    · have hw := hw.1 h
      exact hK21 x1 hw locs ls hS (lv_sub hl [0] rfl)
    have hw := hw.2 h
    refine lv_iload_n hx hb dX19_folded_8 rfl (lv_at hl 0 rfl) ?_
    refine lv_ldc (v := 65535) hx hb hown (hts _ q995) dX19_folded_9 ?_
    refine lv_iand hx hb dX19_folded_11 ?_
    refine lv_iload_n hx hb dX19_folded_12 rfl (lv_at hl 0 rfl) ?_
    refine lv_bipush (v := 16) hx hb dX19_folded_13 (by decide) ?_
    refine lv_ishr hx hb dX19_folded_15 ?_
    refine lv_iadd hx hb dX19_folded_16 ?_
    refine lv_istore_n (lv' := [(1, .int ((x1 &&& 65535) + (x1 >>> ((16 : Int32) &&& 31))))]) hx hb dX19_folded_17 rfl hl (by decide) rfl (fun ls hl => ?_)
    refine lv_goto (tgt := 2) hx hb dX19_folded_18 (by decide) ?_
    exact ih ((x1 &&& 65535) + (x1 >>> ((16 : Int32) &&& 31))) hw locs ls hS (lv_sub hl [0] rfl) hK21
def w19_folded (σ : St) (x0 : Int32) (Q : Int32 → Prop) : Prop := ∃ z1, w19_folded_L2 σ Q (fun x1_2 => Q ((x1_2 ^^^ (-1)) &&& 65535)) z1 x0
set_option maxHeartbeats 4000000 in
theorem m19_folded (l : Launch) (G : Gh) (a1 : Nat → Nat → Nat) (τ : St) (σ : St) (H : Heap) (x0 : Int32) (Q : Int32 → Prop) (hw : w19_folded σ x0 Q) : Met l yX19_folded (ws_ yX19_folded cX19_folded 2 (some .int)) rmX19_folded (PcP G a1 (cmb σ τ) H [.int x0]) (QIp G H Q) 0 0 (gA G) := by
  refine met_p (by decide) (Nat.le_of_ble_eq_true rfl) ?_
  intro p e s m below meth c ls hHe C hH hS hl
  have C : Cx p e s m _ meth c cX19_folded 2 (some .int) "WebHost$Net" G := C
  have hl : lv_has ls 2 [(0, .int x0)] := hl
  have hx := C.1
  have hb := C.2.1
  have hown := C.2.2.2.2.2.1
  have hts := C.2.2.2.2.2.2.1
  obtain ⟨locs, hlocs⟩ : ∃ z : List Loc, z = [] := ⟨_, rfl⟩
  rw [← hlocs] at hS ⊢
  refine lv_iload_n hx hb dX19_folded_0 rfl (lv_at hl 0 rfl) ?_
  refine lv_istore_n (lv' := [(1, .int x0), (0, .int x0)]) hx hb dX19_folded_1 rfl hl (by decide) rfl (fun ls hl => ?_)
  obtain ⟨n1, hw⟩ := hw
  refine k19_folded_L2 C σ hH n1 x0 hw locs ls hS (lv_sub hl [0] rfl) (fun x1_2 hw locs ls hS hl => ?_)
  refine lv_iload_n hx hb dX19_folded_21 rfl (lv_at hl 0 rfl) ?_
  refine lv_iconst (v := (-1)) hx hb dX19_folded_22 (by decide) ?_
  refine lv_ixor hx hb dX19_folded_23 ?_
  refine lv_ldc (v := 65535) hx hb hown (hts _ q995) dX19_folded_24 ?_
  refine lv_iand hx hb dX19_folded_26 ?_
  exact rt_ip C rfl hS hw dX19_folded_27
/-! WebHost$Net.isBefore(II)Z -/
abbrev cX19_isBefore : ByteArray := prog_9_method_9_code
def yX19_isBefore : MethodName := ⟨RX19, "isBefore", "(II)Z"⟩
theorem dX19_isBefore_0 : decode cX19_isBefore 0 = .ok (.iload_n 0, 1) := by decide +kernel
theorem dX19_isBefore_1 : decode cX19_isBefore 1 = .ok (.iload_n 1, 1) := by decide +kernel
theorem dX19_isBefore_2 : decode cX19_isBefore 2 = .ok (.isub, 1) := by decide +kernel
theorem dX19_isBefore_3 : decode cX19_isBefore 3 = .ok (.ifCond .ge 7, 3) := by decide +kernel
theorem dX19_isBefore_6 : decode cX19_isBefore 6 = .ok (.iconst 1, 1) := by decide +kernel
theorem dX19_isBefore_7 : decode cX19_isBefore 7 = .ok (.goto 4, 3) := by decide +kernel
theorem dX19_isBefore_10 : decode cX19_isBefore 10 = .ok (.iconst 0, 1) := by decide +kernel
theorem dX19_isBefore_11 : decode cX19_isBefore 11 = .ok (.ireturn, 1) := by decide +kernel
def rmX19_isBefore : Room := { frames := 0, cells := 0, slots := 0, locals := 0 }
theorem kX19_isBefore : yX19_isBefore.cls = "WebHost$Net" ∧ yX19_isBefore.cls ≠ "java/lang/invoke/MethodHandle" ∧ yX19_isBefore.cls ≠ "java/lang/invoke/VarHandle" ∧ (parseMethodDescriptor yX19_isBefore.desc).map (fun d => d.parameters.length) = some 2 := by decide +kernel
def w19_isBefore (σ : St) (x0 : Int32) (x1 : Int32) (Q : Int32 → Prop) : Prop := (0 ≤ (x0 - x1) → Q 0) ∧ (¬ 0 ≤ (x0 - x1) → Q 1)
set_option maxHeartbeats 4000000 in
theorem m19_isBefore (l : Launch) (G : Gh) (a1 : Nat → Nat → Nat) (τ : St) (σ : St) (H : Heap) (x0 : Int32) (x1 : Int32) (Q : Int32 → Prop) (hw : w19_isBefore σ x0 x1 Q) : Met l yX19_isBefore (ws_ yX19_isBefore cX19_isBefore 2 (some .boolean)) rmX19_isBefore (PcP G a1 (cmb σ τ) H [.int x0, .int x1]) (QIp G H Q) 0 0 (gA G) := by
  refine met_p (by decide) (Nat.le_of_ble_eq_true rfl) ?_
  intro p e s m below meth c ls hHe C hH hS hl
  have C : Cx p e s m _ meth c cX19_isBefore 2 (some .boolean) "WebHost$Net" G := C
  have hl : lv_has ls 2 [(0, .int x0), (1, .int x1)] := hl
  have hx := C.1
  have hb := C.2.1
  have hown := C.2.2.2.2.2.1
  have hts := C.2.2.2.2.2.2.1
  obtain ⟨locs, hlocs⟩ : ∃ z : List Loc, z = [] := ⟨_, rfl⟩
  rw [← hlocs] at hS ⊢
  refine lv_iload_n hx hb dX19_isBefore_0 rfl (lv_at hl 0 rfl) ?_
  refine lv_iload_n hx hb dX19_isBefore_1 rfl (lv_at hl 1 rfl) ?_
  refine lv_isub hx hb dX19_isBefore_2 ?_
  refine lv_if_ge (tgt := 10) hx hb dX19_isBefore_3 (by decide) (fun h => ?_) (fun h => ?_)
  · have hw := hw.1 h
    refine lv_iconst (v := 0) hx hb dX19_isBefore_10 (by decide) ?_
    exact rt_ip C rfl hS hw dX19_isBefore_11
  have hw := hw.2 h
  refine lv_iconst (v := 1) hx hb dX19_isBefore_6 (by decide) ?_
  refine lv_goto (tgt := 11) hx hb dX19_isBefore_7 (by decide) ?_
  exact rt_ip C rfl hS hw dX19_isBefore_11
/-! WebHost$Net.isUsual(I)Z -/
abbrev cX19_isUsual : ByteArray := prog_9_method_10_code
def yX19_isUsual : MethodName := ⟨RX19, "isUsual", "(I)Z"⟩
theorem dX19_isUsual_0 : decode cX19_isUsual 0 = .ok (.iload_n 0, 1) := by decide +kernel
theorem dX19_isUsual_1 : decode cX19_isUsual 1 = .ok (.bipush 24, 2) := by decide +kernel
theorem dX19_isUsual_3 : decode cX19_isUsual 3 = .ok (.iushr, 1) := by decide +kernel
theorem dX19_isUsual_4 : decode cX19_isUsual 4 = .ok (.istore_n 1, 1) := by decide +kernel
theorem dX19_isUsual_5 : decode cX19_isUsual 5 = .ok (.iload_n 1, 1) := by decide +kernel
theorem dX19_isUsual_6 : decode cX19_isUsual 6 = .ok (.iconst 1, 1) := by decide +kernel
theorem dX19_isUsual_7 : decode cX19_isUsual 7 = .ok (.if_icmp .lt 20, 3) := by decide +kernel
theorem dX19_isUsual_10 : decode cX19_isUsual 10 = .ok (.iload_n 1, 1) := by decide +kernel
theorem dX19_isUsual_11 : decode cX19_isUsual 11 = .ok (.sipush 223, 3) := by decide +kernel
theorem dX19_isUsual_14 : decode cX19_isUsual 14 = .ok (.if_icmp .gt 13, 3) := by decide +kernel
theorem dX19_isUsual_17 : decode cX19_isUsual 17 = .ok (.iload_n 1, 1) := by decide +kernel
theorem dX19_isUsual_18 : decode cX19_isUsual 18 = .ok (.bipush 127, 2) := by decide +kernel
theorem dX19_isUsual_20 : decode cX19_isUsual 20 = .ok (.if_icmp .eq 7, 3) := by decide +kernel
theorem dX19_isUsual_23 : decode cX19_isUsual 23 = .ok (.iconst 1, 1) := by decide +kernel
theorem dX19_isUsual_24 : decode cX19_isUsual 24 = .ok (.goto 4, 3) := by decide +kernel
theorem dX19_isUsual_27 : decode cX19_isUsual 27 = .ok (.iconst 0, 1) := by decide +kernel
theorem dX19_isUsual_28 : decode cX19_isUsual 28 = .ok (.ireturn, 1) := by decide +kernel
def rmX19_isUsual : Room := { frames := 0, cells := 0, slots := 0, locals := 0 }
theorem kX19_isUsual : yX19_isUsual.cls = "WebHost$Net" ∧ yX19_isUsual.cls ≠ "java/lang/invoke/MethodHandle" ∧ yX19_isUsual.cls ≠ "java/lang/invoke/VarHandle" ∧ (parseMethodDescriptor yX19_isUsual.desc).map (fun d => d.parameters.length) = some 1 := by decide +kernel
def w19_isUsual (σ : St) (x0 : Int32) (Q : Int32 → Prop) : Prop := ((ushr x0 24) < 1 → Q 0) ∧ (¬ (ushr x0 24) < 1 → ((223 < (ushr x0 24) → Q 0) ∧ (¬ 223 < (ushr x0 24) → (((ushr x0 24) = 127 → Q 0) ∧ (¬ (ushr x0 24) = 127 → Q 1)))))
set_option maxHeartbeats 4000000 in
theorem m19_isUsual (l : Launch) (G : Gh) (a1 : Nat → Nat → Nat) (τ : St) (σ : St) (H : Heap) (x0 : Int32) (Q : Int32 → Prop) (hw : w19_isUsual σ x0 Q) : Met l yX19_isUsual (ws_ yX19_isUsual cX19_isUsual 2 (some .boolean)) rmX19_isUsual (PcP G a1 (cmb σ τ) H [.int x0]) (QIp G H Q) 0 0 (gA G) := by
  refine met_p (by decide) (Nat.le_of_ble_eq_true rfl) ?_
  intro p e s m below meth c ls hHe C hH hS hl
  have C : Cx p e s m _ meth c cX19_isUsual 2 (some .boolean) "WebHost$Net" G := C
  have hl : lv_has ls 2 [(0, .int x0)] := hl
  have hx := C.1
  have hb := C.2.1
  have hown := C.2.2.2.2.2.1
  have hts := C.2.2.2.2.2.2.1
  obtain ⟨locs, hlocs⟩ : ∃ z : List Loc, z = [] := ⟨_, rfl⟩
  rw [← hlocs] at hS ⊢
  refine lv_iload_n hx hb dX19_isUsual_0 rfl (lv_at hl 0 rfl) ?_
  refine lv_bipush (v := 24) hx hb dX19_isUsual_1 (by decide) ?_
  refine lv_iushr (v := ushr x0 24) hx hb dX19_isUsual_3 rfl ?_
  refine lv_istore_n (lv' := [(1, .int (ushr x0 24)), (0, .int x0)]) hx hb dX19_isUsual_4 rfl hl (by decide) rfl (fun ls hl => ?_)
  refine lv_iload_n hx hb dX19_isUsual_5 rfl (lv_at hl 0 rfl) ?_
  refine lv_iconst (v := 1) hx hb dX19_isUsual_6 (by decide) ?_
  refine lv_icmp_lt (tgt := 27) hx hb dX19_isUsual_7 (by decide) (fun h => ?_) (fun h => ?_)
  · have hw := hw.1 h
    refine lv_iconst (v := 0) hx hb dX19_isUsual_27 (by decide) ?_
    exact rt_ip C rfl hS hw dX19_isUsual_28
  have hw := hw.2 h
  refine lv_iload_n hx hb dX19_isUsual_10 rfl (lv_at hl 0 rfl) ?_
  refine lv_sipush (v := 223) hx hb dX19_isUsual_11 (by decide) ?_
  refine lv_icmp_gt (tgt := 27) hx hb dX19_isUsual_14 (by decide) (fun h => ?_) (fun h => ?_)
  · have hw := hw.1 h
    refine lv_iconst (v := 0) hx hb dX19_isUsual_27 (by decide) ?_
    exact rt_ip C rfl hS hw dX19_isUsual_28
  have hw := hw.2 h
  refine lv_iload_n hx hb dX19_isUsual_17 rfl (lv_at hl 0 rfl) ?_
  refine lv_bipush (v := 127) hx hb dX19_isUsual_18 (by decide) ?_
  refine lv_icmp_eq (tgt := 27) hx hb dX19_isUsual_20 (by decide) (fun h => ?_) (fun h => ?_)
  · have hw := hw.1 h
    refine lv_iconst (v := 0) hx hb dX19_isUsual_27 (by decide) ?_
    exact rt_ip C rfl hS hw dX19_isUsual_28
  have hw := hw.2 h
  refine lv_iconst (v := 1) hx hb dX19_isUsual_23 (by decide) ?_
  refine lv_goto (tgt := 28) hx hb dX19_isUsual_24 (by decide) ?_
  exact rt_ip C rfl hS hw dX19_isUsual_28
/-! WebHost$Net.putTwo([BII)V -/
abbrev cX19_putTwo : ByteArray := prog_9_method_4_code
def yX19_putTwo : MethodName := ⟨RX19, "putTwo", "([BII)V"⟩
theorem dX19_putTwo_0 : decode cX19_putTwo 0 = .ok (.aload_n 0, 1) := by decide +kernel
theorem dX19_putTwo_1 : decode cX19_putTwo 1 = .ok (.iload_n 1, 1) := by decide +kernel
theorem dX19_putTwo_2 : decode cX19_putTwo 2 = .ok (.iload_n 2, 1) := by decide +kernel
theorem dX19_putTwo_3 : decode cX19_putTwo 3 = .ok (.bipush 8, 2) := by decide +kernel
theorem dX19_putTwo_5 : decode cX19_putTwo 5 = .ok (.ishr, 1) := by decide +kernel
theorem dX19_putTwo_6 : decode cX19_putTwo 6 = .ok (.i2b, 1) := by decide +kernel
theorem dX19_putTwo_7 : decode cX19_putTwo 7 = .ok (.bastore, 1) := by decide +kernel
theorem dX19_putTwo_8 : decode cX19_putTwo 8 = .ok (.aload_n 0, 1) := by decide +kernel
theorem dX19_putTwo_9 : decode cX19_putTwo 9 = .ok (.iload_n 1, 1) := by decide +kernel
theorem dX19_putTwo_10 : decode cX19_putTwo 10 = .ok (.iconst 1, 1) := by decide +kernel
theorem dX19_putTwo_11 : decode cX19_putTwo 11 = .ok (.iadd, 1) := by decide +kernel
theorem dX19_putTwo_12 : decode cX19_putTwo 12 = .ok (.iload_n 2, 1) := by decide +kernel
theorem dX19_putTwo_13 : decode cX19_putTwo 13 = .ok (.i2b, 1) := by decide +kernel
theorem dX19_putTwo_14 : decode cX19_putTwo 14 = .ok (.bastore, 1) := by decide +kernel
theorem dX19_putTwo_15 : decode cX19_putTwo 15 = .ok (.return_, 1) := by decide +kernel
def rmX19_putTwo : Room := { frames := 0, cells := 0, slots := 0, locals := 0 }
theorem kX19_putTwo : yX19_putTwo.cls = "WebHost$Net" ∧ yX19_putTwo.cls ≠ "java/lang/invoke/MethodHandle" ∧ yX19_putTwo.cls ≠ "java/lang/invoke/VarHandle" ∧ (parseMethodDescriptor yX19_putTwo.desc).map (fun d => d.parameters.length) = some 3 := by decide +kernel
def w19_putTwo (σ : St) (k0 : Nat) (i0 : Nat) (x1 : Int32) (x2 : Int32) (Q : St → Prop) : Prop := vp_in x1 (alen σ k0 i0) ∧ (∀ σ1, σ1 = up3 σ k0 i0 x1.toNatClampNeg ((x2 >>> ((8 : Int32) &&& 31)).toInt8.toInt32).toInt8.toInt32 → (vp_in (x1 + 1) (alen σ1 k0 i0) ∧ (∀ σ2, σ2 = up3 σ1 k0 i0 (x1 + 1).toNatClampNeg x2.toInt8.toInt32.toInt8.toInt32 → (Q σ2))))
set_option maxHeartbeats 4000000 in
theorem m19_putTwo (l : Launch) (G : Gh) (a1 : Nat → Nat → Nat) (τ : St) (σ : St) (k0 : Nat) (i0 : Nat) (x1 : Int32) (x2 : Int32) (hk0 : abc k0 i0 = true) (Q : St → Prop) (hw : w19_putTwo σ k0 i0 x1 x2 Q) : Met l yX19_putTwo (ws_ yX19_putTwo cX19_putTwo 3 none) rmX19_putTwo (PcS G a1 (cmb σ τ) [.ref (adr G a1 k0 i0), .int x1, .int x2]) (QVs G a1 (fun u => cmb u τ) Q) 0 0 (gA G) := by
  refine met_w (by decide) (Nat.le_of_ble_eq_true rfl) ?_
  intro p e s m below meth c ls C hH hS hl
  have C : Cx p e s m _ meth c cX19_putTwo 3 none "WebHost$Net" G := C
  have hl : lv_has ls 3 [(0, .ref (adr G a1 k0 i0)), (1, .int x1), (2, .int x2)] := hl
  have hx := C.1
  have hb := C.2.1
  have hown := C.2.2.2.2.2.1
  have hts := C.2.2.2.2.2.2.1
  obtain ⟨locs, hlocs⟩ : ∃ z : List Loc, z = [] := ⟨_, rfl⟩
  obtain ⟨H, hHe⟩ : ∃ z : Heap, z = s.heap := ⟨_, rfl⟩
  have hH : Hd G a1 (cmb σ τ) H := by rw [hHe]; exact hH
  have hS : va_S (gA G) s.heap H locs := by rw [hHe, hlocs]; exact hS
  refine W.heap0 hHe.symm hlocs.symm ?_
  refine lv_aload_n hx hb dX19_putTwo_0 rfl (lv_at hl 0 rfl) ?_
  refine lv_iload_n hx hb dX19_putTwo_1 rfl (lv_at hl 1 rfl) ?_
  refine lv_iload_n hx hb dX19_putTwo_2 rfl (lv_at hl 2 rfl) ?_
  refine lv_bipush (v := 8) hx hb dX19_putTwo_3 (by decide) ?_
  refine lv_ishr hx hb dX19_putTwo_5 ?_
  refine lv_i2b (v := (x2 >>> ((8 : Int32) &&& 31)).toInt8.toInt32) hx hb dX19_putTwo_6 rfl ?_
  refine sb_c C hH hS hk0 rfl hw.1 dX19_putTwo_7 (fun σ1 e1 H locs hH hS => ?_)
  have hw := hw.2 σ1 e1
  refine lv_aload_n hx hb dX19_putTwo_8 rfl (lv_at hl 0 rfl) ?_
  refine lv_iload_n hx hb dX19_putTwo_9 rfl (lv_at hl 1 rfl) ?_
  refine lv_iconst (v := 1) hx hb dX19_putTwo_10 (by decide) ?_
  refine lv_iadd hx hb dX19_putTwo_11 ?_
  refine lv_iload_n hx hb dX19_putTwo_12 rfl (lv_at hl 2 rfl) ?_
  refine lv_i2b (v := x2.toInt8.toInt32) hx hb dX19_putTwo_13 rfl ?_
  refine sb_c C hH hS hk0 rfl hw.1 dX19_putTwo_14 (fun σ2 e2 H locs hH hS => ?_)
  have hw := hw.2 σ2 e2
  exact rt_v C hH hS hw dX19_putTwo_15
/-! WebHost$Net.two([BI)I -/
abbrev cX19_two : ByteArray := prog_9_method_2_code
def yX19_two : MethodName := ⟨RX19, "two", "([BI)I"⟩
theorem dX19_two_0 : decode cX19_two 0 = .ok (.aload_n 0, 1) := by decide +kernel
theorem dX19_two_1 : decode cX19_two 1 = .ok (.iload_n 1, 1) := by decide +kernel
theorem dX19_two_2 : decode cX19_two 2 = .ok (.baload, 1) := by decide +kernel
theorem dX19_two_3 : decode cX19_two 3 = .ok (.sipush 255, 3) := by decide +kernel
theorem dX19_two_6 : decode cX19_two 6 = .ok (.iand, 1) := by decide +kernel
theorem dX19_two_7 : decode cX19_two 7 = .ok (.bipush 8, 2) := by decide +kernel
theorem dX19_two_9 : decode cX19_two 9 = .ok (.ishl, 1) := by decide +kernel
theorem dX19_two_10 : decode cX19_two 10 = .ok (.aload_n 0, 1) := by decide +kernel
theorem dX19_two_11 : decode cX19_two 11 = .ok (.iload_n 1, 1) := by decide +kernel
theorem dX19_two_12 : decode cX19_two 12 = .ok (.iconst 1, 1) := by decide +kernel
theorem dX19_two_13 : decode cX19_two 13 = .ok (.iadd, 1) := by decide +kernel
theorem dX19_two_14 : decode cX19_two 14 = .ok (.baload, 1) := by decide +kernel
theorem dX19_two_15 : decode cX19_two 15 = .ok (.sipush 255, 3) := by decide +kernel
theorem dX19_two_18 : decode cX19_two 18 = .ok (.iand, 1) := by decide +kernel
theorem dX19_two_19 : decode cX19_two 19 = .ok (.ior, 1) := by decide +kernel
theorem dX19_two_20 : decode cX19_two 20 = .ok (.ireturn, 1) := by decide +kernel
def rmX19_two : Room := { frames := 0, cells := 0, slots := 0, locals := 0 }
theorem kX19_two : yX19_two.cls = "WebHost$Net" ∧ yX19_two.cls ≠ "java/lang/invoke/MethodHandle" ∧ yX19_two.cls ≠ "java/lang/invoke/VarHandle" ∧ (parseMethodDescriptor yX19_two.desc).map (fun d => d.parameters.length) = some 2 := by decide +kernel
def w19_two (σ : St) (k0 : Nat) (i0 : Nat) (x1 : Int32) (Q : Int32 → Prop) : Prop := vp_in x1 (alen σ k0 i0) ∧ (by8 (σ k0 i0 x1.toNatClampNeg) → (vp_in (x1 + 1) (alen σ k0 i0) ∧ (by8 (σ k0 i0 (x1 + 1).toNatClampNeg) → (Q ((((σ k0 i0 x1.toNatClampNeg) &&& 255) <<< ((8 : Int32) &&& 31)) ||| ((σ k0 i0 (x1 + 1).toNatClampNeg) &&& 255))))))
set_option maxHeartbeats 4000000 in
theorem m19_two (l : Launch) (G : Gh) (a1 : Nat → Nat → Nat) (τ : St) (σ : St) (H : Heap) (k0 : Nat) (i0 : Nat) (x1 : Int32) (hk0 : abc k0 i0 = true) (Q : Int32 → Prop) (hw : w19_two σ k0 i0 x1 Q) : Met l yX19_two (ws_ yX19_two cX19_two 2 (some .int)) rmX19_two (PcP G a1 (cmb σ τ) H [.ref (adr G a1 k0 i0), .int x1]) (QIp G H Q) 0 0 (gA G) := by
  refine met_p (by decide) (Nat.le_of_ble_eq_true rfl) ?_
  intro p e s m below meth c ls hHe C hH hS hl
  have C : Cx p e s m _ meth c cX19_two 2 (some .int) "WebHost$Net" G := C
  have hl : lv_has ls 2 [(0, .ref (adr G a1 k0 i0)), (1, .int x1)] := hl
  have hx := C.1
  have hb := C.2.1
  have hown := C.2.2.2.2.2.1
  have hts := C.2.2.2.2.2.2.1
  obtain ⟨locs, hlocs⟩ : ∃ z : List Loc, z = [] := ⟨_, rfl⟩
  rw [← hlocs] at hS ⊢
  refine lv_aload_n hx hb dX19_two_0 rfl (lv_at hl 0 rfl) ?_
  refine lv_iload_n hx hb dX19_two_1 rfl (lv_at hl 1 rfl) ?_
  refine lb_c C hH hk0 rfl hw.1 dX19_two_2 (fun hz => ?_)
  have hw := hw.2 hz
  refine lv_sipush (v := 255) hx hb dX19_two_3 (by decide) ?_
  refine lv_iand hx hb dX19_two_6 ?_
  refine lv_bipush (v := 8) hx hb dX19_two_7 (by decide) ?_
  refine lv_ishl hx hb dX19_two_9 ?_
  refine lv_aload_n hx hb dX19_two_10 rfl (lv_at hl 0 rfl) ?_
  refine lv_iload_n hx hb dX19_two_11 rfl (lv_at hl 1 rfl) ?_
  refine lv_iconst (v := 1) hx hb dX19_two_12 (by decide) ?_
  refine lv_iadd hx hb dX19_two_13 ?_
  refine lb_c C hH hk0 rfl hw.1 dX19_two_14 (fun hz => ?_)
  have hw := hw.2 hz
  refine lv_sipush (v := 255) hx hb dX19_two_15 (by decide) ?_
  refine lv_iand hx hb dX19_two_18 ?_
  refine lv_ior hx hb dX19_two_19 ?_
  exact rt_ip C rfl hS hw dX19_two_20
/-! WebHostModel.added([BIIJ)J -/
abbrev cX14_added : ByteArray := prog_17_method_16_code
def yX14_added : MethodName := ⟨RX14, "added", "([BIIJ)J"⟩
theorem dX14_added_0 : decode cX14_added 0 = .ok (.lload_n 3, 1) := by decide +kernel
theorem dX14_added_1 : decode cX14_added 1 = .ok (.lstore 5, 2) := by decide +kernel
theorem dX14_added_3 : decode cX14_added 3 = .ok (.iconst 0, 1) := by decide +kernel
theorem dX14_added_4 : decode cX14_added 4 = .ok (.istore 7, 2) := by decide +kernel
theorem dX14_added_6 : decode cX14_added 6 = .ok (.iload 7, 2) := by decide +kernel
theorem dX14_added_8 : decode cX14_added 8 = .ok (.iload_n 2, 1) := by decide +kernel
theorem dX14_added_9 : decode cX14_added 9 = .ok (.if_icmp .ge 39, 3) := by decide +kernel
theorem dX14_added_12 : decode cX14_added 12 = .ok (.lload 5, 2) := by decide +kernel
theorem dX14_added_14 : decode cX14_added 14 = .ok (.aload_n 0, 1) := by decide +kernel
theorem dX14_added_15 : decode cX14_added 15 = .ok (.iload_n 1, 1) := by decide +kernel
theorem dX14_added_16 : decode cX14_added 16 = .ok (.iload 7, 2) := by decide +kernel
theorem dX14_added_18 : decode cX14_added 18 = .ok (.iadd, 1) := by decide +kernel
theorem dX14_added_19 : decode cX14_added 19 = .ok (.baload, 1) := by decide +kernel
theorem dX14_added_20 : decode cX14_added 20 = .ok (.sipush 255, 3) := by decide +kernel
theorem dX14_added_23 : decode cX14_added 23 = .ok (.iand, 1) := by decide +kernel
theorem dX14_added_24 : decode cX14_added 24 = .ok (.iload 7, 2) := by decide +kernel
theorem dX14_added_26 : decode cX14_added 26 = .ok (.iconst 2, 1) := by decide +kernel
theorem dX14_added_27 : decode cX14_added 27 = .ok (.irem, 1) := by decide +kernel
theorem dX14_added_28 : decode cX14_added 28 = .ok (.ifCond .ne 8, 3) := by decide +kernel
theorem dX14_added_31 : decode cX14_added 31 = .ok (.bipush 8, 2) := by decide +kernel
theorem dX14_added_33 : decode cX14_added 33 = .ok (.goto 4, 3) := by decide +kernel
theorem dX14_added_36 : decode cX14_added 36 = .ok (.iconst 0, 1) := by decide +kernel
theorem dX14_added_37 : decode cX14_added 37 = .ok (.ishl, 1) := by decide +kernel
theorem dX14_added_38 : decode cX14_added 38 = .ok (.i2l, 1) := by decide +kernel
theorem dX14_added_39 : decode cX14_added 39 = .ok (.ladd, 1) := by decide +kernel
theorem dX14_added_40 : decode cX14_added 40 = .ok (.lstore 5, 2) := by decide +kernel
theorem dX14_added_42 : decode cX14_added 42 = .ok (.iinc 7 1, 3) := by decide +kernel
theorem dX14_added_45 : decode cX14_added 45 = .ok (.goto (-39), 3) := by decide +kernel
theorem dX14_added_48 : decode cX14_added 48 = .ok (.lload 5, 2) := by decide +kernel
theorem dX14_added_50 : decode cX14_added 50 = .ok (.lreturn, 1) := by decide +kernel
def rmX14_added : Room := { frames := 0, cells := 0, slots := 0, locals := 0 }
theorem kX14_added : yX14_added.cls = "WebHostModel" ∧ yX14_added.cls ≠ "java/lang/invoke/MethodHandle" ∧ yX14_added.cls ≠ "java/lang/invoke/VarHandle" ∧ (parseMethodDescriptor yX14_added.desc).map (fun d => d.parameters.length) = some 4 := by decide +kernel
def w14_added_L6 (σ : St) (k0 : Nat) (i0 : Nat) (x1 : Int32) (x2 : Int32) (Q : Int64 → Prop) (K48 : Int64 → Prop) : Nat → Int64 → Int32 → Prop
  | 0, _, _ => False
  | n + 1, y5, x7 => (x2 ≤ x7 → K48 y5) ∧ (¬ x2 ≤ x7 → (vp_in (x1 + x7) (lnL.getD k0 0) ∧ (by8 (σ k0 i0 (x1 + x7).toNatClampNeg) → ((¬ (x7 - x7 / 2 * 2) = 0 → (w14_added_L6 σ k0 i0 x1 x2 Q K48 n (y5 + ((((σ k0 i0 (x1 + x7).toNatClampNeg) &&& 255) <<< ((0 : Int32) &&& 31)).toInt64)) (x7 + 1))) ∧ ((x7 - x7 / 2 * 2) = 0 → (w14_added_L6 σ k0 i0 x1 x2 Q K48 n (y5 + ((((σ k0 i0 (x1 + x7).toNatClampNeg) &&& 255) <<< ((8 : Int32) &&& 31)).toInt64)) (x7 + 1)))))))
set_option maxHeartbeats 4000000 in
theorem k14_added_L6 {p : Program} {l : Launch} {e : Env} {s : State} {m : MethodId} {args : Array Value} {below : List Frame} {meth : Method} {c : Code} {G : Gh} {a1 : Nat → Nat → Nat} {τ : St} {H : Heap} {Q : Int64 → Prop} {K48 : Int64 → Prop} (C : Cx p e s m args meth c cX14_added 8 (some .long) "WebHostModel" G) (σ : St) (k0 : Nat) (i0 : Nat) (x1 : Int32) (x2 : Int32) (hk0 : abm k0 i0 = true) (hH : Hd G a1 (cmb τ σ) H) :
    ∀ (n : Nat) (y5 : Int64) (x7 : Int32), w14_added_L6 σ k0 i0 x1 x2 Q K48 n y5 x7 → ∀ (locs : List Loc) (ls : Array Slot), va_S (gA G) s.heap H locs → lv_has ls 8 [(0, .ref (adr G a1 k0 i0)), (1, .int x1), (2, .int x2), (5, .long y5), (7, .int x7)] → (∀ (y5 : Int64), K48 y5 → ∀ (locs : List Loc) (ls : Array Slot), va_S (gA G) s.heap H locs → lv_has ls 8 [(5, .long y5)] → W p l e rmX14_added s m args below meth c H locs 0 0 (MQ below (QJp G H Q) args s 0 0 (gA G)) (F0 m 48 ls [])) → W p l e rmX14_added s m args below meth c H locs 0 0 (MQ below (QJp G H Q) args s 0 0 (gA G)) (F0 m 6 ls []) := by
  have hx := C.1
  have hb := C.2.1
  have hown := C.2.2.2.2.2.1
  have hts := C.2.2.2.2.2.2.1
  intro n
  induction n with
  | zero =>
    intro y5 x7 hw
    exact False.elim hw
  | succ n ih =>
    intro y5 x7 hw locs ls hS hl hK48
    refine lv_iload hx hb dX14_added_6 (lv_at hl 4 rfl) ?_
    refine lv_iload_n hx hb dX14_added_8 rfl (lv_at hl 2 rfl) ?_
    refine lv_icmp_ge (tgt := 48) hx hb dX14_added_9 (by decide) (fun h => ?_) (fun h => ?_)
    · have hw := hw.1 h
      exact hK48 y5 hw locs ls hS (lv_sub hl [3] rfl)
    have hw := hw.2 h
    refine lv_lload hx hb dX14_added_12 (lv_at hl 3 rfl) ?_
    refine lv_aload_n hx hb dX14_added_14 rfl (lv_at hl 0 rfl) ?_
    refine lv_iload_n hx hb dX14_added_15 rfl (lv_at hl 1 rfl) ?_
    refine lv_iload hx hb dX14_added_16 (lv_at hl 4 rfl) ?_
    refine lv_iadd hx hb dX14_added_18 ?_
    refine lb_m C hH hk0 (alen_mk hk0) hw.1 dX14_added_19 (fun hz => ?_)
    have hw := hw.2 hz
    refine lv_sipush (v := 255) hx hb dX14_added_20 (by decide) ?_
    refine lv_iand hx hb dX14_added_23 ?_
    refine lv_iload hx hb dX14_added_24 (lv_at hl 4 rfl) ?_
    refine lv_iconst (v := 2) hx hb dX14_added_26 (by decide) ?_
    refine lv_irem hx hb dX14_added_27 (by decide) ?_
    refine lv_if_ne (tgt := 36) hx hb dX14_added_28 (by decide) (fun h => ?_) (fun h => ?_)
    · have hw := hw.1 h
      refine lv_iconst (v := 0) hx hb dX14_added_36 (by decide) ?_
      refine lv_ishl hx hb dX14_added_37 ?_
      refine lv_i2l (v := (((σ k0 i0 (x1 + x7).toNatClampNeg) &&& 255) <<< ((0 : Int32) &&& 31)).toInt64) hx hb dX14_added_38 rfl ?_
      refine lv_ladd hx hb dX14_added_39 ?_
      refine lv_lstore (lv' := [(5, .long (y5 + ((((σ k0 i0 (x1 + x7).toNatClampNeg) &&& 255) <<< ((0 : Int32) &&& 31)).toInt64))), (0, .ref (adr G a1 k0 i0)), (1, .int x1), (2, .int x2), (7, .int x7)]) hx hb dX14_added_40 hl (by decide) rfl (fun ls hl => ?_)
      refine lv_iinc (v := x7 + 1) (lv' := [(7, .int (x7 + 1)), (5, .long (y5 + ((((σ k0 i0 (x1 + x7).toNatClampNeg) &&& 255) <<< ((0 : Int32) &&& 31)).toInt64))), (0, .ref (adr G a1 k0 i0)), (1, .int x1), (2, .int x2)]) hx hb dX14_added_42 hl (k := 4) rfl rfl (by decide) rfl (fun ls hl => ?_)
      refine lv_goto (tgt := 6) hx hb dX14_added_45 (by decide) ?_
      exact ih (y5 + ((((σ k0 i0 (x1 + x7).toNatClampNeg) &&& 255) <<< ((0 : Int32) &&& 31)).toInt64)) (x7 + 1) hw locs ls hS (lv_sub hl [2, 3, 4, 1, 0] rfl) hK48
    have hw := hw.2 h
    refine lv_bipush (v := 8) hx hb dX14_added_31 (by decide) ?_
    refine lv_goto (tgt := 37) hx hb dX14_added_33 (by decide) ?_
    refine lv_ishl hx hb dX14_added_37 ?_
    refine lv_i2l (v := (((σ k0 i0 (x1 + x7).toNatClampNeg) &&& 255) <<< ((8 : Int32) &&& 31)).toInt64) hx hb dX14_added_38 rfl ?_
    refine lv_ladd hx hb dX14_added_39 ?_
    refine lv_lstore (lv' := [(5, .long (y5 + ((((σ k0 i0 (x1 + x7).toNatClampNeg) &&& 255) <<< ((8 : Int32) &&& 31)).toInt64))), (0, .ref (adr G a1 k0 i0)), (1, .int x1), (2, .int x2), (7, .int x7)]) hx hb dX14_added_40 hl (by decide) rfl (fun ls hl => ?_)
    refine lv_iinc (v := x7 + 1) (lv' := [(7, .int (x7 + 1)), (5, .long (y5 + ((((σ k0 i0 (x1 + x7).toNatClampNeg) &&& 255) <<< ((8 : Int32) &&& 31)).toInt64))), (0, .ref (adr G a1 k0 i0)), (1, .int x1), (2, .int x2)]) hx hb dX14_added_42 hl (k := 4) rfl rfl (by decide) rfl (fun ls hl => ?_)
    refine lv_goto (tgt := 6) hx hb dX14_added_45 (by decide) ?_
    exact ih (y5 + ((((σ k0 i0 (x1 + x7).toNatClampNeg) &&& 255) <<< ((8 : Int32) &&& 31)).toInt64)) (x7 + 1) hw locs ls hS (lv_sub hl [2, 3, 4, 1, 0] rfl) hK48
def w14_added (σ : St) (k0 : Nat) (i0 : Nat) (x1 : Int32) (x2 : Int32) (y3 : Int64) (Q : Int64 → Prop) : Prop := ∃ z1, w14_added_L6 σ k0 i0 x1 x2 Q (fun y5_2 => Q y5_2) z1 y3 0
set_option maxHeartbeats 4000000 in
theorem m14_added (l : Launch) (G : Gh) (a1 : Nat → Nat → Nat) (τ : St) (σ : St) (H : Heap) (k0 : Nat) (i0 : Nat) (x1 : Int32) (x2 : Int32) (y3 : Int64) (hk0 : abm k0 i0 = true) (Q : Int64 → Prop) (hw : w14_added σ k0 i0 x1 x2 y3 Q) : Met l yX14_added (ws_ yX14_added cX14_added 8 (some .long)) rmX14_added (PcP G a1 (cmb τ σ) H [.ref (adr G a1 k0 i0), .int x1, .int x2, .long y3]) (QJp G H Q) 0 0 (gA G) := by
  refine met_p (by decide) (Nat.le_of_ble_eq_true rfl) ?_
  intro p e s m below meth c ls hHe C hH hS hl
  have C : Cx p e s m _ meth c cX14_added 8 (some .long) "WebHostModel" G := C
  have hl : lv_has ls 8 [(0, .ref (adr G a1 k0 i0)), (1, .int x1), (2, .int x2), (3, .long y3)] := hl
  have hx := C.1
  have hb := C.2.1
  have hown := C.2.2.2.2.2.1
  have hts := C.2.2.2.2.2.2.1
  obtain ⟨locs, hlocs⟩ : ∃ z : List Loc, z = [] := ⟨_, rfl⟩
  rw [← hlocs] at hS ⊢
  refine lv_lload_n hx hb dX14_added_0 rfl (lv_at hl 3 rfl) ?_
  refine lv_lstore (lv' := [(5, .long y3), (0, .ref (adr G a1 k0 i0)), (1, .int x1), (2, .int x2), (3, .long y3)]) hx hb dX14_added_1 hl (by decide) rfl (fun ls hl => ?_)
  refine lv_iconst (v := 0) hx hb dX14_added_3 (by decide) ?_
  refine lv_istore (lv' := [(7, .int 0), (5, .long y3), (0, .ref (adr G a1 k0 i0)), (1, .int x1), (2, .int x2), (3, .long y3)]) hx hb dX14_added_4 hl (by decide) rfl (fun ls hl => ?_)
  obtain ⟨n1, hw⟩ := hw
  refine k14_added_L6 C σ k0 i0 x1 x2 hk0 hH n1 y3 0 hw locs ls hS (lv_sub hl [2, 3, 4, 1, 0] rfl) (fun y5_2 hw locs ls hS hl => ?_)
  refine lv_lload hx hb dX14_added_48 (lv_at hl 0 rfl) ?_
  exact rt_jp C hS hw dX14_added_50
/-! WebHostModel.askDue(LWebHostModel$Packet;)J -/
abbrev cX14_askDue : ByteArray := prog_17_method_69_code
def yX14_askDue : MethodName := ⟨RX14, "askDue", "(LWebHostModel$Packet;)J"⟩
theorem dX14_askDue_0 : decode cX14_askDue 0 = .ok (.aload_n 0, 1) := by decide +kernel
theorem dX14_askDue_1 : decode cX14_askDue 1 = .ok (.getfield 230, 3) := by decide +kernel
theorem dX14_askDue_4 : decode cX14_askDue 4 = .ok (.i2l, 1) := by decide +kernel
theorem dX14_askDue_5 : decode cX14_askDue 5 = .ok (.ldc2_w 551, 3) := by decide +kernel
theorem dX14_askDue_8 : decode cX14_askDue 8 = .ok (.aload_n 0, 1) := by decide +kernel
theorem dX14_askDue_9 : decode cX14_askDue 9 = .ok (.getfield 233, 3) := by decide +kernel
theorem dX14_askDue_12 : decode cX14_askDue 12 = .ok (.i2l, 1) := by decide +kernel
theorem dX14_askDue_13 : decode cX14_askDue 13 = .ok (.lmul, 1) := by decide +kernel
theorem dX14_askDue_14 : decode cX14_askDue 14 = .ok (.ladd, 1) := by decide +kernel
theorem dX14_askDue_15 : decode cX14_askDue 15 = .ok (.lreturn, 1) := by decide +kernel
def rmX14_askDue : Room := { frames := 0, cells := 0, slots := 0, locals := 0 }
theorem kX14_askDue : yX14_askDue.cls = "WebHostModel" ∧ yX14_askDue.cls ≠ "java/lang/invoke/MethodHandle" ∧ yX14_askDue.cls ≠ "java/lang/invoke/VarHandle" ∧ (parseMethodDescriptor yX14_askDue.desc).map (fun d => d.parameters.length) = some 1 := by decide +kernel
def w14_askDue (σ : St) (o0 : Nat) (Q : Int64 → Prop) : Prop := Q (((σ 17 o0 3).toInt64) + (1000 * ((σ 17 o0 4).toInt64)))
set_option maxHeartbeats 4000000 in
theorem m14_askDue (l : Launch) (G : Gh) (a1 : Nat → Nat → Nat) (τ : St) (σ : St) (H : Heap) (o0 : Nat) (ho0 : o0 < 8) (Q : Int64 → Prop) (hw : w14_askDue σ o0 Q) : Met l yX14_askDue (ws_ yX14_askDue cX14_askDue 1 (some .long)) rmX14_askDue (PcP G a1 (cmb τ σ) H [.ref (ga G 17 o0)]) (QJp G H Q) 0 0 (gA G) := by
  refine met_p (by decide) (Nat.le_of_ble_eq_true rfl) ?_
  intro p e s m below meth c ls hHe C hH hS hl
  have C : Cx p e s m _ meth c cX14_askDue 1 (some .long) "WebHostModel" G := C
  have hl : lv_has ls 1 [(0, .ref (ga G 17 o0))] := hl
  have hx := C.1
  have hb := C.2.1
  have hown := C.2.2.2.2.2.1
  have hts := C.2.2.2.2.2.2.1
  obtain ⟨locs, hlocs⟩ : ∃ z : List Loc, z = [] := ⟨_, rfl⟩
  rw [← hlocs] at hS ⊢
  refine lv_aload_n hx hb dX14_askDue_0 rfl (lv_at hl 0 rfl) ?_
  refine g17_3 C hH ho0 q1885 dX14_askDue_1 ?_
  refine lv_i2l (v := (σ 17 o0 3).toInt64) hx hb dX14_askDue_4 rfl ?_
  refine lv_ldc2 (v := 1000) hx hb hown (hts _ q2184) dX14_askDue_5 ?_
  refine lv_aload_n hx hb dX14_askDue_8 rfl (lv_at hl 0 rfl) ?_
  refine g17_4 C hH ho0 q1886 dX14_askDue_9 ?_
  refine lv_i2l (v := (σ 17 o0 4).toInt64) hx hb dX14_askDue_12 rfl ?_
  refine lv_lmul hx hb dX14_askDue_13 ?_
  refine lv_ladd hx hb dX14_askDue_14 ?_
  exact rt_jp C hS hw dX14_askDue_15
/-! WebHostModel.before(II)Z -/
abbrev cX14_before : ByteArray := prog_17_method_32_code
def yX14_before : MethodName := ⟨RX14, "before", "(II)Z"⟩
theorem dX14_before_0 : decode cX14_before 0 = .ok (.iload_n 0, 1) := by decide +kernel
theorem dX14_before_1 : decode cX14_before 1 = .ok (.iload_n 1, 1) := by decide +kernel
theorem dX14_before_2 : decode cX14_before 2 = .ok (.isub, 1) := by decide +kernel
theorem dX14_before_3 : decode cX14_before 3 = .ok (.ifCond .ge 7, 3) := by decide +kernel
theorem dX14_before_6 : decode cX14_before 6 = .ok (.iconst 1, 1) := by decide +kernel
theorem dX14_before_7 : decode cX14_before 7 = .ok (.goto 4, 3) := by decide +kernel
theorem dX14_before_10 : decode cX14_before 10 = .ok (.iconst 0, 1) := by decide +kernel
theorem dX14_before_11 : decode cX14_before 11 = .ok (.ireturn, 1) := by decide +kernel
def rmX14_before : Room := { frames := 0, cells := 0, slots := 0, locals := 0 }
theorem kX14_before : yX14_before.cls = "WebHostModel" ∧ yX14_before.cls ≠ "java/lang/invoke/MethodHandle" ∧ yX14_before.cls ≠ "java/lang/invoke/VarHandle" ∧ (parseMethodDescriptor yX14_before.desc).map (fun d => d.parameters.length) = some 2 := by decide +kernel
def w14_before (σ : St) (x0 : Int32) (x1 : Int32) (Q : Int32 → Prop) : Prop := (0 ≤ (x0 - x1) → Q 0) ∧ (¬ 0 ≤ (x0 - x1) → Q 1)
set_option maxHeartbeats 4000000 in
theorem m14_before (l : Launch) (G : Gh) (a1 : Nat → Nat → Nat) (τ : St) (σ : St) (H : Heap) (x0 : Int32) (x1 : Int32) (Q : Int32 → Prop) (hw : w14_before σ x0 x1 Q) : Met l yX14_before (ws_ yX14_before cX14_before 2 (some .boolean)) rmX14_before (PcP G a1 (cmb τ σ) H [.int x0, .int x1]) (QIp G H Q) 0 0 (gA G) := by
  refine met_p (by decide) (Nat.le_of_ble_eq_true rfl) ?_
  intro p e s m below meth c ls hHe C hH hS hl
  have C : Cx p e s m _ meth c cX14_before 2 (some .boolean) "WebHostModel" G := C
  have hl : lv_has ls 2 [(0, .int x0), (1, .int x1)] := hl
  have hx := C.1
  have hb := C.2.1
  have hown := C.2.2.2.2.2.1
  have hts := C.2.2.2.2.2.2.1
  obtain ⟨locs, hlocs⟩ : ∃ z : List Loc, z = [] := ⟨_, rfl⟩
  rw [← hlocs] at hS ⊢
  refine lv_iload_n hx hb dX14_before_0 rfl (lv_at hl 0 rfl) ?_
  refine lv_iload_n hx hb dX14_before_1 rfl (lv_at hl 1 rfl) ?_
  refine lv_isub hx hb dX14_before_2 ?_
  refine lv_if_ge (tgt := 10) hx hb dX14_before_3 (by decide) (fun h => ?_) (fun h => ?_)
  · have hw := hw.1 h
    refine lv_iconst (v := 0) hx hb dX14_before_10 (by decide) ?_
    exact rt_ip C rfl hS hw dX14_before_11
  have hw := hw.2 h
  refine lv_iconst (v := 1) hx hb dX14_before_6 (by decide) ?_
  refine lv_goto (tgt := 11) hx hb dX14_before_7 (by decide) ?_
  exact rt_ip C rfl hS hw dX14_before_11
/-! WebHostModel.check(II)I -/
abbrev cX14_check : ByteArray := prog_17_method_8_code
def yX14_check : MethodName := ⟨RX14, "check", "(II)I"⟩
theorem dX14_check_0 : decode cX14_check 0 = .ok (.iconst (-1), 1) := by decide +kernel
theorem dX14_check_1 : decode cX14_check 1 = .ok (.istore_n 3, 1) := by decide +kernel
theorem dX14_check_2 : decode cX14_check 2 = .ok (.iload_n 1, 1) := by decide +kernel
theorem dX14_check_3 : decode cX14_check 3 = .ok (.istore 4, 2) := by decide +kernel
theorem dX14_check_5 : decode cX14_check 5 = .ok (.iload 4, 2) := by decide +kernel
theorem dX14_check_7 : decode cX14_check 7 = .ok (.iload_n 2, 1) := by decide +kernel
theorem dX14_check_8 : decode cX14_check 8 = .ok (.if_icmp .ge 59, 3) := by decide +kernel
theorem dX14_check_11 : decode cX14_check 11 = .ok (.iload_n 3, 1) := by decide +kernel
theorem dX14_check_12 : decode cX14_check 12 = .ok (.aload_n 0, 1) := by decide +kernel
theorem dX14_check_13 : decode cX14_check 13 = .ok (.getfield 15, 3) := by decide +kernel
theorem dX14_check_16 : decode cX14_check 16 = .ok (.iload 4, 2) := by decide +kernel
theorem dX14_check_18 : decode cX14_check 18 = .ok (.baload, 1) := by decide +kernel
theorem dX14_check_19 : decode cX14_check 19 = .ok (.sipush 255, 3) := by decide +kernel
theorem dX14_check_22 : decode cX14_check 22 = .ok (.iand, 1) := by decide +kernel
theorem dX14_check_23 : decode cX14_check 23 = .ok (.ixor, 1) := by decide +kernel
theorem dX14_check_24 : decode cX14_check 24 = .ok (.istore_n 3, 1) := by decide +kernel
theorem dX14_check_25 : decode cX14_check 25 = .ok (.iconst 0, 1) := by decide +kernel
theorem dX14_check_26 : decode cX14_check 26 = .ok (.istore 5, 2) := by decide +kernel
theorem dX14_check_28 : decode cX14_check 28 = .ok (.iload 5, 2) := by decide +kernel
theorem dX14_check_30 : decode cX14_check 30 = .ok (.bipush 8, 2) := by decide +kernel
theorem dX14_check_32 : decode cX14_check 32 = .ok (.if_icmp .ge 29, 3) := by decide +kernel
theorem dX14_check_35 : decode cX14_check 35 = .ok (.iload_n 3, 1) := by decide +kernel
theorem dX14_check_36 : decode cX14_check 36 = .ok (.iconst 1, 1) := by decide +kernel
theorem dX14_check_37 : decode cX14_check 37 = .ok (.iand, 1) := by decide +kernel
theorem dX14_check_38 : decode cX14_check 38 = .ok (.iconst 1, 1) := by decide +kernel
theorem dX14_check_39 : decode cX14_check 39 = .ok (.if_icmp .ne 12, 3) := by decide +kernel
theorem dX14_check_42 : decode cX14_check 42 = .ok (.iload_n 3, 1) := by decide +kernel
theorem dX14_check_43 : decode cX14_check 43 = .ok (.iconst 1, 1) := by decide +kernel
theorem dX14_check_44 : decode cX14_check 44 = .ok (.iushr, 1) := by decide +kernel
theorem dX14_check_45 : decode cX14_check 45 = .ok (.ldc 99, 2) := by decide +kernel
theorem dX14_check_47 : decode cX14_check 47 = .ok (.ixor, 1) := by decide +kernel
theorem dX14_check_48 : decode cX14_check 48 = .ok (.goto 6, 3) := by decide +kernel
theorem dX14_check_51 : decode cX14_check 51 = .ok (.iload_n 3, 1) := by decide +kernel
theorem dX14_check_52 : decode cX14_check 52 = .ok (.iconst 1, 1) := by decide +kernel
theorem dX14_check_53 : decode cX14_check 53 = .ok (.iushr, 1) := by decide +kernel
theorem dX14_check_54 : decode cX14_check 54 = .ok (.istore_n 3, 1) := by decide +kernel
theorem dX14_check_55 : decode cX14_check 55 = .ok (.iinc 5 1, 3) := by decide +kernel
theorem dX14_check_58 : decode cX14_check 58 = .ok (.goto (-30), 3) := by decide +kernel
theorem dX14_check_61 : decode cX14_check 61 = .ok (.iinc 4 1, 3) := by decide +kernel
theorem dX14_check_64 : decode cX14_check 64 = .ok (.goto (-59), 3) := by decide +kernel
theorem dX14_check_67 : decode cX14_check 67 = .ok (.iload_n 3, 1) := by decide +kernel
theorem dX14_check_68 : decode cX14_check 68 = .ok (.iconst (-1), 1) := by decide +kernel
theorem dX14_check_69 : decode cX14_check 69 = .ok (.ixor, 1) := by decide +kernel
theorem dX14_check_70 : decode cX14_check 70 = .ok (.ireturn, 1) := by decide +kernel
def rmX14_check : Room := { frames := 0, cells := 0, slots := 0, locals := 0 }
theorem kX14_check : yX14_check.cls = "WebHostModel" ∧ yX14_check.cls ≠ "java/lang/invoke/MethodHandle" ∧ yX14_check.cls ≠ "java/lang/invoke/VarHandle" ∧ (parseMethodDescriptor yX14_check.desc).map (fun d => d.parameters.length) = some 2 := by decide +kernel
def w14_check_L28 (σ : St) (x2 : Int32) (x4 : Int32) (Q : Int32 → Prop) (K61 : Int32 → Prop) : Nat → Int32 → Int32 → Prop
  | 0, _, _ => False
  | n + 1, x3, x5 => (8 ≤ x5 → K61 x3) ∧ (¬ 8 ≤ x5 → ((¬ (x3 &&& 1) = 1 → (w14_check_L28 σ x2 x4 Q K61 n (ushr x3 1) (x5 + 1))) ∧ ((x3 &&& 1) = 1 → (w14_check_L28 σ x2 x4 Q K61 n ((ushr x3 1) ^^^ (-306674912)) (x5 + 1)))))
set_option maxHeartbeats 4000000 in
theorem k14_check_L28 {p : Program} {l : Launch} {e : Env} {s : State} {m : MethodId} {args : Array Value} {below : List Frame} {meth : Method} {c : Code} {G : Gh} {a1 : Nat → Nat → Nat} {τ : St} {H : Heap} {Q : Int32 → Prop} {K61 : Int32 → Prop} (C : Cx p e s m args meth c cX14_check 6 (some .int) "WebHostModel" G) (σ : St) (x2 : Int32) (x4 : Int32) (hH : Hd G a1 (cmb τ σ) H) :
    ∀ (n : Nat) (x3 : Int32) (x5 : Int32), w14_check_L28 σ x2 x4 Q K61 n x3 x5 → ∀ (locs : List Loc) (ls : Array Slot), va_S (gA G) s.heap H locs → lv_has ls 6 [(0, .ref (ga G 14 0)), (2, .int x2), (3, .int x3), (4, .int x4), (5, .int x5)] → (∀ (x3 : Int32), K61 x3 → ∀ (locs : List Loc) (ls : Array Slot), va_S (gA G) s.heap H locs → lv_has ls 6 [(0, .ref (ga G 14 0)), (2, .int x2), (3, .int x3), (4, .int x4)] → W p l e rmX14_check s m args below meth c H locs 0 0 (MQ below (QIp G H Q) args s 0 0 (gA G)) (F0 m 61 ls [])) → W p l e rmX14_check s m args below meth c H locs 0 0 (MQ below (QIp G H Q) args s 0 0 (gA G)) (F0 m 28 ls []) := by
  have hx := C.1
  have hb := C.2.1
  have hown := C.2.2.2.2.2.1
  have hts := C.2.2.2.2.2.2.1
  intro n
  induction n with
  | zero =>
    intro x3 x5 hw
    exact False.elim hw
  | succ n ih =>
    intro x3 x5 hw locs ls hS hl hK61
    refine lv_iload hx hb dX14_check_28 (lv_at hl 4 rfl) ?_
    refine lv_bipush (v := 8) hx hb dX14_check_30 (by decide) ?_
    refine lv_icmp_ge (tgt := 61) hx hb dX14_check_32 (by decide) (fun h => ?_) (fun h => ?_)
    · have hw := hw.1 h
      exact hK61 x3 hw locs ls hS (lv_sub hl [0, 1, 2, 3] rfl)
    have hw := hw.2 h
    refine lv_iload_n hx hb dX14_check_35 rfl (lv_at hl 2 rfl) ?_
    refine lv_iconst (v := 1) hx hb dX14_check_36 (by decide) ?_
    refine lv_iand hx hb dX14_check_37 ?_
    refine lv_iconst (v := 1) hx hb dX14_check_38 (by decide) ?_
    refine lv_icmp_ne (tgt := 51) hx hb dX14_check_39 (by decide) (fun h => ?_) (fun h => ?_)
    · have hw := hw.1 h
      refine lv_iload_n hx hb dX14_check_51 rfl (lv_at hl 2 rfl) ?_
      refine lv_iconst (v := 1) hx hb dX14_check_52 (by decide) ?_
      refine lv_iushr (v := ushr x3 1) hx hb dX14_check_53 rfl ?_
      refine lv_istore_n (lv' := [(3, .int (ushr x3 1)), (0, .ref (ga G 14 0)), (2, .int x2), (4, .int x4), (5, .int x5)]) hx hb dX14_check_54 rfl hl (by decide) rfl (fun ls hl => ?_)
      refine lv_iinc (v := x5 + 1) (lv' := [(5, .int (x5 + 1)), (3, .int (ushr x3 1)), (0, .ref (ga G 14 0)), (2, .int x2), (4, .int x4)]) hx hb dX14_check_55 hl (k := 4) rfl rfl (by decide) rfl (fun ls hl => ?_)
      refine lv_goto (tgt := 28) hx hb dX14_check_58 (by decide) ?_
      exact ih (ushr x3 1) (x5 + 1) hw locs ls hS (lv_sub hl [2, 3, 1, 4, 0] rfl) hK61
    have hw := hw.2 h
    refine lv_iload_n hx hb dX14_check_42 rfl (lv_at hl 2 rfl) ?_
    refine lv_iconst (v := 1) hx hb dX14_check_43 (by decide) ?_
    refine lv_iushr (v := ushr x3 1) hx hb dX14_check_44 rfl ?_
    refine lv_ldc (v := (-306674912)) hx hb hown (hts _ q2161) dX14_check_45 ?_
    refine lv_ixor hx hb dX14_check_47 ?_
    refine lv_goto (tgt := 54) hx hb dX14_check_48 (by decide) ?_
    refine lv_istore_n (lv' := [(3, .int ((ushr x3 1) ^^^ (-306674912))), (0, .ref (ga G 14 0)), (2, .int x2), (4, .int x4), (5, .int x5)]) hx hb dX14_check_54 rfl hl (by decide) rfl (fun ls hl => ?_)
    refine lv_iinc (v := x5 + 1) (lv' := [(5, .int (x5 + 1)), (3, .int ((ushr x3 1) ^^^ (-306674912))), (0, .ref (ga G 14 0)), (2, .int x2), (4, .int x4)]) hx hb dX14_check_55 hl (k := 4) rfl rfl (by decide) rfl (fun ls hl => ?_)
    refine lv_goto (tgt := 28) hx hb dX14_check_58 (by decide) ?_
    exact ih ((ushr x3 1) ^^^ (-306674912)) (x5 + 1) hw locs ls hS (lv_sub hl [2, 3, 1, 4, 0] rfl) hK61
def w14_check_L5 (σ : St) (x2 : Int32) (Q : Int32 → Prop) (K67 : Int32 → Prop) : Nat → Int32 → Int32 → Prop
  | 0, _, _ => False
  | n + 1, x3, x4 => (x2 ≤ x4 → K67 x3) ∧ (¬ x2 ≤ x4 → (vp_in x4 65535 ∧ (by8 (σ 51 0 x4.toNatClampNeg) → (∃ z1, w14_check_L28 σ x2 x4 Q (fun x3_2 => w14_check_L5 σ x2 Q K67 n x3_2 (x4 + 1)) z1 (x3 ^^^ ((σ 51 0 x4.toNatClampNeg) &&& 255)) 0))))
set_option maxHeartbeats 4000000 in
theorem k14_check_L5 {p : Program} {l : Launch} {e : Env} {s : State} {m : MethodId} {args : Array Value} {below : List Frame} {meth : Method} {c : Code} {G : Gh} {a1 : Nat → Nat → Nat} {τ : St} {H : Heap} {Q : Int32 → Prop} {K67 : Int32 → Prop} (C : Cx p e s m args meth c cX14_check 6 (some .int) "WebHostModel" G) (σ : St) (x2 : Int32) (hH : Hd G a1 (cmb τ σ) H) :
    ∀ (n : Nat) (x3 : Int32) (x4 : Int32), w14_check_L5 σ x2 Q K67 n x3 x4 → ∀ (locs : List Loc) (ls : Array Slot), va_S (gA G) s.heap H locs → lv_has ls 6 [(0, .ref (ga G 14 0)), (2, .int x2), (3, .int x3), (4, .int x4)] → (∀ (x3 : Int32), K67 x3 → ∀ (locs : List Loc) (ls : Array Slot), va_S (gA G) s.heap H locs → lv_has ls 6 [(3, .int x3)] → W p l e rmX14_check s m args below meth c H locs 0 0 (MQ below (QIp G H Q) args s 0 0 (gA G)) (F0 m 67 ls [])) → W p l e rmX14_check s m args below meth c H locs 0 0 (MQ below (QIp G H Q) args s 0 0 (gA G)) (F0 m 5 ls []) := by
  have hx := C.1
  have hb := C.2.1
  have hown := C.2.2.2.2.2.1
  have hts := C.2.2.2.2.2.2.1
  intro n
  induction n with
  | zero =>
    intro x3 x4 hw
    exact False.elim hw
  | succ n ih =>
    intro x3 x4 hw locs ls hS hl hK67
    refine lv_iload hx hb dX14_check_5 (lv_at hl 3 rfl) ?_
    refine lv_iload_n hx hb dX14_check_7 rfl (lv_at hl 1 rfl) ?_
    refine lv_icmp_ge (tgt := 67) hx hb dX14_check_8 (by decide) (fun h => ?_) (fun h => ?_)
    · have hw := hw.1 h
      exact hK67 x3 hw locs ls hS (lv_sub hl [2] rfl)
    have hw := hw.2 h
    refine lv_iload_n hx hb dX14_check_11 rfl (lv_at hl 2 rfl) ?_
    refine lv_aload_n hx hb dX14_check_12 rfl (lv_at hl 0 rfl) ?_
    refine g14_2 C hH q1942 dX14_check_13 ?_
    refine lv_iload hx hb dX14_check_16 (lv_at hl 3 rfl) ?_
    refine l51 C hH hw.1 dX14_check_18 (fun hz => ?_)
    have hw := hw.2 hz
    refine lv_sipush (v := 255) hx hb dX14_check_19 (by decide) ?_
    refine lv_iand hx hb dX14_check_22 ?_
    refine lv_ixor hx hb dX14_check_23 ?_
    refine lv_istore_n (lv' := [(3, .int (x3 ^^^ ((σ 51 0 x4.toNatClampNeg) &&& 255))), (0, .ref (ga G 14 0)), (2, .int x2), (4, .int x4)]) hx hb dX14_check_24 rfl hl (by decide) rfl (fun ls hl => ?_)
    refine lv_iconst (v := 0) hx hb dX14_check_25 (by decide) ?_
    refine lv_istore (lv' := [(5, .int 0), (3, .int (x3 ^^^ ((σ 51 0 x4.toNatClampNeg) &&& 255))), (0, .ref (ga G 14 0)), (2, .int x2), (4, .int x4)]) hx hb dX14_check_26 hl (by decide) rfl (fun ls hl => ?_)
    obtain ⟨n1, hw⟩ := hw
    refine k14_check_L28 C σ x2 x4 hH n1 (x3 ^^^ ((σ 51 0 x4.toNatClampNeg) &&& 255)) 0 hw locs ls hS (lv_sub hl [2, 3, 1, 4, 0] rfl) (fun x3_2 hw locs ls hS hl => ?_)
    refine lv_iinc (v := x4 + 1) (lv' := [(4, .int (x4 + 1)), (0, .ref (ga G 14 0)), (2, .int x2), (3, .int x3_2)]) hx hb dX14_check_61 hl (k := 3) rfl rfl (by decide) rfl (fun ls hl => ?_)
    refine lv_goto (tgt := 5) hx hb dX14_check_64 (by decide) ?_
    exact ih x3_2 (x4 + 1) hw locs ls hS (lv_sub hl [1, 2, 3, 0] rfl) hK67
def w14_check (σ : St) (x1 : Int32) (x2 : Int32) (Q : Int32 → Prop) : Prop := ∃ z3, w14_check_L5 σ x2 Q (fun x3_4 => Q (x3_4 ^^^ (-1))) z3 (-1) x1
set_option maxHeartbeats 4000000 in
theorem m14_check (l : Launch) (G : Gh) (a1 : Nat → Nat → Nat) (τ : St) (σ : St) (H : Heap) (x1 : Int32) (x2 : Int32) (Q : Int32 → Prop) (hw : w14_check σ x1 x2 Q) : Met l yX14_check (ws_ yX14_check cX14_check 6 (some .int)) rmX14_check (PcP G a1 (cmb τ σ) H [.ref (ga G 14 0), .int x1, .int x2]) (QIp G H Q) 0 0 (gA G) := by
  refine met_p (by decide) (Nat.le_of_ble_eq_true rfl) ?_
  intro p e s m below meth c ls hHe C hH hS hl
  have C : Cx p e s m _ meth c cX14_check 6 (some .int) "WebHostModel" G := C
  have hl : lv_has ls 6 [(0, .ref (ga G 14 0)), (1, .int x1), (2, .int x2)] := hl
  have hx := C.1
  have hb := C.2.1
  have hown := C.2.2.2.2.2.1
  have hts := C.2.2.2.2.2.2.1
  obtain ⟨locs, hlocs⟩ : ∃ z : List Loc, z = [] := ⟨_, rfl⟩
  rw [← hlocs] at hS ⊢
  refine lv_iconst (v := (-1)) hx hb dX14_check_0 (by decide) ?_
  refine lv_istore_n (lv' := [(3, .int (-1)), (0, .ref (ga G 14 0)), (1, .int x1), (2, .int x2)]) hx hb dX14_check_1 rfl hl (by decide) rfl (fun ls hl => ?_)
  refine lv_iload_n hx hb dX14_check_2 rfl (lv_at hl 2 rfl) ?_
  refine lv_istore (lv' := [(4, .int x1), (3, .int (-1)), (0, .ref (ga G 14 0)), (1, .int x1), (2, .int x2)]) hx hb dX14_check_3 hl (by decide) rfl (fun ls hl => ?_)
  obtain ⟨n3, hw⟩ := hw
  refine k14_check_L5 C σ x2 hH n3 (-1) x1 hw locs ls hS (lv_sub hl [2, 4, 1, 0] rfl) (fun x3_4 hw locs ls hS hl => ?_)
  refine lv_iload_n hx hb dX14_check_67 rfl (lv_at hl 0 rfl) ?_
  refine lv_iconst (v := (-1)) hx hb dX14_check_68 (by decide) ?_
  refine lv_ixor hx hb dX14_check_69 ?_
  exact rt_ip C rfl hS hw dX14_check_70
/-! WebHostModel.code(LWebHostModel$Connection;I)V -/
abbrev cX14_code : ByteArray := prog_17_method_102_code
def yX14_code : MethodName := ⟨RX14, "code", "(LWebHostModel$Connection;I)V"⟩
theorem dX14_code_0 : decode cX14_code 0 = .ok (.aload_n 1, 1) := by decide +kernel
theorem dX14_code_1 : decode cX14_code 1 = .ok (.getfield 394, 3) := by decide +kernel
theorem dX14_code_4 : decode cX14_code 4 = .ok (.aload_n 1, 1) := by decide +kernel
theorem dX14_code_5 : decode cX14_code 5 = .ok (.getfield 391, 3) := by decide +kernel
theorem dX14_code_8 : decode cX14_code 8 = .ok (.iload_n 2, 1) := by decide +kernel
theorem dX14_code_9 : decode cX14_code 9 = .ok (.i2b, 1) := by decide +kernel
theorem dX14_code_10 : decode cX14_code 10 = .ok (.bastore, 1) := by decide +kernel
theorem dX14_code_11 : decode cX14_code 11 = .ok (.aload_n 1, 1) := by decide +kernel
theorem dX14_code_12 : decode cX14_code 12 = .ok (.dup, 1) := by decide +kernel
theorem dX14_code_13 : decode cX14_code 13 = .ok (.getfield 391, 3) := by decide +kernel
theorem dX14_code_16 : decode cX14_code 16 = .ok (.iconst 1, 1) := by decide +kernel
theorem dX14_code_17 : decode cX14_code 17 = .ok (.iadd, 1) := by decide +kernel
theorem dX14_code_18 : decode cX14_code 18 = .ok (.putfield 391, 3) := by decide +kernel
theorem dX14_code_21 : decode cX14_code 21 = .ok (.return_, 1) := by decide +kernel
def rmX14_code : Room := { frames := 0, cells := 0, slots := 0, locals := 0 }
theorem kX14_code : yX14_code.cls = "WebHostModel" ∧ yX14_code.cls ≠ "java/lang/invoke/MethodHandle" ∧ yX14_code.cls ≠ "java/lang/invoke/VarHandle" ∧ (parseMethodDescriptor yX14_code.desc).map (fun d => d.parameters.length) = some 2 := by decide +kernel
def w14_code (σ : St) (o1 : Nat) (x2 : Int32) (Q : St → Prop) : Prop := vp_in (σ 15 o1 26) 512 ∧ (∀ σ1, σ1 = up3 σ 71 o1 (σ 15 o1 26).toNatClampNeg x2.toInt8.toInt32.toInt8.toInt32 → (∀ σ2, σ2 = up3 σ1 15 o1 26 ((σ1 15 o1 26) + 1) → (Q σ2)))
set_option maxHeartbeats 4000000 in
theorem m14_code (l : Launch) (G : Gh) (a1 : Nat → Nat → Nat) (τ : St) (σ : St) (o1 : Nat) (x2 : Int32) (ho1 : o1 < 16) (Q : St → Prop) (hw : w14_code σ o1 x2 Q) : Met l yX14_code (ws_ yX14_code cX14_code 3 none) rmX14_code (PcS G a1 (cmb τ σ) [.ref (ga G 14 0), .ref (ga G 15 o1), .int x2]) (QVs G a1 (fun u => cmb τ u) Q) 0 0 (gA G) := by
  refine met_w (by decide) (Nat.le_of_ble_eq_true rfl) ?_
  intro p e s m below meth c ls C hH hS hl
  have C : Cx p e s m _ meth c cX14_code 3 none "WebHostModel" G := C
  have hl : lv_has ls 3 [(0, .ref (ga G 14 0)), (1, .ref (ga G 15 o1)), (2, .int x2)] := hl
  have hx := C.1
  have hb := C.2.1
  have hown := C.2.2.2.2.2.1
  have hts := C.2.2.2.2.2.2.1
  obtain ⟨locs, hlocs⟩ : ∃ z : List Loc, z = [] := ⟨_, rfl⟩
  obtain ⟨H, hHe⟩ : ∃ z : Heap, z = s.heap := ⟨_, rfl⟩
  have hH : Hd G a1 (cmb τ σ) H := by rw [hHe]; exact hH
  have hS : va_S (gA G) s.heap H locs := by rw [hHe, hlocs]; exact hS
  refine W.heap0 hHe.symm hlocs.symm ?_
  refine lv_aload_n hx hb dX14_code_0 rfl (lv_at hl 1 rfl) ?_
  refine g15_25 C hH ho1 q1733 dX14_code_1 ?_
  refine lv_aload_n hx hb dX14_code_4 rfl (lv_at hl 1 rfl) ?_
  refine g15_26 C hH ho1 q1735 dX14_code_5 ?_
  refine lv_iload_n hx hb dX14_code_8 rfl (lv_at hl 2 rfl) ?_
  refine lv_i2b (v := x2.toInt8.toInt32) hx hb dX14_code_9 rfl ?_
  refine s71 C hH hS ho1 hw.1 dX14_code_10 (fun σ1 e1 H locs hH hS => ?_)
  have hw := hw.2 σ1 e1
  refine lv_aload_n hx hb dX14_code_11 rfl (lv_at hl 1 rfl) ?_
  refine lv_dup hx hb dX14_code_12 rfl ?_
  refine g15_26 C hH ho1 q1735 dX14_code_13 ?_
  refine lv_iconst (v := 1) hx hb dX14_code_16 (by decide) ?_
  refine lv_iadd hx hb dX14_code_17 ?_
  refine p15_26 C hH hS ho1 q1735 dX14_code_18 (fun σ2 e2 H locs hH hS => ?_)
  have hw := hw σ2 e2
  exact rt_v C hH hS hw dX14_code_21
/-! WebHostModel.counted(I)I -/
abbrev cX14_counted : ByteArray := prog_17_method_119_code
def yX14_counted : MethodName := ⟨RX14, "counted", "(I)I"⟩
theorem dX14_counted_0 : decode cX14_counted 0 = .ok (.aload_n 0, 1) := by decide +kernel
theorem dX14_counted_1 : decode cX14_counted 1 = .ok (.getfield 95, 3) := by decide +kernel
theorem dX14_counted_4 : decode cX14_counted 4 = .ok (.ifCond .eq 22, 3) := by decide +kernel
theorem dX14_counted_7 : decode cX14_counted 7 = .ok (.iload_n 1, 1) := by decide +kernel
theorem dX14_counted_8 : decode cX14_counted 8 = .ok (.ifCond .lt 18, 3) := by decide +kernel
theorem dX14_counted_11 : decode cX14_counted 11 = .ok (.iload_n 1, 1) := by decide +kernel
theorem dX14_counted_12 : decode cX14_counted 12 = .ok (.bipush 8, 2) := by decide +kernel
theorem dX14_counted_14 : decode cX14_counted 14 = .ok (.if_icmp .ge 12, 3) := by decide +kernel
theorem dX14_counted_17 : decode cX14_counted 17 = .ok (.aload_n 0, 1) := by decide +kernel
theorem dX14_counted_18 : decode cX14_counted 18 = .ok (.getfield 31, 3) := by decide +kernel
theorem dX14_counted_21 : decode cX14_counted 21 = .ok (.iload_n 1, 1) := by decide +kernel
theorem dX14_counted_22 : decode cX14_counted 22 = .ok (.iaload, 1) := by decide +kernel
theorem dX14_counted_23 : decode cX14_counted 23 = .ok (.goto 4, 3) := by decide +kernel
theorem dX14_counted_26 : decode cX14_counted 26 = .ok (.iconst (-1), 1) := by decide +kernel
theorem dX14_counted_27 : decode cX14_counted 27 = .ok (.ireturn, 1) := by decide +kernel
def rmX14_counted : Room := { frames := 0, cells := 0, slots := 0, locals := 0 }
theorem kX14_counted : yX14_counted.cls = "WebHostModel" ∧ yX14_counted.cls ≠ "java/lang/invoke/MethodHandle" ∧ yX14_counted.cls ≠ "java/lang/invoke/VarHandle" ∧ (parseMethodDescriptor yX14_counted.desc).map (fun d => d.parameters.length) = some 1 := by decide +kernel
def w14_counted (σ : St) (x1 : Int32) (Q : Int32 → Prop) : Prop := bo (σ 14 0 4) → (((σ 14 0 4) = 0 → (Q (-1))) ∧ (¬ (σ 14 0 4) = 0 → ((x1 < 0 → (Q (-1))) ∧ (¬ x1 < 0 → ((8 ≤ x1 → (Q (-1))) ∧ (¬ 8 ≤ x1 → (vp_in x1 8 ∧ (Q (σ 56 0 x1.toNatClampNeg)))))))))
set_option maxHeartbeats 4000000 in
theorem m14_counted (l : Launch) (G : Gh) (a1 : Nat → Nat → Nat) (τ : St) (σ : St) (H : Heap) (x1 : Int32) (Q : Int32 → Prop) (hw : w14_counted σ x1 Q) : Met l yX14_counted (ws_ yX14_counted cX14_counted 2 (some .int)) rmX14_counted (PcP G a1 (cmb τ σ) H [.ref (ga G 14 0), .int x1]) (QIp G H Q) 0 0 (gA G) := by
  refine met_p (by decide) (Nat.le_of_ble_eq_true rfl) ?_
  intro p e s m below meth c ls hHe C hH hS hl
  have C : Cx p e s m _ meth c cX14_counted 2 (some .int) "WebHostModel" G := C
  have hl : lv_has ls 2 [(0, .ref (ga G 14 0)), (1, .int x1)] := hl
  have hx := C.1
  have hb := C.2.1
  have hown := C.2.2.2.2.2.1
  have hts := C.2.2.2.2.2.2.1
  obtain ⟨locs, hlocs⟩ : ∃ z : List Loc, z = [] := ⟨_, rfl⟩
  rw [← hlocs] at hS ⊢
  refine lv_aload_n hx hb dX14_counted_0 rfl (lv_at hl 0 rfl) ?_
  refine g14_4 C hH q1944 dX14_counted_1 (fun hz => ?_)
  have hw := hw hz
  refine lv_if_eq (tgt := 26) hx hb dX14_counted_4 (by decide) (fun h => ?_) (fun h => ?_)
  · have hw := hw.1 h
    refine lv_iconst (v := (-1)) hx hb dX14_counted_26 (by decide) ?_
    exact rt_ip C rfl hS hw dX14_counted_27
  have hw := hw.2 h
  refine lv_iload_n hx hb dX14_counted_7 rfl (lv_at hl 1 rfl) ?_
  refine lv_if_lt (tgt := 26) hx hb dX14_counted_8 (by decide) (fun h => ?_) (fun h => ?_)
  · have hw := hw.1 h
    refine lv_iconst (v := (-1)) hx hb dX14_counted_26 (by decide) ?_
    exact rt_ip C rfl hS hw dX14_counted_27
  have hw := hw.2 h
  refine lv_iload_n hx hb dX14_counted_11 rfl (lv_at hl 1 rfl) ?_
  refine lv_bipush (v := 8) hx hb dX14_counted_12 (by decide) ?_
  refine lv_icmp_ge (tgt := 26) hx hb dX14_counted_14 (by decide) (fun h => ?_) (fun h => ?_)
  · have hw := hw.1 h
    refine lv_iconst (v := (-1)) hx hb dX14_counted_26 (by decide) ?_
    exact rt_ip C rfl hS hw dX14_counted_27
  have hw := hw.2 h
  refine lv_aload_n hx hb dX14_counted_17 rfl (lv_at hl 0 rfl) ?_
  refine g14_17 C hH q1957 dX14_counted_18 ?_
  refine lv_iload_n hx hb dX14_counted_21 rfl (lv_at hl 1 rfl) ?_
  refine l56 C hH hw.1 dX14_counted_22 ?_
  have hw := hw.2
  refine lv_goto (tgt := 27) hx hb dX14_counted_23 (by decide) ?_
  exact rt_ip C rfl hS hw dX14_counted_27
/-! WebHostModel.end(I)I -/
abbrev cX14_end : ByteArray := prog_17_method_5_code
def yX14_end : MethodName := ⟨RX14, "end", "(I)I"⟩
theorem dX14_end_0 : decode cX14_end 0 = .ok (.iload_n 1, 1) := by decide +kernel
theorem dX14_end_1 : decode cX14_end 1 = .ok (.ifCond .lt 11, 3) := by decide +kernel
theorem dX14_end_4 : decode cX14_end 4 = .ok (.iload_n 1, 1) := by decide +kernel
theorem dX14_end_5 : decode cX14_end 5 = .ok (.aload_n 0, 1) := by decide +kernel
theorem dX14_end_6 : decode cX14_end 6 = .ok (.getfield 84, 3) := by decide +kernel
theorem dX14_end_9 : decode cX14_end 9 = .ok (.if_icmp .le 5, 3) := by decide +kernel
theorem dX14_end_12 : decode cX14_end 12 = .ok (.iconst (-1), 1) := by decide +kernel
theorem dX14_end_13 : decode cX14_end 13 = .ok (.ireturn, 1) := by decide +kernel
theorem dX14_end_14 : decode cX14_end 14 = .ok (.aload_n 0, 1) := by decide +kernel
theorem dX14_end_15 : decode cX14_end 15 = .ok (.iload_n 1, 1) := by decide +kernel
theorem dX14_end_16 : decode cX14_end 16 = .ok (.putfield 84, 3) := by decide +kernel
theorem dX14_end_19 : decode cX14_end 19 = .ok (.iload_n 1, 1) := by decide +kernel
theorem dX14_end_20 : decode cX14_end 20 = .ok (.ireturn, 1) := by decide +kernel
def rmX14_end : Room := { frames := 0, cells := 0, slots := 0, locals := 0 }
theorem kX14_end : yX14_end.cls = "WebHostModel" ∧ yX14_end.cls ≠ "java/lang/invoke/MethodHandle" ∧ yX14_end.cls ≠ "java/lang/invoke/VarHandle" ∧ (parseMethodDescriptor yX14_end.desc).map (fun d => d.parameters.length) = some 1 := by decide +kernel
def w14_end (σ : St) (x1 : Int32) (Q : Int32 → St → Prop) : Prop := (x1 < 0 → (Q (-1) σ)) ∧ (¬ x1 < 0 → ((x1 ≤ (σ 14 0 1) → (∀ σ1, σ1 = up3 σ 14 0 1 x1 → (Q x1 σ1))) ∧ (¬ x1 ≤ (σ 14 0 1) → (Q (-1) σ))))
set_option maxHeartbeats 4000000 in
theorem m14_end (l : Launch) (G : Gh) (a1 : Nat → Nat → Nat) (τ : St) (σ : St) (x1 : Int32) (Q : Int32 → St → Prop) (hw : w14_end σ x1 Q) : Met l yX14_end (ws_ yX14_end cX14_end 2 (some .int)) rmX14_end (PcS G a1 (cmb τ σ) [.ref (ga G 14 0), .int x1]) (QIs G a1 (fun u => cmb τ u) Q) 0 0 (gA G) := by
  refine met_w (by decide) (Nat.le_of_ble_eq_true rfl) ?_
  intro p e s m below meth c ls C hH hS hl
  have C : Cx p e s m _ meth c cX14_end 2 (some .int) "WebHostModel" G := C
  have hl : lv_has ls 2 [(0, .ref (ga G 14 0)), (1, .int x1)] := hl
  have hx := C.1
  have hb := C.2.1
  have hown := C.2.2.2.2.2.1
  have hts := C.2.2.2.2.2.2.1
  obtain ⟨locs, hlocs⟩ : ∃ z : List Loc, z = [] := ⟨_, rfl⟩
  obtain ⟨H, hHe⟩ : ∃ z : Heap, z = s.heap := ⟨_, rfl⟩
  have hH : Hd G a1 (cmb τ σ) H := by rw [hHe]; exact hH
  have hS : va_S (gA G) s.heap H locs := by rw [hHe, hlocs]; exact hS
  refine W.heap0 hHe.symm hlocs.symm ?_
  refine lv_iload_n hx hb dX14_end_0 rfl (lv_at hl 1 rfl) ?_
  refine lv_if_lt (tgt := 12) hx hb dX14_end_1 (by decide) (fun h => ?_) (fun h => ?_)
  · have hw := hw.1 h
    refine lv_iconst (v := (-1)) hx hb dX14_end_12 (by decide) ?_
    exact rt_i C rfl hH hS hw dX14_end_13
  have hw := hw.2 h
  refine lv_iload_n hx hb dX14_end_4 rfl (lv_at hl 1 rfl) ?_
  refine lv_aload_n hx hb dX14_end_5 rfl (lv_at hl 0 rfl) ?_
  refine g14_1 C hH q1941 dX14_end_6 ?_
  refine lv_icmp_le (tgt := 14) hx hb dX14_end_9 (by decide) (fun h => ?_) (fun h => ?_)
  · have hw := hw.1 h
    refine lv_aload_n hx hb dX14_end_14 rfl (lv_at hl 0 rfl) ?_
    refine lv_iload_n hx hb dX14_end_15 rfl (lv_at hl 1 rfl) ?_
    refine p14_1 C hH hS q1941 dX14_end_16 (fun σ1 e1 H locs hH hS => ?_)
    have hw := hw σ1 e1
    refine lv_iload_n hx hb dX14_end_19 rfl (lv_at hl 1 rfl) ?_
    exact rt_i C rfl hH hS hw dX14_end_20
  have hw := hw.2 h
  refine lv_iconst (v := (-1)) hx hb dX14_end_12 (by decide) ?_
  exact rt_i C rfl hH hS hw dX14_end_13
/-! WebHostModel.entry(I)LWebHostModel$Entry; -/
abbrev cX14_entry : ByteArray := prog_17_method_17_code
def yX14_entry : MethodName := ⟨RX14, "entry", "(I)LWebHostModel$Entry;"⟩
theorem dX14_entry_0 : decode cX14_entry 0 = .ok (.iconst 0, 1) := by decide +kernel
theorem dX14_entry_1 : decode cX14_entry 1 = .ok (.istore_n 2, 1) := by decide +kernel
theorem dX14_entry_2 : decode cX14_entry 2 = .ok (.iload_n 2, 1) := by decide +kernel
theorem dX14_entry_3 : decode cX14_entry 3 = .ok (.bipush 16, 2) := by decide +kernel
theorem dX14_entry_5 : decode cX14_entry 5 = .ok (.if_icmp .ge 41, 3) := by decide +kernel
theorem dX14_entry_8 : decode cX14_entry 8 = .ok (.aload_n 0, 1) := by decide +kernel
theorem dX14_entry_9 : decode cX14_entry 9 = .ok (.getfield 49, 3) := by decide +kernel
theorem dX14_entry_12 : decode cX14_entry 12 = .ok (.iload_n 2, 1) := by decide +kernel
theorem dX14_entry_13 : decode cX14_entry 13 = .ok (.aaload, 1) := by decide +kernel
theorem dX14_entry_14 : decode cX14_entry 14 = .ok (.getfield 155, 3) := by decide +kernel
theorem dX14_entry_17 : decode cX14_entry 17 = .ok (.ifCond .eq 23, 3) := by decide +kernel
theorem dX14_entry_20 : decode cX14_entry 20 = .ok (.aload_n 0, 1) := by decide +kernel
theorem dX14_entry_21 : decode cX14_entry 21 = .ok (.getfield 49, 3) := by decide +kernel
theorem dX14_entry_24 : decode cX14_entry 24 = .ok (.iload_n 2, 1) := by decide +kernel
theorem dX14_entry_25 : decode cX14_entry 25 = .ok (.aaload, 1) := by decide +kernel
theorem dX14_entry_26 : decode cX14_entry 26 = .ok (.getfield 171, 3) := by decide +kernel
theorem dX14_entry_29 : decode cX14_entry 29 = .ok (.iload_n 1, 1) := by decide +kernel
theorem dX14_entry_30 : decode cX14_entry 30 = .ok (.if_icmp .ne 10, 3) := by decide +kernel
theorem dX14_entry_33 : decode cX14_entry 33 = .ok (.aload_n 0, 1) := by decide +kernel
theorem dX14_entry_34 : decode cX14_entry 34 = .ok (.getfield 49, 3) := by decide +kernel
theorem dX14_entry_37 : decode cX14_entry 37 = .ok (.iload_n 2, 1) := by decide +kernel
theorem dX14_entry_38 : decode cX14_entry 38 = .ok (.aaload, 1) := by decide +kernel
theorem dX14_entry_39 : decode cX14_entry 39 = .ok (.areturn, 1) := by decide +kernel
theorem dX14_entry_40 : decode cX14_entry 40 = .ok (.iinc 2 1, 3) := by decide +kernel
theorem dX14_entry_43 : decode cX14_entry 43 = .ok (.goto (-41), 3) := by decide +kernel
theorem dX14_entry_46 : decode cX14_entry 46 = .ok (.aconst_null, 1) := by decide +kernel
theorem dX14_entry_47 : decode cX14_entry 47 = .ok (.areturn, 1) := by decide +kernel
def rmX14_entry : Room := { frames := 0, cells := 0, slots := 0, locals := 0 }
theorem kX14_entry : yX14_entry.cls = "WebHostModel" ∧ yX14_entry.cls ≠ "java/lang/invoke/MethodHandle" ∧ yX14_entry.cls ≠ "java/lang/invoke/VarHandle" ∧ (parseMethodDescriptor yX14_entry.desc).map (fun d => d.parameters.length) = some 1 := by decide +kernel
def w14_entry_L2 (σ : St) (x1 : Int32) (Q : Option Nat → Prop) (K33 : Int32 → Prop) (K46 : Prop) : Nat → Int32 → Prop
  | 0, _ => False
  | n + 1, x2 => (16 ≤ x2 → K46) ∧ (¬ 16 ≤ x2 → (vp_in x2 16 ∧ (bo (σ 16 x2.toNatClampNeg 0) → (((σ 16 x2.toNatClampNeg 0) = 0 → (w14_entry_L2 σ x1 Q K33 K46 n (x2 + 1))) ∧ (¬ (σ 16 x2.toNatClampNeg 0) = 0 → (vp_in x2 16 ∧ ((¬ (σ 16 x2.toNatClampNeg 1) = x1 → (w14_entry_L2 σ x1 Q K33 K46 n (x2 + 1))) ∧ ((σ 16 x2.toNatClampNeg 1) = x1 → K33 x2))))))))
set_option maxHeartbeats 4000000 in
theorem k14_entry_L2 {p : Program} {l : Launch} {e : Env} {s : State} {m : MethodId} {args : Array Value} {below : List Frame} {meth : Method} {c : Code} {G : Gh} {a1 : Nat → Nat → Nat} {τ : St} {H : Heap} {Q : Option Nat → Prop} {K33 : Int32 → Prop} {K46 : Prop} (C : Cx p e s m args meth c cX14_entry 3 (some (.object "WebHostModel$Entry")) "WebHostModel" G) (σ : St) (x1 : Int32) (hH : Hd G a1 (cmb τ σ) H) :
    ∀ (n : Nat) (x2 : Int32), w14_entry_L2 σ x1 Q K33 K46 n x2 → ∀ (locs : List Loc) (ls : Array Slot), va_S (gA G) s.heap H locs → lv_has ls 3 [(0, .ref (ga G 14 0)), (1, .int x1), (2, .int x2)] → (∀ (x2 : Int32), K33 x2 → ∀ (locs : List Loc) (ls : Array Slot), va_S (gA G) s.heap H locs → lv_has ls 3 [(0, .ref (ga G 14 0)), (2, .int x2)] → W p l e rmX14_entry s m args below meth c H locs 0 0 (MQ below (QEp G H 16 Q) args s 0 0 (gA G)) (F0 m 33 ls [])) → (K46 → ∀ (locs : List Loc) (ls : Array Slot), va_S (gA G) s.heap H locs → lv_has ls 3 [] → W p l e rmX14_entry s m args below meth c H locs 0 0 (MQ below (QEp G H 16 Q) args s 0 0 (gA G)) (F0 m 46 ls [])) → W p l e rmX14_entry s m args below meth c H locs 0 0 (MQ below (QEp G H 16 Q) args s 0 0 (gA G)) (F0 m 2 ls []) := by
  have hx := C.1
  have hb := C.2.1
  have hown := C.2.2.2.2.2.1
  have hts := C.2.2.2.2.2.2.1
  intro n
  induction n with
  | zero =>
    intro x2 hw
    exact False.elim hw
  | succ n ih =>
    intro x2 hw locs ls hS hl hK33 hK46
    refine lv_iload_n hx hb dX14_entry_2 rfl (lv_at hl 2 rfl) ?_
    refine lv_bipush (v := 16) hx hb dX14_entry_3 (by decide) ?_
    refine lv_icmp_ge (tgt := 46) hx hb dX14_entry_5 (by decide) (fun h => ?_) (fun h => ?_)
    · have hw := hw.1 h
      exact hK46 hw locs ls hS (lv_sub hl [] rfl)
    have hw := hw.2 h
    refine lv_aload_n hx hb dX14_entry_8 rfl (lv_at hl 0 rfl) ?_
    refine g14_26 C hH q1966 dX14_entry_9 ?_
    refine lv_iload_n hx hb dX14_entry_12 rfl (lv_at hl 2 rfl) ?_
    have hq1 := vp_lt hw.1
    refine l61 C hH hw.1 dX14_entry_13 ?_
    have hw := hw.2
    refine g16_0 C hH hq1 q1861 dX14_entry_14 (fun hz => ?_)
    have hw := hw hz
    refine lv_if_eq (tgt := 40) hx hb dX14_entry_17 (by decide) (fun h => ?_) (fun h => ?_)
    · have hw := hw.1 h
      refine lv_iinc (v := x2 + 1) (lv' := [(2, .int (x2 + 1)), (0, .ref (ga G 14 0)), (1, .int x1)]) hx hb dX14_entry_40 hl (k := 2) rfl rfl (by decide) rfl (fun ls hl => ?_)
      refine lv_goto (tgt := 2) hx hb dX14_entry_43 (by decide) ?_
      exact ih (x2 + 1) hw locs ls hS (lv_sub hl [1, 2, 0] rfl) hK33 hK46
    have hw := hw.2 h
    refine lv_aload_n hx hb dX14_entry_20 rfl (lv_at hl 0 rfl) ?_
    refine g14_26 C hH q1966 dX14_entry_21 ?_
    refine lv_iload_n hx hb dX14_entry_24 rfl (lv_at hl 2 rfl) ?_
    have hq2 := vp_lt hw.1
    refine l61 C hH hw.1 dX14_entry_25 ?_
    have hw := hw.2
    refine g16_1 C hH hq2 q1862 dX14_entry_26 ?_
    refine lv_iload_n hx hb dX14_entry_29 rfl (lv_at hl 1 rfl) ?_
    refine lv_icmp_ne (tgt := 40) hx hb dX14_entry_30 (by decide) (fun h => ?_) (fun h => ?_)
    · have hw := hw.1 h
      refine lv_iinc (v := x2 + 1) (lv' := [(2, .int (x2 + 1)), (0, .ref (ga G 14 0)), (1, .int x1)]) hx hb dX14_entry_40 hl (k := 2) rfl rfl (by decide) rfl (fun ls hl => ?_)
      refine lv_goto (tgt := 2) hx hb dX14_entry_43 (by decide) ?_
      exact ih (x2 + 1) hw locs ls hS (lv_sub hl [1, 2, 0] rfl) hK33 hK46
    have hw := hw.2 h
    exact hK33 x2 hw locs ls hS (lv_sub hl [0, 2] rfl)
def w14_entry (σ : St) (x1 : Int32) (Q : Option Nat → Prop) : Prop := ∃ z3, w14_entry_L2 σ x1 Q (fun x2_4 => vp_in x2_4 16 ∧ (Q (some x2_4.toNatClampNeg))) (Q none) z3 0
set_option maxHeartbeats 4000000 in
theorem m14_entry (l : Launch) (G : Gh) (a1 : Nat → Nat → Nat) (τ : St) (σ : St) (H : Heap) (x1 : Int32) (Q : Option Nat → Prop) (hw : w14_entry σ x1 Q) : Met l yX14_entry (ws_ yX14_entry cX14_entry 3 (some (.object "WebHostModel$Entry"))) rmX14_entry (PcP G a1 (cmb τ σ) H [.ref (ga G 14 0), .int x1]) (QEp G H 16 Q) 0 0 (gA G) := by
  refine met_p (by decide) (Nat.le_of_ble_eq_true rfl) ?_
  intro p e s m below meth c ls hHe C hH hS hl
  have C : Cx p e s m _ meth c cX14_entry 3 (some (.object "WebHostModel$Entry")) "WebHostModel" G := C
  have hl : lv_has ls 3 [(0, .ref (ga G 14 0)), (1, .int x1)] := hl
  have hx := C.1
  have hb := C.2.1
  have hown := C.2.2.2.2.2.1
  have hts := C.2.2.2.2.2.2.1
  obtain ⟨locs, hlocs⟩ : ∃ z : List Loc, z = [] := ⟨_, rfl⟩
  rw [← hlocs] at hS ⊢
  refine lv_iconst (v := 0) hx hb dX14_entry_0 (by decide) ?_
  refine lv_istore_n (lv' := [(2, .int 0), (0, .ref (ga G 14 0)), (1, .int x1)]) hx hb dX14_entry_1 rfl hl (by decide) rfl (fun ls hl => ?_)
  obtain ⟨n3, hw⟩ := hw
  refine k14_entry_L2 C σ x1 hH n3 0 hw locs ls hS (lv_sub hl [1, 2, 0] rfl) (fun x2_4 hw locs ls hS hl => ?_) (fun hw locs ls hS hl => ?_)
  · refine lv_aload_n hx hb dX14_entry_33 rfl (lv_at hl 0 rfl) ?_
    refine g14_26 C hH q1966 dX14_entry_34 ?_
    refine lv_iload_n hx hb dX14_entry_37 rfl (lv_at hl 1 rfl) ?_
    have hq6 := vp_lt hw.1
    refine l61 C hH hw.1 dX14_entry_38 ?_
    have hw := hw.2
    exact rt_ep (some x2_4.toNatClampNeg) C rfl hS hw dX14_entry_39
  refine lv_null hx hb dX14_entry_46 ?_
  exact rt_ep none C rfl hS hw dX14_entry_47
/-! WebHostModel.found()I -/
abbrev cX14_found : ByteArray := prog_17_method_98_code
def yX14_found : MethodName := ⟨RX14, "found", "()I"⟩
theorem dX14_found_0 : decode cX14_found 0 = .ok (.iconst 0, 1) := by decide +kernel
theorem dX14_found_1 : decode cX14_found 1 = .ok (.istore_n 1, 1) := by decide +kernel
theorem dX14_found_2 : decode cX14_found 2 = .ok (.iload_n 1, 1) := by decide +kernel
theorem dX14_found_3 : decode cX14_found 3 = .ok (.aload_n 0, 1) := by decide +kernel
theorem dX14_found_4 : decode cX14_found 4 = .ok (.getfield 131, 3) := by decide +kernel
theorem dX14_found_7 : decode cX14_found 7 = .ok (.if_icmp .ge 82, 3) := by decide +kernel
theorem dX14_found_10 : decode cX14_found 10 = .ok (.aload_n 0, 1) := by decide +kernel
theorem dX14_found_11 : decode cX14_found 11 = .ok (.getfield 776, 3) := by decide +kernel
theorem dX14_found_14 : decode cX14_found 14 = .ok (.bipush 48, 2) := by decide +kernel
theorem dX14_found_16 : decode cX14_found 16 = .ok (.if_icmp .ge 73, 3) := by decide +kernel
theorem dX14_found_19 : decode cX14_found 19 = .ok (.iconst 1, 1) := by decide +kernel
theorem dX14_found_20 : decode cX14_found 20 = .ok (.istore_n 2, 1) := by decide +kernel
theorem dX14_found_21 : decode cX14_found 21 = .ok (.iconst 0, 1) := by decide +kernel
theorem dX14_found_22 : decode cX14_found 22 = .ok (.istore_n 3, 1) := by decide +kernel
theorem dX14_found_23 : decode cX14_found 23 = .ok (.iload_n 3, 1) := by decide +kernel
theorem dX14_found_24 : decode cX14_found 24 = .ok (.bipush 48, 2) := by decide +kernel
theorem dX14_found_26 : decode cX14_found 26 = .ok (.if_icmp .ge 51, 3) := by decide +kernel
theorem dX14_found_29 : decode cX14_found 29 = .ok (.iload_n 2, 1) := by decide +kernel
theorem dX14_found_30 : decode cX14_found 30 = .ok (.ifCond .eq 39, 3) := by decide +kernel
theorem dX14_found_33 : decode cX14_found 33 = .ok (.aload_n 0, 1) := by decide +kernel
theorem dX14_found_34 : decode cX14_found 34 = .ok (.getfield 18, 3) := by decide +kernel
theorem dX14_found_37 : decode cX14_found 37 = .ok (.bipush 48, 2) := by decide +kernel
theorem dX14_found_39 : decode cX14_found 39 = .ok (.iload_n 1, 1) := by decide +kernel
theorem dX14_found_40 : decode cX14_found 40 = .ok (.imul, 1) := by decide +kernel
theorem dX14_found_41 : decode cX14_found 41 = .ok (.iload_n 3, 1) := by decide +kernel
theorem dX14_found_42 : decode cX14_found 42 = .ok (.iadd, 1) := by decide +kernel
theorem dX14_found_43 : decode cX14_found 43 = .ok (.baload, 1) := by decide +kernel
theorem dX14_found_44 : decode cX14_found 44 = .ok (.iload_n 3, 1) := by decide +kernel
theorem dX14_found_45 : decode cX14_found 45 = .ok (.aload_n 0, 1) := by decide +kernel
theorem dX14_found_46 : decode cX14_found 46 = .ok (.getfield 776, 3) := by decide +kernel
theorem dX14_found_49 : decode cX14_found 49 = .ok (.if_icmp .ge 12, 3) := by decide +kernel
theorem dX14_found_52 : decode cX14_found 52 = .ok (.aload_n 0, 1) := by decide +kernel
theorem dX14_found_53 : decode cX14_found 53 = .ok (.getfield 77, 3) := by decide +kernel
theorem dX14_found_56 : decode cX14_found 56 = .ok (.iload_n 3, 1) := by decide +kernel
theorem dX14_found_57 : decode cX14_found 57 = .ok (.baload, 1) := by decide +kernel
theorem dX14_found_58 : decode cX14_found 58 = .ok (.goto 4, 3) := by decide +kernel
theorem dX14_found_61 : decode cX14_found 61 = .ok (.iconst 0, 1) := by decide +kernel
theorem dX14_found_62 : decode cX14_found 62 = .ok (.if_icmp .ne 7, 3) := by decide +kernel
theorem dX14_found_65 : decode cX14_found 65 = .ok (.iconst 1, 1) := by decide +kernel
theorem dX14_found_66 : decode cX14_found 66 = .ok (.goto 4, 3) := by decide +kernel
theorem dX14_found_69 : decode cX14_found 69 = .ok (.iconst 0, 1) := by decide +kernel
theorem dX14_found_70 : decode cX14_found 70 = .ok (.istore_n 2, 1) := by decide +kernel
theorem dX14_found_71 : decode cX14_found 71 = .ok (.iinc 3 1, 3) := by decide +kernel
theorem dX14_found_74 : decode cX14_found 74 = .ok (.goto (-51), 3) := by decide +kernel
theorem dX14_found_77 : decode cX14_found 77 = .ok (.iload_n 2, 1) := by decide +kernel
theorem dX14_found_78 : decode cX14_found 78 = .ok (.ifCond .eq 5, 3) := by decide +kernel
theorem dX14_found_81 : decode cX14_found 81 = .ok (.iload_n 1, 1) := by decide +kernel
theorem dX14_found_82 : decode cX14_found 82 = .ok (.ireturn, 1) := by decide +kernel
theorem dX14_found_83 : decode cX14_found 83 = .ok (.iinc 1 1, 3) := by decide +kernel
theorem dX14_found_86 : decode cX14_found 86 = .ok (.goto (-84), 3) := by decide +kernel
theorem dX14_found_89 : decode cX14_found 89 = .ok (.iconst (-1), 1) := by decide +kernel
theorem dX14_found_90 : decode cX14_found 90 = .ok (.ireturn, 1) := by decide +kernel
def rmX14_found : Room := { frames := 0, cells := 0, slots := 0, locals := 0 }
theorem kX14_found : yX14_found.cls = "WebHostModel" ∧ yX14_found.cls ≠ "java/lang/invoke/MethodHandle" ∧ yX14_found.cls ≠ "java/lang/invoke/VarHandle" ∧ (parseMethodDescriptor yX14_found.desc).map (fun d => d.parameters.length) = some 0 := by decide +kernel
def w14_found_L23 (σ : St) (x1 : Int32) (Q : Int32 → Prop) (K77 : Int32 → Prop) : Nat → Int32 → Int32 → Prop
  | 0, _, _ => False
  | n + 1, x2, x3 => (48 ≤ x3 → K77 x2) ∧ (¬ 48 ≤ x3 → ((x2 = 0 → (w14_found_L23 σ x1 Q K77 n 0 (x3 + 1))) ∧ (¬ x2 = 0 → (vp_in ((48 * x1) + x3) 3072 ∧ (by8 (σ 52 0 ((48 * x1) + x3).toNatClampNeg) → (((σ 14 0 59) ≤ x3 → ((¬ (σ 52 0 ((48 * x1) + x3).toNatClampNeg) = 0 → (w14_found_L23 σ x1 Q K77 n 0 (x3 + 1))) ∧ ((σ 52 0 ((48 * x1) + x3).toNatClampNeg) = 0 → (w14_found_L23 σ x1 Q K77 n 1 (x3 + 1))))) ∧ (¬ (σ 14 0 59) ≤ x3 → (vp_in x3 8192 ∧ (by8 (σ 67 0 x3.toNatClampNeg) → ((¬ (σ 52 0 ((48 * x1) + x3).toNatClampNeg) = (σ 67 0 x3.toNatClampNeg) → (w14_found_L23 σ x1 Q K77 n 0 (x3 + 1))) ∧ ((σ 52 0 ((48 * x1) + x3).toNatClampNeg) = (σ 67 0 x3.toNatClampNeg) → (w14_found_L23 σ x1 Q K77 n 1 (x3 + 1)))))))))))))
set_option maxHeartbeats 4000000 in
theorem k14_found_L23 {p : Program} {l : Launch} {e : Env} {s : State} {m : MethodId} {args : Array Value} {below : List Frame} {meth : Method} {c : Code} {G : Gh} {a1 : Nat → Nat → Nat} {τ : St} {H : Heap} {Q : Int32 → Prop} {K77 : Int32 → Prop} (C : Cx p e s m args meth c cX14_found 4 (some .int) "WebHostModel" G) (σ : St) (x1 : Int32) (hH : Hd G a1 (cmb τ σ) H) :
    ∀ (n : Nat) (x2 : Int32) (x3 : Int32), w14_found_L23 σ x1 Q K77 n x2 x3 → ∀ (locs : List Loc) (ls : Array Slot), va_S (gA G) s.heap H locs → lv_has ls 4 [(0, .ref (ga G 14 0)), (1, .int x1), (2, .int x2), (3, .int x3)] → (∀ (x2 : Int32), K77 x2 → ∀ (locs : List Loc) (ls : Array Slot), va_S (gA G) s.heap H locs → lv_has ls 4 [(0, .ref (ga G 14 0)), (1, .int x1), (2, .int x2)] → W p l e rmX14_found s m args below meth c H locs 0 0 (MQ below (QIp G H Q) args s 0 0 (gA G)) (F0 m 77 ls [])) → W p l e rmX14_found s m args below meth c H locs 0 0 (MQ below (QIp G H Q) args s 0 0 (gA G)) (F0 m 23 ls []) := by
  have hx := C.1
  have hb := C.2.1
  have hown := C.2.2.2.2.2.1
  have hts := C.2.2.2.2.2.2.1
  intro n
  induction n with
  | zero =>
    intro x2 x3 hw
    exact False.elim hw
  | succ n ih =>
    intro x2 x3 hw locs ls hS hl hK77
    refine lv_iload_n hx hb dX14_found_23 rfl (lv_at hl 3 rfl) ?_
    refine lv_bipush (v := 48) hx hb dX14_found_24 (by decide) ?_
    refine lv_icmp_ge (tgt := 77) hx hb dX14_found_26 (by decide) (fun h => ?_) (fun h => ?_)
    · have hw := hw.1 h
      exact hK77 x2 hw locs ls hS (lv_sub hl [0, 1, 2] rfl)
    have hw := hw.2 h
    refine lv_iload_n hx hb dX14_found_29 rfl (lv_at hl 2 rfl) ?_
    refine lv_if_eq (tgt := 69) hx hb dX14_found_30 (by decide) (fun h => ?_) (fun h => ?_)
    · have hw := hw.1 h
      refine lv_iconst (v := 0) hx hb dX14_found_69 (by decide) ?_
      refine lv_istore_n (lv' := [(2, .int 0), (0, .ref (ga G 14 0)), (1, .int x1), (3, .int x3)]) hx hb dX14_found_70 rfl hl (by decide) rfl (fun ls hl => ?_)
      refine lv_iinc (v := x3 + 1) (lv' := [(3, .int (x3 + 1)), (2, .int 0), (0, .ref (ga G 14 0)), (1, .int x1)]) hx hb dX14_found_71 hl (k := 3) rfl rfl (by decide) rfl (fun ls hl => ?_)
      refine lv_goto (tgt := 23) hx hb dX14_found_74 (by decide) ?_
      exact ih 0 (x3 + 1) hw locs ls hS (lv_sub hl [2, 3, 1, 0] rfl) hK77
    have hw := hw.2 h
    refine lv_aload_n hx hb dX14_found_33 rfl (lv_at hl 0 rfl) ?_
    refine g14_13 C hH q1953 dX14_found_34 ?_
    refine lv_bipush (v := 48) hx hb dX14_found_37 (by decide) ?_
    refine lv_iload_n hx hb dX14_found_39 rfl (lv_at hl 1 rfl) ?_
    refine lv_imul hx hb dX14_found_40 ?_
    refine lv_iload_n hx hb dX14_found_41 rfl (lv_at hl 3 rfl) ?_
    refine lv_iadd hx hb dX14_found_42 ?_
    refine l52 C hH hw.1 dX14_found_43 (fun hz => ?_)
    have hw := hw.2 hz
    refine lv_iload_n hx hb dX14_found_44 rfl (lv_at hl 3 rfl) ?_
    refine lv_aload_n hx hb dX14_found_45 rfl (lv_at hl 0 rfl) ?_
    refine g14_59 C hH q1999 dX14_found_46 ?_
    refine lv_icmp_ge (tgt := 61) hx hb dX14_found_49 (by decide) (fun h => ?_) (fun h => ?_)
    · have hw := hw.1 h
      refine lv_iconst (v := 0) hx hb dX14_found_61 (by decide) ?_
      refine lv_icmp_ne (tgt := 69) hx hb dX14_found_62 (by decide) (fun h => ?_) (fun h => ?_)
      · have hw := hw.1 h
        refine lv_iconst (v := 0) hx hb dX14_found_69 (by decide) ?_
        refine lv_istore_n (lv' := [(2, .int 0), (0, .ref (ga G 14 0)), (1, .int x1), (3, .int x3)]) hx hb dX14_found_70 rfl hl (by decide) rfl (fun ls hl => ?_)
        refine lv_iinc (v := x3 + 1) (lv' := [(3, .int (x3 + 1)), (2, .int 0), (0, .ref (ga G 14 0)), (1, .int x1)]) hx hb dX14_found_71 hl (k := 3) rfl rfl (by decide) rfl (fun ls hl => ?_)
        refine lv_goto (tgt := 23) hx hb dX14_found_74 (by decide) ?_
        exact ih 0 (x3 + 1) hw locs ls hS (lv_sub hl [2, 3, 1, 0] rfl) hK77
      have hw := hw.2 h
      refine lv_iconst (v := 1) hx hb dX14_found_65 (by decide) ?_
      refine lv_goto (tgt := 70) hx hb dX14_found_66 (by decide) ?_
      refine lv_istore_n (lv' := [(2, .int 1), (0, .ref (ga G 14 0)), (1, .int x1), (3, .int x3)]) hx hb dX14_found_70 rfl hl (by decide) rfl (fun ls hl => ?_)
      refine lv_iinc (v := x3 + 1) (lv' := [(3, .int (x3 + 1)), (2, .int 1), (0, .ref (ga G 14 0)), (1, .int x1)]) hx hb dX14_found_71 hl (k := 3) rfl rfl (by decide) rfl (fun ls hl => ?_)
      refine lv_goto (tgt := 23) hx hb dX14_found_74 (by decide) ?_
      exact ih 1 (x3 + 1) hw locs ls hS (lv_sub hl [2, 3, 1, 0] rfl) hK77
    have hw := hw.2 h
    refine lv_aload_n hx hb dX14_found_52 rfl (lv_at hl 0 rfl) ?_
    refine g14_58 C hH q1998 dX14_found_53 ?_
    refine lv_iload_n hx hb dX14_found_56 rfl (lv_at hl 3 rfl) ?_
    refine l67 C hH hw.1 dX14_found_57 (fun hz => ?_)
    have hw := hw.2 hz
    refine lv_goto (tgt := 62) hx hb dX14_found_58 (by decide) ?_
    refine lv_icmp_ne (tgt := 69) hx hb dX14_found_62 (by decide) (fun h => ?_) (fun h => ?_)
    · have hw := hw.1 h
      refine lv_iconst (v := 0) hx hb dX14_found_69 (by decide) ?_
      refine lv_istore_n (lv' := [(2, .int 0), (0, .ref (ga G 14 0)), (1, .int x1), (3, .int x3)]) hx hb dX14_found_70 rfl hl (by decide) rfl (fun ls hl => ?_)
      refine lv_iinc (v := x3 + 1) (lv' := [(3, .int (x3 + 1)), (2, .int 0), (0, .ref (ga G 14 0)), (1, .int x1)]) hx hb dX14_found_71 hl (k := 3) rfl rfl (by decide) rfl (fun ls hl => ?_)
      refine lv_goto (tgt := 23) hx hb dX14_found_74 (by decide) ?_
      exact ih 0 (x3 + 1) hw locs ls hS (lv_sub hl [2, 3, 1, 0] rfl) hK77
    have hw := hw.2 h
    refine lv_iconst (v := 1) hx hb dX14_found_65 (by decide) ?_
    refine lv_goto (tgt := 70) hx hb dX14_found_66 (by decide) ?_
    refine lv_istore_n (lv' := [(2, .int 1), (0, .ref (ga G 14 0)), (1, .int x1), (3, .int x3)]) hx hb dX14_found_70 rfl hl (by decide) rfl (fun ls hl => ?_)
    refine lv_iinc (v := x3 + 1) (lv' := [(3, .int (x3 + 1)), (2, .int 1), (0, .ref (ga G 14 0)), (1, .int x1)]) hx hb dX14_found_71 hl (k := 3) rfl rfl (by decide) rfl (fun ls hl => ?_)
    refine lv_goto (tgt := 23) hx hb dX14_found_74 (by decide) ?_
    exact ih 1 (x3 + 1) hw locs ls hS (lv_sub hl [2, 3, 1, 0] rfl) hK77
def w14_found_L2 (σ : St) (Q : Int32 → Prop) (K81 : Int32 → Prop) (K89 : Prop) : Nat → Int32 → Prop
  | 0, _ => False
  | n + 1, x1 => ((σ 14 0 11) ≤ x1 → K89) ∧ (¬ (σ 14 0 11) ≤ x1 → ((48 ≤ (σ 14 0 59) → K89) ∧ (¬ 48 ≤ (σ 14 0 59) → (∃ z1, w14_found_L23 σ x1 Q (fun x2_2 => (x2_2 = 0 → (w14_found_L2 σ Q K81 K89 n (x1 + 1))) ∧ (¬ x2_2 = 0 → K81 x1)) z1 1 0))))
set_option maxHeartbeats 4000000 in
theorem k14_found_L2 {p : Program} {l : Launch} {e : Env} {s : State} {m : MethodId} {args : Array Value} {below : List Frame} {meth : Method} {c : Code} {G : Gh} {a1 : Nat → Nat → Nat} {τ : St} {H : Heap} {Q : Int32 → Prop} {K81 : Int32 → Prop} {K89 : Prop} (C : Cx p e s m args meth c cX14_found 4 (some .int) "WebHostModel" G) (σ : St) (hH : Hd G a1 (cmb τ σ) H) :
    ∀ (n : Nat) (x1 : Int32), w14_found_L2 σ Q K81 K89 n x1 → ∀ (locs : List Loc) (ls : Array Slot), va_S (gA G) s.heap H locs → lv_has ls 4 [(0, .ref (ga G 14 0)), (1, .int x1)] → (∀ (x1 : Int32), K81 x1 → ∀ (locs : List Loc) (ls : Array Slot), va_S (gA G) s.heap H locs → lv_has ls 4 [(1, .int x1)] → W p l e rmX14_found s m args below meth c H locs 0 0 (MQ below (QIp G H Q) args s 0 0 (gA G)) (F0 m 81 ls [])) → (K89 → ∀ (locs : List Loc) (ls : Array Slot), va_S (gA G) s.heap H locs → lv_has ls 4 [] → W p l e rmX14_found s m args below meth c H locs 0 0 (MQ below (QIp G H Q) args s 0 0 (gA G)) (F0 m 89 ls [])) → W p l e rmX14_found s m args below meth c H locs 0 0 (MQ below (QIp G H Q) args s 0 0 (gA G)) (F0 m 2 ls []) := by
  have hx := C.1
  have hb := C.2.1
  have hown := C.2.2.2.2.2.1
  have hts := C.2.2.2.2.2.2.1
  intro n
  induction n with
  | zero =>
    intro x1 hw
    exact False.elim hw
  | succ n ih =>
    intro x1 hw locs ls hS hl hK81 hK89
    refine lv_iload_n hx hb dX14_found_2 rfl (lv_at hl 1 rfl) ?_
    refine lv_aload_n hx hb dX14_found_3 rfl (lv_at hl 0 rfl) ?_
    refine g14_11 C hH q1951 dX14_found_4 ?_
    refine lv_icmp_ge (tgt := 89) hx hb dX14_found_7 (by decide) (fun h => ?_) (fun h => ?_)
    · have hw := hw.1 h
      exact hK89 hw locs ls hS (lv_sub hl [] rfl)
    have hw := hw.2 h
    refine lv_aload_n hx hb dX14_found_10 rfl (lv_at hl 0 rfl) ?_
    refine g14_59 C hH q1999 dX14_found_11 ?_
    refine lv_bipush (v := 48) hx hb dX14_found_14 (by decide) ?_
    refine lv_icmp_ge (tgt := 89) hx hb dX14_found_16 (by decide) (fun h => ?_) (fun h => ?_)
    · have hw := hw.1 h
      exact hK89 hw locs ls hS (lv_sub hl [] rfl)
    have hw := hw.2 h
    refine lv_iconst (v := 1) hx hb dX14_found_19 (by decide) ?_
    refine lv_istore_n (lv' := [(2, .int 1), (0, .ref (ga G 14 0)), (1, .int x1)]) hx hb dX14_found_20 rfl hl (by decide) rfl (fun ls hl => ?_)
    refine lv_iconst (v := 0) hx hb dX14_found_21 (by decide) ?_
    refine lv_istore_n (lv' := [(3, .int 0), (2, .int 1), (0, .ref (ga G 14 0)), (1, .int x1)]) hx hb dX14_found_22 rfl hl (by decide) rfl (fun ls hl => ?_)
    obtain ⟨n1, hw⟩ := hw
    refine k14_found_L23 C σ x1 hH n1 1 0 hw locs ls hS (lv_sub hl [2, 3, 1, 0] rfl) (fun x2_2 hw locs ls hS hl => ?_)
    refine lv_iload_n hx hb dX14_found_77 rfl (lv_at hl 2 rfl) ?_
    refine lv_if_eq (tgt := 83) hx hb dX14_found_78 (by decide) (fun h => ?_) (fun h => ?_)
    · have hw := hw.1 h
      refine lv_iinc (v := x1 + 1) (lv' := [(1, .int (x1 + 1)), (0, .ref (ga G 14 0)), (2, .int x2_2)]) hx hb dX14_found_83 hl (k := 1) rfl rfl (by decide) rfl (fun ls hl => ?_)
      refine lv_goto (tgt := 2) hx hb dX14_found_86 (by decide) ?_
      exact ih (x1 + 1) hw locs ls hS (lv_sub hl [1, 0] rfl) hK81 hK89
    have hw := hw.2 h
    exact hK81 x1 hw locs ls hS (lv_sub hl [1] rfl)
def w14_found (σ : St) (Q : Int32 → Prop) : Prop := ∃ z3, w14_found_L2 σ Q (fun x1_4 => Q x1_4) (Q (-1)) z3 0
set_option maxHeartbeats 4000000 in
theorem m14_found (l : Launch) (G : Gh) (a1 : Nat → Nat → Nat) (τ : St) (σ : St) (H : Heap) (Q : Int32 → Prop) (hw : w14_found σ Q) : Met l yX14_found (ws_ yX14_found cX14_found 4 (some .int)) rmX14_found (PcP G a1 (cmb τ σ) H [.ref (ga G 14 0)]) (QIp G H Q) 0 0 (gA G) := by
  refine met_p (by decide) (Nat.le_of_ble_eq_true rfl) ?_
  intro p e s m below meth c ls hHe C hH hS hl
  have C : Cx p e s m _ meth c cX14_found 4 (some .int) "WebHostModel" G := C
  have hl : lv_has ls 4 [(0, .ref (ga G 14 0))] := hl
  have hx := C.1
  have hb := C.2.1
  have hown := C.2.2.2.2.2.1
  have hts := C.2.2.2.2.2.2.1
  obtain ⟨locs, hlocs⟩ : ∃ z : List Loc, z = [] := ⟨_, rfl⟩
  rw [← hlocs] at hS ⊢
  refine lv_iconst (v := 0) hx hb dX14_found_0 (by decide) ?_
  refine lv_istore_n (lv' := [(1, .int 0), (0, .ref (ga G 14 0))]) hx hb dX14_found_1 rfl hl (by decide) rfl (fun ls hl => ?_)
  obtain ⟨n3, hw⟩ := hw
  refine k14_found_L2 C σ hH n3 0 hw locs ls hS (lv_sub hl [1, 0] rfl) (fun x1_4 hw locs ls hS hl => ?_) (fun hw locs ls hS hl => ?_)
  · refine lv_iload_n hx hb dX14_found_81 rfl (lv_at hl 0 rfl) ?_
    exact rt_ip C rfl hS hw dX14_found_82
  refine lv_iconst (v := (-1)) hx hb dX14_found_89 (by decide) ?_
  exact rt_ip C rfl hS hw dX14_found_90
/-! WebHostModel.gone(LWebHostModel$Connection;)V -/
abbrev cX14_gone : ByteArray := prog_17_method_54_code
def yX14_gone : MethodName := ⟨RX14, "gone", "(LWebHostModel$Connection;)V"⟩
theorem dX14_gone_0 : decode cX14_gone 0 = .ok (.aload_n 1, 1) := by decide +kernel
theorem dX14_gone_1 : decode cX14_gone 1 = .ok (.iconst 0, 1) := by decide +kernel
theorem dX14_gone_2 : decode cX14_gone 2 = .ok (.putfield 152, 3) := by decide +kernel
theorem dX14_gone_5 : decode cX14_gone 5 = .ok (.aload_n 1, 1) := by decide +kernel
theorem dX14_gone_6 : decode cX14_gone 6 = .ok (.iconst 0, 1) := by decide +kernel
theorem dX14_gone_7 : decode cX14_gone 7 = .ok (.putfield 376, 3) := by decide +kernel
theorem dX14_gone_10 : decode cX14_gone 10 = .ok (.return_, 1) := by decide +kernel
def rmX14_gone : Room := { frames := 0, cells := 0, slots := 0, locals := 0 }
theorem kX14_gone : yX14_gone.cls = "WebHostModel" ∧ yX14_gone.cls ≠ "java/lang/invoke/MethodHandle" ∧ yX14_gone.cls ≠ "java/lang/invoke/VarHandle" ∧ (parseMethodDescriptor yX14_gone.desc).map (fun d => d.parameters.length) = some 1 := by decide +kernel
def w14_gone (σ : St) (o1 : Nat) (Q : St → Prop) : Prop := ∀ σ1, σ1 = up3 σ 15 o1 0 0 → (∀ σ2, σ2 = up3 σ1 15 o1 21 0 → (Q σ2))
set_option maxHeartbeats 4000000 in
theorem m14_gone (l : Launch) (G : Gh) (a1 : Nat → Nat → Nat) (τ : St) (σ : St) (o1 : Nat) (ho1 : o1 < 16) (Q : St → Prop) (hw : w14_gone σ o1 Q) : Met l yX14_gone (ws_ yX14_gone cX14_gone 2 none) rmX14_gone (PcS G a1 (cmb τ σ) [.ref (ga G 14 0), .ref (ga G 15 o1)]) (QVs G a1 (fun u => cmb τ u) Q) 0 0 (gA G) := by
  refine met_w (by decide) (Nat.le_of_ble_eq_true rfl) ?_
  intro p e s m below meth c ls C hH hS hl
  have C : Cx p e s m _ meth c cX14_gone 2 none "WebHostModel" G := C
  have hl : lv_has ls 2 [(0, .ref (ga G 14 0)), (1, .ref (ga G 15 o1))] := hl
  have hx := C.1
  have hb := C.2.1
  have hown := C.2.2.2.2.2.1
  have hts := C.2.2.2.2.2.2.1
  obtain ⟨locs, hlocs⟩ : ∃ z : List Loc, z = [] := ⟨_, rfl⟩
  obtain ⟨H, hHe⟩ : ∃ z : Heap, z = s.heap := ⟨_, rfl⟩
  have hH : Hd G a1 (cmb τ σ) H := by rw [hHe]; exact hH
  have hS : va_S (gA G) s.heap H locs := by rw [hHe, hlocs]; exact hS
  refine W.heap0 hHe.symm hlocs.symm ?_
  refine lv_aload_n hx hb dX14_gone_0 rfl (lv_at hl 1 rfl) ?_
  refine lv_iconst (v := 0) hx hb dX14_gone_1 (by decide) ?_
  refine p15_0 C hH hS ho1 q1707 dX14_gone_2 (fun σ1 e1 H locs hH hS => ?_)
  have hw := hw σ1 e1
  refine lv_aload_n hx hb dX14_gone_5 rfl (lv_at hl 1 rfl) ?_
  refine lv_iconst (v := 0) hx hb dX14_gone_6 (by decide) ?_
  refine p15_21 C hH hS ho1 (Or.inl rfl) q1728 dX14_gone_7 (fun σ2 e2 H locs hH hS => ?_)
  have hw := hw σ2 e2
  exact rt_v C hH hS hw dX14_gone_10
/-! WebHostModel.half(I)I -/
abbrev cX14_half : ByteArray := prog_17_method_34_code
def yX14_half : MethodName := ⟨RX14, "half", "(I)I"⟩
theorem dX14_half_0 : decode cX14_half 0 = .ok (.aload_n 0, 1) := by decide +kernel
theorem dX14_half_1 : decode cX14_half 1 = .ok (.getfield 65, 3) := by decide +kernel
theorem dX14_half_4 : decode cX14_half 4 = .ok (.iload_n 1, 1) := by decide +kernel
theorem dX14_half_5 : decode cX14_half 5 = .ok (.baload, 1) := by decide +kernel
theorem dX14_half_6 : decode cX14_half 6 = .ok (.sipush 255, 3) := by decide +kernel
theorem dX14_half_9 : decode cX14_half 9 = .ok (.iand, 1) := by decide +kernel
theorem dX14_half_10 : decode cX14_half 10 = .ok (.bipush 8, 2) := by decide +kernel
theorem dX14_half_12 : decode cX14_half 12 = .ok (.ishl, 1) := by decide +kernel
theorem dX14_half_13 : decode cX14_half 13 = .ok (.aload_n 0, 1) := by decide +kernel
theorem dX14_half_14 : decode cX14_half 14 = .ok (.getfield 65, 3) := by decide +kernel
theorem dX14_half_17 : decode cX14_half 17 = .ok (.iload_n 1, 1) := by decide +kernel
theorem dX14_half_18 : decode cX14_half 18 = .ok (.iconst 1, 1) := by decide +kernel
theorem dX14_half_19 : decode cX14_half 19 = .ok (.iadd, 1) := by decide +kernel
theorem dX14_half_20 : decode cX14_half 20 = .ok (.baload, 1) := by decide +kernel
theorem dX14_half_21 : decode cX14_half 21 = .ok (.sipush 255, 3) := by decide +kernel
theorem dX14_half_24 : decode cX14_half 24 = .ok (.iand, 1) := by decide +kernel
theorem dX14_half_25 : decode cX14_half 25 = .ok (.ior, 1) := by decide +kernel
theorem dX14_half_26 : decode cX14_half 26 = .ok (.ireturn, 1) := by decide +kernel
def rmX14_half : Room := { frames := 0, cells := 0, slots := 0, locals := 0 }
theorem kX14_half : yX14_half.cls = "WebHostModel" ∧ yX14_half.cls ≠ "java/lang/invoke/MethodHandle" ∧ yX14_half.cls ≠ "java/lang/invoke/VarHandle" ∧ (parseMethodDescriptor yX14_half.desc).map (fun d => d.parameters.length) = some 1 := by decide +kernel
def w14_half (σ : St) (x1 : Int32) (Q : Int32 → Prop) : Prop := vp_in x1 4096 ∧ (by8 (σ 64 0 x1.toNatClampNeg) → (vp_in (x1 + 1) 4096 ∧ (by8 (σ 64 0 (x1 + 1).toNatClampNeg) → (Q ((((σ 64 0 x1.toNatClampNeg) &&& 255) <<< ((8 : Int32) &&& 31)) ||| ((σ 64 0 (x1 + 1).toNatClampNeg) &&& 255))))))
set_option maxHeartbeats 4000000 in
theorem m14_half (l : Launch) (G : Gh) (a1 : Nat → Nat → Nat) (τ : St) (σ : St) (H : Heap) (x1 : Int32) (Q : Int32 → Prop) (hw : w14_half σ x1 Q) : Met l yX14_half (ws_ yX14_half cX14_half 2 (some .int)) rmX14_half (PcP G a1 (cmb τ σ) H [.ref (ga G 14 0), .int x1]) (QIp G H Q) 0 0 (gA G) := by
  refine met_p (by decide) (Nat.le_of_ble_eq_true rfl) ?_
  intro p e s m below meth c ls hHe C hH hS hl
  have C : Cx p e s m _ meth c cX14_half 2 (some .int) "WebHostModel" G := C
  have hl : lv_has ls 2 [(0, .ref (ga G 14 0)), (1, .int x1)] := hl
  have hx := C.1
  have hb := C.2.1
  have hown := C.2.2.2.2.2.1
  have hts := C.2.2.2.2.2.2.1
  obtain ⟨locs, hlocs⟩ : ∃ z : List Loc, z = [] := ⟨_, rfl⟩
  rw [← hlocs] at hS ⊢
  refine lv_aload_n hx hb dX14_half_0 rfl (lv_at hl 0 rfl) ?_
  refine g14_29 C hH q1969 dX14_half_1 ?_
  refine lv_iload_n hx hb dX14_half_4 rfl (lv_at hl 1 rfl) ?_
  refine l64 C hH hw.1 dX14_half_5 (fun hz => ?_)
  have hw := hw.2 hz
  refine lv_sipush (v := 255) hx hb dX14_half_6 (by decide) ?_
  refine lv_iand hx hb dX14_half_9 ?_
  refine lv_bipush (v := 8) hx hb dX14_half_10 (by decide) ?_
  refine lv_ishl hx hb dX14_half_12 ?_
  refine lv_aload_n hx hb dX14_half_13 rfl (lv_at hl 0 rfl) ?_
  refine g14_29 C hH q1969 dX14_half_14 ?_
  refine lv_iload_n hx hb dX14_half_17 rfl (lv_at hl 1 rfl) ?_
  refine lv_iconst (v := 1) hx hb dX14_half_18 (by decide) ?_
  refine lv_iadd hx hb dX14_half_19 ?_
  refine l64 C hH hw.1 dX14_half_20 (fun hz => ?_)
  have hw := hw.2 hz
  refine lv_sipush (v := 255) hx hb dX14_half_21 (by decide) ?_
  refine lv_iand hx hb dX14_half_24 ?_
  refine lv_ior hx hb dX14_half_25 ?_
  exact rt_ip C rfl hS hw dX14_half_26
/-! WebHostModel.headAt(I)I -/
abbrev cX14_headAt : ByteArray := prog_17_method_80_code
def yX14_headAt : MethodName := ⟨RX14, "headAt", "(I)I"⟩
theorem dX14_headAt_0 : decode cX14_headAt 0 = .ok (.aload_n 0, 1) := by decide +kernel
theorem dX14_headAt_1 : decode cX14_headAt 1 = .ok (.getfield 74, 3) := by decide +kernel
theorem dX14_headAt_4 : decode cX14_headAt 4 = .ok (.iload_n 1, 1) := by decide +kernel
theorem dX14_headAt_5 : decode cX14_headAt 5 = .ok (.baload, 1) := by decide +kernel
theorem dX14_headAt_6 : decode cX14_headAt 6 = .ok (.sipush 255, 3) := by decide +kernel
theorem dX14_headAt_9 : decode cX14_headAt 9 = .ok (.iand, 1) := by decide +kernel
theorem dX14_headAt_10 : decode cX14_headAt 10 = .ok (.ireturn, 1) := by decide +kernel
def rmX14_headAt : Room := { frames := 0, cells := 0, slots := 0, locals := 0 }
theorem kX14_headAt : yX14_headAt.cls = "WebHostModel" ∧ yX14_headAt.cls ≠ "java/lang/invoke/MethodHandle" ∧ yX14_headAt.cls ≠ "java/lang/invoke/VarHandle" ∧ (parseMethodDescriptor yX14_headAt.desc).map (fun d => d.parameters.length) = some 1 := by decide +kernel
def w14_headAt (σ : St) (x1 : Int32) (Q : Int32 → Prop) : Prop := vp_in x1 4096 ∧ (by8 (σ 66 0 x1.toNatClampNeg) → (Q ((σ 66 0 x1.toNatClampNeg) &&& 255)))
set_option maxHeartbeats 4000000 in
theorem m14_headAt (l : Launch) (G : Gh) (a1 : Nat → Nat → Nat) (τ : St) (σ : St) (H : Heap) (x1 : Int32) (Q : Int32 → Prop) (hw : w14_headAt σ x1 Q) : Met l yX14_headAt (ws_ yX14_headAt cX14_headAt 2 (some .int)) rmX14_headAt (PcP G a1 (cmb τ σ) H [.ref (ga G 14 0), .int x1]) (QIp G H Q) 0 0 (gA G) := by
  refine met_p (by decide) (Nat.le_of_ble_eq_true rfl) ?_
  intro p e s m below meth c ls hHe C hH hS hl
  have C : Cx p e s m _ meth c cX14_headAt 2 (some .int) "WebHostModel" G := C
  have hl : lv_has ls 2 [(0, .ref (ga G 14 0)), (1, .int x1)] := hl
  have hx := C.1
  have hb := C.2.1
  have hown := C.2.2.2.2.2.1
  have hts := C.2.2.2.2.2.2.1
  obtain ⟨locs, hlocs⟩ : ∃ z : List Loc, z = [] := ⟨_, rfl⟩
  rw [← hlocs] at hS ⊢
  refine lv_aload_n hx hb dX14_headAt_0 rfl (lv_at hl 0 rfl) ?_
  refine g14_41 C hH q1981 dX14_headAt_1 ?_
  refine lv_iload_n hx hb dX14_headAt_4 rfl (lv_at hl 1 rfl) ?_
  refine l66 C hH hw.1 dX14_headAt_5 (fun hz => ?_)
  have hw := hw.2 hz
  refine lv_sipush (v := 255) hx hb dX14_headAt_6 (by decide) ?_
  refine lv_iand hx hb dX14_headAt_9 ?_
  exact rt_ip C rfl hS hw dX14_headAt_10
/-! WebHostModel.hexDigit(II)I -/
abbrev cX14_hexDigit : ByteArray := prog_17_method_99_code
def yX14_hexDigit : MethodName := ⟨RX14, "hexDigit", "(II)I"⟩
theorem dX14_hexDigit_0 : decode cX14_hexDigit 0 = .ok (.iload_n 0, 1) := by decide +kernel
theorem dX14_hexDigit_1 : decode cX14_hexDigit 1 = .ok (.bipush 28, 2) := by decide +kernel
theorem dX14_hexDigit_3 : decode cX14_hexDigit 3 = .ok (.iconst 4, 1) := by decide +kernel
theorem dX14_hexDigit_4 : decode cX14_hexDigit 4 = .ok (.iload_n 1, 1) := by decide +kernel
theorem dX14_hexDigit_5 : decode cX14_hexDigit 5 = .ok (.imul, 1) := by decide +kernel
theorem dX14_hexDigit_6 : decode cX14_hexDigit 6 = .ok (.isub, 1) := by decide +kernel
theorem dX14_hexDigit_7 : decode cX14_hexDigit 7 = .ok (.ishr, 1) := by decide +kernel
theorem dX14_hexDigit_8 : decode cX14_hexDigit 8 = .ok (.bipush 15, 2) := by decide +kernel
theorem dX14_hexDigit_10 : decode cX14_hexDigit 10 = .ok (.iand, 1) := by decide +kernel
theorem dX14_hexDigit_11 : decode cX14_hexDigit 11 = .ok (.istore_n 2, 1) := by decide +kernel
theorem dX14_hexDigit_12 : decode cX14_hexDigit 12 = .ok (.iload_n 2, 1) := by decide +kernel
theorem dX14_hexDigit_13 : decode cX14_hexDigit 13 = .ok (.bipush 10, 2) := by decide +kernel
theorem dX14_hexDigit_15 : decode cX14_hexDigit 15 = .ok (.if_icmp .ge 10, 3) := by decide +kernel
theorem dX14_hexDigit_18 : decode cX14_hexDigit 18 = .ok (.bipush 48, 2) := by decide +kernel
theorem dX14_hexDigit_20 : decode cX14_hexDigit 20 = .ok (.iload_n 2, 1) := by decide +kernel
theorem dX14_hexDigit_21 : decode cX14_hexDigit 21 = .ok (.iadd, 1) := by decide +kernel
theorem dX14_hexDigit_22 : decode cX14_hexDigit 22 = .ok (.goto 10, 3) := by decide +kernel
theorem dX14_hexDigit_25 : decode cX14_hexDigit 25 = .ok (.bipush 97, 2) := by decide +kernel
theorem dX14_hexDigit_27 : decode cX14_hexDigit 27 = .ok (.iload_n 2, 1) := by decide +kernel
theorem dX14_hexDigit_28 : decode cX14_hexDigit 28 = .ok (.iadd, 1) := by decide +kernel
theorem dX14_hexDigit_29 : decode cX14_hexDigit 29 = .ok (.bipush 10, 2) := by decide +kernel
theorem dX14_hexDigit_31 : decode cX14_hexDigit 31 = .ok (.isub, 1) := by decide +kernel
theorem dX14_hexDigit_32 : decode cX14_hexDigit 32 = .ok (.ireturn, 1) := by decide +kernel
def rmX14_hexDigit : Room := { frames := 0, cells := 0, slots := 0, locals := 0 }
theorem kX14_hexDigit : yX14_hexDigit.cls = "WebHostModel" ∧ yX14_hexDigit.cls ≠ "java/lang/invoke/MethodHandle" ∧ yX14_hexDigit.cls ≠ "java/lang/invoke/VarHandle" ∧ (parseMethodDescriptor yX14_hexDigit.desc).map (fun d => d.parameters.length) = some 2 := by decide +kernel
def w14_hexDigit (σ : St) (x0 : Int32) (x1 : Int32) (Q : Int32 → Prop) : Prop := (10 ≤ ((x0 >>> ((28 - (4 * x1)) &&& 31)) &&& 15) → (Q ((97 + ((x0 >>> ((28 - (4 * x1)) &&& 31)) &&& 15)) - 10))) ∧ (¬ 10 ≤ ((x0 >>> ((28 - (4 * x1)) &&& 31)) &&& 15) → (Q (48 + ((x0 >>> ((28 - (4 * x1)) &&& 31)) &&& 15))))
set_option maxHeartbeats 4000000 in
theorem m14_hexDigit (l : Launch) (G : Gh) (a1 : Nat → Nat → Nat) (τ : St) (σ : St) (H : Heap) (x0 : Int32) (x1 : Int32) (Q : Int32 → Prop) (hw : w14_hexDigit σ x0 x1 Q) : Met l yX14_hexDigit (ws_ yX14_hexDigit cX14_hexDigit 3 (some .int)) rmX14_hexDigit (PcP G a1 (cmb τ σ) H [.int x0, .int x1]) (QIp G H Q) 0 0 (gA G) := by
  refine met_p (by decide) (Nat.le_of_ble_eq_true rfl) ?_
  intro p e s m below meth c ls hHe C hH hS hl
  have C : Cx p e s m _ meth c cX14_hexDigit 3 (some .int) "WebHostModel" G := C
  have hl : lv_has ls 3 [(0, .int x0), (1, .int x1)] := hl
  have hx := C.1
  have hb := C.2.1
  have hown := C.2.2.2.2.2.1
  have hts := C.2.2.2.2.2.2.1
  obtain ⟨locs, hlocs⟩ : ∃ z : List Loc, z = [] := ⟨_, rfl⟩
  rw [← hlocs] at hS ⊢
  refine lv_iload_n hx hb dX14_hexDigit_0 rfl (lv_at hl 0 rfl) ?_
  refine lv_bipush (v := 28) hx hb dX14_hexDigit_1 (by decide) ?_
  refine lv_iconst (v := 4) hx hb dX14_hexDigit_3 (by decide) ?_
  refine lv_iload_n hx hb dX14_hexDigit_4 rfl (lv_at hl 1 rfl) ?_
  refine lv_imul hx hb dX14_hexDigit_5 ?_
  refine lv_isub hx hb dX14_hexDigit_6 ?_
  refine lv_ishr hx hb dX14_hexDigit_7 ?_
  refine lv_bipush (v := 15) hx hb dX14_hexDigit_8 (by decide) ?_
  refine lv_iand hx hb dX14_hexDigit_10 ?_
  refine lv_istore_n (lv' := [(2, .int ((x0 >>> ((28 - (4 * x1)) &&& 31)) &&& 15)), (0, .int x0), (1, .int x1)]) hx hb dX14_hexDigit_11 rfl hl (by decide) rfl (fun ls hl => ?_)
  refine lv_iload_n hx hb dX14_hexDigit_12 rfl (lv_at hl 0 rfl) ?_
  refine lv_bipush (v := 10) hx hb dX14_hexDigit_13 (by decide) ?_
  refine lv_icmp_ge (tgt := 25) hx hb dX14_hexDigit_15 (by decide) (fun h => ?_) (fun h => ?_)
  · have hw := hw.1 h
    refine lv_bipush (v := 97) hx hb dX14_hexDigit_25 (by decide) ?_
    refine lv_iload_n hx hb dX14_hexDigit_27 rfl (lv_at hl 0 rfl) ?_
    refine lv_iadd hx hb dX14_hexDigit_28 ?_
    refine lv_bipush (v := 10) hx hb dX14_hexDigit_29 (by decide) ?_
    refine lv_isub hx hb dX14_hexDigit_31 ?_
    exact rt_ip C rfl hS hw dX14_hexDigit_32
  have hw := hw.2 h
  refine lv_bipush (v := 48) hx hb dX14_hexDigit_18 (by decide) ?_
  refine lv_iload_n hx hb dX14_hexDigit_20 rfl (lv_at hl 0 rfl) ?_
  refine lv_iadd hx hb dX14_hexDigit_21 ?_
  refine lv_goto (tgt := 32) hx hb dX14_hexDigit_22 (by decide) ?_
  exact rt_ip C rfl hS hw dX14_hexDigit_32
/-! WebHostModel.imageWord(I)J -/
abbrev cX14_imageWord : ByteArray := prog_17_method_7_code
def yX14_imageWord : MethodName := ⟨RX14, "imageWord", "(I)J"⟩
theorem dX14_imageWord_0 : decode cX14_imageWord 0 = .ok (.lconst 0, 1) := by decide +kernel
theorem dX14_imageWord_1 : decode cX14_imageWord 1 = .ok (.lstore_n 2, 1) := by decide +kernel
theorem dX14_imageWord_2 : decode cX14_imageWord 2 = .ok (.iconst 0, 1) := by decide +kernel
theorem dX14_imageWord_3 : decode cX14_imageWord 3 = .ok (.istore 4, 2) := by decide +kernel
theorem dX14_imageWord_5 : decode cX14_imageWord 5 = .ok (.iload 4, 2) := by decide +kernel
theorem dX14_imageWord_7 : decode cX14_imageWord 7 = .ok (.iconst 4, 1) := by decide +kernel
theorem dX14_imageWord_8 : decode cX14_imageWord 8 = .ok (.if_icmp .ge 29, 3) := by decide +kernel
theorem dX14_imageWord_11 : decode cX14_imageWord 11 = .ok (.lload_n 2, 1) := by decide +kernel
theorem dX14_imageWord_12 : decode cX14_imageWord 12 = .ok (.bipush 8, 2) := by decide +kernel
theorem dX14_imageWord_14 : decode cX14_imageWord 14 = .ok (.lshl, 1) := by decide +kernel
theorem dX14_imageWord_15 : decode cX14_imageWord 15 = .ok (.aload_n 0, 1) := by decide +kernel
theorem dX14_imageWord_16 : decode cX14_imageWord 16 = .ok (.getfield 15, 3) := by decide +kernel
theorem dX14_imageWord_19 : decode cX14_imageWord 19 = .ok (.iload_n 1, 1) := by decide +kernel
theorem dX14_imageWord_20 : decode cX14_imageWord 20 = .ok (.iload 4, 2) := by decide +kernel
theorem dX14_imageWord_22 : decode cX14_imageWord 22 = .ok (.iadd, 1) := by decide +kernel
theorem dX14_imageWord_23 : decode cX14_imageWord 23 = .ok (.baload, 1) := by decide +kernel
theorem dX14_imageWord_24 : decode cX14_imageWord 24 = .ok (.sipush 255, 3) := by decide +kernel
theorem dX14_imageWord_27 : decode cX14_imageWord 27 = .ok (.iand, 1) := by decide +kernel
theorem dX14_imageWord_28 : decode cX14_imageWord 28 = .ok (.i2l, 1) := by decide +kernel
theorem dX14_imageWord_29 : decode cX14_imageWord 29 = .ok (.lor, 1) := by decide +kernel
theorem dX14_imageWord_30 : decode cX14_imageWord 30 = .ok (.lstore_n 2, 1) := by decide +kernel
theorem dX14_imageWord_31 : decode cX14_imageWord 31 = .ok (.iinc 4 1, 3) := by decide +kernel
theorem dX14_imageWord_34 : decode cX14_imageWord 34 = .ok (.goto (-29), 3) := by decide +kernel
theorem dX14_imageWord_37 : decode cX14_imageWord 37 = .ok (.lload_n 2, 1) := by decide +kernel
theorem dX14_imageWord_38 : decode cX14_imageWord 38 = .ok (.lreturn, 1) := by decide +kernel
def rmX14_imageWord : Room := { frames := 0, cells := 0, slots := 0, locals := 0 }
theorem kX14_imageWord : yX14_imageWord.cls = "WebHostModel" ∧ yX14_imageWord.cls ≠ "java/lang/invoke/MethodHandle" ∧ yX14_imageWord.cls ≠ "java/lang/invoke/VarHandle" ∧ (parseMethodDescriptor yX14_imageWord.desc).map (fun d => d.parameters.length) = some 1 := by decide +kernel
def w14_imageWord_L5 (σ : St) (x1 : Int32) (Q : Int64 → Prop) (K37 : Int64 → Prop) : Nat → Int64 → Int32 → Prop
  | 0, _, _ => False
  | n + 1, y2, x4 => (4 ≤ x4 → K37 y2) ∧ (¬ 4 ≤ x4 → (vp_in (x1 + x4) 65535 ∧ (by8 (σ 51 0 (x1 + x4).toNatClampNeg) → (w14_imageWord_L5 σ x1 Q K37 n ((y2 <<< ((8 : Int32).toInt64 &&& 63)) ||| (((σ 51 0 (x1 + x4).toNatClampNeg) &&& 255).toInt64)) (x4 + 1)))))
set_option maxHeartbeats 4000000 in
theorem k14_imageWord_L5 {p : Program} {l : Launch} {e : Env} {s : State} {m : MethodId} {args : Array Value} {below : List Frame} {meth : Method} {c : Code} {G : Gh} {a1 : Nat → Nat → Nat} {τ : St} {H : Heap} {Q : Int64 → Prop} {K37 : Int64 → Prop} (C : Cx p e s m args meth c cX14_imageWord 5 (some .long) "WebHostModel" G) (σ : St) (x1 : Int32) (hH : Hd G a1 (cmb τ σ) H) :
    ∀ (n : Nat) (y2 : Int64) (x4 : Int32), w14_imageWord_L5 σ x1 Q K37 n y2 x4 → ∀ (locs : List Loc) (ls : Array Slot), va_S (gA G) s.heap H locs → lv_has ls 5 [(0, .ref (ga G 14 0)), (1, .int x1), (2, .long y2), (4, .int x4)] → (∀ (y2 : Int64), K37 y2 → ∀ (locs : List Loc) (ls : Array Slot), va_S (gA G) s.heap H locs → lv_has ls 5 [(2, .long y2)] → W p l e rmX14_imageWord s m args below meth c H locs 0 0 (MQ below (QJp G H Q) args s 0 0 (gA G)) (F0 m 37 ls [])) → W p l e rmX14_imageWord s m args below meth c H locs 0 0 (MQ below (QJp G H Q) args s 0 0 (gA G)) (F0 m 5 ls []) := by
  have hx := C.1
  have hb := C.2.1
  have hown := C.2.2.2.2.2.1
  have hts := C.2.2.2.2.2.2.1
  intro n
  induction n with
  | zero =>
    intro y2 x4 hw
    exact False.elim hw
  | succ n ih =>
    intro y2 x4 hw locs ls hS hl hK37
    refine lv_iload hx hb dX14_imageWord_5 (lv_at hl 3 rfl) ?_
    refine lv_iconst (v := 4) hx hb dX14_imageWord_7 (by decide) ?_
    refine lv_icmp_ge (tgt := 37) hx hb dX14_imageWord_8 (by decide) (fun h => ?_) (fun h => ?_)
    · have hw := hw.1 h
      exact hK37 y2 hw locs ls hS (lv_sub hl [2] rfl)
    have hw := hw.2 h
    refine lv_lload_n hx hb dX14_imageWord_11 rfl (lv_at hl 2 rfl) ?_
    refine lv_bipush (v := 8) hx hb dX14_imageWord_12 (by decide) ?_
    refine lv_lshl (v := y2 <<< ((8 : Int32).toInt64 &&& 63)) hx hb dX14_imageWord_14 rfl ?_
    refine lv_aload_n hx hb dX14_imageWord_15 rfl (lv_at hl 0 rfl) ?_
    refine g14_2 C hH q1942 dX14_imageWord_16 ?_
    refine lv_iload_n hx hb dX14_imageWord_19 rfl (lv_at hl 1 rfl) ?_
    refine lv_iload hx hb dX14_imageWord_20 (lv_at hl 3 rfl) ?_
    refine lv_iadd hx hb dX14_imageWord_22 ?_
    refine l51 C hH hw.1 dX14_imageWord_23 (fun hz => ?_)
    have hw := hw.2 hz
    refine lv_sipush (v := 255) hx hb dX14_imageWord_24 (by decide) ?_
    refine lv_iand hx hb dX14_imageWord_27 ?_
    refine lv_i2l (v := ((σ 51 0 (x1 + x4).toNatClampNeg) &&& 255).toInt64) hx hb dX14_imageWord_28 rfl ?_
    refine lv_lor hx hb dX14_imageWord_29 ?_
    refine lv_lstore_n (lv' := [(2, .long ((y2 <<< ((8 : Int32).toInt64 &&& 63)) ||| (((σ 51 0 (x1 + x4).toNatClampNeg) &&& 255).toInt64))), (0, .ref (ga G 14 0)), (1, .int x1), (4, .int x4)]) hx hb dX14_imageWord_30 rfl hl (by decide) rfl (fun ls hl => ?_)
    refine lv_iinc (v := x4 + 1) (lv' := [(4, .int (x4 + 1)), (2, .long ((y2 <<< ((8 : Int32).toInt64 &&& 63)) ||| (((σ 51 0 (x1 + x4).toNatClampNeg) &&& 255).toInt64))), (0, .ref (ga G 14 0)), (1, .int x1)]) hx hb dX14_imageWord_31 hl (k := 3) rfl rfl (by decide) rfl (fun ls hl => ?_)
    refine lv_goto (tgt := 5) hx hb dX14_imageWord_34 (by decide) ?_
    exact ih ((y2 <<< ((8 : Int32).toInt64 &&& 63)) ||| (((σ 51 0 (x1 + x4).toNatClampNeg) &&& 255).toInt64)) (x4 + 1) hw locs ls hS (lv_sub hl [2, 3, 1, 0] rfl) hK37
def w14_imageWord (σ : St) (x1 : Int32) (Q : Int64 → Prop) : Prop := ∃ z1, w14_imageWord_L5 σ x1 Q (fun y2_2 => Q y2_2) z1 0 0
set_option maxHeartbeats 4000000 in
theorem m14_imageWord (l : Launch) (G : Gh) (a1 : Nat → Nat → Nat) (τ : St) (σ : St) (H : Heap) (x1 : Int32) (Q : Int64 → Prop) (hw : w14_imageWord σ x1 Q) : Met l yX14_imageWord (ws_ yX14_imageWord cX14_imageWord 5 (some .long)) rmX14_imageWord (PcP G a1 (cmb τ σ) H [.ref (ga G 14 0), .int x1]) (QJp G H Q) 0 0 (gA G) := by
  refine met_p (by decide) (Nat.le_of_ble_eq_true rfl) ?_
  intro p e s m below meth c ls hHe C hH hS hl
  have C : Cx p e s m _ meth c cX14_imageWord 5 (some .long) "WebHostModel" G := C
  have hl : lv_has ls 5 [(0, .ref (ga G 14 0)), (1, .int x1)] := hl
  have hx := C.1
  have hb := C.2.1
  have hown := C.2.2.2.2.2.1
  have hts := C.2.2.2.2.2.2.1
  obtain ⟨locs, hlocs⟩ : ∃ z : List Loc, z = [] := ⟨_, rfl⟩
  rw [← hlocs] at hS ⊢
  refine lv_lconst (v := 0) hx hb dX14_imageWord_0 (by decide) ?_
  refine lv_lstore_n (lv' := [(2, .long 0), (0, .ref (ga G 14 0)), (1, .int x1)]) hx hb dX14_imageWord_1 rfl hl (by decide) rfl (fun ls hl => ?_)
  refine lv_iconst (v := 0) hx hb dX14_imageWord_2 (by decide) ?_
  refine lv_istore (lv' := [(4, .int 0), (2, .long 0), (0, .ref (ga G 14 0)), (1, .int x1)]) hx hb dX14_imageWord_3 hl (by decide) rfl (fun ls hl => ?_)
  obtain ⟨n1, hw⟩ := hw
  refine k14_imageWord_L5 C σ x1 hH n1 0 0 hw locs ls hS (lv_sub hl [2, 3, 1, 0] rfl) (fun y2_2 hw locs ls hS hl => ?_)
  refine lv_lload_n hx hb dX14_imageWord_37 rfl (lv_at hl 0 rfl) ?_
  exact rt_jp C hS hw dX14_imageWord_38
/-! WebHostModel.install()I -/
abbrev cX14_install : ByteArray := prog_17_method_6_code
def yX14_install : MethodName := ⟨RX14, "install", "()I"⟩
theorem dX14_install_0 : decode cX14_install 0 = .ok (.aload_n 0, 1) := by decide +kernel
theorem dX14_install_1 : decode cX14_install 1 = .ok (.getfield 84, 3) := by decide +kernel
theorem dX14_install_4 : decode cX14_install 4 = .ok (.ldc 14, 2) := by decide +kernel
theorem dX14_install_6 : decode cX14_install 6 = .ok (.if_icmp .le 5, 3) := by decide +kernel
theorem dX14_install_9 : decode cX14_install 9 = .ok (.iconst (-1), 1) := by decide +kernel
theorem dX14_install_10 : decode cX14_install 10 = .ok (.ireturn, 1) := by decide +kernel
theorem dX14_install_11 : decode cX14_install 11 = .ok (.iconst 0, 1) := by decide +kernel
theorem dX14_install_12 : decode cX14_install 12 = .ok (.istore_n 1, 1) := by decide +kernel
theorem dX14_install_13 : decode cX14_install 13 = .ok (.iload_n 1, 1) := by decide +kernel
theorem dX14_install_14 : decode cX14_install 14 = .ok (.aload_n 0, 1) := by decide +kernel
theorem dX14_install_15 : decode cX14_install 15 = .ok (.getfield 84, 3) := by decide +kernel
theorem dX14_install_18 : decode cX14_install 18 = .ok (.if_icmp .ge 21, 3) := by decide +kernel
theorem dX14_install_21 : decode cX14_install 21 = .ok (.aload_n 0, 1) := by decide +kernel
theorem dX14_install_22 : decode cX14_install 22 = .ok (.getfield 15, 3) := by decide +kernel
theorem dX14_install_25 : decode cX14_install 25 = .ok (.iload_n 1, 1) := by decide +kernel
theorem dX14_install_26 : decode cX14_install 26 = .ok (.aload_n 0, 1) := by decide +kernel
theorem dX14_install_27 : decode cX14_install 27 = .ok (.getfield 10, 3) := by decide +kernel
theorem dX14_install_30 : decode cX14_install 30 = .ok (.iload_n 1, 1) := by decide +kernel
theorem dX14_install_31 : decode cX14_install 31 = .ok (.baload, 1) := by decide +kernel
theorem dX14_install_32 : decode cX14_install 32 = .ok (.bastore, 1) := by decide +kernel
theorem dX14_install_33 : decode cX14_install 33 = .ok (.iinc 1 1, 3) := by decide +kernel
theorem dX14_install_36 : decode cX14_install 36 = .ok (.goto (-23), 3) := by decide +kernel
theorem dX14_install_39 : decode cX14_install 39 = .ok (.aload_n 0, 1) := by decide +kernel
theorem dX14_install_40 : decode cX14_install 40 = .ok (.aload_n 0, 1) := by decide +kernel
theorem dX14_install_41 : decode cX14_install 41 = .ok (.getfield 84, 3) := by decide +kernel
theorem dX14_install_44 : decode cX14_install 44 = .ok (.putfield 92, 3) := by decide +kernel
theorem dX14_install_47 : decode cX14_install 47 = .ok (.aload_n 0, 1) := by decide +kernel
theorem dX14_install_48 : decode cX14_install 48 = .ok (.iconst 0, 1) := by decide +kernel
theorem dX14_install_49 : decode cX14_install 49 = .ok (.putfield 84, 3) := by decide +kernel
theorem dX14_install_52 : decode cX14_install 52 = .ok (.aload_n 0, 1) := by decide +kernel
theorem dX14_install_53 : decode cX14_install 53 = .ok (.iconst 0, 1) := by decide +kernel
theorem dX14_install_54 : decode cX14_install 54 = .ok (.putfield 95, 3) := by decide +kernel
theorem dX14_install_57 : decode cX14_install 57 = .ok (.aload_n 0, 1) := by decide +kernel
theorem dX14_install_58 : decode cX14_install 58 = .ok (.getfield 92, 3) := by decide +kernel
theorem dX14_install_61 : decode cX14_install 61 = .ok (.ireturn, 1) := by decide +kernel
def rmX14_install : Room := { frames := 0, cells := 0, slots := 0, locals := 0 }
theorem kX14_install : yX14_install.cls = "WebHostModel" ∧ yX14_install.cls ≠ "java/lang/invoke/MethodHandle" ∧ yX14_install.cls ≠ "java/lang/invoke/VarHandle" ∧ (parseMethodDescriptor yX14_install.desc).map (fun d => d.parameters.length) = some 0 := by decide +kernel
def w14_install_L13 (Q : Int32 → St → Prop) (K39 : St → Prop) : Nat → St → Int32 → Prop
  | 0, _, _ => False
  | n + 1, σ, x1 => ((σ 14 0 1) ≤ x1 → K39 σ) ∧ (¬ (σ 14 0 1) ≤ x1 → (vp_in x1 65540 ∧ (by8 (σ 50 0 x1.toNatClampNeg) → (vp_in x1 65535 ∧ (∀ σ1, σ1 = up3 σ 51 0 x1.toNatClampNeg (σ 50 0 x1.toNatClampNeg).toInt8.toInt32 → (w14_install_L13 Q K39 n σ1 (x1 + 1)))))))
set_option maxHeartbeats 4000000 in
theorem k14_install_L13 {p : Program} {l : Launch} {e : Env} {s : State} {m : MethodId} {args : Array Value} {below : List Frame} {meth : Method} {c : Code} {G : Gh} {a1 : Nat → Nat → Nat} {τ : St} {Q : Int32 → St → Prop} {K39 : St → Prop} (C : Cx p e s m args meth c cX14_install 2 (some .int) "WebHostModel" G) :
    ∀ (n : Nat) (σ : St) (x1 : Int32), w14_install_L13 Q K39 n σ x1 → ∀ (H : Heap) (locs : List Loc) (ls : Array Slot), Hd G a1 (cmb τ σ) H → va_S (gA G) s.heap H locs → lv_has ls 2 [(0, .ref (ga G 14 0)), (1, .int x1)] → (∀ (σ : St) , K39 σ → ∀ (H : Heap) (locs : List Loc) (ls : Array Slot), Hd G a1 (cmb τ σ) H → va_S (gA G) s.heap H locs → lv_has ls 2 [(0, .ref (ga G 14 0))] → W p l e rmX14_install s m args below meth c H locs 0 0 (MQ below (QIs G a1 (fun u => cmb τ u) Q) args s 0 0 (gA G)) (F0 m 39 ls [])) → W p l e rmX14_install s m args below meth c H locs 0 0 (MQ below (QIs G a1 (fun u => cmb τ u) Q) args s 0 0 (gA G)) (F0 m 13 ls []) := by
  have hx := C.1
  have hb := C.2.1
  have hown := C.2.2.2.2.2.1
  have hts := C.2.2.2.2.2.2.1
  intro n
  induction n with
  | zero =>
    intro σ x1 hw
    exact False.elim hw
  | succ n ih =>
    intro σ x1 hw H locs ls hH hS hl hK39
    refine lv_iload_n hx hb dX14_install_13 rfl (lv_at hl 1 rfl) ?_
    refine lv_aload_n hx hb dX14_install_14 rfl (lv_at hl 0 rfl) ?_
    refine g14_1 C hH q1941 dX14_install_15 ?_
    refine lv_icmp_ge (tgt := 39) hx hb dX14_install_18 (by decide) (fun h => ?_) (fun h => ?_)
    · have hw := hw.1 h
      exact hK39 σ hw H locs ls hH hS (lv_sub hl [0] rfl)
    have hw := hw.2 h
    refine lv_aload_n hx hb dX14_install_21 rfl (lv_at hl 0 rfl) ?_
    refine g14_2 C hH q1942 dX14_install_22 ?_
    refine lv_iload_n hx hb dX14_install_25 rfl (lv_at hl 1 rfl) ?_
    refine lv_aload_n hx hb dX14_install_26 rfl (lv_at hl 0 rfl) ?_
    refine g14_0 C hH q1940 dX14_install_27 ?_
    refine lv_iload_n hx hb dX14_install_30 rfl (lv_at hl 1 rfl) ?_
    refine l50 C hH hw.1 dX14_install_31 (fun hz => ?_)
    have hw := hw.2 hz
    refine s51 C hH hS hw.1 dX14_install_32 (fun σ1 e1 H locs hH hS => ?_)
    have hw := hw.2 σ1 e1
    refine lv_iinc (v := x1 + 1) (lv' := [(1, .int (x1 + 1)), (0, .ref (ga G 14 0))]) hx hb dX14_install_33 hl (k := 1) rfl rfl (by decide) rfl (fun ls hl => ?_)
    refine lv_goto (tgt := 13) hx hb dX14_install_36 (by decide) ?_
    exact ih σ1 (x1 + 1) hw H locs ls hH hS (lv_sub hl [1, 0] rfl) hK39
def w14_install (σ : St) (Q : Int32 → St → Prop) : Prop := ((σ 14 0 1) ≤ 65535 → (∃ z2, w14_install_L13 Q (fun σ3 => ∀ σ4, σ4 = up3 σ3 14 0 3 (σ3 14 0 1) → (∀ σ5, σ5 = up3 σ4 14 0 1 0 → (∀ σ6, σ6 = up3 σ5 14 0 4 0 → (Q (σ6 14 0 3) σ6)))) z2 σ 0)) ∧ (¬ (σ 14 0 1) ≤ 65535 → (Q (-1) σ))
set_option maxHeartbeats 4000000 in
theorem m14_install (l : Launch) (G : Gh) (a1 : Nat → Nat → Nat) (τ : St) (σ : St) (Q : Int32 → St → Prop) (hw : w14_install σ Q) : Met l yX14_install (ws_ yX14_install cX14_install 2 (some .int)) rmX14_install (PcS G a1 (cmb τ σ) [.ref (ga G 14 0)]) (QIs G a1 (fun u => cmb τ u) Q) 0 0 (gA G) := by
  refine met_w (by decide) (Nat.le_of_ble_eq_true rfl) ?_
  intro p e s m below meth c ls C hH hS hl
  have C : Cx p e s m _ meth c cX14_install 2 (some .int) "WebHostModel" G := C
  have hl : lv_has ls 2 [(0, .ref (ga G 14 0))] := hl
  have hx := C.1
  have hb := C.2.1
  have hown := C.2.2.2.2.2.1
  have hts := C.2.2.2.2.2.2.1
  obtain ⟨locs, hlocs⟩ : ∃ z : List Loc, z = [] := ⟨_, rfl⟩
  obtain ⟨H, hHe⟩ : ∃ z : Heap, z = s.heap := ⟨_, rfl⟩
  have hH : Hd G a1 (cmb τ σ) H := by rw [hHe]; exact hH
  have hS : va_S (gA G) s.heap H locs := by rw [hHe, hlocs]; exact hS
  refine W.heap0 hHe.symm hlocs.symm ?_
  refine lv_aload_n hx hb dX14_install_0 rfl (lv_at hl 0 rfl) ?_
  refine g14_1 C hH q1941 dX14_install_1 ?_
  refine lv_ldc (v := 65535) hx hb hown (hts _ q1692) dX14_install_4 ?_
  refine lv_icmp_le (tgt := 11) hx hb dX14_install_6 (by decide) (fun h => ?_) (fun h => ?_)
  · have hw := hw.1 h
    refine lv_iconst (v := 0) hx hb dX14_install_11 (by decide) ?_
    refine lv_istore_n (lv' := [(1, .int 0), (0, .ref (ga G 14 0))]) hx hb dX14_install_12 rfl hl (by decide) rfl (fun ls hl => ?_)
    obtain ⟨n2, hw⟩ := hw
    refine k14_install_L13 C n2 σ 0 hw H locs ls hH hS (lv_sub hl [1, 0] rfl) (fun σ3 hw H locs ls hH hS hl => ?_)
    refine lv_aload_n hx hb dX14_install_39 rfl (lv_at hl 0 rfl) ?_
    refine lv_aload_n hx hb dX14_install_40 rfl (lv_at hl 0 rfl) ?_
    refine g14_1 C hH q1941 dX14_install_41 ?_
    refine p14_3 C hH hS q1943 dX14_install_44 (fun σ4 e4 H locs hH hS => ?_)
    have hw := hw σ4 e4
    refine lv_aload_n hx hb dX14_install_47 rfl (lv_at hl 0 rfl) ?_
    refine lv_iconst (v := 0) hx hb dX14_install_48 (by decide) ?_
    refine p14_1 C hH hS q1941 dX14_install_49 (fun σ5 e5 H locs hH hS => ?_)
    have hw := hw σ5 e5
    refine lv_aload_n hx hb dX14_install_52 rfl (lv_at hl 0 rfl) ?_
    refine lv_iconst (v := 0) hx hb dX14_install_53 (by decide) ?_
    refine p14_4 C hH hS (Or.inl rfl) q1944 dX14_install_54 (fun σ6 e6 H locs hH hS => ?_)
    have hw := hw σ6 e6
    refine lv_aload_n hx hb dX14_install_57 rfl (lv_at hl 0 rfl) ?_
    refine g14_3 C hH q1943 dX14_install_58 ?_
    exact rt_i C rfl hH hS hw dX14_install_61
  have hw := hw.2 h
  refine lv_iconst (v := (-1)) hx hb dX14_install_9 (by decide) ?_
  exact rt_i C rfl hH hS hw dX14_install_10
/-! WebHostModel.is(I)Z -/
abbrev cX14_is : ByteArray := prog_17_method_38_code
def yX14_is : MethodName := ⟨RX14, "is", "(I)Z"⟩
theorem dX14_is_0 : decode cX14_is 0 = .ok (.aload_n 0, 1) := by decide +kernel
theorem dX14_is_1 : decode cX14_is 1 = .ok (.getfield 302, 3) := by decide +kernel
theorem dX14_is_4 : decode cX14_is 4 = .ok (.iload_n 1, 1) := by decide +kernel
theorem dX14_is_5 : decode cX14_is 5 = .ok (.iand, 1) := by decide +kernel
theorem dX14_is_6 : decode cX14_is 6 = .ok (.ifCond .eq 7, 3) := by decide +kernel
theorem dX14_is_9 : decode cX14_is 9 = .ok (.iconst 1, 1) := by decide +kernel
theorem dX14_is_10 : decode cX14_is 10 = .ok (.goto 4, 3) := by decide +kernel
theorem dX14_is_13 : decode cX14_is 13 = .ok (.iconst 0, 1) := by decide +kernel
theorem dX14_is_14 : decode cX14_is 14 = .ok (.ireturn, 1) := by decide +kernel
def rmX14_is : Room := { frames := 0, cells := 0, slots := 0, locals := 0 }
theorem kX14_is : yX14_is.cls = "WebHostModel" ∧ yX14_is.cls ≠ "java/lang/invoke/MethodHandle" ∧ yX14_is.cls ≠ "java/lang/invoke/VarHandle" ∧ (parseMethodDescriptor yX14_is.desc).map (fun d => d.parameters.length) = some 1 := by decide +kernel
def w14_is (σ : St) (x1 : Int32) (Q : Int32 → Prop) : Prop := (((σ 14 0 36) &&& x1) = 0 → Q 0) ∧ (¬ ((σ 14 0 36) &&& x1) = 0 → Q 1)
set_option maxHeartbeats 4000000 in
theorem m14_is (l : Launch) (G : Gh) (a1 : Nat → Nat → Nat) (τ : St) (σ : St) (H : Heap) (x1 : Int32) (Q : Int32 → Prop) (hw : w14_is σ x1 Q) : Met l yX14_is (ws_ yX14_is cX14_is 2 (some .boolean)) rmX14_is (PcP G a1 (cmb τ σ) H [.ref (ga G 14 0), .int x1]) (QIp G H Q) 0 0 (gA G) := by
  refine met_p (by decide) (Nat.le_of_ble_eq_true rfl) ?_
  intro p e s m below meth c ls hHe C hH hS hl
  have C : Cx p e s m _ meth c cX14_is 2 (some .boolean) "WebHostModel" G := C
  have hl : lv_has ls 2 [(0, .ref (ga G 14 0)), (1, .int x1)] := hl
  have hx := C.1
  have hb := C.2.1
  have hown := C.2.2.2.2.2.1
  have hts := C.2.2.2.2.2.2.1
  obtain ⟨locs, hlocs⟩ : ∃ z : List Loc, z = [] := ⟨_, rfl⟩
  rw [← hlocs] at hS ⊢
  refine lv_aload_n hx hb dX14_is_0 rfl (lv_at hl 0 rfl) ?_
  refine g14_36 C hH q1976 dX14_is_1 ?_
  refine lv_iload_n hx hb dX14_is_4 rfl (lv_at hl 1 rfl) ?_
  refine lv_iand hx hb dX14_is_5 ?_
  refine lv_if_eq (tgt := 13) hx hb dX14_is_6 (by decide) (fun h => ?_) (fun h => ?_)
  · have hw := hw.1 h
    refine lv_iconst (v := 0) hx hb dX14_is_13 (by decide) ?_
    exact rt_ip C rfl hS hw dX14_is_14
  have hw := hw.2 h
  refine lv_iconst (v := 1) hx hb dX14_is_9 (by decide) ?_
  refine lv_goto (tgt := 14) hx hb dX14_is_10 (by decide) ?_
  exact rt_ip C rfl hS hw dX14_is_14
/-! WebHostModel.isBehind(II)Z -/
abbrev cX14_isBehind : ByteArray := prog_17_method_33_code
def yX14_isBehind : MethodName := ⟨RX14, "isBehind", "(II)Z"⟩
theorem dX14_isBehind_0 : decode cX14_isBehind 0 = .ok (.iload_n 0, 1) := by decide +kernel
theorem dX14_isBehind_1 : decode cX14_isBehind 1 = .ok (.iload_n 1, 1) := by decide +kernel
theorem dX14_isBehind_2 : decode cX14_isBehind 2 = .ok (.isub, 1) := by decide +kernel
theorem dX14_isBehind_3 : decode cX14_isBehind 3 = .ok (.ifCond .le 7, 3) := by decide +kernel
theorem dX14_isBehind_6 : decode cX14_isBehind 6 = .ok (.iconst 1, 1) := by decide +kernel
theorem dX14_isBehind_7 : decode cX14_isBehind 7 = .ok (.goto 4, 3) := by decide +kernel
theorem dX14_isBehind_10 : decode cX14_isBehind 10 = .ok (.iconst 0, 1) := by decide +kernel
theorem dX14_isBehind_11 : decode cX14_isBehind 11 = .ok (.ireturn, 1) := by decide +kernel
def rmX14_isBehind : Room := { frames := 0, cells := 0, slots := 0, locals := 0 }
theorem kX14_isBehind : yX14_isBehind.cls = "WebHostModel" ∧ yX14_isBehind.cls ≠ "java/lang/invoke/MethodHandle" ∧ yX14_isBehind.cls ≠ "java/lang/invoke/VarHandle" ∧ (parseMethodDescriptor yX14_isBehind.desc).map (fun d => d.parameters.length) = some 2 := by decide +kernel
def w14_isBehind (σ : St) (x0 : Int32) (x1 : Int32) (Q : Int32 → Prop) : Prop := ((x0 - x1) ≤ 0 → Q 0) ∧ (¬ (x0 - x1) ≤ 0 → Q 1)
set_option maxHeartbeats 4000000 in
theorem m14_isBehind (l : Launch) (G : Gh) (a1 : Nat → Nat → Nat) (τ : St) (σ : St) (H : Heap) (x0 : Int32) (x1 : Int32) (Q : Int32 → Prop) (hw : w14_isBehind σ x0 x1 Q) : Met l yX14_isBehind (ws_ yX14_isBehind cX14_isBehind 2 (some .boolean)) rmX14_isBehind (PcP G a1 (cmb τ σ) H [.int x0, .int x1]) (QIp G H Q) 0 0 (gA G) := by
  refine met_p (by decide) (Nat.le_of_ble_eq_true rfl) ?_
  intro p e s m below meth c ls hHe C hH hS hl
  have C : Cx p e s m _ meth c cX14_isBehind 2 (some .boolean) "WebHostModel" G := C
  have hl : lv_has ls 2 [(0, .int x0), (1, .int x1)] := hl
  have hx := C.1
  have hb := C.2.1
  have hown := C.2.2.2.2.2.1
  have hts := C.2.2.2.2.2.2.1
  obtain ⟨locs, hlocs⟩ : ∃ z : List Loc, z = [] := ⟨_, rfl⟩
  rw [← hlocs] at hS ⊢
  refine lv_iload_n hx hb dX14_isBehind_0 rfl (lv_at hl 0 rfl) ?_
  refine lv_iload_n hx hb dX14_isBehind_1 rfl (lv_at hl 1 rfl) ?_
  refine lv_isub hx hb dX14_isBehind_2 ?_
  refine lv_if_le (tgt := 10) hx hb dX14_isBehind_3 (by decide) (fun h => ?_) (fun h => ?_)
  · have hw := hw.1 h
    refine lv_iconst (v := 0) hx hb dX14_isBehind_10 (by decide) ?_
    exact rt_ip C rfl hS hw dX14_isBehind_11
  have hw := hw.2 h
  refine lv_iconst (v := 1) hx hb dX14_isBehind_6 (by decide) ?_
  refine lv_goto (tgt := 11) hx hb dX14_isBehind_7 (by decide) ?_
  exact rt_ip C rfl hS hw dX14_isBehind_11
/-! WebHostModel.isBlank(I)Z -/
abbrev cX14_isBlank : ByteArray := prog_17_method_91_code
def yX14_isBlank : MethodName := ⟨RX14, "isBlank", "(I)Z"⟩
theorem dX14_isBlank_0 : decode cX14_isBlank 0 = .ok (.iload_n 0, 1) := by decide +kernel
theorem dX14_isBlank_1 : decode cX14_isBlank 1 = .ok (.bipush 32, 2) := by decide +kernel
theorem dX14_isBlank_3 : decode cX14_isBlank 3 = .ok (.if_icmp .eq 9, 3) := by decide +kernel
theorem dX14_isBlank_6 : decode cX14_isBlank 6 = .ok (.iload_n 0, 1) := by decide +kernel
theorem dX14_isBlank_7 : decode cX14_isBlank 7 = .ok (.bipush 9, 2) := by decide +kernel
theorem dX14_isBlank_9 : decode cX14_isBlank 9 = .ok (.if_icmp .ne 7, 3) := by decide +kernel
theorem dX14_isBlank_12 : decode cX14_isBlank 12 = .ok (.iconst 1, 1) := by decide +kernel
theorem dX14_isBlank_13 : decode cX14_isBlank 13 = .ok (.goto 4, 3) := by decide +kernel
theorem dX14_isBlank_16 : decode cX14_isBlank 16 = .ok (.iconst 0, 1) := by decide +kernel
theorem dX14_isBlank_17 : decode cX14_isBlank 17 = .ok (.ireturn, 1) := by decide +kernel
def rmX14_isBlank : Room := { frames := 0, cells := 0, slots := 0, locals := 0 }
theorem kX14_isBlank : yX14_isBlank.cls = "WebHostModel" ∧ yX14_isBlank.cls ≠ "java/lang/invoke/MethodHandle" ∧ yX14_isBlank.cls ≠ "java/lang/invoke/VarHandle" ∧ (parseMethodDescriptor yX14_isBlank.desc).map (fun d => d.parameters.length) = some 1 := by decide +kernel
def w14_isBlank (σ : St) (x0 : Int32) (Q : Int32 → Prop) : Prop := (x0 = 32 → Q 1) ∧ (¬ x0 = 32 → ((¬ x0 = 9 → Q 0) ∧ (x0 = 9 → Q 1)))
set_option maxHeartbeats 4000000 in
theorem m14_isBlank (l : Launch) (G : Gh) (a1 : Nat → Nat → Nat) (τ : St) (σ : St) (H : Heap) (x0 : Int32) (Q : Int32 → Prop) (hw : w14_isBlank σ x0 Q) : Met l yX14_isBlank (ws_ yX14_isBlank cX14_isBlank 1 (some .boolean)) rmX14_isBlank (PcP G a1 (cmb τ σ) H [.int x0]) (QIp G H Q) 0 0 (gA G) := by
  refine met_p (by decide) (Nat.le_of_ble_eq_true rfl) ?_
  intro p e s m below meth c ls hHe C hH hS hl
  have C : Cx p e s m _ meth c cX14_isBlank 1 (some .boolean) "WebHostModel" G := C
  have hl : lv_has ls 1 [(0, .int x0)] := hl
  have hx := C.1
  have hb := C.2.1
  have hown := C.2.2.2.2.2.1
  have hts := C.2.2.2.2.2.2.1
  obtain ⟨locs, hlocs⟩ : ∃ z : List Loc, z = [] := ⟨_, rfl⟩
  rw [← hlocs] at hS ⊢
  refine lv_iload_n hx hb dX14_isBlank_0 rfl (lv_at hl 0 rfl) ?_
  refine lv_bipush (v := 32) hx hb dX14_isBlank_1 (by decide) ?_
  refine lv_icmp_eq (tgt := 12) hx hb dX14_isBlank_3 (by decide) (fun h => ?_) (fun h => ?_)
  · have hw := hw.1 h
    refine lv_iconst (v := 1) hx hb dX14_isBlank_12 (by decide) ?_
    refine lv_goto (tgt := 17) hx hb dX14_isBlank_13 (by decide) ?_
    exact rt_ip C rfl hS hw dX14_isBlank_17
  have hw := hw.2 h
  refine lv_iload_n hx hb dX14_isBlank_6 rfl (lv_at hl 0 rfl) ?_
  refine lv_bipush (v := 9) hx hb dX14_isBlank_7 (by decide) ?_
  refine lv_icmp_ne (tgt := 16) hx hb dX14_isBlank_9 (by decide) (fun h => ?_) (fun h => ?_)
  · have hw := hw.1 h
    refine lv_iconst (v := 0) hx hb dX14_isBlank_16 (by decide) ?_
    exact rt_ip C rfl hS hw dX14_isBlank_17
  have hw := hw.2 h
  refine lv_iconst (v := 1) hx hb dX14_isBlank_12 (by decide) ?_
  refine lv_goto (tgt := 17) hx hb dX14_isBlank_13 (by decide) ?_
  exact rt_ip C rfl hS hw dX14_isBlank_17
/-! WebHostModel.isDigit(I)Z -/
abbrev cX14_isDigit : ByteArray := prog_17_method_89_code
def yX14_isDigit : MethodName := ⟨RX14, "isDigit", "(I)Z"⟩
theorem dX14_isDigit_0 : decode cX14_isDigit 0 = .ok (.iload_n 0, 1) := by decide +kernel
theorem dX14_isDigit_1 : decode cX14_isDigit 1 = .ok (.bipush 48, 2) := by decide +kernel
theorem dX14_isDigit_3 : decode cX14_isDigit 3 = .ok (.if_icmp .lt 13, 3) := by decide +kernel
theorem dX14_isDigit_6 : decode cX14_isDigit 6 = .ok (.iload_n 0, 1) := by decide +kernel
theorem dX14_isDigit_7 : decode cX14_isDigit 7 = .ok (.bipush 57, 2) := by decide +kernel
theorem dX14_isDigit_9 : decode cX14_isDigit 9 = .ok (.if_icmp .gt 7, 3) := by decide +kernel
theorem dX14_isDigit_12 : decode cX14_isDigit 12 = .ok (.iconst 1, 1) := by decide +kernel
theorem dX14_isDigit_13 : decode cX14_isDigit 13 = .ok (.goto 4, 3) := by decide +kernel
theorem dX14_isDigit_16 : decode cX14_isDigit 16 = .ok (.iconst 0, 1) := by decide +kernel
theorem dX14_isDigit_17 : decode cX14_isDigit 17 = .ok (.ireturn, 1) := by decide +kernel
def rmX14_isDigit : Room := { frames := 0, cells := 0, slots := 0, locals := 0 }
theorem kX14_isDigit : yX14_isDigit.cls = "WebHostModel" ∧ yX14_isDigit.cls ≠ "java/lang/invoke/MethodHandle" ∧ yX14_isDigit.cls ≠ "java/lang/invoke/VarHandle" ∧ (parseMethodDescriptor yX14_isDigit.desc).map (fun d => d.parameters.length) = some 1 := by decide +kernel
def w14_isDigit (σ : St) (x0 : Int32) (Q : Int32 → Prop) : Prop := (x0 < 48 → Q 0) ∧ (¬ x0 < 48 → ((57 < x0 → Q 0) ∧ (¬ 57 < x0 → Q 1)))
set_option maxHeartbeats 4000000 in
theorem m14_isDigit (l : Launch) (G : Gh) (a1 : Nat → Nat → Nat) (τ : St) (σ : St) (H : Heap) (x0 : Int32) (Q : Int32 → Prop) (hw : w14_isDigit σ x0 Q) : Met l yX14_isDigit (ws_ yX14_isDigit cX14_isDigit 1 (some .boolean)) rmX14_isDigit (PcP G a1 (cmb τ σ) H [.int x0]) (QIp G H Q) 0 0 (gA G) := by
  refine met_p (by decide) (Nat.le_of_ble_eq_true rfl) ?_
  intro p e s m below meth c ls hHe C hH hS hl
  have C : Cx p e s m _ meth c cX14_isDigit 1 (some .boolean) "WebHostModel" G := C
  have hl : lv_has ls 1 [(0, .int x0)] := hl
  have hx := C.1
  have hb := C.2.1
  have hown := C.2.2.2.2.2.1
  have hts := C.2.2.2.2.2.2.1
  obtain ⟨locs, hlocs⟩ : ∃ z : List Loc, z = [] := ⟨_, rfl⟩
  rw [← hlocs] at hS ⊢
  refine lv_iload_n hx hb dX14_isDigit_0 rfl (lv_at hl 0 rfl) ?_
  refine lv_bipush (v := 48) hx hb dX14_isDigit_1 (by decide) ?_
  refine lv_icmp_lt (tgt := 16) hx hb dX14_isDigit_3 (by decide) (fun h => ?_) (fun h => ?_)
  · have hw := hw.1 h
    refine lv_iconst (v := 0) hx hb dX14_isDigit_16 (by decide) ?_
    exact rt_ip C rfl hS hw dX14_isDigit_17
  have hw := hw.2 h
  refine lv_iload_n hx hb dX14_isDigit_6 rfl (lv_at hl 0 rfl) ?_
  refine lv_bipush (v := 57) hx hb dX14_isDigit_7 (by decide) ?_
  refine lv_icmp_gt (tgt := 16) hx hb dX14_isDigit_9 (by decide) (fun h => ?_) (fun h => ?_)
  · have hw := hw.1 h
    refine lv_iconst (v := 0) hx hb dX14_isDigit_16 (by decide) ?_
    exact rt_ip C rfl hS hw dX14_isDigit_17
  have hw := hw.2 h
  refine lv_iconst (v := 1) hx hb dX14_isDigit_12 (by decide) ?_
  refine lv_goto (tgt := 17) hx hb dX14_isDigit_13 (by decide) ?_
  exact rt_ip C rfl hS hw dX14_isDigit_17
/-! WebHostModel.isHost(I)Z -/
abbrev cX14_isHost : ByteArray := prog_17_method_11_code
def yX14_isHost : MethodName := ⟨RX14, "isHost", "(I)Z"⟩
theorem dX14_isHost_0 : decode cX14_isHost 0 = .ok (.iload_n 0, 1) := by decide +kernel
theorem dX14_isHost_1 : decode cX14_isHost 1 = .ok (.bipush 24, 2) := by decide +kernel
theorem dX14_isHost_3 : decode cX14_isHost 3 = .ok (.iushr, 1) := by decide +kernel
theorem dX14_isHost_4 : decode cX14_isHost 4 = .ok (.istore_n 1, 1) := by decide +kernel
theorem dX14_isHost_5 : decode cX14_isHost 5 = .ok (.iload_n 1, 1) := by decide +kernel
theorem dX14_isHost_6 : decode cX14_isHost 6 = .ok (.iconst 1, 1) := by decide +kernel
theorem dX14_isHost_7 : decode cX14_isHost 7 = .ok (.if_icmp .lt 20, 3) := by decide +kernel
theorem dX14_isHost_10 : decode cX14_isHost 10 = .ok (.iload_n 1, 1) := by decide +kernel
theorem dX14_isHost_11 : decode cX14_isHost 11 = .ok (.sipush 223, 3) := by decide +kernel
theorem dX14_isHost_14 : decode cX14_isHost 14 = .ok (.if_icmp .gt 13, 3) := by decide +kernel
theorem dX14_isHost_17 : decode cX14_isHost 17 = .ok (.iload_n 1, 1) := by decide +kernel
theorem dX14_isHost_18 : decode cX14_isHost 18 = .ok (.bipush 127, 2) := by decide +kernel
theorem dX14_isHost_20 : decode cX14_isHost 20 = .ok (.if_icmp .eq 7, 3) := by decide +kernel
theorem dX14_isHost_23 : decode cX14_isHost 23 = .ok (.iconst 1, 1) := by decide +kernel
theorem dX14_isHost_24 : decode cX14_isHost 24 = .ok (.goto 4, 3) := by decide +kernel
theorem dX14_isHost_27 : decode cX14_isHost 27 = .ok (.iconst 0, 1) := by decide +kernel
theorem dX14_isHost_28 : decode cX14_isHost 28 = .ok (.ireturn, 1) := by decide +kernel
def rmX14_isHost : Room := { frames := 0, cells := 0, slots := 0, locals := 0 }
theorem kX14_isHost : yX14_isHost.cls = "WebHostModel" ∧ yX14_isHost.cls ≠ "java/lang/invoke/MethodHandle" ∧ yX14_isHost.cls ≠ "java/lang/invoke/VarHandle" ∧ (parseMethodDescriptor yX14_isHost.desc).map (fun d => d.parameters.length) = some 1 := by decide +kernel
def w14_isHost (σ : St) (x0 : Int32) (Q : Int32 → Prop) : Prop := ((ushr x0 24) < 1 → Q 0) ∧ (¬ (ushr x0 24) < 1 → ((223 < (ushr x0 24) → Q 0) ∧ (¬ 223 < (ushr x0 24) → (((ushr x0 24) = 127 → Q 0) ∧ (¬ (ushr x0 24) = 127 → Q 1)))))
set_option maxHeartbeats 4000000 in
theorem m14_isHost (l : Launch) (G : Gh) (a1 : Nat → Nat → Nat) (τ : St) (σ : St) (H : Heap) (x0 : Int32) (Q : Int32 → Prop) (hw : w14_isHost σ x0 Q) : Met l yX14_isHost (ws_ yX14_isHost cX14_isHost 2 (some .boolean)) rmX14_isHost (PcP G a1 (cmb τ σ) H [.int x0]) (QIp G H Q) 0 0 (gA G) := by
  refine met_p (by decide) (Nat.le_of_ble_eq_true rfl) ?_
  intro p e s m below meth c ls hHe C hH hS hl
  have C : Cx p e s m _ meth c cX14_isHost 2 (some .boolean) "WebHostModel" G := C
  have hl : lv_has ls 2 [(0, .int x0)] := hl
  have hx := C.1
  have hb := C.2.1
  have hown := C.2.2.2.2.2.1
  have hts := C.2.2.2.2.2.2.1
  obtain ⟨locs, hlocs⟩ : ∃ z : List Loc, z = [] := ⟨_, rfl⟩
  rw [← hlocs] at hS ⊢
  refine lv_iload_n hx hb dX14_isHost_0 rfl (lv_at hl 0 rfl) ?_
  refine lv_bipush (v := 24) hx hb dX14_isHost_1 (by decide) ?_
  refine lv_iushr (v := ushr x0 24) hx hb dX14_isHost_3 rfl ?_
  refine lv_istore_n (lv' := [(1, .int (ushr x0 24)), (0, .int x0)]) hx hb dX14_isHost_4 rfl hl (by decide) rfl (fun ls hl => ?_)
  refine lv_iload_n hx hb dX14_isHost_5 rfl (lv_at hl 0 rfl) ?_
  refine lv_iconst (v := 1) hx hb dX14_isHost_6 (by decide) ?_
  refine lv_icmp_lt (tgt := 27) hx hb dX14_isHost_7 (by decide) (fun h => ?_) (fun h => ?_)
  · have hw := hw.1 h
    refine lv_iconst (v := 0) hx hb dX14_isHost_27 (by decide) ?_
    exact rt_ip C rfl hS hw dX14_isHost_28
  have hw := hw.2 h
  refine lv_iload_n hx hb dX14_isHost_10 rfl (lv_at hl 0 rfl) ?_
  refine lv_sipush (v := 223) hx hb dX14_isHost_11 (by decide) ?_
  refine lv_icmp_gt (tgt := 27) hx hb dX14_isHost_14 (by decide) (fun h => ?_) (fun h => ?_)
  · have hw := hw.1 h
    refine lv_iconst (v := 0) hx hb dX14_isHost_27 (by decide) ?_
    exact rt_ip C rfl hS hw dX14_isHost_28
  have hw := hw.2 h
  refine lv_iload_n hx hb dX14_isHost_17 rfl (lv_at hl 0 rfl) ?_
  refine lv_bipush (v := 127) hx hb dX14_isHost_18 (by decide) ?_
  refine lv_icmp_eq (tgt := 27) hx hb dX14_isHost_20 (by decide) (fun h => ?_) (fun h => ?_)
  · have hw := hw.1 h
    refine lv_iconst (v := 0) hx hb dX14_isHost_27 (by decide) ?_
    exact rt_ip C rfl hS hw dX14_isHost_28
  have hw := hw.2 h
  refine lv_iconst (v := 1) hx hb dX14_isHost_23 (by decide) ?_
  refine lv_goto (tgt := 28) hx hb dX14_isHost_24 (by decide) ?_
  exact rt_ip C rfl hS hw dX14_isHost_28
/-! WebHostModel.lineEnd(I)I -/
abbrev cX14_lineEnd : ByteArray := prog_17_method_83_code
def yX14_lineEnd : MethodName := ⟨RX14, "lineEnd", "(I)I"⟩
theorem dX14_lineEnd_0 : decode cX14_lineEnd 0 = .ok (.iload_n 1, 1) := by decide +kernel
theorem dX14_lineEnd_1 : decode cX14_lineEnd 1 = .ok (.istore_n 2, 1) := by decide +kernel
theorem dX14_lineEnd_2 : decode cX14_lineEnd 2 = .ok (.aload_n 0, 1) := by decide +kernel
theorem dX14_lineEnd_3 : decode cX14_lineEnd 3 = .ok (.getfield 74, 3) := by decide +kernel
theorem dX14_lineEnd_6 : decode cX14_lineEnd 6 = .ok (.iload_n 2, 1) := by decide +kernel
theorem dX14_lineEnd_7 : decode cX14_lineEnd 7 = .ok (.baload, 1) := by decide +kernel
theorem dX14_lineEnd_8 : decode cX14_lineEnd 8 = .ok (.bipush 10, 2) := by decide +kernel
theorem dX14_lineEnd_10 : decode cX14_lineEnd 10 = .ok (.if_icmp .eq 9, 3) := by decide +kernel
theorem dX14_lineEnd_13 : decode cX14_lineEnd 13 = .ok (.iinc 2 1, 3) := by decide +kernel
theorem dX14_lineEnd_16 : decode cX14_lineEnd 16 = .ok (.goto (-14), 3) := by decide +kernel
theorem dX14_lineEnd_19 : decode cX14_lineEnd 19 = .ok (.iload_n 2, 1) := by decide +kernel
theorem dX14_lineEnd_20 : decode cX14_lineEnd 20 = .ok (.ireturn, 1) := by decide +kernel
def rmX14_lineEnd : Room := { frames := 0, cells := 0, slots := 0, locals := 0 }
theorem kX14_lineEnd : yX14_lineEnd.cls = "WebHostModel" ∧ yX14_lineEnd.cls ≠ "java/lang/invoke/MethodHandle" ∧ yX14_lineEnd.cls ≠ "java/lang/invoke/VarHandle" ∧ (parseMethodDescriptor yX14_lineEnd.desc).map (fun d => d.parameters.length) = some 1 := by decide +kernel
def w14_lineEnd_L2 (σ : St) (Q : Int32 → Prop) (K19 : Int32 → Prop) : Nat → Int32 → Prop
  | 0, _ => False
  | n + 1, x2 => vp_in x2 4096 ∧ (by8 (σ 66 0 x2.toNatClampNeg) → (((σ 66 0 x2.toNatClampNeg) = 10 → K19 x2) ∧ (¬ (σ 66 0 x2.toNatClampNeg) = 10 → (w14_lineEnd_L2 σ Q K19 n (x2 + 1)))))
set_option maxHeartbeats 4000000 in
theorem k14_lineEnd_L2 {p : Program} {l : Launch} {e : Env} {s : State} {m : MethodId} {args : Array Value} {below : List Frame} {meth : Method} {c : Code} {G : Gh} {a1 : Nat → Nat → Nat} {τ : St} {H : Heap} {Q : Int32 → Prop} {K19 : Int32 → Prop} (C : Cx p e s m args meth c cX14_lineEnd 3 (some .int) "WebHostModel" G) (σ : St) (hH : Hd G a1 (cmb τ σ) H) :
    ∀ (n : Nat) (x2 : Int32), w14_lineEnd_L2 σ Q K19 n x2 → ∀ (locs : List Loc) (ls : Array Slot), va_S (gA G) s.heap H locs → lv_has ls 3 [(0, .ref (ga G 14 0)), (2, .int x2)] → (∀ (x2 : Int32), K19 x2 → ∀ (locs : List Loc) (ls : Array Slot), va_S (gA G) s.heap H locs → lv_has ls 3 [(2, .int x2)] → W p l e rmX14_lineEnd s m args below meth c H locs 0 0 (MQ below (QIp G H Q) args s 0 0 (gA G)) (F0 m 19 ls [])) → W p l e rmX14_lineEnd s m args below meth c H locs 0 0 (MQ below (QIp G H Q) args s 0 0 (gA G)) (F0 m 2 ls []) := by
  have hx := C.1
  have hb := C.2.1
  have hown := C.2.2.2.2.2.1
  have hts := C.2.2.2.2.2.2.1
  intro n
  induction n with
  | zero =>
    intro x2 hw
    exact False.elim hw
  | succ n ih =>
    intro x2 hw locs ls hS hl hK19
    refine lv_aload_n hx hb dX14_lineEnd_2 rfl (lv_at hl 0 rfl) ?_
    refine g14_41 C hH q1981 dX14_lineEnd_3 ?_
    refine lv_iload_n hx hb dX14_lineEnd_6 rfl (lv_at hl 1 rfl) ?_
    refine l66 C hH hw.1 dX14_lineEnd_7 (fun hz => ?_)
    have hw := hw.2 hz
    refine lv_bipush (v := 10) hx hb dX14_lineEnd_8 (by decide) ?_
    refine lv_icmp_eq (tgt := 19) hx hb dX14_lineEnd_10 (by decide) (fun h => ?_) (fun h => ?_)
    · have hw := hw.1 h
      exact hK19 x2 hw locs ls hS (lv_sub hl [1] rfl)
    have hw := hw.2 h
    refine lv_iinc (v := x2 + 1) (lv' := [(2, .int (x2 + 1)), (0, .ref (ga G 14 0))]) hx hb dX14_lineEnd_13 hl (k := 1) rfl rfl (by decide) rfl (fun ls hl => ?_)
    refine lv_goto (tgt := 2) hx hb dX14_lineEnd_16 (by decide) ?_
    exact ih (x2 + 1) hw locs ls hS (lv_sub hl [1, 0] rfl) hK19
def w14_lineEnd (σ : St) (x1 : Int32) (Q : Int32 → Prop) : Prop := ∃ z1, w14_lineEnd_L2 σ Q (fun x2_2 => Q x2_2) z1 x1
set_option maxHeartbeats 4000000 in
theorem m14_lineEnd (l : Launch) (G : Gh) (a1 : Nat → Nat → Nat) (τ : St) (σ : St) (H : Heap) (x1 : Int32) (Q : Int32 → Prop) (hw : w14_lineEnd σ x1 Q) : Met l yX14_lineEnd (ws_ yX14_lineEnd cX14_lineEnd 3 (some .int)) rmX14_lineEnd (PcP G a1 (cmb τ σ) H [.ref (ga G 14 0), .int x1]) (QIp G H Q) 0 0 (gA G) := by
  refine met_p (by decide) (Nat.le_of_ble_eq_true rfl) ?_
  intro p e s m below meth c ls hHe C hH hS hl
  have C : Cx p e s m _ meth c cX14_lineEnd 3 (some .int) "WebHostModel" G := C
  have hl : lv_has ls 3 [(0, .ref (ga G 14 0)), (1, .int x1)] := hl
  have hx := C.1
  have hb := C.2.1
  have hown := C.2.2.2.2.2.1
  have hts := C.2.2.2.2.2.2.1
  obtain ⟨locs, hlocs⟩ : ∃ z : List Loc, z = [] := ⟨_, rfl⟩
  rw [← hlocs] at hS ⊢
  refine lv_iload_n hx hb dX14_lineEnd_0 rfl (lv_at hl 1 rfl) ?_
  refine lv_istore_n (lv' := [(2, .int x1), (0, .ref (ga G 14 0)), (1, .int x1)]) hx hb dX14_lineEnd_1 rfl hl (by decide) rfl (fun ls hl => ?_)
  obtain ⟨n1, hw⟩ := hw
  refine k14_lineEnd_L2 C σ hH n1 x1 hw locs ls hS (lv_sub hl [1, 0] rfl) (fun x2_2 hw locs ls hS hl => ?_)
  refine lv_iload_n hx hb dX14_lineEnd_19 rfl (lv_at hl 0 rfl) ?_
  exact rt_ip C rfl hS hw dX14_lineEnd_20
/-! WebHostModel.measure(LWebHostModel$Connection;I)V -/
abbrev cX14_measure : ByteArray := prog_17_method_61_code
def yX14_measure : MethodName := ⟨RX14, "measure", "(LWebHostModel$Connection;I)V"⟩
theorem dX14_measure_0 : decode cX14_measure 0 = .ok (.aload_n 0, 1) := by decide +kernel
theorem dX14_measure_1 : decode cX14_measure 1 = .ok (.getfield 460, 3) := by decide +kernel
theorem dX14_measure_4 : decode cX14_measure 4 = .ok (.ifCond .eq 52, 3) := by decide +kernel
theorem dX14_measure_7 : decode cX14_measure 7 = .ok (.aload_n 0, 1) := by decide +kernel
theorem dX14_measure_8 : decode cX14_measure 8 = .ok (.getfield 538, 3) := by decide +kernel
theorem dX14_measure_11 : decode cX14_measure 11 = .ok (.iload_n 1, 1) := by decide +kernel
theorem dX14_measure_12 : decode cX14_measure 12 = .ok (.isub, 1) := by decide +kernel
theorem dX14_measure_13 : decode cX14_measure 13 = .ok (.istore_n 2, 1) := by decide +kernel
theorem dX14_measure_14 : decode cX14_measure 14 = .ok (.aload_n 0, 1) := by decide +kernel
theorem dX14_measure_15 : decode cX14_measure 15 = .ok (.iconst 3, 1) := by decide +kernel
theorem dX14_measure_16 : decode cX14_measure 16 = .ok (.aload_n 0, 1) := by decide +kernel
theorem dX14_measure_17 : decode cX14_measure 17 = .ok (.getfield 541, 3) := by decide +kernel
theorem dX14_measure_20 : decode cX14_measure 20 = .ok (.imul, 1) := by decide +kernel
theorem dX14_measure_21 : decode cX14_measure 21 = .ok (.iload_n 2, 1) := by decide +kernel
theorem dX14_measure_22 : decode cX14_measure 22 = .ok (.ifCond .ge 8, 3) := by decide +kernel
theorem dX14_measure_25 : decode cX14_measure 25 = .ok (.iload_n 2, 1) := by decide +kernel
theorem dX14_measure_26 : decode cX14_measure 26 = .ok (.ineg, 1) := by decide +kernel
theorem dX14_measure_27 : decode cX14_measure 27 = .ok (.goto 4, 3) := by decide +kernel
theorem dX14_measure_30 : decode cX14_measure 30 = .ok (.iload_n 2, 1) := by decide +kernel
theorem dX14_measure_31 : decode cX14_measure 31 = .ok (.iadd, 1) := by decide +kernel
theorem dX14_measure_32 : decode cX14_measure 32 = .ok (.iconst 4, 1) := by decide +kernel
theorem dX14_measure_33 : decode cX14_measure 33 = .ok (.idiv, 1) := by decide +kernel
theorem dX14_measure_34 : decode cX14_measure 34 = .ok (.putfield 541, 3) := by decide +kernel
theorem dX14_measure_37 : decode cX14_measure 37 = .ok (.aload_n 0, 1) := by decide +kernel
theorem dX14_measure_38 : decode cX14_measure 38 = .ok (.bipush 7, 2) := by decide +kernel
theorem dX14_measure_40 : decode cX14_measure 40 = .ok (.aload_n 0, 1) := by decide +kernel
theorem dX14_measure_41 : decode cX14_measure 41 = .ok (.getfield 538, 3) := by decide +kernel
theorem dX14_measure_44 : decode cX14_measure 44 = .ok (.imul, 1) := by decide +kernel
theorem dX14_measure_45 : decode cX14_measure 45 = .ok (.iload_n 1, 1) := by decide +kernel
theorem dX14_measure_46 : decode cX14_measure 46 = .ok (.iadd, 1) := by decide +kernel
theorem dX14_measure_47 : decode cX14_measure 47 = .ok (.bipush 8, 2) := by decide +kernel
theorem dX14_measure_49 : decode cX14_measure 49 = .ok (.idiv, 1) := by decide +kernel
theorem dX14_measure_50 : decode cX14_measure 50 = .ok (.putfield 538, 3) := by decide +kernel
theorem dX14_measure_53 : decode cX14_measure 53 = .ok (.goto 20, 3) := by decide +kernel
theorem dX14_measure_56 : decode cX14_measure 56 = .ok (.aload_n 0, 1) := by decide +kernel
theorem dX14_measure_57 : decode cX14_measure 57 = .ok (.iconst 1, 1) := by decide +kernel
theorem dX14_measure_58 : decode cX14_measure 58 = .ok (.putfield 460, 3) := by decide +kernel
theorem dX14_measure_61 : decode cX14_measure 61 = .ok (.aload_n 0, 1) := by decide +kernel
theorem dX14_measure_62 : decode cX14_measure 62 = .ok (.iload_n 1, 1) := by decide +kernel
theorem dX14_measure_63 : decode cX14_measure 63 = .ok (.putfield 538, 3) := by decide +kernel
theorem dX14_measure_66 : decode cX14_measure 66 = .ok (.aload_n 0, 1) := by decide +kernel
theorem dX14_measure_67 : decode cX14_measure 67 = .ok (.iload_n 1, 1) := by decide +kernel
theorem dX14_measure_68 : decode cX14_measure 68 = .ok (.iconst 2, 1) := by decide +kernel
theorem dX14_measure_69 : decode cX14_measure 69 = .ok (.idiv, 1) := by decide +kernel
theorem dX14_measure_70 : decode cX14_measure 70 = .ok (.putfield 541, 3) := by decide +kernel
theorem dX14_measure_73 : decode cX14_measure 73 = .ok (.aload_n 0, 1) := by decide +kernel
theorem dX14_measure_74 : decode cX14_measure 74 = .ok (.getfield 538, 3) := by decide +kernel
theorem dX14_measure_77 : decode cX14_measure 77 = .ok (.i2l, 1) := by decide +kernel
theorem dX14_measure_78 : decode cX14_measure 78 = .ok (.ldc2_w 544, 3) := by decide +kernel
theorem dX14_measure_81 : decode cX14_measure 81 = .ok (.ldc2_w 546, 3) := by decide +kernel
theorem dX14_measure_84 : decode cX14_measure 84 = .ok (.aload_n 0, 1) := by decide +kernel
theorem dX14_measure_85 : decode cX14_measure 85 = .ok (.getfield 541, 3) := by decide +kernel
theorem dX14_measure_88 : decode cX14_measure 88 = .ok (.i2l, 1) := by decide +kernel
theorem dX14_measure_89 : decode cX14_measure 89 = .ok (.lmul, 1) := by decide +kernel
theorem dX14_measure_90 : decode cX14_measure 90 = .ok (.invokestatic 548, 3) := by decide +kernel
theorem dX14_measure_93 : decode cX14_measure 93 = .ok (.ladd, 1) := by decide +kernel
theorem dX14_measure_94 : decode cX14_measure 94 = .ok (.lstore_n 2, 1) := by decide +kernel
theorem dX14_measure_95 : decode cX14_measure 95 = .ok (.aload_n 0, 1) := by decide +kernel
theorem dX14_measure_96 : decode cX14_measure 96 = .ok (.ldc2_w 551, 3) := by decide +kernel
theorem dX14_measure_99 : decode cX14_measure 99 = .ok (.ldc2_w 553, 3) := by decide +kernel
theorem dX14_measure_102 : decode cX14_measure 102 = .ok (.lload_n 2, 1) := by decide +kernel
theorem dX14_measure_103 : decode cX14_measure 103 = .ok (.invokestatic 555, 3) := by decide +kernel
theorem dX14_measure_106 : decode cX14_measure 106 = .ok (.invokestatic 548, 3) := by decide +kernel
theorem dX14_measure_109 : decode cX14_measure 109 = .ok (.l2i, 1) := by decide +kernel
theorem dX14_measure_110 : decode cX14_measure 110 = .ok (.putfield 382, 3) := by decide +kernel
theorem dX14_measure_113 : decode cX14_measure 113 = .ok (.return_, 1) := by decide +kernel
def rmX14_measure : Room := { frames := 1, cells := 0, slots := 0, locals := 25 }
theorem kX14_measure : yX14_measure.cls = "WebHostModel" ∧ yX14_measure.cls ≠ "java/lang/invoke/MethodHandle" ∧ yX14_measure.cls ≠ "java/lang/invoke/VarHandle" ∧ (parseMethodDescriptor yX14_measure.desc).map (fun d => d.parameters.length) = some 2 := by decide +kernel
def w14_measure_J73 (σ : St) (o0 : Nat) (Q : St → Prop) : Prop := ∀ σ4, σ4 = up3 σ 15 o0 13 ((lmax 1000 (lmin 60000 (((σ 15 o0 14).toInt64) + (lmax 10 (4 * ((σ 15 o0 15).toInt64)))))).toInt32) → (Q σ4)
set_option maxHeartbeats 4000000 in
theorem k14_measure_J73 {p : Program} {l : Launch} {e : Env} {s : State} {m : MethodId} {args : Array Value} {below : List Frame} {meth : Method} {c : Code} {G : Gh} {a1 : Nat → Nat → Nat} {τ : St} {Q : St → Prop} (C : Cx p e s m args meth c cX14_measure 4 none "WebHostModel" G) (σ : St) (o0 : Nat) (ho0 : o0 < 16) (hw : w14_measure_J73 σ o0 Q) (H : Heap) (locs : List Loc) (ls : Array Slot) (hH : Hd G a1 (cmb τ σ) H) (hS : va_S (gA G) s.heap H locs) (hl : lv_has ls 4 [(0, .ref (ga G 15 o0))]) : W p l e rmX14_measure s m args below meth c H locs 0 0 (MQ below (QVs G a1 (fun u => cmb τ u) Q) args s 0 0 (gA G)) (F0 m 73 ls []) := by
  have hx := C.1
  have hb := C.2.1
  have hown := C.2.2.2.2.2.1
  have hts := C.2.2.2.2.2.2.1
  refine lv_aload_n hx hb dX14_measure_73 rfl (lv_at hl 0 rfl) ?_
  refine g15_14 C hH ho0 q1721 dX14_measure_74 ?_
  refine lv_i2l (v := (σ 15 o0 14).toInt64) hx hb dX14_measure_77 rfl ?_
  refine lv_ldc2 (v := 10) hx hb hown (hts _ q2419) dX14_measure_78 ?_
  refine lv_ldc2 (v := 4) hx hb hown (hts _ q2420) dX14_measure_81 ?_
  refine lv_aload_n hx hb dX14_measure_84 rfl (lv_at hl 0 rfl) ?_
  refine g15_15 C hH ho0 q1722 dX14_measure_85 ?_
  refine lv_i2l (v := (σ 15 o0 15).toInt64) hx hb dX14_measure_88 rfl ?_
  refine lv_lmul hx hb dX14_measure_89 ?_
  refine r_lmax C hl.1 q2202 (Nat.le_of_ble_eq_true rfl) (Nat.le_of_ble_eq_true rfl) (Nat.zero_le _) (Nat.zero_le _) dX14_measure_90 ?_
  refine lv_ladd hx hb dX14_measure_93 ?_
  refine lv_lstore_n (lv' := [(2, .long (((σ 15 o0 14).toInt64) + (lmax 10 (4 * ((σ 15 o0 15).toInt64))))), (0, .ref (ga G 15 o0))]) hx hb dX14_measure_94 rfl hl (by decide) rfl (fun ls hl => ?_)
  refine lv_aload_n hx hb dX14_measure_95 rfl (lv_at hl 1 rfl) ?_
  refine lv_ldc2 (v := 1000) hx hb hown (hts _ q2184) dX14_measure_96 ?_
  refine lv_ldc2 (v := 60000) hx hb hown (hts _ q2189) dX14_measure_99 ?_
  refine lv_lload_n hx hb dX14_measure_102 rfl (lv_at hl 0 rfl) ?_
  refine r_lmin C hl.1 q2421 (Nat.le_of_ble_eq_true rfl) (Nat.le_of_ble_eq_true rfl) (Nat.zero_le _) (Nat.zero_le _) dX14_measure_103 ?_
  refine r_lmax C hl.1 q2202 (Nat.le_of_ble_eq_true rfl) (Nat.le_of_ble_eq_true rfl) (Nat.zero_le _) (Nat.zero_le _) dX14_measure_106 ?_
  refine lv_l2i (v := (lmax 1000 (lmin 60000 (((σ 15 o0 14).toInt64) + (lmax 10 (4 * ((σ 15 o0 15).toInt64)))))).toInt32) hx hb dX14_measure_109 rfl ?_
  refine p15_13 C hH hS ho0 q1720 dX14_measure_110 (fun σ4 e4 H locs hH hS => ?_)
  have hw := hw σ4 e4
  exact rt_v C hH hS hw dX14_measure_113
def w14_measure_J31 (σ : St) (o0 : Nat) (x1 : Int32) (xs0 : Int32) (xs1 : Int32) (os2 : Nat) (Q : St → Prop) : Prop := ∀ σ5, σ5 = up3 σ 15 os2 15 ((xs1 + xs0) / 4) → (∀ σ6, σ6 = up3 σ5 15 o0 14 (((7 * (σ5 15 o0 14)) + x1) / 8) → (w14_measure_J73 σ6 o0 Q))
set_option maxHeartbeats 4000000 in
theorem k14_measure_J31 {p : Program} {l : Launch} {e : Env} {s : State} {m : MethodId} {args : Array Value} {below : List Frame} {meth : Method} {c : Code} {G : Gh} {a1 : Nat → Nat → Nat} {τ : St} {Q : St → Prop} (C : Cx p e s m args meth c cX14_measure 4 none "WebHostModel" G) (σ : St) (o0 : Nat) (x1 : Int32) (xs0 : Int32) (xs1 : Int32) (os2 : Nat) (ho0 : o0 < 16) (hos2 : os2 < 16) (hw : w14_measure_J31 σ o0 x1 xs0 xs1 os2 Q) (H : Heap) (locs : List Loc) (ls : Array Slot) (hH : Hd G a1 (cmb τ σ) H) (hS : va_S (gA G) s.heap H locs) (hl : lv_has ls 4 [(0, .ref (ga G 15 o0)), (1, .int x1)]) : W p l e rmX14_measure s m args below meth c H locs 0 0 (MQ below (QVs G a1 (fun u => cmb τ u) Q) args s 0 0 (gA G)) (F0 m 31 ls [.int xs0, .int xs1, .ref (ga G 15 os2)]) := by
  have hx := C.1
  have hb := C.2.1
  have hown := C.2.2.2.2.2.1
  have hts := C.2.2.2.2.2.2.1
  refine lv_iadd hx hb dX14_measure_31 ?_
  refine lv_iconst (v := 4) hx hb dX14_measure_32 (by decide) ?_
  refine lv_idiv hx hb dX14_measure_33 (by decide) ?_
  refine p15_15 C hH hS hos2 q1722 dX14_measure_34 (fun σ5 e5 H locs hH hS => ?_)
  have hw := hw σ5 e5
  refine lv_aload_n hx hb dX14_measure_37 rfl (lv_at hl 0 rfl) ?_
  refine lv_bipush (v := 7) hx hb dX14_measure_38 (by decide) ?_
  refine lv_aload_n hx hb dX14_measure_40 rfl (lv_at hl 0 rfl) ?_
  refine g15_14 C hH ho0 q1721 dX14_measure_41 ?_
  refine lv_imul hx hb dX14_measure_44 ?_
  refine lv_iload_n hx hb dX14_measure_45 rfl (lv_at hl 1 rfl) ?_
  refine lv_iadd hx hb dX14_measure_46 ?_
  refine lv_bipush (v := 8) hx hb dX14_measure_47 (by decide) ?_
  refine lv_idiv hx hb dX14_measure_49 (by decide) ?_
  refine p15_14 C hH hS ho0 q1721 dX14_measure_50 (fun σ6 e6 H locs hH hS => ?_)
  have hw := hw σ6 e6
  refine lv_goto (tgt := 73) hx hb dX14_measure_53 (by decide) ?_
  exact k14_measure_J73 C σ6 o0 ho0 hw H locs ls hH hS (lv_sub hl [0] rfl)
def w14_measure (σ : St) (o0 : Nat) (x1 : Int32) (Q : St → Prop) : Prop := bo (σ 15 o0 16) → (((σ 15 o0 16) = 0 → (∀ σ1, σ1 = up3 σ 15 o0 16 1 → (∀ σ2, σ2 = up3 σ1 15 o0 14 x1 → (∀ σ3, σ3 = up3 σ2 15 o0 15 (x1 / 2) → (w14_measure_J73 σ3 o0 Q))))) ∧ (¬ (σ 15 o0 16) = 0 → ((0 ≤ ((σ 15 o0 14) - x1) → (w14_measure_J31 σ o0 x1 ((σ 15 o0 14) - x1) (3 * (σ 15 o0 15)) o0 Q)) ∧ (¬ 0 ≤ ((σ 15 o0 14) - x1) → (w14_measure_J31 σ o0 x1 (-((σ 15 o0 14) - x1)) (3 * (σ 15 o0 15)) o0 Q)))))
set_option maxHeartbeats 4000000 in
theorem m14_measure (l : Launch) (G : Gh) (a1 : Nat → Nat → Nat) (τ : St) (σ : St) (o0 : Nat) (x1 : Int32) (ho0 : o0 < 16) (Q : St → Prop) (hw : w14_measure σ o0 x1 Q) : Met l yX14_measure (ws_ yX14_measure cX14_measure 4 none) rmX14_measure (PcS G a1 (cmb τ σ) [.ref (ga G 15 o0), .int x1]) (QVs G a1 (fun u => cmb τ u) Q) 0 0 (gA G) := by
  refine met_w (by decide) (Nat.le_of_ble_eq_true rfl) ?_
  intro p e s m below meth c ls C hH hS hl
  have C : Cx p e s m _ meth c cX14_measure 4 none "WebHostModel" G := C
  have hl : lv_has ls 4 [(0, .ref (ga G 15 o0)), (1, .int x1)] := hl
  have hx := C.1
  have hb := C.2.1
  have hown := C.2.2.2.2.2.1
  have hts := C.2.2.2.2.2.2.1
  obtain ⟨locs, hlocs⟩ : ∃ z : List Loc, z = [] := ⟨_, rfl⟩
  obtain ⟨H, hHe⟩ : ∃ z : Heap, z = s.heap := ⟨_, rfl⟩
  have hH : Hd G a1 (cmb τ σ) H := by rw [hHe]; exact hH
  have hS : va_S (gA G) s.heap H locs := by rw [hHe, hlocs]; exact hS
  refine W.heap0 hHe.symm hlocs.symm ?_
  refine lv_aload_n hx hb dX14_measure_0 rfl (lv_at hl 0 rfl) ?_
  refine g15_16 C hH ho0 q1723 dX14_measure_1 (fun hz => ?_)
  have hw := hw hz
  refine lv_if_eq (tgt := 56) hx hb dX14_measure_4 (by decide) (fun h => ?_) (fun h => ?_)
  · have hw := hw.1 h
    refine lv_aload_n hx hb dX14_measure_56 rfl (lv_at hl 0 rfl) ?_
    refine lv_iconst (v := 1) hx hb dX14_measure_57 (by decide) ?_
    refine p15_16 C hH hS ho0 (Or.inr rfl) q1723 dX14_measure_58 (fun σ1 e1 H locs hH hS => ?_)
    have hw := hw σ1 e1
    refine lv_aload_n hx hb dX14_measure_61 rfl (lv_at hl 0 rfl) ?_
    refine lv_iload_n hx hb dX14_measure_62 rfl (lv_at hl 1 rfl) ?_
    refine p15_14 C hH hS ho0 q1721 dX14_measure_63 (fun σ2 e2 H locs hH hS => ?_)
    have hw := hw σ2 e2
    refine lv_aload_n hx hb dX14_measure_66 rfl (lv_at hl 0 rfl) ?_
    refine lv_iload_n hx hb dX14_measure_67 rfl (lv_at hl 1 rfl) ?_
    refine lv_iconst (v := 2) hx hb dX14_measure_68 (by decide) ?_
    refine lv_idiv hx hb dX14_measure_69 (by decide) ?_
    refine p15_15 C hH hS ho0 q1722 dX14_measure_70 (fun σ3 e3 H locs hH hS => ?_)
    have hw := hw σ3 e3
    exact k14_measure_J73 C σ3 o0 ho0 hw H locs ls hH hS (lv_sub hl [0] rfl)
  have hw := hw.2 h
  refine lv_aload_n hx hb dX14_measure_7 rfl (lv_at hl 0 rfl) ?_
  refine g15_14 C hH ho0 q1721 dX14_measure_8 ?_
  refine lv_iload_n hx hb dX14_measure_11 rfl (lv_at hl 1 rfl) ?_
  refine lv_isub hx hb dX14_measure_12 ?_
  refine lv_istore_n (lv' := [(2, .int ((σ 15 o0 14) - x1)), (0, .ref (ga G 15 o0)), (1, .int x1)]) hx hb dX14_measure_13 rfl hl (by decide) rfl (fun ls hl => ?_)
  refine lv_aload_n hx hb dX14_measure_14 rfl (lv_at hl 1 rfl) ?_
  refine lv_iconst (v := 3) hx hb dX14_measure_15 (by decide) ?_
  refine lv_aload_n hx hb dX14_measure_16 rfl (lv_at hl 1 rfl) ?_
  refine g15_15 C hH ho0 q1722 dX14_measure_17 ?_
  refine lv_imul hx hb dX14_measure_20 ?_
  refine lv_iload_n hx hb dX14_measure_21 rfl (lv_at hl 0 rfl) ?_
  refine lv_if_ge (tgt := 30) hx hb dX14_measure_22 (by decide) (fun h => ?_) (fun h => ?_)
  · have hw := hw.1 h
    refine lv_iload_n hx hb dX14_measure_30 rfl (lv_at hl 0 rfl) ?_
    exact k14_measure_J31 C σ o0 x1 ((σ 15 o0 14) - x1) (3 * (σ 15 o0 15)) o0 ho0 ho0 hw H locs ls hH hS (lv_sub hl [1, 2] rfl)
  have hw := hw.2 h
  refine lv_iload_n hx hb dX14_measure_25 rfl (lv_at hl 0 rfl) ?_
  refine lv_ineg hx hb dX14_measure_26 ?_
  refine lv_goto (tgt := 31) hx hb dX14_measure_27 (by decide) ?_
  exact k14_measure_J31 C σ o0 x1 (-((σ 15 o0 14) - x1)) (3 * (σ 15 o0 15)) o0 ho0 ho0 hw H locs ls hH hS (lv_sub hl [1, 2] rfl)
/-! WebHostModel.net(I)I -/
abbrev cX14_net : ByteArray := prog_17_method_10_code
def yX14_net : MethodName := ⟨RX14, "net", "(I)I"⟩
theorem dX14_net_0 : decode cX14_net 0 = .ok (.iload_n 1, 1) := by decide +kernel
theorem dX14_net_1 : decode cX14_net 1 = .ok (.bipush 32, 2) := by decide +kernel
theorem dX14_net_3 : decode cX14_net 3 = .ok (.aload_n 0, 1) := by decide +kernel
theorem dX14_net_4 : decode cX14_net 4 = .ok (.getfield 108, 3) := by decide +kernel
theorem dX14_net_7 : decode cX14_net 7 = .ok (.isub, 1) := by decide +kernel
theorem dX14_net_8 : decode cX14_net 8 = .ok (.ishr, 1) := by decide +kernel
theorem dX14_net_9 : decode cX14_net 9 = .ok (.bipush 32, 2) := by decide +kernel
theorem dX14_net_11 : decode cX14_net 11 = .ok (.aload_n 0, 1) := by decide +kernel
theorem dX14_net_12 : decode cX14_net 12 = .ok (.getfield 108, 3) := by decide +kernel
theorem dX14_net_15 : decode cX14_net 15 = .ok (.isub, 1) := by decide +kernel
theorem dX14_net_16 : decode cX14_net 16 = .ok (.ishl, 1) := by decide +kernel
theorem dX14_net_17 : decode cX14_net 17 = .ok (.ireturn, 1) := by decide +kernel
def rmX14_net : Room := { frames := 0, cells := 0, slots := 0, locals := 0 }
theorem kX14_net : yX14_net.cls = "WebHostModel" ∧ yX14_net.cls ≠ "java/lang/invoke/MethodHandle" ∧ yX14_net.cls ≠ "java/lang/invoke/VarHandle" ∧ (parseMethodDescriptor yX14_net.desc).map (fun d => d.parameters.length) = some 1 := by decide +kernel
def w14_net (σ : St) (x1 : Int32) (Q : Int32 → Prop) : Prop := Q ((x1 >>> ((32 - (σ 14 0 6)) &&& 31)) <<< ((32 - (σ 14 0 6)) &&& 31))
set_option maxHeartbeats 4000000 in
theorem m14_net (l : Launch) (G : Gh) (a1 : Nat → Nat → Nat) (τ : St) (σ : St) (H : Heap) (x1 : Int32) (Q : Int32 → Prop) (hw : w14_net σ x1 Q) : Met l yX14_net (ws_ yX14_net cX14_net 2 (some .int)) rmX14_net (PcP G a1 (cmb τ σ) H [.ref (ga G 14 0), .int x1]) (QIp G H Q) 0 0 (gA G) := by
  refine met_p (by decide) (Nat.le_of_ble_eq_true rfl) ?_
  intro p e s m below meth c ls hHe C hH hS hl
  have C : Cx p e s m _ meth c cX14_net 2 (some .int) "WebHostModel" G := C
  have hl : lv_has ls 2 [(0, .ref (ga G 14 0)), (1, .int x1)] := hl
  have hx := C.1
  have hb := C.2.1
  have hown := C.2.2.2.2.2.1
  have hts := C.2.2.2.2.2.2.1
  obtain ⟨locs, hlocs⟩ : ∃ z : List Loc, z = [] := ⟨_, rfl⟩
  rw [← hlocs] at hS ⊢
  refine lv_iload_n hx hb dX14_net_0 rfl (lv_at hl 1 rfl) ?_
  refine lv_bipush (v := 32) hx hb dX14_net_1 (by decide) ?_
  refine lv_aload_n hx hb dX14_net_3 rfl (lv_at hl 0 rfl) ?_
  refine g14_6 C hH q1946 dX14_net_4 ?_
  refine lv_isub hx hb dX14_net_7 ?_
  refine lv_ishr hx hb dX14_net_8 ?_
  refine lv_bipush (v := 32) hx hb dX14_net_9 (by decide) ?_
  refine lv_aload_n hx hb dX14_net_11 rfl (lv_at hl 0 rfl) ?_
  refine g14_6 C hH q1946 dX14_net_12 ?_
  refine lv_isub hx hb dX14_net_15 ?_
  refine lv_ishl hx hb dX14_net_16 ?_
  exact rt_ip C rfl hS hw dX14_net_17
/-! WebHostModel.now()I -/
abbrev cX14_now : ByteArray := prog_17_method_109_code
def yX14_now : MethodName := ⟨RX14, "now", "()I"⟩
theorem dX14_now_0 : decode cX14_now 0 = .ok (.aload_n 0, 1) := by decide +kernel
theorem dX14_now_1 : decode cX14_now 1 = .ok (.getfield 95, 3) := by decide +kernel
theorem dX14_now_4 : decode cX14_now 4 = .ok (.ifCond .eq 10, 3) := by decide +kernel
theorem dX14_now_7 : decode cX14_now 7 = .ok (.aload_n 0, 1) := by decide +kernel
theorem dX14_now_8 : decode cX14_now 8 = .ok (.getfield 134, 3) := by decide +kernel
theorem dX14_now_11 : decode cX14_now 11 = .ok (.goto 4, 3) := by decide +kernel
theorem dX14_now_14 : decode cX14_now 14 = .ok (.iconst (-1), 1) := by decide +kernel
theorem dX14_now_15 : decode cX14_now 15 = .ok (.ireturn, 1) := by decide +kernel
def rmX14_now : Room := { frames := 0, cells := 0, slots := 0, locals := 0 }
theorem kX14_now : yX14_now.cls = "WebHostModel" ∧ yX14_now.cls ≠ "java/lang/invoke/MethodHandle" ∧ yX14_now.cls ≠ "java/lang/invoke/VarHandle" ∧ (parseMethodDescriptor yX14_now.desc).map (fun d => d.parameters.length) = some 0 := by decide +kernel
def w14_now (σ : St) (Q : Int32 → Prop) : Prop := bo (σ 14 0 4) → (((σ 14 0 4) = 0 → (Q (-1))) ∧ (¬ (σ 14 0 4) = 0 → (Q (σ 14 0 10))))
set_option maxHeartbeats 4000000 in
theorem m14_now (l : Launch) (G : Gh) (a1 : Nat → Nat → Nat) (τ : St) (σ : St) (H : Heap) (Q : Int32 → Prop) (hw : w14_now σ Q) : Met l yX14_now (ws_ yX14_now cX14_now 1 (some .int)) rmX14_now (PcP G a1 (cmb τ σ) H [.ref (ga G 14 0)]) (QIp G H Q) 0 0 (gA G) := by
  refine met_p (by decide) (Nat.le_of_ble_eq_true rfl) ?_
  intro p e s m below meth c ls hHe C hH hS hl
  have C : Cx p e s m _ meth c cX14_now 1 (some .int) "WebHostModel" G := C
  have hl : lv_has ls 1 [(0, .ref (ga G 14 0))] := hl
  have hx := C.1
  have hb := C.2.1
  have hown := C.2.2.2.2.2.1
  have hts := C.2.2.2.2.2.2.1
  obtain ⟨locs, hlocs⟩ : ∃ z : List Loc, z = [] := ⟨_, rfl⟩
  rw [← hlocs] at hS ⊢
  refine lv_aload_n hx hb dX14_now_0 rfl (lv_at hl 0 rfl) ?_
  refine g14_4 C hH q1944 dX14_now_1 (fun hz => ?_)
  have hw := hw hz
  refine lv_if_eq (tgt := 14) hx hb dX14_now_4 (by decide) (fun h => ?_) (fun h => ?_)
  · have hw := hw.1 h
    refine lv_iconst (v := (-1)) hx hb dX14_now_14 (by decide) ?_
    exact rt_ip C rfl hS hw dX14_now_15
  have hw := hw.2 h
  refine lv_aload_n hx hb dX14_now_7 rfl (lv_at hl 0 rfl) ?_
  refine g14_10 C hH q1950 dX14_now_8 ?_
  refine lv_goto (tgt := 15) hx hb dX14_now_11 (by decide) ?_
  exact rt_ip C rfl hS hw dX14_now_15
/-! WebHostModel.packet(I)LWebHostModel$Packet; -/
abbrev cX14_packet : ByteArray := prog_17_method_19_code
def yX14_packet : MethodName := ⟨RX14, "packet", "(I)LWebHostModel$Packet;"⟩
theorem dX14_packet_0 : decode cX14_packet 0 = .ok (.iconst 0, 1) := by decide +kernel
theorem dX14_packet_1 : decode cX14_packet 1 = .ok (.istore_n 2, 1) := by decide +kernel
theorem dX14_packet_2 : decode cX14_packet 2 = .ok (.iload_n 2, 1) := by decide +kernel
theorem dX14_packet_3 : decode cX14_packet 3 = .ok (.bipush 8, 2) := by decide +kernel
theorem dX14_packet_5 : decode cX14_packet 5 = .ok (.if_icmp .ge 41, 3) := by decide +kernel
theorem dX14_packet_8 : decode cX14_packet 8 = .ok (.aload_n 0, 1) := by decide +kernel
theorem dX14_packet_9 : decode cX14_packet 9 = .ok (.getfield 55, 3) := by decide +kernel
theorem dX14_packet_12 : decode cX14_packet 12 = .ok (.iload_n 2, 1) := by decide +kernel
theorem dX14_packet_13 : decode cX14_packet 13 = .ok (.aaload, 1) := by decide +kernel
theorem dX14_packet_14 : decode cX14_packet 14 = .ok (.getfield 158, 3) := by decide +kernel
theorem dX14_packet_17 : decode cX14_packet 17 = .ok (.ifCond .eq 23, 3) := by decide +kernel
theorem dX14_packet_20 : decode cX14_packet 20 = .ok (.aload_n 0, 1) := by decide +kernel
theorem dX14_packet_21 : decode cX14_packet 21 = .ok (.getfield 55, 3) := by decide +kernel
theorem dX14_packet_24 : decode cX14_packet 24 = .ok (.iload_n 2, 1) := by decide +kernel
theorem dX14_packet_25 : decode cX14_packet 25 = .ok (.aaload, 1) := by decide +kernel
theorem dX14_packet_26 : decode cX14_packet 26 = .ok (.getfield 182, 3) := by decide +kernel
theorem dX14_packet_29 : decode cX14_packet 29 = .ok (.iload_n 1, 1) := by decide +kernel
theorem dX14_packet_30 : decode cX14_packet 30 = .ok (.if_icmp .ne 10, 3) := by decide +kernel
theorem dX14_packet_33 : decode cX14_packet 33 = .ok (.aload_n 0, 1) := by decide +kernel
theorem dX14_packet_34 : decode cX14_packet 34 = .ok (.getfield 55, 3) := by decide +kernel
theorem dX14_packet_37 : decode cX14_packet 37 = .ok (.iload_n 2, 1) := by decide +kernel
theorem dX14_packet_38 : decode cX14_packet 38 = .ok (.aaload, 1) := by decide +kernel
theorem dX14_packet_39 : decode cX14_packet 39 = .ok (.areturn, 1) := by decide +kernel
theorem dX14_packet_40 : decode cX14_packet 40 = .ok (.iinc 2 1, 3) := by decide +kernel
theorem dX14_packet_43 : decode cX14_packet 43 = .ok (.goto (-41), 3) := by decide +kernel
theorem dX14_packet_46 : decode cX14_packet 46 = .ok (.aconst_null, 1) := by decide +kernel
theorem dX14_packet_47 : decode cX14_packet 47 = .ok (.areturn, 1) := by decide +kernel
def rmX14_packet : Room := { frames := 0, cells := 0, slots := 0, locals := 0 }
theorem kX14_packet : yX14_packet.cls = "WebHostModel" ∧ yX14_packet.cls ≠ "java/lang/invoke/MethodHandle" ∧ yX14_packet.cls ≠ "java/lang/invoke/VarHandle" ∧ (parseMethodDescriptor yX14_packet.desc).map (fun d => d.parameters.length) = some 1 := by decide +kernel
def w14_packet_L2 (σ : St) (x1 : Int32) (Q : Option Nat → Prop) (K33 : Int32 → Prop) (K46 : Prop) : Nat → Int32 → Prop
  | 0, _ => False
  | n + 1, x2 => (8 ≤ x2 → K46) ∧ (¬ 8 ≤ x2 → (vp_in x2 8 ∧ (bo (σ 17 x2.toNatClampNeg 0) → (((σ 17 x2.toNatClampNeg 0) = 0 → (w14_packet_L2 σ x1 Q K33 K46 n (x2 + 1))) ∧ (¬ (σ 17 x2.toNatClampNeg 0) = 0 → (vp_in x2 8 ∧ ((¬ (σ 17 x2.toNatClampNeg 1) = x1 → (w14_packet_L2 σ x1 Q K33 K46 n (x2 + 1))) ∧ ((σ 17 x2.toNatClampNeg 1) = x1 → K33 x2))))))))
set_option maxHeartbeats 4000000 in
theorem k14_packet_L2 {p : Program} {l : Launch} {e : Env} {s : State} {m : MethodId} {args : Array Value} {below : List Frame} {meth : Method} {c : Code} {G : Gh} {a1 : Nat → Nat → Nat} {τ : St} {H : Heap} {Q : Option Nat → Prop} {K33 : Int32 → Prop} {K46 : Prop} (C : Cx p e s m args meth c cX14_packet 3 (some (.object "WebHostModel$Packet")) "WebHostModel" G) (σ : St) (x1 : Int32) (hH : Hd G a1 (cmb τ σ) H) :
    ∀ (n : Nat) (x2 : Int32), w14_packet_L2 σ x1 Q K33 K46 n x2 → ∀ (locs : List Loc) (ls : Array Slot), va_S (gA G) s.heap H locs → lv_has ls 3 [(0, .ref (ga G 14 0)), (1, .int x1), (2, .int x2)] → (∀ (x2 : Int32), K33 x2 → ∀ (locs : List Loc) (ls : Array Slot), va_S (gA G) s.heap H locs → lv_has ls 3 [(0, .ref (ga G 14 0)), (2, .int x2)] → W p l e rmX14_packet s m args below meth c H locs 0 0 (MQ below (QEp G H 17 Q) args s 0 0 (gA G)) (F0 m 33 ls [])) → (K46 → ∀ (locs : List Loc) (ls : Array Slot), va_S (gA G) s.heap H locs → lv_has ls 3 [] → W p l e rmX14_packet s m args below meth c H locs 0 0 (MQ below (QEp G H 17 Q) args s 0 0 (gA G)) (F0 m 46 ls [])) → W p l e rmX14_packet s m args below meth c H locs 0 0 (MQ below (QEp G H 17 Q) args s 0 0 (gA G)) (F0 m 2 ls []) := by
  have hx := C.1
  have hb := C.2.1
  have hown := C.2.2.2.2.2.1
  have hts := C.2.2.2.2.2.2.1
  intro n
  induction n with
  | zero =>
    intro x2 hw
    exact False.elim hw
  | succ n ih =>
    intro x2 hw locs ls hS hl hK33 hK46
    refine lv_iload_n hx hb dX14_packet_2 rfl (lv_at hl 2 rfl) ?_
    refine lv_bipush (v := 8) hx hb dX14_packet_3 (by decide) ?_
    refine lv_icmp_ge (tgt := 46) hx hb dX14_packet_5 (by decide) (fun h => ?_) (fun h => ?_)
    · have hw := hw.1 h
      exact hK46 hw locs ls hS (lv_sub hl [] rfl)
    have hw := hw.2 h
    refine lv_aload_n hx hb dX14_packet_8 rfl (lv_at hl 0 rfl) ?_
    refine g14_27 C hH q1967 dX14_packet_9 ?_
    refine lv_iload_n hx hb dX14_packet_12 rfl (lv_at hl 2 rfl) ?_
    have hq1 := vp_lt hw.1
    refine l62 C hH hw.1 dX14_packet_13 ?_
    have hw := hw.2
    refine g17_0 C hH hq1 q1882 dX14_packet_14 (fun hz => ?_)
    have hw := hw hz
    refine lv_if_eq (tgt := 40) hx hb dX14_packet_17 (by decide) (fun h => ?_) (fun h => ?_)
    · have hw := hw.1 h
      refine lv_iinc (v := x2 + 1) (lv' := [(2, .int (x2 + 1)), (0, .ref (ga G 14 0)), (1, .int x1)]) hx hb dX14_packet_40 hl (k := 2) rfl rfl (by decide) rfl (fun ls hl => ?_)
      refine lv_goto (tgt := 2) hx hb dX14_packet_43 (by decide) ?_
      exact ih (x2 + 1) hw locs ls hS (lv_sub hl [1, 2, 0] rfl) hK33 hK46
    have hw := hw.2 h
    refine lv_aload_n hx hb dX14_packet_20 rfl (lv_at hl 0 rfl) ?_
    refine g14_27 C hH q1967 dX14_packet_21 ?_
    refine lv_iload_n hx hb dX14_packet_24 rfl (lv_at hl 2 rfl) ?_
    have hq2 := vp_lt hw.1
    refine l62 C hH hw.1 dX14_packet_25 ?_
    have hw := hw.2
    refine g17_1 C hH hq2 q1883 dX14_packet_26 ?_
    refine lv_iload_n hx hb dX14_packet_29 rfl (lv_at hl 1 rfl) ?_
    refine lv_icmp_ne (tgt := 40) hx hb dX14_packet_30 (by decide) (fun h => ?_) (fun h => ?_)
    · have hw := hw.1 h
      refine lv_iinc (v := x2 + 1) (lv' := [(2, .int (x2 + 1)), (0, .ref (ga G 14 0)), (1, .int x1)]) hx hb dX14_packet_40 hl (k := 2) rfl rfl (by decide) rfl (fun ls hl => ?_)
      refine lv_goto (tgt := 2) hx hb dX14_packet_43 (by decide) ?_
      exact ih (x2 + 1) hw locs ls hS (lv_sub hl [1, 2, 0] rfl) hK33 hK46
    have hw := hw.2 h
    exact hK33 x2 hw locs ls hS (lv_sub hl [0, 2] rfl)
def w14_packet (σ : St) (x1 : Int32) (Q : Option Nat → Prop) : Prop := ∃ z3, w14_packet_L2 σ x1 Q (fun x2_4 => vp_in x2_4 8 ∧ (Q (some x2_4.toNatClampNeg))) (Q none) z3 0
set_option maxHeartbeats 4000000 in
theorem m14_packet (l : Launch) (G : Gh) (a1 : Nat → Nat → Nat) (τ : St) (σ : St) (H : Heap) (x1 : Int32) (Q : Option Nat → Prop) (hw : w14_packet σ x1 Q) : Met l yX14_packet (ws_ yX14_packet cX14_packet 3 (some (.object "WebHostModel$Packet"))) rmX14_packet (PcP G a1 (cmb τ σ) H [.ref (ga G 14 0), .int x1]) (QEp G H 17 Q) 0 0 (gA G) := by
  refine met_p (by decide) (Nat.le_of_ble_eq_true rfl) ?_
  intro p e s m below meth c ls hHe C hH hS hl
  have C : Cx p e s m _ meth c cX14_packet 3 (some (.object "WebHostModel$Packet")) "WebHostModel" G := C
  have hl : lv_has ls 3 [(0, .ref (ga G 14 0)), (1, .int x1)] := hl
  have hx := C.1
  have hb := C.2.1
  have hown := C.2.2.2.2.2.1
  have hts := C.2.2.2.2.2.2.1
  obtain ⟨locs, hlocs⟩ : ∃ z : List Loc, z = [] := ⟨_, rfl⟩
  rw [← hlocs] at hS ⊢
  refine lv_iconst (v := 0) hx hb dX14_packet_0 (by decide) ?_
  refine lv_istore_n (lv' := [(2, .int 0), (0, .ref (ga G 14 0)), (1, .int x1)]) hx hb dX14_packet_1 rfl hl (by decide) rfl (fun ls hl => ?_)
  obtain ⟨n3, hw⟩ := hw
  refine k14_packet_L2 C σ x1 hH n3 0 hw locs ls hS (lv_sub hl [1, 2, 0] rfl) (fun x2_4 hw locs ls hS hl => ?_) (fun hw locs ls hS hl => ?_)
  · refine lv_aload_n hx hb dX14_packet_33 rfl (lv_at hl 0 rfl) ?_
    refine g14_27 C hH q1967 dX14_packet_34 ?_
    refine lv_iload_n hx hb dX14_packet_37 rfl (lv_at hl 1 rfl) ?_
    have hq6 := vp_lt hw.1
    refine l62 C hH hw.1 dX14_packet_38 ?_
    have hw := hw.2
    exact rt_ep (some x2_4.toNatClampNeg) C rfl hS hw dX14_packet_39
  refine lv_null hx hb dX14_packet_46 ?_
  exact rt_ep none C rfl hS hw dX14_packet_47
/-! WebHostModel.pseudo(III)J -/
abbrev cX14_pseudo : ByteArray := prog_17_method_36_code
def yX14_pseudo : MethodName := ⟨RX14, "pseudo", "(III)J"⟩
theorem dX14_pseudo_0 : decode cX14_pseudo 0 = .ok (.iload_n 1, 1) := by decide +kernel
theorem dX14_pseudo_1 : decode cX14_pseudo 1 = .ok (.bipush 16, 2) := by decide +kernel
theorem dX14_pseudo_3 : decode cX14_pseudo 3 = .ok (.iushr, 1) := by decide +kernel
theorem dX14_pseudo_4 : decode cX14_pseudo 4 = .ok (.iload_n 1, 1) := by decide +kernel
theorem dX14_pseudo_5 : decode cX14_pseudo 5 = .ok (.ldc 14, 2) := by decide +kernel
theorem dX14_pseudo_7 : decode cX14_pseudo 7 = .ok (.iand, 1) := by decide +kernel
theorem dX14_pseudo_8 : decode cX14_pseudo 8 = .ok (.iadd, 1) := by decide +kernel
theorem dX14_pseudo_9 : decode cX14_pseudo 9 = .ok (.iload_n 2, 1) := by decide +kernel
theorem dX14_pseudo_10 : decode cX14_pseudo 10 = .ok (.bipush 16, 2) := by decide +kernel
theorem dX14_pseudo_12 : decode cX14_pseudo 12 = .ok (.iushr, 1) := by decide +kernel
theorem dX14_pseudo_13 : decode cX14_pseudo 13 = .ok (.iadd, 1) := by decide +kernel
theorem dX14_pseudo_14 : decode cX14_pseudo 14 = .ok (.iload_n 2, 1) := by decide +kernel
theorem dX14_pseudo_15 : decode cX14_pseudo 15 = .ok (.ldc 14, 2) := by decide +kernel
theorem dX14_pseudo_17 : decode cX14_pseudo 17 = .ok (.iand, 1) := by decide +kernel
theorem dX14_pseudo_18 : decode cX14_pseudo 18 = .ok (.iadd, 1) := by decide +kernel
theorem dX14_pseudo_19 : decode cX14_pseudo 19 = .ok (.i2l, 1) := by decide +kernel
theorem dX14_pseudo_20 : decode cX14_pseudo 20 = .ok (.ldc2_w 280, 3) := by decide +kernel
theorem dX14_pseudo_23 : decode cX14_pseudo 23 = .ok (.ladd, 1) := by decide +kernel
theorem dX14_pseudo_24 : decode cX14_pseudo 24 = .ok (.iload_n 3, 1) := by decide +kernel
theorem dX14_pseudo_25 : decode cX14_pseudo 25 = .ok (.i2l, 1) := by decide +kernel
theorem dX14_pseudo_26 : decode cX14_pseudo 26 = .ok (.ladd, 1) := by decide +kernel
theorem dX14_pseudo_27 : decode cX14_pseudo 27 = .ok (.lreturn, 1) := by decide +kernel
def rmX14_pseudo : Room := { frames := 0, cells := 0, slots := 0, locals := 0 }
theorem kX14_pseudo : yX14_pseudo.cls = "WebHostModel" ∧ yX14_pseudo.cls ≠ "java/lang/invoke/MethodHandle" ∧ yX14_pseudo.cls ≠ "java/lang/invoke/VarHandle" ∧ (parseMethodDescriptor yX14_pseudo.desc).map (fun d => d.parameters.length) = some 3 := by decide +kernel
def w14_pseudo (σ : St) (x1 : Int32) (x2 : Int32) (x3 : Int32) (Q : Int64 → Prop) : Prop := Q (((((((ushr x1 16) + (x1 &&& 65535)) + (ushr x2 16)) + (x2 &&& 65535)).toInt64) + 6) + x3.toInt64)
set_option maxHeartbeats 4000000 in
theorem m14_pseudo (l : Launch) (G : Gh) (a1 : Nat → Nat → Nat) (τ : St) (σ : St) (H : Heap) (x1 : Int32) (x2 : Int32) (x3 : Int32) (Q : Int64 → Prop) (hw : w14_pseudo σ x1 x2 x3 Q) : Met l yX14_pseudo (ws_ yX14_pseudo cX14_pseudo 4 (some .long)) rmX14_pseudo (PcP G a1 (cmb τ σ) H [.ref (ga G 14 0), .int x1, .int x2, .int x3]) (QJp G H Q) 0 0 (gA G) := by
  refine met_p (by decide) (Nat.le_of_ble_eq_true rfl) ?_
  intro p e s m below meth c ls hHe C hH hS hl
  have C : Cx p e s m _ meth c cX14_pseudo 4 (some .long) "WebHostModel" G := C
  have hl : lv_has ls 4 [(0, .ref (ga G 14 0)), (1, .int x1), (2, .int x2), (3, .int x3)] := hl
  have hx := C.1
  have hb := C.2.1
  have hown := C.2.2.2.2.2.1
  have hts := C.2.2.2.2.2.2.1
  obtain ⟨locs, hlocs⟩ : ∃ z : List Loc, z = [] := ⟨_, rfl⟩
  rw [← hlocs] at hS ⊢
  refine lv_iload_n hx hb dX14_pseudo_0 rfl (lv_at hl 1 rfl) ?_
  refine lv_bipush (v := 16) hx hb dX14_pseudo_1 (by decide) ?_
  refine lv_iushr (v := ushr x1 16) hx hb dX14_pseudo_3 rfl ?_
  refine lv_iload_n hx hb dX14_pseudo_4 rfl (lv_at hl 1 rfl) ?_
  refine lv_ldc (v := 65535) hx hb hown (hts _ q1692) dX14_pseudo_5 ?_
  refine lv_iand hx hb dX14_pseudo_7 ?_
  refine lv_iadd hx hb dX14_pseudo_8 ?_
  refine lv_iload_n hx hb dX14_pseudo_9 rfl (lv_at hl 2 rfl) ?_
  refine lv_bipush (v := 16) hx hb dX14_pseudo_10 (by decide) ?_
  refine lv_iushr (v := ushr x2 16) hx hb dX14_pseudo_12 rfl ?_
  refine lv_iadd hx hb dX14_pseudo_13 ?_
  refine lv_iload_n hx hb dX14_pseudo_14 rfl (lv_at hl 2 rfl) ?_
  refine lv_ldc (v := 65535) hx hb hown (hts _ q1692) dX14_pseudo_15 ?_
  refine lv_iand hx hb dX14_pseudo_17 ?_
  refine lv_iadd hx hb dX14_pseudo_18 ?_
  refine lv_i2l (v := ((((ushr x1 16) + (x1 &&& 65535)) + (ushr x2 16)) + (x2 &&& 65535)).toInt64) hx hb dX14_pseudo_19 rfl ?_
  refine lv_ldc2 (v := 6) hx hb hown (hts _ q2248) dX14_pseudo_20 ?_
  refine lv_ladd hx hb dX14_pseudo_23 ?_
  refine lv_iload_n hx hb dX14_pseudo_24 rfl (lv_at hl 3 rfl) ?_
  refine lv_i2l (v := x3.toInt64) hx hb dX14_pseudo_25 rfl ?_
  refine lv_ladd hx hb dX14_pseudo_26 ?_
  exact rt_jp C hS hw dX14_pseudo_27
/-! WebHostModel.put(III)V -/
abbrev cX14_put : ByteArray := prog_17_method_13_code
def yX14_put : MethodName := ⟨RX14, "put", "(III)V"⟩
theorem dX14_put_0 : decode cX14_put 0 = .ok (.iconst 0, 1) := by decide +kernel
theorem dX14_put_1 : decode cX14_put 1 = .ok (.istore 4, 2) := by decide +kernel
theorem dX14_put_3 : decode cX14_put 3 = .ok (.iload 4, 2) := by decide +kernel
theorem dX14_put_5 : decode cX14_put 5 = .ok (.iload_n 2, 1) := by decide +kernel
theorem dX14_put_6 : decode cX14_put 6 = .ok (.if_icmp .ge 30, 3) := by decide +kernel
theorem dX14_put_9 : decode cX14_put 9 = .ok (.aload_n 0, 1) := by decide +kernel
theorem dX14_put_10 : decode cX14_put 10 = .ok (.getfield 34, 3) := by decide +kernel
theorem dX14_put_13 : decode cX14_put 13 = .ok (.iload_n 1, 1) := by decide +kernel
theorem dX14_put_14 : decode cX14_put 14 = .ok (.iload 4, 2) := by decide +kernel
theorem dX14_put_16 : decode cX14_put 16 = .ok (.iadd, 1) := by decide +kernel
theorem dX14_put_17 : decode cX14_put 17 = .ok (.iload_n 3, 1) := by decide +kernel
theorem dX14_put_18 : decode cX14_put 18 = .ok (.bipush 8, 2) := by decide +kernel
theorem dX14_put_20 : decode cX14_put 20 = .ok (.iload_n 2, 1) := by decide +kernel
theorem dX14_put_21 : decode cX14_put 21 = .ok (.iconst 1, 1) := by decide +kernel
theorem dX14_put_22 : decode cX14_put 22 = .ok (.isub, 1) := by decide +kernel
theorem dX14_put_23 : decode cX14_put 23 = .ok (.iload 4, 2) := by decide +kernel
theorem dX14_put_25 : decode cX14_put 25 = .ok (.isub, 1) := by decide +kernel
theorem dX14_put_26 : decode cX14_put 26 = .ok (.imul, 1) := by decide +kernel
theorem dX14_put_27 : decode cX14_put 27 = .ok (.ishr, 1) := by decide +kernel
theorem dX14_put_28 : decode cX14_put 28 = .ok (.i2b, 1) := by decide +kernel
theorem dX14_put_29 : decode cX14_put 29 = .ok (.bastore, 1) := by decide +kernel
theorem dX14_put_30 : decode cX14_put 30 = .ok (.iinc 4 1, 3) := by decide +kernel
theorem dX14_put_33 : decode cX14_put 33 = .ok (.goto (-30), 3) := by decide +kernel
theorem dX14_put_36 : decode cX14_put 36 = .ok (.return_, 1) := by decide +kernel
def rmX14_put : Room := { frames := 0, cells := 0, slots := 0, locals := 0 }
theorem kX14_put : yX14_put.cls = "WebHostModel" ∧ yX14_put.cls ≠ "java/lang/invoke/MethodHandle" ∧ yX14_put.cls ≠ "java/lang/invoke/VarHandle" ∧ (parseMethodDescriptor yX14_put.desc).map (fun d => d.parameters.length) = some 3 := by decide +kernel
def w14_put_L3 (x1 : Int32) (x2 : Int32) (x3 : Int32) (Q : St → Prop) (K36 : St → Prop) : Nat → St → Int32 → Prop
  | 0, _, _ => False
  | n + 1, σ, x4 => (x2 ≤ x4 → K36 σ) ∧ (¬ x2 ≤ x4 → (vp_in (x1 + x4) 1514 ∧ (∀ σ1, σ1 = up3 σ 57 0 (x1 + x4).toNatClampNeg ((x3 >>> ((8 * ((x2 - 1) - x4)) &&& 31)).toInt8.toInt32).toInt8.toInt32 → (w14_put_L3 x1 x2 x3 Q K36 n σ1 (x4 + 1)))))
set_option maxHeartbeats 4000000 in
theorem k14_put_L3 {p : Program} {l : Launch} {e : Env} {s : State} {m : MethodId} {args : Array Value} {below : List Frame} {meth : Method} {c : Code} {G : Gh} {a1 : Nat → Nat → Nat} {τ : St} {Q : St → Prop} {K36 : St → Prop} (C : Cx p e s m args meth c cX14_put 5 none "WebHostModel" G) (x1 : Int32) (x2 : Int32) (x3 : Int32) :
    ∀ (n : Nat) (σ : St) (x4 : Int32), w14_put_L3 x1 x2 x3 Q K36 n σ x4 → ∀ (H : Heap) (locs : List Loc) (ls : Array Slot), Hd G a1 (cmb τ σ) H → va_S (gA G) s.heap H locs → lv_has ls 5 [(0, .ref (ga G 14 0)), (1, .int x1), (2, .int x2), (3, .int x3), (4, .int x4)] → (∀ (σ : St) , K36 σ → ∀ (H : Heap) (locs : List Loc) (ls : Array Slot), Hd G a1 (cmb τ σ) H → va_S (gA G) s.heap H locs → lv_has ls 5 [] → W p l e rmX14_put s m args below meth c H locs 0 0 (MQ below (QVs G a1 (fun u => cmb τ u) Q) args s 0 0 (gA G)) (F0 m 36 ls [])) → W p l e rmX14_put s m args below meth c H locs 0 0 (MQ below (QVs G a1 (fun u => cmb τ u) Q) args s 0 0 (gA G)) (F0 m 3 ls []) := by
  have hx := C.1
  have hb := C.2.1
  have hown := C.2.2.2.2.2.1
  have hts := C.2.2.2.2.2.2.1
  intro n
  induction n with
  | zero =>
    intro σ x4 hw
    exact False.elim hw
  | succ n ih =>
    intro σ x4 hw H locs ls hH hS hl hK36
    refine lv_iload hx hb dX14_put_3 (lv_at hl 4 rfl) ?_
    refine lv_iload_n hx hb dX14_put_5 rfl (lv_at hl 2 rfl) ?_
    refine lv_icmp_ge (tgt := 36) hx hb dX14_put_6 (by decide) (fun h => ?_) (fun h => ?_)
    · have hw := hw.1 h
      exact hK36 σ hw H locs ls hH hS (lv_sub hl [] rfl)
    have hw := hw.2 h
    refine lv_aload_n hx hb dX14_put_9 rfl (lv_at hl 0 rfl) ?_
    refine g14_19 C hH q1959 dX14_put_10 ?_
    refine lv_iload_n hx hb dX14_put_13 rfl (lv_at hl 1 rfl) ?_
    refine lv_iload hx hb dX14_put_14 (lv_at hl 4 rfl) ?_
    refine lv_iadd hx hb dX14_put_16 ?_
    refine lv_iload_n hx hb dX14_put_17 rfl (lv_at hl 3 rfl) ?_
    refine lv_bipush (v := 8) hx hb dX14_put_18 (by decide) ?_
    refine lv_iload_n hx hb dX14_put_20 rfl (lv_at hl 2 rfl) ?_
    refine lv_iconst (v := 1) hx hb dX14_put_21 (by decide) ?_
    refine lv_isub hx hb dX14_put_22 ?_
    refine lv_iload hx hb dX14_put_23 (lv_at hl 4 rfl) ?_
    refine lv_isub hx hb dX14_put_25 ?_
    refine lv_imul hx hb dX14_put_26 ?_
    refine lv_ishr hx hb dX14_put_27 ?_
    refine lv_i2b (v := (x3 >>> ((8 * ((x2 - 1) - x4)) &&& 31)).toInt8.toInt32) hx hb dX14_put_28 rfl ?_
    refine s57 C hH hS hw.1 dX14_put_29 (fun σ1 e1 H locs hH hS => ?_)
    have hw := hw.2 σ1 e1
    refine lv_iinc (v := x4 + 1) (lv' := [(4, .int (x4 + 1)), (0, .ref (ga G 14 0)), (1, .int x1), (2, .int x2), (3, .int x3)]) hx hb dX14_put_30 hl (k := 4) rfl rfl (by decide) rfl (fun ls hl => ?_)
    refine lv_goto (tgt := 3) hx hb dX14_put_33 (by decide) ?_
    exact ih σ1 (x4 + 1) hw H locs ls hH hS (lv_sub hl [1, 2, 3, 4, 0] rfl) hK36
def w14_put (σ : St) (x1 : Int32) (x2 : Int32) (x3 : Int32) (Q : St → Prop) : Prop := ∃ z2, w14_put_L3 x1 x2 x3 Q (fun σ3 => Q σ3) z2 σ 0
set_option maxHeartbeats 4000000 in
theorem m14_put (l : Launch) (G : Gh) (a1 : Nat → Nat → Nat) (τ : St) (σ : St) (x1 : Int32) (x2 : Int32) (x3 : Int32) (Q : St → Prop) (hw : w14_put σ x1 x2 x3 Q) : Met l yX14_put (ws_ yX14_put cX14_put 5 none) rmX14_put (PcS G a1 (cmb τ σ) [.ref (ga G 14 0), .int x1, .int x2, .int x3]) (QVs G a1 (fun u => cmb τ u) Q) 0 0 (gA G) := by
  refine met_w (by decide) (Nat.le_of_ble_eq_true rfl) ?_
  intro p e s m below meth c ls C hH hS hl
  have C : Cx p e s m _ meth c cX14_put 5 none "WebHostModel" G := C
  have hl : lv_has ls 5 [(0, .ref (ga G 14 0)), (1, .int x1), (2, .int x2), (3, .int x3)] := hl
  have hx := C.1
  have hb := C.2.1
  have hown := C.2.2.2.2.2.1
  have hts := C.2.2.2.2.2.2.1
  obtain ⟨locs, hlocs⟩ : ∃ z : List Loc, z = [] := ⟨_, rfl⟩
  obtain ⟨H, hHe⟩ : ∃ z : Heap, z = s.heap := ⟨_, rfl⟩
  have hH : Hd G a1 (cmb τ σ) H := by rw [hHe]; exact hH
  have hS : va_S (gA G) s.heap H locs := by rw [hHe, hlocs]; exact hS
  refine W.heap0 hHe.symm hlocs.symm ?_
  refine lv_iconst (v := 0) hx hb dX14_put_0 (by decide) ?_
  refine lv_istore (lv' := [(4, .int 0), (0, .ref (ga G 14 0)), (1, .int x1), (2, .int x2), (3, .int x3)]) hx hb dX14_put_1 hl (by decide) rfl (fun ls hl => ?_)
  obtain ⟨n2, hw⟩ := hw
  refine k14_put_L3 C x1 x2 x3 n2 σ 0 hw H locs ls hH hS (lv_sub hl [1, 2, 3, 4, 0] rfl) (fun σ3 hw H locs ls hH hS hl => ?_)
  exact rt_v C hH hS hw dX14_put_36
/-! WebHostModel.refused(I)I -/
abbrev cX14_refused : ByteArray := prog_17_method_71_code
def yX14_refused : MethodName := ⟨RX14, "refused", "(I)I"⟩
theorem dX14_refused_0 : decode cX14_refused 0 = .ok (.aload_n 0, 1) := by decide +kernel
theorem dX14_refused_1 : decode cX14_refused 1 = .ok (.getfield 95, 3) := by decide +kernel
theorem dX14_refused_4 : decode cX14_refused 4 = .ok (.ifCond .ne 5, 3) := by decide +kernel
theorem dX14_refused_7 : decode cX14_refused 7 = .ok (.iconst (-1), 1) := by decide +kernel
theorem dX14_refused_8 : decode cX14_refused 8 = .ok (.ireturn, 1) := by decide +kernel
theorem dX14_refused_9 : decode cX14_refused 9 = .ok (.iload_n 1, 1) := by decide +kernel
theorem dX14_refused_10 : decode cX14_refused 10 = .ok (.aload_n 0, 1) := by decide +kernel
theorem dX14_refused_11 : decode cX14_refused 11 = .ok (.getfield 134, 3) := by decide +kernel
theorem dX14_refused_14 : decode cX14_refused 14 = .ok (.if_icmp .lt 22, 3) := by decide +kernel
theorem dX14_refused_17 : decode cX14_refused 17 = .ok (.iload_n 1, 1) := by decide +kernel
theorem dX14_refused_18 : decode cX14_refused 18 = .ok (.ldc_w 595, 3) := by decide +kernel
theorem dX14_refused_21 : decode cX14_refused 21 = .ok (.if_icmp .gt 15, 3) := by decide +kernel
theorem dX14_refused_24 : decode cX14_refused 24 = .ok (.iload_n 1, 1) := by decide +kernel
theorem dX14_refused_25 : decode cX14_refused 25 = .ok (.aload_n 0, 1) := by decide +kernel
theorem dX14_refused_26 : decode cX14_refused 26 = .ok (.getfield 134, 3) := by decide +kernel
theorem dX14_refused_29 : decode cX14_refused 29 = .ok (.isub, 1) := by decide +kernel
theorem dX14_refused_30 : decode cX14_refused 30 = .ok (.ldc_w 596, 3) := by decide +kernel
theorem dX14_refused_33 : decode cX14_refused 33 = .ok (.if_icmp .le 8, 3) := by decide +kernel
theorem dX14_refused_36 : decode cX14_refused 36 = .ok (.bipush (-2), 2) := by decide +kernel
theorem dX14_refused_38 : decode cX14_refused 38 = .ok (.goto 4, 3) := by decide +kernel
theorem dX14_refused_41 : decode cX14_refused 41 = .ok (.iconst 0, 1) := by decide +kernel
theorem dX14_refused_42 : decode cX14_refused 42 = .ok (.ireturn, 1) := by decide +kernel
def rmX14_refused : Room := { frames := 0, cells := 0, slots := 0, locals := 0 }
theorem kX14_refused : yX14_refused.cls = "WebHostModel" ∧ yX14_refused.cls ≠ "java/lang/invoke/MethodHandle" ∧ yX14_refused.cls ≠ "java/lang/invoke/VarHandle" ∧ (parseMethodDescriptor yX14_refused.desc).map (fun d => d.parameters.length) = some 1 := by decide +kernel
def w14_refused (σ : St) (x1 : Int32) (Q : Int32 → Prop) : Prop := bo (σ 14 0 4) → ((¬ (σ 14 0 4) = 0 → ((x1 < (σ 14 0 10) → (Q (-2))) ∧ (¬ x1 < (σ 14 0 10) → ((2000000000 < x1 → (Q (-2))) ∧ (¬ 2000000000 < x1 → (((x1 - (σ 14 0 10)) ≤ 600000 → Q 0) ∧ (¬ (x1 - (σ 14 0 10)) ≤ 600000 → (Q (-2))))))))) ∧ ((σ 14 0 4) = 0 → (Q (-1))))
set_option maxHeartbeats 4000000 in
theorem m14_refused (l : Launch) (G : Gh) (a1 : Nat → Nat → Nat) (τ : St) (σ : St) (H : Heap) (x1 : Int32) (Q : Int32 → Prop) (hw : w14_refused σ x1 Q) : Met l yX14_refused (ws_ yX14_refused cX14_refused 2 (some .int)) rmX14_refused (PcP G a1 (cmb τ σ) H [.ref (ga G 14 0), .int x1]) (QIp G H Q) 0 0 (gA G) := by
  refine met_p (by decide) (Nat.le_of_ble_eq_true rfl) ?_
  intro p e s m below meth c ls hHe C hH hS hl
  have C : Cx p e s m _ meth c cX14_refused 2 (some .int) "WebHostModel" G := C
  have hl : lv_has ls 2 [(0, .ref (ga G 14 0)), (1, .int x1)] := hl
  have hx := C.1
  have hb := C.2.1
  have hown := C.2.2.2.2.2.1
  have hts := C.2.2.2.2.2.2.1
  obtain ⟨locs, hlocs⟩ : ∃ z : List Loc, z = [] := ⟨_, rfl⟩
  rw [← hlocs] at hS ⊢
  refine lv_aload_n hx hb dX14_refused_0 rfl (lv_at hl 0 rfl) ?_
  refine g14_4 C hH q1944 dX14_refused_1 (fun hz => ?_)
  have hw := hw hz
  refine lv_if_ne (tgt := 9) hx hb dX14_refused_4 (by decide) (fun h => ?_) (fun h => ?_)
  · have hw := hw.1 h
    refine lv_iload_n hx hb dX14_refused_9 rfl (lv_at hl 1 rfl) ?_
    refine lv_aload_n hx hb dX14_refused_10 rfl (lv_at hl 0 rfl) ?_
    refine g14_10 C hH q1950 dX14_refused_11 ?_
    refine lv_icmp_lt (tgt := 36) hx hb dX14_refused_14 (by decide) (fun h => ?_) (fun h => ?_)
    · have hw := hw.1 h
      refine lv_bipush (v := (-2)) hx hb dX14_refused_36 (by decide) ?_
      refine lv_goto (tgt := 42) hx hb dX14_refused_38 (by decide) ?_
      exact rt_ip C rfl hS hw dX14_refused_42
    have hw := hw.2 h
    refine lv_iload_n hx hb dX14_refused_17 rfl (lv_at hl 1 rfl) ?_
    refine lv_ldcw (v := 2000000000) hx hb hown (hts _ q2174) dX14_refused_18 ?_
    refine lv_icmp_gt (tgt := 36) hx hb dX14_refused_21 (by decide) (fun h => ?_) (fun h => ?_)
    · have hw := hw.1 h
      refine lv_bipush (v := (-2)) hx hb dX14_refused_36 (by decide) ?_
      refine lv_goto (tgt := 42) hx hb dX14_refused_38 (by decide) ?_
      exact rt_ip C rfl hS hw dX14_refused_42
    have hw := hw.2 h
    refine lv_iload_n hx hb dX14_refused_24 rfl (lv_at hl 1 rfl) ?_
    refine lv_aload_n hx hb dX14_refused_25 rfl (lv_at hl 0 rfl) ?_
    refine g14_10 C hH q1950 dX14_refused_26 ?_
    refine lv_isub hx hb dX14_refused_29 ?_
    refine lv_ldcw (v := 600000) hx hb hown (hts _ q2175) dX14_refused_30 ?_
    refine lv_icmp_le (tgt := 41) hx hb dX14_refused_33 (by decide) (fun h => ?_) (fun h => ?_)
    · have hw := hw.1 h
      refine lv_iconst (v := 0) hx hb dX14_refused_41 (by decide) ?_
      exact rt_ip C rfl hS hw dX14_refused_42
    have hw := hw.2 h
    refine lv_bipush (v := (-2)) hx hb dX14_refused_36 (by decide) ?_
    refine lv_goto (tgt := 42) hx hb dX14_refused_38 (by decide) ?_
    exact rt_ip C rfl hS hw dX14_refused_42
  have hw := hw.2 h
  refine lv_iconst (v := (-1)) hx hb dX14_refused_7 (by decide) ?_
  exact rt_ip C rfl hS hw dX14_refused_8
/-! WebHostModel.sent()I -/
abbrev cX14_sent : ByteArray := prog_17_method_110_code
def yX14_sent : MethodName := ⟨RX14, "sent", "()I"⟩
theorem dX14_sent_0 : decode cX14_sent 0 = .ok (.aload_n 0, 1) := by decide +kernel
theorem dX14_sent_1 : decode cX14_sent 1 = .ok (.getfield 95, 3) := by decide +kernel
theorem dX14_sent_4 : decode cX14_sent 4 = .ok (.ifCond .eq 10, 3) := by decide +kernel
theorem dX14_sent_7 : decode cX14_sent 7 = .ok (.aload_n 0, 1) := by decide +kernel
theorem dX14_sent_8 : decode cX14_sent 8 = .ok (.getfield 137, 3) := by decide +kernel
theorem dX14_sent_11 : decode cX14_sent 11 = .ok (.goto 4, 3) := by decide +kernel
theorem dX14_sent_14 : decode cX14_sent 14 = .ok (.iconst (-1), 1) := by decide +kernel
theorem dX14_sent_15 : decode cX14_sent 15 = .ok (.ireturn, 1) := by decide +kernel
def rmX14_sent : Room := { frames := 0, cells := 0, slots := 0, locals := 0 }
theorem kX14_sent : yX14_sent.cls = "WebHostModel" ∧ yX14_sent.cls ≠ "java/lang/invoke/MethodHandle" ∧ yX14_sent.cls ≠ "java/lang/invoke/VarHandle" ∧ (parseMethodDescriptor yX14_sent.desc).map (fun d => d.parameters.length) = some 0 := by decide +kernel
def w14_sent (σ : St) (Q : Int32 → Prop) : Prop := bo (σ 14 0 4) → (((σ 14 0 4) = 0 → (Q (-1))) ∧ (¬ (σ 14 0 4) = 0 → (Q (σ 14 0 23))))
set_option maxHeartbeats 4000000 in
theorem m14_sent (l : Launch) (G : Gh) (a1 : Nat → Nat → Nat) (τ : St) (σ : St) (H : Heap) (Q : Int32 → Prop) (hw : w14_sent σ Q) : Met l yX14_sent (ws_ yX14_sent cX14_sent 1 (some .int)) rmX14_sent (PcP G a1 (cmb τ σ) H [.ref (ga G 14 0)]) (QIp G H Q) 0 0 (gA G) := by
  refine met_p (by decide) (Nat.le_of_ble_eq_true rfl) ?_
  intro p e s m below meth c ls hHe C hH hS hl
  have C : Cx p e s m _ meth c cX14_sent 1 (some .int) "WebHostModel" G := C
  have hl : lv_has ls 1 [(0, .ref (ga G 14 0))] := hl
  have hx := C.1
  have hb := C.2.1
  have hown := C.2.2.2.2.2.1
  have hts := C.2.2.2.2.2.2.1
  obtain ⟨locs, hlocs⟩ : ∃ z : List Loc, z = [] := ⟨_, rfl⟩
  rw [← hlocs] at hS ⊢
  refine lv_aload_n hx hb dX14_sent_0 rfl (lv_at hl 0 rfl) ?_
  refine g14_4 C hH q1944 dX14_sent_1 (fun hz => ?_)
  have hw := hw hz
  refine lv_if_eq (tgt := 14) hx hb dX14_sent_4 (by decide) (fun h => ?_) (fun h => ?_)
  · have hw := hw.1 h
    refine lv_iconst (v := (-1)) hx hb dX14_sent_14 (by decide) ?_
    exact rt_ip C rfl hS hw dX14_sent_15
  have hw := hw.2 h
  refine lv_aload_n hx hb dX14_sent_7 rfl (lv_at hl 0 rfl) ?_
  refine g14_23 C hH q1963 dX14_sent_8 ?_
  refine lv_goto (tgt := 15) hx hb dX14_sent_11 (by decide) ?_
  exact rt_ip C rfl hS hw dX14_sent_15
/-! WebHostModel.shown(II)I -/
abbrev cX14_shown : ByteArray := prog_17_method_84_code
def yX14_shown : MethodName := ⟨RX14, "shown", "(II)I"⟩
theorem dX14_shown_0 : decode cX14_shown 0 = .ok (.iload_n 2, 1) := by decide +kernel
theorem dX14_shown_1 : decode cX14_shown 1 = .ok (.iload_n 1, 1) := by decide +kernel
theorem dX14_shown_2 : decode cX14_shown 2 = .ok (.if_icmp .le 22, 3) := by decide +kernel
theorem dX14_shown_5 : decode cX14_shown 5 = .ok (.aload_n 0, 1) := by decide +kernel
theorem dX14_shown_6 : decode cX14_shown 6 = .ok (.getfield 74, 3) := by decide +kernel
theorem dX14_shown_9 : decode cX14_shown 9 = .ok (.iload_n 2, 1) := by decide +kernel
theorem dX14_shown_10 : decode cX14_shown 10 = .ok (.iconst 1, 1) := by decide +kernel
theorem dX14_shown_11 : decode cX14_shown 11 = .ok (.isub, 1) := by decide +kernel
theorem dX14_shown_12 : decode cX14_shown 12 = .ok (.baload, 1) := by decide +kernel
theorem dX14_shown_13 : decode cX14_shown 13 = .ok (.bipush 13, 2) := by decide +kernel
theorem dX14_shown_15 : decode cX14_shown 15 = .ok (.if_icmp .ne 9, 3) := by decide +kernel
theorem dX14_shown_18 : decode cX14_shown 18 = .ok (.iload_n 2, 1) := by decide +kernel
theorem dX14_shown_19 : decode cX14_shown 19 = .ok (.iconst 1, 1) := by decide +kernel
theorem dX14_shown_20 : decode cX14_shown 20 = .ok (.isub, 1) := by decide +kernel
theorem dX14_shown_21 : decode cX14_shown 21 = .ok (.goto 4, 3) := by decide +kernel
theorem dX14_shown_24 : decode cX14_shown 24 = .ok (.iload_n 2, 1) := by decide +kernel
theorem dX14_shown_25 : decode cX14_shown 25 = .ok (.ireturn, 1) := by decide +kernel
def rmX14_shown : Room := { frames := 0, cells := 0, slots := 0, locals := 0 }
theorem kX14_shown : yX14_shown.cls = "WebHostModel" ∧ yX14_shown.cls ≠ "java/lang/invoke/MethodHandle" ∧ yX14_shown.cls ≠ "java/lang/invoke/VarHandle" ∧ (parseMethodDescriptor yX14_shown.desc).map (fun d => d.parameters.length) = some 2 := by decide +kernel
def w14_shown (σ : St) (x1 : Int32) (x2 : Int32) (Q : Int32 → Prop) : Prop := (x2 ≤ x1 → Q x2) ∧ (¬ x2 ≤ x1 → (vp_in (x2 - 1) 4096 ∧ (by8 (σ 66 0 (x2 - 1).toNatClampNeg) → ((¬ (σ 66 0 (x2 - 1).toNatClampNeg) = 13 → Q x2) ∧ ((σ 66 0 (x2 - 1).toNatClampNeg) = 13 → (Q (x2 - 1)))))))
set_option maxHeartbeats 4000000 in
theorem m14_shown (l : Launch) (G : Gh) (a1 : Nat → Nat → Nat) (τ : St) (σ : St) (H : Heap) (x1 : Int32) (x2 : Int32) (Q : Int32 → Prop) (hw : w14_shown σ x1 x2 Q) : Met l yX14_shown (ws_ yX14_shown cX14_shown 3 (some .int)) rmX14_shown (PcP G a1 (cmb τ σ) H [.ref (ga G 14 0), .int x1, .int x2]) (QIp G H Q) 0 0 (gA G) := by
  refine met_p (by decide) (Nat.le_of_ble_eq_true rfl) ?_
  intro p e s m below meth c ls hHe C hH hS hl
  have C : Cx p e s m _ meth c cX14_shown 3 (some .int) "WebHostModel" G := C
  have hl : lv_has ls 3 [(0, .ref (ga G 14 0)), (1, .int x1), (2, .int x2)] := hl
  have hx := C.1
  have hb := C.2.1
  have hown := C.2.2.2.2.2.1
  have hts := C.2.2.2.2.2.2.1
  obtain ⟨locs, hlocs⟩ : ∃ z : List Loc, z = [] := ⟨_, rfl⟩
  rw [← hlocs] at hS ⊢
  refine lv_iload_n hx hb dX14_shown_0 rfl (lv_at hl 2 rfl) ?_
  refine lv_iload_n hx hb dX14_shown_1 rfl (lv_at hl 1 rfl) ?_
  refine lv_icmp_le (tgt := 24) hx hb dX14_shown_2 (by decide) (fun h => ?_) (fun h => ?_)
  · have hw := hw.1 h
    refine lv_iload_n hx hb dX14_shown_24 rfl (lv_at hl 2 rfl) ?_
    exact rt_ip C rfl hS hw dX14_shown_25
  have hw := hw.2 h
  refine lv_aload_n hx hb dX14_shown_5 rfl (lv_at hl 0 rfl) ?_
  refine g14_41 C hH q1981 dX14_shown_6 ?_
  refine lv_iload_n hx hb dX14_shown_9 rfl (lv_at hl 2 rfl) ?_
  refine lv_iconst (v := 1) hx hb dX14_shown_10 (by decide) ?_
  refine lv_isub hx hb dX14_shown_11 ?_
  refine l66 C hH hw.1 dX14_shown_12 (fun hz => ?_)
  have hw := hw.2 hz
  refine lv_bipush (v := 13) hx hb dX14_shown_13 (by decide) ?_
  refine lv_icmp_ne (tgt := 24) hx hb dX14_shown_15 (by decide) (fun h => ?_) (fun h => ?_)
  · have hw := hw.1 h
    refine lv_iload_n hx hb dX14_shown_24 rfl (lv_at hl 2 rfl) ?_
    exact rt_ip C rfl hS hw dX14_shown_25
  have hw := hw.2 h
  refine lv_iload_n hx hb dX14_shown_18 rfl (lv_at hl 2 rfl) ?_
  refine lv_iconst (v := 1) hx hb dX14_shown_19 (by decide) ?_
  refine lv_isub hx hb dX14_shown_20 ?_
  refine lv_goto (tgt := 25) hx hb dX14_shown_21 (by decide) ?_
  exact rt_ip C rfl hS hw dX14_shown_25
/-! WebHostModel.sixteen(J)I -/
abbrev cX14_sixteen : ByteArray := prog_17_method_15_code
def yX14_sixteen : MethodName := ⟨RX14, "sixteen", "(J)I"⟩
theorem dX14_sixteen_0 : decode cX14_sixteen 0 = .ok (.lload_n 0, 1) := by decide +kernel
theorem dX14_sixteen_1 : decode cX14_sixteen 1 = .ok (.lstore_n 2, 1) := by decide +kernel
theorem dX14_sixteen_2 : decode cX14_sixteen 2 = .ok (.lload_n 2, 1) := by decide +kernel
theorem dX14_sixteen_3 : decode cX14_sixteen 3 = .ok (.ldc2_w 169, 3) := by decide +kernel
theorem dX14_sixteen_6 : decode cX14_sixteen 6 = .ok (.lcmp, 1) := by decide +kernel
theorem dX14_sixteen_7 : decode cX14_sixteen 7 = .ok (.ifCond .le 17, 3) := by decide +kernel
theorem dX14_sixteen_10 : decode cX14_sixteen 10 = .ok (.lload_n 2, 1) := by decide +kernel
theorem dX14_sixteen_11 : decode cX14_sixteen 11 = .ok (.ldc2_w 169, 3) := by decide +kernel
theorem dX14_sixteen_14 : decode cX14_sixteen 14 = .ok (.land, 1) := by decide +kernel
theorem dX14_sixteen_15 : decode cX14_sixteen 15 = .ok (.lload_n 2, 1) := by decide +kernel
theorem dX14_sixteen_16 : decode cX14_sixteen 16 = .ok (.bipush 16, 2) := by decide +kernel
theorem dX14_sixteen_18 : decode cX14_sixteen 18 = .ok (.lshr, 1) := by decide +kernel
theorem dX14_sixteen_19 : decode cX14_sixteen 19 = .ok (.ladd, 1) := by decide +kernel
theorem dX14_sixteen_20 : decode cX14_sixteen 20 = .ok (.lstore_n 2, 1) := by decide +kernel
theorem dX14_sixteen_21 : decode cX14_sixteen 21 = .ok (.goto (-19), 3) := by decide +kernel
theorem dX14_sixteen_24 : decode cX14_sixteen 24 = .ok (.ldc2_w 169, 3) := by decide +kernel
theorem dX14_sixteen_27 : decode cX14_sixteen 27 = .ok (.lload_n 2, 1) := by decide +kernel
theorem dX14_sixteen_28 : decode cX14_sixteen 28 = .ok (.lsub, 1) := by decide +kernel
theorem dX14_sixteen_29 : decode cX14_sixteen 29 = .ok (.l2i, 1) := by decide +kernel
theorem dX14_sixteen_30 : decode cX14_sixteen 30 = .ok (.ireturn, 1) := by decide +kernel
def rmX14_sixteen : Room := { frames := 0, cells := 0, slots := 0, locals := 0 }
theorem kX14_sixteen : yX14_sixteen.cls = "WebHostModel" ∧ yX14_sixteen.cls ≠ "java/lang/invoke/MethodHandle" ∧ yX14_sixteen.cls ≠ "java/lang/invoke/VarHandle" ∧ (parseMethodDescriptor yX14_sixteen.desc).map (fun d => d.parameters.length) = some 1 := by decide +kernel
def w14_sixteen_L2 (σ : St) (Q : Int32 → Prop) (K24 : Int64 → Prop) : Nat → Int64 → Prop
  | 0, _ => False
  | n + 1, y2 => ((lg_cmp y2 65535) ≤ 0 → K24 y2) ∧ (¬ (lg_cmp y2 65535) ≤ 0 → (w14_sixteen_L2 σ Q K24 n ((y2 &&& 65535) + (y2 >>> ((16 : Int32).toInt64 &&& 63)))))
set_option maxHeartbeats 4000000 in
theorem k14_sixteen_L2 {p : Program} {l : Launch} {e : Env} {s : State} {m : MethodId} {args : Array Value} {below : List Frame} {meth : Method} {c : Code} {G : Gh} {a1 : Nat → Nat → Nat} {τ : St} {H : Heap} {Q : Int32 → Prop} {K24 : Int64 → Prop} (C : Cx p e s m args meth c cX14_sixteen 4 (some .int) "WebHostModel" G) (σ : St) (hH : Hd G a1 (cmb τ σ) H) :
    ∀ (n : Nat) (y2 : Int64), w14_sixteen_L2 σ Q K24 n y2 → ∀ (locs : List Loc) (ls : Array Slot), va_S (gA G) s.heap H locs → lv_has ls 4 [(2, .long y2)] → (∀ (y2 : Int64), K24 y2 → ∀ (locs : List Loc) (ls : Array Slot), va_S (gA G) s.heap H locs → lv_has ls 4 [(2, .long y2)] → W p l e rmX14_sixteen s m args below meth c H locs 0 0 (MQ below (QIp G H Q) args s 0 0 (gA G)) (F0 m 24 ls [])) → W p l e rmX14_sixteen s m args below meth c H locs 0 0 (MQ below (QIp G H Q) args s 0 0 (gA G)) (F0 m 2 ls []) := by
  have hx := C.1
  have hb := C.2.1
  have hown := C.2.2.2.2.2.1
  have hts := C.2.2.2.2.2.2.1
  intro n
  induction n with
  | zero =>
    intro y2 hw
    exact False.elim hw
  | succ n ih =>
    intro y2 hw locs ls hS hl hK24
    refine lv_lload_n hx hb dX14_sixteen_2 rfl (lv_at hl 0 rfl) ?_
    refine lv_ldc2 (v := 65535) hx hb hown (hts _ q2255) dX14_sixteen_3 ?_
    refine W.lcmp hx hb dX14_sixteen_6 ?_
    refine lv_if_le (tgt := 24) hx hb dX14_sixteen_7 (by decide) (fun h => ?_) (fun h => ?_)
    · have hw := hw.1 h
      exact hK24 y2 hw locs ls hS (lv_sub hl [0] rfl)
    have hw := hw.2 h
    refine lv_lload_n hx hb dX14_sixteen_10 rfl (lv_at hl 0 rfl) ?_
    refine lv_ldc2 (v := 65535) hx hb hown (hts _ q2255) dX14_sixteen_11 ?_
    refine lv_land hx hb dX14_sixteen_14 ?_
    refine lv_lload_n hx hb dX14_sixteen_15 rfl (lv_at hl 0 rfl) ?_
    refine lv_bipush (v := 16) hx hb dX14_sixteen_16 (by decide) ?_
    refine lv_lshr (v := y2 >>> ((16 : Int32).toInt64 &&& 63)) hx hb dX14_sixteen_18 rfl ?_
    refine lv_ladd hx hb dX14_sixteen_19 ?_
    refine lv_lstore_n (lv' := [(2, .long ((y2 &&& 65535) + (y2 >>> ((16 : Int32).toInt64 &&& 63))))]) hx hb dX14_sixteen_20 rfl hl (by decide) rfl (fun ls hl => ?_)
    refine lv_goto (tgt := 2) hx hb dX14_sixteen_21 (by decide) ?_
    exact ih ((y2 &&& 65535) + (y2 >>> ((16 : Int32).toInt64 &&& 63))) hw locs ls hS (lv_sub hl [0] rfl) hK24
def w14_sixteen (σ : St) (y0 : Int64) (Q : Int32 → Prop) : Prop := ∃ z1, w14_sixteen_L2 σ Q (fun y2_2 => Q ((65535 - y2_2).toInt32)) z1 y0
set_option maxHeartbeats 4000000 in
theorem m14_sixteen (l : Launch) (G : Gh) (a1 : Nat → Nat → Nat) (τ : St) (σ : St) (H : Heap) (y0 : Int64) (Q : Int32 → Prop) (hw : w14_sixteen σ y0 Q) : Met l yX14_sixteen (ws_ yX14_sixteen cX14_sixteen 4 (some .int)) rmX14_sixteen (PcP G a1 (cmb τ σ) H [.long y0]) (QIp G H Q) 0 0 (gA G) := by
  refine met_p (by decide) (Nat.le_of_ble_eq_true rfl) ?_
  intro p e s m below meth c ls hHe C hH hS hl
  have C : Cx p e s m _ meth c cX14_sixteen 4 (some .int) "WebHostModel" G := C
  have hl : lv_has ls 4 [(0, .long y0)] := hl
  have hx := C.1
  have hb := C.2.1
  have hown := C.2.2.2.2.2.1
  have hts := C.2.2.2.2.2.2.1
  obtain ⟨locs, hlocs⟩ : ∃ z : List Loc, z = [] := ⟨_, rfl⟩
  rw [← hlocs] at hS ⊢
  refine lv_lload_n hx hb dX14_sixteen_0 rfl (lv_at hl 0 rfl) ?_
  refine lv_lstore_n (lv' := [(2, .long y0), (0, .long y0)]) hx hb dX14_sixteen_1 rfl hl (by decide) rfl (fun ls hl => ?_)
  obtain ⟨n1, hw⟩ := hw
  refine k14_sixteen_L2 C σ hH n1 y0 hw locs ls hS (lv_sub hl [0] rfl) (fun y2_2 hw locs ls hS hl => ?_)
  refine lv_ldc2 (v := 65535) hx hb hown (hts _ q2255) dX14_sixteen_24 ?_
  refine lv_lload_n hx hb dX14_sixteen_27 rfl (lv_at hl 0 rfl) ?_
  refine lv_lsub hx hb dX14_sixteen_28 ?_
  refine lv_l2i (v := (65535 - y2_2).toInt32) hx hb dX14_sixteen_29 rfl ?_
  exact rt_ip C rfl hS hw dX14_sixteen_30
/-! WebHostModel.slot(I)I -/
abbrev cX14_slot : ByteArray := prog_17_method_111_code
def yX14_slot : MethodName := ⟨RX14, "slot", "(I)I"⟩
theorem dX14_slot_0 : decode cX14_slot 0 = .ok (.aload_n 0, 1) := by decide +kernel
theorem dX14_slot_1 : decode cX14_slot 1 = .ok (.getfield 95, 3) := by decide +kernel
theorem dX14_slot_4 : decode cX14_slot 4 = .ok (.ifCond .eq 35, 3) := by decide +kernel
theorem dX14_slot_7 : decode cX14_slot 7 = .ok (.iload_n 1, 1) := by decide +kernel
theorem dX14_slot_8 : decode cX14_slot 8 = .ok (.ifCond .lt 31, 3) := by decide +kernel
theorem dX14_slot_11 : decode cX14_slot 11 = .ok (.iload_n 1, 1) := by decide +kernel
theorem dX14_slot_12 : decode cX14_slot 12 = .ok (.bipush 32, 2) := by decide +kernel
theorem dX14_slot_14 : decode cX14_slot 14 = .ok (.if_icmp .ge 25, 3) := by decide +kernel
theorem dX14_slot_17 : decode cX14_slot 17 = .ok (.iload_n 1, 1) := by decide +kernel
theorem dX14_slot_18 : decode cX14_slot 18 = .ok (.aload_n 0, 1) := by decide +kernel
theorem dX14_slot_19 : decode cX14_slot 19 = .ok (.getfield 137, 3) := by decide +kernel
theorem dX14_slot_22 : decode cX14_slot 22 = .ok (.if_icmp .ge 17, 3) := by decide +kernel
theorem dX14_slot_25 : decode cX14_slot 25 = .ok (.aload_n 0, 1) := by decide +kernel
theorem dX14_slot_26 : decode cX14_slot 26 = .ok (.getfield 137, 3) := by decide +kernel
theorem dX14_slot_29 : decode cX14_slot 29 = .ok (.iconst 1, 1) := by decide +kernel
theorem dX14_slot_30 : decode cX14_slot 30 = .ok (.isub, 1) := by decide +kernel
theorem dX14_slot_31 : decode cX14_slot 31 = .ok (.iload_n 1, 1) := by decide +kernel
theorem dX14_slot_32 : decode cX14_slot 32 = .ok (.isub, 1) := by decide +kernel
theorem dX14_slot_33 : decode cX14_slot 33 = .ok (.bipush 32, 2) := by decide +kernel
theorem dX14_slot_35 : decode cX14_slot 35 = .ok (.irem, 1) := by decide +kernel
theorem dX14_slot_36 : decode cX14_slot 36 = .ok (.goto 4, 3) := by decide +kernel
theorem dX14_slot_39 : decode cX14_slot 39 = .ok (.iconst (-1), 1) := by decide +kernel
theorem dX14_slot_40 : decode cX14_slot 40 = .ok (.ireturn, 1) := by decide +kernel
def rmX14_slot : Room := { frames := 0, cells := 0, slots := 0, locals := 0 }
theorem kX14_slot : yX14_slot.cls = "WebHostModel" ∧ yX14_slot.cls ≠ "java/lang/invoke/MethodHandle" ∧ yX14_slot.cls ≠ "java/lang/invoke/VarHandle" ∧ (parseMethodDescriptor yX14_slot.desc).map (fun d => d.parameters.length) = some 1 := by decide +kernel
def w14_slot (σ : St) (x1 : Int32) (Q : Int32 → Prop) : Prop := bo (σ 14 0 4) → (((σ 14 0 4) = 0 → (Q (-1))) ∧ (¬ (σ 14 0 4) = 0 → ((x1 < 0 → (Q (-1))) ∧ (¬ x1 < 0 → ((32 ≤ x1 → (Q (-1))) ∧ (¬ 32 ≤ x1 → (((σ 14 0 23) ≤ x1 → (Q (-1))) ∧ (¬ (σ 14 0 23) ≤ x1 → (Q ((((σ 14 0 23) - 1) - x1) - (((σ 14 0 23) - 1) - x1) / 32 * 32))))))))))
set_option maxHeartbeats 4000000 in
theorem m14_slot (l : Launch) (G : Gh) (a1 : Nat → Nat → Nat) (τ : St) (σ : St) (H : Heap) (x1 : Int32) (Q : Int32 → Prop) (hw : w14_slot σ x1 Q) : Met l yX14_slot (ws_ yX14_slot cX14_slot 2 (some .int)) rmX14_slot (PcP G a1 (cmb τ σ) H [.ref (ga G 14 0), .int x1]) (QIp G H Q) 0 0 (gA G) := by
  refine met_p (by decide) (Nat.le_of_ble_eq_true rfl) ?_
  intro p e s m below meth c ls hHe C hH hS hl
  have C : Cx p e s m _ meth c cX14_slot 2 (some .int) "WebHostModel" G := C
  have hl : lv_has ls 2 [(0, .ref (ga G 14 0)), (1, .int x1)] := hl
  have hx := C.1
  have hb := C.2.1
  have hown := C.2.2.2.2.2.1
  have hts := C.2.2.2.2.2.2.1
  obtain ⟨locs, hlocs⟩ : ∃ z : List Loc, z = [] := ⟨_, rfl⟩
  rw [← hlocs] at hS ⊢
  refine lv_aload_n hx hb dX14_slot_0 rfl (lv_at hl 0 rfl) ?_
  refine g14_4 C hH q1944 dX14_slot_1 (fun hz => ?_)
  have hw := hw hz
  refine lv_if_eq (tgt := 39) hx hb dX14_slot_4 (by decide) (fun h => ?_) (fun h => ?_)
  · have hw := hw.1 h
    refine lv_iconst (v := (-1)) hx hb dX14_slot_39 (by decide) ?_
    exact rt_ip C rfl hS hw dX14_slot_40
  have hw := hw.2 h
  refine lv_iload_n hx hb dX14_slot_7 rfl (lv_at hl 1 rfl) ?_
  refine lv_if_lt (tgt := 39) hx hb dX14_slot_8 (by decide) (fun h => ?_) (fun h => ?_)
  · have hw := hw.1 h
    refine lv_iconst (v := (-1)) hx hb dX14_slot_39 (by decide) ?_
    exact rt_ip C rfl hS hw dX14_slot_40
  have hw := hw.2 h
  refine lv_iload_n hx hb dX14_slot_11 rfl (lv_at hl 1 rfl) ?_
  refine lv_bipush (v := 32) hx hb dX14_slot_12 (by decide) ?_
  refine lv_icmp_ge (tgt := 39) hx hb dX14_slot_14 (by decide) (fun h => ?_) (fun h => ?_)
  · have hw := hw.1 h
    refine lv_iconst (v := (-1)) hx hb dX14_slot_39 (by decide) ?_
    exact rt_ip C rfl hS hw dX14_slot_40
  have hw := hw.2 h
  refine lv_iload_n hx hb dX14_slot_17 rfl (lv_at hl 1 rfl) ?_
  refine lv_aload_n hx hb dX14_slot_18 rfl (lv_at hl 0 rfl) ?_
  refine g14_23 C hH q1963 dX14_slot_19 ?_
  refine lv_icmp_ge (tgt := 39) hx hb dX14_slot_22 (by decide) (fun h => ?_) (fun h => ?_)
  · have hw := hw.1 h
    refine lv_iconst (v := (-1)) hx hb dX14_slot_39 (by decide) ?_
    exact rt_ip C rfl hS hw dX14_slot_40
  have hw := hw.2 h
  refine lv_aload_n hx hb dX14_slot_25 rfl (lv_at hl 0 rfl) ?_
  refine g14_23 C hH q1963 dX14_slot_26 ?_
  refine lv_iconst (v := 1) hx hb dX14_slot_29 (by decide) ?_
  refine lv_isub hx hb dX14_slot_30 ?_
  refine lv_iload_n hx hb dX14_slot_31 rfl (lv_at hl 1 rfl) ?_
  refine lv_isub hx hb dX14_slot_32 ?_
  refine lv_bipush (v := 32) hx hb dX14_slot_33 (by decide) ?_
  refine lv_irem hx hb dX14_slot_35 (by decide) ?_
  refine lv_goto (tgt := 40) hx hb dX14_slot_36 (by decide) ?_
  exact rt_ip C rfl hS hw dX14_slot_40
/-! WebHostModel.small(I)I -/
abbrev cX14_small : ByteArray := prog_17_method_87_code
def yX14_small : MethodName := ⟨RX14, "small", "(I)I"⟩
theorem dX14_small_0 : decode cX14_small 0 = .ok (.iload_n 0, 1) := by decide +kernel
theorem dX14_small_1 : decode cX14_small 1 = .ok (.bipush 65, 2) := by decide +kernel
theorem dX14_small_3 : decode cX14_small 3 = .ok (.if_icmp .lt 16, 3) := by decide +kernel
theorem dX14_small_6 : decode cX14_small 6 = .ok (.iload_n 0, 1) := by decide +kernel
theorem dX14_small_7 : decode cX14_small 7 = .ok (.bipush 90, 2) := by decide +kernel
theorem dX14_small_9 : decode cX14_small 9 = .ok (.if_icmp .gt 10, 3) := by decide +kernel
theorem dX14_small_12 : decode cX14_small 12 = .ok (.iload_n 0, 1) := by decide +kernel
theorem dX14_small_13 : decode cX14_small 13 = .ok (.bipush 32, 2) := by decide +kernel
theorem dX14_small_15 : decode cX14_small 15 = .ok (.iadd, 1) := by decide +kernel
theorem dX14_small_16 : decode cX14_small 16 = .ok (.goto 4, 3) := by decide +kernel
theorem dX14_small_19 : decode cX14_small 19 = .ok (.iload_n 0, 1) := by decide +kernel
theorem dX14_small_20 : decode cX14_small 20 = .ok (.ireturn, 1) := by decide +kernel
def rmX14_small : Room := { frames := 0, cells := 0, slots := 0, locals := 0 }
theorem kX14_small : yX14_small.cls = "WebHostModel" ∧ yX14_small.cls ≠ "java/lang/invoke/MethodHandle" ∧ yX14_small.cls ≠ "java/lang/invoke/VarHandle" ∧ (parseMethodDescriptor yX14_small.desc).map (fun d => d.parameters.length) = some 1 := by decide +kernel
def w14_small (σ : St) (x0 : Int32) (Q : Int32 → Prop) : Prop := (x0 < 65 → Q x0) ∧ (¬ x0 < 65 → ((90 < x0 → Q x0) ∧ (¬ 90 < x0 → (Q (x0 + 32)))))
set_option maxHeartbeats 4000000 in
theorem m14_small (l : Launch) (G : Gh) (a1 : Nat → Nat → Nat) (τ : St) (σ : St) (H : Heap) (x0 : Int32) (Q : Int32 → Prop) (hw : w14_small σ x0 Q) : Met l yX14_small (ws_ yX14_small cX14_small 1 (some .int)) rmX14_small (PcP G a1 (cmb τ σ) H [.int x0]) (QIp G H Q) 0 0 (gA G) := by
  refine met_p (by decide) (Nat.le_of_ble_eq_true rfl) ?_
  intro p e s m below meth c ls hHe C hH hS hl
  have C : Cx p e s m _ meth c cX14_small 1 (some .int) "WebHostModel" G := C
  have hl : lv_has ls 1 [(0, .int x0)] := hl
  have hx := C.1
  have hb := C.2.1
  have hown := C.2.2.2.2.2.1
  have hts := C.2.2.2.2.2.2.1
  obtain ⟨locs, hlocs⟩ : ∃ z : List Loc, z = [] := ⟨_, rfl⟩
  rw [← hlocs] at hS ⊢
  refine lv_iload_n hx hb dX14_small_0 rfl (lv_at hl 0 rfl) ?_
  refine lv_bipush (v := 65) hx hb dX14_small_1 (by decide) ?_
  refine lv_icmp_lt (tgt := 19) hx hb dX14_small_3 (by decide) (fun h => ?_) (fun h => ?_)
  · have hw := hw.1 h
    refine lv_iload_n hx hb dX14_small_19 rfl (lv_at hl 0 rfl) ?_
    exact rt_ip C rfl hS hw dX14_small_20
  have hw := hw.2 h
  refine lv_iload_n hx hb dX14_small_6 rfl (lv_at hl 0 rfl) ?_
  refine lv_bipush (v := 90) hx hb dX14_small_7 (by decide) ?_
  refine lv_icmp_gt (tgt := 19) hx hb dX14_small_9 (by decide) (fun h => ?_) (fun h => ?_)
  · have hw := hw.1 h
    refine lv_iload_n hx hb dX14_small_19 rfl (lv_at hl 0 rfl) ?_
    exact rt_ip C rfl hS hw dX14_small_20
  have hw := hw.2 h
  refine lv_iload_n hx hb dX14_small_12 rfl (lv_at hl 0 rfl) ?_
  refine lv_bipush (v := 32) hx hb dX14_small_13 (by decide) ?_
  refine lv_iadd hx hb dX14_small_15 ?_
  refine lv_goto (tgt := 20) hx hb dX14_small_16 (by decide) ?_
  exact rt_ip C rfl hS hw dX14_small_20
