/-! walks -/
set_option maxRecDepth 100000
/-! WebHostModel.time(I)I -/
abbrev cX14_time : ByteArray := prog_17_method_114_code
def yX14_time : MethodName := ⟨RX14, "time", "(I)I"⟩
theorem dX14_time_0 : decode cX14_time 0 = .ok (.aload_n 0, 1) := by decide +kernel
theorem dX14_time_1 : decode cX14_time 1 = .ok (.iload_n 1, 1) := by decide +kernel
theorem dX14_time_2 : decode cX14_time 2 = .ok (.invokevirtual 865, 3) := by decide +kernel
theorem dX14_time_5 : decode cX14_time 5 = .ok (.ifCond .ge 7, 3) := by decide +kernel
theorem dX14_time_8 : decode cX14_time 8 = .ok (.iconst (-1), 1) := by decide +kernel
theorem dX14_time_9 : decode cX14_time 9 = .ok (.goto 13, 3) := by decide +kernel
theorem dX14_time_12 : decode cX14_time 12 = .ok (.aload_n 0, 1) := by decide +kernel
theorem dX14_time_13 : decode cX14_time 13 = .ok (.getfield 44, 3) := by decide +kernel
theorem dX14_time_16 : decode cX14_time 16 = .ok (.aload_n 0, 1) := by decide +kernel
theorem dX14_time_17 : decode cX14_time 17 = .ok (.iload_n 1, 1) := by decide +kernel
theorem dX14_time_18 : decode cX14_time 18 = .ok (.invokevirtual 865, 3) := by decide +kernel
theorem dX14_time_21 : decode cX14_time 21 = .ok (.iaload, 1) := by decide +kernel
theorem dX14_time_22 : decode cX14_time 22 = .ok (.ireturn, 1) := by decide +kernel
def rmX14_time : Room := { frames := 1, cells := 0, slots := 0, locals := 21 }
theorem kX14_time : yX14_time.cls = "WebHostModel" ∧ yX14_time.cls ≠ "java/lang/invoke/MethodHandle" ∧ yX14_time.cls ≠ "java/lang/invoke/VarHandle" ∧ (parseMethodDescriptor yX14_time.desc).map (fun d => d.parameters.length) = some 1 := by decide +kernel
def w14_time (σ : St) (x1 : Int32) (Q : Int32 → Prop) : Prop := w14_slot σ x1 (fun r1 => ((0 ≤ r1 → (w14_slot σ x1 (fun r2 => (vp_in r2 32 ∧ (Q (σ 60 0 r2.toNatClampNeg)))))) ∧ (¬ 0 ≤ r1 → (Q (-1)))))
set_option maxHeartbeats 4000000 in
theorem m14_time (l : Launch) (G : Gh) (a1 : Nat → Nat → Nat) (τ : St) (σ : St) (H : Heap) (x1 : Int32) (Q : Int32 → Prop) (hw : w14_time σ x1 Q) : Met l yX14_time (ws_ yX14_time cX14_time 2 (some .int)) rmX14_time (PcP G a1 (cmb τ σ) H [.ref (ga G 14 0), .int x1]) (QIp G H Q) 0 0 (gA G) := by
  refine met_p (by decide) (Nat.le_of_ble_eq_true rfl) ?_
  intro p e s m below meth c ls hHe C hH hS hl
  have C : Cx p e s m _ meth c cX14_time 2 (some .int) "WebHostModel" G := C
  have hl : lv_has ls 2 [(0, .ref (ga G 14 0)), (1, .int x1)] := hl
  have hx := C.1
  have hb := C.2.1
  have hown := C.2.2.2.2.2.1
  have hts := C.2.2.2.2.2.2.1
  obtain ⟨locs, hlocs⟩ : ∃ z : List Loc, z = [] := ⟨_, rfl⟩
  rw [← hlocs] at hS ⊢
  refine lv_aload_n hx hb dX14_time_0 rfl (lv_at hl 0 rfl) ?_
  refine lv_iload_n hx hb dX14_time_1 rfl (lv_at hl 1 rfl) ?_
  refine kc_ip (rn_vp (As := [.int x1]) (rest := []) C hH hS (by decide) rfl (by decide) (m14_slot l G a1 τ σ H x1 _ hw) (cwV 1 hts (lw_V q2630 q2632 qs155 q171 q2633) rfl rfl rfl kX14_slot ⟨Nat.le_of_ble_eq_true rfl, Nat.le_of_ble_eq_true rfl⟩) rfl hl.1 rfl (Nat.le_of_ble_eq_true rfl) dX14_time_2 ⟨Nat.le_of_ble_eq_true rfl, Nat.le_of_ble_eq_true rfl⟩) hS (fun r1 locs hw hS => ?_)
  refine lv_if_ge (tgt := 12) hx hb dX14_time_5 (by decide) (fun h => ?_) (fun h => ?_)
  · have hw := hw.1 h
    refine lv_aload_n hx hb dX14_time_12 rfl (lv_at hl 0 rfl) ?_
    refine g14_22 C hH q1962 dX14_time_13 ?_
    refine lv_aload_n hx hb dX14_time_16 rfl (lv_at hl 0 rfl) ?_
    refine lv_iload_n hx hb dX14_time_17 rfl (lv_at hl 1 rfl) ?_
    refine kc_ip (rn_vp (As := [.int x1]) (rest := [.ref (adr G a1 60 0)]) C hH hS (by decide) rfl (by decide) (m14_slot l G a1 τ σ H x1 _ hw) (cwV 1 hts (lw_V q2630 q2632 qs155 q171 q2633) rfl rfl rfl kX14_slot ⟨Nat.le_of_ble_eq_true rfl, Nat.le_of_ble_eq_true rfl⟩) rfl hl.1 rfl (Nat.le_of_ble_eq_true rfl) dX14_time_18 ⟨Nat.le_of_ble_eq_true rfl, Nat.le_of_ble_eq_true rfl⟩) hS (fun r2 locs hw hS => ?_)
    refine l60 C hH hw.1 dX14_time_21 ?_
    have hw := hw.2
    exact rt_ip C rfl hS hw dX14_time_22
  have hw := hw.2 h
  refine lv_iconst (v := (-1)) hx hb dX14_time_8 (by decide) ?_
  refine lv_goto (tgt := 22) hx hb dX14_time_9 (by decide) ?_
  exact rt_ip C rfl hS hw dX14_time_22
/-! WebHostModel.trayWord(I)I -/
abbrev cX14_trayWord : ByteArray := prog_17_method_25_code
def yX14_trayWord : MethodName := ⟨RX14, "trayWord", "(I)I"⟩
theorem dX14_trayWord_0 : decode cX14_trayWord 0 = .ok (.aload_n 0, 1) := by decide +kernel
theorem dX14_trayWord_1 : decode cX14_trayWord 1 = .ok (.iload_n 1, 1) := by decide +kernel
theorem dX14_trayWord_2 : decode cX14_trayWord 2 = .ok (.invokevirtual 210, 3) := by decide +kernel
theorem dX14_trayWord_5 : decode cX14_trayWord 5 = .ok (.bipush 16, 2) := by decide +kernel
theorem dX14_trayWord_7 : decode cX14_trayWord 7 = .ok (.ishl, 1) := by decide +kernel
theorem dX14_trayWord_8 : decode cX14_trayWord 8 = .ok (.aload_n 0, 1) := by decide +kernel
theorem dX14_trayWord_9 : decode cX14_trayWord 9 = .ok (.iload_n 1, 1) := by decide +kernel
theorem dX14_trayWord_10 : decode cX14_trayWord 10 = .ok (.iconst 2, 1) := by decide +kernel
theorem dX14_trayWord_11 : decode cX14_trayWord 11 = .ok (.iadd, 1) := by decide +kernel
theorem dX14_trayWord_12 : decode cX14_trayWord 12 = .ok (.invokevirtual 210, 3) := by decide +kernel
theorem dX14_trayWord_15 : decode cX14_trayWord 15 = .ok (.ior, 1) := by decide +kernel
theorem dX14_trayWord_16 : decode cX14_trayWord 16 = .ok (.ireturn, 1) := by decide +kernel
def rmX14_trayWord : Room := { frames := 1, cells := 0, slots := 0, locals := 21 }
theorem kX14_trayWord : yX14_trayWord.cls = "WebHostModel" ∧ yX14_trayWord.cls ≠ "java/lang/invoke/MethodHandle" ∧ yX14_trayWord.cls ≠ "java/lang/invoke/VarHandle" ∧ (parseMethodDescriptor yX14_trayWord.desc).map (fun d => d.parameters.length) = some 1 := by decide +kernel
def w14_trayWord (σ : St) (x1 : Int32) (Q : Int32 → Prop) : Prop := w14_trayHalf σ x1 (fun r1 => (w14_trayHalf σ (x1 + 2) (fun r2 => (Q ((r1 <<< ((16 : Int32) &&& 31)) ||| r2)))))
set_option maxHeartbeats 4000000 in
theorem m14_trayWord (l : Launch) (G : Gh) (a1 : Nat → Nat → Nat) (τ : St) (σ : St) (H : Heap) (x1 : Int32) (Q : Int32 → Prop) (hw : w14_trayWord σ x1 Q) : Met l yX14_trayWord (ws_ yX14_trayWord cX14_trayWord 2 (some .int)) rmX14_trayWord (PcP G a1 (cmb τ σ) H [.ref (ga G 14 0), .int x1]) (QIp G H Q) 0 0 (gA G) := by
  refine met_p (by decide) (Nat.le_of_ble_eq_true rfl) ?_
  intro p e s m below meth c ls hHe C hH hS hl
  have C : Cx p e s m _ meth c cX14_trayWord 2 (some .int) "WebHostModel" G := C
  have hl : lv_has ls 2 [(0, .ref (ga G 14 0)), (1, .int x1)] := hl
  have hx := C.1
  have hb := C.2.1
  have hown := C.2.2.2.2.2.1
  have hts := C.2.2.2.2.2.2.1
  obtain ⟨locs, hlocs⟩ : ∃ z : List Loc, z = [] := ⟨_, rfl⟩
  rw [← hlocs] at hS ⊢
  refine lv_aload_n hx hb dX14_trayWord_0 rfl (lv_at hl 0 rfl) ?_
  refine lv_iload_n hx hb dX14_trayWord_1 rfl (lv_at hl 1 rfl) ?_
  refine kc_ip (rn_vp (As := [.int x1]) (rest := []) C hH hS (by decide) rfl (by decide) (m14_trayHalf l G a1 τ σ H x1 _ hw) (cwV 1 hts (lw_V q2329 q2331 qs105 q171 q2332) rfl rfl rfl kX14_trayHalf ⟨Nat.le_of_ble_eq_true rfl, Nat.le_of_ble_eq_true rfl⟩) rfl hl.1 rfl (Nat.le_of_ble_eq_true rfl) dX14_trayWord_2 ⟨Nat.le_of_ble_eq_true rfl, Nat.le_of_ble_eq_true rfl⟩) hS (fun r1 locs hw hS => ?_)
  refine lv_bipush (v := 16) hx hb dX14_trayWord_5 (by decide) ?_
  refine lv_ishl hx hb dX14_trayWord_7 ?_
  refine lv_aload_n hx hb dX14_trayWord_8 rfl (lv_at hl 0 rfl) ?_
  refine lv_iload_n hx hb dX14_trayWord_9 rfl (lv_at hl 1 rfl) ?_
  refine lv_iconst (v := 2) hx hb dX14_trayWord_10 (by decide) ?_
  refine lv_iadd hx hb dX14_trayWord_11 ?_
  refine kc_ip (rn_vp (As := [.int (x1 + 2)]) (rest := [.int (r1 <<< ((16 : Int32) &&& 31))]) C hH hS (by decide) rfl (by decide) (m14_trayHalf l G a1 τ σ H (x1 + 2) _ hw) (cwV 1 hts (lw_V q2329 q2331 qs105 q171 q2332) rfl rfl rfl kX14_trayHalf ⟨Nat.le_of_ble_eq_true rfl, Nat.le_of_ble_eq_true rfl⟩) rfl hl.1 rfl (Nat.le_of_ble_eq_true rfl) dX14_trayWord_12 ⟨Nat.le_of_ble_eq_true rfl, Nat.le_of_ble_eq_true rfl⟩) hS (fun r2 locs hw hS => ?_)
  refine lv_ior hx hb dX14_trayWord_15 ?_
  exact rt_ip C rfl hS hw dX14_trayWord_16
/-! WebHostModel.wholeWord(I)I -/
abbrev cX14_wholeWord : ByteArray := prog_17_method_35_code
def yX14_wholeWord : MethodName := ⟨RX14, "wholeWord", "(I)I"⟩
theorem dX14_wholeWord_0 : decode cX14_wholeWord 0 = .ok (.aload_n 0, 1) := by decide +kernel
theorem dX14_wholeWord_1 : decode cX14_wholeWord 1 = .ok (.iload_n 1, 1) := by decide +kernel
theorem dX14_wholeWord_2 : decode cX14_wholeWord 2 = .ok (.invokevirtual 277, 3) := by decide +kernel
theorem dX14_wholeWord_5 : decode cX14_wholeWord 5 = .ok (.bipush 16, 2) := by decide +kernel
theorem dX14_wholeWord_7 : decode cX14_wholeWord 7 = .ok (.ishl, 1) := by decide +kernel
theorem dX14_wholeWord_8 : decode cX14_wholeWord 8 = .ok (.aload_n 0, 1) := by decide +kernel
theorem dX14_wholeWord_9 : decode cX14_wholeWord 9 = .ok (.iload_n 1, 1) := by decide +kernel
theorem dX14_wholeWord_10 : decode cX14_wholeWord 10 = .ok (.iconst 2, 1) := by decide +kernel
theorem dX14_wholeWord_11 : decode cX14_wholeWord 11 = .ok (.iadd, 1) := by decide +kernel
theorem dX14_wholeWord_12 : decode cX14_wholeWord 12 = .ok (.invokevirtual 277, 3) := by decide +kernel
theorem dX14_wholeWord_15 : decode cX14_wholeWord 15 = .ok (.ior, 1) := by decide +kernel
theorem dX14_wholeWord_16 : decode cX14_wholeWord 16 = .ok (.ireturn, 1) := by decide +kernel
def rmX14_wholeWord : Room := { frames := 1, cells := 0, slots := 0, locals := 21 }
theorem kX14_wholeWord : yX14_wholeWord.cls = "WebHostModel" ∧ yX14_wholeWord.cls ≠ "java/lang/invoke/MethodHandle" ∧ yX14_wholeWord.cls ≠ "java/lang/invoke/VarHandle" ∧ (parseMethodDescriptor yX14_wholeWord.desc).map (fun d => d.parameters.length) = some 1 := by decide +kernel
def w14_wholeWord (σ : St) (x1 : Int32) (Q : Int32 → Prop) : Prop := w14_half σ x1 (fun r1 => (w14_half σ (x1 + 2) (fun r2 => (Q ((r1 <<< ((16 : Int32) &&& 31)) ||| r2)))))
set_option maxHeartbeats 4000000 in
theorem m14_wholeWord (l : Launch) (G : Gh) (a1 : Nat → Nat → Nat) (τ : St) (σ : St) (H : Heap) (x1 : Int32) (Q : Int32 → Prop) (hw : w14_wholeWord σ x1 Q) : Met l yX14_wholeWord (ws_ yX14_wholeWord cX14_wholeWord 2 (some .int)) rmX14_wholeWord (PcP G a1 (cmb τ σ) H [.ref (ga G 14 0), .int x1]) (QIp G H Q) 0 0 (gA G) := by
  refine met_p (by decide) (Nat.le_of_ble_eq_true rfl) ?_
  intro p e s m below meth c ls hHe C hH hS hl
  have C : Cx p e s m _ meth c cX14_wholeWord 2 (some .int) "WebHostModel" G := C
  have hl : lv_has ls 2 [(0, .ref (ga G 14 0)), (1, .int x1)] := hl
  have hx := C.1
  have hb := C.2.1
  have hown := C.2.2.2.2.2.1
  have hts := C.2.2.2.2.2.2.1
  obtain ⟨locs, hlocs⟩ : ∃ z : List Loc, z = [] := ⟨_, rfl⟩
  rw [← hlocs] at hS ⊢
  refine lv_aload_n hx hb dX14_wholeWord_0 rfl (lv_at hl 0 rfl) ?_
  refine lv_iload_n hx hb dX14_wholeWord_1 rfl (lv_at hl 1 rfl) ?_
  refine kc_ip (rn_vp (As := [.int x1]) (rest := []) C hH hS (by decide) rfl (by decide) (m14_half l G a1 τ σ H x1 _ hw) (cwV 1 hts (lw_V q2361 q2363 qs113 q171 q2364) rfl rfl rfl kX14_half ⟨Nat.le_of_ble_eq_true rfl, Nat.le_of_ble_eq_true rfl⟩) rfl hl.1 rfl (Nat.le_of_ble_eq_true rfl) dX14_wholeWord_2 ⟨Nat.le_of_ble_eq_true rfl, Nat.le_of_ble_eq_true rfl⟩) hS (fun r1 locs hw hS => ?_)
  refine lv_bipush (v := 16) hx hb dX14_wholeWord_5 (by decide) ?_
  refine lv_ishl hx hb dX14_wholeWord_7 ?_
  refine lv_aload_n hx hb dX14_wholeWord_8 rfl (lv_at hl 0 rfl) ?_
  refine lv_iload_n hx hb dX14_wholeWord_9 rfl (lv_at hl 1 rfl) ?_
  refine lv_iconst (v := 2) hx hb dX14_wholeWord_10 (by decide) ?_
  refine lv_iadd hx hb dX14_wholeWord_11 ?_
  refine kc_ip (rn_vp (As := [.int (x1 + 2)]) (rest := [.int (r1 <<< ((16 : Int32) &&& 31))]) C hH hS (by decide) rfl (by decide) (m14_half l G a1 τ σ H (x1 + 2) _ hw) (cwV 1 hts (lw_V q2361 q2363 qs113 q171 q2364) rfl rfl rfl kX14_half ⟨Nat.le_of_ble_eq_true rfl, Nat.le_of_ble_eq_true rfl⟩) rfl hl.1 rfl (Nat.le_of_ble_eq_true rfl) dX14_wholeWord_12 ⟨Nat.le_of_ble_eq_true rfl, Nat.le_of_ble_eq_true rfl⟩) hS (fun r2 locs hw hS => ?_)
  refine lv_ior hx hb dX14_wholeWord_15 ?_
  exact rt_ip C rfl hS hw dX14_wholeWord_16
/-! WebHostModel$Connection.left(I)I -/
abbrev cX15_left : ByteArray := prog_18_method_3_code
def yX15_left : MethodName := ⟨RX15, "left", "(I)I"⟩
theorem dX15_left_0 : decode cX15_left 0 = .ok (.aload_n 0, 1) := by decide +kernel
theorem dX15_left_1 : decode cX15_left 1 = .ok (.invokevirtual 32, 3) := by decide +kernel
theorem dX15_left_4 : decode cX15_left 4 = .ok (.aload_n 0, 1) := by decide +kernel
theorem dX15_left_5 : decode cX15_left 5 = .ok (.getfield 36, 3) := by decide +kernel
theorem dX15_left_8 : decode cX15_left 8 = .ok (.ifCond .eq 7, 3) := by decide +kernel
theorem dX15_left_11 : decode cX15_left 11 = .ok (.iconst 1, 1) := by decide +kernel
theorem dX15_left_12 : decode cX15_left 12 = .ok (.goto 4, 3) := by decide +kernel
theorem dX15_left_15 : decode cX15_left 15 = .ok (.iconst 0, 1) := by decide +kernel
theorem dX15_left_16 : decode cX15_left 16 = .ok (.iadd, 1) := by decide +kernel
theorem dX15_left_17 : decode cX15_left 17 = .ok (.iload_n 1, 1) := by decide +kernel
theorem dX15_left_18 : decode cX15_left 18 = .ok (.isub, 1) := by decide +kernel
theorem dX15_left_19 : decode cX15_left 19 = .ok (.ireturn, 1) := by decide +kernel
def rmX15_left : Room := { frames := 1, cells := 0, slots := 0, locals := 20 }
theorem kX15_left : yX15_left.cls = "WebHostModel$Connection" ∧ yX15_left.cls ≠ "java/lang/invoke/MethodHandle" ∧ yX15_left.cls ≠ "java/lang/invoke/VarHandle" ∧ (parseMethodDescriptor yX15_left.desc).map (fun d => d.parameters.length) = some 1 := by decide +kernel
def w15_left (σ : St) (o0 : Nat) (x1 : Int32) (Q : Int32 → Prop) : Prop := w15_behind σ o0 (fun r1 => (bo (σ 15 o0 30) → (((σ 15 o0 30) = 0 → (Q ((r1 + 0) - x1))) ∧ (¬ (σ 15 o0 30) = 0 → (Q ((r1 + 1) - x1))))))
set_option maxHeartbeats 4000000 in
theorem m15_left (l : Launch) (G : Gh) (a1 : Nat → Nat → Nat) (τ : St) (σ : St) (H : Heap) (o0 : Nat) (x1 : Int32) (ho0 : o0 < 16) (Q : Int32 → Prop) (hw : w15_left σ o0 x1 Q) : Met l yX15_left (ws_ yX15_left cX15_left 2 (some .int)) rmX15_left (PcP G a1 (cmb τ σ) H [.ref (ga G 15 o0), .int x1]) (QIp G H Q) 0 0 (gA G) := by
  refine met_p (by decide) (Nat.le_of_ble_eq_true rfl) ?_
  intro p e s m below meth c ls hHe C hH hS hl
  have C : Cx p e s m _ meth c cX15_left 2 (some .int) "WebHostModel$Connection" G := C
  have hl : lv_has ls 2 [(0, .ref (ga G 15 o0)), (1, .int x1)] := hl
  have hx := C.1
  have hb := C.2.1
  have hown := C.2.2.2.2.2.1
  have hts := C.2.2.2.2.2.2.1
  obtain ⟨locs, hlocs⟩ : ∃ z : List Loc, z = [] := ⟨_, rfl⟩
  rw [← hlocs] at hS ⊢
  refine lv_aload_n hx hb dX15_left_0 rfl (lv_at hl 0 rfl) ?_
  refine kc_ip (rn_vp (As := []) (rest := []) C hH hS (by decide) rfl ho0 (m15_behind l G a1 τ σ H o0 ho0 _ hw) (cwV 0 hts (lw_V q2197 q2198 q2199 q172 q2200) rfl rfl rfl kX15_behind ⟨Nat.le_of_ble_eq_true rfl, Nat.le_of_ble_eq_true rfl⟩) rfl hl.1 rfl (Nat.le_of_ble_eq_true rfl) dX15_left_1 ⟨Nat.le_of_ble_eq_true rfl, Nat.le_of_ble_eq_true rfl⟩) hS (fun r1 locs hw hS => ?_)
  refine lv_aload_n hx hb dX15_left_4 rfl (lv_at hl 0 rfl) ?_
  refine g15_30 C hH ho0 q1741 dX15_left_5 (fun hz => ?_)
  have hw := hw hz
  refine lv_if_eq (tgt := 15) hx hb dX15_left_8 (by decide) (fun h => ?_) (fun h => ?_)
  · have hw := hw.1 h
    refine lv_iconst (v := 0) hx hb dX15_left_15 (by decide) ?_
    refine lv_iadd hx hb dX15_left_16 ?_
    refine lv_iload_n hx hb dX15_left_17 rfl (lv_at hl 1 rfl) ?_
    refine lv_isub hx hb dX15_left_18 ?_
    exact rt_ip C rfl hS hw dX15_left_19
  have hw := hw.2 h
  refine lv_iconst (v := 1) hx hb dX15_left_11 (by decide) ?_
  refine lv_goto (tgt := 16) hx hb dX15_left_12 (by decide) ?_
  refine lv_iadd hx hb dX15_left_16 ?_
  refine lv_iload_n hx hb dX15_left_17 rfl (lv_at hl 1 rfl) ?_
  refine lv_isub hx hb dX15_left_18 ?_
  exact rt_ip C rfl hS hw dX15_left_19
/-! WebHostModel$Connection.open()I -/
abbrev cX15_open : ByteArray := prog_18_method_5_code
def yX15_open : MethodName := ⟨RX15, "open", "()I"⟩
theorem dX15_open_0 : decode cX15_open 0 = .ok (.sipush 4096, 3) := by decide +kernel
theorem dX15_open_3 : decode cX15_open 3 = .ok (.aload_n 0, 1) := by decide +kernel
theorem dX15_open_4 : decode cX15_open 4 = .ok (.invokevirtual 49, 3) := by decide +kernel
theorem dX15_open_7 : decode cX15_open 7 = .ok (.isub, 1) := by decide +kernel
theorem dX15_open_8 : decode cX15_open 8 = .ok (.ireturn, 1) := by decide +kernel
def rmX15_open : Room := { frames := 1, cells := 0, slots := 0, locals := 20 }
theorem kX15_open : yX15_open.cls = "WebHostModel$Connection" ∧ yX15_open.cls ≠ "java/lang/invoke/MethodHandle" ∧ yX15_open.cls ≠ "java/lang/invoke/VarHandle" ∧ (parseMethodDescriptor yX15_open.desc).map (fun d => d.parameters.length) = some 0 := by decide +kernel
def w15_open (σ : St) (o0 : Nat) (Q : Int32 → Prop) : Prop := w15_held σ o0 (fun r1 => (Q (4096 - r1)))
set_option maxHeartbeats 4000000 in
theorem m15_open (l : Launch) (G : Gh) (a1 : Nat → Nat → Nat) (τ : St) (σ : St) (H : Heap) (o0 : Nat) (ho0 : o0 < 16) (Q : Int32 → Prop) (hw : w15_open σ o0 Q) : Met l yX15_open (ws_ yX15_open cX15_open 1 (some .int)) rmX15_open (PcP G a1 (cmb τ σ) H [.ref (ga G 15 o0)]) (QIp G H Q) 0 0 (gA G) := by
  refine met_p (by decide) (Nat.le_of_ble_eq_true rfl) ?_
  intro p e s m below meth c ls hHe C hH hS hl
  have C : Cx p e s m _ meth c cX15_open 1 (some .int) "WebHostModel$Connection" G := C
  have hl : lv_has ls 1 [(0, .ref (ga G 15 o0))] := hl
  have hx := C.1
  have hb := C.2.1
  have hown := C.2.2.2.2.2.1
  have hts := C.2.2.2.2.2.2.1
  obtain ⟨locs, hlocs⟩ : ∃ z : List Loc, z = [] := ⟨_, rfl⟩
  rw [← hlocs] at hS ⊢
  refine lv_sipush (v := 4096) hx hb dX15_open_0 (by decide) ?_
  refine lv_aload_n hx hb dX15_open_3 rfl (lv_at hl 0 rfl) ?_
  refine kc_ip (rn_vp (As := []) (rest := [.int 4096]) C hH hS (by decide) rfl ho0 (m15_held l G a1 τ σ H o0 ho0 _ hw) (cwV 0 hts (lw_V q2235 q2236 q2237 q172 q2238) rfl rfl rfl kX15_held ⟨Nat.le_of_ble_eq_true rfl, Nat.le_of_ble_eq_true rfl⟩) rfl hl.1 rfl (Nat.le_of_ble_eq_true rfl) dX15_open_4 ⟨Nat.le_of_ble_eq_true rfl, Nat.le_of_ble_eq_true rfl⟩) hS (fun r1 locs hw hS => ?_)
  refine lv_isub hx hb dX15_open_7 ?_
  exact rt_ip C rfl hS hw dX15_open_8
/-! WebHost.cached(I)Z -/
abbrev cX0_cached : ByteArray := prog_1_method_27_code
def yX0_cached : MethodName := ⟨RX0, "cached", "(I)Z"⟩
theorem dX0_cached_0 : decode cX0_cached 0 = .ok (.aload_n 0, 1) := by decide +kernel
theorem dX0_cached_1 : decode cX0_cached 1 = .ok (.getfield 105, 3) := by decide +kernel
theorem dX0_cached_4 : decode cX0_cached 4 = .ok (.ifCond .eq 18, 3) := by decide +kernel
theorem dX0_cached_7 : decode cX0_cached 7 = .ok (.aload_n 0, 1) := by decide +kernel
theorem dX0_cached_8 : decode cX0_cached 8 = .ok (.getfield 33, 3) := by decide +kernel
theorem dX0_cached_11 : decode cX0_cached 11 = .ok (.iload_n 1, 1) := by decide +kernel
theorem dX0_cached_12 : decode cX0_cached 12 = .ok (.invokevirtual 342, 3) := by decide +kernel
theorem dX0_cached_15 : decode cX0_cached 15 = .ok (.ifCond .eq 7, 3) := by decide +kernel
theorem dX0_cached_18 : decode cX0_cached 18 = .ok (.iconst 1, 1) := by decide +kernel
theorem dX0_cached_19 : decode cX0_cached 19 = .ok (.goto 4, 3) := by decide +kernel
theorem dX0_cached_22 : decode cX0_cached 22 = .ok (.iconst 0, 1) := by decide +kernel
theorem dX0_cached_23 : decode cX0_cached 23 = .ok (.ireturn, 1) := by decide +kernel
def rmX0_cached : Room := { frames := 2, cells := 0, slots := 0, locals := 44 }
theorem kX0_cached : yX0_cached.cls = "WebHost" ∧ yX0_cached.cls ≠ "java/lang/invoke/MethodHandle" ∧ yX0_cached.cls ≠ "java/lang/invoke/VarHandle" ∧ (parseMethodDescriptor yX0_cached.desc).map (fun d => d.parameters.length) = some 1 := by decide +kernel
def w0_cached (σ : St) (x1 : Int32) (Q : Int32 → Prop) : Prop := bo (σ 0 0 11) → (((σ 0 0 11) = 0 → Q 0) ∧ (¬ (σ 0 0 11) = 0 → (w3_knows σ x1 (fun r1 => ((r1 = 0 → Q 0) ∧ (¬ r1 = 0 → Q 1))))))
set_option maxHeartbeats 4000000 in
theorem m0_cached (l : Launch) (G : Gh) (a1 : Nat → Nat → Nat) (τ : St) (σ : St) (H : Heap) (x1 : Int32) (Q : Int32 → Prop) (hw : w0_cached σ x1 Q) : Met l yX0_cached (ws_ yX0_cached cX0_cached 2 (some .boolean)) rmX0_cached (PcP G a1 (cmb σ τ) H [.ref (ga G 0 0), .int x1]) (QIp G H Q) 0 0 (gA G) := by
  refine met_p (by decide) (Nat.le_of_ble_eq_true rfl) ?_
  intro p e s m below meth c ls hHe C hH hS hl
  have C : Cx p e s m _ meth c cX0_cached 2 (some .boolean) "WebHost" G := C
  have hl : lv_has ls 2 [(0, .ref (ga G 0 0)), (1, .int x1)] := hl
  have hx := C.1
  have hb := C.2.1
  have hown := C.2.2.2.2.2.1
  have hts := C.2.2.2.2.2.2.1
  obtain ⟨locs, hlocs⟩ : ∃ z : List Loc, z = [] := ⟨_, rfl⟩
  rw [← hlocs] at hS ⊢
  refine lv_aload_n hx hb dX0_cached_0 rfl (lv_at hl 0 rfl) ?_
  refine g0_11 C hH q754 dX0_cached_1 (fun hz => ?_)
  have hw := hw hz
  refine lv_if_eq (tgt := 22) hx hb dX0_cached_4 (by decide) (fun h => ?_) (fun h => ?_)
  · have hw := hw.1 h
    refine lv_iconst (v := 0) hx hb dX0_cached_22 (by decide) ?_
    exact rt_ip C rfl hS hw dX0_cached_23
  have hw := hw.2 h
  refine lv_aload_n hx hb dX0_cached_7 rfl (lv_at hl 0 rfl) ?_
  refine g0_4 C hH q747 dX0_cached_8 ?_
  refine lv_iload_n hx hb dX0_cached_11 rfl (lv_at hl 1 rfl) ?_
  refine kc_ip (rn_vp (As := [.int x1]) (rest := []) C hH hS (by decide) rfl (by decide) (m3_knows l G a1 τ σ H x1 _ hw) (cwV 1 hts (lw_V q1664 q1010 q1011 q160 q1012) rfl rfl rfl kX3_knows ⟨Nat.le_of_ble_eq_true rfl, Nat.le_of_ble_eq_true rfl⟩) rfl hl.1 rfl (Nat.le_of_ble_eq_true rfl) dX0_cached_12 ⟨Nat.le_of_ble_eq_true rfl, Nat.le_of_ble_eq_true rfl⟩) hS (fun r1 locs hw hS => ?_)
  refine lv_if_eq (tgt := 22) hx hb dX0_cached_15 (by decide) (fun h => ?_) (fun h => ?_)
  · have hw := hw.1 h
    refine lv_iconst (v := 0) hx hb dX0_cached_22 (by decide) ?_
    exact rt_ip C rfl hS hw dX0_cached_23
  have hw := hw.2 h
  refine lv_iconst (v := 1) hx hb dX0_cached_18 (by decide) ?_
  refine lv_goto (tgt := 23) hx hb dX0_cached_19 (by decide) ?_
  exact rt_ip C rfl hS hw dX0_cached_23
/-! WebHost.due()I -/
abbrev cX0_due : ByteArray := prog_1_method_7_code
def yX0_due : MethodName := ⟨RX0, "due", "()I"⟩
theorem dX0_due_0 : decode cX0_due 0 = .ok (.aload_n 0, 1) := by decide +kernel
theorem dX0_due_1 : decode cX0_due 1 = .ok (.getfield 33, 3) := by decide +kernel
theorem dX0_due_4 : decode cX0_due 4 = .ok (.invokevirtual 144, 3) := by decide +kernel
theorem dX0_due_7 : decode cX0_due 7 = .ok (.aload_n 0, 1) := by decide +kernel
theorem dX0_due_8 : decode cX0_due 8 = .ok (.getfield 49, 3) := by decide +kernel
theorem dX0_due_11 : decode cX0_due 11 = .ok (.invokevirtual 147, 3) := by decide +kernel
theorem dX0_due_14 : decode cX0_due 14 = .ok (.invokestatic 148, 3) := by decide +kernel
theorem dX0_due_17 : decode cX0_due 17 = .ok (.istore_n 1, 1) := by decide +kernel
theorem dX0_due_18 : decode cX0_due 18 = .ok (.iconst 0, 1) := by decide +kernel
theorem dX0_due_19 : decode cX0_due 19 = .ok (.istore_n 2, 1) := by decide +kernel
theorem dX0_due_20 : decode cX0_due 20 = .ok (.iload_n 2, 1) := by decide +kernel
theorem dX0_due_21 : decode cX0_due 21 = .ok (.bipush 16, 2) := by decide +kernel
theorem dX0_due_23 : decode cX0_due 23 = .ok (.if_icmp .ge 35, 3) := by decide +kernel
theorem dX0_due_26 : decode cX0_due 26 = .ok (.iload_n 1, 1) := by decide +kernel
theorem dX0_due_27 : decode cX0_due 27 = .ok (.aload_n 0, 1) := by decide +kernel
theorem dX0_due_28 : decode cX0_due 28 = .ok (.getfield 73, 3) := by decide +kernel
theorem dX0_due_31 : decode cX0_due 31 = .ok (.iload_n 2, 1) := by decide +kernel
theorem dX0_due_32 : decode cX0_due 32 = .ok (.aaload, 1) := by decide +kernel
theorem dX0_due_33 : decode cX0_due 33 = .ok (.invokevirtual 154, 3) := by decide +kernel
theorem dX0_due_36 : decode cX0_due 36 = .ok (.aload_n 0, 1) := by decide +kernel
theorem dX0_due_37 : decode cX0_due 37 = .ok (.getfield 73, 3) := by decide +kernel
theorem dX0_due_40 : decode cX0_due 40 = .ok (.iload_n 2, 1) := by decide +kernel
theorem dX0_due_41 : decode cX0_due 41 = .ok (.aaload, 1) := by decide +kernel
theorem dX0_due_42 : decode cX0_due 42 = .ok (.invokevirtual 157, 3) := by decide +kernel
theorem dX0_due_45 : decode cX0_due 45 = .ok (.invokestatic 148, 3) := by decide +kernel
theorem dX0_due_48 : decode cX0_due 48 = .ok (.invokestatic 148, 3) := by decide +kernel
theorem dX0_due_51 : decode cX0_due 51 = .ok (.istore_n 1, 1) := by decide +kernel
theorem dX0_due_52 : decode cX0_due 52 = .ok (.iinc 2 1, 3) := by decide +kernel
theorem dX0_due_55 : decode cX0_due 55 = .ok (.goto (-35), 3) := by decide +kernel
theorem dX0_due_58 : decode cX0_due 58 = .ok (.iload_n 1, 1) := by decide +kernel
theorem dX0_due_59 : decode cX0_due 59 = .ok (.ireturn, 1) := by decide +kernel
def rmX0_due : Room := { frames := 2, cells := 0, slots := 0, locals := 45 }
theorem kX0_due : yX0_due.cls = "WebHost" ∧ yX0_due.cls ≠ "java/lang/invoke/MethodHandle" ∧ yX0_due.cls ≠ "java/lang/invoke/VarHandle" ∧ (parseMethodDescriptor yX0_due.desc).map (fun d => d.parameters.length) = some 0 := by decide +kernel
def w0_due_L20 (σ : St) (Q : Int32 → Prop) (K58 : Int32 → Prop) : Nat → Int32 → Int32 → Prop
  | 0, _, _ => False
  | n + 1, x1, x2 => (16 ≤ x2 → K58 x1) ∧ (¬ 16 ≤ x2 → (vp_in x2 16 ∧ (w11_timerDue σ x2.toNatClampNeg (fun r4 => (vp_in x2 16 ∧ (w11_lifeDue σ x2.toNatClampNeg (fun r6 => (w0_due_L20 σ Q K58 n (imin x1 (imin r4 r6)) (x2 + 1)))))))))
set_option maxHeartbeats 4000000 in
theorem k0_due_L20 {p : Program} {l : Launch} {e : Env} {s : State} {m : MethodId} {args : Array Value} {below : List Frame} {meth : Method} {c : Code} {G : Gh} {a1 : Nat → Nat → Nat} {τ : St} {H : Heap} {Q : Int32 → Prop} {K58 : Int32 → Prop} (C : Cx p e s m args meth c cX0_due 3 (some .int) "WebHost" G) (σ : St) (hH : Hd G a1 (cmb σ τ) H) :
    ∀ (n : Nat) (x1 : Int32) (x2 : Int32), w0_due_L20 σ Q K58 n x1 x2 → ∀ (locs : List Loc) (ls : Array Slot), va_S (gA G) s.heap H locs → lv_has ls 3 [(0, .ref (ga G 0 0)), (1, .int x1), (2, .int x2)] → (∀ (x1 : Int32), K58 x1 → ∀ (locs : List Loc) (ls : Array Slot), va_S (gA G) s.heap H locs → lv_has ls 3 [(1, .int x1)] → W p l e rmX0_due s m args below meth c H locs 0 0 (MQ below (QIp G H Q) args s 0 0 (gA G)) (F0 m 58 ls [])) → W p l e rmX0_due s m args below meth c H locs 0 0 (MQ below (QIp G H Q) args s 0 0 (gA G)) (F0 m 20 ls []) := by
  have hx := C.1
  have hb := C.2.1
  have hown := C.2.2.2.2.2.1
  have hts := C.2.2.2.2.2.2.1
  intro n
  induction n with
  | zero =>
    intro x1 x2 hw
    exact False.elim hw
  | succ n ih =>
    intro x1 x2 hw locs ls hS hl hK58
    refine lv_iload_n hx hb dX0_due_20 rfl (lv_at hl 2 rfl) ?_
    refine lv_bipush (v := 16) hx hb dX0_due_21 (by decide) ?_
    refine lv_icmp_ge (tgt := 58) hx hb dX0_due_23 (by decide) (fun h => ?_) (fun h => ?_)
    · have hw := hw.1 h
      exact hK58 x1 hw locs ls hS (lv_sub hl [1] rfl)
    have hw := hw.2 h
    refine lv_iload_n hx hb dX0_due_26 rfl (lv_at hl 1 rfl) ?_
    refine lv_aload_n hx hb dX0_due_27 rfl (lv_at hl 0 rfl) ?_
    refine g0_9 C hH q752 dX0_due_28 ?_
    refine lv_iload_n hx hb dX0_due_31 rfl (lv_at hl 2 rfl) ?_
    have hq3 := vp_lt hw.1
    refine l45 C hH hw.1 dX0_due_32 ?_
    have hw := hw.2
    refine kc_ip (rn_vp (As := []) (rest := [.int x1]) C hH hS (by decide) rfl hq3 (m11_timerDue l G a1 τ σ H x2.toNatClampNeg hq3 _ hw) (cwV 0 hts (lw_V q923 q924 q925 q168 q926) rfl rfl rfl kX11_timerDue ⟨Nat.le_of_ble_eq_true rfl, Nat.le_of_ble_eq_true rfl⟩) rfl hl.1 rfl (Nat.le_of_ble_eq_true rfl) dX0_due_33 ⟨Nat.le_of_ble_eq_true rfl, Nat.le_of_ble_eq_true rfl⟩) hS (fun r4 locs hw hS => ?_)
    refine lv_aload_n hx hb dX0_due_36 rfl (lv_at hl 0 rfl) ?_
    refine g0_9 C hH q752 dX0_due_37 ?_
    refine lv_iload_n hx hb dX0_due_40 rfl (lv_at hl 2 rfl) ?_
    have hq5 := vp_lt hw.1
    refine l45 C hH hw.1 dX0_due_41 ?_
    have hw := hw.2
    refine kc_ip (rn_vp (As := []) (rest := [.int r4, .int x1]) C hH hS (by decide) rfl hq5 (m11_lifeDue l G a1 τ σ H x2.toNatClampNeg hq5 _ hw) (cwV 0 hts (lw_V q928 q929 q930 q168 q931) rfl rfl rfl kX11_lifeDue ⟨Nat.le_of_ble_eq_true rfl, Nat.le_of_ble_eq_true rfl⟩) rfl hl.1 rfl (Nat.le_of_ble_eq_true rfl) dX0_due_42 ⟨Nat.le_of_ble_eq_true rfl, Nat.le_of_ble_eq_true rfl⟩) hS (fun r6 locs hw hS => ?_)
    refine r_imin C hl.1 q922 (Nat.le_of_ble_eq_true rfl) (Nat.le_of_ble_eq_true rfl) (Nat.zero_le _) (Nat.zero_le _) dX0_due_45 ?_
    refine r_imin C hl.1 q922 (Nat.le_of_ble_eq_true rfl) (Nat.le_of_ble_eq_true rfl) (Nat.zero_le _) (Nat.zero_le _) dX0_due_48 ?_
    refine lv_istore_n (lv' := [(1, .int (imin x1 (imin r4 r6))), (0, .ref (ga G 0 0)), (2, .int x2)]) hx hb dX0_due_51 rfl hl (by decide) rfl (fun ls hl => ?_)
    refine lv_iinc (v := x2 + 1) (lv' := [(2, .int (x2 + 1)), (1, .int (imin x1 (imin r4 r6))), (0, .ref (ga G 0 0))]) hx hb dX0_due_52 hl (k := 2) rfl rfl (by decide) rfl (fun ls hl => ?_)
    refine lv_goto (tgt := 20) hx hb dX0_due_55 (by decide) ?_
    exact ih (imin x1 (imin r4 r6)) (x2 + 1) hw locs ls hS (lv_sub hl [2, 1, 0] rfl) hK58
def w0_due (σ : St) (Q : Int32 → Prop) : Prop := w3_due σ (fun r1 => (w6_due σ (fun r2 => (∃ z7, w0_due_L20 σ Q (fun x1_8 => Q x1_8) z7 (imin r1 r2) 0))))
set_option maxHeartbeats 4000000 in
theorem m0_due (l : Launch) (G : Gh) (a1 : Nat → Nat → Nat) (τ : St) (σ : St) (H : Heap) (Q : Int32 → Prop) (hw : w0_due σ Q) : Met l yX0_due (ws_ yX0_due cX0_due 3 (some .int)) rmX0_due (PcP G a1 (cmb σ τ) H [.ref (ga G 0 0)]) (QIp G H Q) 0 0 (gA G) := by
  refine met_p (by decide) (Nat.le_of_ble_eq_true rfl) ?_
  intro p e s m below meth c ls hHe C hH hS hl
  have C : Cx p e s m _ meth c cX0_due 3 (some .int) "WebHost" G := C
  have hl : lv_has ls 3 [(0, .ref (ga G 0 0))] := hl
  have hx := C.1
  have hb := C.2.1
  have hown := C.2.2.2.2.2.1
  have hts := C.2.2.2.2.2.2.1
  obtain ⟨locs, hlocs⟩ : ∃ z : List Loc, z = [] := ⟨_, rfl⟩
  rw [← hlocs] at hS ⊢
  refine lv_aload_n hx hb dX0_due_0 rfl (lv_at hl 0 rfl) ?_
  refine g0_4 C hH q747 dX0_due_1 ?_
  refine kc_ip (rn_vp (As := []) (rest := []) C hH hS (by decide) rfl (by decide) (m3_due l G a1 τ σ H _ hw) (cwV 0 hts (lw_V q905 q906 q907 q160 q908) rfl rfl rfl kX3_due ⟨Nat.le_of_ble_eq_true rfl, Nat.le_of_ble_eq_true rfl⟩) rfl hl.1 rfl (Nat.le_of_ble_eq_true rfl) dX0_due_4 ⟨Nat.le_of_ble_eq_true rfl, Nat.le_of_ble_eq_true rfl⟩) hS (fun r1 locs hw hS => ?_)
  refine lv_aload_n hx hb dX0_due_7 rfl (lv_at hl 0 rfl) ?_
  refine g0_6 C hH q749 dX0_due_8 ?_
  refine kc_ip (rn_vp (As := []) (rest := [.int r1]) C hH hS (by decide) rfl (by decide) (m6_due l G a1 τ σ H _ hw) (cwV 0 hts (lw_V q917 q918 q919 q163 q920) rfl rfl rfl kX6_due ⟨Nat.le_of_ble_eq_true rfl, Nat.le_of_ble_eq_true rfl⟩) rfl hl.1 rfl (Nat.le_of_ble_eq_true rfl) dX0_due_11 ⟨Nat.le_of_ble_eq_true rfl, Nat.le_of_ble_eq_true rfl⟩) hS (fun r2 locs hw hS => ?_)
  refine r_imin C hl.1 q922 (Nat.le_of_ble_eq_true rfl) (Nat.le_of_ble_eq_true rfl) (Nat.zero_le _) (Nat.zero_le _) dX0_due_14 ?_
  refine lv_istore_n (lv' := [(1, .int (imin r1 r2)), (0, .ref (ga G 0 0))]) hx hb dX0_due_17 rfl hl (by decide) rfl (fun ls hl => ?_)
  refine lv_iconst (v := 0) hx hb dX0_due_18 (by decide) ?_
  refine lv_istore_n (lv' := [(2, .int 0), (1, .int (imin r1 r2)), (0, .ref (ga G 0 0))]) hx hb dX0_due_19 rfl hl (by decide) rfl (fun ls hl => ?_)
  obtain ⟨n7, hw⟩ := hw
  refine k0_due_L20 C σ hH n7 (imin r1 r2) 0 hw locs ls hS (lv_sub hl [2, 1, 0] rfl) (fun x1_8 hw locs ls hS hl => ?_)
  refine lv_iload_n hx hb dX0_due_58 rfl (lv_at hl 0 rfl) ?_
  exact rt_ip C rfl hS hw dX0_due_59
/-! WebHost.feed(IIIII)I -/
abbrev cX0_feed : ByteArray := prog_1_method_2_code
def yX0_feed : MethodName := ⟨RX0, "feed", "(IIIII)I"⟩
theorem dX0_feed_0 : decode cX0_feed 0 = .ok (.aload_n 0, 1) := by decide +kernel
theorem dX0_feed_1 : decode cX0_feed 1 = .ok (.getfield 87, 3) := by decide +kernel
theorem dX0_feed_4 : decode cX0_feed 4 = .ok (.bipush 20, 2) := by decide +kernel
theorem dX0_feed_6 : decode cX0_feed 6 = .ok (.iadd, 1) := by decide +kernel
theorem dX0_feed_7 : decode cX0_feed 7 = .ok (.ldc 7, 2) := by decide +kernel
theorem dX0_feed_9 : decode cX0_feed 9 = .ok (.if_icmp .le 5, 3) := by decide +kernel
theorem dX0_feed_12 : decode cX0_feed 12 = .ok (.iconst (-1), 1) := by decide +kernel
theorem dX0_feed_13 : decode cX0_feed 13 = .ok (.ireturn, 1) := by decide +kernel
theorem dX0_feed_14 : decode cX0_feed 14 = .ok (.aload_n 0, 1) := by decide +kernel
theorem dX0_feed_15 : decode cX0_feed 15 = .ok (.getfield 8, 3) := by decide +kernel
theorem dX0_feed_18 : decode cX0_feed 18 = .ok (.aload_n 0, 1) := by decide +kernel
theorem dX0_feed_19 : decode cX0_feed 19 = .ok (.getfield 87, 3) := by decide +kernel
theorem dX0_feed_22 : decode cX0_feed 22 = .ok (.iload_n 1, 1) := by decide +kernel
theorem dX0_feed_23 : decode cX0_feed 23 = .ok (.invokestatic 91, 3) := by decide +kernel
theorem dX0_feed_26 : decode cX0_feed 26 = .ok (.aload_n 0, 1) := by decide +kernel
theorem dX0_feed_27 : decode cX0_feed 27 = .ok (.getfield 8, 3) := by decide +kernel
theorem dX0_feed_30 : decode cX0_feed 30 = .ok (.aload_n 0, 1) := by decide +kernel
theorem dX0_feed_31 : decode cX0_feed 31 = .ok (.getfield 87, 3) := by decide +kernel
theorem dX0_feed_34 : decode cX0_feed 34 = .ok (.iconst 4, 1) := by decide +kernel
theorem dX0_feed_35 : decode cX0_feed 35 = .ok (.iadd, 1) := by decide +kernel
theorem dX0_feed_36 : decode cX0_feed 36 = .ok (.iload_n 2, 1) := by decide +kernel
theorem dX0_feed_37 : decode cX0_feed 37 = .ok (.invokestatic 91, 3) := by decide +kernel
theorem dX0_feed_40 : decode cX0_feed 40 = .ok (.aload_n 0, 1) := by decide +kernel
theorem dX0_feed_41 : decode cX0_feed 41 = .ok (.getfield 8, 3) := by decide +kernel
theorem dX0_feed_44 : decode cX0_feed 44 = .ok (.aload_n 0, 1) := by decide +kernel
theorem dX0_feed_45 : decode cX0_feed 45 = .ok (.getfield 87, 3) := by decide +kernel
theorem dX0_feed_48 : decode cX0_feed 48 = .ok (.bipush 8, 2) := by decide +kernel
theorem dX0_feed_50 : decode cX0_feed 50 = .ok (.iadd, 1) := by decide +kernel
theorem dX0_feed_51 : decode cX0_feed 51 = .ok (.iload_n 3, 1) := by decide +kernel
theorem dX0_feed_52 : decode cX0_feed 52 = .ok (.invokestatic 91, 3) := by decide +kernel
theorem dX0_feed_55 : decode cX0_feed 55 = .ok (.aload_n 0, 1) := by decide +kernel
theorem dX0_feed_56 : decode cX0_feed 56 = .ok (.getfield 8, 3) := by decide +kernel
theorem dX0_feed_59 : decode cX0_feed 59 = .ok (.aload_n 0, 1) := by decide +kernel
theorem dX0_feed_60 : decode cX0_feed 60 = .ok (.getfield 87, 3) := by decide +kernel
theorem dX0_feed_63 : decode cX0_feed 63 = .ok (.bipush 12, 2) := by decide +kernel
theorem dX0_feed_65 : decode cX0_feed 65 = .ok (.iadd, 1) := by decide +kernel
theorem dX0_feed_66 : decode cX0_feed 66 = .ok (.iload 4, 2) := by decide +kernel
theorem dX0_feed_68 : decode cX0_feed 68 = .ok (.invokestatic 91, 3) := by decide +kernel
theorem dX0_feed_71 : decode cX0_feed 71 = .ok (.aload_n 0, 1) := by decide +kernel
theorem dX0_feed_72 : decode cX0_feed 72 = .ok (.getfield 8, 3) := by decide +kernel
theorem dX0_feed_75 : decode cX0_feed 75 = .ok (.aload_n 0, 1) := by decide +kernel
theorem dX0_feed_76 : decode cX0_feed 76 = .ok (.getfield 87, 3) := by decide +kernel
theorem dX0_feed_79 : decode cX0_feed 79 = .ok (.bipush 16, 2) := by decide +kernel
theorem dX0_feed_81 : decode cX0_feed 81 = .ok (.iadd, 1) := by decide +kernel
theorem dX0_feed_82 : decode cX0_feed 82 = .ok (.iload 5, 2) := by decide +kernel
theorem dX0_feed_84 : decode cX0_feed 84 = .ok (.invokestatic 91, 3) := by decide +kernel
theorem dX0_feed_87 : decode cX0_feed 87 = .ok (.aload_n 0, 1) := by decide +kernel
theorem dX0_feed_88 : decode cX0_feed 88 = .ok (.dup, 1) := by decide +kernel
theorem dX0_feed_89 : decode cX0_feed 89 = .ok (.getfield 87, 3) := by decide +kernel
theorem dX0_feed_92 : decode cX0_feed 92 = .ok (.bipush 20, 2) := by decide +kernel
theorem dX0_feed_94 : decode cX0_feed 94 = .ok (.iadd, 1) := by decide +kernel
theorem dX0_feed_95 : decode cX0_feed 95 = .ok (.putfield 87, 3) := by decide +kernel
theorem dX0_feed_98 : decode cX0_feed 98 = .ok (.aload_n 0, 1) := by decide +kernel
theorem dX0_feed_99 : decode cX0_feed 99 = .ok (.getfield 87, 3) := by decide +kernel
theorem dX0_feed_102 : decode cX0_feed 102 = .ok (.ireturn, 1) := by decide +kernel
def rmX0_feed : Room := { frames := 2, cells := 0, slots := 0, locals := 44 }
theorem kX0_feed : yX0_feed.cls = "WebHost" ∧ yX0_feed.cls ≠ "java/lang/invoke/MethodHandle" ∧ yX0_feed.cls ≠ "java/lang/invoke/VarHandle" ∧ (parseMethodDescriptor yX0_feed.desc).map (fun d => d.parameters.length) = some 5 := by decide +kernel
def w0_feed (σ : St) (x1 : Int32) (x2 : Int32) (x3 : Int32) (x4 : Int32) (x5 : Int32) (Q : Int32 → St → Prop) : Prop := (((σ 0 0 1) + 20) ≤ 65540 → (w19_putFour σ 20 0 (σ 0 0 1) x1 (fun σ1 => (w19_putFour σ1 20 0 ((σ1 0 0 1) + 4) x2 (fun σ2 => (w19_putFour σ2 20 0 ((σ2 0 0 1) + 8) x3 (fun σ3 => (w19_putFour σ3 20 0 ((σ3 0 0 1) + 12) x4 (fun σ4 => (w19_putFour σ4 20 0 ((σ4 0 0 1) + 16) x5 (fun σ5 => (∀ σ6, σ6 = up3 σ5 0 0 1 ((σ5 0 0 1) + 20) → (Q (σ6 0 0 1) σ6))))))))))))) ∧ (¬ ((σ 0 0 1) + 20) ≤ 65540 → (Q (-1) σ))
set_option maxHeartbeats 4000000 in
theorem m0_feed (l : Launch) (G : Gh) (a1 : Nat → Nat → Nat) (τ : St) (σ : St) (x1 : Int32) (x2 : Int32) (x3 : Int32) (x4 : Int32) (x5 : Int32) (Q : Int32 → St → Prop) (hw : w0_feed σ x1 x2 x3 x4 x5 Q) : Met l yX0_feed (ws_ yX0_feed cX0_feed 6 (some .int)) rmX0_feed (PcS G a1 (cmb σ τ) [.ref (ga G 0 0), .int x1, .int x2, .int x3, .int x4, .int x5]) (QIs G a1 (fun u => cmb u τ) Q) 0 0 (gA G) := by
  refine met_w (by decide) (Nat.le_of_ble_eq_true rfl) ?_
  intro p e s m below meth c ls C hH hS hl
  have C : Cx p e s m _ meth c cX0_feed 6 (some .int) "WebHost" G := C
  have hl : lv_has ls 6 [(0, .ref (ga G 0 0)), (1, .int x1), (2, .int x2), (3, .int x3), (4, .int x4), (5, .int x5)] := hl
  have hx := C.1
  have hb := C.2.1
  have hown := C.2.2.2.2.2.1
  have hts := C.2.2.2.2.2.2.1
  obtain ⟨locs, hlocs⟩ : ∃ z : List Loc, z = [] := ⟨_, rfl⟩
  obtain ⟨H, hHe⟩ : ∃ z : Heap, z = s.heap := ⟨_, rfl⟩
  have hH : Hd G a1 (cmb σ τ) H := by rw [hHe]; exact hH
  have hS : va_S (gA G) s.heap H locs := by rw [hHe, hlocs]; exact hS
  refine W.heap0 hHe.symm hlocs.symm ?_
  refine lv_aload_n hx hb dX0_feed_0 rfl (lv_at hl 0 rfl) ?_
  refine g0_1 C hH q744 dX0_feed_1 ?_
  refine lv_bipush (v := 20) hx hb dX0_feed_4 (by decide) ?_
  refine lv_iadd hx hb dX0_feed_6 ?_
  refine lv_ldc (v := 65540) hx hb hown (hts _ q191) dX0_feed_7 ?_
  refine lv_icmp_le (tgt := 14) hx hb dX0_feed_9 (by decide) (fun h => ?_) (fun h => ?_)
  · have hw := hw.1 h
    refine lv_aload_n hx hb dX0_feed_14 rfl (lv_at hl 0 rfl) ?_
    refine g0_0 C hH q743 dX0_feed_15 ?_
    refine lv_aload_n hx hb dX0_feed_18 rfl (lv_at hl 0 rfl) ?_
    refine g0_1 C hH q744 dX0_feed_19 ?_
    refine lv_iload_n hx hb dX0_feed_22 rfl (lv_at hl 1 rfl) ?_
    refine kc_v (rn_s (As := [.ref (adr G a1 20 0), .int (σ 0 0 1), .int x1]) (rest := []) C hH hS (m19_putFour l G a1 τ σ 20 0 (σ 0 0 1) x1 (by decide) _ hw) (va_cwS 3 hts (lw_S q790 q791 q176 q792) rfl rfl rfl kX19_putFour.2 ⟨Nat.le_of_ble_eq_true rfl, Nat.le_of_ble_eq_true rfl⟩) rfl hl.1 rfl (Nat.le_of_ble_eq_true rfl) dX0_feed_23 ⟨Nat.le_of_ble_eq_true rfl, Nat.le_of_ble_eq_true rfl⟩) hS (fun σ1 H locs hw hH hS => ?_)
    refine lv_aload_n hx hb dX0_feed_26 rfl (lv_at hl 0 rfl) ?_
    refine g0_0 C hH q743 dX0_feed_27 ?_
    refine lv_aload_n hx hb dX0_feed_30 rfl (lv_at hl 0 rfl) ?_
    refine g0_1 C hH q744 dX0_feed_31 ?_
    refine lv_iconst (v := 4) hx hb dX0_feed_34 (by decide) ?_
    refine lv_iadd hx hb dX0_feed_35 ?_
    refine lv_iload_n hx hb dX0_feed_36 rfl (lv_at hl 2 rfl) ?_
    refine kc_v (rn_s (As := [.ref (adr G a1 20 0), .int ((σ1 0 0 1) + 4), .int x2]) (rest := []) C hH hS (m19_putFour l G a1 τ σ1 20 0 ((σ1 0 0 1) + 4) x2 (by decide) _ hw) (va_cwS 3 hts (lw_S q790 q791 q176 q792) rfl rfl rfl kX19_putFour.2 ⟨Nat.le_of_ble_eq_true rfl, Nat.le_of_ble_eq_true rfl⟩) rfl hl.1 rfl (Nat.le_of_ble_eq_true rfl) dX0_feed_37 ⟨Nat.le_of_ble_eq_true rfl, Nat.le_of_ble_eq_true rfl⟩) hS (fun σ2 H locs hw hH hS => ?_)
    refine lv_aload_n hx hb dX0_feed_40 rfl (lv_at hl 0 rfl) ?_
    refine g0_0 C hH q743 dX0_feed_41 ?_
    refine lv_aload_n hx hb dX0_feed_44 rfl (lv_at hl 0 rfl) ?_
    refine g0_1 C hH q744 dX0_feed_45 ?_
    refine lv_bipush (v := 8) hx hb dX0_feed_48 (by decide) ?_
    refine lv_iadd hx hb dX0_feed_50 ?_
    refine lv_iload_n hx hb dX0_feed_51 rfl (lv_at hl 3 rfl) ?_
    refine kc_v (rn_s (As := [.ref (adr G a1 20 0), .int ((σ2 0 0 1) + 8), .int x3]) (rest := []) C hH hS (m19_putFour l G a1 τ σ2 20 0 ((σ2 0 0 1) + 8) x3 (by decide) _ hw) (va_cwS 3 hts (lw_S q790 q791 q176 q792) rfl rfl rfl kX19_putFour.2 ⟨Nat.le_of_ble_eq_true rfl, Nat.le_of_ble_eq_true rfl⟩) rfl hl.1 rfl (Nat.le_of_ble_eq_true rfl) dX0_feed_52 ⟨Nat.le_of_ble_eq_true rfl, Nat.le_of_ble_eq_true rfl⟩) hS (fun σ3 H locs hw hH hS => ?_)
    refine lv_aload_n hx hb dX0_feed_55 rfl (lv_at hl 0 rfl) ?_
    refine g0_0 C hH q743 dX0_feed_56 ?_
    refine lv_aload_n hx hb dX0_feed_59 rfl (lv_at hl 0 rfl) ?_
    refine g0_1 C hH q744 dX0_feed_60 ?_
    refine lv_bipush (v := 12) hx hb dX0_feed_63 (by decide) ?_
    refine lv_iadd hx hb dX0_feed_65 ?_
    refine lv_iload hx hb dX0_feed_66 (lv_at hl 4 rfl) ?_
    refine kc_v (rn_s (As := [.ref (adr G a1 20 0), .int ((σ3 0 0 1) + 12), .int x4]) (rest := []) C hH hS (m19_putFour l G a1 τ σ3 20 0 ((σ3 0 0 1) + 12) x4 (by decide) _ hw) (va_cwS 3 hts (lw_S q790 q791 q176 q792) rfl rfl rfl kX19_putFour.2 ⟨Nat.le_of_ble_eq_true rfl, Nat.le_of_ble_eq_true rfl⟩) rfl hl.1 rfl (Nat.le_of_ble_eq_true rfl) dX0_feed_68 ⟨Nat.le_of_ble_eq_true rfl, Nat.le_of_ble_eq_true rfl⟩) hS (fun σ4 H locs hw hH hS => ?_)
    refine lv_aload_n hx hb dX0_feed_71 rfl (lv_at hl 0 rfl) ?_
    refine g0_0 C hH q743 dX0_feed_72 ?_
    refine lv_aload_n hx hb dX0_feed_75 rfl (lv_at hl 0 rfl) ?_
    refine g0_1 C hH q744 dX0_feed_76 ?_
    refine lv_bipush (v := 16) hx hb dX0_feed_79 (by decide) ?_
    refine lv_iadd hx hb dX0_feed_81 ?_
    refine lv_iload hx hb dX0_feed_82 (lv_at hl 5 rfl) ?_
    refine kc_v (rn_s (As := [.ref (adr G a1 20 0), .int ((σ4 0 0 1) + 16), .int x5]) (rest := []) C hH hS (m19_putFour l G a1 τ σ4 20 0 ((σ4 0 0 1) + 16) x5 (by decide) _ hw) (va_cwS 3 hts (lw_S q790 q791 q176 q792) rfl rfl rfl kX19_putFour.2 ⟨Nat.le_of_ble_eq_true rfl, Nat.le_of_ble_eq_true rfl⟩) rfl hl.1 rfl (Nat.le_of_ble_eq_true rfl) dX0_feed_84 ⟨Nat.le_of_ble_eq_true rfl, Nat.le_of_ble_eq_true rfl⟩) hS (fun σ5 H locs hw hH hS => ?_)
    refine lv_aload_n hx hb dX0_feed_87 rfl (lv_at hl 0 rfl) ?_
    refine lv_dup hx hb dX0_feed_88 rfl ?_
    refine g0_1 C hH q744 dX0_feed_89 ?_
    refine lv_bipush (v := 20) hx hb dX0_feed_92 (by decide) ?_
    refine lv_iadd hx hb dX0_feed_94 ?_
    refine p0_1 C hH hS q744 dX0_feed_95 (fun σ6 e6 H locs hH hS => ?_)
    have hw := hw σ6 e6
    refine lv_aload_n hx hb dX0_feed_98 rfl (lv_at hl 0 rfl) ?_
    refine g0_1 C hH q744 dX0_feed_99 ?_
    exact rt_i C rfl hH hS hw dX0_feed_102
  have hw := hw.2 h
  refine lv_iconst (v := (-1)) hx hb dX0_feed_12 (by decide) ?_
  exact rt_i C rfl hH hS hw dX0_feed_13
/-! WebHost.length(I)I -/
abbrev cX0_length : ByteArray := prog_1_method_21_code
def yX0_length : MethodName := ⟨RX0, "length", "(I)I"⟩
theorem dX0_length_0 : decode cX0_length 0 = .ok (.aload_n 0, 1) := by decide +kernel
theorem dX0_length_1 : decode cX0_length 1 = .ok (.iload_n 1, 1) := by decide +kernel
theorem dX0_length_2 : decode cX0_length 2 = .ok (.invokevirtual 279, 3) := by decide +kernel
theorem dX0_length_5 : decode cX0_length 5 = .ok (.ifCond .eq 14, 3) := by decide +kernel
theorem dX0_length_8 : decode cX0_length 8 = .ok (.aload_n 0, 1) := by decide +kernel
theorem dX0_length_9 : decode cX0_length 9 = .ok (.getfield 24, 3) := by decide +kernel
theorem dX0_length_12 : decode cX0_length 12 = .ok (.iload_n 1, 1) := by decide +kernel
theorem dX0_length_13 : decode cX0_length 13 = .ok (.invokevirtual 280, 3) := by decide +kernel
theorem dX0_length_16 : decode cX0_length 16 = .ok (.goto 4, 3) := by decide +kernel
theorem dX0_length_19 : decode cX0_length 19 = .ok (.iconst (-1), 1) := by decide +kernel
theorem dX0_length_20 : decode cX0_length 20 = .ok (.ireturn, 1) := by decide +kernel
def rmX0_length : Room := { frames := 2, cells := 0, slots := 0, locals := 42 }
theorem kX0_length : yX0_length.cls = "WebHost" ∧ yX0_length.cls ≠ "java/lang/invoke/MethodHandle" ∧ yX0_length.cls ≠ "java/lang/invoke/VarHandle" ∧ (parseMethodDescriptor yX0_length.desc).map (fun d => d.parameters.length) = some 1 := by decide +kernel
def w0_length (σ : St) (x1 : Int32) (Q : Int32 → Prop) : Prop := w0_isKept σ x1 (fun r1 => ((r1 = 0 → (Q (-1))) ∧ (¬ r1 = 0 → (w2_length σ x1 (fun r2 => (Q r2))))))
set_option maxHeartbeats 4000000 in
theorem m0_length (l : Launch) (G : Gh) (a1 : Nat → Nat → Nat) (τ : St) (σ : St) (H : Heap) (x1 : Int32) (Q : Int32 → Prop) (hw : w0_length σ x1 Q) : Met l yX0_length (ws_ yX0_length cX0_length 2 (some .int)) rmX0_length (PcP G a1 (cmb σ τ) H [.ref (ga G 0 0), .int x1]) (QIp G H Q) 0 0 (gA G) := by
  refine met_p (by decide) (Nat.le_of_ble_eq_true rfl) ?_
  intro p e s m below meth c ls hHe C hH hS hl
  have C : Cx p e s m _ meth c cX0_length 2 (some .int) "WebHost" G := C
  have hl : lv_has ls 2 [(0, .ref (ga G 0 0)), (1, .int x1)] := hl
  have hx := C.1
  have hb := C.2.1
  have hown := C.2.2.2.2.2.1
  have hts := C.2.2.2.2.2.2.1
  obtain ⟨locs, hlocs⟩ : ∃ z : List Loc, z = [] := ⟨_, rfl⟩
  rw [← hlocs] at hS ⊢
  refine lv_aload_n hx hb dX0_length_0 rfl (lv_at hl 0 rfl) ?_
  refine lv_iload_n hx hb dX0_length_1 rfl (lv_at hl 1 rfl) ?_
  refine kc_ip (rn_vp (As := [.int x1]) (rest := []) C hH hS (by decide) rfl (by decide) (m0_isKept l G a1 τ σ H x1 _ hw) (cwV 1 hts (lw_V q1608 q1610 qs73 q157 q1611) rfl rfl rfl kX0_isKept ⟨Nat.le_of_ble_eq_true rfl, Nat.le_of_ble_eq_true rfl⟩) rfl hl.1 rfl (Nat.le_of_ble_eq_true rfl) dX0_length_2 ⟨Nat.le_of_ble_eq_true rfl, Nat.le_of_ble_eq_true rfl⟩) hS (fun r1 locs hw hS => ?_)
  refine lv_if_eq (tgt := 19) hx hb dX0_length_5 (by decide) (fun h => ?_) (fun h => ?_)
  · have hw := hw.1 h
    refine lv_iconst (v := (-1)) hx hb dX0_length_19 (by decide) ?_
    exact rt_ip C rfl hS hw dX0_length_20
  have hw := hw.2 h
  refine lv_aload_n hx hb dX0_length_8 rfl (lv_at hl 0 rfl) ?_
  refine g0_3 C hH q746 dX0_length_9 ?_
  refine lv_iload_n hx hb dX0_length_12 rfl (lv_at hl 1 rfl) ?_
  refine kc_ip (rn_vp (As := [.int x1]) (rest := []) C hH hS (by decide) rfl (by decide) (m2_length l G a1 τ σ H x1 _ hw) (cwV 1 hts (lw_V q1616 q1617 q1618 q159 q1619) rfl rfl rfl kX2_length ⟨Nat.le_of_ble_eq_true rfl, Nat.le_of_ble_eq_true rfl⟩) rfl hl.1 rfl (Nat.le_of_ble_eq_true rfl) dX0_length_13 ⟨Nat.le_of_ble_eq_true rfl, Nat.le_of_ble_eq_true rfl⟩) hS (fun r2 locs hw hS => ?_)
  refine lv_goto (tgt := 20) hx hb dX0_length_16 (by decide) ?_
  exact rt_ip C rfl hS hw dX0_length_20
/-! WebHost.look(II)J -/
abbrev cX0_look : ByteArray := prog_1_method_26_code
def yX0_look : MethodName := ⟨RX0, "look", "(II)J"⟩
theorem dX0_look_0 : decode cX0_look 0 = .ok (.aload_n 0, 1) := by decide +kernel
theorem dX0_look_1 : decode cX0_look 1 = .ok (.iload_n 1, 1) := by decide +kernel
theorem dX0_look_2 : decode cX0_look 2 = .ok (.invokevirtual 292, 3) := by decide +kernel
theorem dX0_look_5 : decode cX0_look 5 = .ok (.iconst 1, 1) := by decide +kernel
theorem dX0_look_6 : decode cX0_look 6 = .ok (.if_icmp .ge 7, 3) := by decide +kernel
theorem dX0_look_9 : decode cX0_look 9 = .ok (.ldc2_w 294, 3) := by decide +kernel
theorem dX0_look_12 : decode cX0_look 12 = .ok (.lreturn, 1) := by decide +kernel
theorem dX0_look_13 : decode cX0_look 13 = .ok (.aload_n 0, 1) := by decide +kernel
theorem dX0_look_14 : decode cX0_look 14 = .ok (.getfield 73, 3) := by decide +kernel
theorem dX0_look_17 : decode cX0_look 17 = .ok (.iload_n 1, 1) := by decide +kernel
theorem dX0_look_18 : decode cX0_look 18 = .ok (.aaload, 1) := by decide +kernel
theorem dX0_look_19 : decode cX0_look 19 = .ok (.astore_n 3, 1) := by decide +kernel
theorem dX0_look_20 : decode cX0_look 20 = .ok (.iload_n 2, 1) := by decide +kernel
theorem dX0_look_21 : decode cX0_look 21 = .ok (.tableswitch 188 0 14 #[75, 85, 91, 101, 111, 121, 131, 137, 143, 149, 155, 161, 170, 176, 182], 75) := by decide +kernel
theorem dX0_look_96 : decode cX0_look 96 = .ok (.aload_n 3, 1) := by decide +kernel
theorem dX0_look_97 : decode cX0_look 97 = .ok (.getfield 246, 3) := by decide +kernel
theorem dX0_look_100 : decode cX0_look 100 = .ok (.i2l, 1) := by decide +kernel
theorem dX0_look_101 : decode cX0_look 101 = .ok (.ldc2_w 296, 3) := by decide +kernel
theorem dX0_look_104 : decode cX0_look 104 = .ok (.land, 1) := by decide +kernel
theorem dX0_look_105 : decode cX0_look 105 = .ok (.lreturn, 1) := by decide +kernel
theorem dX0_look_106 : decode cX0_look 106 = .ok (.aload_n 3, 1) := by decide +kernel
theorem dX0_look_107 : decode cX0_look 107 = .ok (.getfield 250, 3) := by decide +kernel
theorem dX0_look_110 : decode cX0_look 110 = .ok (.i2l, 1) := by decide +kernel
theorem dX0_look_111 : decode cX0_look 111 = .ok (.lreturn, 1) := by decide +kernel
theorem dX0_look_112 : decode cX0_look 112 = .ok (.aload_n 3, 1) := by decide +kernel
theorem dX0_look_113 : decode cX0_look 113 = .ok (.getfield 298, 3) := by decide +kernel
theorem dX0_look_116 : decode cX0_look 116 = .ok (.i2l, 1) := by decide +kernel
theorem dX0_look_117 : decode cX0_look 117 = .ok (.ldc2_w 296, 3) := by decide +kernel
theorem dX0_look_120 : decode cX0_look 120 = .ok (.land, 1) := by decide +kernel
theorem dX0_look_121 : decode cX0_look 121 = .ok (.lreturn, 1) := by decide +kernel
theorem dX0_look_122 : decode cX0_look 122 = .ok (.aload_n 3, 1) := by decide +kernel
theorem dX0_look_123 : decode cX0_look 123 = .ok (.getfield 301, 3) := by decide +kernel
theorem dX0_look_126 : decode cX0_look 126 = .ok (.i2l, 1) := by decide +kernel
theorem dX0_look_127 : decode cX0_look 127 = .ok (.ldc2_w 296, 3) := by decide +kernel
theorem dX0_look_130 : decode cX0_look 130 = .ok (.land, 1) := by decide +kernel
theorem dX0_look_131 : decode cX0_look 131 = .ok (.lreturn, 1) := by decide +kernel
theorem dX0_look_132 : decode cX0_look 132 = .ok (.aload_n 3, 1) := by decide +kernel
theorem dX0_look_133 : decode cX0_look 133 = .ok (.getfield 303, 3) := by decide +kernel
theorem dX0_look_136 : decode cX0_look 136 = .ok (.i2l, 1) := by decide +kernel
theorem dX0_look_137 : decode cX0_look 137 = .ok (.ldc2_w 296, 3) := by decide +kernel
theorem dX0_look_140 : decode cX0_look 140 = .ok (.land, 1) := by decide +kernel
theorem dX0_look_141 : decode cX0_look 141 = .ok (.lreturn, 1) := by decide +kernel
theorem dX0_look_142 : decode cX0_look 142 = .ok (.aload_n 3, 1) := by decide +kernel
theorem dX0_look_143 : decode cX0_look 143 = .ok (.invokevirtual 306, 3) := by decide +kernel
theorem dX0_look_146 : decode cX0_look 146 = .ok (.i2l, 1) := by decide +kernel
theorem dX0_look_147 : decode cX0_look 147 = .ok (.ldc2_w 296, 3) := by decide +kernel
theorem dX0_look_150 : decode cX0_look 150 = .ok (.land, 1) := by decide +kernel
theorem dX0_look_151 : decode cX0_look 151 = .ok (.lreturn, 1) := by decide +kernel
theorem dX0_look_152 : decode cX0_look 152 = .ok (.aload_n 3, 1) := by decide +kernel
theorem dX0_look_153 : decode cX0_look 153 = .ok (.getfield 309, 3) := by decide +kernel
theorem dX0_look_156 : decode cX0_look 156 = .ok (.i2l, 1) := by decide +kernel
theorem dX0_look_157 : decode cX0_look 157 = .ok (.lreturn, 1) := by decide +kernel
theorem dX0_look_158 : decode cX0_look 158 = .ok (.aload_n 3, 1) := by decide +kernel
theorem dX0_look_159 : decode cX0_look 159 = .ok (.getfield 312, 3) := by decide +kernel
theorem dX0_look_162 : decode cX0_look 162 = .ok (.i2l, 1) := by decide +kernel
theorem dX0_look_163 : decode cX0_look 163 = .ok (.lreturn, 1) := by decide +kernel
theorem dX0_look_164 : decode cX0_look 164 = .ok (.aload_n 3, 1) := by decide +kernel
theorem dX0_look_165 : decode cX0_look 165 = .ok (.getfield 315, 3) := by decide +kernel
theorem dX0_look_168 : decode cX0_look 168 = .ok (.i2l, 1) := by decide +kernel
theorem dX0_look_169 : decode cX0_look 169 = .ok (.lreturn, 1) := by decide +kernel
theorem dX0_look_170 : decode cX0_look 170 = .ok (.aload_n 3, 1) := by decide +kernel
theorem dX0_look_171 : decode cX0_look 171 = .ok (.getfield 318, 3) := by decide +kernel
theorem dX0_look_174 : decode cX0_look 174 = .ok (.i2l, 1) := by decide +kernel
theorem dX0_look_175 : decode cX0_look 175 = .ok (.lreturn, 1) := by decide +kernel
theorem dX0_look_176 : decode cX0_look 176 = .ok (.aload_n 3, 1) := by decide +kernel
theorem dX0_look_177 : decode cX0_look 177 = .ok (.getfield 321, 3) := by decide +kernel
theorem dX0_look_180 : decode cX0_look 180 = .ok (.i2l, 1) := by decide +kernel
theorem dX0_look_181 : decode cX0_look 181 = .ok (.lreturn, 1) := by decide +kernel
theorem dX0_look_182 : decode cX0_look 182 = .ok (.aload_n 3, 1) := by decide +kernel
theorem dX0_look_183 : decode cX0_look 183 = .ok (.getfield 324, 3) := by decide +kernel
theorem dX0_look_186 : decode cX0_look 186 = .ok (.getfield 328, 3) := by decide +kernel
theorem dX0_look_189 : decode cX0_look 189 = .ok (.i2l, 1) := by decide +kernel
theorem dX0_look_190 : decode cX0_look 190 = .ok (.lreturn, 1) := by decide +kernel
theorem dX0_look_191 : decode cX0_look 191 = .ok (.aload_n 3, 1) := by decide +kernel
theorem dX0_look_192 : decode cX0_look 192 = .ok (.invokevirtual 333, 3) := by decide +kernel
theorem dX0_look_195 : decode cX0_look 195 = .ok (.i2l, 1) := by decide +kernel
theorem dX0_look_196 : decode cX0_look 196 = .ok (.lreturn, 1) := by decide +kernel
theorem dX0_look_197 : decode cX0_look 197 = .ok (.aload_n 3, 1) := by decide +kernel
theorem dX0_look_198 : decode cX0_look 198 = .ok (.getfield 336, 3) := by decide +kernel
theorem dX0_look_201 : decode cX0_look 201 = .ok (.i2l, 1) := by decide +kernel
theorem dX0_look_202 : decode cX0_look 202 = .ok (.lreturn, 1) := by decide +kernel
theorem dX0_look_203 : decode cX0_look 203 = .ok (.aload_n 3, 1) := by decide +kernel
theorem dX0_look_204 : decode cX0_look 204 = .ok (.getfield 339, 3) := by decide +kernel
theorem dX0_look_207 : decode cX0_look 207 = .ok (.i2l, 1) := by decide +kernel
theorem dX0_look_208 : decode cX0_look 208 = .ok (.lreturn, 1) := by decide +kernel
theorem dX0_look_209 : decode cX0_look 209 = .ok (.ldc2_w 294, 3) := by decide +kernel
theorem dX0_look_212 : decode cX0_look 212 = .ok (.lreturn, 1) := by decide +kernel
def rmX0_look : Room := { frames := 2, cells := 0, slots := 0, locals := 41 }
theorem kX0_look : yX0_look.cls = "WebHost" ∧ yX0_look.cls ≠ "java/lang/invoke/MethodHandle" ∧ yX0_look.cls ≠ "java/lang/invoke/VarHandle" ∧ (parseMethodDescriptor yX0_look.desc).map (fun d => d.parameters.length) = some 2 := by decide +kernel
def w0_look (σ : St) (x1 : Int32) (x2 : Int32) (Q : Int64 → Prop) : Prop := w0_state σ x1 (fun r1 => ((1 ≤ r1 → (vp_in x1 16 ∧ ((x2 = 0 → (Q (((σ 11 x1.toNatClampNeg 3).toInt64) &&& 4294967295))) ∧ (¬ x2 = 0 → ((x2 = 1 → (Q ((σ 11 x1.toNatClampNeg 4).toInt64))) ∧ (¬ x2 = 1 → ((x2 = 2 → (Q (((σ 11 x1.toNatClampNeg 9).toInt64) &&& 4294967295))) ∧ (¬ x2 = 2 → ((x2 = 3 → (Q (((σ 11 x1.toNatClampNeg 10).toInt64) &&& 4294967295))) ∧ (¬ x2 = 3 → ((x2 = 4 → (Q (((σ 11 x1.toNatClampNeg 11).toInt64) &&& 4294967295))) ∧ (¬ x2 = 4 → ((x2 = 5 → (w11_next σ x1.toNatClampNeg (fun r3 => (Q (r3.toInt64 &&& 4294967295))))) ∧ (¬ x2 = 5 → ((x2 = 6 → (Q ((σ 11 x1.toNatClampNeg 12).toInt64))) ∧ (¬ x2 = 6 → ((x2 = 7 → (Q ((σ 11 x1.toNatClampNeg 14).toInt64))) ∧ (¬ x2 = 7 → ((x2 = 8 → (Q ((σ 11 x1.toNatClampNeg 15).toInt64))) ∧ (¬ x2 = 8 → ((x2 = 9 → (Q ((σ 11 x1.toNatClampNeg 16).toInt64))) ∧ (¬ x2 = 9 → ((x2 = 10 → (Q ((σ 11 x1.toNatClampNeg 13).toInt64))) ∧ (¬ x2 = 10 → ((x2 = 11 → (Q ((σ 12 x1.toNatClampNeg 2).toInt64))) ∧ (¬ x2 = 11 → ((x2 = 12 → (w11_left σ x1.toNatClampNeg (fun r4 => (Q r4.toInt64)))) ∧ (¬ x2 = 12 → ((x2 = 13 → (Q ((σ 11 x1.toNatClampNeg 17).toInt64))) ∧ (¬ x2 = 13 → ((x2 = 14 → (Q ((σ 11 x1.toNatClampNeg 18).toInt64))) ∧ (¬ x2 = 14 → Q 4294967296)))))))))))))))))))))))))))))))) ∧ (¬ 1 ≤ r1 → Q 4294967296)))
set_option maxHeartbeats 4000000 in
theorem m0_look (l : Launch) (G : Gh) (a1 : Nat → Nat → Nat) (τ : St) (σ : St) (H : Heap) (x1 : Int32) (x2 : Int32) (Q : Int64 → Prop) (hw : w0_look σ x1 x2 Q) : Met l yX0_look (ws_ yX0_look cX0_look 4 (some .long)) rmX0_look (PcP G a1 (cmb σ τ) H [.ref (ga G 0 0), .int x1, .int x2]) (QJp G H Q) 0 0 (gA G) := by
  refine met_p (by decide) (Nat.le_of_ble_eq_true rfl) ?_
  intro p e s m below meth c ls hHe C hH hS hl
  have C : Cx p e s m _ meth c cX0_look 4 (some .long) "WebHost" G := C
  have hl : lv_has ls 4 [(0, .ref (ga G 0 0)), (1, .int x1), (2, .int x2)] := hl
  have hx := C.1
  have hb := C.2.1
  have hown := C.2.2.2.2.2.1
  have hts := C.2.2.2.2.2.2.1
  obtain ⟨locs, hlocs⟩ : ∃ z : List Loc, z = [] := ⟨_, rfl⟩
  rw [← hlocs] at hS ⊢
  refine lv_aload_n hx hb dX0_look_0 rfl (lv_at hl 0 rfl) ?_
  refine lv_iload_n hx hb dX0_look_1 rfl (lv_at hl 1 rfl) ?_
  refine kc_ip (rn_vp (As := [.int x1]) (rest := []) C hH hS (by decide) rfl (by decide) (m0_state l G a1 τ σ H x1 _ hw) (cwV 1 hts (lw_V q1652 q1642 q1643 q157 q1644) rfl rfl rfl kX0_state ⟨Nat.le_of_ble_eq_true rfl, Nat.le_of_ble_eq_true rfl⟩) rfl hl.1 rfl (Nat.le_of_ble_eq_true rfl) dX0_look_2 ⟨Nat.le_of_ble_eq_true rfl, Nat.le_of_ble_eq_true rfl⟩) hS (fun r1 locs hw hS => ?_)
  refine lv_iconst (v := 1) hx hb dX0_look_5 (by decide) ?_
  refine lv_icmp_ge (tgt := 13) hx hb dX0_look_6 (by decide) (fun h => ?_) (fun h => ?_)
  · have hw := hw.1 h
    refine lv_aload_n hx hb dX0_look_13 rfl (lv_at hl 0 rfl) ?_
    refine g0_9 C hH q752 dX0_look_14 ?_
    refine lv_iload_n hx hb dX0_look_17 rfl (lv_at hl 1 rfl) ?_
    have hq2 := vp_lt hw.1
    refine l45 C hH hw.1 dX0_look_18 ?_
    have hw := hw.2
    refine lv_astore_n (lv' := [(3, .ref (ga G 11 x1.toNatClampNeg)), (0, .ref (ga G 0 0)), (1, .int x1), (2, .int x2)]) hx hb dX0_look_19 rfl hl (by decide) rfl (fun ls hl => ?_)
    refine lv_iload_n hx hb dX0_look_20 rfl (lv_at hl 3 rfl) ?_
    by_cases hs0 : x2 = 0
    · have hw := hw.1 hs0
      refine lv_tableIn (off := 75) (tgt := 96) hx hb dX0_look_21 (by rw [hs0]; decide) (by rw [hs0]; decide) (by rw [hs0]; decide) (by decide) ?_
      refine lv_aload_n hx hb dX0_look_96 rfl (lv_at hl 0 rfl) ?_
      refine g11_3 C hH hq2 q613 dX0_look_97 ?_
      refine lv_i2l (v := (σ 11 x1.toNatClampNeg 3).toInt64) hx hb dX0_look_100 rfl ?_
      refine lv_ldc2 (v := 4294967295) hx hb hown (hts _ q1654) dX0_look_101 ?_
      refine lv_land hx hb dX0_look_104 ?_
      exact rt_jp C hS hw dX0_look_105
    have hw := hw.2 hs0
    by_cases hs1 : x2 = 1
    · have hw := hw.1 hs1
      refine lv_tableIn (off := 85) (tgt := 106) hx hb dX0_look_21 (by rw [hs1]; decide) (by rw [hs1]; decide) (by rw [hs1]; decide) (by decide) ?_
      refine lv_aload_n hx hb dX0_look_106 rfl (lv_at hl 0 rfl) ?_
      refine g11_4 C hH hq2 q615 dX0_look_107 ?_
      refine lv_i2l (v := (σ 11 x1.toNatClampNeg 4).toInt64) hx hb dX0_look_110 rfl ?_
      exact rt_jp C hS hw dX0_look_111
    have hw := hw.2 hs1
    by_cases hs2 : x2 = 2
    · have hw := hw.1 hs2
      refine lv_tableIn (off := 91) (tgt := 112) hx hb dX0_look_21 (by rw [hs2]; decide) (by rw [hs2]; decide) (by rw [hs2]; decide) (by decide) ?_
      refine lv_aload_n hx hb dX0_look_112 rfl (lv_at hl 0 rfl) ?_
      refine g11_9 C hH hq2 q621 dX0_look_113 ?_
      refine lv_i2l (v := (σ 11 x1.toNatClampNeg 9).toInt64) hx hb dX0_look_116 rfl ?_
      refine lv_ldc2 (v := 4294967295) hx hb hown (hts _ q1654) dX0_look_117 ?_
      refine lv_land hx hb dX0_look_120 ?_
      exact rt_jp C hS hw dX0_look_121
    have hw := hw.2 hs2
    by_cases hs3 : x2 = 3
    · have hw := hw.1 hs3
      refine lv_tableIn (off := 101) (tgt := 122) hx hb dX0_look_21 (by rw [hs3]; decide) (by rw [hs3]; decide) (by rw [hs3]; decide) (by decide) ?_
      refine lv_aload_n hx hb dX0_look_122 rfl (lv_at hl 0 rfl) ?_
      refine g11_10 C hH hq2 q623 dX0_look_123 ?_
      refine lv_i2l (v := (σ 11 x1.toNatClampNeg 10).toInt64) hx hb dX0_look_126 rfl ?_
      refine lv_ldc2 (v := 4294967295) hx hb hown (hts _ q1654) dX0_look_127 ?_
      refine lv_land hx hb dX0_look_130 ?_
      exact rt_jp C hS hw dX0_look_131
    have hw := hw.2 hs3
    by_cases hs4 : x2 = 4
    · have hw := hw.1 hs4
      refine lv_tableIn (off := 111) (tgt := 132) hx hb dX0_look_21 (by rw [hs4]; decide) (by rw [hs4]; decide) (by rw [hs4]; decide) (by decide) ?_
      refine lv_aload_n hx hb dX0_look_132 rfl (lv_at hl 0 rfl) ?_
      refine g11_11 C hH hq2 q625 dX0_look_133 ?_
      refine lv_i2l (v := (σ 11 x1.toNatClampNeg 11).toInt64) hx hb dX0_look_136 rfl ?_
      refine lv_ldc2 (v := 4294967295) hx hb hown (hts _ q1654) dX0_look_137 ?_
      refine lv_land hx hb dX0_look_140 ?_
      exact rt_jp C hS hw dX0_look_141
    have hw := hw.2 hs4
    by_cases hs5 : x2 = 5
    · have hw := hw.1 hs5
      refine lv_tableIn (off := 121) (tgt := 142) hx hb dX0_look_21 (by rw [hs5]; decide) (by rw [hs5]; decide) (by rw [hs5]; decide) (by decide) ?_
      refine lv_aload_n hx hb dX0_look_142 rfl (lv_at hl 0 rfl) ?_
      refine kc_ip (rn_vp (As := []) (rest := []) C hH hS (by decide) rfl hq2 (m11_next l G a1 τ σ H x1.toNatClampNeg hq2 _ hw) (cwV 0 hts (lw_V q1655 q1656 q1657 q168 q1658) rfl rfl rfl kX11_next ⟨Nat.le_of_ble_eq_true rfl, Nat.le_of_ble_eq_true rfl⟩) rfl hl.1 rfl (Nat.le_of_ble_eq_true rfl) dX0_look_143 ⟨Nat.le_of_ble_eq_true rfl, Nat.le_of_ble_eq_true rfl⟩) hS (fun r3 locs hw hS => ?_)
      refine lv_i2l (v := r3.toInt64) hx hb dX0_look_146 rfl ?_
      refine lv_ldc2 (v := 4294967295) hx hb hown (hts _ q1654) dX0_look_147 ?_
      refine lv_land hx hb dX0_look_150 ?_
      exact rt_jp C hS hw dX0_look_151
    have hw := hw.2 hs5
    by_cases hs6 : x2 = 6
    · have hw := hw.1 hs6
      refine lv_tableIn (off := 131) (tgt := 152) hx hb dX0_look_21 (by rw [hs6]; decide) (by rw [hs6]; decide) (by rw [hs6]; decide) (by decide) ?_
      refine lv_aload_n hx hb dX0_look_152 rfl (lv_at hl 0 rfl) ?_
      refine g11_12 C hH hq2 q627 dX0_look_153 ?_
      refine lv_i2l (v := (σ 11 x1.toNatClampNeg 12).toInt64) hx hb dX0_look_156 rfl ?_
      exact rt_jp C hS hw dX0_look_157
    have hw := hw.2 hs6
    by_cases hs7 : x2 = 7
    · have hw := hw.1 hs7
      refine lv_tableIn (off := 137) (tgt := 158) hx hb dX0_look_21 (by rw [hs7]; decide) (by rw [hs7]; decide) (by rw [hs7]; decide) (by decide) ?_
      refine lv_aload_n hx hb dX0_look_158 rfl (lv_at hl 0 rfl) ?_
      refine g11_14 C hH hq2 q631 dX0_look_159 ?_
      refine lv_i2l (v := (σ 11 x1.toNatClampNeg 14).toInt64) hx hb dX0_look_162 rfl ?_
      exact rt_jp C hS hw dX0_look_163
    have hw := hw.2 hs7
    by_cases hs8 : x2 = 8
    · have hw := hw.1 hs8
      refine lv_tableIn (off := 143) (tgt := 164) hx hb dX0_look_21 (by rw [hs8]; decide) (by rw [hs8]; decide) (by rw [hs8]; decide) (by decide) ?_
      refine lv_aload_n hx hb dX0_look_164 rfl (lv_at hl 0 rfl) ?_
      refine g11_15 C hH hq2 q633 dX0_look_165 ?_
      refine lv_i2l (v := (σ 11 x1.toNatClampNeg 15).toInt64) hx hb dX0_look_168 rfl ?_
      exact rt_jp C hS hw dX0_look_169
    have hw := hw.2 hs8
    by_cases hs9 : x2 = 9
    · have hw := hw.1 hs9
      refine lv_tableIn (off := 149) (tgt := 170) hx hb dX0_look_21 (by rw [hs9]; decide) (by rw [hs9]; decide) (by rw [hs9]; decide) (by decide) ?_
      refine lv_aload_n hx hb dX0_look_170 rfl (lv_at hl 0 rfl) ?_
      refine g11_16 C hH hq2 q635 dX0_look_171 ?_
      refine lv_i2l (v := (σ 11 x1.toNatClampNeg 16).toInt64) hx hb dX0_look_174 rfl ?_
      exact rt_jp C hS hw dX0_look_175
    have hw := hw.2 hs9
    by_cases hs10 : x2 = 10
    · have hw := hw.1 hs10
      refine lv_tableIn (off := 155) (tgt := 176) hx hb dX0_look_21 (by rw [hs10]; decide) (by rw [hs10]; decide) (by rw [hs10]; decide) (by decide) ?_
      refine lv_aload_n hx hb dX0_look_176 rfl (lv_at hl 0 rfl) ?_
      refine g11_13 C hH hq2 q629 dX0_look_177 ?_
      refine lv_i2l (v := (σ 11 x1.toNatClampNeg 13).toInt64) hx hb dX0_look_180 rfl ?_
      exact rt_jp C hS hw dX0_look_181
    have hw := hw.2 hs10
    by_cases hs11 : x2 = 11
    · have hw := hw.1 hs11
      refine lv_tableIn (off := 161) (tgt := 182) hx hb dX0_look_21 (by rw [hs11]; decide) (by rw [hs11]; decide) (by rw [hs11]; decide) (by decide) ?_
      refine lv_aload_n hx hb dX0_look_182 rfl (lv_at hl 0 rfl) ?_
      refine g11_20 C hH hq2 q642 dX0_look_183 ?_
      refine g12_2 C hH hq2 q581 dX0_look_186 ?_
      refine lv_i2l (v := (σ 12 x1.toNatClampNeg 2).toInt64) hx hb dX0_look_189 rfl ?_
      exact rt_jp C hS hw dX0_look_190
    have hw := hw.2 hs11
    by_cases hs12 : x2 = 12
    · have hw := hw.1 hs12
      refine lv_tableIn (off := 170) (tgt := 191) hx hb dX0_look_21 (by rw [hs12]; decide) (by rw [hs12]; decide) (by rw [hs12]; decide) (by decide) ?_
      refine lv_aload_n hx hb dX0_look_191 rfl (lv_at hl 0 rfl) ?_
      refine kc_ip (rn_vp (As := []) (rest := []) C hH hS (by decide) rfl hq2 (m11_left l G a1 τ σ H x1.toNatClampNeg hq2 _ hw) (cwV 0 hts (lw_V q1659 q1035 q1036 q168 q1037) rfl rfl rfl kX11_left ⟨Nat.le_of_ble_eq_true rfl, Nat.le_of_ble_eq_true rfl⟩) rfl hl.1 rfl (Nat.le_of_ble_eq_true rfl) dX0_look_192 ⟨Nat.le_of_ble_eq_true rfl, Nat.le_of_ble_eq_true rfl⟩) hS (fun r4 locs hw hS => ?_)
      refine lv_i2l (v := r4.toInt64) hx hb dX0_look_195 rfl ?_
      exact rt_jp C hS hw dX0_look_196
    have hw := hw.2 hs12
    by_cases hs13 : x2 = 13
    · have hw := hw.1 hs13
      refine lv_tableIn (off := 176) (tgt := 197) hx hb dX0_look_21 (by rw [hs13]; decide) (by rw [hs13]; decide) (by rw [hs13]; decide) (by decide) ?_
      refine lv_aload_n hx hb dX0_look_197 rfl (lv_at hl 0 rfl) ?_
      refine g11_17 C hH hq2 q637 dX0_look_198 ?_
      refine lv_i2l (v := (σ 11 x1.toNatClampNeg 17).toInt64) hx hb dX0_look_201 rfl ?_
      exact rt_jp C hS hw dX0_look_202
    have hw := hw.2 hs13
    by_cases hs14 : x2 = 14
    · have hw := hw.1 hs14
      refine lv_tableIn (off := 182) (tgt := 203) hx hb dX0_look_21 (by rw [hs14]; decide) (by rw [hs14]; decide) (by rw [hs14]; decide) (by decide) ?_
      refine lv_aload_n hx hb dX0_look_203 rfl (lv_at hl 0 rfl) ?_
      refine g11_18 C hH hq2 q639 dX0_look_204 ?_
      refine lv_i2l (v := (σ 11 x1.toNatClampNeg 18).toInt64) hx hb dX0_look_207 rfl ?_
      exact rt_jp C hS hw dX0_look_208
    have hw := hw.2 hs14
    refine lv_tableOut (tgt := 209) hx hb dX0_look_21 (sw_out15 hs0 hs1 hs2 hs3 hs4 hs5 hs6 hs7 hs8 hs9 hs10 hs11 hs12 hs13 hs14) (by decide) ?_
    refine lv_ldc2 (v := 4294967296) hx hb hown (hts _ q1653) dX0_look_209 ?_
    exact rt_jp C hS hw dX0_look_212
  have hw := hw.2 h
  refine lv_ldc2 (v := 4294967296) hx hb hown (hts _ q1653) dX0_look_9 ?_
  exact rt_jp C hS hw dX0_look_12
/-! WebHost.time(I)I -/
abbrev cX0_time : ByteArray := prog_1_method_23_code
def yX0_time : MethodName := ⟨RX0, "time", "(I)I"⟩
theorem dX0_time_0 : decode cX0_time 0 = .ok (.aload_n 0, 1) := by decide +kernel
theorem dX0_time_1 : decode cX0_time 1 = .ok (.iload_n 1, 1) := by decide +kernel
theorem dX0_time_2 : decode cX0_time 2 = .ok (.invokevirtual 279, 3) := by decide +kernel
theorem dX0_time_5 : decode cX0_time 5 = .ok (.ifCond .eq 14, 3) := by decide +kernel
theorem dX0_time_8 : decode cX0_time 8 = .ok (.aload_n 0, 1) := by decide +kernel
theorem dX0_time_9 : decode cX0_time 9 = .ok (.getfield 24, 3) := by decide +kernel
theorem dX0_time_12 : decode cX0_time 12 = .ok (.iload_n 1, 1) := by decide +kernel
theorem dX0_time_13 : decode cX0_time 13 = .ok (.invokevirtual 286, 3) := by decide +kernel
theorem dX0_time_16 : decode cX0_time 16 = .ok (.goto 4, 3) := by decide +kernel
theorem dX0_time_19 : decode cX0_time 19 = .ok (.iconst (-1), 1) := by decide +kernel
theorem dX0_time_20 : decode cX0_time 20 = .ok (.ireturn, 1) := by decide +kernel
def rmX0_time : Room := { frames := 2, cells := 0, slots := 0, locals := 42 }
theorem kX0_time : yX0_time.cls = "WebHost" ∧ yX0_time.cls ≠ "java/lang/invoke/MethodHandle" ∧ yX0_time.cls ≠ "java/lang/invoke/VarHandle" ∧ (parseMethodDescriptor yX0_time.desc).map (fun d => d.parameters.length) = some 1 := by decide +kernel
def w0_time (σ : St) (x1 : Int32) (Q : Int32 → Prop) : Prop := w0_isKept σ x1 (fun r1 => ((r1 = 0 → (Q (-1))) ∧ (¬ r1 = 0 → (w2_time σ x1 (fun r2 => (Q r2))))))
set_option maxHeartbeats 4000000 in
theorem m0_time (l : Launch) (G : Gh) (a1 : Nat → Nat → Nat) (τ : St) (σ : St) (H : Heap) (x1 : Int32) (Q : Int32 → Prop) (hw : w0_time σ x1 Q) : Met l yX0_time (ws_ yX0_time cX0_time 2 (some .int)) rmX0_time (PcP G a1 (cmb σ τ) H [.ref (ga G 0 0), .int x1]) (QIp G H Q) 0 0 (gA G) := by
  refine met_p (by decide) (Nat.le_of_ble_eq_true rfl) ?_
  intro p e s m below meth c ls hHe C hH hS hl
  have C : Cx p e s m _ meth c cX0_time 2 (some .int) "WebHost" G := C
  have hl : lv_has ls 2 [(0, .ref (ga G 0 0)), (1, .int x1)] := hl
  have hx := C.1
  have hb := C.2.1
  have hown := C.2.2.2.2.2.1
  have hts := C.2.2.2.2.2.2.1
  obtain ⟨locs, hlocs⟩ : ∃ z : List Loc, z = [] := ⟨_, rfl⟩
  rw [← hlocs] at hS ⊢
  refine lv_aload_n hx hb dX0_time_0 rfl (lv_at hl 0 rfl) ?_
  refine lv_iload_n hx hb dX0_time_1 rfl (lv_at hl 1 rfl) ?_
  refine kc_ip (rn_vp (As := [.int x1]) (rest := []) C hH hS (by decide) rfl (by decide) (m0_isKept l G a1 τ σ H x1 _ hw) (cwV 1 hts (lw_V q1608 q1610 qs73 q157 q1611) rfl rfl rfl kX0_isKept ⟨Nat.le_of_ble_eq_true rfl, Nat.le_of_ble_eq_true rfl⟩) rfl hl.1 rfl (Nat.le_of_ble_eq_true rfl) dX0_time_2 ⟨Nat.le_of_ble_eq_true rfl, Nat.le_of_ble_eq_true rfl⟩) hS (fun r1 locs hw hS => ?_)
  refine lv_if_eq (tgt := 19) hx hb dX0_time_5 (by decide) (fun h => ?_) (fun h => ?_)
  · have hw := hw.1 h
    refine lv_iconst (v := (-1)) hx hb dX0_time_19 (by decide) ?_
    exact rt_ip C rfl hS hw dX0_time_20
  have hw := hw.2 h
  refine lv_aload_n hx hb dX0_time_8 rfl (lv_at hl 0 rfl) ?_
  refine g0_3 C hH q746 dX0_time_9 ?_
  refine lv_iload_n hx hb dX0_time_12 rfl (lv_at hl 1 rfl) ?_
  refine kc_ip (rn_vp (As := [.int x1]) (rest := []) C hH hS (by decide) rfl (by decide) (m2_time l G a1 τ σ H x1 _ hw) (cwV 1 hts (lw_V q1637 q1638 q1639 q159 q1640) rfl rfl rfl kX2_time ⟨Nat.le_of_ble_eq_true rfl, Nat.le_of_ble_eq_true rfl⟩) rfl hl.1 rfl (Nat.le_of_ble_eq_true rfl) dX0_time_13 ⟨Nat.le_of_ble_eq_true rfl, Nat.le_of_ble_eq_true rfl⟩) hS (fun r2 locs hw hS => ?_)
  refine lv_goto (tgt := 20) hx hb dX0_time_16 (by decide) ?_
  exact rt_ip C rfl hS hw dX0_time_20
/-! WebHost$Store.isNamed(I[BII)Z -/
abbrev cX1_isNamed : ByteArray := prog_13_method_11_code
def yX1_isNamed : MethodName := ⟨RX1, "isNamed", "(I[BII)Z"⟩
theorem dX1_isNamed_0 : decode cX1_isNamed 0 = .ok (.aload_n 0, 1) := by decide +kernel
theorem dX1_isNamed_1 : decode cX1_isNamed 1 = .ok (.iload_n 1, 1) := by decide +kernel
theorem dX1_isNamed_2 : decode cX1_isNamed 2 = .ok (.invokevirtual 53, 3) := by decide +kernel
theorem dX1_isNamed_5 : decode cX1_isNamed 5 = .ok (.iload 4, 2) := by decide +kernel
theorem dX1_isNamed_7 : decode cX1_isNamed 7 = .ok (.if_icmp .eq 5, 3) := by decide +kernel
theorem dX1_isNamed_10 : decode cX1_isNamed 10 = .ok (.iconst 0, 1) := by decide +kernel
theorem dX1_isNamed_11 : decode cX1_isNamed 11 = .ok (.ireturn, 1) := by decide +kernel
theorem dX1_isNamed_12 : decode cX1_isNamed 12 = .ok (.iconst 0, 1) := by decide +kernel
theorem dX1_isNamed_13 : decode cX1_isNamed 13 = .ok (.istore 5, 2) := by decide +kernel
theorem dX1_isNamed_15 : decode cX1_isNamed 15 = .ok (.iload 5, 2) := by decide +kernel
theorem dX1_isNamed_17 : decode cX1_isNamed 17 = .ok (.iload 4, 2) := by decide +kernel
theorem dX1_isNamed_19 : decode cX1_isNamed 19 = .ok (.if_icmp .ge 33, 3) := by decide +kernel
theorem dX1_isNamed_22 : decode cX1_isNamed 22 = .ok (.aload_n 0, 1) := by decide +kernel
theorem dX1_isNamed_23 : decode cX1_isNamed 23 = .ok (.getfield 16, 3) := by decide +kernel
theorem dX1_isNamed_26 : decode cX1_isNamed 26 = .ok (.aload_n 0, 1) := by decide +kernel
theorem dX1_isNamed_27 : decode cX1_isNamed 27 = .ok (.iload_n 1, 1) := by decide +kernel
theorem dX1_isNamed_28 : decode cX1_isNamed 28 = .ok (.invokevirtual 20, 3) := by decide +kernel
theorem dX1_isNamed_31 : decode cX1_isNamed 31 = .ok (.iload 5, 2) := by decide +kernel
theorem dX1_isNamed_33 : decode cX1_isNamed 33 = .ok (.iadd, 1) := by decide +kernel
theorem dX1_isNamed_34 : decode cX1_isNamed 34 = .ok (.baload, 1) := by decide +kernel
theorem dX1_isNamed_35 : decode cX1_isNamed 35 = .ok (.aload_n 2, 1) := by decide +kernel
theorem dX1_isNamed_36 : decode cX1_isNamed 36 = .ok (.iload_n 3, 1) := by decide +kernel
theorem dX1_isNamed_37 : decode cX1_isNamed 37 = .ok (.iload 5, 2) := by decide +kernel
theorem dX1_isNamed_39 : decode cX1_isNamed 39 = .ok (.iadd, 1) := by decide +kernel
theorem dX1_isNamed_40 : decode cX1_isNamed 40 = .ok (.baload, 1) := by decide +kernel
theorem dX1_isNamed_41 : decode cX1_isNamed 41 = .ok (.if_icmp .eq 5, 3) := by decide +kernel
theorem dX1_isNamed_44 : decode cX1_isNamed 44 = .ok (.iconst 0, 1) := by decide +kernel
theorem dX1_isNamed_45 : decode cX1_isNamed 45 = .ok (.ireturn, 1) := by decide +kernel
theorem dX1_isNamed_46 : decode cX1_isNamed 46 = .ok (.iinc 5 1, 3) := by decide +kernel
theorem dX1_isNamed_49 : decode cX1_isNamed 49 = .ok (.goto (-34), 3) := by decide +kernel
theorem dX1_isNamed_52 : decode cX1_isNamed 52 = .ok (.iconst 1, 1) := by decide +kernel
theorem dX1_isNamed_53 : decode cX1_isNamed 53 = .ok (.ireturn, 1) := by decide +kernel
def rmX1_isNamed : Room := { frames := 2, cells := 0, slots := 0, locals := 43 }
theorem kX1_isNamed : yX1_isNamed.cls = "WebHost$Store" ∧ yX1_isNamed.cls ≠ "java/lang/invoke/MethodHandle" ∧ yX1_isNamed.cls ≠ "java/lang/invoke/VarHandle" ∧ (parseMethodDescriptor yX1_isNamed.desc).map (fun d => d.parameters.length) = some 4 := by decide +kernel
def w1_isNamed_L15 (σ : St) (x1 : Int32) (k2 : Nat) (i2 : Nat) (x3 : Int32) (x4 : Int32) (Q : Int32 → Prop) (K44 : Prop) (K52 : Prop) : Nat → Int32 → Prop
  | 0, _ => False
  | n + 1, x5 => (x4 ≤ x5 → K52) ∧ (¬ x4 ≤ x5 → (abc (σ 1 0 3).toNatClampNeg (σ 1 0 103).toNatClampNeg = true ∧ (w1_entry σ x1 (fun r3 => (vp_in (r3 + x5) (alen σ ((σ 1 0 3).toNatClampNeg) ((σ 1 0 103).toNatClampNeg)) ∧ (by8 (σ ((σ 1 0 3).toNatClampNeg) ((σ 1 0 103).toNatClampNeg) (r3 + x5).toNatClampNeg) → (vp_in (x3 + x5) (alen σ k2 i2) ∧ (by8 (σ k2 i2 (x3 + x5).toNatClampNeg) → (((σ ((σ 1 0 3).toNatClampNeg) ((σ 1 0 103).toNatClampNeg) (r3 + x5).toNatClampNeg) = (σ k2 i2 (x3 + x5).toNatClampNeg) → (w1_isNamed_L15 σ x1 k2 i2 x3 x4 Q K44 K52 n (x5 + 1))) ∧ (¬ (σ ((σ 1 0 3).toNatClampNeg) ((σ 1 0 103).toNatClampNeg) (r3 + x5).toNatClampNeg) = (σ k2 i2 (x3 + x5).toNatClampNeg) → K44))))))))))
set_option maxHeartbeats 4000000 in
theorem k1_isNamed_L15 {p : Program} {l : Launch} {e : Env} {s : State} {m : MethodId} {args : Array Value} {below : List Frame} {meth : Method} {c : Code} {G : Gh} {a1 : Nat → Nat → Nat} {τ : St} {H : Heap} {Q : Int32 → Prop} {K44 : Prop} {K52 : Prop} (C : Cx p e s m args meth c cX1_isNamed 6 (some .boolean) "WebHost$Store" G) (σ : St) (x1 : Int32) (k2 : Nat) (i2 : Nat) (x3 : Int32) (x4 : Int32) (hk2 : abc k2 i2 = true) (hH : Hd G a1 (cmb σ τ) H) :
    ∀ (n : Nat) (x5 : Int32), w1_isNamed_L15 σ x1 k2 i2 x3 x4 Q K44 K52 n x5 → ∀ (locs : List Loc) (ls : Array Slot), va_S (gA G) s.heap H locs → lv_has ls 6 [(0, .ref (ga G 1 0)), (1, .int x1), (2, .ref (adr G a1 k2 i2)), (3, .int x3), (4, .int x4), (5, .int x5)] → (K44 → ∀ (locs : List Loc) (ls : Array Slot), va_S (gA G) s.heap H locs → lv_has ls 6 [] → W p l e rmX1_isNamed s m args below meth c H locs 0 0 (MQ below (QIp G H Q) args s 0 0 (gA G)) (F0 m 44 ls [])) → (K52 → ∀ (locs : List Loc) (ls : Array Slot), va_S (gA G) s.heap H locs → lv_has ls 6 [] → W p l e rmX1_isNamed s m args below meth c H locs 0 0 (MQ below (QIp G H Q) args s 0 0 (gA G)) (F0 m 52 ls [])) → W p l e rmX1_isNamed s m args below meth c H locs 0 0 (MQ below (QIp G H Q) args s 0 0 (gA G)) (F0 m 15 ls []) := by
  have hx := C.1
  have hb := C.2.1
  have hown := C.2.2.2.2.2.1
  have hts := C.2.2.2.2.2.2.1
  intro n
  induction n with
  | zero =>
    intro x5 hw
    exact False.elim hw
  | succ n ih =>
    intro x5 hw locs ls hS hl hK44 hK52
    refine lv_iload hx hb dX1_isNamed_15 (lv_at hl 5 rfl) ?_
    refine lv_iload hx hb dX1_isNamed_17 (lv_at hl 4 rfl) ?_
    refine lv_icmp_ge (tgt := 52) hx hb dX1_isNamed_19 (by decide) (fun h => ?_) (fun h => ?_)
    · have hw := hw.1 h
      exact hK52 hw locs ls hS (lv_sub hl [] rfl)
    have hw := hw.2 h
    refine lv_aload_n hx hb dX1_isNamed_22 rfl (lv_at hl 0 rfl) ?_
    obtain ⟨hq2, hw⟩ := hw
    refine g1_3 C hH hq2 q203 dX1_isNamed_23 ?_
    refine lv_aload_n hx hb dX1_isNamed_26 rfl (lv_at hl 0 rfl) ?_
    refine lv_iload_n hx hb dX1_isNamed_27 rfl (lv_at hl 1 rfl) ?_
    refine kc_ip (rn_vp (As := [.int x1]) (rest := [.ref (adr G a1 ((σ 1 0 3).toNatClampNeg) ((σ 1 0 103).toNatClampNeg))]) C hH hS (by decide) rfl (by decide) (m1_entry l G a1 τ σ H x1 _ hw) (cwV 1 hts (lw_V q827 q829 qs0 q158 q830) rfl rfl rfl kX1_entry ⟨Nat.le_of_ble_eq_true rfl, Nat.le_of_ble_eq_true rfl⟩) rfl hl.1 rfl (Nat.le_of_ble_eq_true rfl) dX1_isNamed_28 ⟨Nat.le_of_ble_eq_true rfl, Nat.le_of_ble_eq_true rfl⟩) hS (fun r3 locs hw hS => ?_)
    refine lv_iload hx hb dX1_isNamed_31 (lv_at hl 5 rfl) ?_
    refine lv_iadd hx hb dX1_isNamed_33 ?_
    refine lb_c C hH hq2 rfl hw.1 dX1_isNamed_34 (fun hz => ?_)
    have hw := hw.2 hz
    refine lv_aload_n hx hb dX1_isNamed_35 rfl (lv_at hl 2 rfl) ?_
    refine lv_iload_n hx hb dX1_isNamed_36 rfl (lv_at hl 3 rfl) ?_
    refine lv_iload hx hb dX1_isNamed_37 (lv_at hl 5 rfl) ?_
    refine lv_iadd hx hb dX1_isNamed_39 ?_
    refine lb_c C hH hk2 rfl hw.1 dX1_isNamed_40 (fun hz => ?_)
    have hw := hw.2 hz
    refine lv_icmp_eq (tgt := 46) hx hb dX1_isNamed_41 (by decide) (fun h => ?_) (fun h => ?_)
    · have hw := hw.1 h
      refine lv_iinc (v := x5 + 1) (lv' := [(5, .int (x5 + 1)), (0, .ref (ga G 1 0)), (1, .int x1), (2, .ref (adr G a1 k2 i2)), (3, .int x3), (4, .int x4)]) hx hb dX1_isNamed_46 hl (k := 5) rfl rfl (by decide) rfl (fun ls hl => ?_)
      refine lv_goto (tgt := 15) hx hb dX1_isNamed_49 (by decide) ?_
      exact ih (x5 + 1) hw locs ls hS (lv_sub hl [1, 2, 3, 4, 5, 0] rfl) hK44 hK52
    have hw := hw.2 h
    exact hK44 hw locs ls hS (lv_sub hl [] rfl)
def w1_isNamed (σ : St) (x1 : Int32) (k2 : Nat) (i2 : Nat) (x3 : Int32) (x4 : Int32) (Q : Int32 → Prop) : Prop := w1_nameLength σ x1 (fun r1 => ((r1 = x4 → (∃ z4, w1_isNamed_L15 σ x1 k2 i2 x3 x4 Q (Q 0) (Q 1) z4 0)) ∧ (¬ r1 = x4 → Q 0)))
set_option maxHeartbeats 4000000 in
theorem m1_isNamed (l : Launch) (G : Gh) (a1 : Nat → Nat → Nat) (τ : St) (σ : St) (H : Heap) (x1 : Int32) (k2 : Nat) (i2 : Nat) (x3 : Int32) (x4 : Int32) (hk2 : abc k2 i2 = true) (Q : Int32 → Prop) (hw : w1_isNamed σ x1 k2 i2 x3 x4 Q) : Met l yX1_isNamed (ws_ yX1_isNamed cX1_isNamed 6 (some .boolean)) rmX1_isNamed (PcP G a1 (cmb σ τ) H [.ref (ga G 1 0), .int x1, .ref (adr G a1 k2 i2), .int x3, .int x4]) (QIp G H Q) 0 0 (gA G) := by
  refine met_p (by decide) (Nat.le_of_ble_eq_true rfl) ?_
  intro p e s m below meth c ls hHe C hH hS hl
  have C : Cx p e s m _ meth c cX1_isNamed 6 (some .boolean) "WebHost$Store" G := C
  have hl : lv_has ls 6 [(0, .ref (ga G 1 0)), (1, .int x1), (2, .ref (adr G a1 k2 i2)), (3, .int x3), (4, .int x4)] := hl
  have hx := C.1
  have hb := C.2.1
  have hown := C.2.2.2.2.2.1
  have hts := C.2.2.2.2.2.2.1
  obtain ⟨locs, hlocs⟩ : ∃ z : List Loc, z = [] := ⟨_, rfl⟩
  rw [← hlocs] at hS ⊢
  refine lv_aload_n hx hb dX1_isNamed_0 rfl (lv_at hl 0 rfl) ?_
  refine lv_iload_n hx hb dX1_isNamed_1 rfl (lv_at hl 1 rfl) ?_
  refine kc_ip (rn_vp (As := [.int x1]) (rest := []) C hH hS (by decide) rfl (by decide) (m1_nameLength l G a1 τ σ H x1 _ hw) (cwV 1 hts (lw_V q840 q842 qs2 q158 q843) rfl rfl rfl kX1_nameLength ⟨Nat.le_of_ble_eq_true rfl, Nat.le_of_ble_eq_true rfl⟩) rfl hl.1 rfl (Nat.le_of_ble_eq_true rfl) dX1_isNamed_2 ⟨Nat.le_of_ble_eq_true rfl, Nat.le_of_ble_eq_true rfl⟩) hS (fun r1 locs hw hS => ?_)
  refine lv_iload hx hb dX1_isNamed_5 (lv_at hl 4 rfl) ?_
  refine lv_icmp_eq (tgt := 12) hx hb dX1_isNamed_7 (by decide) (fun h => ?_) (fun h => ?_)
  · have hw := hw.1 h
    refine lv_iconst (v := 0) hx hb dX1_isNamed_12 (by decide) ?_
    refine lv_istore (lv' := [(5, .int 0), (0, .ref (ga G 1 0)), (1, .int x1), (2, .ref (adr G a1 k2 i2)), (3, .int x3), (4, .int x4)]) hx hb dX1_isNamed_13 hl (by decide) rfl (fun ls hl => ?_)
    obtain ⟨n4, hw⟩ := hw
    refine k1_isNamed_L15 C σ x1 k2 i2 x3 x4 hk2 hH n4 0 hw locs ls hS (lv_sub hl [1, 2, 3, 4, 5, 0] rfl) (fun hw locs ls hS hl => ?_) (fun hw locs ls hS hl => ?_)
    · refine lv_iconst (v := 0) hx hb dX1_isNamed_44 (by decide) ?_
      exact rt_ip C rfl hS hw dX1_isNamed_45
    refine lv_iconst (v := 1) hx hb dX1_isNamed_52 (by decide) ?_
    exact rt_ip C rfl hS hw dX1_isNamed_53
  have hw := hw.2 h
  refine lv_iconst (v := 0) hx hb dX1_isNamed_10 (by decide) ?_
  exact rt_ip C rfl hS hw dX1_isNamed_11
/-! WebHost$Store.length(I)I -/
abbrev cX1_length : ByteArray := prog_13_method_7_code
def yX1_length : MethodName := ⟨RX1, "length", "(I)I"⟩
theorem dX1_length_0 : decode cX1_length 0 = .ok (.aload_n 0, 1) := by decide +kernel
theorem dX1_length_1 : decode cX1_length 1 = .ok (.getfield 16, 3) := by decide +kernel
theorem dX1_length_4 : decode cX1_length 4 = .ok (.aload_n 0, 1) := by decide +kernel
theorem dX1_length_5 : decode cX1_length 5 = .ok (.iload_n 1, 1) := by decide +kernel
theorem dX1_length_6 : decode cX1_length 6 = .ok (.invokevirtual 20, 3) := by decide +kernel
theorem dX1_length_9 : decode cX1_length 9 = .ok (.bipush 48, 2) := by decide +kernel
theorem dX1_length_11 : decode cX1_length 11 = .ok (.iadd, 1) := by decide +kernel
theorem dX1_length_12 : decode cX1_length 12 = .ok (.iconst 4, 1) := by decide +kernel
theorem dX1_length_13 : decode cX1_length 13 = .ok (.iadd, 1) := by decide +kernel
theorem dX1_length_14 : decode cX1_length 14 = .ok (.invokestatic 27, 3) := by decide +kernel
theorem dX1_length_17 : decode cX1_length 17 = .ok (.ireturn, 1) := by decide +kernel
def rmX1_length : Room := { frames := 2, cells := 0, slots := 0, locals := 42 }
theorem kX1_length : yX1_length.cls = "WebHost$Store" ∧ yX1_length.cls ≠ "java/lang/invoke/MethodHandle" ∧ yX1_length.cls ≠ "java/lang/invoke/VarHandle" ∧ (parseMethodDescriptor yX1_length.desc).map (fun d => d.parameters.length) = some 1 := by decide +kernel
def w1_length (σ : St) (x1 : Int32) (Q : Int32 → Prop) : Prop := abc (σ 1 0 3).toNatClampNeg (σ 1 0 103).toNatClampNeg = true ∧ (w1_entry σ x1 (fun r2 => (w19_four σ ((σ 1 0 3).toNatClampNeg) ((σ 1 0 103).toNatClampNeg) ((r2 + 48) + 4) (fun r3 => (Q r3)))))
set_option maxHeartbeats 4000000 in
theorem m1_length (l : Launch) (G : Gh) (a1 : Nat → Nat → Nat) (τ : St) (σ : St) (H : Heap) (x1 : Int32) (Q : Int32 → Prop) (hw : w1_length σ x1 Q) : Met l yX1_length (ws_ yX1_length cX1_length 2 (some .int)) rmX1_length (PcP G a1 (cmb σ τ) H [.ref (ga G 1 0), .int x1]) (QIp G H Q) 0 0 (gA G) := by
  refine met_p (by decide) (Nat.le_of_ble_eq_true rfl) ?_
  intro p e s m below meth c ls hHe C hH hS hl
  have C : Cx p e s m _ meth c cX1_length 2 (some .int) "WebHost$Store" G := C
  have hl : lv_has ls 2 [(0, .ref (ga G 1 0)), (1, .int x1)] := hl
  have hx := C.1
  have hb := C.2.1
  have hown := C.2.2.2.2.2.1
  have hts := C.2.2.2.2.2.2.1
  obtain ⟨locs, hlocs⟩ : ∃ z : List Loc, z = [] := ⟨_, rfl⟩
  rw [← hlocs] at hS ⊢
  refine lv_aload_n hx hb dX1_length_0 rfl (lv_at hl 0 rfl) ?_
  obtain ⟨hq1, hw⟩ := hw
  refine g1_3 C hH hq1 q203 dX1_length_1 ?_
  refine lv_aload_n hx hb dX1_length_4 rfl (lv_at hl 0 rfl) ?_
  refine lv_iload_n hx hb dX1_length_5 rfl (lv_at hl 1 rfl) ?_
  refine kc_ip (rn_vp (As := [.int x1]) (rest := [.ref (adr G a1 ((σ 1 0 3).toNatClampNeg) ((σ 1 0 103).toNatClampNeg))]) C hH hS (by decide) rfl (by decide) (m1_entry l G a1 τ σ H x1 _ hw) (cwV 1 hts (lw_V q827 q829 qs0 q158 q830) rfl rfl rfl kX1_entry ⟨Nat.le_of_ble_eq_true rfl, Nat.le_of_ble_eq_true rfl⟩) rfl hl.1 rfl (Nat.le_of_ble_eq_true rfl) dX1_length_6 ⟨Nat.le_of_ble_eq_true rfl, Nat.le_of_ble_eq_true rfl⟩) hS (fun r2 locs hw hS => ?_)
  refine lv_bipush (v := 48) hx hb dX1_length_9 (by decide) ?_
  refine lv_iadd hx hb dX1_length_11 ?_
  refine lv_iconst (v := 4) hx hb dX1_length_12 (by decide) ?_
  refine lv_iadd hx hb dX1_length_13 ?_
  refine kc_ip (rn_sp (As := [.ref (adr G a1 ((σ 1 0 3).toNatClampNeg) ((σ 1 0 103).toNatClampNeg)), .int ((r2 + 48) + 4)]) (rest := []) C hH hS (m19_four l G a1 τ σ H ((σ 1 0 3).toNatClampNeg) ((σ 1 0 103).toNatClampNeg) ((r2 + 48) + 4) hq1 _ hw) (va_cwS 2 hts (lw_S q819 q820 q176 q821) rfl rfl rfl kX19_four.2 ⟨Nat.le_of_ble_eq_true rfl, Nat.le_of_ble_eq_true rfl⟩) rfl hl.1 rfl (Nat.le_of_ble_eq_true rfl) dX1_length_14 ⟨Nat.le_of_ble_eq_true rfl, Nat.le_of_ble_eq_true rfl⟩) hS (fun r3 locs hw hS => ?_)
  exact rt_ip C rfl hS hw dX1_length_17
/-! WebHost$Store.mark(I)I -/
abbrev cX1_mark : ByteArray := prog_13_method_8_code
def yX1_mark : MethodName := ⟨RX1, "mark", "(I)I"⟩
theorem dX1_mark_0 : decode cX1_mark 0 = .ok (.aload_n 0, 1) := by decide +kernel
theorem dX1_mark_1 : decode cX1_mark 1 = .ok (.getfield 16, 3) := by decide +kernel
theorem dX1_mark_4 : decode cX1_mark 4 = .ok (.aload_n 0, 1) := by decide +kernel
theorem dX1_mark_5 : decode cX1_mark 5 = .ok (.iload_n 1, 1) := by decide +kernel
theorem dX1_mark_6 : decode cX1_mark 6 = .ok (.invokevirtual 20, 3) := by decide +kernel
theorem dX1_mark_9 : decode cX1_mark 9 = .ok (.bipush 48, 2) := by decide +kernel
theorem dX1_mark_11 : decode cX1_mark 11 = .ok (.iadd, 1) := by decide +kernel
theorem dX1_mark_12 : decode cX1_mark 12 = .ok (.bipush 8, 2) := by decide +kernel
theorem dX1_mark_14 : decode cX1_mark 14 = .ok (.iadd, 1) := by decide +kernel
theorem dX1_mark_15 : decode cX1_mark 15 = .ok (.invokestatic 27, 3) := by decide +kernel
theorem dX1_mark_18 : decode cX1_mark 18 = .ok (.ireturn, 1) := by decide +kernel
def rmX1_mark : Room := { frames := 2, cells := 0, slots := 0, locals := 42 }
theorem kX1_mark : yX1_mark.cls = "WebHost$Store" ∧ yX1_mark.cls ≠ "java/lang/invoke/MethodHandle" ∧ yX1_mark.cls ≠ "java/lang/invoke/VarHandle" ∧ (parseMethodDescriptor yX1_mark.desc).map (fun d => d.parameters.length) = some 1 := by decide +kernel
def w1_mark (σ : St) (x1 : Int32) (Q : Int32 → Prop) : Prop := abc (σ 1 0 3).toNatClampNeg (σ 1 0 103).toNatClampNeg = true ∧ (w1_entry σ x1 (fun r2 => (w19_four σ ((σ 1 0 3).toNatClampNeg) ((σ 1 0 103).toNatClampNeg) ((r2 + 48) + 8) (fun r3 => (Q r3)))))
set_option maxHeartbeats 4000000 in
theorem m1_mark (l : Launch) (G : Gh) (a1 : Nat → Nat → Nat) (τ : St) (σ : St) (H : Heap) (x1 : Int32) (Q : Int32 → Prop) (hw : w1_mark σ x1 Q) : Met l yX1_mark (ws_ yX1_mark cX1_mark 2 (some .int)) rmX1_mark (PcP G a1 (cmb σ τ) H [.ref (ga G 1 0), .int x1]) (QIp G H Q) 0 0 (gA G) := by
  refine met_p (by decide) (Nat.le_of_ble_eq_true rfl) ?_
  intro p e s m below meth c ls hHe C hH hS hl
  have C : Cx p e s m _ meth c cX1_mark 2 (some .int) "WebHost$Store" G := C
  have hl : lv_has ls 2 [(0, .ref (ga G 1 0)), (1, .int x1)] := hl
  have hx := C.1
  have hb := C.2.1
  have hown := C.2.2.2.2.2.1
  have hts := C.2.2.2.2.2.2.1
  obtain ⟨locs, hlocs⟩ : ∃ z : List Loc, z = [] := ⟨_, rfl⟩
  rw [← hlocs] at hS ⊢
  refine lv_aload_n hx hb dX1_mark_0 rfl (lv_at hl 0 rfl) ?_
  obtain ⟨hq1, hw⟩ := hw
  refine g1_3 C hH hq1 q203 dX1_mark_1 ?_
  refine lv_aload_n hx hb dX1_mark_4 rfl (lv_at hl 0 rfl) ?_
  refine lv_iload_n hx hb dX1_mark_5 rfl (lv_at hl 1 rfl) ?_
  refine kc_ip (rn_vp (As := [.int x1]) (rest := [.ref (adr G a1 ((σ 1 0 3).toNatClampNeg) ((σ 1 0 103).toNatClampNeg))]) C hH hS (by decide) rfl (by decide) (m1_entry l G a1 τ σ H x1 _ hw) (cwV 1 hts (lw_V q827 q829 qs0 q158 q830) rfl rfl rfl kX1_entry ⟨Nat.le_of_ble_eq_true rfl, Nat.le_of_ble_eq_true rfl⟩) rfl hl.1 rfl (Nat.le_of_ble_eq_true rfl) dX1_mark_6 ⟨Nat.le_of_ble_eq_true rfl, Nat.le_of_ble_eq_true rfl⟩) hS (fun r2 locs hw hS => ?_)
  refine lv_bipush (v := 48) hx hb dX1_mark_9 (by decide) ?_
  refine lv_iadd hx hb dX1_mark_11 ?_
  refine lv_bipush (v := 8) hx hb dX1_mark_12 (by decide) ?_
  refine lv_iadd hx hb dX1_mark_14 ?_
  refine kc_ip (rn_sp (As := [.ref (adr G a1 ((σ 1 0 3).toNatClampNeg) ((σ 1 0 103).toNatClampNeg)), .int ((r2 + 48) + 8)]) (rest := []) C hH hS (m19_four l G a1 τ σ H ((σ 1 0 3).toNatClampNeg) ((σ 1 0 103).toNatClampNeg) ((r2 + 48) + 8) hq1 _ hw) (va_cwS 2 hts (lw_S q819 q820 q176 q821) rfl rfl rfl kX19_four.2 ⟨Nat.le_of_ble_eq_true rfl, Nat.le_of_ble_eq_true rfl⟩) rfl hl.1 rfl (Nat.le_of_ble_eq_true rfl) dX1_mark_15 ⟨Nat.le_of_ble_eq_true rfl, Nat.le_of_ble_eq_true rfl⟩) hS (fun r3 locs hw hS => ?_)
  exact rt_ip C rfl hS hw dX1_mark_18
/-! WebHost$Store.place(I)I -/
abbrev cX1_place : ByteArray := prog_13_method_6_code
def yX1_place : MethodName := ⟨RX1, "place", "(I)I"⟩
theorem dX1_place_0 : decode cX1_place 0 = .ok (.aload_n 0, 1) := by decide +kernel
theorem dX1_place_1 : decode cX1_place 1 = .ok (.getfield 16, 3) := by decide +kernel
theorem dX1_place_4 : decode cX1_place 4 = .ok (.aload_n 0, 1) := by decide +kernel
theorem dX1_place_5 : decode cX1_place 5 = .ok (.iload_n 1, 1) := by decide +kernel
theorem dX1_place_6 : decode cX1_place 6 = .ok (.invokevirtual 20, 3) := by decide +kernel
theorem dX1_place_9 : decode cX1_place 9 = .ok (.bipush 48, 2) := by decide +kernel
theorem dX1_place_11 : decode cX1_place 11 = .ok (.iadd, 1) := by decide +kernel
theorem dX1_place_12 : decode cX1_place 12 = .ok (.invokestatic 27, 3) := by decide +kernel
theorem dX1_place_15 : decode cX1_place 15 = .ok (.ireturn, 1) := by decide +kernel
def rmX1_place : Room := { frames := 2, cells := 0, slots := 0, locals := 42 }
theorem kX1_place : yX1_place.cls = "WebHost$Store" ∧ yX1_place.cls ≠ "java/lang/invoke/MethodHandle" ∧ yX1_place.cls ≠ "java/lang/invoke/VarHandle" ∧ (parseMethodDescriptor yX1_place.desc).map (fun d => d.parameters.length) = some 1 := by decide +kernel
def w1_place (σ : St) (x1 : Int32) (Q : Int32 → Prop) : Prop := abc (σ 1 0 3).toNatClampNeg (σ 1 0 103).toNatClampNeg = true ∧ (w1_entry σ x1 (fun r2 => (w19_four σ ((σ 1 0 3).toNatClampNeg) ((σ 1 0 103).toNatClampNeg) (r2 + 48) (fun r3 => (Q r3)))))
set_option maxHeartbeats 4000000 in
theorem m1_place (l : Launch) (G : Gh) (a1 : Nat → Nat → Nat) (τ : St) (σ : St) (H : Heap) (x1 : Int32) (Q : Int32 → Prop) (hw : w1_place σ x1 Q) : Met l yX1_place (ws_ yX1_place cX1_place 2 (some .int)) rmX1_place (PcP G a1 (cmb σ τ) H [.ref (ga G 1 0), .int x1]) (QIp G H Q) 0 0 (gA G) := by
  refine met_p (by decide) (Nat.le_of_ble_eq_true rfl) ?_
  intro p e s m below meth c ls hHe C hH hS hl
  have C : Cx p e s m _ meth c cX1_place 2 (some .int) "WebHost$Store" G := C
  have hl : lv_has ls 2 [(0, .ref (ga G 1 0)), (1, .int x1)] := hl
  have hx := C.1
  have hb := C.2.1
  have hown := C.2.2.2.2.2.1
  have hts := C.2.2.2.2.2.2.1
  obtain ⟨locs, hlocs⟩ : ∃ z : List Loc, z = [] := ⟨_, rfl⟩
  rw [← hlocs] at hS ⊢
  refine lv_aload_n hx hb dX1_place_0 rfl (lv_at hl 0 rfl) ?_
  obtain ⟨hq1, hw⟩ := hw
  refine g1_3 C hH hq1 q203 dX1_place_1 ?_
  refine lv_aload_n hx hb dX1_place_4 rfl (lv_at hl 0 rfl) ?_
  refine lv_iload_n hx hb dX1_place_5 rfl (lv_at hl 1 rfl) ?_
  refine kc_ip (rn_vp (As := [.int x1]) (rest := [.ref (adr G a1 ((σ 1 0 3).toNatClampNeg) ((σ 1 0 103).toNatClampNeg))]) C hH hS (by decide) rfl (by decide) (m1_entry l G a1 τ σ H x1 _ hw) (cwV 1 hts (lw_V q827 q829 qs0 q158 q830) rfl rfl rfl kX1_entry ⟨Nat.le_of_ble_eq_true rfl, Nat.le_of_ble_eq_true rfl⟩) rfl hl.1 rfl (Nat.le_of_ble_eq_true rfl) dX1_place_6 ⟨Nat.le_of_ble_eq_true rfl, Nat.le_of_ble_eq_true rfl⟩) hS (fun r2 locs hw hS => ?_)
  refine lv_bipush (v := 48) hx hb dX1_place_9 (by decide) ?_
  refine lv_iadd hx hb dX1_place_11 ?_
  refine kc_ip (rn_sp (As := [.ref (adr G a1 ((σ 1 0 3).toNatClampNeg) ((σ 1 0 103).toNatClampNeg)), .int (r2 + 48)]) (rest := []) C hH hS (m19_four l G a1 τ σ H ((σ 1 0 3).toNatClampNeg) ((σ 1 0 103).toNatClampNeg) (r2 + 48) hq1 _ hw) (va_cwS 2 hts (lw_S q819 q820 q176 q821) rfl rfl rfl kX19_four.2 ⟨Nat.le_of_ble_eq_true rfl, Nat.le_of_ble_eq_true rfl⟩) rfl hl.1 rfl (Nat.le_of_ble_eq_true rfl) dX1_place_12 ⟨Nat.le_of_ble_eq_true rfl, Nat.le_of_ble_eq_true rfl⟩) hS (fun r3 locs hw hS => ?_)
  exact rt_ip C rfl hS hw dX1_place_15
/-! WebHost$Device.at(II)I -/
abbrev cX2_at : ByteArray := prog_4_method_8_code
def yX2_at : MethodName := ⟨RX2, "at", "(II)I"⟩
theorem dX2_at_0 : decode cX2_at 0 = .ok (.iload_n 2, 1) := by decide +kernel
theorem dX2_at_1 : decode cX2_at 1 = .ok (.ifCond .lt 31, 3) := by decide +kernel
theorem dX2_at_4 : decode cX2_at 4 = .ok (.iload_n 2, 1) := by decide +kernel
theorem dX2_at_5 : decode cX2_at 5 = .ok (.aload_n 0, 1) := by decide +kernel
theorem dX2_at_6 : decode cX2_at 6 = .ok (.iload_n 1, 1) := by decide +kernel
theorem dX2_at_7 : decode cX2_at 7 = .ok (.invokevirtual 57, 3) := by decide +kernel
theorem dX2_at_10 : decode cX2_at 10 = .ok (.if_icmp .ge 22, 3) := by decide +kernel
theorem dX2_at_13 : decode cX2_at 13 = .ok (.aload_n 0, 1) := by decide +kernel
theorem dX2_at_14 : decode cX2_at 14 = .ok (.getfield 11, 3) := by decide +kernel
theorem dX2_at_17 : decode cX2_at 17 = .ok (.aload_n 0, 1) := by decide +kernel
theorem dX2_at_18 : decode cX2_at 18 = .ok (.iload_n 1, 1) := by decide +kernel
theorem dX2_at_19 : decode cX2_at 19 = .ok (.invokevirtual 53, 3) := by decide +kernel
theorem dX2_at_22 : decode cX2_at 22 = .ok (.aaload, 1) := by decide +kernel
theorem dX2_at_23 : decode cX2_at 23 = .ok (.iload_n 2, 1) := by decide +kernel
theorem dX2_at_24 : decode cX2_at 24 = .ok (.baload, 1) := by decide +kernel
theorem dX2_at_25 : decode cX2_at 25 = .ok (.sipush 255, 3) := by decide +kernel
theorem dX2_at_28 : decode cX2_at 28 = .ok (.iand, 1) := by decide +kernel
theorem dX2_at_29 : decode cX2_at 29 = .ok (.goto 4, 3) := by decide +kernel
theorem dX2_at_32 : decode cX2_at 32 = .ok (.iconst (-1), 1) := by decide +kernel
theorem dX2_at_33 : decode cX2_at 33 = .ok (.ireturn, 1) := by decide +kernel
def rmX2_at : Room := { frames := 2, cells := 0, slots := 0, locals := 42 }
theorem kX2_at : yX2_at.cls = "WebHost$Device" ∧ yX2_at.cls ≠ "java/lang/invoke/MethodHandle" ∧ yX2_at.cls ≠ "java/lang/invoke/VarHandle" ∧ (parseMethodDescriptor yX2_at.desc).map (fun d => d.parameters.length) = some 2 := by decide +kernel
def w2_at (σ : St) (x1 : Int32) (x2 : Int32) (Q : Int32 → Prop) : Prop := (x2 < 0 → (Q (-1))) ∧ (¬ x2 < 0 → (w2_length σ x1 (fun r1 => ((r1 ≤ x2 → (Q (-1))) ∧ (¬ r1 ≤ x2 → (w2_slot σ x1 (fun r2 => (vp_in r2 32 ∧ (vp_in x2 1514 ∧ (by8 (σ 23 r2.toNatClampNeg x2.toNatClampNeg) → (Q ((σ 23 r2.toNatClampNeg x2.toNatClampNeg) &&& 255))))))))))))
set_option maxHeartbeats 4000000 in
theorem m2_at (l : Launch) (G : Gh) (a1 : Nat → Nat → Nat) (τ : St) (σ : St) (H : Heap) (x1 : Int32) (x2 : Int32) (Q : Int32 → Prop) (hw : w2_at σ x1 x2 Q) : Met l yX2_at (ws_ yX2_at cX2_at 3 (some .int)) rmX2_at (PcP G a1 (cmb σ τ) H [.ref (ga G 2 0), .int x1, .int x2]) (QIp G H Q) 0 0 (gA G) := by
  refine met_p (by decide) (Nat.le_of_ble_eq_true rfl) ?_
  intro p e s m below meth c ls hHe C hH hS hl
  have C : Cx p e s m _ meth c cX2_at 3 (some .int) "WebHost$Device" G := C
  have hl : lv_has ls 3 [(0, .ref (ga G 2 0)), (1, .int x1), (2, .int x2)] := hl
  have hx := C.1
  have hb := C.2.1
  have hown := C.2.2.2.2.2.1
  have hts := C.2.2.2.2.2.2.1
  obtain ⟨locs, hlocs⟩ : ∃ z : List Loc, z = [] := ⟨_, rfl⟩
  rw [← hlocs] at hS ⊢
  refine lv_iload_n hx hb dX2_at_0 rfl (lv_at hl 2 rfl) ?_
  refine lv_if_lt (tgt := 32) hx hb dX2_at_1 (by decide) (fun h => ?_) (fun h => ?_)
  · have hw := hw.1 h
    refine lv_iconst (v := (-1)) hx hb dX2_at_32 (by decide) ?_
    exact rt_ip C rfl hS hw dX2_at_33
  have hw := hw.2 h
  refine lv_iload_n hx hb dX2_at_4 rfl (lv_at hl 2 rfl) ?_
  refine lv_aload_n hx hb dX2_at_5 rfl (lv_at hl 0 rfl) ?_
  refine lv_iload_n hx hb dX2_at_6 rfl (lv_at hl 1 rfl) ?_
  refine kc_ip (rn_vp (As := [.int x1]) (rest := [.int x2]) C hH hS (by decide) rfl (by decide) (m2_length l G a1 τ σ H x1 _ hw) (cwV 1 hts (lw_V q1632 q1617 q1618 q159 q1619) rfl rfl rfl kX2_length ⟨Nat.le_of_ble_eq_true rfl, Nat.le_of_ble_eq_true rfl⟩) rfl hl.1 rfl (Nat.le_of_ble_eq_true rfl) dX2_at_7 ⟨Nat.le_of_ble_eq_true rfl, Nat.le_of_ble_eq_true rfl⟩) hS (fun r1 locs hw hS => ?_)
  refine lv_icmp_ge (tgt := 32) hx hb dX2_at_10 (by decide) (fun h => ?_) (fun h => ?_)
  · have hw := hw.1 h
    refine lv_iconst (v := (-1)) hx hb dX2_at_32 (by decide) ?_
    exact rt_ip C rfl hS hw dX2_at_33
  have hw := hw.2 h
  refine lv_aload_n hx hb dX2_at_13 rfl (lv_at hl 0 rfl) ?_
  refine g2_0 C hH q222 dX2_at_14 ?_
  refine lv_aload_n hx hb dX2_at_17 rfl (lv_at hl 0 rfl) ?_
  refine lv_iload_n hx hb dX2_at_18 rfl (lv_at hl 1 rfl) ?_
  refine kc_ip (rn_vp (As := [.int x1]) (rest := [.ref (adr G a1 24 0)]) C hH hS (by decide) rfl (by decide) (m2_slot l G a1 τ σ H x1 _ hw) (cwV 1 hts (lw_V q1620 q1622 qs74 q159 q1623) rfl rfl rfl kX2_slot ⟨Nat.le_of_ble_eq_true rfl, Nat.le_of_ble_eq_true rfl⟩) rfl hl.1 rfl (Nat.le_of_ble_eq_true rfl) dX2_at_19 ⟨Nat.le_of_ble_eq_true rfl, Nat.le_of_ble_eq_true rfl⟩) hS (fun r2 locs hw hS => ?_)
  have hq3 := vp_lt hw.1
  refine l24 C hH hw.1 dX2_at_22 ?_
  have hw := hw.2
  refine lv_iload_n hx hb dX2_at_23 rfl (lv_at hl 2 rfl) ?_
  refine l23 C hH hq3 hw.1 dX2_at_24 (fun hz => ?_)
  have hw := hw.2 hz
  refine lv_sipush (v := 255) hx hb dX2_at_25 (by decide) ?_
  refine lv_iand hx hb dX2_at_28 ?_
  refine lv_goto (tgt := 33) hx hb dX2_at_29 (by decide) ?_
  exact rt_ip C rfl hS hw dX2_at_33
/-! WebHost$Device.begin(II)V -/
abbrev cX2_begin : ByteArray := prog_4_method_2_code
def yX2_begin : MethodName := ⟨RX2, "begin", "(II)V"⟩
theorem dX2_begin_0 : decode cX2_begin 0 = .ok (.aload_n 0, 1) := by decide +kernel
theorem dX2_begin_1 : decode cX2_begin 1 = .ok (.iconst 0, 1) := by decide +kernel
theorem dX2_begin_2 : decode cX2_begin 2 = .ok (.putfield 27, 3) := by decide +kernel
theorem dX2_begin_5 : decode cX2_begin 5 = .ok (.aload_n 0, 1) := by decide +kernel
theorem dX2_begin_6 : decode cX2_begin 6 = .ok (.iconst 0, 1) := by decide +kernel
theorem dX2_begin_7 : decode cX2_begin 7 = .ok (.putfield 31, 3) := by decide +kernel
theorem dX2_begin_10 : decode cX2_begin 10 = .ok (.aload_n 0, 1) := by decide +kernel
theorem dX2_begin_11 : decode cX2_begin 11 = .ok (.getfield 24, 3) := by decide +kernel
theorem dX2_begin_14 : decode cX2_begin 14 = .ok (.iconst 0, 1) := by decide +kernel
theorem dX2_begin_15 : decode cX2_begin 15 = .ok (.iload_n 1, 1) := by decide +kernel
theorem dX2_begin_16 : decode cX2_begin 16 = .ok (.invokestatic 34, 3) := by decide +kernel
theorem dX2_begin_19 : decode cX2_begin 19 = .ok (.aload_n 0, 1) := by decide +kernel
theorem dX2_begin_20 : decode cX2_begin 20 = .ok (.getfield 24, 3) := by decide +kernel
theorem dX2_begin_23 : decode cX2_begin 23 = .ok (.iconst 2, 1) := by decide +kernel
theorem dX2_begin_24 : decode cX2_begin 24 = .ok (.iload_n 2, 1) := by decide +kernel
theorem dX2_begin_25 : decode cX2_begin 25 = .ok (.invokestatic 40, 3) := by decide +kernel
theorem dX2_begin_28 : decode cX2_begin 28 = .ok (.return_, 1) := by decide +kernel
def rmX2_begin : Room := { frames := 2, cells := 0, slots := 0, locals := 44 }
theorem kX2_begin : yX2_begin.cls = "WebHost$Device" ∧ yX2_begin.cls ≠ "java/lang/invoke/MethodHandle" ∧ yX2_begin.cls ≠ "java/lang/invoke/VarHandle" ∧ (parseMethodDescriptor yX2_begin.desc).map (fun d => d.parameters.length) = some 2 := by decide +kernel
def w2_begin (σ : St) (x1 : Int32) (x2 : Int32) (Q : St → Prop) : Prop := ∀ σ1, σ1 = up3 σ 2 0 3 0 → (∀ σ2, σ2 = up3 σ1 2 0 4 0 → (w19_putTwo σ2 27 0 0 x1 (fun σ3 => (w19_putFour σ3 27 0 2 x2 (fun σ4 => (Q σ4))))))
set_option maxHeartbeats 4000000 in
theorem m2_begin (l : Launch) (G : Gh) (a1 : Nat → Nat → Nat) (τ : St) (σ : St) (x1 : Int32) (x2 : Int32) (Q : St → Prop) (hw : w2_begin σ x1 x2 Q) : Met l yX2_begin (ws_ yX2_begin cX2_begin 3 none) rmX2_begin (PcS G a1 (cmb σ τ) [.ref (ga G 2 0), .int x1, .int x2]) (QVs G a1 (fun u => cmb u τ) Q) 0 0 (gA G) := by
  refine met_w (by decide) (Nat.le_of_ble_eq_true rfl) ?_
  intro p e s m below meth c ls C hH hS hl
  have C : Cx p e s m _ meth c cX2_begin 3 none "WebHost$Device" G := C
  have hl : lv_has ls 3 [(0, .ref (ga G 2 0)), (1, .int x1), (2, .int x2)] := hl
  have hx := C.1
  have hb := C.2.1
  have hown := C.2.2.2.2.2.1
  have hts := C.2.2.2.2.2.2.1
  obtain ⟨locs, hlocs⟩ : ∃ z : List Loc, z = [] := ⟨_, rfl⟩
  obtain ⟨H, hHe⟩ : ∃ z : Heap, z = s.heap := ⟨_, rfl⟩
  have hH : Hd G a1 (cmb σ τ) H := by rw [hHe]; exact hH
  have hS : va_S (gA G) s.heap H locs := by rw [hHe, hlocs]; exact hS
  refine W.heap0 hHe.symm hlocs.symm ?_
  refine lv_aload_n hx hb dX2_begin_0 rfl (lv_at hl 0 rfl) ?_
  refine lv_iconst (v := 0) hx hb dX2_begin_1 (by decide) ?_
  refine p2_3 C hH hS q225 dX2_begin_2 (fun σ1 e1 H locs hH hS => ?_)
  have hw := hw σ1 e1
  refine lv_aload_n hx hb dX2_begin_5 rfl (lv_at hl 0 rfl) ?_
  refine lv_iconst (v := 0) hx hb dX2_begin_6 (by decide) ?_
  refine p2_4 C hH hS q227 dX2_begin_7 (fun σ2 e2 H locs hH hS => ?_)
  have hw := hw σ2 e2
  refine lv_aload_n hx hb dX2_begin_10 rfl (lv_at hl 0 rfl) ?_
  refine g2_5 C hH q231 dX2_begin_11 ?_
  refine lv_iconst (v := 0) hx hb dX2_begin_14 (by decide) ?_
  refine lv_iload_n hx hb dX2_begin_15 rfl (lv_at hl 1 rfl) ?_
  refine kc_v (rn_s (As := [.ref (adr G a1 27 0), .int 0, .int x1]) (rest := []) C hH hS (m19_putTwo l G a1 τ σ2 27 0 0 x1 (by decide) _ hw) (va_cwS 3 hts (lw_S q865 q794 q176 q795) rfl rfl rfl kX19_putTwo.2 ⟨Nat.le_of_ble_eq_true rfl, Nat.le_of_ble_eq_true rfl⟩) rfl hl.1 rfl (Nat.le_of_ble_eq_true rfl) dX2_begin_16 ⟨Nat.le_of_ble_eq_true rfl, Nat.le_of_ble_eq_true rfl⟩) hS (fun σ3 H locs hw hH hS => ?_)
  refine lv_aload_n hx hb dX2_begin_19 rfl (lv_at hl 0 rfl) ?_
  refine g2_5 C hH q231 dX2_begin_20 ?_
  refine lv_iconst (v := 2) hx hb dX2_begin_23 (by decide) ?_
  refine lv_iload_n hx hb dX2_begin_24 rfl (lv_at hl 2 rfl) ?_
  refine kc_v (rn_s (As := [.ref (adr G a1 27 0), .int 2, .int x2]) (rest := []) C hH hS (m19_putFour l G a1 τ σ3 27 0 2 x2 (by decide) _ hw) (va_cwS 3 hts (lw_S q866 q791 q176 q792) rfl rfl rfl kX19_putFour.2 ⟨Nat.le_of_ble_eq_true rfl, Nat.le_of_ble_eq_true rfl⟩) rfl hl.1 rfl (Nat.le_of_ble_eq_true rfl) dX2_begin_25 ⟨Nat.le_of_ble_eq_true rfl, Nat.le_of_ble_eq_true rfl⟩) hS (fun σ4 H locs hw hH hS => ?_)
  exact rt_v C hH hS hw dX2_begin_28
/-! WebHost$Hops.release(II)V -/
abbrev cX3_release : ByteArray := prog_6_method_8_code
def yX3_release : MethodName := ⟨RX3, "release", "(II)V"⟩
theorem dX3_release_0 : decode cX3_release 0 = .ok (.iconst 0, 1) := by decide +kernel
theorem dX3_release_1 : decode cX3_release 1 = .ok (.istore_n 3, 1) := by decide +kernel
theorem dX3_release_2 : decode cX3_release 2 = .ok (.iload_n 3, 1) := by decide +kernel
theorem dX3_release_3 : decode cX3_release 3 = .ok (.aload_n 0, 1) := by decide +kernel
theorem dX3_release_4 : decode cX3_release 4 = .ok (.getfield 53, 3) := by decide +kernel
theorem dX3_release_7 : decode cX3_release 7 = .ok (.if_icmp .ge 67, 3) := by decide +kernel
theorem dX3_release_10 : decode cX3_release 10 = .ok (.aload_n 0, 1) := by decide +kernel
theorem dX3_release_11 : decode cX3_release 11 = .ok (.getfield 22, 3) := by decide +kernel
theorem dX3_release_14 : decode cX3_release 14 = .ok (.iload_n 3, 1) := by decide +kernel
theorem dX3_release_15 : decode cX3_release 15 = .ok (.aaload, 1) := by decide +kernel
theorem dX3_release_16 : decode cX3_release 16 = .ok (.getfield 96, 3) := by decide +kernel
theorem dX3_release_19 : decode cX3_release 19 = .ok (.iload_n 1, 1) := by decide +kernel
theorem dX3_release_20 : decode cX3_release 20 = .ok (.if_icmp .eq 6, 3) := by decide +kernel
theorem dX3_release_23 : decode cX3_release 23 = .ok (.goto 45, 3) := by decide +kernel
theorem dX3_release_26 : decode cX3_release 26 = .ok (.aload_n 0, 1) := by decide +kernel
theorem dX3_release_27 : decode cX3_release 27 = .ok (.getfield 22, 3) := by decide +kernel
theorem dX3_release_30 : decode cX3_release 30 = .ok (.iload_n 3, 1) := by decide +kernel
theorem dX3_release_31 : decode cX3_release 31 = .ok (.aaload, 1) := by decide +kernel
theorem dX3_release_32 : decode cX3_release 32 = .ok (.astore 4, 2) := by decide +kernel
theorem dX3_release_34 : decode cX3_release 34 = .ok (.aload_n 0, 1) := by decide +kernel
theorem dX3_release_35 : decode cX3_release 35 = .ok (.iload_n 3, 1) := by decide +kernel
theorem dX3_release_36 : decode cX3_release 36 = .ok (.invokevirtual 99, 3) := by decide +kernel
theorem dX3_release_39 : decode cX3_release 39 = .ok (.aload_n 0, 1) := by decide +kernel
theorem dX3_release_40 : decode cX3_release 40 = .ok (.getfield 35, 3) := by decide +kernel
theorem dX3_release_43 : decode cX3_release 43 = .ok (.aload_n 0, 1) := by decide +kernel
theorem dX3_release_44 : decode cX3_release 44 = .ok (.getfield 16, 3) := by decide +kernel
theorem dX3_release_47 : decode cX3_release 47 = .ok (.bipush 6, 2) := by decide +kernel
theorem dX3_release_49 : decode cX3_release 49 = .ok (.iload_n 2, 1) := by decide +kernel
theorem dX3_release_50 : decode cX3_release 50 = .ok (.imul, 1) := by decide +kernel
theorem dX3_release_51 : decode cX3_release 51 = .ok (.sipush 2048, 3) := by decide +kernel
theorem dX3_release_54 : decode cX3_release 54 = .ok (.aload 4, 2) := by decide +kernel
theorem dX3_release_56 : decode cX3_release 56 = .ok (.getfield 103, 3) := by decide +kernel
theorem dX3_release_59 : decode cX3_release 59 = .ok (.aload 4, 2) := by decide +kernel
theorem dX3_release_61 : decode cX3_release 61 = .ok (.getfield 104, 3) := by decide +kernel
theorem dX3_release_64 : decode cX3_release 64 = .ok (.invokevirtual 107, 3) := by decide +kernel
theorem dX3_release_67 : decode cX3_release 67 = .ok (.return_, 1) := by decide +kernel
theorem dX3_release_68 : decode cX3_release 68 = .ok (.iinc 3 1, 3) := by decide +kernel
theorem dX3_release_71 : decode cX3_release 71 = .ok (.goto (-69), 3) := by decide +kernel
theorem dX3_release_74 : decode cX3_release 74 = .ok (.return_, 1) := by decide +kernel
def rmX3_release : Room := { frames := 2, cells := 0, slots := 0, locals := 54 }
theorem kX3_release : yX3_release.cls = "WebHost$Hops" ∧ yX3_release.cls ≠ "java/lang/invoke/MethodHandle" ∧ yX3_release.cls ≠ "java/lang/invoke/VarHandle" ∧ (parseMethodDescriptor yX3_release.desc).map (fun d => d.parameters.length) = some 2 := by decide +kernel
def w3_release_L2 (σ : St) (x1 : Int32) (x2 : Int32) (Q : St → Prop) (K26 : Int32 → Prop) (K74 : Prop) : Nat → Int32 → Prop
  | 0, _ => False
  | n + 1, x3 => ((σ 3 0 9) ≤ x3 → K74) ∧ (¬ (σ 3 0 9) ≤ x3 → (vp_in x3 8 ∧ ((σ 31 0 x3.toNatClampNeg).toNatClampNeg < 8 ∧ (((σ 4 ((σ 31 0 x3.toNatClampNeg).toNatClampNeg) 0) = x1 → K26 x3) ∧ (¬ (σ 4 ((σ 31 0 x3.toNatClampNeg).toNatClampNeg) 0) = x1 → (w3_release_L2 σ x1 x2 Q K26 K74 n (x3 + 1)))))))
set_option maxHeartbeats 4000000 in
theorem k3_release_L2 {p : Program} {l : Launch} {e : Env} {s : State} {m : MethodId} {args : Array Value} {below : List Frame} {meth : Method} {c : Code} {G : Gh} {a1 : Nat → Nat → Nat} {τ : St} {Q : St → Prop} {K26 : Int32 → Prop} {K74 : Prop} (C : Cx p e s m args meth c cX3_release 5 none "WebHost$Hops" G) (σ : St) (x1 : Int32) (x2 : Int32) :
    ∀ (n : Nat) (x3 : Int32), w3_release_L2 σ x1 x2 Q K26 K74 n x3 → ∀ (H : Heap) (locs : List Loc) (ls : Array Slot), Hd G a1 (cmb σ τ) H → va_S (gA G) s.heap H locs → lv_has ls 5 [(0, .ref (ga G 3 0)), (1, .int x1), (2, .int x2), (3, .int x3)] → (∀ (x3 : Int32), K26 x3 → ∀ (H : Heap) (locs : List Loc) (ls : Array Slot), Hd G a1 (cmb σ τ) H → va_S (gA G) s.heap H locs → lv_has ls 5 [(0, .ref (ga G 3 0)), (2, .int x2), (3, .int x3)] → W p l e rmX3_release s m args below meth c H locs 0 0 (MQ below (QVs G a1 (fun u => cmb u τ) Q) args s 0 0 (gA G)) (F0 m 26 ls [])) → (K74 → ∀ (H : Heap) (locs : List Loc) (ls : Array Slot), Hd G a1 (cmb σ τ) H → va_S (gA G) s.heap H locs → lv_has ls 5 [] → W p l e rmX3_release s m args below meth c H locs 0 0 (MQ below (QVs G a1 (fun u => cmb u τ) Q) args s 0 0 (gA G)) (F0 m 74 ls [])) → W p l e rmX3_release s m args below meth c H locs 0 0 (MQ below (QVs G a1 (fun u => cmb u τ) Q) args s 0 0 (gA G)) (F0 m 2 ls []) := by
  have hx := C.1
  have hb := C.2.1
  have hown := C.2.2.2.2.2.1
  have hts := C.2.2.2.2.2.2.1
  intro n
  induction n with
  | zero =>
    intro x3 hw
    exact False.elim hw
  | succ n ih =>
    intro x3 hw H locs ls hH hS hl hK26 hK74
    refine lv_iload_n hx hb dX3_release_2 rfl (lv_at hl 3 rfl) ?_
    refine lv_aload_n hx hb dX3_release_3 rfl (lv_at hl 0 rfl) ?_
    refine g3_9 C hH q288 dX3_release_4 ?_
    refine lv_icmp_ge (tgt := 74) hx hb dX3_release_7 (by decide) (fun h => ?_) (fun h => ?_)
    · have hw := hw.1 h
      exact hK74 hw H locs ls hH hS (lv_sub hl [] rfl)
    have hw := hw.2 h
    refine lv_aload_n hx hb dX3_release_10 rfl (lv_at hl 0 rfl) ?_
    refine g3_8 C hH q287 dX3_release_11 ?_
    refine lv_iload_n hx hb dX3_release_14 rfl (lv_at hl 3 rfl) ?_
    refine l31 C hH hw.1 dX3_release_15 ?_
    obtain ⟨hq1, hw⟩ := hw.2
    refine g4_0 C hH hq1 q260 dX3_release_16 ?_
    refine lv_iload_n hx hb dX3_release_19 rfl (lv_at hl 1 rfl) ?_
    refine lv_icmp_eq (tgt := 26) hx hb dX3_release_20 (by decide) (fun h => ?_) (fun h => ?_)
    · have hw := hw.1 h
      exact hK26 x3 hw H locs ls hH hS (lv_sub hl [0, 2, 3] rfl)
    have hw := hw.2 h
    refine lv_goto (tgt := 68) hx hb dX3_release_23 (by decide) ?_
    refine lv_iinc (v := x3 + 1) (lv' := [(3, .int (x3 + 1)), (0, .ref (ga G 3 0)), (1, .int x1), (2, .int x2)]) hx hb dX3_release_68 hl (k := 3) rfl rfl (by decide) rfl (fun ls hl => ?_)
    refine lv_goto (tgt := 2) hx hb dX3_release_71 (by decide) ?_
    exact ih (x3 + 1) hw H locs ls hH hS (lv_sub hl [1, 2, 3, 0] rfl) hK26 hK74
def w3_release (σ : St) (x1 : Int32) (x2 : Int32) (Q : St → Prop) : Prop := ∃ z2, w3_release_L2 σ x1 x2 Q (fun x3_3 => vp_in x3_3 8 ∧ ((σ 31 0 x3_3.toNatClampNeg).toNatClampNeg < 8 ∧ (w3_remove σ x3_3 (fun σ6 => (w2_send σ6 30 0 (6 * x2) 2048 35 ((σ 31 0 x3_3.toNatClampNeg).toNatClampNeg) (σ6 4 ((σ 31 0 x3_3.toNatClampNeg).toNatClampNeg) 4) (fun σ7 => (Q σ7))))))) (Q σ) z2 0
set_option maxHeartbeats 4000000 in
theorem m3_release (l : Launch) (G : Gh) (a1 : Nat → Nat → Nat) (τ : St) (σ : St) (x1 : Int32) (x2 : Int32) (Q : St → Prop) (hw : w3_release σ x1 x2 Q) : Met l yX3_release (ws_ yX3_release cX3_release 5 none) rmX3_release (PcS G a1 (cmb σ τ) [.ref (ga G 3 0), .int x1, .int x2]) (QVs G a1 (fun u => cmb u τ) Q) 0 0 (gA G) := by
  refine met_w (by decide) (Nat.le_of_ble_eq_true rfl) ?_
  intro p e s m below meth c ls C hH hS hl
  have C : Cx p e s m _ meth c cX3_release 5 none "WebHost$Hops" G := C
  have hl : lv_has ls 5 [(0, .ref (ga G 3 0)), (1, .int x1), (2, .int x2)] := hl
  have hx := C.1
  have hb := C.2.1
  have hown := C.2.2.2.2.2.1
  have hts := C.2.2.2.2.2.2.1
  obtain ⟨locs, hlocs⟩ : ∃ z : List Loc, z = [] := ⟨_, rfl⟩
  obtain ⟨H, hHe⟩ : ∃ z : Heap, z = s.heap := ⟨_, rfl⟩
  have hH : Hd G a1 (cmb σ τ) H := by rw [hHe]; exact hH
  have hS : va_S (gA G) s.heap H locs := by rw [hHe, hlocs]; exact hS
  refine W.heap0 hHe.symm hlocs.symm ?_
  refine lv_iconst (v := 0) hx hb dX3_release_0 (by decide) ?_
  refine lv_istore_n (lv' := [(3, .int 0), (0, .ref (ga G 3 0)), (1, .int x1), (2, .int x2)]) hx hb dX3_release_1 rfl hl (by decide) rfl (fun ls hl => ?_)
  obtain ⟨n2, hw⟩ := hw
  refine k3_release_L2 C σ x1 x2 n2 0 hw H locs ls hH hS (lv_sub hl [1, 2, 3, 0] rfl) (fun x3_3 hw H locs ls hH hS hl => ?_) (fun hw H locs ls hH hS hl => ?_)
  · refine lv_aload_n hx hb dX3_release_26 rfl (lv_at hl 0 rfl) ?_
    refine g3_8 C hH q287 dX3_release_27 ?_
    refine lv_iload_n hx hb dX3_release_30 rfl (lv_at hl 2 rfl) ?_
    refine l31 C hH hw.1 dX3_release_31 ?_
    obtain ⟨hq5, hw⟩ := hw.2
    refine lv_astore (lv' := [(4, .ref (ga G 4 ((σ 31 0 x3_3.toNatClampNeg).toNatClampNeg))), (0, .ref (ga G 3 0)), (2, .int x2), (3, .int x3_3)]) hx hb dX3_release_32 hl (by decide) rfl (fun ls hl => ?_)
    refine lv_aload_n hx hb dX3_release_34 rfl (lv_at hl 1 rfl) ?_
    refine lv_iload_n hx hb dX3_release_35 rfl (lv_at hl 3 rfl) ?_
    refine kc_v (rn_v (As := [.int x3_3]) (rest := []) C hH hS (by decide) rfl (by decide) (m3_remove l G a1 τ σ x3_3 _ hw) (cwV 1 hts (lw_V q940 q942 qs10 q160 q943) rfl rfl rfl kX3_remove ⟨Nat.le_of_ble_eq_true rfl, Nat.le_of_ble_eq_true rfl⟩) rfl hl.1 rfl (Nat.le_of_ble_eq_true rfl) dX3_release_36 ⟨Nat.le_of_ble_eq_true rfl, Nat.le_of_ble_eq_true rfl⟩) hS (fun σ6 H locs hw hH hS => ?_)
    refine lv_aload_n hx hb dX3_release_39 rfl (lv_at hl 1 rfl) ?_
    refine g3_0 C hH q279 dX3_release_40 ?_
    refine lv_aload_n hx hb dX3_release_43 rfl (lv_at hl 1 rfl) ?_
    refine g3_6 C hH q285 dX3_release_44 ?_
    refine lv_bipush (v := 6) hx hb dX3_release_47 (by decide) ?_
    refine lv_iload_n hx hb dX3_release_49 rfl (lv_at hl 2 rfl) ?_
    refine lv_imul hx hb dX3_release_50 ?_
    refine lv_sipush (v := 2048) hx hb dX3_release_51 (by decide) ?_
    refine lv_aload hx hb dX3_release_54 (lv_at hl 0 rfl) ?_
    refine g4_3 C hH hq5 q266 dX3_release_56 ?_
    refine lv_aload hx hb dX3_release_59 (lv_at hl 0 rfl) ?_
    refine g4_4 C hH hq5 q267 dX3_release_61 ?_
    refine kc_v (rn_v (As := [.ref (adr G a1 30 0), .int (6 * x2), .int 2048, .ref (adr G a1 35 ((σ 31 0 x3_3.toNatClampNeg).toNatClampNeg)), .int (σ6 4 ((σ 31 0 x3_3.toNatClampNeg).toNatClampNeg) 4)]) (rest := []) C hH hS (by decide) rfl (by decide) (m2_send l G a1 τ σ6 30 0 (6 * x2) 2048 35 ((σ 31 0 x3_3.toNatClampNeg).toNatClampNeg) (σ6 4 ((σ 31 0 x3_3.toNatClampNeg).toNatClampNeg) 4) (by decide) (ok35 hq5) _ hw) (cwV 5 hts (lw_V q952 q953 q954 q159 q955) rfl rfl rfl kX2_send ⟨Nat.le_of_ble_eq_true rfl, Nat.le_of_ble_eq_true rfl⟩) rfl hl.1 rfl (Nat.le_of_ble_eq_true rfl) dX3_release_64 ⟨Nat.le_of_ble_eq_true rfl, Nat.le_of_ble_eq_true rfl⟩) hS (fun σ7 H locs hw hH hS => ?_)
    exact rt_v C hH hS hw dX3_release_67
  exact rt_v C hH hS hw dX3_release_74
/-! WebHost$Hops.tell(I[BII)V -/
abbrev cX3_tell : ByteArray := prog_6_method_10_code
def yX3_tell : MethodName := ⟨RX3, "tell", "(I[BII)V"⟩
theorem dX3_tell_0 : decode cX3_tell 0 = .ok (.aload_n 0, 1) := by decide +kernel
theorem dX3_tell_1 : decode cX3_tell 1 = .ok (.getfield 26, 3) := by decide +kernel
theorem dX3_tell_4 : decode cX3_tell 4 = .ok (.iconst 0, 1) := by decide +kernel
theorem dX3_tell_5 : decode cX3_tell 5 = .ok (.ldc 72, 2) := by decide +kernel
theorem dX3_tell_7 : decode cX3_tell 7 = .ok (.invokestatic 111, 3) := by decide +kernel
theorem dX3_tell_10 : decode cX3_tell 10 = .ok (.aload_n 0, 1) := by decide +kernel
theorem dX3_tell_11 : decode cX3_tell 11 = .ok (.getfield 26, 3) := by decide +kernel
theorem dX3_tell_14 : decode cX3_tell 14 = .ok (.iconst 4, 1) := by decide +kernel
theorem dX3_tell_15 : decode cX3_tell 15 = .ok (.sipush 1540, 3) := by decide +kernel
theorem dX3_tell_18 : decode cX3_tell 18 = .ok (.invokestatic 115, 3) := by decide +kernel
theorem dX3_tell_21 : decode cX3_tell 21 = .ok (.aload_n 0, 1) := by decide +kernel
theorem dX3_tell_22 : decode cX3_tell 22 = .ok (.getfield 26, 3) := by decide +kernel
theorem dX3_tell_25 : decode cX3_tell 25 = .ok (.bipush 6, 2) := by decide +kernel
theorem dX3_tell_27 : decode cX3_tell 27 = .ok (.iload_n 1, 1) := by decide +kernel
theorem dX3_tell_28 : decode cX3_tell 28 = .ok (.invokestatic 115, 3) := by decide +kernel
theorem dX3_tell_31 : decode cX3_tell 31 = .ok (.aload_n 0, 1) := by decide +kernel
theorem dX3_tell_32 : decode cX3_tell 32 = .ok (.getfield 35, 3) := by decide +kernel
theorem dX3_tell_35 : decode cX3_tell 35 = .ok (.getfield 118, 3) := by decide +kernel
theorem dX3_tell_38 : decode cX3_tell 38 = .ok (.iconst 0, 1) := by decide +kernel
theorem dX3_tell_39 : decode cX3_tell 39 = .ok (.aload_n 0, 1) := by decide +kernel
theorem dX3_tell_40 : decode cX3_tell 40 = .ok (.getfield 26, 3) := by decide +kernel
theorem dX3_tell_43 : decode cX3_tell 43 = .ok (.bipush 8, 2) := by decide +kernel
theorem dX3_tell_45 : decode cX3_tell 45 = .ok (.bipush 6, 2) := by decide +kernel
theorem dX3_tell_47 : decode cX3_tell 47 = .ok (.invokestatic 88, 3) := by decide +kernel
theorem dX3_tell_50 : decode cX3_tell 50 = .ok (.aload_n 0, 1) := by decide +kernel
theorem dX3_tell_51 : decode cX3_tell 51 = .ok (.getfield 26, 3) := by decide +kernel
theorem dX3_tell_54 : decode cX3_tell 54 = .ok (.bipush 14, 2) := by decide +kernel
theorem dX3_tell_56 : decode cX3_tell 56 = .ok (.aload_n 0, 1) := by decide +kernel
theorem dX3_tell_57 : decode cX3_tell 57 = .ok (.getfield 40, 3) := by decide +kernel
theorem dX3_tell_60 : decode cX3_tell 60 = .ok (.invokestatic 111, 3) := by decide +kernel
theorem dX3_tell_63 : decode cX3_tell 63 = .ok (.iload_n 1, 1) := by decide +kernel
theorem dX3_tell_64 : decode cX3_tell 64 = .ok (.iconst 1, 1) := by decide +kernel
theorem dX3_tell_65 : decode cX3_tell 65 = .ok (.if_icmp .ne 10, 3) := by decide +kernel
theorem dX3_tell_68 : decode cX3_tell 68 = .ok (.aload_n 0, 1) := by decide +kernel
theorem dX3_tell_69 : decode cX3_tell 69 = .ok (.getfield 32, 3) := by decide +kernel
theorem dX3_tell_72 : decode cX3_tell 72 = .ok (.goto 4, 3) := by decide +kernel
theorem dX3_tell_75 : decode cX3_tell 75 = .ok (.aload_n 2, 1) := by decide +kernel
theorem dX3_tell_76 : decode cX3_tell 76 = .ok (.iload_n 1, 1) := by decide +kernel
theorem dX3_tell_77 : decode cX3_tell 77 = .ok (.iconst 1, 1) := by decide +kernel
theorem dX3_tell_78 : decode cX3_tell 78 = .ok (.if_icmp .ne 7, 3) := by decide +kernel
theorem dX3_tell_81 : decode cX3_tell 81 = .ok (.iconst 0, 1) := by decide +kernel
theorem dX3_tell_82 : decode cX3_tell 82 = .ok (.goto 4, 3) := by decide +kernel
theorem dX3_tell_85 : decode cX3_tell 85 = .ok (.iload_n 3, 1) := by decide +kernel
theorem dX3_tell_86 : decode cX3_tell 86 = .ok (.aload_n 0, 1) := by decide +kernel
theorem dX3_tell_87 : decode cX3_tell 87 = .ok (.getfield 26, 3) := by decide +kernel
theorem dX3_tell_90 : decode cX3_tell 90 = .ok (.bipush 18, 2) := by decide +kernel
theorem dX3_tell_92 : decode cX3_tell 92 = .ok (.bipush 6, 2) := by decide +kernel
theorem dX3_tell_94 : decode cX3_tell 94 = .ok (.invokestatic 88, 3) := by decide +kernel
theorem dX3_tell_97 : decode cX3_tell 97 = .ok (.aload_n 0, 1) := by decide +kernel
theorem dX3_tell_98 : decode cX3_tell 98 = .ok (.getfield 26, 3) := by decide +kernel
theorem dX3_tell_101 : decode cX3_tell 101 = .ok (.bipush 24, 2) := by decide +kernel
theorem dX3_tell_103 : decode cX3_tell 103 = .ok (.iload 4, 2) := by decide +kernel
theorem dX3_tell_105 : decode cX3_tell 105 = .ok (.invokestatic 111, 3) := by decide +kernel
theorem dX3_tell_108 : decode cX3_tell 108 = .ok (.aload_n 0, 1) := by decide +kernel
theorem dX3_tell_109 : decode cX3_tell 109 = .ok (.getfield 35, 3) := by decide +kernel
theorem dX3_tell_112 : decode cX3_tell 112 = .ok (.iload_n 1, 1) := by decide +kernel
theorem dX3_tell_113 : decode cX3_tell 113 = .ok (.iconst 1, 1) := by decide +kernel
theorem dX3_tell_114 : decode cX3_tell 114 = .ok (.if_icmp .ne 10, 3) := by decide +kernel
theorem dX3_tell_117 : decode cX3_tell 117 = .ok (.aload_n 0, 1) := by decide +kernel
theorem dX3_tell_118 : decode cX3_tell 118 = .ok (.getfield 29, 3) := by decide +kernel
theorem dX3_tell_121 : decode cX3_tell 121 = .ok (.goto 4, 3) := by decide +kernel
theorem dX3_tell_124 : decode cX3_tell 124 = .ok (.aload_n 2, 1) := by decide +kernel
theorem dX3_tell_125 : decode cX3_tell 125 = .ok (.iload_n 1, 1) := by decide +kernel
theorem dX3_tell_126 : decode cX3_tell 126 = .ok (.iconst 1, 1) := by decide +kernel
theorem dX3_tell_127 : decode cX3_tell 127 = .ok (.if_icmp .ne 7, 3) := by decide +kernel
theorem dX3_tell_130 : decode cX3_tell 130 = .ok (.iconst 0, 1) := by decide +kernel
theorem dX3_tell_131 : decode cX3_tell 131 = .ok (.goto 4, 3) := by decide +kernel
theorem dX3_tell_134 : decode cX3_tell 134 = .ok (.iload_n 3, 1) := by decide +kernel
theorem dX3_tell_135 : decode cX3_tell 135 = .ok (.sipush 2054, 3) := by decide +kernel
theorem dX3_tell_138 : decode cX3_tell 138 = .ok (.aload_n 0, 1) := by decide +kernel
theorem dX3_tell_139 : decode cX3_tell 139 = .ok (.getfield 26, 3) := by decide +kernel
theorem dX3_tell_142 : decode cX3_tell 142 = .ok (.bipush 28, 2) := by decide +kernel
theorem dX3_tell_144 : decode cX3_tell 144 = .ok (.invokevirtual 107, 3) := by decide +kernel
theorem dX3_tell_147 : decode cX3_tell 147 = .ok (.return_, 1) := by decide +kernel
def rmX3_tell : Room := { frames := 2, cells := 0, slots := 0, locals := 54 }
theorem kX3_tell : yX3_tell.cls = "WebHost$Hops" ∧ yX3_tell.cls ≠ "java/lang/invoke/MethodHandle" ∧ yX3_tell.cls ≠ "java/lang/invoke/VarHandle" ∧ (parseMethodDescriptor yX3_tell.desc).map (fun d => d.parameters.length) = some 4 := by decide +kernel
def w3_tell_J125 (σ : St) (x1 : Int32) (x3 : Int32) (ks0 : Nat) (is0 : Nat) (Q : St → Prop) : Prop := (¬ x1 = 1 → (w2_send σ ks0 is0 x3 2054 32 0 28 (fun σ8 => (Q σ8)))) ∧ (x1 = 1 → (w2_send σ ks0 is0 0 2054 32 0 28 (fun σ9 => (Q σ9))))
set_option maxHeartbeats 4000000 in
theorem k3_tell_J125 {p : Program} {l : Launch} {e : Env} {s : State} {m : MethodId} {args : Array Value} {below : List Frame} {meth : Method} {c : Code} {G : Gh} {a1 : Nat → Nat → Nat} {τ : St} {Q : St → Prop} (C : Cx p e s m args meth c cX3_tell 5 none "WebHost$Hops" G) (σ : St) (x1 : Int32) (x3 : Int32) (ks0 : Nat) (is0 : Nat) (hks0 : abc ks0 is0 = true) (hw : w3_tell_J125 σ x1 x3 ks0 is0 Q) (H : Heap) (locs : List Loc) (ls : Array Slot) (hH : Hd G a1 (cmb σ τ) H) (hS : va_S (gA G) s.heap H locs) (hl : lv_has ls 5 [(0, .ref (ga G 3 0)), (1, .int x1), (3, .int x3)]) : W p l e rmX3_tell s m args below meth c H locs 0 0 (MQ below (QVs G a1 (fun u => cmb u τ) Q) args s 0 0 (gA G)) (F0 m 125 ls [.ref (adr G a1 ks0 is0), .ref (ga G 2 0)]) := by
  have hx := C.1
  have hb := C.2.1
  have hown := C.2.2.2.2.2.1
  have hts := C.2.2.2.2.2.2.1
  refine lv_iload_n hx hb dX3_tell_125 rfl (lv_at hl 1 rfl) ?_
  refine lv_iconst (v := 1) hx hb dX3_tell_126 (by decide) ?_
  refine lv_icmp_ne (tgt := 134) hx hb dX3_tell_127 (by decide) (fun h => ?_) (fun h => ?_)
  · have hw := hw.1 h
    refine lv_iload_n hx hb dX3_tell_134 rfl (lv_at hl 2 rfl) ?_
    refine lv_sipush (v := 2054) hx hb dX3_tell_135 (by decide) ?_
    refine lv_aload_n hx hb dX3_tell_138 rfl (lv_at hl 0 rfl) ?_
    refine g3_10 C hH q290 dX3_tell_139 ?_
    refine lv_bipush (v := 28) hx hb dX3_tell_142 (by decide) ?_
    refine kc_v (rn_v (As := [.ref (adr G a1 ks0 is0), .int x3, .int 2054, .ref (adr G a1 32 0), .int 28]) (rest := []) C hH hS (by decide) rfl (by decide) (m2_send l G a1 τ σ ks0 is0 x3 2054 32 0 28 hks0 (by decide) _ hw) (cwV 5 hts (lw_V q952 q953 q954 q159 q955) rfl rfl rfl kX2_send ⟨Nat.le_of_ble_eq_true rfl, Nat.le_of_ble_eq_true rfl⟩) rfl hl.1 rfl (Nat.le_of_ble_eq_true rfl) dX3_tell_144 ⟨Nat.le_of_ble_eq_true rfl, Nat.le_of_ble_eq_true rfl⟩) hS (fun σ8 H locs hw hH hS => ?_)
    exact rt_v C hH hS hw dX3_tell_147
  have hw := hw.2 h
  refine lv_iconst (v := 0) hx hb dX3_tell_130 (by decide) ?_
  refine lv_goto (tgt := 135) hx hb dX3_tell_131 (by decide) ?_
  refine lv_sipush (v := 2054) hx hb dX3_tell_135 (by decide) ?_
  refine lv_aload_n hx hb dX3_tell_138 rfl (lv_at hl 0 rfl) ?_
  refine g3_10 C hH q290 dX3_tell_139 ?_
  refine lv_bipush (v := 28) hx hb dX3_tell_142 (by decide) ?_
  refine kc_v (rn_v (As := [.ref (adr G a1 ks0 is0), .int 0, .int 2054, .ref (adr G a1 32 0), .int 28]) (rest := []) C hH hS (by decide) rfl (by decide) (m2_send l G a1 τ σ ks0 is0 0 2054 32 0 28 hks0 (by decide) _ hw) (cwV 5 hts (lw_V q952 q953 q954 q159 q955) rfl rfl rfl kX2_send ⟨Nat.le_of_ble_eq_true rfl, Nat.le_of_ble_eq_true rfl⟩) rfl hl.1 rfl (Nat.le_of_ble_eq_true rfl) dX3_tell_144 ⟨Nat.le_of_ble_eq_true rfl, Nat.le_of_ble_eq_true rfl⟩) hS (fun σ9 H locs hw hH hS => ?_)
  exact rt_v C hH hS hw dX3_tell_147
def w3_tell_J86 (σ : St) (x1 : Int32) (k2 : Nat) (i2 : Nat) (x3 : Int32) (x4 : Int32) (xs0 : Int32) (ks1 : Nat) (is1 : Nat) (Q : St → Prop) : Prop := w19_copy σ ks1 is1 xs0 32 0 18 6 (fun σ6 => (w19_putFour σ6 32 0 24 x4 (fun σ7 => ((¬ x1 = 1 → w3_tell_J125 σ7 x1 x3 k2 i2 Q) ∧ (x1 = 1 → w3_tell_J125 σ7 x1 x3 33 0 Q)))))
set_option maxHeartbeats 4000000 in
theorem k3_tell_J86 {p : Program} {l : Launch} {e : Env} {s : State} {m : MethodId} {args : Array Value} {below : List Frame} {meth : Method} {c : Code} {G : Gh} {a1 : Nat → Nat → Nat} {τ : St} {Q : St → Prop} (C : Cx p e s m args meth c cX3_tell 5 none "WebHost$Hops" G) (σ : St) (x1 : Int32) (k2 : Nat) (i2 : Nat) (x3 : Int32) (x4 : Int32) (xs0 : Int32) (ks1 : Nat) (is1 : Nat) (hk2 : abc k2 i2 = true) (hks1 : abc ks1 is1 = true) (hw : w3_tell_J86 σ x1 k2 i2 x3 x4 xs0 ks1 is1 Q) (H : Heap) (locs : List Loc) (ls : Array Slot) (hH : Hd G a1 (cmb σ τ) H) (hS : va_S (gA G) s.heap H locs) (hl : lv_has ls 5 [(0, .ref (ga G 3 0)), (1, .int x1), (2, .ref (adr G a1 k2 i2)), (3, .int x3), (4, .int x4)]) : W p l e rmX3_tell s m args below meth c H locs 0 0 (MQ below (QVs G a1 (fun u => cmb u τ) Q) args s 0 0 (gA G)) (F0 m 86 ls [.int xs0, .ref (adr G a1 ks1 is1)]) := by
  have hx := C.1
  have hb := C.2.1
  have hown := C.2.2.2.2.2.1
  have hts := C.2.2.2.2.2.2.1
  refine lv_aload_n hx hb dX3_tell_86 rfl (lv_at hl 0 rfl) ?_
  refine g3_10 C hH q290 dX3_tell_87 ?_
  refine lv_bipush (v := 18) hx hb dX3_tell_90 (by decide) ?_
  refine lv_bipush (v := 6) hx hb dX3_tell_92 (by decide) ?_
  refine kc_v (rn_s (As := [.ref (adr G a1 ks1 is1), .int xs0, .ref (adr G a1 32 0), .int 18, .int 6]) (rest := []) C hH hS (m19_copy l G a1 τ σ ks1 is1 xs0 32 0 18 6 hks1 (by decide) _ hw) (va_cwS 5 hts (lw_S q951 q806 q176 q807) rfl rfl rfl kX19_copy.2 ⟨Nat.le_of_ble_eq_true rfl, Nat.le_of_ble_eq_true rfl⟩) rfl hl.1 rfl (Nat.le_of_ble_eq_true rfl) dX3_tell_94 ⟨Nat.le_of_ble_eq_true rfl, Nat.le_of_ble_eq_true rfl⟩) hS (fun σ6 H locs hw hH hS => ?_)
  refine lv_aload_n hx hb dX3_tell_97 rfl (lv_at hl 0 rfl) ?_
  refine g3_10 C hH q290 dX3_tell_98 ?_
  refine lv_bipush (v := 24) hx hb dX3_tell_101 (by decide) ?_
  refine lv_iload hx hb dX3_tell_103 (lv_at hl 4 rfl) ?_
  refine kc_v (rn_s (As := [.ref (adr G a1 32 0), .int 24, .int x4]) (rest := []) C hH hS (m19_putFour l G a1 τ σ6 32 0 24 x4 (by decide) _ hw) (va_cwS 3 hts (lw_S q949 q791 q176 q792) rfl rfl rfl kX19_putFour.2 ⟨Nat.le_of_ble_eq_true rfl, Nat.le_of_ble_eq_true rfl⟩) rfl hl.1 rfl (Nat.le_of_ble_eq_true rfl) dX3_tell_105 ⟨Nat.le_of_ble_eq_true rfl, Nat.le_of_ble_eq_true rfl⟩) hS (fun σ7 H locs hw hH hS => ?_)
  refine lv_aload_n hx hb dX3_tell_108 rfl (lv_at hl 0 rfl) ?_
  refine g3_0 C hH q279 dX3_tell_109 ?_
  refine lv_iload_n hx hb dX3_tell_112 rfl (lv_at hl 1 rfl) ?_
  refine lv_iconst (v := 1) hx hb dX3_tell_113 (by decide) ?_
  refine lv_icmp_ne (tgt := 124) hx hb dX3_tell_114 (by decide) (fun h => ?_) (fun h => ?_)
  · have hw := hw.1 h
    refine lv_aload_n hx hb dX3_tell_124 rfl (lv_at hl 2 rfl) ?_
    exact k3_tell_J125 C σ7 x1 x3 k2 i2 hk2 hw H locs ls hH hS (lv_sub hl [0, 1, 3] rfl)
  have hw := hw.2 h
  refine lv_aload_n hx hb dX3_tell_117 rfl (lv_at hl 0 rfl) ?_
  refine g3_11 C hH q291 dX3_tell_118 ?_
  refine lv_goto (tgt := 125) hx hb dX3_tell_121 (by decide) ?_
  exact k3_tell_J125 C σ7 x1 x3 33 0 (by decide) hw H locs ls hH hS (lv_sub hl [0, 1, 3] rfl)
def w3_tell (σ : St) (x1 : Int32) (k2 : Nat) (i2 : Nat) (x3 : Int32) (x4 : Int32) (Q : St → Prop) : Prop := w19_putFour σ 32 0 0 67584 (fun σ1 => (w19_putTwo σ1 32 0 4 1540 (fun σ2 => (w19_putTwo σ2 32 0 6 x1 (fun σ3 => (w19_copy σ3 27 0 0 32 0 8 6 (fun σ4 => (w19_putFour σ4 32 0 14 (σ4 3 0 1) (fun σ5 => ((¬ x1 = 1 → ((¬ x1 = 1 → w3_tell_J86 σ5 x1 k2 i2 x3 x4 x3 k2 i2 Q) ∧ (x1 = 1 → w3_tell_J86 σ5 x1 k2 i2 x3 x4 0 k2 i2 Q))) ∧ (x1 = 1 → ((¬ x1 = 1 → w3_tell_J86 σ5 x1 k2 i2 x3 x4 x3 34 0 Q) ∧ (x1 = 1 → w3_tell_J86 σ5 x1 k2 i2 x3 x4 0 34 0 Q)))))))))))))
set_option maxHeartbeats 4000000 in
theorem m3_tell (l : Launch) (G : Gh) (a1 : Nat → Nat → Nat) (τ : St) (σ : St) (x1 : Int32) (k2 : Nat) (i2 : Nat) (x3 : Int32) (x4 : Int32) (hk2 : abc k2 i2 = true) (Q : St → Prop) (hw : w3_tell σ x1 k2 i2 x3 x4 Q) : Met l yX3_tell (ws_ yX3_tell cX3_tell 5 none) rmX3_tell (PcS G a1 (cmb σ τ) [.ref (ga G 3 0), .int x1, .ref (adr G a1 k2 i2), .int x3, .int x4]) (QVs G a1 (fun u => cmb u τ) Q) 0 0 (gA G) := by
  refine met_w (by decide) (Nat.le_of_ble_eq_true rfl) ?_
  intro p e s m below meth c ls C hH hS hl
  have C : Cx p e s m _ meth c cX3_tell 5 none "WebHost$Hops" G := C
  have hl : lv_has ls 5 [(0, .ref (ga G 3 0)), (1, .int x1), (2, .ref (adr G a1 k2 i2)), (3, .int x3), (4, .int x4)] := hl
  have hx := C.1
  have hb := C.2.1
  have hown := C.2.2.2.2.2.1
  have hts := C.2.2.2.2.2.2.1
  obtain ⟨locs, hlocs⟩ : ∃ z : List Loc, z = [] := ⟨_, rfl⟩
  obtain ⟨H, hHe⟩ : ∃ z : Heap, z = s.heap := ⟨_, rfl⟩
  have hH : Hd G a1 (cmb σ τ) H := by rw [hHe]; exact hH
  have hS : va_S (gA G) s.heap H locs := by rw [hHe, hlocs]; exact hS
  refine W.heap0 hHe.symm hlocs.symm ?_
  refine lv_aload_n hx hb dX3_tell_0 rfl (lv_at hl 0 rfl) ?_
  refine g3_10 C hH q290 dX3_tell_1 ?_
  refine lv_iconst (v := 0) hx hb dX3_tell_4 (by decide) ?_
  refine lv_ldc (v := 67584) hx hb hown (hts _ q948) dX3_tell_5 ?_
  refine kc_v (rn_s (As := [.ref (adr G a1 32 0), .int 0, .int 67584]) (rest := []) C hH hS (m19_putFour l G a1 τ σ 32 0 0 67584 (by decide) _ hw) (va_cwS 3 hts (lw_S q949 q791 q176 q792) rfl rfl rfl kX19_putFour.2 ⟨Nat.le_of_ble_eq_true rfl, Nat.le_of_ble_eq_true rfl⟩) rfl hl.1 rfl (Nat.le_of_ble_eq_true rfl) dX3_tell_7 ⟨Nat.le_of_ble_eq_true rfl, Nat.le_of_ble_eq_true rfl⟩) hS (fun σ1 H locs hw hH hS => ?_)
  refine lv_aload_n hx hb dX3_tell_10 rfl (lv_at hl 0 rfl) ?_
  refine g3_10 C hH q290 dX3_tell_11 ?_
  refine lv_iconst (v := 4) hx hb dX3_tell_14 (by decide) ?_
  refine lv_sipush (v := 1540) hx hb dX3_tell_15 (by decide) ?_
  refine kc_v (rn_s (As := [.ref (adr G a1 32 0), .int 4, .int 1540]) (rest := []) C hH hS (m19_putTwo l G a1 τ σ1 32 0 4 1540 (by decide) _ hw) (va_cwS 3 hts (lw_S q950 q794 q176 q795) rfl rfl rfl kX19_putTwo.2 ⟨Nat.le_of_ble_eq_true rfl, Nat.le_of_ble_eq_true rfl⟩) rfl hl.1 rfl (Nat.le_of_ble_eq_true rfl) dX3_tell_18 ⟨Nat.le_of_ble_eq_true rfl, Nat.le_of_ble_eq_true rfl⟩) hS (fun σ2 H locs hw hH hS => ?_)
  refine lv_aload_n hx hb dX3_tell_21 rfl (lv_at hl 0 rfl) ?_
  refine g3_10 C hH q290 dX3_tell_22 ?_
  refine lv_bipush (v := 6) hx hb dX3_tell_25 (by decide) ?_
  refine lv_iload_n hx hb dX3_tell_27 rfl (lv_at hl 1 rfl) ?_
  refine kc_v (rn_s (As := [.ref (adr G a1 32 0), .int 6, .int x1]) (rest := []) C hH hS (m19_putTwo l G a1 τ σ2 32 0 6 x1 (by decide) _ hw) (va_cwS 3 hts (lw_S q950 q794 q176 q795) rfl rfl rfl kX19_putTwo.2 ⟨Nat.le_of_ble_eq_true rfl, Nat.le_of_ble_eq_true rfl⟩) rfl hl.1 rfl (Nat.le_of_ble_eq_true rfl) dX3_tell_28 ⟨Nat.le_of_ble_eq_true rfl, Nat.le_of_ble_eq_true rfl⟩) hS (fun σ3 H locs hw hH hS => ?_)
  refine lv_aload_n hx hb dX3_tell_31 rfl (lv_at hl 0 rfl) ?_
  refine g3_0 C hH q279 dX3_tell_32 ?_
  refine g2_5 C hH q232 dX3_tell_35 ?_
  refine lv_iconst (v := 0) hx hb dX3_tell_38 (by decide) ?_
  refine lv_aload_n hx hb dX3_tell_39 rfl (lv_at hl 0 rfl) ?_
  refine g3_10 C hH q290 dX3_tell_40 ?_
  refine lv_bipush (v := 8) hx hb dX3_tell_43 (by decide) ?_
  refine lv_bipush (v := 6) hx hb dX3_tell_45 (by decide) ?_
  refine kc_v (rn_s (As := [.ref (adr G a1 27 0), .int 0, .ref (adr G a1 32 0), .int 8, .int 6]) (rest := []) C hH hS (m19_copy l G a1 τ σ3 27 0 0 32 0 8 6 (by decide) (by decide) _ hw) (va_cwS 5 hts (lw_S q951 q806 q176 q807) rfl rfl rfl kX19_copy.2 ⟨Nat.le_of_ble_eq_true rfl, Nat.le_of_ble_eq_true rfl⟩) rfl hl.1 rfl (Nat.le_of_ble_eq_true rfl) dX3_tell_47 ⟨Nat.le_of_ble_eq_true rfl, Nat.le_of_ble_eq_true rfl⟩) hS (fun σ4 H locs hw hH hS => ?_)
  refine lv_aload_n hx hb dX3_tell_50 rfl (lv_at hl 0 rfl) ?_
  refine g3_10 C hH q290 dX3_tell_51 ?_
  refine lv_bipush (v := 14) hx hb dX3_tell_54 (by decide) ?_
  refine lv_aload_n hx hb dX3_tell_56 rfl (lv_at hl 0 rfl) ?_
  refine g3_1 C hH q280 dX3_tell_57 ?_
  refine kc_v (rn_s (As := [.ref (adr G a1 32 0), .int 14, .int (σ4 3 0 1)]) (rest := []) C hH hS (m19_putFour l G a1 τ σ4 32 0 14 (σ4 3 0 1) (by decide) _ hw) (va_cwS 3 hts (lw_S q949 q791 q176 q792) rfl rfl rfl kX19_putFour.2 ⟨Nat.le_of_ble_eq_true rfl, Nat.le_of_ble_eq_true rfl⟩) rfl hl.1 rfl (Nat.le_of_ble_eq_true rfl) dX3_tell_60 ⟨Nat.le_of_ble_eq_true rfl, Nat.le_of_ble_eq_true rfl⟩) hS (fun σ5 H locs hw hH hS => ?_)
  refine lv_iload_n hx hb dX3_tell_63 rfl (lv_at hl 1 rfl) ?_
  refine lv_iconst (v := 1) hx hb dX3_tell_64 (by decide) ?_
  refine lv_icmp_ne (tgt := 75) hx hb dX3_tell_65 (by decide) (fun h => ?_) (fun h => ?_)
  · have hw := hw.1 h
    refine lv_aload_n hx hb dX3_tell_75 rfl (lv_at hl 2 rfl) ?_
    refine lv_iload_n hx hb dX3_tell_76 rfl (lv_at hl 1 rfl) ?_
    refine lv_iconst (v := 1) hx hb dX3_tell_77 (by decide) ?_
    refine lv_icmp_ne (tgt := 85) hx hb dX3_tell_78 (by decide) (fun h => ?_) (fun h => ?_)
    · have hw := hw.1 h
      refine lv_iload_n hx hb dX3_tell_85 rfl (lv_at hl 3 rfl) ?_
      exact k3_tell_J86 C σ5 x1 k2 i2 x3 x4 x3 k2 i2 hk2 hk2 hw H locs ls hH hS (lv_sub hl [0, 1, 2, 3, 4] rfl)
    have hw := hw.2 h
    refine lv_iconst (v := 0) hx hb dX3_tell_81 (by decide) ?_
    refine lv_goto (tgt := 86) hx hb dX3_tell_82 (by decide) ?_
    exact k3_tell_J86 C σ5 x1 k2 i2 x3 x4 0 k2 i2 hk2 hk2 hw H locs ls hH hS (lv_sub hl [0, 1, 2, 3, 4] rfl)
  have hw := hw.2 h
  refine lv_aload_n hx hb dX3_tell_68 rfl (lv_at hl 0 rfl) ?_
  refine g3_12 C hH q292 dX3_tell_69 ?_
  refine lv_goto (tgt := 76) hx hb dX3_tell_72 (by decide) ?_
  refine lv_iload_n hx hb dX3_tell_76 rfl (lv_at hl 1 rfl) ?_
  refine lv_iconst (v := 1) hx hb dX3_tell_77 (by decide) ?_
  refine lv_icmp_ne (tgt := 85) hx hb dX3_tell_78 (by decide) (fun h => ?_) (fun h => ?_)
  · have hw := hw.1 h
    refine lv_iload_n hx hb dX3_tell_85 rfl (lv_at hl 3 rfl) ?_
    exact k3_tell_J86 C σ5 x1 k2 i2 x3 x4 x3 34 0 hk2 (by decide) hw H locs ls hH hS (lv_sub hl [0, 1, 2, 3, 4] rfl)
  have hw := hw.2 h
  refine lv_iconst (v := 0) hx hb dX3_tell_81 (by decide) ?_
  refine lv_goto (tgt := 86) hx hb dX3_tell_82 (by decide) ?_
  exact k3_tell_J86 C σ5 x1 k2 i2 x3 x4 0 34 0 hk2 (by decide) hw H locs ls hH hS (lv_sub hl [0, 1, 2, 3, 4] rfl)
/-! WebHost$Segment.read([BIIII)Z -/
abbrev cX10_read : ByteArray := prog_12_method_5_code
def yX10_read : MethodName := ⟨RX10, "read", "([BIIII)Z"⟩
theorem dX10_read_0 : decode cX10_read 0 = .ok (.iload_n 3, 1) := by decide +kernel
theorem dX10_read_1 : decode cX10_read 1 = .ok (.bipush 20, 2) := by decide +kernel
theorem dX10_read_3 : decode cX10_read 3 = .ok (.if_icmp .ge 5, 3) := by decide +kernel
theorem dX10_read_6 : decode cX10_read 6 = .ok (.iconst 0, 1) := by decide +kernel
theorem dX10_read_7 : decode cX10_read 7 = .ok (.ireturn, 1) := by decide +kernel
theorem dX10_read_8 : decode cX10_read 8 = .ok (.aload_n 1, 1) := by decide +kernel
theorem dX10_read_9 : decode cX10_read 9 = .ok (.iload_n 2, 1) := by decide +kernel
theorem dX10_read_10 : decode cX10_read 10 = .ok (.bipush 12, 2) := by decide +kernel
theorem dX10_read_12 : decode cX10_read 12 = .ok (.iadd, 1) := by decide +kernel
theorem dX10_read_13 : decode cX10_read 13 = .ok (.baload, 1) := by decide +kernel
theorem dX10_read_14 : decode cX10_read 14 = .ok (.iconst 4, 1) := by decide +kernel
theorem dX10_read_15 : decode cX10_read 15 = .ok (.ishr, 1) := by decide +kernel
theorem dX10_read_16 : decode cX10_read 16 = .ok (.bipush 15, 2) := by decide +kernel
theorem dX10_read_18 : decode cX10_read 18 = .ok (.iand, 1) := by decide +kernel
theorem dX10_read_19 : decode cX10_read 19 = .ok (.iconst 4, 1) := by decide +kernel
theorem dX10_read_20 : decode cX10_read 20 = .ok (.imul, 1) := by decide +kernel
theorem dX10_read_21 : decode cX10_read 21 = .ok (.istore 6, 2) := by decide +kernel
theorem dX10_read_23 : decode cX10_read 23 = .ok (.iload 6, 2) := by decide +kernel
theorem dX10_read_25 : decode cX10_read 25 = .ok (.bipush 20, 2) := by decide +kernel
theorem dX10_read_27 : decode cX10_read 27 = .ok (.if_icmp .lt 9, 3) := by decide +kernel
theorem dX10_read_30 : decode cX10_read 30 = .ok (.iload 6, 2) := by decide +kernel
theorem dX10_read_32 : decode cX10_read 32 = .ok (.iload_n 3, 1) := by decide +kernel
theorem dX10_read_33 : decode cX10_read 33 = .ok (.if_icmp .le 5, 3) := by decide +kernel
theorem dX10_read_36 : decode cX10_read 36 = .ok (.iconst 0, 1) := by decide +kernel
theorem dX10_read_37 : decode cX10_read 37 = .ok (.ireturn, 1) := by decide +kernel
theorem dX10_read_38 : decode cX10_read 38 = .ok (.iload 4, 2) := by decide +kernel
theorem dX10_read_40 : decode cX10_read 40 = .ok (.bipush 16, 2) := by decide +kernel
theorem dX10_read_42 : decode cX10_read 42 = .ok (.iushr, 1) := by decide +kernel
theorem dX10_read_43 : decode cX10_read 43 = .ok (.iload 4, 2) := by decide +kernel
theorem dX10_read_45 : decode cX10_read 45 = .ok (.ldc 25, 2) := by decide +kernel
theorem dX10_read_47 : decode cX10_read 47 = .ok (.iand, 1) := by decide +kernel
theorem dX10_read_48 : decode cX10_read 48 = .ok (.iadd, 1) := by decide +kernel
theorem dX10_read_49 : decode cX10_read 49 = .ok (.iload 5, 2) := by decide +kernel
theorem dX10_read_51 : decode cX10_read 51 = .ok (.bipush 16, 2) := by decide +kernel
theorem dX10_read_53 : decode cX10_read 53 = .ok (.iushr, 1) := by decide +kernel
theorem dX10_read_54 : decode cX10_read 54 = .ok (.iadd, 1) := by decide +kernel
theorem dX10_read_55 : decode cX10_read 55 = .ok (.iload 5, 2) := by decide +kernel
theorem dX10_read_57 : decode cX10_read 57 = .ok (.ldc 25, 2) := by decide +kernel
theorem dX10_read_59 : decode cX10_read 59 = .ok (.iand, 1) := by decide +kernel
theorem dX10_read_60 : decode cX10_read 60 = .ok (.iadd, 1) := by decide +kernel
theorem dX10_read_61 : decode cX10_read 61 = .ok (.bipush 6, 2) := by decide +kernel
theorem dX10_read_63 : decode cX10_read 63 = .ok (.iadd, 1) := by decide +kernel
theorem dX10_read_64 : decode cX10_read 64 = .ok (.iload_n 3, 1) := by decide +kernel
theorem dX10_read_65 : decode cX10_read 65 = .ok (.iadd, 1) := by decide +kernel
theorem dX10_read_66 : decode cX10_read 66 = .ok (.istore 7, 2) := by decide +kernel
theorem dX10_read_68 : decode cX10_read 68 = .ok (.iload 7, 2) := by decide +kernel
theorem dX10_read_70 : decode cX10_read 70 = .ok (.aload_n 1, 1) := by decide +kernel
theorem dX10_read_71 : decode cX10_read 71 = .ok (.iload_n 2, 1) := by decide +kernel
theorem dX10_read_72 : decode cX10_read 72 = .ok (.iload_n 3, 1) := by decide +kernel
theorem dX10_read_73 : decode cX10_read 73 = .ok (.invokestatic 26, 3) := by decide +kernel
theorem dX10_read_76 : decode cX10_read 76 = .ok (.invokestatic 32, 3) := by decide +kernel
theorem dX10_read_79 : decode cX10_read 79 = .ok (.ifCond .eq 5, 3) := by decide +kernel
theorem dX10_read_82 : decode cX10_read 82 = .ok (.iconst 0, 1) := by decide +kernel
theorem dX10_read_83 : decode cX10_read 83 = .ok (.ireturn, 1) := by decide +kernel
theorem dX10_read_84 : decode cX10_read 84 = .ok (.aload_n 0, 1) := by decide +kernel
theorem dX10_read_85 : decode cX10_read 85 = .ok (.iload 4, 2) := by decide +kernel
theorem dX10_read_87 : decode cX10_read 87 = .ok (.putfield 36, 3) := by decide +kernel
theorem dX10_read_90 : decode cX10_read 90 = .ok (.aload_n 0, 1) := by decide +kernel
theorem dX10_read_91 : decode cX10_read 91 = .ok (.aload_n 1, 1) := by decide +kernel
theorem dX10_read_92 : decode cX10_read 92 = .ok (.iload_n 2, 1) := by decide +kernel
theorem dX10_read_93 : decode cX10_read 93 = .ok (.invokestatic 39, 3) := by decide +kernel
theorem dX10_read_96 : decode cX10_read 96 = .ok (.putfield 43, 3) := by decide +kernel
theorem dX10_read_99 : decode cX10_read 99 = .ok (.aload_n 0, 1) := by decide +kernel
theorem dX10_read_100 : decode cX10_read 100 = .ok (.aload_n 1, 1) := by decide +kernel
theorem dX10_read_101 : decode cX10_read 101 = .ok (.iload_n 2, 1) := by decide +kernel
theorem dX10_read_102 : decode cX10_read 102 = .ok (.iconst 2, 1) := by decide +kernel
theorem dX10_read_103 : decode cX10_read 103 = .ok (.iadd, 1) := by decide +kernel
theorem dX10_read_104 : decode cX10_read 104 = .ok (.invokestatic 39, 3) := by decide +kernel
theorem dX10_read_107 : decode cX10_read 107 = .ok (.putfield 46, 3) := by decide +kernel
theorem dX10_read_110 : decode cX10_read 110 = .ok (.aload_n 0, 1) := by decide +kernel
theorem dX10_read_111 : decode cX10_read 111 = .ok (.aload_n 1, 1) := by decide +kernel
theorem dX10_read_112 : decode cX10_read 112 = .ok (.iload_n 2, 1) := by decide +kernel
theorem dX10_read_113 : decode cX10_read 113 = .ok (.iconst 4, 1) := by decide +kernel
theorem dX10_read_114 : decode cX10_read 114 = .ok (.iadd, 1) := by decide +kernel
theorem dX10_read_115 : decode cX10_read 115 = .ok (.invokestatic 49, 3) := by decide +kernel
theorem dX10_read_118 : decode cX10_read 118 = .ok (.putfield 22, 3) := by decide +kernel
theorem dX10_read_121 : decode cX10_read 121 = .ok (.aload_n 0, 1) := by decide +kernel
theorem dX10_read_122 : decode cX10_read 122 = .ok (.aload_n 1, 1) := by decide +kernel
theorem dX10_read_123 : decode cX10_read 123 = .ok (.iload_n 2, 1) := by decide +kernel
theorem dX10_read_124 : decode cX10_read 124 = .ok (.bipush 8, 2) := by decide +kernel
theorem dX10_read_126 : decode cX10_read 126 = .ok (.iadd, 1) := by decide +kernel
theorem dX10_read_127 : decode cX10_read 127 = .ok (.invokestatic 49, 3) := by decide +kernel
theorem dX10_read_130 : decode cX10_read 130 = .ok (.putfield 52, 3) := by decide +kernel
theorem dX10_read_133 : decode cX10_read 133 = .ok (.aload_n 0, 1) := by decide +kernel
theorem dX10_read_134 : decode cX10_read 134 = .ok (.aload_n 1, 1) := by decide +kernel
theorem dX10_read_135 : decode cX10_read 135 = .ok (.iload_n 2, 1) := by decide +kernel
theorem dX10_read_136 : decode cX10_read 136 = .ok (.bipush 13, 2) := by decide +kernel
theorem dX10_read_138 : decode cX10_read 138 = .ok (.iadd, 1) := by decide +kernel
theorem dX10_read_139 : decode cX10_read 139 = .ok (.baload, 1) := by decide +kernel
theorem dX10_read_140 : decode cX10_read 140 = .ok (.bipush 31, 2) := by decide +kernel
theorem dX10_read_142 : decode cX10_read 142 = .ok (.iand, 1) := by decide +kernel
theorem dX10_read_143 : decode cX10_read 143 = .ok (.putfield 9, 3) := by decide +kernel
theorem dX10_read_146 : decode cX10_read 146 = .ok (.aload_n 0, 1) := by decide +kernel
theorem dX10_read_147 : decode cX10_read 147 = .ok (.aload_n 1, 1) := by decide +kernel
theorem dX10_read_148 : decode cX10_read 148 = .ok (.iload_n 2, 1) := by decide +kernel
theorem dX10_read_149 : decode cX10_read 149 = .ok (.bipush 14, 2) := by decide +kernel
theorem dX10_read_151 : decode cX10_read 151 = .ok (.iadd, 1) := by decide +kernel
theorem dX10_read_152 : decode cX10_read 152 = .ok (.invokestatic 39, 3) := by decide +kernel
theorem dX10_read_155 : decode cX10_read 155 = .ok (.putfield 55, 3) := by decide +kernel
theorem dX10_read_158 : decode cX10_read 158 = .ok (.aload_n 0, 1) := by decide +kernel
theorem dX10_read_159 : decode cX10_read 159 = .ok (.aload_n 1, 1) := by decide +kernel
theorem dX10_read_160 : decode cX10_read 160 = .ok (.putfield 58, 3) := by decide +kernel
theorem dX10_read_163 : decode cX10_read 163 = .ok (.aload_n 0, 1) := by decide +kernel
theorem dX10_read_164 : decode cX10_read 164 = .ok (.iload_n 2, 1) := by decide +kernel
theorem dX10_read_165 : decode cX10_read 165 = .ok (.iload 6, 2) := by decide +kernel
theorem dX10_read_167 : decode cX10_read 167 = .ok (.iadd, 1) := by decide +kernel
theorem dX10_read_168 : decode cX10_read 168 = .ok (.putfield 62, 3) := by decide +kernel
theorem dX10_read_171 : decode cX10_read 171 = .ok (.aload_n 0, 1) := by decide +kernel
theorem dX10_read_172 : decode cX10_read 172 = .ok (.iload_n 3, 1) := by decide +kernel
theorem dX10_read_173 : decode cX10_read 173 = .ok (.iload 6, 2) := by decide +kernel
theorem dX10_read_175 : decode cX10_read 175 = .ok (.isub, 1) := by decide +kernel
theorem dX10_read_176 : decode cX10_read 176 = .ok (.putfield 15, 3) := by decide +kernel
theorem dX10_read_179 : decode cX10_read 179 = .ok (.aload_n 0, 1) := by decide +kernel
theorem dX10_read_180 : decode cX10_read 180 = .ok (.aload_n 0, 1) := by decide +kernel
theorem dX10_read_181 : decode cX10_read 181 = .ok (.iload_n 2, 1) := by decide +kernel
theorem dX10_read_182 : decode cX10_read 182 = .ok (.bipush 20, 2) := by decide +kernel
theorem dX10_read_184 : decode cX10_read 184 = .ok (.iadd, 1) := by decide +kernel
theorem dX10_read_185 : decode cX10_read 185 = .ok (.iload_n 2, 1) := by decide +kernel
theorem dX10_read_186 : decode cX10_read 186 = .ok (.iload 6, 2) := by decide +kernel
theorem dX10_read_188 : decode cX10_read 188 = .ok (.iadd, 1) := by decide +kernel
theorem dX10_read_189 : decode cX10_read 189 = .ok (.invokevirtual 65, 3) := by decide +kernel
theorem dX10_read_192 : decode cX10_read 192 = .ok (.putfield 69, 3) := by decide +kernel
theorem dX10_read_195 : decode cX10_read 195 = .ok (.iconst 1, 1) := by decide +kernel
theorem dX10_read_196 : decode cX10_read 196 = .ok (.ireturn, 1) := by decide +kernel
def rmX10_read : Room := { frames := 2, cells := 0, slots := 0, locals := 48 }
theorem kX10_read : yX10_read.cls = "WebHost$Segment" ∧ yX10_read.cls ≠ "java/lang/invoke/MethodHandle" ∧ yX10_read.cls ≠ "java/lang/invoke/VarHandle" ∧ (parseMethodDescriptor yX10_read.desc).map (fun d => d.parameters.length) = some 5 := by decide +kernel
def w10_read (σ : St) (k1 : Nat) (i1 : Nat) (x2 : Int32) (x3 : Int32) (x4 : Int32) (x5 : Int32) (Q : Int32 → St → Prop) : Prop := (20 ≤ x3 → (vp_in (x2 + 12) (alen σ k1 i1) ∧ (by8 (σ k1 i1 (x2 + 12).toNatClampNeg) → ((((((σ k1 i1 (x2 + 12).toNatClampNeg) >>> ((4 : Int32) &&& 31)) &&& 15) * 4) < 20 → Q 0 σ) ∧ (¬ ((((σ k1 i1 (x2 + 12).toNatClampNeg) >>> ((4 : Int32) &&& 31)) &&& 15) * 4) < 20 → ((((((σ k1 i1 (x2 + 12).toNatClampNeg) >>> ((4 : Int32) &&& 31)) &&& 15) * 4) ≤ x3 → (w19_added σ ((((((ushr x4 16) + (x4 &&& 65535)) + (ushr x5 16)) + (x5 &&& 65535)) + 6) + x3) k1 i1 x2 x3 (fun r1 => (w19_folded σ r1 (fun r2 => ((r2 = 0 → (∀ σ3, σ3 = up3 σ 10 0 0 x4 → (w19_two σ3 k1 i1 x2 (fun r4 => (∀ σ5, σ5 = up3 σ3 10 0 1 r4 → (w19_two σ5 k1 i1 (x2 + 2) (fun r6 => (∀ σ7, σ7 = up3 σ5 10 0 2 r6 → (w19_four σ7 k1 i1 (x2 + 4) (fun r8 => (∀ σ9, σ9 = up3 σ7 10 0 3 r8 → (w19_four σ9 k1 i1 (x2 + 8) (fun r10 => (∀ σ11, σ11 = up3 σ9 10 0 4 r10 → (vp_in (x2 + 13) (alen σ11 k1 i1) ∧ (by8 (σ11 k1 i1 (x2 + 13).toNatClampNeg) → (∀ σ12, σ12 = up3 σ11 10 0 5 ((σ11 k1 i1 (x2 + 13).toNatClampNeg) &&& 31) → (w19_two σ12 k1 i1 (x2 + 14) (fun r13 => (∀ σ14, σ14 = up3 σ12 10 0 6 r13 → (∀ σ15, σ15 = up3 (up3 σ14 10 0 7 (nI k1)) 10 0 107 (nI i1) → (∀ σ16, σ16 = up3 σ15 10 0 8 (x2 + ((((σ k1 i1 (x2 + 12).toNatClampNeg) >>> ((4 : Int32) &&& 31)) &&& 15) * 4)) → (∀ σ17, σ17 = up3 σ16 10 0 9 (x3 - ((((σ k1 i1 (x2 + 12).toNatClampNeg) >>> ((4 : Int32) &&& 31)) &&& 15) * 4)) → (w10_option σ17 (x2 + 20) (x2 + ((((σ k1 i1 (x2 + 12).toNatClampNeg) >>> ((4 : Int32) &&& 31)) &&& 15) * 4)) (fun r18 => (∀ σ19, σ19 = up3 σ17 10 0 10 r18 → (Q 1 σ19))))))))))))))))))))))))))) ∧ (¬ r2 = 0 → Q 0 σ))))))) ∧ (¬ ((((σ k1 i1 (x2 + 12).toNatClampNeg) >>> ((4 : Int32) &&& 31)) &&& 15) * 4) ≤ x3 → Q 0 σ))))))) ∧ (¬ 20 ≤ x3 → Q 0 σ)
set_option maxHeartbeats 4000000 in
theorem m10_read (l : Launch) (G : Gh) (a1 : Nat → Nat → Nat) (τ : St) (σ : St) (k1 : Nat) (i1 : Nat) (x2 : Int32) (x3 : Int32) (x4 : Int32) (x5 : Int32) (hk1 : abc k1 i1 = true) (Q : Int32 → St → Prop) (hw : w10_read σ k1 i1 x2 x3 x4 x5 Q) : Met l yX10_read (ws_ yX10_read cX10_read 8 (some .boolean)) rmX10_read (PcS G a1 (cmb σ τ) [.ref (ga G 10 0), .ref (adr G a1 k1 i1), .int x2, .int x3, .int x4, .int x5]) (QIs G a1 (fun u => cmb u τ) Q) 0 0 (gA G) := by
  refine met_w (by decide) (Nat.le_of_ble_eq_true rfl) ?_
  intro p e s m below meth c ls C hH hS hl
  have C : Cx p e s m _ meth c cX10_read 8 (some .boolean) "WebHost$Segment" G := C
  have hl : lv_has ls 8 [(0, .ref (ga G 10 0)), (1, .ref (adr G a1 k1 i1)), (2, .int x2), (3, .int x3), (4, .int x4), (5, .int x5)] := hl
  have hx := C.1
  have hb := C.2.1
  have hown := C.2.2.2.2.2.1
  have hts := C.2.2.2.2.2.2.1
  obtain ⟨locs, hlocs⟩ : ∃ z : List Loc, z = [] := ⟨_, rfl⟩
  obtain ⟨H, hHe⟩ : ∃ z : Heap, z = s.heap := ⟨_, rfl⟩
  have hH : Hd G a1 (cmb σ τ) H := by rw [hHe]; exact hH
  have hS : va_S (gA G) s.heap H locs := by rw [hHe, hlocs]; exact hS
  refine W.heap0 hHe.symm hlocs.symm ?_
  refine lv_iload_n hx hb dX10_read_0 rfl (lv_at hl 3 rfl) ?_
  refine lv_bipush (v := 20) hx hb dX10_read_1 (by decide) ?_
  refine lv_icmp_ge (tgt := 8) hx hb dX10_read_3 (by decide) (fun h => ?_) (fun h => ?_)
  · have hw := hw.1 h
    refine lv_aload_n hx hb dX10_read_8 rfl (lv_at hl 1 rfl) ?_
    refine lv_iload_n hx hb dX10_read_9 rfl (lv_at hl 2 rfl) ?_
    refine lv_bipush (v := 12) hx hb dX10_read_10 (by decide) ?_
    refine lv_iadd hx hb dX10_read_12 ?_
    refine lb_c C hH hk1 rfl hw.1 dX10_read_13 (fun hz => ?_)
    have hw := hw.2 hz
    refine lv_iconst (v := 4) hx hb dX10_read_14 (by decide) ?_
    refine lv_ishr hx hb dX10_read_15 ?_
    refine lv_bipush (v := 15) hx hb dX10_read_16 (by decide) ?_
    refine lv_iand hx hb dX10_read_18 ?_
    refine lv_iconst (v := 4) hx hb dX10_read_19 (by decide) ?_
    refine lv_imul hx hb dX10_read_20 ?_
    refine lv_istore (lv' := [(6, .int ((((σ k1 i1 (x2 + 12).toNatClampNeg) >>> ((4 : Int32) &&& 31)) &&& 15) * 4)), (0, .ref (ga G 10 0)), (1, .ref (adr G a1 k1 i1)), (2, .int x2), (3, .int x3), (4, .int x4), (5, .int x5)]) hx hb dX10_read_21 hl (by decide) rfl (fun ls hl => ?_)
    refine lv_iload hx hb dX10_read_23 (lv_at hl 0 rfl) ?_
    refine lv_bipush (v := 20) hx hb dX10_read_25 (by decide) ?_
    refine lv_icmp_lt (tgt := 36) hx hb dX10_read_27 (by decide) (fun h => ?_) (fun h => ?_)
    · have hw := hw.1 h
      refine lv_iconst (v := 0) hx hb dX10_read_36 (by decide) ?_
      exact rt_i C rfl hH hS hw dX10_read_37
    have hw := hw.2 h
    refine lv_iload hx hb dX10_read_30 (lv_at hl 0 rfl) ?_
    refine lv_iload_n hx hb dX10_read_32 rfl (lv_at hl 4 rfl) ?_
    refine lv_icmp_le (tgt := 38) hx hb dX10_read_33 (by decide) (fun h => ?_) (fun h => ?_)
    · have hw := hw.1 h
      refine lv_iload hx hb dX10_read_38 (lv_at hl 5 rfl) ?_
      refine lv_bipush (v := 16) hx hb dX10_read_40 (by decide) ?_
      refine lv_iushr (v := ushr x4 16) hx hb dX10_read_42 rfl ?_
      refine lv_iload hx hb dX10_read_43 (lv_at hl 5 rfl) ?_
      refine lv_ldc (v := 65535) hx hb hown (hts _ q1117) dX10_read_45 ?_
      refine lv_iand hx hb dX10_read_47 ?_
      refine lv_iadd hx hb dX10_read_48 ?_
      refine lv_iload hx hb dX10_read_49 (lv_at hl 6 rfl) ?_
      refine lv_bipush (v := 16) hx hb dX10_read_51 (by decide) ?_
      refine lv_iushr (v := ushr x5 16) hx hb dX10_read_53 rfl ?_
      refine lv_iadd hx hb dX10_read_54 ?_
      refine lv_iload hx hb dX10_read_55 (lv_at hl 6 rfl) ?_
      refine lv_ldc (v := 65535) hx hb hown (hts _ q1117) dX10_read_57 ?_
      refine lv_iand hx hb dX10_read_59 ?_
      refine lv_iadd hx hb dX10_read_60 ?_
      refine lv_bipush (v := 6) hx hb dX10_read_61 (by decide) ?_
      refine lv_iadd hx hb dX10_read_63 ?_
      refine lv_iload_n hx hb dX10_read_64 rfl (lv_at hl 4 rfl) ?_
      refine lv_iadd hx hb dX10_read_65 ?_
      refine lv_istore (lv' := [(7, .int ((((((ushr x4 16) + (x4 &&& 65535)) + (ushr x5 16)) + (x5 &&& 65535)) + 6) + x3)), (6, .int ((((σ k1 i1 (x2 + 12).toNatClampNeg) >>> ((4 : Int32) &&& 31)) &&& 15) * 4)), (0, .ref (ga G 10 0)), (1, .ref (adr G a1 k1 i1)), (2, .int x2), (3, .int x3), (4, .int x4), (5, .int x5)]) hx hb dX10_read_66 hl (by decide) rfl (fun ls hl => ?_)
      refine lv_iload hx hb dX10_read_68 (lv_at hl 0 rfl) ?_
      refine lv_aload_n hx hb dX10_read_70 rfl (lv_at hl 3 rfl) ?_
      refine lv_iload_n hx hb dX10_read_71 rfl (lv_at hl 4 rfl) ?_
      refine lv_iload_n hx hb dX10_read_72 rfl (lv_at hl 5 rfl) ?_
      refine kc_ip (rn_sp (As := [.int ((((((ushr x4 16) + (x4 &&& 65535)) + (ushr x5 16)) + (x5 &&& 65535)) + 6) + x3), .ref (adr G a1 k1 i1), .int x2, .int x3]) (rest := []) C hH hS (m19_added l G a1 τ σ H ((((((ushr x4 16) + (x4 &&& 65535)) + (ushr x5 16)) + (x5 &&& 65535)) + 6) + x3) k1 i1 x2 x3 hk1 _ hw) (va_cwS 4 hts (lw_S q1118 q990 q176 q991) rfl rfl rfl kX19_added.2 ⟨Nat.le_of_ble_eq_true rfl, Nat.le_of_ble_eq_true rfl⟩) rfl hl.1 rfl (Nat.le_of_ble_eq_true rfl) dX10_read_73 ⟨Nat.le_of_ble_eq_true rfl, Nat.le_of_ble_eq_true rfl⟩) hS (fun r1 locs hw hS => ?_)
      refine kc_ip (rn_sp (As := [.int r1]) (rest := []) C hH hS (m19_folded l G a1 τ σ H r1 _ hw) (va_cwS 1 hts (lw_S q1119 q993 q176 q994) rfl rfl rfl kX19_folded.2 ⟨Nat.le_of_ble_eq_true rfl, Nat.le_of_ble_eq_true rfl⟩) rfl hl.1 rfl (Nat.le_of_ble_eq_true rfl) dX10_read_76 ⟨Nat.le_of_ble_eq_true rfl, Nat.le_of_ble_eq_true rfl⟩) hS (fun r2 locs hw hS => ?_)
      refine lv_if_eq (tgt := 84) hx hb dX10_read_79 (by decide) (fun h => ?_) (fun h => ?_)
      · have hw := hw.1 h
        refine lv_aload_n hx hb dX10_read_84 rfl (lv_at hl 2 rfl) ?_
        refine lv_iload hx hb dX10_read_85 (lv_at hl 6 rfl) ?_
        refine p10_0 C hH hS q515 dX10_read_87 (fun σ3 e3 H locs hH hS => ?_)
        have hw := hw σ3 e3
        refine lv_aload_n hx hb dX10_read_90 rfl (lv_at hl 2 rfl) ?_
        refine lv_aload_n hx hb dX10_read_91 rfl (lv_at hl 3 rfl) ?_
        refine lv_iload_n hx hb dX10_read_92 rfl (lv_at hl 4 rfl) ?_
        refine kc_ip (rn_sp (As := [.ref (adr G a1 k1 i1), .int x2]) (rest := [.ref (ga G 10 0)]) C hH hS (m19_two l G a1 τ σ3 H k1 i1 x2 hk1 _ hw) (va_cwS 2 hts (lw_S q1120 q823 q176 q824) rfl rfl rfl kX19_two.2 ⟨Nat.le_of_ble_eq_true rfl, Nat.le_of_ble_eq_true rfl⟩) rfl hl.1 rfl (Nat.le_of_ble_eq_true rfl) dX10_read_93 ⟨Nat.le_of_ble_eq_true rfl, Nat.le_of_ble_eq_true rfl⟩) hS (fun r4 locs hw hS => ?_)
        refine p10_1 C hH hS q519 dX10_read_96 (fun σ5 e5 H locs hH hS => ?_)
        have hw := hw σ5 e5
        refine lv_aload_n hx hb dX10_read_99 rfl (lv_at hl 2 rfl) ?_
        refine lv_aload_n hx hb dX10_read_100 rfl (lv_at hl 3 rfl) ?_
        refine lv_iload_n hx hb dX10_read_101 rfl (lv_at hl 4 rfl) ?_
        refine lv_iconst (v := 2) hx hb dX10_read_102 (by decide) ?_
        refine lv_iadd hx hb dX10_read_103 ?_
        refine kc_ip (rn_sp (As := [.ref (adr G a1 k1 i1), .int (x2 + 2)]) (rest := [.ref (ga G 10 0)]) C hH hS (m19_two l G a1 τ σ5 H k1 i1 (x2 + 2) hk1 _ hw) (va_cwS 2 hts (lw_S q1120 q823 q176 q824) rfl rfl rfl kX19_two.2 ⟨Nat.le_of_ble_eq_true rfl, Nat.le_of_ble_eq_true rfl⟩) rfl hl.1 rfl (Nat.le_of_ble_eq_true rfl) dX10_read_104 ⟨Nat.le_of_ble_eq_true rfl, Nat.le_of_ble_eq_true rfl⟩) hS (fun r6 locs hw hS => ?_)
        refine p10_2 C hH hS q523 dX10_read_107 (fun σ7 e7 H locs hH hS => ?_)
        have hw := hw σ7 e7
        refine lv_aload_n hx hb dX10_read_110 rfl (lv_at hl 2 rfl) ?_
        refine lv_aload_n hx hb dX10_read_111 rfl (lv_at hl 3 rfl) ?_
        refine lv_iload_n hx hb dX10_read_112 rfl (lv_at hl 4 rfl) ?_
        refine lv_iconst (v := 4) hx hb dX10_read_113 (by decide) ?_
        refine lv_iadd hx hb dX10_read_114 ?_
        refine kc_ip (rn_sp (As := [.ref (adr G a1 k1 i1), .int (x2 + 4)]) (rest := [.ref (ga G 10 0)]) C hH hS (m19_four l G a1 τ σ7 H k1 i1 (x2 + 4) hk1 _ hw) (va_cwS 2 hts (lw_S q1121 q820 q176 q821) rfl rfl rfl kX19_four.2 ⟨Nat.le_of_ble_eq_true rfl, Nat.le_of_ble_eq_true rfl⟩) rfl hl.1 rfl (Nat.le_of_ble_eq_true rfl) dX10_read_115 ⟨Nat.le_of_ble_eq_true rfl, Nat.le_of_ble_eq_true rfl⟩) hS (fun r8 locs hw hS => ?_)
        refine p10_3 C hH hS q525 dX10_read_118 (fun σ9 e9 H locs hH hS => ?_)
        have hw := hw σ9 e9
        refine lv_aload_n hx hb dX10_read_121 rfl (lv_at hl 2 rfl) ?_
        refine lv_aload_n hx hb dX10_read_122 rfl (lv_at hl 3 rfl) ?_
        refine lv_iload_n hx hb dX10_read_123 rfl (lv_at hl 4 rfl) ?_
        refine lv_bipush (v := 8) hx hb dX10_read_124 (by decide) ?_
        refine lv_iadd hx hb dX10_read_126 ?_
        refine kc_ip (rn_sp (As := [.ref (adr G a1 k1 i1), .int (x2 + 8)]) (rest := [.ref (ga G 10 0)]) C hH hS (m19_four l G a1 τ σ9 H k1 i1 (x2 + 8) hk1 _ hw) (va_cwS 2 hts (lw_S q1121 q820 q176 q821) rfl rfl rfl kX19_four.2 ⟨Nat.le_of_ble_eq_true rfl, Nat.le_of_ble_eq_true rfl⟩) rfl hl.1 rfl (Nat.le_of_ble_eq_true rfl) dX10_read_127 ⟨Nat.le_of_ble_eq_true rfl, Nat.le_of_ble_eq_true rfl⟩) hS (fun r10 locs hw hS => ?_)
        refine p10_4 C hH hS q529 dX10_read_130 (fun σ11 e11 H locs hH hS => ?_)
        have hw := hw σ11 e11
        refine lv_aload_n hx hb dX10_read_133 rfl (lv_at hl 2 rfl) ?_
        refine lv_aload_n hx hb dX10_read_134 rfl (lv_at hl 3 rfl) ?_
        refine lv_iload_n hx hb dX10_read_135 rfl (lv_at hl 4 rfl) ?_
        refine lv_bipush (v := 13) hx hb dX10_read_136 (by decide) ?_
        refine lv_iadd hx hb dX10_read_138 ?_
        refine lb_c C hH hk1 rfl hw.1 dX10_read_139 (fun hz => ?_)
        have hw := hw.2 hz
        refine lv_bipush (v := 31) hx hb dX10_read_140 (by decide) ?_
        refine lv_iand hx hb dX10_read_142 ?_
        refine p10_5 C hH hS q531 dX10_read_143 (fun σ12 e12 H locs hH hS => ?_)
        have hw := hw σ12 e12
        refine lv_aload_n hx hb dX10_read_146 rfl (lv_at hl 2 rfl) ?_
        refine lv_aload_n hx hb dX10_read_147 rfl (lv_at hl 3 rfl) ?_
        refine lv_iload_n hx hb dX10_read_148 rfl (lv_at hl 4 rfl) ?_
        refine lv_bipush (v := 14) hx hb dX10_read_149 (by decide) ?_
        refine lv_iadd hx hb dX10_read_151 ?_
        refine kc_ip (rn_sp (As := [.ref (adr G a1 k1 i1), .int (x2 + 14)]) (rest := [.ref (ga G 10 0)]) C hH hS (m19_two l G a1 τ σ12 H k1 i1 (x2 + 14) hk1 _ hw) (va_cwS 2 hts (lw_S q1120 q823 q176 q824) rfl rfl rfl kX19_two.2 ⟨Nat.le_of_ble_eq_true rfl, Nat.le_of_ble_eq_true rfl⟩) rfl hl.1 rfl (Nat.le_of_ble_eq_true rfl) dX10_read_152 ⟨Nat.le_of_ble_eq_true rfl, Nat.le_of_ble_eq_true rfl⟩) hS (fun r13 locs hw hS => ?_)
        refine p10_6 C hH hS q532 dX10_read_155 (fun σ14 e14 H locs hH hS => ?_)
        have hw := hw σ14 e14
        refine lv_aload_n hx hb dX10_read_158 rfl (lv_at hl 2 rfl) ?_
        refine lv_aload_n hx hb dX10_read_159 rfl (lv_at hl 3 rfl) ?_
        refine p10_7 C hH hS hk1 q534 dX10_read_160 (fun σ15 e15 H locs hH hS => ?_)
        have hw := hw σ15 e15
        refine lv_aload_n hx hb dX10_read_163 rfl (lv_at hl 2 rfl) ?_
        refine lv_iload_n hx hb dX10_read_164 rfl (lv_at hl 4 rfl) ?_
        refine lv_iload hx hb dX10_read_165 (lv_at hl 1 rfl) ?_
        refine lv_iadd hx hb dX10_read_167 ?_
        refine p10_8 C hH hS q536 dX10_read_168 (fun σ16 e16 H locs hH hS => ?_)
        have hw := hw σ16 e16
        refine lv_aload_n hx hb dX10_read_171 rfl (lv_at hl 2 rfl) ?_
        refine lv_iload_n hx hb dX10_read_172 rfl (lv_at hl 5 rfl) ?_
        refine lv_iload hx hb dX10_read_173 (lv_at hl 1 rfl) ?_
        refine lv_isub hx hb dX10_read_175 ?_
        refine p10_9 C hH hS q538 dX10_read_176 (fun σ17 e17 H locs hH hS => ?_)
        have hw := hw σ17 e17
        refine lv_aload_n hx hb dX10_read_179 rfl (lv_at hl 2 rfl) ?_
        refine lv_aload_n hx hb dX10_read_180 rfl (lv_at hl 2 rfl) ?_
        refine lv_iload_n hx hb dX10_read_181 rfl (lv_at hl 4 rfl) ?_
        refine lv_bipush (v := 20) hx hb dX10_read_182 (by decide) ?_
        refine lv_iadd hx hb dX10_read_184 ?_
        refine lv_iload_n hx hb dX10_read_185 rfl (lv_at hl 4 rfl) ?_
        refine lv_iload hx hb dX10_read_186 (lv_at hl 1 rfl) ?_
        refine lv_iadd hx hb dX10_read_188 ?_
        refine kc_ip (rn_vp (As := [.int (x2 + 20), .int (x2 + ((((σ k1 i1 (x2 + 12).toNatClampNeg) >>> ((4 : Int32) &&& 31)) &&& 15) * 4))]) (rest := [.ref (ga G 10 0)]) C hH hS (by decide) rfl (by decide) (m10_option l G a1 τ σ17 H (x2 + 20) (x2 + ((((σ k1 i1 (x2 + 12).toNatClampNeg) >>> ((4 : Int32) &&& 31)) &&& 15) * 4)) _ hw) (cwV 2 hts (lw_V q1122 q1124 qs29 q167 q1125) rfl rfl rfl kX10_option ⟨Nat.le_of_ble_eq_true rfl, Nat.le_of_ble_eq_true rfl⟩) rfl hl.1 rfl (Nat.le_of_ble_eq_true rfl) dX10_read_189 ⟨Nat.le_of_ble_eq_true rfl, Nat.le_of_ble_eq_true rfl⟩) hS (fun r18 locs hw hS => ?_)
        refine p10_10 C hH hS q540 dX10_read_192 (fun σ19 e19 H locs hH hS => ?_)
        have hw := hw σ19 e19
        refine lv_iconst (v := 1) hx hb dX10_read_195 (by decide) ?_
        exact rt_i C rfl hH hS hw dX10_read_196
      have hw := hw.2 h
      refine lv_iconst (v := 0) hx hb dX10_read_82 (by decide) ?_
      exact rt_i C rfl hH hS hw dX10_read_83
    have hw := hw.2 h
    refine lv_iconst (v := 0) hx hb dX10_read_36 (by decide) ?_
    exact rt_i C rfl hH hS hw dX10_read_37
  have hw := hw.2 h
  refine lv_iconst (v := 0) hx hb dX10_read_6 (by decide) ?_
  exact rt_i C rfl hH hS hw dX10_read_7
/-! WebHost$Connection.isAcceptable(LWebHost$Segment;)Z -/
abbrev cX11_isAcceptable : ByteArray := prog_3_method_17_code
def yX11_isAcceptable : MethodName := ⟨RX11, "isAcceptable", "(LWebHost$Segment;)Z"⟩
theorem dX11_isAcceptable_0 : decode cX11_isAcceptable 0 = .ok (.aload_n 0, 1) := by decide +kernel
theorem dX11_isAcceptable_1 : decode cX11_isAcceptable 1 = .ok (.getfield 12, 3) := by decide +kernel
theorem dX11_isAcceptable_4 : decode cX11_isAcceptable 4 = .ok (.invokevirtual 37, 3) := by decide +kernel
theorem dX11_isAcceptable_7 : decode cX11_isAcceptable 7 = .ok (.istore_n 2, 1) := by decide +kernel
theorem dX11_isAcceptable_8 : decode cX11_isAcceptable 8 = .ok (.aload_n 1, 1) := by decide +kernel
theorem dX11_isAcceptable_9 : decode cX11_isAcceptable 9 = .ok (.invokevirtual 204, 3) := by decide +kernel
theorem dX11_isAcceptable_12 : decode cX11_isAcceptable 12 = .ok (.istore_n 3, 1) := by decide +kernel
theorem dX11_isAcceptable_13 : decode cX11_isAcceptable 13 = .ok (.iload_n 2, 1) := by decide +kernel
theorem dX11_isAcceptable_14 : decode cX11_isAcceptable 14 = .ok (.ifCond .ne 24, 3) := by decide +kernel
theorem dX11_isAcceptable_17 : decode cX11_isAcceptable 17 = .ok (.iload_n 3, 1) := by decide +kernel
theorem dX11_isAcceptable_18 : decode cX11_isAcceptable 18 = .ok (.ifCond .ne 18, 3) := by decide +kernel
theorem dX11_isAcceptable_21 : decode cX11_isAcceptable 21 = .ok (.aload_n 1, 1) := by decide +kernel
theorem dX11_isAcceptable_22 : decode cX11_isAcceptable 22 = .ok (.getfield 168, 3) := by decide +kernel
theorem dX11_isAcceptable_25 : decode cX11_isAcceptable 25 = .ok (.aload_n 0, 1) := by decide +kernel
theorem dX11_isAcceptable_26 : decode cX11_isAcceptable 26 = .ok (.getfield 33, 3) := by decide +kernel
theorem dX11_isAcceptable_29 : decode cX11_isAcceptable 29 = .ok (.if_icmp .ne 7, 3) := by decide +kernel
theorem dX11_isAcceptable_32 : decode cX11_isAcceptable 32 = .ok (.iconst 1, 1) := by decide +kernel
theorem dX11_isAcceptable_33 : decode cX11_isAcceptable 33 = .ok (.goto 4, 3) := by decide +kernel
theorem dX11_isAcceptable_36 : decode cX11_isAcceptable 36 = .ok (.iconst 0, 1) := by decide +kernel
theorem dX11_isAcceptable_37 : decode cX11_isAcceptable 37 = .ok (.ireturn, 1) := by decide +kernel
theorem dX11_isAcceptable_38 : decode cX11_isAcceptable 38 = .ok (.aload_n 0, 1) := by decide +kernel
theorem dX11_isAcceptable_39 : decode cX11_isAcceptable 39 = .ok (.aload_n 1, 1) := by decide +kernel
theorem dX11_isAcceptable_40 : decode cX11_isAcceptable 40 = .ok (.getfield 168, 3) := by decide +kernel
theorem dX11_isAcceptable_43 : decode cX11_isAcceptable 43 = .ok (.iload_n 2, 1) := by decide +kernel
theorem dX11_isAcceptable_44 : decode cX11_isAcceptable 44 = .ok (.invokevirtual 207, 3) := by decide +kernel
theorem dX11_isAcceptable_47 : decode cX11_isAcceptable 47 = .ok (.ifCond .ne 23, 3) := by decide +kernel
theorem dX11_isAcceptable_50 : decode cX11_isAcceptable 50 = .ok (.iload_n 3, 1) := by decide +kernel
theorem dX11_isAcceptable_51 : decode cX11_isAcceptable 51 = .ok (.ifCond .le 23, 3) := by decide +kernel
theorem dX11_isAcceptable_54 : decode cX11_isAcceptable 54 = .ok (.aload_n 0, 1) := by decide +kernel
theorem dX11_isAcceptable_55 : decode cX11_isAcceptable 55 = .ok (.aload_n 1, 1) := by decide +kernel
theorem dX11_isAcceptable_56 : decode cX11_isAcceptable 56 = .ok (.getfield 168, 3) := by decide +kernel
theorem dX11_isAcceptable_59 : decode cX11_isAcceptable 59 = .ok (.iload_n 3, 1) := by decide +kernel
theorem dX11_isAcceptable_60 : decode cX11_isAcceptable 60 = .ok (.iadd, 1) := by decide +kernel
theorem dX11_isAcceptable_61 : decode cX11_isAcceptable 61 = .ok (.iconst 1, 1) := by decide +kernel
theorem dX11_isAcceptable_62 : decode cX11_isAcceptable 62 = .ok (.isub, 1) := by decide +kernel
theorem dX11_isAcceptable_63 : decode cX11_isAcceptable 63 = .ok (.iload_n 2, 1) := by decide +kernel
theorem dX11_isAcceptable_64 : decode cX11_isAcceptable 64 = .ok (.invokevirtual 207, 3) := by decide +kernel
theorem dX11_isAcceptable_67 : decode cX11_isAcceptable 67 = .ok (.ifCond .eq 7, 3) := by decide +kernel
theorem dX11_isAcceptable_70 : decode cX11_isAcceptable 70 = .ok (.iconst 1, 1) := by decide +kernel
theorem dX11_isAcceptable_71 : decode cX11_isAcceptable 71 = .ok (.goto 4, 3) := by decide +kernel
theorem dX11_isAcceptable_74 : decode cX11_isAcceptable 74 = .ok (.iconst 0, 1) := by decide +kernel
theorem dX11_isAcceptable_75 : decode cX11_isAcceptable 75 = .ok (.ireturn, 1) := by decide +kernel
def rmX11_isAcceptable : Room := { frames := 2, cells := 0, slots := 0, locals := 43 }
theorem kX11_isAcceptable : yX11_isAcceptable.cls = "WebHost$Connection" ∧ yX11_isAcceptable.cls ≠ "java/lang/invoke/MethodHandle" ∧ yX11_isAcceptable.cls ≠ "java/lang/invoke/VarHandle" ∧ (parseMethodDescriptor yX11_isAcceptable.desc).map (fun d => d.parameters.length) = some 1 := by decide +kernel
def w11_isAcceptable (σ : St) (o0 : Nat) (Q : Int32 → Prop) : Prop := w12_window σ o0 (fun r1 => (w10_span σ (fun r2 => ((¬ r1 = 0 → (w11_isIn σ o0 (σ 10 0 3) r1 (fun r3 => ((¬ r3 = 0 → Q 1) ∧ (r3 = 0 → ((r2 ≤ 0 → Q 0) ∧ (¬ r2 ≤ 0 → (w11_isIn σ o0 (((σ 10 0 3) + r2) - 1) r1 (fun r4 => ((r4 = 0 → Q 0) ∧ (¬ r4 = 0 → Q 1))))))))))) ∧ (r1 = 0 → ((¬ r2 = 0 → Q 0) ∧ (r2 = 0 → ((¬ (σ 10 0 3) = (σ 11 o0 6) → Q 0) ∧ ((σ 10 0 3) = (σ 11 o0 6) → Q 1)))))))))
set_option maxHeartbeats 4000000 in
theorem m11_isAcceptable (l : Launch) (G : Gh) (a1 : Nat → Nat → Nat) (τ : St) (σ : St) (H : Heap) (o0 : Nat) (ho0 : o0 < 16) (Q : Int32 → Prop) (hw : w11_isAcceptable σ o0 Q) : Met l yX11_isAcceptable (ws_ yX11_isAcceptable cX11_isAcceptable 4 (some .boolean)) rmX11_isAcceptable (PcP G a1 (cmb σ τ) H [.ref (ga G 11 o0), .ref (ga G 10 0)]) (QIp G H Q) 0 0 (gA G) := by
  refine met_p (by decide) (Nat.le_of_ble_eq_true rfl) ?_
  intro p e s m below meth c ls hHe C hH hS hl
  have C : Cx p e s m _ meth c cX11_isAcceptable 4 (some .boolean) "WebHost$Connection" G := C
  have hl : lv_has ls 4 [(0, .ref (ga G 11 o0)), (1, .ref (ga G 10 0))] := hl
  have hx := C.1
  have hb := C.2.1
  have hown := C.2.2.2.2.2.1
  have hts := C.2.2.2.2.2.2.1
  obtain ⟨locs, hlocs⟩ : ∃ z : List Loc, z = [] := ⟨_, rfl⟩
  rw [← hlocs] at hS ⊢
  refine lv_aload_n hx hb dX11_isAcceptable_0 rfl (lv_at hl 0 rfl) ?_
  refine g11_20 C hH ho0 q641 dX11_isAcceptable_1 ?_
  refine kc_ip (rn_vp (As := []) (rest := []) C hH hS (by decide) rfl ho0 (m12_window l G a1 τ σ H o0 ho0 _ hw) (cwV 0 hts (lw_V q976 q977 q978 q169 q979) rfl rfl rfl kX12_window ⟨Nat.le_of_ble_eq_true rfl, Nat.le_of_ble_eq_true rfl⟩) rfl hl.1 rfl (Nat.le_of_ble_eq_true rfl) dX11_isAcceptable_4 ⟨Nat.le_of_ble_eq_true rfl, Nat.le_of_ble_eq_true rfl⟩) hS (fun r1 locs hw hS => ?_)
  refine lv_istore_n (lv' := [(2, .int r1), (0, .ref (ga G 11 o0)), (1, .ref (ga G 10 0))]) hx hb dX11_isAcceptable_7 rfl hl (by decide) rfl (fun ls hl => ?_)
  refine lv_aload_n hx hb dX11_isAcceptable_8 rfl (lv_at hl 2 rfl) ?_
  refine kc_ip (rn_vp (As := []) (rest := []) C hH hS (by decide) rfl (by decide) (m10_span l G a1 τ σ H _ hw) (cwV 0 hts (lw_V q1144 q1145 q1146 q167 q1147) rfl rfl rfl kX10_span ⟨Nat.le_of_ble_eq_true rfl, Nat.le_of_ble_eq_true rfl⟩) rfl hl.1 rfl (Nat.le_of_ble_eq_true rfl) dX11_isAcceptable_9 ⟨Nat.le_of_ble_eq_true rfl, Nat.le_of_ble_eq_true rfl⟩) hS (fun r2 locs hw hS => ?_)
  refine lv_istore_n (lv' := [(3, .int r2), (2, .int r1), (0, .ref (ga G 11 o0)), (1, .ref (ga G 10 0))]) hx hb dX11_isAcceptable_12 rfl hl (by decide) rfl (fun ls hl => ?_)
  refine lv_iload_n hx hb dX11_isAcceptable_13 rfl (lv_at hl 1 rfl) ?_
  refine lv_if_ne (tgt := 38) hx hb dX11_isAcceptable_14 (by decide) (fun h => ?_) (fun h => ?_)
  · have hw := hw.1 h
    refine lv_aload_n hx hb dX11_isAcceptable_38 rfl (lv_at hl 2 rfl) ?_
    refine lv_aload_n hx hb dX11_isAcceptable_39 rfl (lv_at hl 3 rfl) ?_
    refine g10_3 C hH q527 dX11_isAcceptable_40 ?_
    refine lv_iload_n hx hb dX11_isAcceptable_43 rfl (lv_at hl 1 rfl) ?_
    refine kc_ip (rn_vp (As := [.int (σ 10 0 3), .int r1]) (rest := []) C hH hS (by decide) rfl ho0 (m11_isIn l G a1 τ σ H o0 (σ 10 0 3) r1 ho0 _ hw) (cwV 2 hts (lw_V q1152 q1154 qs33 q168 q1155) rfl rfl rfl kX11_isIn ⟨Nat.le_of_ble_eq_true rfl, Nat.le_of_ble_eq_true rfl⟩) rfl hl.1 rfl (Nat.le_of_ble_eq_true rfl) dX11_isAcceptable_44 ⟨Nat.le_of_ble_eq_true rfl, Nat.le_of_ble_eq_true rfl⟩) hS (fun r3 locs hw hS => ?_)
    refine lv_if_ne (tgt := 70) hx hb dX11_isAcceptable_47 (by decide) (fun h => ?_) (fun h => ?_)
    · have hw := hw.1 h
      refine lv_iconst (v := 1) hx hb dX11_isAcceptable_70 (by decide) ?_
      refine lv_goto (tgt := 75) hx hb dX11_isAcceptable_71 (by decide) ?_
      exact rt_ip C rfl hS hw dX11_isAcceptable_75
    have hw := hw.2 h
    refine lv_iload_n hx hb dX11_isAcceptable_50 rfl (lv_at hl 0 rfl) ?_
    refine lv_if_le (tgt := 74) hx hb dX11_isAcceptable_51 (by decide) (fun h => ?_) (fun h => ?_)
    · have hw := hw.1 h
      refine lv_iconst (v := 0) hx hb dX11_isAcceptable_74 (by decide) ?_
      exact rt_ip C rfl hS hw dX11_isAcceptable_75
    have hw := hw.2 h
    refine lv_aload_n hx hb dX11_isAcceptable_54 rfl (lv_at hl 2 rfl) ?_
    refine lv_aload_n hx hb dX11_isAcceptable_55 rfl (lv_at hl 3 rfl) ?_
    refine g10_3 C hH q527 dX11_isAcceptable_56 ?_
    refine lv_iload_n hx hb dX11_isAcceptable_59 rfl (lv_at hl 0 rfl) ?_
    refine lv_iadd hx hb dX11_isAcceptable_60 ?_
    refine lv_iconst (v := 1) hx hb dX11_isAcceptable_61 (by decide) ?_
    refine lv_isub hx hb dX11_isAcceptable_62 ?_
    refine lv_iload_n hx hb dX11_isAcceptable_63 rfl (lv_at hl 1 rfl) ?_
    refine kc_ip (rn_vp (As := [.int (((σ 10 0 3) + r2) - 1), .int r1]) (rest := []) C hH hS (by decide) rfl ho0 (m11_isIn l G a1 τ σ H o0 (((σ 10 0 3) + r2) - 1) r1 ho0 _ hw) (cwV 2 hts (lw_V q1152 q1154 qs33 q168 q1155) rfl rfl rfl kX11_isIn ⟨Nat.le_of_ble_eq_true rfl, Nat.le_of_ble_eq_true rfl⟩) rfl hl.1 rfl (Nat.le_of_ble_eq_true rfl) dX11_isAcceptable_64 ⟨Nat.le_of_ble_eq_true rfl, Nat.le_of_ble_eq_true rfl⟩) hS (fun r4 locs hw hS => ?_)
    refine lv_if_eq (tgt := 74) hx hb dX11_isAcceptable_67 (by decide) (fun h => ?_) (fun h => ?_)
    · have hw := hw.1 h
      refine lv_iconst (v := 0) hx hb dX11_isAcceptable_74 (by decide) ?_
      exact rt_ip C rfl hS hw dX11_isAcceptable_75
    have hw := hw.2 h
    refine lv_iconst (v := 1) hx hb dX11_isAcceptable_70 (by decide) ?_
    refine lv_goto (tgt := 75) hx hb dX11_isAcceptable_71 (by decide) ?_
    exact rt_ip C rfl hS hw dX11_isAcceptable_75
  have hw := hw.2 h
  refine lv_iload_n hx hb dX11_isAcceptable_17 rfl (lv_at hl 0 rfl) ?_
  refine lv_if_ne (tgt := 36) hx hb dX11_isAcceptable_18 (by decide) (fun h => ?_) (fun h => ?_)
  · have hw := hw.1 h
    refine lv_iconst (v := 0) hx hb dX11_isAcceptable_36 (by decide) ?_
    exact rt_ip C rfl hS hw dX11_isAcceptable_37
  have hw := hw.2 h
  refine lv_aload_n hx hb dX11_isAcceptable_21 rfl (lv_at hl 3 rfl) ?_
  refine g10_3 C hH q527 dX11_isAcceptable_22 ?_
  refine lv_aload_n hx hb dX11_isAcceptable_25 rfl (lv_at hl 2 rfl) ?_
  refine g11_6 C hH ho0 q617 dX11_isAcceptable_26 ?_
  refine lv_icmp_ne (tgt := 36) hx hb dX11_isAcceptable_29 (by decide) (fun h => ?_) (fun h => ?_)
  · have hw := hw.1 h
    refine lv_iconst (v := 0) hx hb dX11_isAcceptable_36 (by decide) ?_
    exact rt_ip C rfl hS hw dX11_isAcceptable_37
  have hw := hw.2 h
  refine lv_iconst (v := 1) hx hb dX11_isAcceptable_32 (by decide) ?_
  refine lv_goto (tgt := 37) hx hb dX11_isAcceptable_33 (by decide) ?_
  exact rt_ip C rfl hS hw dX11_isAcceptable_37
/-! WebHost$Connection.isBusy()Z -/
abbrev cX11_isBusy : ByteArray := prog_3_method_8_code
def yX11_isBusy : MethodName := ⟨RX11, "isBusy", "()Z"⟩
theorem dX11_isBusy_0 : decode cX11_isBusy 0 = .ok (.aload_n 0, 1) := by decide +kernel
theorem dX11_isBusy_1 : decode cX11_isBusy 1 = .ok (.getfield 73, 3) := by decide +kernel
theorem dX11_isBusy_4 : decode cX11_isBusy 4 = .ok (.ifCond .eq 25, 3) := by decide +kernel
theorem dX11_isBusy_7 : decode cX11_isBusy 7 = .ok (.aload_n 0, 1) := by decide +kernel
theorem dX11_isBusy_8 : decode cX11_isBusy 8 = .ok (.invokevirtual 85, 3) := by decide +kernel
theorem dX11_isBusy_11 : decode cX11_isBusy 11 = .ok (.ifCond .gt 14, 3) := by decide +kernel
theorem dX11_isBusy_14 : decode cX11_isBusy 14 = .ok (.aload_n 0, 1) := by decide +kernel
theorem dX11_isBusy_15 : decode cX11_isBusy 15 = .ok (.getfield 88, 3) := by decide +kernel
theorem dX11_isBusy_18 : decode cX11_isBusy 18 = .ok (.aload_n 0, 1) := by decide +kernel
theorem dX11_isBusy_19 : decode cX11_isBusy 19 = .ok (.getfield 82, 3) := by decide +kernel
theorem dX11_isBusy_22 : decode cX11_isBusy 22 = .ok (.if_icmp .eq 7, 3) := by decide +kernel
theorem dX11_isBusy_25 : decode cX11_isBusy 25 = .ok (.iconst 1, 1) := by decide +kernel
theorem dX11_isBusy_26 : decode cX11_isBusy 26 = .ok (.goto 4, 3) := by decide +kernel
theorem dX11_isBusy_29 : decode cX11_isBusy 29 = .ok (.iconst 0, 1) := by decide +kernel
theorem dX11_isBusy_30 : decode cX11_isBusy 30 = .ok (.ireturn, 1) := by decide +kernel
def rmX11_isBusy : Room := { frames := 2, cells := 0, slots := 0, locals := 40 }
theorem kX11_isBusy : yX11_isBusy.cls = "WebHost$Connection" ∧ yX11_isBusy.cls ≠ "java/lang/invoke/MethodHandle" ∧ yX11_isBusy.cls ≠ "java/lang/invoke/VarHandle" ∧ (parseMethodDescriptor yX11_isBusy.desc).map (fun d => d.parameters.length) = some 0 := by decide +kernel
def w11_isBusy (σ : St) (o0 : Nat) (Q : Int32 → Prop) : Prop := ((σ 11 o0 2) = 0 → Q 0) ∧ (¬ (σ 11 o0 2) = 0 → (w11_left σ o0 (fun r1 => ((0 < r1 → Q 1) ∧ (¬ 0 < r1 → (((σ 11 o0 11) = (σ 11 o0 9) → Q 0) ∧ (¬ (σ 11 o0 11) = (σ 11 o0 9) → Q 1)))))))
set_option maxHeartbeats 4000000 in
theorem m11_isBusy (l : Launch) (G : Gh) (a1 : Nat → Nat → Nat) (τ : St) (σ : St) (H : Heap) (o0 : Nat) (ho0 : o0 < 16) (Q : Int32 → Prop) (hw : w11_isBusy σ o0 Q) : Met l yX11_isBusy (ws_ yX11_isBusy cX11_isBusy 1 (some .boolean)) rmX11_isBusy (PcP G a1 (cmb σ τ) H [.ref (ga G 11 o0)]) (QIp G H Q) 0 0 (gA G) := by
  refine met_p (by decide) (Nat.le_of_ble_eq_true rfl) ?_
  intro p e s m below meth c ls hHe C hH hS hl
  have C : Cx p e s m _ meth c cX11_isBusy 1 (some .boolean) "WebHost$Connection" G := C
  have hl : lv_has ls 1 [(0, .ref (ga G 11 o0))] := hl
  have hx := C.1
  have hb := C.2.1
  have hown := C.2.2.2.2.2.1
  have hts := C.2.2.2.2.2.2.1
  obtain ⟨locs, hlocs⟩ : ∃ z : List Loc, z = [] := ⟨_, rfl⟩
  rw [← hlocs] at hS ⊢
  refine lv_aload_n hx hb dX11_isBusy_0 rfl (lv_at hl 0 rfl) ?_
  refine g11_2 C hH ho0 q610 dX11_isBusy_1 ?_
  refine lv_if_eq (tgt := 29) hx hb dX11_isBusy_4 (by decide) (fun h => ?_) (fun h => ?_)
  · have hw := hw.1 h
    refine lv_iconst (v := 0) hx hb dX11_isBusy_29 (by decide) ?_
    exact rt_ip C rfl hS hw dX11_isBusy_30
  have hw := hw.2 h
  refine lv_aload_n hx hb dX11_isBusy_7 rfl (lv_at hl 0 rfl) ?_
  refine kc_ip (rn_vp (As := []) (rest := []) C hH hS (by decide) rfl ho0 (m11_left l G a1 τ σ H o0 ho0 _ hw) (cwV 0 hts (lw_V q1034 q1035 q1036 q168 q1037) rfl rfl rfl kX11_left ⟨Nat.le_of_ble_eq_true rfl, Nat.le_of_ble_eq_true rfl⟩) rfl hl.1 rfl (Nat.le_of_ble_eq_true rfl) dX11_isBusy_8 ⟨Nat.le_of_ble_eq_true rfl, Nat.le_of_ble_eq_true rfl⟩) hS (fun r1 locs hw hS => ?_)
  refine lv_if_gt (tgt := 25) hx hb dX11_isBusy_11 (by decide) (fun h => ?_) (fun h => ?_)
  · have hw := hw.1 h
    refine lv_iconst (v := 1) hx hb dX11_isBusy_25 (by decide) ?_
    refine lv_goto (tgt := 30) hx hb dX11_isBusy_26 (by decide) ?_
    exact rt_ip C rfl hS hw dX11_isBusy_30
  have hw := hw.2 h
  refine lv_aload_n hx hb dX11_isBusy_14 rfl (lv_at hl 0 rfl) ?_
  refine g11_11 C hH ho0 q624 dX11_isBusy_15 ?_
  refine lv_aload_n hx hb dX11_isBusy_18 rfl (lv_at hl 0 rfl) ?_
  refine g11_9 C hH ho0 q620 dX11_isBusy_19 ?_
  refine lv_icmp_eq (tgt := 29) hx hb dX11_isBusy_22 (by decide) (fun h => ?_) (fun h => ?_)
  · have hw := hw.1 h
    refine lv_iconst (v := 0) hx hb dX11_isBusy_29 (by decide) ?_
    exact rt_ip C rfl hS hw dX11_isBusy_30
  have hw := hw.2 h
  refine lv_iconst (v := 1) hx hb dX11_isBusy_25 (by decide) ?_
  refine lv_goto (tgt := 30) hx hb dX11_isBusy_26 (by decide) ?_
  exact rt_ip C rfl hS hw dX11_isBusy_30
/-! WebHost$Connection.restartTimer()V -/
abbrev cX11_restartTimer : ByteArray := prog_3_method_12_code
def yX11_restartTimer : MethodName := ⟨RX11, "restartTimer", "()V"⟩
theorem dX11_restartTimer_0 : decode cX11_restartTimer 0 = .ok (.aload_n 0, 1) := by decide +kernel
theorem dX11_restartTimer_1 : decode cX11_restartTimer 1 = .ok (.iconst 0, 1) := by decide +kernel
theorem dX11_restartTimer_2 : decode cX11_restartTimer 2 = .ok (.putfield 135, 3) := by decide +kernel
theorem dX11_restartTimer_5 : decode cX11_restartTimer 5 = .ok (.aload_n 0, 1) := by decide +kernel
theorem dX11_restartTimer_6 : decode cX11_restartTimer 6 = .ok (.invokevirtual 119, 3) := by decide +kernel
theorem dX11_restartTimer_9 : decode cX11_restartTimer 9 = .ok (.return_, 1) := by decide +kernel
def rmX11_restartTimer : Room := { frames := 2, cells := 0, slots := 0, locals := 40 }
theorem kX11_restartTimer : yX11_restartTimer.cls = "WebHost$Connection" ∧ yX11_restartTimer.cls ≠ "java/lang/invoke/MethodHandle" ∧ yX11_restartTimer.cls ≠ "java/lang/invoke/VarHandle" ∧ (parseMethodDescriptor yX11_restartTimer.desc).map (fun d => d.parameters.length) = some 0 := by decide +kernel
def w11_restartTimer (σ : St) (o0 : Nat) (Q : St → Prop) : Prop := ∀ σ1, σ1 = up3 σ 11 o0 29 0 → (w11_startTimer σ1 o0 (fun σ2 => (Q σ2)))
set_option maxHeartbeats 4000000 in
theorem m11_restartTimer (l : Launch) (G : Gh) (a1 : Nat → Nat → Nat) (τ : St) (σ : St) (o0 : Nat) (ho0 : o0 < 16) (Q : St → Prop) (hw : w11_restartTimer σ o0 Q) : Met l yX11_restartTimer (ws_ yX11_restartTimer cX11_restartTimer 1 none) rmX11_restartTimer (PcS G a1 (cmb σ τ) [.ref (ga G 11 o0)]) (QVs G a1 (fun u => cmb u τ) Q) 0 0 (gA G) := by
  refine met_w (by decide) (Nat.le_of_ble_eq_true rfl) ?_
  intro p e s m below meth c ls C hH hS hl
  have C : Cx p e s m _ meth c cX11_restartTimer 1 none "WebHost$Connection" G := C
  have hl : lv_has ls 1 [(0, .ref (ga G 11 o0))] := hl
  have hx := C.1
  have hb := C.2.1
  have hown := C.2.2.2.2.2.1
  have hts := C.2.2.2.2.2.2.1
  obtain ⟨locs, hlocs⟩ : ∃ z : List Loc, z = [] := ⟨_, rfl⟩
  obtain ⟨H, hHe⟩ : ∃ z : Heap, z = s.heap := ⟨_, rfl⟩
  have hH : Hd G a1 (cmb σ τ) H := by rw [hHe]; exact hH
  have hS : va_S (gA G) s.heap H locs := by rw [hHe, hlocs]; exact hS
  refine W.heap0 hHe.symm hlocs.symm ?_
  refine lv_aload_n hx hb dX11_restartTimer_0 rfl (lv_at hl 0 rfl) ?_
  refine lv_iconst (v := 0) hx hb dX11_restartTimer_1 (by decide) ?_
  refine p11_29 C hH hS ho0 (Or.inl rfl) q651 dX11_restartTimer_2 (fun σ1 e1 H locs hH hS => ?_)
  have hw := hw σ1 e1
  refine lv_aload_n hx hb dX11_restartTimer_5 rfl (lv_at hl 0 rfl) ?_
  refine kc_v (rn_v (As := []) (rest := []) C hH hS (by decide) rfl ho0 (m11_startTimer l G a1 τ σ1 o0 ho0 _ hw) (cwV 0 hts (lw_V q1021 q1023 qs15 q168 q1024) rfl rfl rfl kX11_startTimer ⟨Nat.le_of_ble_eq_true rfl, Nat.le_of_ble_eq_true rfl⟩) rfl hl.1 rfl (Nat.le_of_ble_eq_true rfl) dX11_restartTimer_6 ⟨Nat.le_of_ble_eq_true rfl, Nat.le_of_ble_eq_true rfl⟩) hS (fun σ2 H locs hw hH hS => ?_)
  exact rt_v C hH hS hw dX11_restartTimer_9
/-! WebHost$Connection.wait2()V -/
abbrev cX11_wait2 : ByteArray := prog_3_method_24_code
def yX11_wait2 : MethodName := ⟨RX11, "wait2", "()V"⟩
theorem dX11_wait2_0 : decode cX11_wait2 0 = .ok (.aload_n 0, 1) := by decide +kernel
theorem dX11_wait2_1 : decode cX11_wait2 1 = .ok (.bipush 6, 2) := by decide +kernel
theorem dX11_wait2_3 : decode cX11_wait2 3 = .ok (.putfield 73, 3) := by decide +kernel
theorem dX11_wait2_6 : decode cX11_wait2 6 = .ok (.aload_n 0, 1) := by decide +kernel
theorem dX11_wait2_7 : decode cX11_wait2 7 = .ok (.iconst 0, 1) := by decide +kernel
theorem dX11_wait2_8 : decode cX11_wait2 8 = .ok (.putfield 135, 3) := by decide +kernel
theorem dX11_wait2_11 : decode cX11_wait2 11 = .ok (.aload_n 0, 1) := by decide +kernel
theorem dX11_wait2_12 : decode cX11_wait2 12 = .ok (.ldc 218, 2) := by decide +kernel
theorem dX11_wait2_14 : decode cX11_wait2 14 = .ok (.invokevirtual 219, 3) := by decide +kernel
theorem dX11_wait2_17 : decode cX11_wait2 17 = .ok (.return_, 1) := by decide +kernel
def rmX11_wait2 : Room := { frames := 2, cells := 0, slots := 0, locals := 41 }
theorem kX11_wait2 : yX11_wait2.cls = "WebHost$Connection" ∧ yX11_wait2.cls ≠ "java/lang/invoke/MethodHandle" ∧ yX11_wait2.cls ≠ "java/lang/invoke/VarHandle" ∧ (parseMethodDescriptor yX11_wait2.desc).map (fun d => d.parameters.length) = some 0 := by decide +kernel
def w11_wait2 (σ : St) (o0 : Nat) (Q : St → Prop) : Prop := ∀ σ1, σ1 = up3 σ 11 o0 2 6 → (∀ σ2, σ2 = up3 σ1 11 o0 29 0 → (w11_live σ2 o0 60000 (fun σ3 => (Q σ3))))
set_option maxHeartbeats 4000000 in
theorem m11_wait2 (l : Launch) (G : Gh) (a1 : Nat → Nat → Nat) (τ : St) (σ : St) (o0 : Nat) (ho0 : o0 < 16) (Q : St → Prop) (hw : w11_wait2 σ o0 Q) : Met l yX11_wait2 (ws_ yX11_wait2 cX11_wait2 1 none) rmX11_wait2 (PcS G a1 (cmb σ τ) [.ref (ga G 11 o0)]) (QVs G a1 (fun u => cmb u τ) Q) 0 0 (gA G) := by
  refine met_w (by decide) (Nat.le_of_ble_eq_true rfl) ?_
  intro p e s m below meth c ls C hH hS hl
  have C : Cx p e s m _ meth c cX11_wait2 1 none "WebHost$Connection" G := C
  have hl : lv_has ls 1 [(0, .ref (ga G 11 o0))] := hl
  have hx := C.1
  have hb := C.2.1
  have hown := C.2.2.2.2.2.1
  have hts := C.2.2.2.2.2.2.1
  obtain ⟨locs, hlocs⟩ : ∃ z : List Loc, z = [] := ⟨_, rfl⟩
  obtain ⟨H, hHe⟩ : ∃ z : Heap, z = s.heap := ⟨_, rfl⟩
  have hH : Hd G a1 (cmb σ τ) H := by rw [hHe]; exact hH
  have hS : va_S (gA G) s.heap H locs := by rw [hHe, hlocs]; exact hS
  refine W.heap0 hHe.symm hlocs.symm ?_
  refine lv_aload_n hx hb dX11_wait2_0 rfl (lv_at hl 0 rfl) ?_
  refine lv_bipush (v := 6) hx hb dX11_wait2_1 (by decide) ?_
  refine p11_2 C hH hS ho0 q610 dX11_wait2_3 (fun σ1 e1 H locs hH hS => ?_)
  have hw := hw σ1 e1
  refine lv_aload_n hx hb dX11_wait2_6 rfl (lv_at hl 0 rfl) ?_
  refine lv_iconst (v := 0) hx hb dX11_wait2_7 (by decide) ?_
  refine p11_29 C hH hS ho0 (Or.inl rfl) q651 dX11_wait2_8 (fun σ2 e2 H locs hH hS => ?_)
  have hw := hw σ2 e2
  refine lv_aload_n hx hb dX11_wait2_11 rfl (lv_at hl 0 rfl) ?_
  refine lv_ldc (v := 60000) hx hb hown (hts _ q1019) dX11_wait2_12 ?_
  refine kc_v (rn_v (As := [.int 60000]) (rest := []) C hH hS (by decide) rfl ho0 (m11_live l G a1 τ σ2 o0 60000 ho0 _ hw) (cwV 1 hts (lw_V q1157 q1159 qs34 q168 q1160) rfl rfl rfl kX11_live ⟨Nat.le_of_ble_eq_true rfl, Nat.le_of_ble_eq_true rfl⟩) rfl hl.1 rfl (Nat.le_of_ble_eq_true rfl) dX11_wait2_14 ⟨Nat.le_of_ble_eq_true rfl, Nat.le_of_ble_eq_true rfl⟩) hS (fun σ3 H locs hw hH hS => ?_)
  exact rt_v C hH hS hw dX11_wait2_17
/-! WebHostModel.arpFrame(IIIIII)V -/
abbrev cX14_arpFrame : ByteArray := prog_17_method_21_code
def yX14_arpFrame : MethodName := ⟨RX14, "arpFrame", "(IIIIII)V"⟩
theorem dX14_arpFrame_0 : decode cX14_arpFrame 0 = .ok (.aload_n 0, 1) := by decide +kernel
theorem dX14_arpFrame_1 : decode cX14_arpFrame 1 = .ok (.bipush 14, 2) := by decide +kernel
theorem dX14_arpFrame_3 : decode cX14_arpFrame 3 = .ok (.iconst 4, 1) := by decide +kernel
theorem dX14_arpFrame_4 : decode cX14_arpFrame 4 = .ok (.ldc 201, 2) := by decide +kernel
theorem dX14_arpFrame_6 : decode cX14_arpFrame 6 = .ok (.invokevirtual 160, 3) := by decide +kernel
theorem dX14_arpFrame_9 : decode cX14_arpFrame 9 = .ok (.aload_n 0, 1) := by decide +kernel
theorem dX14_arpFrame_10 : decode cX14_arpFrame 10 = .ok (.bipush 18, 2) := by decide +kernel
theorem dX14_arpFrame_12 : decode cX14_arpFrame 12 = .ok (.iconst 2, 1) := by decide +kernel
theorem dX14_arpFrame_13 : decode cX14_arpFrame 13 = .ok (.sipush 1540, 3) := by decide +kernel
theorem dX14_arpFrame_16 : decode cX14_arpFrame 16 = .ok (.invokevirtual 160, 3) := by decide +kernel
theorem dX14_arpFrame_19 : decode cX14_arpFrame 19 = .ok (.aload_n 0, 1) := by decide +kernel
theorem dX14_arpFrame_20 : decode cX14_arpFrame 20 = .ok (.bipush 20, 2) := by decide +kernel
theorem dX14_arpFrame_22 : decode cX14_arpFrame 22 = .ok (.iconst 2, 1) := by decide +kernel
theorem dX14_arpFrame_23 : decode cX14_arpFrame 23 = .ok (.iload_n 1, 1) := by decide +kernel
theorem dX14_arpFrame_24 : decode cX14_arpFrame 24 = .ok (.invokevirtual 160, 3) := by decide +kernel
theorem dX14_arpFrame_27 : decode cX14_arpFrame 27 = .ok (.aload_n 0, 1) := by decide +kernel
theorem dX14_arpFrame_28 : decode cX14_arpFrame 28 = .ok (.bipush 22, 2) := by decide +kernel
theorem dX14_arpFrame_30 : decode cX14_arpFrame 30 = .ok (.iconst 2, 1) := by decide +kernel
theorem dX14_arpFrame_31 : decode cX14_arpFrame 31 = .ok (.aload_n 0, 1) := by decide +kernel
theorem dX14_arpFrame_32 : decode cX14_arpFrame 32 = .ok (.getfield 125, 3) := by decide +kernel
theorem dX14_arpFrame_35 : decode cX14_arpFrame 35 = .ok (.invokevirtual 160, 3) := by decide +kernel
theorem dX14_arpFrame_38 : decode cX14_arpFrame 38 = .ok (.aload_n 0, 1) := by decide +kernel
theorem dX14_arpFrame_39 : decode cX14_arpFrame 39 = .ok (.bipush 24, 2) := by decide +kernel
theorem dX14_arpFrame_41 : decode cX14_arpFrame 41 = .ok (.iconst 4, 1) := by decide +kernel
theorem dX14_arpFrame_42 : decode cX14_arpFrame 42 = .ok (.aload_n 0, 1) := by decide +kernel
theorem dX14_arpFrame_43 : decode cX14_arpFrame 43 = .ok (.getfield 128, 3) := by decide +kernel
theorem dX14_arpFrame_46 : decode cX14_arpFrame 46 = .ok (.invokevirtual 160, 3) := by decide +kernel
theorem dX14_arpFrame_49 : decode cX14_arpFrame 49 = .ok (.aload_n 0, 1) := by decide +kernel
theorem dX14_arpFrame_50 : decode cX14_arpFrame 50 = .ok (.bipush 28, 2) := by decide +kernel
theorem dX14_arpFrame_52 : decode cX14_arpFrame 52 = .ok (.iconst 4, 1) := by decide +kernel
theorem dX14_arpFrame_53 : decode cX14_arpFrame 53 = .ok (.aload_n 0, 1) := by decide +kernel
theorem dX14_arpFrame_54 : decode cX14_arpFrame 54 = .ok (.getfield 119, 3) := by decide +kernel
theorem dX14_arpFrame_57 : decode cX14_arpFrame 57 = .ok (.invokevirtual 160, 3) := by decide +kernel
theorem dX14_arpFrame_60 : decode cX14_arpFrame 60 = .ok (.aload_n 0, 1) := by decide +kernel
theorem dX14_arpFrame_61 : decode cX14_arpFrame 61 = .ok (.bipush 32, 2) := by decide +kernel
theorem dX14_arpFrame_63 : decode cX14_arpFrame 63 = .ok (.iconst 2, 1) := by decide +kernel
theorem dX14_arpFrame_64 : decode cX14_arpFrame 64 = .ok (.iload 4, 2) := by decide +kernel
theorem dX14_arpFrame_66 : decode cX14_arpFrame 66 = .ok (.invokevirtual 160, 3) := by decide +kernel
theorem dX14_arpFrame_69 : decode cX14_arpFrame 69 = .ok (.aload_n 0, 1) := by decide +kernel
theorem dX14_arpFrame_70 : decode cX14_arpFrame 70 = .ok (.bipush 34, 2) := by decide +kernel
theorem dX14_arpFrame_72 : decode cX14_arpFrame 72 = .ok (.iconst 4, 1) := by decide +kernel
theorem dX14_arpFrame_73 : decode cX14_arpFrame 73 = .ok (.iload 5, 2) := by decide +kernel
theorem dX14_arpFrame_75 : decode cX14_arpFrame 75 = .ok (.invokevirtual 160, 3) := by decide +kernel
theorem dX14_arpFrame_78 : decode cX14_arpFrame 78 = .ok (.aload_n 0, 1) := by decide +kernel
theorem dX14_arpFrame_79 : decode cX14_arpFrame 79 = .ok (.bipush 38, 2) := by decide +kernel
theorem dX14_arpFrame_81 : decode cX14_arpFrame 81 = .ok (.iconst 4, 1) := by decide +kernel
theorem dX14_arpFrame_82 : decode cX14_arpFrame 82 = .ok (.iload 6, 2) := by decide +kernel
theorem dX14_arpFrame_84 : decode cX14_arpFrame 84 = .ok (.invokevirtual 160, 3) := by decide +kernel
theorem dX14_arpFrame_87 : decode cX14_arpFrame 87 = .ok (.aload_n 0, 1) := by decide +kernel
theorem dX14_arpFrame_88 : decode cX14_arpFrame 88 = .ok (.iload_n 2, 1) := by decide +kernel
theorem dX14_arpFrame_89 : decode cX14_arpFrame 89 = .ok (.iload_n 3, 1) := by decide +kernel
theorem dX14_arpFrame_90 : decode cX14_arpFrame 90 = .ok (.sipush 2054, 3) := by decide +kernel
theorem dX14_arpFrame_93 : decode cX14_arpFrame 93 = .ok (.bipush 28, 2) := by decide +kernel
theorem dX14_arpFrame_95 : decode cX14_arpFrame 95 = .ok (.invokevirtual 197, 3) := by decide +kernel
theorem dX14_arpFrame_98 : decode cX14_arpFrame 98 = .ok (.return_, 1) := by decide +kernel
def rmX14_arpFrame : Room := { frames := 2, cells := 0, slots := 0, locals := 51 }
theorem kX14_arpFrame : yX14_arpFrame.cls = "WebHostModel" ∧ yX14_arpFrame.cls ≠ "java/lang/invoke/MethodHandle" ∧ yX14_arpFrame.cls ≠ "java/lang/invoke/VarHandle" ∧ (parseMethodDescriptor yX14_arpFrame.desc).map (fun d => d.parameters.length) = some 6 := by decide +kernel
def w14_arpFrame (σ : St) (x1 : Int32) (x2 : Int32) (x3 : Int32) (x4 : Int32) (x5 : Int32) (x6 : Int32) (Q : St → Prop) : Prop := w14_put σ 14 4 67584 (fun σ1 => (w14_put σ1 18 2 1540 (fun σ2 => (w14_put σ2 20 2 x1 (fun σ3 => (w14_put σ3 22 2 (σ3 14 0 8) (fun σ4 => (w14_put σ4 24 4 (σ4 14 0 9) (fun σ5 => (w14_put σ5 28 4 (σ5 14 0 5) (fun σ6 => (w14_put σ6 32 2 x4 (fun σ7 => (w14_put σ7 34 4 x5 (fun σ8 => (w14_put σ8 38 4 x6 (fun σ9 => (w14_send σ9 x2 x3 2054 28 (fun σ10 => (Q σ10))))))))))))))))))))
set_option maxHeartbeats 4000000 in
theorem m14_arpFrame (l : Launch) (G : Gh) (a1 : Nat → Nat → Nat) (τ : St) (σ : St) (x1 : Int32) (x2 : Int32) (x3 : Int32) (x4 : Int32) (x5 : Int32) (x6 : Int32) (Q : St → Prop) (hw : w14_arpFrame σ x1 x2 x3 x4 x5 x6 Q) : Met l yX14_arpFrame (ws_ yX14_arpFrame cX14_arpFrame 7 none) rmX14_arpFrame (PcS G a1 (cmb τ σ) [.ref (ga G 14 0), .int x1, .int x2, .int x3, .int x4, .int x5, .int x6]) (QVs G a1 (fun u => cmb τ u) Q) 0 0 (gA G) := by
  refine met_w (by decide) (Nat.le_of_ble_eq_true rfl) ?_
  intro p e s m below meth c ls C hH hS hl
  have C : Cx p e s m _ meth c cX14_arpFrame 7 none "WebHostModel" G := C
  have hl : lv_has ls 7 [(0, .ref (ga G 14 0)), (1, .int x1), (2, .int x2), (3, .int x3), (4, .int x4), (5, .int x5), (6, .int x6)] := hl
  have hx := C.1
  have hb := C.2.1
  have hown := C.2.2.2.2.2.1
  have hts := C.2.2.2.2.2.2.1
  obtain ⟨locs, hlocs⟩ : ∃ z : List Loc, z = [] := ⟨_, rfl⟩
  obtain ⟨H, hHe⟩ : ∃ z : Heap, z = s.heap := ⟨_, rfl⟩
  have hH : Hd G a1 (cmb τ σ) H := by rw [hHe]; exact hH
  have hS : va_S (gA G) s.heap H locs := by rw [hHe, hlocs]; exact hS
  refine W.heap0 hHe.symm hlocs.symm ?_
  refine lv_aload_n hx hb dX14_arpFrame_0 rfl (lv_at hl 0 rfl) ?_
  refine lv_bipush (v := 14) hx hb dX14_arpFrame_1 (by decide) ?_
  refine lv_iconst (v := 4) hx hb dX14_arpFrame_3 (by decide) ?_
  refine lv_ldc (v := 67584) hx hb hown (hts _ q2217) dX14_arpFrame_4 ?_
  refine kc_v (rn_v (As := [.int 14, .int 4, .int 67584]) (rest := []) C hH hS (by decide) rfl (by decide) (m14_put l G a1 τ σ 14 4 67584 _ hw) (cwV 3 hts (lw_V q2218 q2220 qs84 q171 q2221) rfl rfl rfl kX14_put ⟨Nat.le_of_ble_eq_true rfl, Nat.le_of_ble_eq_true rfl⟩) rfl hl.1 rfl (Nat.le_of_ble_eq_true rfl) dX14_arpFrame_6 ⟨Nat.le_of_ble_eq_true rfl, Nat.le_of_ble_eq_true rfl⟩) hS (fun σ1 H locs hw hH hS => ?_)
  refine lv_aload_n hx hb dX14_arpFrame_9 rfl (lv_at hl 0 rfl) ?_
  refine lv_bipush (v := 18) hx hb dX14_arpFrame_10 (by decide) ?_
  refine lv_iconst (v := 2) hx hb dX14_arpFrame_12 (by decide) ?_
  refine lv_sipush (v := 1540) hx hb dX14_arpFrame_13 (by decide) ?_
  refine kc_v (rn_v (As := [.int 18, .int 2, .int 1540]) (rest := []) C hH hS (by decide) rfl (by decide) (m14_put l G a1 τ σ1 18 2 1540 _ hw) (cwV 3 hts (lw_V q2218 q2220 qs84 q171 q2221) rfl rfl rfl kX14_put ⟨Nat.le_of_ble_eq_true rfl, Nat.le_of_ble_eq_true rfl⟩) rfl hl.1 rfl (Nat.le_of_ble_eq_true rfl) dX14_arpFrame_16 ⟨Nat.le_of_ble_eq_true rfl, Nat.le_of_ble_eq_true rfl⟩) hS (fun σ2 H locs hw hH hS => ?_)
  refine lv_aload_n hx hb dX14_arpFrame_19 rfl (lv_at hl 0 rfl) ?_
  refine lv_bipush (v := 20) hx hb dX14_arpFrame_20 (by decide) ?_
  refine lv_iconst (v := 2) hx hb dX14_arpFrame_22 (by decide) ?_
  refine lv_iload_n hx hb dX14_arpFrame_23 rfl (lv_at hl 1 rfl) ?_
  refine kc_v (rn_v (As := [.int 20, .int 2, .int x1]) (rest := []) C hH hS (by decide) rfl (by decide) (m14_put l G a1 τ σ2 20 2 x1 _ hw) (cwV 3 hts (lw_V q2218 q2220 qs84 q171 q2221) rfl rfl rfl kX14_put ⟨Nat.le_of_ble_eq_true rfl, Nat.le_of_ble_eq_true rfl⟩) rfl hl.1 rfl (Nat.le_of_ble_eq_true rfl) dX14_arpFrame_24 ⟨Nat.le_of_ble_eq_true rfl, Nat.le_of_ble_eq_true rfl⟩) hS (fun σ3 H locs hw hH hS => ?_)
  refine lv_aload_n hx hb dX14_arpFrame_27 rfl (lv_at hl 0 rfl) ?_
  refine lv_bipush (v := 22) hx hb dX14_arpFrame_28 (by decide) ?_
  refine lv_iconst (v := 2) hx hb dX14_arpFrame_30 (by decide) ?_
  refine lv_aload_n hx hb dX14_arpFrame_31 rfl (lv_at hl 0 rfl) ?_
  refine g14_8 C hH q1948 dX14_arpFrame_32 ?_
  refine kc_v (rn_v (As := [.int 22, .int 2, .int (σ3 14 0 8)]) (rest := []) C hH hS (by decide) rfl (by decide) (m14_put l G a1 τ σ3 22 2 (σ3 14 0 8) _ hw) (cwV 3 hts (lw_V q2218 q2220 qs84 q171 q2221) rfl rfl rfl kX14_put ⟨Nat.le_of_ble_eq_true rfl, Nat.le_of_ble_eq_true rfl⟩) rfl hl.1 rfl (Nat.le_of_ble_eq_true rfl) dX14_arpFrame_35 ⟨Nat.le_of_ble_eq_true rfl, Nat.le_of_ble_eq_true rfl⟩) hS (fun σ4 H locs hw hH hS => ?_)
  refine lv_aload_n hx hb dX14_arpFrame_38 rfl (lv_at hl 0 rfl) ?_
  refine lv_bipush (v := 24) hx hb dX14_arpFrame_39 (by decide) ?_
  refine lv_iconst (v := 4) hx hb dX14_arpFrame_41 (by decide) ?_
  refine lv_aload_n hx hb dX14_arpFrame_42 rfl (lv_at hl 0 rfl) ?_
  refine g14_9 C hH q1949 dX14_arpFrame_43 ?_
  refine kc_v (rn_v (As := [.int 24, .int 4, .int (σ4 14 0 9)]) (rest := []) C hH hS (by decide) rfl (by decide) (m14_put l G a1 τ σ4 24 4 (σ4 14 0 9) _ hw) (cwV 3 hts (lw_V q2218 q2220 qs84 q171 q2221) rfl rfl rfl kX14_put ⟨Nat.le_of_ble_eq_true rfl, Nat.le_of_ble_eq_true rfl⟩) rfl hl.1 rfl (Nat.le_of_ble_eq_true rfl) dX14_arpFrame_46 ⟨Nat.le_of_ble_eq_true rfl, Nat.le_of_ble_eq_true rfl⟩) hS (fun σ5 H locs hw hH hS => ?_)
  refine lv_aload_n hx hb dX14_arpFrame_49 rfl (lv_at hl 0 rfl) ?_
  refine lv_bipush (v := 28) hx hb dX14_arpFrame_50 (by decide) ?_
  refine lv_iconst (v := 4) hx hb dX14_arpFrame_52 (by decide) ?_
  refine lv_aload_n hx hb dX14_arpFrame_53 rfl (lv_at hl 0 rfl) ?_
  refine g14_5 C hH q1945 dX14_arpFrame_54 ?_
  refine kc_v (rn_v (As := [.int 28, .int 4, .int (σ5 14 0 5)]) (rest := []) C hH hS (by decide) rfl (by decide) (m14_put l G a1 τ σ5 28 4 (σ5 14 0 5) _ hw) (cwV 3 hts (lw_V q2218 q2220 qs84 q171 q2221) rfl rfl rfl kX14_put ⟨Nat.le_of_ble_eq_true rfl, Nat.le_of_ble_eq_true rfl⟩) rfl hl.1 rfl (Nat.le_of_ble_eq_true rfl) dX14_arpFrame_57 ⟨Nat.le_of_ble_eq_true rfl, Nat.le_of_ble_eq_true rfl⟩) hS (fun σ6 H locs hw hH hS => ?_)
  refine lv_aload_n hx hb dX14_arpFrame_60 rfl (lv_at hl 0 rfl) ?_
  refine lv_bipush (v := 32) hx hb dX14_arpFrame_61 (by decide) ?_
  refine lv_iconst (v := 2) hx hb dX14_arpFrame_63 (by decide) ?_
  refine lv_iload hx hb dX14_arpFrame_64 (lv_at hl 4 rfl) ?_
  refine kc_v (rn_v (As := [.int 32, .int 2, .int x4]) (rest := []) C hH hS (by decide) rfl (by decide) (m14_put l G a1 τ σ6 32 2 x4 _ hw) (cwV 3 hts (lw_V q2218 q2220 qs84 q171 q2221) rfl rfl rfl kX14_put ⟨Nat.le_of_ble_eq_true rfl, Nat.le_of_ble_eq_true rfl⟩) rfl hl.1 rfl (Nat.le_of_ble_eq_true rfl) dX14_arpFrame_66 ⟨Nat.le_of_ble_eq_true rfl, Nat.le_of_ble_eq_true rfl⟩) hS (fun σ7 H locs hw hH hS => ?_)
  refine lv_aload_n hx hb dX14_arpFrame_69 rfl (lv_at hl 0 rfl) ?_
  refine lv_bipush (v := 34) hx hb dX14_arpFrame_70 (by decide) ?_
  refine lv_iconst (v := 4) hx hb dX14_arpFrame_72 (by decide) ?_
  refine lv_iload hx hb dX14_arpFrame_73 (lv_at hl 5 rfl) ?_
  refine kc_v (rn_v (As := [.int 34, .int 4, .int x5]) (rest := []) C hH hS (by decide) rfl (by decide) (m14_put l G a1 τ σ7 34 4 x5 _ hw) (cwV 3 hts (lw_V q2218 q2220 qs84 q171 q2221) rfl rfl rfl kX14_put ⟨Nat.le_of_ble_eq_true rfl, Nat.le_of_ble_eq_true rfl⟩) rfl hl.1 rfl (Nat.le_of_ble_eq_true rfl) dX14_arpFrame_75 ⟨Nat.le_of_ble_eq_true rfl, Nat.le_of_ble_eq_true rfl⟩) hS (fun σ8 H locs hw hH hS => ?_)
  refine lv_aload_n hx hb dX14_arpFrame_78 rfl (lv_at hl 0 rfl) ?_
  refine lv_bipush (v := 38) hx hb dX14_arpFrame_79 (by decide) ?_
  refine lv_iconst (v := 4) hx hb dX14_arpFrame_81 (by decide) ?_
  refine lv_iload hx hb dX14_arpFrame_82 (lv_at hl 6 rfl) ?_
  refine kc_v (rn_v (As := [.int 38, .int 4, .int x6]) (rest := []) C hH hS (by decide) rfl (by decide) (m14_put l G a1 τ σ8 38 4 x6 _ hw) (cwV 3 hts (lw_V q2218 q2220 qs84 q171 q2221) rfl rfl rfl kX14_put ⟨Nat.le_of_ble_eq_true rfl, Nat.le_of_ble_eq_true rfl⟩) rfl hl.1 rfl (Nat.le_of_ble_eq_true rfl) dX14_arpFrame_84 ⟨Nat.le_of_ble_eq_true rfl, Nat.le_of_ble_eq_true rfl⟩) hS (fun σ9 H locs hw hH hS => ?_)
  refine lv_aload_n hx hb dX14_arpFrame_87 rfl (lv_at hl 0 rfl) ?_
  refine lv_iload_n hx hb dX14_arpFrame_88 rfl (lv_at hl 2 rfl) ?_
  refine lv_iload_n hx hb dX14_arpFrame_89 rfl (lv_at hl 3 rfl) ?_
  refine lv_sipush (v := 2054) hx hb dX14_arpFrame_90 (by decide) ?_
  refine lv_bipush (v := 28) hx hb dX14_arpFrame_93 (by decide) ?_
  refine kc_v (rn_v (As := [.int x2, .int x3, .int 2054, .int 28]) (rest := []) C hH hS (by decide) rfl (by decide) (m14_send l G a1 τ σ9 x2 x3 2054 28 _ hw) (cwV 4 hts (lw_V q2222 q2224 qs85 q171 q2225) rfl rfl rfl kX14_send ⟨Nat.le_of_ble_eq_true rfl, Nat.le_of_ble_eq_true rfl⟩) rfl hl.1 rfl (Nat.le_of_ble_eq_true rfl) dX14_arpFrame_95 ⟨Nat.le_of_ble_eq_true rfl, Nat.le_of_ble_eq_true rfl⟩) hS (fun σ10 H locs hw hH hS => ?_)
  exact rt_v C hH hS hw dX14_arpFrame_98
/-! WebHostModel.arrived(LWebHostModel$Connection;)V -/
abbrev cX14_arrived : ByteArray := prog_17_method_64_code
def yX14_arrived : MethodName := ⟨RX14, "arrived", "(LWebHostModel$Connection;)V"⟩
theorem dX14_arrived_0 : decode cX14_arrived 0 = .ok (.aload_n 1, 1) := by decide +kernel
theorem dX14_arrived_1 : decode cX14_arrived 1 = .ok (.invokestatic 557, 3) := by decide +kernel
theorem dX14_arrived_4 : decode cX14_arrived 4 = .ok (.ifCond .ne 4, 3) := by decide +kernel
theorem dX14_arrived_7 : decode cX14_arrived 7 = .ok (.return_, 1) := by decide +kernel
theorem dX14_arrived_8 : decode cX14_arrived 8 = .ok (.aload_n 1, 1) := by decide +kernel
theorem dX14_arrived_9 : decode cX14_arrived 9 = .ok (.invokevirtual 339, 3) := by decide +kernel
theorem dX14_arrived_12 : decode cX14_arrived 12 = .ok (.istore_n 2, 1) := by decide +kernel
theorem dX14_arrived_13 : decode cX14_arrived 13 = .ok (.aload_n 1, 1) := by decide +kernel
theorem dX14_arrived_14 : decode cX14_arrived 14 = .ok (.getfield 348, 3) := by decide +kernel
theorem dX14_arrived_17 : decode cX14_arrived 17 = .ok (.istore_n 3, 1) := by decide +kernel
theorem dX14_arrived_18 : decode cX14_arrived 18 = .ok (.aload_n 0, 1) := by decide +kernel
theorem dX14_arrived_19 : decode cX14_arrived 19 = .ok (.getfield 311, 3) := by decide +kernel
theorem dX14_arrived_22 : decode cX14_arrived 22 = .ok (.ifCond .le 16, 3) := by decide +kernel
theorem dX14_arrived_25 : decode cX14_arrived 25 = .ok (.aload_n 1, 1) := by decide +kernel
theorem dX14_arrived_26 : decode cX14_arrived 26 = .ok (.iconst 1, 1) := by decide +kernel
theorem dX14_arrived_27 : decode cX14_arrived 27 = .ok (.putfield 336, 3) := by decide +kernel
theorem dX14_arrived_30 : decode cX14_arrived 30 = .ok (.aload_n 1, 1) := by decide +kernel
theorem dX14_arrived_31 : decode cX14_arrived 31 = .ok (.aload_n 0, 1) := by decide +kernel
theorem dX14_arrived_32 : decode cX14_arrived 32 = .ok (.getfield 134, 3) := by decide +kernel
theorem dX14_arrived_35 : decode cX14_arrived 35 = .ok (.putfield 523, 3) := by decide +kernel
theorem dX14_arrived_38 : decode cX14_arrived 38 = .ok (.iconst 0, 1) := by decide +kernel
theorem dX14_arrived_39 : decode cX14_arrived 39 = .ok (.istore 4, 2) := by decide +kernel
theorem dX14_arrived_41 : decode cX14_arrived 41 = .ok (.iload 4, 2) := by decide +kernel
theorem dX14_arrived_43 : decode cX14_arrived 43 = .ok (.aload_n 0, 1) := by decide +kernel
theorem dX14_arrived_44 : decode cX14_arrived 44 = .ok (.getfield 311, 3) := by decide +kernel
theorem dX14_arrived_47 : decode cX14_arrived 47 = .ok (.if_icmp .ge 84, 3) := by decide +kernel
theorem dX14_arrived_50 : decode cX14_arrived 50 = .ok (.aload_n 0, 1) := by decide +kernel
theorem dX14_arrived_51 : decode cX14_arrived 51 = .ok (.getfield 298, 3) := by decide +kernel
theorem dX14_arrived_54 : decode cX14_arrived 54 = .ok (.iload 4, 2) := by decide +kernel
theorem dX14_arrived_56 : decode cX14_arrived 56 = .ok (.iadd, 1) := by decide +kernel
theorem dX14_arrived_57 : decode cX14_arrived 57 = .ok (.istore 5, 2) := by decide +kernel
theorem dX14_arrived_59 : decode cX14_arrived 59 = .ok (.iload 5, 2) := by decide +kernel
theorem dX14_arrived_61 : decode cX14_arrived 61 = .ok (.iload_n 3, 1) := by decide +kernel
theorem dX14_arrived_62 : decode cX14_arrived 62 = .ok (.invokestatic 363, 3) := by decide +kernel
theorem dX14_arrived_65 : decode cX14_arrived 65 = .ok (.ifCond .ne 60, 3) := by decide +kernel
theorem dX14_arrived_68 : decode cX14_arrived 68 = .ok (.iload 5, 2) := by decide +kernel
theorem dX14_arrived_70 : decode cX14_arrived 70 = .ok (.iload_n 3, 1) := by decide +kernel
theorem dX14_arrived_71 : decode cX14_arrived 71 = .ok (.iload_n 2, 1) := by decide +kernel
theorem dX14_arrived_72 : decode cX14_arrived 72 = .ok (.iadd, 1) := by decide +kernel
theorem dX14_arrived_73 : decode cX14_arrived 73 = .ok (.invokestatic 363, 3) := by decide +kernel
theorem dX14_arrived_76 : decode cX14_arrived 76 = .ok (.ifCond .eq 49, 3) := by decide +kernel
theorem dX14_arrived_79 : decode cX14_arrived 79 = .ok (.iload 5, 2) := by decide +kernel
theorem dX14_arrived_81 : decode cX14_arrived 81 = .ok (.aload_n 1, 1) := by decide +kernel
theorem dX14_arrived_82 : decode cX14_arrived 82 = .ok (.getfield 444, 3) := by decide +kernel
theorem dX14_arrived_85 : decode cX14_arrived 85 = .ok (.isub, 1) := by decide +kernel
theorem dX14_arrived_86 : decode cX14_arrived 86 = .ok (.istore 6, 2) := by decide +kernel
theorem dX14_arrived_88 : decode cX14_arrived 88 = .ok (.aload_n 1, 1) := by decide +kernel
theorem dX14_arrived_89 : decode cX14_arrived 89 = .ok (.getfield 484, 3) := by decide +kernel
theorem dX14_arrived_92 : decode cX14_arrived 92 = .ok (.iload 6, 2) := by decide +kernel
theorem dX14_arrived_94 : decode cX14_arrived 94 = .ok (.baload, 1) := by decide +kernel
theorem dX14_arrived_95 : decode cX14_arrived 95 = .ok (.ifCond .ne 30, 3) := by decide +kernel
theorem dX14_arrived_98 : decode cX14_arrived 98 = .ok (.aload_n 1, 1) := by decide +kernel
theorem dX14_arrived_99 : decode cX14_arrived 99 = .ok (.getfield 484, 3) := by decide +kernel
theorem dX14_arrived_102 : decode cX14_arrived 102 = .ok (.iload 6, 2) := by decide +kernel
theorem dX14_arrived_104 : decode cX14_arrived 104 = .ok (.iconst 1, 1) := by decide +kernel
theorem dX14_arrived_105 : decode cX14_arrived 105 = .ok (.bastore, 1) := by decide +kernel
theorem dX14_arrived_106 : decode cX14_arrived 106 = .ok (.aload_n 1, 1) := by decide +kernel
theorem dX14_arrived_107 : decode cX14_arrived 107 = .ok (.getfield 560, 3) := by decide +kernel
theorem dX14_arrived_110 : decode cX14_arrived 110 = .ok (.iload 6, 2) := by decide +kernel
theorem dX14_arrived_112 : decode cX14_arrived 112 = .ok (.aload_n 0, 1) := by decide +kernel
theorem dX14_arrived_113 : decode cX14_arrived 113 = .ok (.getfield 65, 3) := by decide +kernel
theorem dX14_arrived_116 : decode cX14_arrived 116 = .ok (.aload_n 0, 1) := by decide +kernel
theorem dX14_arrived_117 : decode cX14_arrived 117 = .ok (.getfield 308, 3) := by decide +kernel
theorem dX14_arrived_120 : decode cX14_arrived 120 = .ok (.iload 4, 2) := by decide +kernel
theorem dX14_arrived_122 : decode cX14_arrived 122 = .ok (.iadd, 1) := by decide +kernel
theorem dX14_arrived_123 : decode cX14_arrived 123 = .ok (.baload, 1) := by decide +kernel
theorem dX14_arrived_124 : decode cX14_arrived 124 = .ok (.bastore, 1) := by decide +kernel
theorem dX14_arrived_125 : decode cX14_arrived 125 = .ok (.iinc 4 1, 3) := by decide +kernel
theorem dX14_arrived_128 : decode cX14_arrived 128 = .ok (.goto (-87), 3) := by decide +kernel
theorem dX14_arrived_131 : decode cX14_arrived 131 = .ok (.aload_n 1, 1) := by decide +kernel
theorem dX14_arrived_132 : decode cX14_arrived 132 = .ok (.getfield 348, 3) := by decide +kernel
theorem dX14_arrived_135 : decode cX14_arrived 135 = .ok (.aload_n 1, 1) := by decide +kernel
theorem dX14_arrived_136 : decode cX14_arrived 136 = .ok (.getfield 444, 3) := by decide +kernel
theorem dX14_arrived_139 : decode cX14_arrived 139 = .ok (.isub, 1) := by decide +kernel
theorem dX14_arrived_140 : decode cX14_arrived 140 = .ok (.sipush 4096, 3) := by decide +kernel
theorem dX14_arrived_143 : decode cX14_arrived 143 = .ok (.if_icmp .ge 33, 3) := by decide +kernel
theorem dX14_arrived_146 : decode cX14_arrived 146 = .ok (.aload_n 1, 1) := by decide +kernel
theorem dX14_arrived_147 : decode cX14_arrived 147 = .ok (.getfield 484, 3) := by decide +kernel
theorem dX14_arrived_150 : decode cX14_arrived 150 = .ok (.aload_n 1, 1) := by decide +kernel
theorem dX14_arrived_151 : decode cX14_arrived 151 = .ok (.getfield 348, 3) := by decide +kernel
theorem dX14_arrived_154 : decode cX14_arrived 154 = .ok (.aload_n 1, 1) := by decide +kernel
theorem dX14_arrived_155 : decode cX14_arrived 155 = .ok (.getfield 444, 3) := by decide +kernel
theorem dX14_arrived_158 : decode cX14_arrived 158 = .ok (.isub, 1) := by decide +kernel
theorem dX14_arrived_159 : decode cX14_arrived 159 = .ok (.baload, 1) := by decide +kernel
theorem dX14_arrived_160 : decode cX14_arrived 160 = .ok (.ifCond .eq 16, 3) := by decide +kernel
theorem dX14_arrived_163 : decode cX14_arrived 163 = .ok (.aload_n 1, 1) := by decide +kernel
theorem dX14_arrived_164 : decode cX14_arrived 164 = .ok (.dup, 1) := by decide +kernel
theorem dX14_arrived_165 : decode cX14_arrived 165 = .ok (.getfield 348, 3) := by decide +kernel
theorem dX14_arrived_168 : decode cX14_arrived 168 = .ok (.iconst 1, 1) := by decide +kernel
theorem dX14_arrived_169 : decode cX14_arrived 169 = .ok (.iadd, 1) := by decide +kernel
theorem dX14_arrived_170 : decode cX14_arrived 170 = .ok (.putfield 348, 3) := by decide +kernel
theorem dX14_arrived_173 : decode cX14_arrived 173 = .ok (.goto (-42), 3) := by decide +kernel
theorem dX14_arrived_176 : decode cX14_arrived 176 = .ok (.aload_n 0, 1) := by decide +kernel
theorem dX14_arrived_177 : decode cX14_arrived 177 = .ok (.iconst 1, 1) := by decide +kernel
theorem dX14_arrived_178 : decode cX14_arrived 178 = .ok (.invokevirtual 325, 3) := by decide +kernel
theorem dX14_arrived_181 : decode cX14_arrived 181 = .ok (.ifCond .eq 52, 3) := by decide +kernel
theorem dX14_arrived_184 : decode cX14_arrived 184 = .ok (.aload_n 1, 1) := by decide +kernel
theorem dX14_arrived_185 : decode cX14_arrived 185 = .ok (.getfield 478, 3) := by decide +kernel
theorem dX14_arrived_188 : decode cX14_arrived 188 = .ok (.ifCond .ne 45, 3) := by decide +kernel
theorem dX14_arrived_191 : decode cX14_arrived 191 = .ok (.aload_n 0, 1) := by decide +kernel
theorem dX14_arrived_192 : decode cX14_arrived 192 = .ok (.getfield 298, 3) := by decide +kernel
theorem dX14_arrived_195 : decode cX14_arrived 195 = .ok (.aload_n 0, 1) := by decide +kernel
theorem dX14_arrived_196 : decode cX14_arrived 196 = .ok (.getfield 311, 3) := by decide +kernel
theorem dX14_arrived_199 : decode cX14_arrived 199 = .ok (.iadd, 1) := by decide +kernel
theorem dX14_arrived_200 : decode cX14_arrived 200 = .ok (.istore 4, 2) := by decide +kernel
theorem dX14_arrived_202 : decode cX14_arrived 202 = .ok (.iload 4, 2) := by decide +kernel
theorem dX14_arrived_204 : decode cX14_arrived 204 = .ok (.iload_n 3, 1) := by decide +kernel
theorem dX14_arrived_205 : decode cX14_arrived 205 = .ok (.invokestatic 363, 3) := by decide +kernel
theorem dX14_arrived_208 : decode cX14_arrived 208 = .ok (.ifCond .ne 25, 3) := by decide +kernel
theorem dX14_arrived_211 : decode cX14_arrived 211 = .ok (.iload 4, 2) := by decide +kernel
theorem dX14_arrived_213 : decode cX14_arrived 213 = .ok (.iload_n 3, 1) := by decide +kernel
theorem dX14_arrived_214 : decode cX14_arrived 214 = .ok (.iload_n 2, 1) := by decide +kernel
theorem dX14_arrived_215 : decode cX14_arrived 215 = .ok (.iadd, 1) := by decide +kernel
theorem dX14_arrived_216 : decode cX14_arrived 216 = .ok (.invokestatic 363, 3) := by decide +kernel
theorem dX14_arrived_219 : decode cX14_arrived 219 = .ok (.ifCond .eq 14, 3) := by decide +kernel
theorem dX14_arrived_222 : decode cX14_arrived 222 = .ok (.aload_n 1, 1) := by decide +kernel
theorem dX14_arrived_223 : decode cX14_arrived 223 = .ok (.iconst 1, 1) := by decide +kernel
theorem dX14_arrived_224 : decode cX14_arrived 224 = .ok (.putfield 478, 3) := by decide +kernel
theorem dX14_arrived_227 : decode cX14_arrived 227 = .ok (.aload_n 1, 1) := by decide +kernel
theorem dX14_arrived_228 : decode cX14_arrived 228 = .ok (.iload 4, 2) := by decide +kernel
theorem dX14_arrived_230 : decode cX14_arrived 230 = .ok (.putfield 563, 3) := by decide +kernel
theorem dX14_arrived_233 : decode cX14_arrived 233 = .ok (.aload_n 0, 1) := by decide +kernel
theorem dX14_arrived_234 : decode cX14_arrived 234 = .ok (.iconst 1, 1) := by decide +kernel
theorem dX14_arrived_235 : decode cX14_arrived 235 = .ok (.invokevirtual 325, 3) := by decide +kernel
theorem dX14_arrived_238 : decode cX14_arrived 238 = .ok (.ifCond .eq 8, 3) := by decide +kernel
theorem dX14_arrived_241 : decode cX14_arrived 241 = .ok (.aload_n 1, 1) := by decide +kernel
theorem dX14_arrived_242 : decode cX14_arrived 242 = .ok (.iconst 1, 1) := by decide +kernel
theorem dX14_arrived_243 : decode cX14_arrived 243 = .ok (.putfield 336, 3) := by decide +kernel
theorem dX14_arrived_246 : decode cX14_arrived 246 = .ok (.aload_n 1, 1) := by decide +kernel
theorem dX14_arrived_247 : decode cX14_arrived 247 = .ok (.getfield 478, 3) := by decide +kernel
theorem dX14_arrived_250 : decode cX14_arrived 250 = .ok (.ifCond .eq 84, 3) := by decide +kernel
theorem dX14_arrived_253 : decode cX14_arrived 253 = .ok (.aload_n 1, 1) := by decide +kernel
theorem dX14_arrived_254 : decode cX14_arrived 254 = .ok (.getfield 481, 3) := by decide +kernel
theorem dX14_arrived_257 : decode cX14_arrived 257 = .ok (.ifCond .ne 77, 3) := by decide +kernel
theorem dX14_arrived_260 : decode cX14_arrived 260 = .ok (.aload_n 1, 1) := by decide +kernel
theorem dX14_arrived_261 : decode cX14_arrived 261 = .ok (.getfield 348, 3) := by decide +kernel
theorem dX14_arrived_264 : decode cX14_arrived 264 = .ok (.aload_n 1, 1) := by decide +kernel
theorem dX14_arrived_265 : decode cX14_arrived 265 = .ok (.getfield 563, 3) := by decide +kernel
theorem dX14_arrived_268 : decode cX14_arrived 268 = .ok (.if_icmp .ne 66, 3) := by decide +kernel
theorem dX14_arrived_271 : decode cX14_arrived 271 = .ok (.aload_n 1, 1) := by decide +kernel
theorem dX14_arrived_272 : decode cX14_arrived 272 = .ok (.iconst 1, 1) := by decide +kernel
theorem dX14_arrived_273 : decode cX14_arrived 273 = .ok (.putfield 481, 3) := by decide +kernel
theorem dX14_arrived_276 : decode cX14_arrived 276 = .ok (.aload_n 1, 1) := by decide +kernel
theorem dX14_arrived_277 : decode cX14_arrived 277 = .ok (.dup, 1) := by decide +kernel
theorem dX14_arrived_278 : decode cX14_arrived 278 = .ok (.getfield 348, 3) := by decide +kernel
theorem dX14_arrived_281 : decode cX14_arrived 281 = .ok (.iconst 1, 1) := by decide +kernel
theorem dX14_arrived_282 : decode cX14_arrived 282 = .ok (.iadd, 1) := by decide +kernel
theorem dX14_arrived_283 : decode cX14_arrived 283 = .ok (.putfield 348, 3) := by decide +kernel
theorem dX14_arrived_286 : decode cX14_arrived 286 = .ok (.aload_n 1, 1) := by decide +kernel
theorem dX14_arrived_287 : decode cX14_arrived 287 = .ok (.iconst 1, 1) := by decide +kernel
theorem dX14_arrived_288 : decode cX14_arrived 288 = .ok (.putfield 336, 3) := by decide +kernel
theorem dX14_arrived_291 : decode cX14_arrived 291 = .ok (.aload_n 1, 1) := by decide +kernel
theorem dX14_arrived_292 : decode cX14_arrived 292 = .ok (.getfield 152, 3) := by decide +kernel
theorem dX14_arrived_295 : decode cX14_arrived 295 = .ok (.iconst 2, 1) := by decide +kernel
theorem dX14_arrived_296 : decode cX14_arrived 296 = .ok (.if_icmp .ne 12, 3) := by decide +kernel
theorem dX14_arrived_299 : decode cX14_arrived 299 = .ok (.aload_n 1, 1) := by decide +kernel
theorem dX14_arrived_300 : decode cX14_arrived 300 = .ok (.bipush 7, 2) := by decide +kernel
theorem dX14_arrived_302 : decode cX14_arrived 302 = .ok (.putfield 152, 3) := by decide +kernel
theorem dX14_arrived_305 : decode cX14_arrived 305 = .ok (.goto 29, 3) := by decide +kernel
theorem dX14_arrived_308 : decode cX14_arrived 308 = .ok (.aload_n 1, 1) := by decide +kernel
theorem dX14_arrived_309 : decode cX14_arrived 309 = .ok (.aload_n 1, 1) := by decide +kernel
theorem dX14_arrived_310 : decode cX14_arrived 310 = .ok (.getfield 152, 3) := by decide +kernel
theorem dX14_arrived_313 : decode cX14_arrived 313 = .ok (.iconst 3, 1) := by decide +kernel
theorem dX14_arrived_314 : decode cX14_arrived 314 = .ok (.if_icmp .ne 7, 3) := by decide +kernel
theorem dX14_arrived_317 : decode cX14_arrived 317 = .ok (.iconst 5, 1) := by decide +kernel
theorem dX14_arrived_318 : decode cX14_arrived 318 = .ok (.goto 5, 3) := by decide +kernel
theorem dX14_arrived_321 : decode cX14_arrived 321 = .ok (.bipush 6, 2) := by decide +kernel
theorem dX14_arrived_323 : decode cX14_arrived 323 = .ok (.putfield 152, 3) := by decide +kernel
theorem dX14_arrived_326 : decode cX14_arrived 326 = .ok (.aload_n 1, 1) := by decide +kernel
theorem dX14_arrived_327 : decode cX14_arrived 327 = .ok (.aload_n 0, 1) := by decide +kernel
theorem dX14_arrived_328 : decode cX14_arrived 328 = .ok (.getfield 134, 3) := by decide +kernel
theorem dX14_arrived_331 : decode cX14_arrived 331 = .ok (.putfield 499, 3) := by decide +kernel
theorem dX14_arrived_334 : decode cX14_arrived 334 = .ok (.return_, 1) := by decide +kernel
def rmX14_arrived : Room := { frames := 2, cells := 0, slots := 0, locals := 40 }
theorem kX14_arrived : yX14_arrived.cls = "WebHostModel" ∧ yX14_arrived.cls ≠ "java/lang/invoke/MethodHandle" ∧ yX14_arrived.cls ≠ "java/lang/invoke/VarHandle" ∧ (parseMethodDescriptor yX14_arrived.desc).map (fun d => d.parameters.length) = some 1 := by decide +kernel
def w14_arrived_L41 (o1 : Nat) (x2 : Int32) (x3 : Int32) (Q : St → Prop) (K131 : St → Prop) : Nat → St → Int32 → Prop
  | 0, _, _ => False
  | n + 1, σ, x4 => ((σ 14 0 39) ≤ x4 → K131 σ) ∧ (¬ (σ 14 0 39) ≤ x4 → (w14_before σ ((σ 14 0 34) + x4) x3 (fun r3 => ((¬ r3 = 0 → (w14_arrived_L41 o1 x2 x3 Q K131 n σ (x4 + 1))) ∧ (r3 = 0 → (w14_before σ ((σ 14 0 34) + x4) (x3 + x2) (fun r4 => ((r4 = 0 → (w14_arrived_L41 o1 x2 x3 Q K131 n σ (x4 + 1))) ∧ (¬ r4 = 0 → (vp_in (((σ 14 0 34) + x4) - (σ 15 o1 35)) 4096 ∧ (bo (σ 73 o1 (((σ 14 0 34) + x4) - (σ 15 o1 35)).toNatClampNeg) → ((¬ (σ 73 o1 (((σ 14 0 34) + x4) - (σ 15 o1 35)).toNatClampNeg) = 0 → (w14_arrived_L41 o1 x2 x3 Q K131 n σ (x4 + 1))) ∧ ((σ 73 o1 (((σ 14 0 34) + x4) - (σ 15 o1 35)).toNatClampNeg) = 0 → (vp_in (((σ 14 0 34) + x4) - (σ 15 o1 35)) 4096 ∧ (∀ σ5, σ5 = up3 σ 73 o1 (((σ 14 0 34) + x4) - (σ 15 o1 35)).toNatClampNeg 1 → (vp_in ((σ5 14 0 38) + x4) 4096 ∧ (by8 (σ5 64 0 ((σ5 14 0 38) + x4).toNatClampNeg) → (vp_in (((σ 14 0 34) + x4) - (σ 15 o1 35)) 4096 ∧ (∀ σ6, σ6 = up3 σ5 72 o1 (((σ 14 0 34) + x4) - (σ 15 o1 35)).toNatClampNeg (σ5 64 0 ((σ5 14 0 38) + x4).toNatClampNeg).toInt8.toInt32 → (w14_arrived_L41 o1 x2 x3 Q K131 n σ6 (x4 + 1)))))))))))))))))))))
set_option maxHeartbeats 4000000 in
theorem k14_arrived_L41 {p : Program} {l : Launch} {e : Env} {s : State} {m : MethodId} {args : Array Value} {below : List Frame} {meth : Method} {c : Code} {G : Gh} {a1 : Nat → Nat → Nat} {τ : St} {Q : St → Prop} {K131 : St → Prop} (C : Cx p e s m args meth c cX14_arrived 7 none "WebHostModel" G) (o1 : Nat) (x2 : Int32) (x3 : Int32) (ho1 : o1 < 16) :
    ∀ (n : Nat) (σ : St) (x4 : Int32), w14_arrived_L41 o1 x2 x3 Q K131 n σ x4 → ∀ (H : Heap) (locs : List Loc) (ls : Array Slot), Hd G a1 (cmb τ σ) H → va_S (gA G) s.heap H locs → lv_has ls 7 [(0, .ref (ga G 14 0)), (1, .ref (ga G 15 o1)), (2, .int x2), (3, .int x3), (4, .int x4)] → (∀ (σ : St) , K131 σ → ∀ (H : Heap) (locs : List Loc) (ls : Array Slot), Hd G a1 (cmb τ σ) H → va_S (gA G) s.heap H locs → lv_has ls 7 [(0, .ref (ga G 14 0)), (1, .ref (ga G 15 o1)), (2, .int x2), (3, .int x3)] → W p l e rmX14_arrived s m args below meth c H locs 0 0 (MQ below (QVs G a1 (fun u => cmb τ u) Q) args s 0 0 (gA G)) (F0 m 131 ls [])) → W p l e rmX14_arrived s m args below meth c H locs 0 0 (MQ below (QVs G a1 (fun u => cmb τ u) Q) args s 0 0 (gA G)) (F0 m 41 ls []) := by
  have hx := C.1
  have hb := C.2.1
  have hown := C.2.2.2.2.2.1
  have hts := C.2.2.2.2.2.2.1
  intro n
  induction n with
  | zero =>
    intro σ x4 hw
    exact False.elim hw
  | succ n ih =>
    intro σ x4 hw H locs ls hH hS hl hK131
    refine lv_iload hx hb dX14_arrived_41 (lv_at hl 4 rfl) ?_
    refine lv_aload_n hx hb dX14_arrived_43 rfl (lv_at hl 0 rfl) ?_
    refine g14_39 C hH q1979 dX14_arrived_44 ?_
    refine lv_icmp_ge (tgt := 131) hx hb dX14_arrived_47 (by decide) (fun h => ?_) (fun h => ?_)
    · have hw := hw.1 h
      exact hK131 σ hw H locs ls hH hS (lv_sub hl [0, 1, 2, 3] rfl)
    have hw := hw.2 h
    refine lv_aload_n hx hb dX14_arrived_50 rfl (lv_at hl 0 rfl) ?_
    refine g14_34 C hH q1974 dX14_arrived_51 ?_
    refine lv_iload hx hb dX14_arrived_54 (lv_at hl 4 rfl) ?_
    refine lv_iadd hx hb dX14_arrived_56 ?_
    refine lv_istore (lv' := [(5, .int ((σ 14 0 34) + x4)), (0, .ref (ga G 14 0)), (1, .ref (ga G 15 o1)), (2, .int x2), (3, .int x3), (4, .int x4)]) hx hb dX14_arrived_57 hl (by decide) rfl (fun ls hl => ?_)
    refine lv_iload hx hb dX14_arrived_59 (lv_at hl 0 rfl) ?_
    refine lv_iload_n hx hb dX14_arrived_61 rfl (lv_at hl 4 rfl) ?_
    refine kc_ip (rn_sp (As := [.int ((σ 14 0 34) + x4), .int x3]) (rest := []) C hH hS (m14_before l G a1 τ σ H ((σ 14 0 34) + x4) x3 _ hw) (va_cwS 2 hts (lw_S q2294 q2295 q171 q2296) rfl rfl rfl kX14_before.2 ⟨Nat.le_of_ble_eq_true rfl, Nat.le_of_ble_eq_true rfl⟩) rfl hl.1 rfl (Nat.le_of_ble_eq_true rfl) dX14_arrived_62 ⟨Nat.le_of_ble_eq_true rfl, Nat.le_of_ble_eq_true rfl⟩) hS (fun r3 locs hw hS => ?_)
    refine lv_if_ne (tgt := 125) hx hb dX14_arrived_65 (by decide) (fun h => ?_) (fun h => ?_)
    · have hw := hw.1 h
      refine lv_iinc (v := x4 + 1) (lv' := [(4, .int (x4 + 1)), (5, .int ((σ 14 0 34) + x4)), (0, .ref (ga G 14 0)), (1, .ref (ga G 15 o1)), (2, .int x2), (3, .int x3)]) hx hb dX14_arrived_125 hl (k := 5) rfl rfl (by decide) rfl (fun ls hl => ?_)
      refine lv_goto (tgt := 41) hx hb dX14_arrived_128 (by decide) ?_
      exact ih σ (x4 + 1) hw H locs ls hH hS (lv_sub hl [2, 3, 4, 5, 0] rfl) hK131
    have hw := hw.2 h
    refine lv_iload hx hb dX14_arrived_68 (lv_at hl 0 rfl) ?_
    refine lv_iload_n hx hb dX14_arrived_70 rfl (lv_at hl 4 rfl) ?_
    refine lv_iload_n hx hb dX14_arrived_71 rfl (lv_at hl 3 rfl) ?_
    refine lv_iadd hx hb dX14_arrived_72 ?_
    refine kc_ip (rn_sp (As := [.int ((σ 14 0 34) + x4), .int (x3 + x2)]) (rest := []) C hH hS (m14_before l G a1 τ σ H ((σ 14 0 34) + x4) (x3 + x2) _ hw) (va_cwS 2 hts (lw_S q2294 q2295 q171 q2296) rfl rfl rfl kX14_before.2 ⟨Nat.le_of_ble_eq_true rfl, Nat.le_of_ble_eq_true rfl⟩) rfl hl.1 rfl (Nat.le_of_ble_eq_true rfl) dX14_arrived_73 ⟨Nat.le_of_ble_eq_true rfl, Nat.le_of_ble_eq_true rfl⟩) hS (fun r4 locs hw hS => ?_)
    refine lv_if_eq (tgt := 125) hx hb dX14_arrived_76 (by decide) (fun h => ?_) (fun h => ?_)
    · have hw := hw.1 h
      refine lv_iinc (v := x4 + 1) (lv' := [(4, .int (x4 + 1)), (5, .int ((σ 14 0 34) + x4)), (0, .ref (ga G 14 0)), (1, .ref (ga G 15 o1)), (2, .int x2), (3, .int x3)]) hx hb dX14_arrived_125 hl (k := 5) rfl rfl (by decide) rfl (fun ls hl => ?_)
      refine lv_goto (tgt := 41) hx hb dX14_arrived_128 (by decide) ?_
      exact ih σ (x4 + 1) hw H locs ls hH hS (lv_sub hl [2, 3, 4, 5, 0] rfl) hK131
    have hw := hw.2 h
    refine lv_iload hx hb dX14_arrived_79 (lv_at hl 0 rfl) ?_
    refine lv_aload_n hx hb dX14_arrived_81 rfl (lv_at hl 2 rfl) ?_
    refine g15_35 C hH ho1 q1750 dX14_arrived_82 ?_
    refine lv_isub hx hb dX14_arrived_85 ?_
    refine lv_istore (lv' := [(6, .int (((σ 14 0 34) + x4) - (σ 15 o1 35))), (5, .int ((σ 14 0 34) + x4)), (0, .ref (ga G 14 0)), (1, .ref (ga G 15 o1)), (2, .int x2), (3, .int x3), (4, .int x4)]) hx hb dX14_arrived_86 hl (by decide) rfl (fun ls hl => ?_)
    refine lv_aload_n hx hb dX14_arrived_88 rfl (lv_at hl 3 rfl) ?_
    refine g15_33 C hH ho1 q1747 dX14_arrived_89 ?_
    refine lv_iload hx hb dX14_arrived_92 (lv_at hl 0 rfl) ?_
    refine l73 C hH ho1 hw.1 dX14_arrived_94 (fun hz => ?_)
    have hw := hw.2 hz
    refine lv_if_ne (tgt := 125) hx hb dX14_arrived_95 (by decide) (fun h => ?_) (fun h => ?_)
    · have hw := hw.1 h
      refine lv_iinc (v := x4 + 1) (lv' := [(4, .int (x4 + 1)), (6, .int (((σ 14 0 34) + x4) - (σ 15 o1 35))), (5, .int ((σ 14 0 34) + x4)), (0, .ref (ga G 14 0)), (1, .ref (ga G 15 o1)), (2, .int x2), (3, .int x3)]) hx hb dX14_arrived_125 hl (k := 6) rfl rfl (by decide) rfl (fun ls hl => ?_)
      refine lv_goto (tgt := 41) hx hb dX14_arrived_128 (by decide) ?_
      exact ih σ (x4 + 1) hw H locs ls hH hS (lv_sub hl [3, 4, 5, 6, 0] rfl) hK131
    have hw := hw.2 h
    refine lv_aload_n hx hb dX14_arrived_98 rfl (lv_at hl 3 rfl) ?_
    refine g15_33 C hH ho1 q1747 dX14_arrived_99 ?_
    refine lv_iload hx hb dX14_arrived_102 (lv_at hl 0 rfl) ?_
    refine lv_iconst (v := 1) hx hb dX14_arrived_104 (by decide) ?_
    refine s73 C hH hS ho1 hw.1 (Or.inr rfl) dX14_arrived_105 (fun σ5 e5 H locs hH hS => ?_)
    have hw := hw.2 σ5 e5
    refine lv_aload_n hx hb dX14_arrived_106 rfl (lv_at hl 3 rfl) ?_
    refine g15_32 C hH ho1 q1745 dX14_arrived_107 ?_
    refine lv_iload hx hb dX14_arrived_110 (lv_at hl 0 rfl) ?_
    refine lv_aload_n hx hb dX14_arrived_112 rfl (lv_at hl 2 rfl) ?_
    refine g14_29 C hH q1969 dX14_arrived_113 ?_
    refine lv_aload_n hx hb dX14_arrived_116 rfl (lv_at hl 2 rfl) ?_
    refine g14_38 C hH q1978 dX14_arrived_117 ?_
    refine lv_iload hx hb dX14_arrived_120 (lv_at hl 6 rfl) ?_
    refine lv_iadd hx hb dX14_arrived_122 ?_
    refine l64 C hH hw.1 dX14_arrived_123 (fun hz => ?_)
    have hw := hw.2 hz
    refine s72 C hH hS ho1 hw.1 dX14_arrived_124 (fun σ6 e6 H locs hH hS => ?_)
    have hw := hw.2 σ6 e6
    refine lv_iinc (v := x4 + 1) (lv' := [(4, .int (x4 + 1)), (6, .int (((σ 14 0 34) + x4) - (σ 15 o1 35))), (5, .int ((σ 14 0 34) + x4)), (0, .ref (ga G 14 0)), (1, .ref (ga G 15 o1)), (2, .int x2), (3, .int x3)]) hx hb dX14_arrived_125 hl (k := 6) rfl rfl (by decide) rfl (fun ls hl => ?_)
    refine lv_goto (tgt := 41) hx hb dX14_arrived_128 (by decide) ?_
    exact ih σ6 (x4 + 1) hw H locs ls hH hS (lv_sub hl [3, 4, 5, 6, 0] rfl) hK131
def w14_arrived_L131 (o1 : Nat) (x2 : Int32) (x3 : Int32) (Q : St → Prop) (K176 : St → Prop) : Nat → St → Prop
  | 0, _ => False
  | n + 1, σ => (4096 ≤ ((σ 15 o1 36) - (σ 15 o1 35)) → K176 σ) ∧ (¬ 4096 ≤ ((σ 15 o1 36) - (σ 15 o1 35)) → (vp_in ((σ 15 o1 36) - (σ 15 o1 35)) 4096 ∧ (bo (σ 73 o1 ((σ 15 o1 36) - (σ 15 o1 35)).toNatClampNeg) → (((σ 73 o1 ((σ 15 o1 36) - (σ 15 o1 35)).toNatClampNeg) = 0 → K176 σ) ∧ (¬ (σ 73 o1 ((σ 15 o1 36) - (σ 15 o1 35)).toNatClampNeg) = 0 → (∀ σ9, σ9 = up3 σ 15 o1 36 ((σ 15 o1 36) + 1) → (w14_arrived_L131 o1 x2 x3 Q K176 n σ9)))))))
set_option maxHeartbeats 4000000 in
theorem k14_arrived_L131 {p : Program} {l : Launch} {e : Env} {s : State} {m : MethodId} {args : Array Value} {below : List Frame} {meth : Method} {c : Code} {G : Gh} {a1 : Nat → Nat → Nat} {τ : St} {Q : St → Prop} {K176 : St → Prop} (C : Cx p e s m args meth c cX14_arrived 7 none "WebHostModel" G) (o1 : Nat) (x2 : Int32) (x3 : Int32) (ho1 : o1 < 16) :
    ∀ (n : Nat) (σ : St), w14_arrived_L131 o1 x2 x3 Q K176 n σ → ∀ (H : Heap) (locs : List Loc) (ls : Array Slot), Hd G a1 (cmb τ σ) H → va_S (gA G) s.heap H locs → lv_has ls 7 [(0, .ref (ga G 14 0)), (1, .ref (ga G 15 o1)), (2, .int x2), (3, .int x3)] → (∀ (σ : St) , K176 σ → ∀ (H : Heap) (locs : List Loc) (ls : Array Slot), Hd G a1 (cmb τ σ) H → va_S (gA G) s.heap H locs → lv_has ls 7 [(0, .ref (ga G 14 0)), (1, .ref (ga G 15 o1)), (2, .int x2), (3, .int x3)] → W p l e rmX14_arrived s m args below meth c H locs 0 0 (MQ below (QVs G a1 (fun u => cmb τ u) Q) args s 0 0 (gA G)) (F0 m 176 ls [])) → W p l e rmX14_arrived s m args below meth c H locs 0 0 (MQ below (QVs G a1 (fun u => cmb τ u) Q) args s 0 0 (gA G)) (F0 m 131 ls []) := by
  have hx := C.1
  have hb := C.2.1
  have hown := C.2.2.2.2.2.1
  have hts := C.2.2.2.2.2.2.1
  intro n
  induction n with
  | zero =>
    intro σ hw
    exact False.elim hw
  | succ n ih =>
    intro σ hw H locs ls hH hS hl hK176
    refine lv_aload_n hx hb dX14_arrived_131 rfl (lv_at hl 1 rfl) ?_
    refine g15_36 C hH ho1 q1752 dX14_arrived_132 ?_
    refine lv_aload_n hx hb dX14_arrived_135 rfl (lv_at hl 1 rfl) ?_
    refine g15_35 C hH ho1 q1750 dX14_arrived_136 ?_
    refine lv_isub hx hb dX14_arrived_139 ?_
    refine lv_sipush (v := 4096) hx hb dX14_arrived_140 (by decide) ?_
    refine lv_icmp_ge (tgt := 176) hx hb dX14_arrived_143 (by decide) (fun h => ?_) (fun h => ?_)
    · have hw := hw.1 h
      exact hK176 σ hw H locs ls hH hS (lv_sub hl [0, 1, 2, 3] rfl)
    have hw := hw.2 h
    refine lv_aload_n hx hb dX14_arrived_146 rfl (lv_at hl 1 rfl) ?_
    refine g15_33 C hH ho1 q1747 dX14_arrived_147 ?_
    refine lv_aload_n hx hb dX14_arrived_150 rfl (lv_at hl 1 rfl) ?_
    refine g15_36 C hH ho1 q1752 dX14_arrived_151 ?_
    refine lv_aload_n hx hb dX14_arrived_154 rfl (lv_at hl 1 rfl) ?_
    refine g15_35 C hH ho1 q1750 dX14_arrived_155 ?_
    refine lv_isub hx hb dX14_arrived_158 ?_
    refine l73 C hH ho1 hw.1 dX14_arrived_159 (fun hz => ?_)
    have hw := hw.2 hz
    refine lv_if_eq (tgt := 176) hx hb dX14_arrived_160 (by decide) (fun h => ?_) (fun h => ?_)
    · have hw := hw.1 h
      exact hK176 σ hw H locs ls hH hS (lv_sub hl [0, 1, 2, 3] rfl)
    have hw := hw.2 h
    refine lv_aload_n hx hb dX14_arrived_163 rfl (lv_at hl 1 rfl) ?_
    refine lv_dup hx hb dX14_arrived_164 rfl ?_
    refine g15_36 C hH ho1 q1752 dX14_arrived_165 ?_
    refine lv_iconst (v := 1) hx hb dX14_arrived_168 (by decide) ?_
    refine lv_iadd hx hb dX14_arrived_169 ?_
    refine p15_36 C hH hS ho1 q1752 dX14_arrived_170 (fun σ9 e9 H locs hH hS => ?_)
    have hw := hw σ9 e9
    refine lv_goto (tgt := 131) hx hb dX14_arrived_173 (by decide) ?_
    exact ih σ9 hw H locs ls hH hS (lv_sub hl [0, 1, 2, 3] rfl) hK176
def w14_arrived_J246 (σ : St) (o1 : Nat) (Q : St → Prop) : Prop := bo (σ 15 o1 40) → (((σ 15 o1 40) = 0 → Q σ) ∧ (¬ (σ 15 o1 40) = 0 → (bo (σ 15 o1 41) → ((¬ (σ 15 o1 41) = 0 → Q σ) ∧ ((σ 15 o1 41) = 0 → ((¬ (σ 15 o1 36) = (σ 15 o1 42) → Q σ) ∧ ((σ 15 o1 36) = (σ 15 o1 42) → (∀ σ14, σ14 = up3 σ 15 o1 41 1 → (∀ σ15, σ15 = up3 σ14 15 o1 36 ((σ14 15 o1 36) + 1) → (∀ σ16, σ16 = up3 σ15 15 o1 39 1 → ((¬ (σ16 15 o1 0) = 2 → ((¬ (σ16 15 o1 0) = 3 → (∀ σ17, σ17 = up3 σ16 15 o1 0 6 → (∀ σ18, σ18 = up3 σ17 15 o1 45 (σ17 14 0 10) → (Q σ18)))) ∧ ((σ16 15 o1 0) = 3 → (∀ σ19, σ19 = up3 σ16 15 o1 0 5 → (∀ σ20, σ20 = up3 σ19 15 o1 45 (σ19 14 0 10) → (Q σ20)))))) ∧ ((σ16 15 o1 0) = 2 → (∀ σ21, σ21 = up3 σ16 15 o1 0 7 → (Q σ21))))))))))))))
set_option maxHeartbeats 4000000 in
theorem k14_arrived_J246 {p : Program} {l : Launch} {e : Env} {s : State} {m : MethodId} {args : Array Value} {below : List Frame} {meth : Method} {c : Code} {G : Gh} {a1 : Nat → Nat → Nat} {τ : St} {Q : St → Prop} (C : Cx p e s m args meth c cX14_arrived 7 none "WebHostModel" G) (σ : St) (o1 : Nat) (ho1 : o1 < 16) (hw : w14_arrived_J246 σ o1 Q) (H : Heap) (locs : List Loc) (ls : Array Slot) (hH : Hd G a1 (cmb τ σ) H) (hS : va_S (gA G) s.heap H locs) (hl : lv_has ls 7 [(0, .ref (ga G 14 0)), (1, .ref (ga G 15 o1))]) : W p l e rmX14_arrived s m args below meth c H locs 0 0 (MQ below (QVs G a1 (fun u => cmb τ u) Q) args s 0 0 (gA G)) (F0 m 246 ls []) := by
  have hx := C.1
  have hb := C.2.1
  have hown := C.2.2.2.2.2.1
  have hts := C.2.2.2.2.2.2.1
  refine lv_aload_n hx hb dX14_arrived_246 rfl (lv_at hl 1 rfl) ?_
  refine g15_40 C hH ho1 q1756 dX14_arrived_247 (fun hz => ?_)
  have hw := hw hz
  refine lv_if_eq (tgt := 334) hx hb dX14_arrived_250 (by decide) (fun h => ?_) (fun h => ?_)
  · have hw := hw.1 h
    exact rt_v C hH hS hw dX14_arrived_334
  have hw := hw.2 h
  refine lv_aload_n hx hb dX14_arrived_253 rfl (lv_at hl 1 rfl) ?_
  refine g15_41 C hH ho1 q1758 dX14_arrived_254 (fun hz => ?_)
  have hw := hw hz
  refine lv_if_ne (tgt := 334) hx hb dX14_arrived_257 (by decide) (fun h => ?_) (fun h => ?_)
  · have hw := hw.1 h
    exact rt_v C hH hS hw dX14_arrived_334
  have hw := hw.2 h
  refine lv_aload_n hx hb dX14_arrived_260 rfl (lv_at hl 1 rfl) ?_
  refine g15_36 C hH ho1 q1752 dX14_arrived_261 ?_
  refine lv_aload_n hx hb dX14_arrived_264 rfl (lv_at hl 1 rfl) ?_
  refine g15_42 C hH ho1 q1759 dX14_arrived_265 ?_
  refine lv_icmp_ne (tgt := 334) hx hb dX14_arrived_268 (by decide) (fun h => ?_) (fun h => ?_)
  · have hw := hw.1 h
    exact rt_v C hH hS hw dX14_arrived_334
  have hw := hw.2 h
  refine lv_aload_n hx hb dX14_arrived_271 rfl (lv_at hl 1 rfl) ?_
  refine lv_iconst (v := 1) hx hb dX14_arrived_272 (by decide) ?_
  refine p15_41 C hH hS ho1 (Or.inr rfl) q1758 dX14_arrived_273 (fun σ14 e14 H locs hH hS => ?_)
  have hw := hw σ14 e14
  refine lv_aload_n hx hb dX14_arrived_276 rfl (lv_at hl 1 rfl) ?_
  refine lv_dup hx hb dX14_arrived_277 rfl ?_
  refine g15_36 C hH ho1 q1752 dX14_arrived_278 ?_
  refine lv_iconst (v := 1) hx hb dX14_arrived_281 (by decide) ?_
  refine lv_iadd hx hb dX14_arrived_282 ?_
  refine p15_36 C hH hS ho1 q1752 dX14_arrived_283 (fun σ15 e15 H locs hH hS => ?_)
  have hw := hw σ15 e15
  refine lv_aload_n hx hb dX14_arrived_286 rfl (lv_at hl 1 rfl) ?_
  refine lv_iconst (v := 1) hx hb dX14_arrived_287 (by decide) ?_
  refine p15_39 C hH hS ho1 (Or.inr rfl) q1755 dX14_arrived_288 (fun σ16 e16 H locs hH hS => ?_)
  have hw := hw σ16 e16
  refine lv_aload_n hx hb dX14_arrived_291 rfl (lv_at hl 1 rfl) ?_
  refine g15_0 C hH ho1 q1707 dX14_arrived_292 ?_
  refine lv_iconst (v := 2) hx hb dX14_arrived_295 (by decide) ?_
  refine lv_icmp_ne (tgt := 308) hx hb dX14_arrived_296 (by decide) (fun h => ?_) (fun h => ?_)
  · have hw := hw.1 h
    refine lv_aload_n hx hb dX14_arrived_308 rfl (lv_at hl 1 rfl) ?_
    refine lv_aload_n hx hb dX14_arrived_309 rfl (lv_at hl 1 rfl) ?_
    refine g15_0 C hH ho1 q1707 dX14_arrived_310 ?_
    refine lv_iconst (v := 3) hx hb dX14_arrived_313 (by decide) ?_
    refine lv_icmp_ne (tgt := 321) hx hb dX14_arrived_314 (by decide) (fun h => ?_) (fun h => ?_)
    · have hw := hw.1 h
      refine lv_bipush (v := 6) hx hb dX14_arrived_321 (by decide) ?_
      refine p15_0 C hH hS ho1 q1707 dX14_arrived_323 (fun σ17 e17 H locs hH hS => ?_)
      have hw := hw σ17 e17
      refine lv_aload_n hx hb dX14_arrived_326 rfl (lv_at hl 1 rfl) ?_
      refine lv_aload_n hx hb dX14_arrived_327 rfl (lv_at hl 0 rfl) ?_
      refine g14_10 C hH q1950 dX14_arrived_328 ?_
      refine p15_45 C hH hS ho1 q1762 dX14_arrived_331 (fun σ18 e18 H locs hH hS => ?_)
      have hw := hw σ18 e18
      exact rt_v C hH hS hw dX14_arrived_334
    have hw := hw.2 h
    refine lv_iconst (v := 5) hx hb dX14_arrived_317 (by decide) ?_
    refine lv_goto (tgt := 323) hx hb dX14_arrived_318 (by decide) ?_
    refine p15_0 C hH hS ho1 q1707 dX14_arrived_323 (fun σ19 e19 H locs hH hS => ?_)
    have hw := hw σ19 e19
    refine lv_aload_n hx hb dX14_arrived_326 rfl (lv_at hl 1 rfl) ?_
    refine lv_aload_n hx hb dX14_arrived_327 rfl (lv_at hl 0 rfl) ?_
    refine g14_10 C hH q1950 dX14_arrived_328 ?_
    refine p15_45 C hH hS ho1 q1762 dX14_arrived_331 (fun σ20 e20 H locs hH hS => ?_)
    have hw := hw σ20 e20
    exact rt_v C hH hS hw dX14_arrived_334
  have hw := hw.2 h
  refine lv_aload_n hx hb dX14_arrived_299 rfl (lv_at hl 1 rfl) ?_
  refine lv_bipush (v := 7) hx hb dX14_arrived_300 (by decide) ?_
  refine p15_0 C hH hS ho1 q1707 dX14_arrived_302 (fun σ21 e21 H locs hH hS => ?_)
  have hw := hw σ21 e21
  refine lv_goto (tgt := 334) hx hb dX14_arrived_305 (by decide) ?_
  exact rt_v C hH hS hw dX14_arrived_334
def w14_arrived_J176 (σ : St) (o1 : Nat) (x2 : Int32) (x3 : Int32) (Q : St → Prop) : Prop := w14_is σ 1 (fun r12 => ((r12 = 0 → (w14_is σ 1 (fun r13 => ((r13 = 0 → w14_arrived_J246 σ o1 Q) ∧ (¬ r13 = 0 → (∀ σ22, σ22 = up3 σ 15 o1 39 1 → (w14_arrived_J246 σ22 o1 Q))))))) ∧ (¬ r12 = 0 → (bo (σ 15 o1 40) → ((¬ (σ 15 o1 40) = 0 → (w14_is σ 1 (fun r23 => ((r23 = 0 → w14_arrived_J246 σ o1 Q) ∧ (¬ r23 = 0 → (∀ σ24, σ24 = up3 σ 15 o1 39 1 → (w14_arrived_J246 σ24 o1 Q))))))) ∧ ((σ 15 o1 40) = 0 → (w14_before σ ((σ 14 0 34) + (σ 14 0 39)) x3 (fun r25 => ((¬ r25 = 0 → (w14_is σ 1 (fun r26 => ((r26 = 0 → w14_arrived_J246 σ o1 Q) ∧ (¬ r26 = 0 → (∀ σ27, σ27 = up3 σ 15 o1 39 1 → (w14_arrived_J246 σ27 o1 Q))))))) ∧ (r25 = 0 → (w14_before σ ((σ 14 0 34) + (σ 14 0 39)) (x3 + x2) (fun r28 => ((r28 = 0 → (w14_is σ 1 (fun r29 => ((r29 = 0 → w14_arrived_J246 σ o1 Q) ∧ (¬ r29 = 0 → (∀ σ30, σ30 = up3 σ 15 o1 39 1 → (w14_arrived_J246 σ30 o1 Q))))))) ∧ (¬ r28 = 0 → (∀ σ31, σ31 = up3 σ 15 o1 40 1 → (∀ σ32, σ32 = up3 σ31 15 o1 42 ((σ 14 0 34) + (σ 14 0 39)) → (w14_is σ32 1 (fun r33 => ((r33 = 0 → w14_arrived_J246 σ32 o1 Q) ∧ (¬ r33 = 0 → (∀ σ34, σ34 = up3 σ32 15 o1 39 1 → (w14_arrived_J246 σ34 o1 Q))))))))))))))))))))))
set_option maxHeartbeats 4000000 in
theorem k14_arrived_J176 {p : Program} {l : Launch} {e : Env} {s : State} {m : MethodId} {args : Array Value} {below : List Frame} {meth : Method} {c : Code} {G : Gh} {a1 : Nat → Nat → Nat} {τ : St} {Q : St → Prop} (C : Cx p e s m args meth c cX14_arrived 7 none "WebHostModel" G) (σ : St) (o1 : Nat) (x2 : Int32) (x3 : Int32) (ho1 : o1 < 16) (hw : w14_arrived_J176 σ o1 x2 x3 Q) (H : Heap) (locs : List Loc) (ls : Array Slot) (hH : Hd G a1 (cmb τ σ) H) (hS : va_S (gA G) s.heap H locs) (hl : lv_has ls 7 [(0, .ref (ga G 14 0)), (1, .ref (ga G 15 o1)), (2, .int x2), (3, .int x3)]) : W p l e rmX14_arrived s m args below meth c H locs 0 0 (MQ below (QVs G a1 (fun u => cmb τ u) Q) args s 0 0 (gA G)) (F0 m 176 ls []) := by
  have hx := C.1
  have hb := C.2.1
  have hown := C.2.2.2.2.2.1
  have hts := C.2.2.2.2.2.2.1
  refine lv_aload_n hx hb dX14_arrived_176 rfl (lv_at hl 0 rfl) ?_
  refine lv_iconst (v := 1) hx hb dX14_arrived_177 (by decide) ?_
  refine kc_ip (rn_vp (As := [.int 1]) (rest := []) C hH hS (by decide) rfl (by decide) (m14_is l G a1 τ σ H 1 _ hw) (cwV 1 hts (lw_V q2373 q2375 qs116 q171 q2376) rfl rfl rfl kX14_is ⟨Nat.le_of_ble_eq_true rfl, Nat.le_of_ble_eq_true rfl⟩) rfl hl.1 rfl (Nat.le_of_ble_eq_true rfl) dX14_arrived_178 ⟨Nat.le_of_ble_eq_true rfl, Nat.le_of_ble_eq_true rfl⟩) hS (fun r12 locs hw hS => ?_)
  refine lv_if_eq (tgt := 233) hx hb dX14_arrived_181 (by decide) (fun h => ?_) (fun h => ?_)
  · have hw := hw.1 h
    refine lv_aload_n hx hb dX14_arrived_233 rfl (lv_at hl 0 rfl) ?_
    refine lv_iconst (v := 1) hx hb dX14_arrived_234 (by decide) ?_
    refine kc_ip (rn_vp (As := [.int 1]) (rest := []) C hH hS (by decide) rfl (by decide) (m14_is l G a1 τ σ H 1 _ hw) (cwV 1 hts (lw_V q2373 q2375 qs116 q171 q2376) rfl rfl rfl kX14_is ⟨Nat.le_of_ble_eq_true rfl, Nat.le_of_ble_eq_true rfl⟩) rfl hl.1 rfl (Nat.le_of_ble_eq_true rfl) dX14_arrived_235 ⟨Nat.le_of_ble_eq_true rfl, Nat.le_of_ble_eq_true rfl⟩) hS (fun r13 locs hw hS => ?_)
    refine lv_if_eq (tgt := 246) hx hb dX14_arrived_238 (by decide) (fun h => ?_) (fun h => ?_)
    · have hw := hw.1 h
      exact k14_arrived_J246 C σ o1 ho1 hw H locs ls hH hS (lv_sub hl [0, 1] rfl)
    have hw := hw.2 h
    refine lv_aload_n hx hb dX14_arrived_241 rfl (lv_at hl 1 rfl) ?_
    refine lv_iconst (v := 1) hx hb dX14_arrived_242 (by decide) ?_
    refine p15_39 C hH hS ho1 (Or.inr rfl) q1755 dX14_arrived_243 (fun σ22 e22 H locs hH hS => ?_)
    have hw := hw σ22 e22
    exact k14_arrived_J246 C σ22 o1 ho1 hw H locs ls hH hS (lv_sub hl [0, 1] rfl)
  have hw := hw.2 h
  refine lv_aload_n hx hb dX14_arrived_184 rfl (lv_at hl 1 rfl) ?_
  refine g15_40 C hH ho1 q1756 dX14_arrived_185 (fun hz => ?_)
  have hw := hw hz
  refine lv_if_ne (tgt := 233) hx hb dX14_arrived_188 (by decide) (fun h => ?_) (fun h => ?_)
  · have hw := hw.1 h
    refine lv_aload_n hx hb dX14_arrived_233 rfl (lv_at hl 0 rfl) ?_
    refine lv_iconst (v := 1) hx hb dX14_arrived_234 (by decide) ?_
    refine kc_ip (rn_vp (As := [.int 1]) (rest := []) C hH hS (by decide) rfl (by decide) (m14_is l G a1 τ σ H 1 _ hw) (cwV 1 hts (lw_V q2373 q2375 qs116 q171 q2376) rfl rfl rfl kX14_is ⟨Nat.le_of_ble_eq_true rfl, Nat.le_of_ble_eq_true rfl⟩) rfl hl.1 rfl (Nat.le_of_ble_eq_true rfl) dX14_arrived_235 ⟨Nat.le_of_ble_eq_true rfl, Nat.le_of_ble_eq_true rfl⟩) hS (fun r23 locs hw hS => ?_)
    refine lv_if_eq (tgt := 246) hx hb dX14_arrived_238 (by decide) (fun h => ?_) (fun h => ?_)
    · have hw := hw.1 h
      exact k14_arrived_J246 C σ o1 ho1 hw H locs ls hH hS (lv_sub hl [0, 1] rfl)
    have hw := hw.2 h
    refine lv_aload_n hx hb dX14_arrived_241 rfl (lv_at hl 1 rfl) ?_
    refine lv_iconst (v := 1) hx hb dX14_arrived_242 (by decide) ?_
    refine p15_39 C hH hS ho1 (Or.inr rfl) q1755 dX14_arrived_243 (fun σ24 e24 H locs hH hS => ?_)
    have hw := hw σ24 e24
    exact k14_arrived_J246 C σ24 o1 ho1 hw H locs ls hH hS (lv_sub hl [0, 1] rfl)
  have hw := hw.2 h
  refine lv_aload_n hx hb dX14_arrived_191 rfl (lv_at hl 0 rfl) ?_
  refine g14_34 C hH q1974 dX14_arrived_192 ?_
  refine lv_aload_n hx hb dX14_arrived_195 rfl (lv_at hl 0 rfl) ?_
  refine g14_39 C hH q1979 dX14_arrived_196 ?_
  refine lv_iadd hx hb dX14_arrived_199 ?_
  refine lv_istore (lv' := [(4, .int ((σ 14 0 34) + (σ 14 0 39))), (0, .ref (ga G 14 0)), (1, .ref (ga G 15 o1)), (2, .int x2), (3, .int x3)]) hx hb dX14_arrived_200 hl (by decide) rfl (fun ls hl => ?_)
  refine lv_iload hx hb dX14_arrived_202 (lv_at hl 0 rfl) ?_
  refine lv_iload_n hx hb dX14_arrived_204 rfl (lv_at hl 4 rfl) ?_
  refine kc_ip (rn_sp (As := [.int ((σ 14 0 34) + (σ 14 0 39)), .int x3]) (rest := []) C hH hS (m14_before l G a1 τ σ H ((σ 14 0 34) + (σ 14 0 39)) x3 _ hw) (va_cwS 2 hts (lw_S q2294 q2295 q171 q2296) rfl rfl rfl kX14_before.2 ⟨Nat.le_of_ble_eq_true rfl, Nat.le_of_ble_eq_true rfl⟩) rfl hl.1 rfl (Nat.le_of_ble_eq_true rfl) dX14_arrived_205 ⟨Nat.le_of_ble_eq_true rfl, Nat.le_of_ble_eq_true rfl⟩) hS (fun r25 locs hw hS => ?_)
  refine lv_if_ne (tgt := 233) hx hb dX14_arrived_208 (by decide) (fun h => ?_) (fun h => ?_)
  · have hw := hw.1 h
    refine lv_aload_n hx hb dX14_arrived_233 rfl (lv_at hl 1 rfl) ?_
    refine lv_iconst (v := 1) hx hb dX14_arrived_234 (by decide) ?_
    refine kc_ip (rn_vp (As := [.int 1]) (rest := []) C hH hS (by decide) rfl (by decide) (m14_is l G a1 τ σ H 1 _ hw) (cwV 1 hts (lw_V q2373 q2375 qs116 q171 q2376) rfl rfl rfl kX14_is ⟨Nat.le_of_ble_eq_true rfl, Nat.le_of_ble_eq_true rfl⟩) rfl hl.1 rfl (Nat.le_of_ble_eq_true rfl) dX14_arrived_235 ⟨Nat.le_of_ble_eq_true rfl, Nat.le_of_ble_eq_true rfl⟩) hS (fun r26 locs hw hS => ?_)
    refine lv_if_eq (tgt := 246) hx hb dX14_arrived_238 (by decide) (fun h => ?_) (fun h => ?_)
    · have hw := hw.1 h
      exact k14_arrived_J246 C σ o1 ho1 hw H locs ls hH hS (lv_sub hl [1, 2] rfl)
    have hw := hw.2 h
    refine lv_aload_n hx hb dX14_arrived_241 rfl (lv_at hl 2 rfl) ?_
    refine lv_iconst (v := 1) hx hb dX14_arrived_242 (by decide) ?_
    refine p15_39 C hH hS ho1 (Or.inr rfl) q1755 dX14_arrived_243 (fun σ27 e27 H locs hH hS => ?_)
    have hw := hw σ27 e27
    exact k14_arrived_J246 C σ27 o1 ho1 hw H locs ls hH hS (lv_sub hl [1, 2] rfl)
  have hw := hw.2 h
  refine lv_iload hx hb dX14_arrived_211 (lv_at hl 0 rfl) ?_
  refine lv_iload_n hx hb dX14_arrived_213 rfl (lv_at hl 4 rfl) ?_
  refine lv_iload_n hx hb dX14_arrived_214 rfl (lv_at hl 3 rfl) ?_
  refine lv_iadd hx hb dX14_arrived_215 ?_
  refine kc_ip (rn_sp (As := [.int ((σ 14 0 34) + (σ 14 0 39)), .int (x3 + x2)]) (rest := []) C hH hS (m14_before l G a1 τ σ H ((σ 14 0 34) + (σ 14 0 39)) (x3 + x2) _ hw) (va_cwS 2 hts (lw_S q2294 q2295 q171 q2296) rfl rfl rfl kX14_before.2 ⟨Nat.le_of_ble_eq_true rfl, Nat.le_of_ble_eq_true rfl⟩) rfl hl.1 rfl (Nat.le_of_ble_eq_true rfl) dX14_arrived_216 ⟨Nat.le_of_ble_eq_true rfl, Nat.le_of_ble_eq_true rfl⟩) hS (fun r28 locs hw hS => ?_)
  refine lv_if_eq (tgt := 233) hx hb dX14_arrived_219 (by decide) (fun h => ?_) (fun h => ?_)
  · have hw := hw.1 h
    refine lv_aload_n hx hb dX14_arrived_233 rfl (lv_at hl 1 rfl) ?_
    refine lv_iconst (v := 1) hx hb dX14_arrived_234 (by decide) ?_
    refine kc_ip (rn_vp (As := [.int 1]) (rest := []) C hH hS (by decide) rfl (by decide) (m14_is l G a1 τ σ H 1 _ hw) (cwV 1 hts (lw_V q2373 q2375 qs116 q171 q2376) rfl rfl rfl kX14_is ⟨Nat.le_of_ble_eq_true rfl, Nat.le_of_ble_eq_true rfl⟩) rfl hl.1 rfl (Nat.le_of_ble_eq_true rfl) dX14_arrived_235 ⟨Nat.le_of_ble_eq_true rfl, Nat.le_of_ble_eq_true rfl⟩) hS (fun r29 locs hw hS => ?_)
    refine lv_if_eq (tgt := 246) hx hb dX14_arrived_238 (by decide) (fun h => ?_) (fun h => ?_)
    · have hw := hw.1 h
      exact k14_arrived_J246 C σ o1 ho1 hw H locs ls hH hS (lv_sub hl [1, 2] rfl)
    have hw := hw.2 h
    refine lv_aload_n hx hb dX14_arrived_241 rfl (lv_at hl 2 rfl) ?_
    refine lv_iconst (v := 1) hx hb dX14_arrived_242 (by decide) ?_
    refine p15_39 C hH hS ho1 (Or.inr rfl) q1755 dX14_arrived_243 (fun σ30 e30 H locs hH hS => ?_)
    have hw := hw σ30 e30
    exact k14_arrived_J246 C σ30 o1 ho1 hw H locs ls hH hS (lv_sub hl [1, 2] rfl)
  have hw := hw.2 h
  refine lv_aload_n hx hb dX14_arrived_222 rfl (lv_at hl 2 rfl) ?_
  refine lv_iconst (v := 1) hx hb dX14_arrived_223 (by decide) ?_
  refine p15_40 C hH hS ho1 (Or.inr rfl) q1756 dX14_arrived_224 (fun σ31 e31 H locs hH hS => ?_)
  have hw := hw σ31 e31
  refine lv_aload_n hx hb dX14_arrived_227 rfl (lv_at hl 2 rfl) ?_
  refine lv_iload hx hb dX14_arrived_228 (lv_at hl 0 rfl) ?_
  refine p15_42 C hH hS ho1 q1759 dX14_arrived_230 (fun σ32 e32 H locs hH hS => ?_)
  have hw := hw σ32 e32
  refine lv_aload_n hx hb dX14_arrived_233 rfl (lv_at hl 1 rfl) ?_
  refine lv_iconst (v := 1) hx hb dX14_arrived_234 (by decide) ?_
  refine kc_ip (rn_vp (As := [.int 1]) (rest := []) C hH hS (by decide) rfl (by decide) (m14_is l G a1 τ σ32 H 1 _ hw) (cwV 1 hts (lw_V q2373 q2375 qs116 q171 q2376) rfl rfl rfl kX14_is ⟨Nat.le_of_ble_eq_true rfl, Nat.le_of_ble_eq_true rfl⟩) rfl hl.1 rfl (Nat.le_of_ble_eq_true rfl) dX14_arrived_235 ⟨Nat.le_of_ble_eq_true rfl, Nat.le_of_ble_eq_true rfl⟩) hS (fun r33 locs hw hS => ?_)
  refine lv_if_eq (tgt := 246) hx hb dX14_arrived_238 (by decide) (fun h => ?_) (fun h => ?_)
  · have hw := hw.1 h
    exact k14_arrived_J246 C σ32 o1 ho1 hw H locs ls hH hS (lv_sub hl [1, 2] rfl)
  have hw := hw.2 h
  refine lv_aload_n hx hb dX14_arrived_241 rfl (lv_at hl 2 rfl) ?_
  refine lv_iconst (v := 1) hx hb dX14_arrived_242 (by decide) ?_
  refine p15_39 C hH hS ho1 (Or.inr rfl) q1755 dX14_arrived_243 (fun σ34 e34 H locs hH hS => ?_)
  have hw := hw σ34 e34
  exact k14_arrived_J246 C σ34 o1 ho1 hw H locs ls hH hS (lv_sub hl [1, 2] rfl)
def w14_arrived (σ : St) (o1 : Nat) (Q : St → Prop) : Prop := w14_takesData σ o1 (fun r1 => ((¬ r1 = 0 → (w15_open σ o1 (fun r2 => (((σ 14 0 39) ≤ 0 → (∃ z7, w14_arrived_L41 o1 r2 (σ 15 o1 36) Q (fun σ8 => ∃ z10, w14_arrived_L131 o1 r2 (σ 15 o1 36) Q (fun σ11 => w14_arrived_J176 σ11 o1 r2 (σ 15 o1 36) Q) z10 σ8) z7 σ 0)) ∧ (¬ (σ 14 0 39) ≤ 0 → (∀ σ35, σ35 = up3 σ 15 o1 39 1 → (∀ σ36, σ36 = up3 σ35 15 o1 44 (σ35 14 0 10) → (∃ z37, w14_arrived_L41 o1 r2 (σ 15 o1 36) Q (fun σ38 => ∃ z39, w14_arrived_L131 o1 r2 (σ 15 o1 36) Q (fun σ40 => w14_arrived_J176 σ40 o1 r2 (σ 15 o1 36) Q) z39 σ38) z37 σ36 0)))))))) ∧ (r1 = 0 → Q σ)))
set_option maxHeartbeats 4000000 in
theorem m14_arrived (l : Launch) (G : Gh) (a1 : Nat → Nat → Nat) (τ : St) (σ : St) (o1 : Nat) (ho1 : o1 < 16) (Q : St → Prop) (hw : w14_arrived σ o1 Q) : Met l yX14_arrived (ws_ yX14_arrived cX14_arrived 7 none) rmX14_arrived (PcS G a1 (cmb τ σ) [.ref (ga G 14 0), .ref (ga G 15 o1)]) (QVs G a1 (fun u => cmb τ u) Q) 0 0 (gA G) := by
  refine met_w (by decide) (Nat.le_of_ble_eq_true rfl) ?_
  intro p e s m below meth c ls C hH hS hl
  have C : Cx p e s m _ meth c cX14_arrived 7 none "WebHostModel" G := C
  have hl : lv_has ls 7 [(0, .ref (ga G 14 0)), (1, .ref (ga G 15 o1))] := hl
  have hx := C.1
  have hb := C.2.1
  have hown := C.2.2.2.2.2.1
  have hts := C.2.2.2.2.2.2.1
  obtain ⟨locs, hlocs⟩ : ∃ z : List Loc, z = [] := ⟨_, rfl⟩
  obtain ⟨H, hHe⟩ : ∃ z : Heap, z = s.heap := ⟨_, rfl⟩
  have hH : Hd G a1 (cmb τ σ) H := by rw [hHe]; exact hH
  have hS : va_S (gA G) s.heap H locs := by rw [hHe, hlocs]; exact hS
  refine W.heap0 hHe.symm hlocs.symm ?_
  refine lv_aload_n hx hb dX14_arrived_0 rfl (lv_at hl 1 rfl) ?_
  refine kc_ip (rn_sp (As := [.ref (ga G 15 o1)]) (rest := []) C hH hS (m14_takesData l G a1 τ σ H o1 ho1 _ hw) (va_cwS 1 hts (lw_S q2436 q2437 q171 q2438) rfl rfl rfl kX14_takesData.2 ⟨Nat.le_of_ble_eq_true rfl, Nat.le_of_ble_eq_true rfl⟩) rfl hl.1 rfl (Nat.le_of_ble_eq_true rfl) dX14_arrived_1 ⟨Nat.le_of_ble_eq_true rfl, Nat.le_of_ble_eq_true rfl⟩) hS (fun r1 locs hw hS => ?_)
  refine lv_if_ne (tgt := 8) hx hb dX14_arrived_4 (by decide) (fun h => ?_) (fun h => ?_)
  · have hw := hw.1 h
    refine lv_aload_n hx hb dX14_arrived_8 rfl (lv_at hl 1 rfl) ?_
    refine kc_ip (rn_vp (As := []) (rest := []) C hH hS (by decide) rfl ho1 (m15_open l G a1 τ σ H o1 ho1 _ hw) (cwV 0 hts (lw_V q2231 q2232 q2233 q172 q2234) rfl rfl rfl kX15_open ⟨Nat.le_of_ble_eq_true rfl, Nat.le_of_ble_eq_true rfl⟩) rfl hl.1 rfl (Nat.le_of_ble_eq_true rfl) dX14_arrived_9 ⟨Nat.le_of_ble_eq_true rfl, Nat.le_of_ble_eq_true rfl⟩) hS (fun r2 locs hw hS => ?_)
    refine lv_istore_n (lv' := [(2, .int r2), (0, .ref (ga G 14 0)), (1, .ref (ga G 15 o1))]) hx hb dX14_arrived_12 rfl hl (by decide) rfl (fun ls hl => ?_)
    refine lv_aload_n hx hb dX14_arrived_13 rfl (lv_at hl 2 rfl) ?_
    refine g15_36 C hH ho1 q1752 dX14_arrived_14 ?_
    refine lv_istore_n (lv' := [(3, .int (σ 15 o1 36)), (2, .int r2), (0, .ref (ga G 14 0)), (1, .ref (ga G 15 o1))]) hx hb dX14_arrived_17 rfl hl (by decide) rfl (fun ls hl => ?_)
    refine lv_aload_n hx hb dX14_arrived_18 rfl (lv_at hl 2 rfl) ?_
    refine g14_39 C hH q1979 dX14_arrived_19 ?_
    refine lv_if_le (tgt := 38) hx hb dX14_arrived_22 (by decide) (fun h => ?_) (fun h => ?_)
    · have hw := hw.1 h
      refine lv_iconst (v := 0) hx hb dX14_arrived_38 (by decide) ?_
      refine lv_istore (lv' := [(4, .int 0), (3, .int (σ 15 o1 36)), (2, .int r2), (0, .ref (ga G 14 0)), (1, .ref (ga G 15 o1))]) hx hb dX14_arrived_39 hl (by decide) rfl (fun ls hl => ?_)
      obtain ⟨n7, hw⟩ := hw
      refine k14_arrived_L41 C o1 r2 (σ 15 o1 36) ho1 n7 σ 0 hw H locs ls hH hS (lv_sub hl [3, 4, 2, 1, 0] rfl) (fun σ8 hw H locs ls hH hS hl => ?_)
      obtain ⟨n10, hw⟩ := hw
      refine k14_arrived_L131 C o1 r2 (σ 15 o1 36) ho1 n10 σ8 hw H locs ls hH hS (lv_sub hl [0, 1, 2, 3] rfl) (fun σ11 hw H locs ls hH hS hl => ?_)
      exact k14_arrived_J176 C σ11 o1 r2 (σ 15 o1 36) ho1 hw H locs ls hH hS (lv_sub hl [0, 1, 2, 3] rfl)
    have hw := hw.2 h
    refine lv_aload_n hx hb dX14_arrived_25 rfl (lv_at hl 3 rfl) ?_
    refine lv_iconst (v := 1) hx hb dX14_arrived_26 (by decide) ?_
    refine p15_39 C hH hS ho1 (Or.inr rfl) q1755 dX14_arrived_27 (fun σ35 e35 H locs hH hS => ?_)
    have hw := hw σ35 e35
    refine lv_aload_n hx hb dX14_arrived_30 rfl (lv_at hl 3 rfl) ?_
    refine lv_aload_n hx hb dX14_arrived_31 rfl (lv_at hl 2 rfl) ?_
    refine g14_10 C hH q1950 dX14_arrived_32 ?_
    refine p15_44 C hH hS ho1 q1761 dX14_arrived_35 (fun σ36 e36 H locs hH hS => ?_)
    have hw := hw σ36 e36
    refine lv_iconst (v := 0) hx hb dX14_arrived_38 (by decide) ?_
    refine lv_istore (lv' := [(4, .int 0), (3, .int (σ 15 o1 36)), (2, .int r2), (0, .ref (ga G 14 0)), (1, .ref (ga G 15 o1))]) hx hb dX14_arrived_39 hl (by decide) rfl (fun ls hl => ?_)
    obtain ⟨n37, hw⟩ := hw
    refine k14_arrived_L41 C o1 r2 (σ 15 o1 36) ho1 n37 σ36 0 hw H locs ls hH hS (lv_sub hl [3, 4, 2, 1, 0] rfl) (fun σ38 hw H locs ls hH hS hl => ?_)
    obtain ⟨n39, hw⟩ := hw
    refine k14_arrived_L131 C o1 r2 (σ 15 o1 36) ho1 n39 σ38 hw H locs ls hH hS (lv_sub hl [0, 1, 2, 3] rfl) (fun σ40 hw H locs ls hH hS hl => ?_)
    exact k14_arrived_J176 C σ40 o1 r2 (σ 15 o1 36) ho1 hw H locs ls hH hS (lv_sub hl [0, 1, 2, 3] rfl)
  have hw := hw.2 h
  exact rt_v C hH hS hw dX14_arrived_7
