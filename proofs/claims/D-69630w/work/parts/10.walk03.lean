/-! walks -/
set_option maxRecDepth 100000
/-! WebHostModel.state(I)I -/
abbrev cX14_state : ByteArray := prog_17_method_115_code
def yX14_state : MethodName := ⟨RX14, "state", "(I)I"⟩
theorem dX14_state_0 : decode cX14_state 0 = .ok (.iload_n 1, 1) := by decide +kernel
theorem dX14_state_1 : decode cX14_state 1 = .ok (.ifCond .lt 9, 3) := by decide +kernel
theorem dX14_state_4 : decode cX14_state 4 = .ok (.iload_n 1, 1) := by decide +kernel
theorem dX14_state_5 : decode cX14_state 5 = .ok (.bipush 16, 2) := by decide +kernel
theorem dX14_state_7 : decode cX14_state 7 = .ok (.if_icmp .lt 7, 3) := by decide +kernel
theorem dX14_state_10 : decode cX14_state 10 = .ok (.iconst (-1), 1) := by decide +kernel
theorem dX14_state_11 : decode cX14_state 11 = .ok (.goto 23, 3) := by decide +kernel
theorem dX14_state_14 : decode cX14_state 14 = .ok (.aload_n 0, 1) := by decide +kernel
theorem dX14_state_15 : decode cX14_state 15 = .ok (.getfield 95, 3) := by decide +kernel
theorem dX14_state_18 : decode cX14_state 18 = .ok (.ifCond .eq 15, 3) := by decide +kernel
theorem dX14_state_21 : decode cX14_state 21 = .ok (.aload_n 0, 1) := by decide +kernel
theorem dX14_state_22 : decode cX14_state 22 = .ok (.getfield 70, 3) := by decide +kernel
theorem dX14_state_25 : decode cX14_state 25 = .ok (.iload_n 1, 1) := by decide +kernel
theorem dX14_state_26 : decode cX14_state 26 = .ok (.aaload, 1) := by decide +kernel
theorem dX14_state_27 : decode cX14_state 27 = .ok (.getfield 152, 3) := by decide +kernel
theorem dX14_state_30 : decode cX14_state 30 = .ok (.goto 4, 3) := by decide +kernel
theorem dX14_state_33 : decode cX14_state 33 = .ok (.iconst 0, 1) := by decide +kernel
theorem dX14_state_34 : decode cX14_state 34 = .ok (.ireturn, 1) := by decide +kernel
def rmX14_state : Room := { frames := 0, cells := 0, slots := 0, locals := 0 }
theorem kX14_state : yX14_state.cls = "WebHostModel" ∧ yX14_state.cls ≠ "java/lang/invoke/MethodHandle" ∧ yX14_state.cls ≠ "java/lang/invoke/VarHandle" ∧ (parseMethodDescriptor yX14_state.desc).map (fun d => d.parameters.length) = some 1 := by decide +kernel
def w14_state (σ : St) (x1 : Int32) (Q : Int32 → Prop) : Prop := (x1 < 0 → (Q (-1))) ∧ (¬ x1 < 0 → ((x1 < 16 → (bo (σ 14 0 4) → (((σ 14 0 4) = 0 → Q 0) ∧ (¬ (σ 14 0 4) = 0 → (vp_in x1 16 ∧ (Q (σ 15 x1.toNatClampNeg 0))))))) ∧ (¬ x1 < 16 → (Q (-1)))))
set_option maxHeartbeats 4000000 in
theorem m14_state (l : Launch) (G : Gh) (a1 : Nat → Nat → Nat) (τ : St) (σ : St) (H : Heap) (x1 : Int32) (Q : Int32 → Prop) (hw : w14_state σ x1 Q) : Met l yX14_state (ws_ yX14_state cX14_state 2 (some .int)) rmX14_state (PcP G a1 (cmb τ σ) H [.ref (ga G 14 0), .int x1]) (QIp G H Q) 0 0 (gA G) := by
  refine met_p (by decide) (Nat.le_of_ble_eq_true rfl) ?_
  intro p e s m below meth c ls hHe C hH hS hl
  have C : Cx p e s m _ meth c cX14_state 2 (some .int) "WebHostModel" G := C
  have hl : lv_has ls 2 [(0, .ref (ga G 14 0)), (1, .int x1)] := hl
  have hx := C.1
  have hb := C.2.1
  have hown := C.2.2.2.2.2.1
  have hts := C.2.2.2.2.2.2.1
  obtain ⟨locs, hlocs⟩ : ∃ z : List Loc, z = [] := ⟨_, rfl⟩
  rw [← hlocs] at hS ⊢
  refine lv_iload_n hx hb dX14_state_0 rfl (lv_at hl 1 rfl) ?_
  refine lv_if_lt (tgt := 10) hx hb dX14_state_1 (by decide) (fun h => ?_) (fun h => ?_)
  · have hw := hw.1 h
    refine lv_iconst (v := (-1)) hx hb dX14_state_10 (by decide) ?_
    refine lv_goto (tgt := 34) hx hb dX14_state_11 (by decide) ?_
    exact rt_ip C rfl hS hw dX14_state_34
  have hw := hw.2 h
  refine lv_iload_n hx hb dX14_state_4 rfl (lv_at hl 1 rfl) ?_
  refine lv_bipush (v := 16) hx hb dX14_state_5 (by decide) ?_
  refine lv_icmp_lt (tgt := 14) hx hb dX14_state_7 (by decide) (fun h => ?_) (fun h => ?_)
  · have hw := hw.1 h
    refine lv_aload_n hx hb dX14_state_14 rfl (lv_at hl 0 rfl) ?_
    refine g14_4 C hH q1944 dX14_state_15 (fun hz => ?_)
    have hw := hw hz
    refine lv_if_eq (tgt := 33) hx hb dX14_state_18 (by decide) (fun h => ?_) (fun h => ?_)
    · have hw := hw.1 h
      refine lv_iconst (v := 0) hx hb dX14_state_33 (by decide) ?_
      exact rt_ip C rfl hS hw dX14_state_34
    have hw := hw.2 h
    refine lv_aload_n hx hb dX14_state_21 rfl (lv_at hl 0 rfl) ?_
    refine g14_31 C hH q1971 dX14_state_22 ?_
    refine lv_iload_n hx hb dX14_state_25 rfl (lv_at hl 1 rfl) ?_
    have hq1 := vp_lt hw.1
    refine l65 C hH hw.1 dX14_state_26 ?_
    have hw := hw.2
    refine g15_0 C hH hq1 q1707 dX14_state_27 ?_
    refine lv_goto (tgt := 34) hx hb dX14_state_30 (by decide) ?_
    exact rt_ip C rfl hS hw dX14_state_34
  have hw := hw.2 h
  refine lv_iconst (v := (-1)) hx hb dX14_state_10 (by decide) ?_
  refine lv_goto (tgt := 34) hx hb dX14_state_11 (by decide) ?_
  exact rt_ip C rfl hS hw dX14_state_34
/-! WebHostModel.strays()I -/
abbrev cX14_strays : ByteArray := prog_17_method_121_code
def yX14_strays : MethodName := ⟨RX14, "strays", "()I"⟩
theorem dX14_strays_0 : decode cX14_strays 0 = .ok (.aload_n 0, 1) := by decide +kernel
theorem dX14_strays_1 : decode cX14_strays 1 = .ok (.getfield 146, 3) := by decide +kernel
theorem dX14_strays_4 : decode cX14_strays 4 = .ok (.ireturn, 1) := by decide +kernel
def rmX14_strays : Room := { frames := 0, cells := 0, slots := 0, locals := 0 }
theorem kX14_strays : yX14_strays.cls = "WebHostModel" ∧ yX14_strays.cls ≠ "java/lang/invoke/MethodHandle" ∧ yX14_strays.cls ≠ "java/lang/invoke/VarHandle" ∧ (parseMethodDescriptor yX14_strays.desc).map (fun d => d.parameters.length) = some 0 := by decide +kernel
def w14_strays (σ : St) (Q : Int32 → Prop) : Prop := Q (σ 14 0 18)
set_option maxHeartbeats 4000000 in
theorem m14_strays (l : Launch) (G : Gh) (a1 : Nat → Nat → Nat) (τ : St) (σ : St) (H : Heap) (Q : Int32 → Prop) (hw : w14_strays σ Q) : Met l yX14_strays (ws_ yX14_strays cX14_strays 1 (some .int)) rmX14_strays (PcP G a1 (cmb τ σ) H [.ref (ga G 14 0)]) (QIp G H Q) 0 0 (gA G) := by
  refine met_p (by decide) (Nat.le_of_ble_eq_true rfl) ?_
  intro p e s m below meth c ls hHe C hH hS hl
  have C : Cx p e s m _ meth c cX14_strays 1 (some .int) "WebHostModel" G := C
  have hl : lv_has ls 1 [(0, .ref (ga G 14 0))] := hl
  have hx := C.1
  have hb := C.2.1
  have hown := C.2.2.2.2.2.1
  have hts := C.2.2.2.2.2.2.1
  obtain ⟨locs, hlocs⟩ : ∃ z : List Loc, z = [] := ⟨_, rfl⟩
  rw [← hlocs] at hS ⊢
  refine lv_aload_n hx hb dX14_strays_0 rfl (lv_at hl 0 rfl) ?_
  refine g14_18 C hH q1958 dX14_strays_1 ?_
  exact rt_ip C rfl hS hw dX14_strays_4
/-! WebHostModel.takeWindow(LWebHostModel$Connection;)V -/
abbrev cX14_takeWindow : ByteArray := prog_17_method_59_code
def yX14_takeWindow : MethodName := ⟨RX14, "takeWindow", "(LWebHostModel$Connection;)V"⟩
theorem dX14_takeWindow_0 : decode cX14_takeWindow 0 = .ok (.aload_n 1, 1) := by decide +kernel
theorem dX14_takeWindow_1 : decode cX14_takeWindow 1 = .ok (.aload_n 0, 1) := by decide +kernel
theorem dX14_takeWindow_2 : decode cX14_takeWindow 2 = .ok (.getfield 305, 3) := by decide +kernel
theorem dX14_takeWindow_5 : decode cX14_takeWindow 5 = .ok (.putfield 434, 3) := by decide +kernel
theorem dX14_takeWindow_8 : decode cX14_takeWindow 8 = .ok (.aload_n 1, 1) := by decide +kernel
theorem dX14_takeWindow_9 : decode cX14_takeWindow 9 = .ok (.aload_n 0, 1) := by decide +kernel
theorem dX14_takeWindow_10 : decode cX14_takeWindow 10 = .ok (.getfield 298, 3) := by decide +kernel
theorem dX14_takeWindow_13 : decode cX14_takeWindow 13 = .ok (.putfield 448, 3) := by decide +kernel
theorem dX14_takeWindow_16 : decode cX14_takeWindow 16 = .ok (.aload_n 1, 1) := by decide +kernel
theorem dX14_takeWindow_17 : decode cX14_takeWindow 17 = .ok (.aload_n 0, 1) := by decide +kernel
theorem dX14_takeWindow_18 : decode cX14_takeWindow 18 = .ok (.getfield 299, 3) := by decide +kernel
theorem dX14_takeWindow_21 : decode cX14_takeWindow 21 = .ok (.putfield 451, 3) := by decide +kernel
theorem dX14_takeWindow_24 : decode cX14_takeWindow 24 = .ok (.return_, 1) := by decide +kernel
def rmX14_takeWindow : Room := { frames := 0, cells := 0, slots := 0, locals := 0 }
theorem kX14_takeWindow : yX14_takeWindow.cls = "WebHostModel" ∧ yX14_takeWindow.cls ≠ "java/lang/invoke/MethodHandle" ∧ yX14_takeWindow.cls ≠ "java/lang/invoke/VarHandle" ∧ (parseMethodDescriptor yX14_takeWindow.desc).map (fun d => d.parameters.length) = some 1 := by decide +kernel
def w14_takeWindow (σ : St) (o1 : Nat) (Q : St → Prop) : Prop := ∀ σ1, σ1 = up3 σ 15 o1 7 (σ 14 0 37) → (∀ σ2, σ2 = up3 σ1 15 o1 8 (σ1 14 0 34) → (∀ σ3, σ3 = up3 σ2 15 o1 9 (σ2 14 0 35) → (Q σ3)))
set_option maxHeartbeats 4000000 in
theorem m14_takeWindow (l : Launch) (G : Gh) (a1 : Nat → Nat → Nat) (τ : St) (σ : St) (o1 : Nat) (ho1 : o1 < 16) (Q : St → Prop) (hw : w14_takeWindow σ o1 Q) : Met l yX14_takeWindow (ws_ yX14_takeWindow cX14_takeWindow 2 none) rmX14_takeWindow (PcS G a1 (cmb τ σ) [.ref (ga G 14 0), .ref (ga G 15 o1)]) (QVs G a1 (fun u => cmb τ u) Q) 0 0 (gA G) := by
  refine met_w (by decide) (Nat.le_of_ble_eq_true rfl) ?_
  intro p e s m below meth c ls C hH hS hl
  have C : Cx p e s m _ meth c cX14_takeWindow 2 none "WebHostModel" G := C
  have hl : lv_has ls 2 [(0, .ref (ga G 14 0)), (1, .ref (ga G 15 o1))] := hl
  have hx := C.1
  have hb := C.2.1
  have hown := C.2.2.2.2.2.1
  have hts := C.2.2.2.2.2.2.1
  obtain ⟨locs, hlocs⟩ : ∃ z : List Loc, z = [] := ⟨_, rfl⟩
  obtain ⟨H, hHe⟩ : ∃ z : Heap, z = s.heap := ⟨_, rfl⟩
  have hH : Hd G a1 (cmb τ σ) H := by rw [hHe]; exact hH
  have hS : va_S (gA G) s.heap H locs := by rw [hHe, hlocs]; exact hS
  refine W.heap0 hHe.symm hlocs.symm ?_
  refine lv_aload_n hx hb dX14_takeWindow_0 rfl (lv_at hl 1 rfl) ?_
  refine lv_aload_n hx hb dX14_takeWindow_1 rfl (lv_at hl 0 rfl) ?_
  refine g14_37 C hH q1977 dX14_takeWindow_2 ?_
  refine p15_7 C hH hS ho1 q1714 dX14_takeWindow_5 (fun σ1 e1 H locs hH hS => ?_)
  have hw := hw σ1 e1
  refine lv_aload_n hx hb dX14_takeWindow_8 rfl (lv_at hl 1 rfl) ?_
  refine lv_aload_n hx hb dX14_takeWindow_9 rfl (lv_at hl 0 rfl) ?_
  refine g14_34 C hH q1974 dX14_takeWindow_10 ?_
  refine p15_8 C hH hS ho1 q1715 dX14_takeWindow_13 (fun σ2 e2 H locs hH hS => ?_)
  have hw := hw σ2 e2
  refine lv_aload_n hx hb dX14_takeWindow_16 rfl (lv_at hl 1 rfl) ?_
  refine lv_aload_n hx hb dX14_takeWindow_17 rfl (lv_at hl 0 rfl) ?_
  refine g14_35 C hH q1975 dX14_takeWindow_18 ?_
  refine p15_9 C hH hS ho1 q1716 dX14_takeWindow_21 (fun σ3 e3 H locs hH hS => ?_)
  have hw := hw σ3 e3
  exact rt_v C hH hS hw dX14_takeWindow_24
/-! WebHostModel.takesData(LWebHostModel$Connection;)Z -/
abbrev cX14_takesData : ByteArray := prog_17_method_63_code
def yX14_takesData : MethodName := ⟨RX14, "takesData", "(LWebHostModel$Connection;)Z"⟩
theorem dX14_takesData_0 : decode cX14_takesData 0 = .ok (.aload_n 0, 1) := by decide +kernel
theorem dX14_takesData_1 : decode cX14_takesData 1 = .ok (.getfield 152, 3) := by decide +kernel
theorem dX14_takesData_4 : decode cX14_takesData 4 = .ok (.iconst 2, 1) := by decide +kernel
theorem dX14_takesData_5 : decode cX14_takesData 5 = .ok (.if_icmp .eq 19, 3) := by decide +kernel
theorem dX14_takesData_8 : decode cX14_takesData 8 = .ok (.aload_n 0, 1) := by decide +kernel
theorem dX14_takesData_9 : decode cX14_takesData 9 = .ok (.getfield 152, 3) := by decide +kernel
theorem dX14_takesData_12 : decode cX14_takesData 12 = .ok (.iconst 3, 1) := by decide +kernel
theorem dX14_takesData_13 : decode cX14_takesData 13 = .ok (.if_icmp .eq 11, 3) := by decide +kernel
theorem dX14_takesData_16 : decode cX14_takesData 16 = .ok (.aload_n 0, 1) := by decide +kernel
theorem dX14_takesData_17 : decode cX14_takesData 17 = .ok (.getfield 152, 3) := by decide +kernel
theorem dX14_takesData_20 : decode cX14_takesData 20 = .ok (.iconst 4, 1) := by decide +kernel
theorem dX14_takesData_21 : decode cX14_takesData 21 = .ok (.if_icmp .ne 7, 3) := by decide +kernel
theorem dX14_takesData_24 : decode cX14_takesData 24 = .ok (.iconst 1, 1) := by decide +kernel
theorem dX14_takesData_25 : decode cX14_takesData 25 = .ok (.goto 4, 3) := by decide +kernel
theorem dX14_takesData_28 : decode cX14_takesData 28 = .ok (.iconst 0, 1) := by decide +kernel
theorem dX14_takesData_29 : decode cX14_takesData 29 = .ok (.ireturn, 1) := by decide +kernel
def rmX14_takesData : Room := { frames := 0, cells := 0, slots := 0, locals := 0 }
theorem kX14_takesData : yX14_takesData.cls = "WebHostModel" ∧ yX14_takesData.cls ≠ "java/lang/invoke/MethodHandle" ∧ yX14_takesData.cls ≠ "java/lang/invoke/VarHandle" ∧ (parseMethodDescriptor yX14_takesData.desc).map (fun d => d.parameters.length) = some 1 := by decide +kernel
def w14_takesData (σ : St) (o0 : Nat) (Q : Int32 → Prop) : Prop := ((σ 15 o0 0) = 2 → Q 1) ∧ (¬ (σ 15 o0 0) = 2 → (((σ 15 o0 0) = 3 → Q 1) ∧ (¬ (σ 15 o0 0) = 3 → ((¬ (σ 15 o0 0) = 4 → Q 0) ∧ ((σ 15 o0 0) = 4 → Q 1)))))
set_option maxHeartbeats 4000000 in
theorem m14_takesData (l : Launch) (G : Gh) (a1 : Nat → Nat → Nat) (τ : St) (σ : St) (H : Heap) (o0 : Nat) (ho0 : o0 < 16) (Q : Int32 → Prop) (hw : w14_takesData σ o0 Q) : Met l yX14_takesData (ws_ yX14_takesData cX14_takesData 1 (some .boolean)) rmX14_takesData (PcP G a1 (cmb τ σ) H [.ref (ga G 15 o0)]) (QIp G H Q) 0 0 (gA G) := by
  refine met_p (by decide) (Nat.le_of_ble_eq_true rfl) ?_
  intro p e s m below meth c ls hHe C hH hS hl
  have C : Cx p e s m _ meth c cX14_takesData 1 (some .boolean) "WebHostModel" G := C
  have hl : lv_has ls 1 [(0, .ref (ga G 15 o0))] := hl
  have hx := C.1
  have hb := C.2.1
  have hown := C.2.2.2.2.2.1
  have hts := C.2.2.2.2.2.2.1
  obtain ⟨locs, hlocs⟩ : ∃ z : List Loc, z = [] := ⟨_, rfl⟩
  rw [← hlocs] at hS ⊢
  refine lv_aload_n hx hb dX14_takesData_0 rfl (lv_at hl 0 rfl) ?_
  refine g15_0 C hH ho0 q1707 dX14_takesData_1 ?_
  refine lv_iconst (v := 2) hx hb dX14_takesData_4 (by decide) ?_
  refine lv_icmp_eq (tgt := 24) hx hb dX14_takesData_5 (by decide) (fun h => ?_) (fun h => ?_)
  · have hw := hw.1 h
    refine lv_iconst (v := 1) hx hb dX14_takesData_24 (by decide) ?_
    refine lv_goto (tgt := 29) hx hb dX14_takesData_25 (by decide) ?_
    exact rt_ip C rfl hS hw dX14_takesData_29
  have hw := hw.2 h
  refine lv_aload_n hx hb dX14_takesData_8 rfl (lv_at hl 0 rfl) ?_
  refine g15_0 C hH ho0 q1707 dX14_takesData_9 ?_
  refine lv_iconst (v := 3) hx hb dX14_takesData_12 (by decide) ?_
  refine lv_icmp_eq (tgt := 24) hx hb dX14_takesData_13 (by decide) (fun h => ?_) (fun h => ?_)
  · have hw := hw.1 h
    refine lv_iconst (v := 1) hx hb dX14_takesData_24 (by decide) ?_
    refine lv_goto (tgt := 29) hx hb dX14_takesData_25 (by decide) ?_
    exact rt_ip C rfl hS hw dX14_takesData_29
  have hw := hw.2 h
  refine lv_aload_n hx hb dX14_takesData_16 rfl (lv_at hl 0 rfl) ?_
  refine g15_0 C hH ho0 q1707 dX14_takesData_17 ?_
  refine lv_iconst (v := 4) hx hb dX14_takesData_20 (by decide) ?_
  refine lv_icmp_ne (tgt := 28) hx hb dX14_takesData_21 (by decide) (fun h => ?_) (fun h => ?_)
  · have hw := hw.1 h
    refine lv_iconst (v := 0) hx hb dX14_takesData_28 (by decide) ?_
    exact rt_ip C rfl hS hw dX14_takesData_29
  have hw := hw.2 h
  refine lv_iconst (v := 1) hx hb dX14_takesData_24 (by decide) ?_
  refine lv_goto (tgt := 29) hx hb dX14_takesData_25 (by decide) ?_
  exact rt_ip C rfl hS hw dX14_takesData_29
/-! WebHostModel.timerSet(LWebHostModel$Connection;)V -/
abbrev cX14_timerSet : ByteArray := prog_17_method_46_code
def yX14_timerSet : MethodName := ⟨RX14, "timerSet", "(LWebHostModel$Connection;)V"⟩
theorem dX14_timerSet_0 : decode cX14_timerSet 0 = .ok (.aload_n 1, 1) := by decide +kernel
theorem dX14_timerSet_1 : decode cX14_timerSet 1 = .ok (.iconst 1, 1) := by decide +kernel
theorem dX14_timerSet_2 : decode cX14_timerSet 2 = .ok (.putfield 376, 3) := by decide +kernel
theorem dX14_timerSet_5 : decode cX14_timerSet 5 = .ok (.aload_n 1, 1) := by decide +kernel
theorem dX14_timerSet_6 : decode cX14_timerSet 6 = .ok (.aload_n 0, 1) := by decide +kernel
theorem dX14_timerSet_7 : decode cX14_timerSet 7 = .ok (.getfield 134, 3) := by decide +kernel
theorem dX14_timerSet_10 : decode cX14_timerSet 10 = .ok (.aload_n 1, 1) := by decide +kernel
theorem dX14_timerSet_11 : decode cX14_timerSet 11 = .ok (.getfield 382, 3) := by decide +kernel
theorem dX14_timerSet_14 : decode cX14_timerSet 14 = .ok (.iadd, 1) := by decide +kernel
theorem dX14_timerSet_15 : decode cX14_timerSet 15 = .ok (.putfield 385, 3) := by decide +kernel
theorem dX14_timerSet_18 : decode cX14_timerSet 18 = .ok (.return_, 1) := by decide +kernel
def rmX14_timerSet : Room := { frames := 0, cells := 0, slots := 0, locals := 0 }
theorem kX14_timerSet : yX14_timerSet.cls = "WebHostModel" ∧ yX14_timerSet.cls ≠ "java/lang/invoke/MethodHandle" ∧ yX14_timerSet.cls ≠ "java/lang/invoke/VarHandle" ∧ (parseMethodDescriptor yX14_timerSet.desc).map (fun d => d.parameters.length) = some 1 := by decide +kernel
def w14_timerSet (σ : St) (o1 : Nat) (Q : St → Prop) : Prop := ∀ σ1, σ1 = up3 σ 15 o1 21 1 → (∀ σ2, σ2 = up3 σ1 15 o1 22 ((σ1 14 0 10) + (σ1 15 o1 13)) → (Q σ2))
set_option maxHeartbeats 4000000 in
theorem m14_timerSet (l : Launch) (G : Gh) (a1 : Nat → Nat → Nat) (τ : St) (σ : St) (o1 : Nat) (ho1 : o1 < 16) (Q : St → Prop) (hw : w14_timerSet σ o1 Q) : Met l yX14_timerSet (ws_ yX14_timerSet cX14_timerSet 2 none) rmX14_timerSet (PcS G a1 (cmb τ σ) [.ref (ga G 14 0), .ref (ga G 15 o1)]) (QVs G a1 (fun u => cmb τ u) Q) 0 0 (gA G) := by
  refine met_w (by decide) (Nat.le_of_ble_eq_true rfl) ?_
  intro p e s m below meth c ls C hH hS hl
  have C : Cx p e s m _ meth c cX14_timerSet 2 none "WebHostModel" G := C
  have hl : lv_has ls 2 [(0, .ref (ga G 14 0)), (1, .ref (ga G 15 o1))] := hl
  have hx := C.1
  have hb := C.2.1
  have hown := C.2.2.2.2.2.1
  have hts := C.2.2.2.2.2.2.1
  obtain ⟨locs, hlocs⟩ : ∃ z : List Loc, z = [] := ⟨_, rfl⟩
  obtain ⟨H, hHe⟩ : ∃ z : Heap, z = s.heap := ⟨_, rfl⟩
  have hH : Hd G a1 (cmb τ σ) H := by rw [hHe]; exact hH
  have hS : va_S (gA G) s.heap H locs := by rw [hHe, hlocs]; exact hS
  refine W.heap0 hHe.symm hlocs.symm ?_
  refine lv_aload_n hx hb dX14_timerSet_0 rfl (lv_at hl 1 rfl) ?_
  refine lv_iconst (v := 1) hx hb dX14_timerSet_1 (by decide) ?_
  refine p15_21 C hH hS ho1 (Or.inr rfl) q1728 dX14_timerSet_2 (fun σ1 e1 H locs hH hS => ?_)
  have hw := hw σ1 e1
  refine lv_aload_n hx hb dX14_timerSet_5 rfl (lv_at hl 1 rfl) ?_
  refine lv_aload_n hx hb dX14_timerSet_6 rfl (lv_at hl 0 rfl) ?_
  refine g14_10 C hH q1950 dX14_timerSet_7 ?_
  refine lv_aload_n hx hb dX14_timerSet_10 rfl (lv_at hl 1 rfl) ?_
  refine g15_13 C hH ho1 q1720 dX14_timerSet_11 ?_
  refine lv_iadd hx hb dX14_timerSet_14 ?_
  refine p15_22 C hH hS ho1 q1729 dX14_timerSet_15 (fun σ2 e2 H locs hH hS => ?_)
  have hw := hw σ2 e2
  exact rt_v C hH hS hw dX14_timerSet_18
/-! WebHostModel.toSend(LWebHostModel$Connection;I)B -/
abbrev cX14_toSend : ByteArray := prog_17_method_47_code
def yX14_toSend : MethodName := ⟨RX14, "toSend", "(LWebHostModel$Connection;I)B"⟩
theorem dX14_toSend_0 : decode cX14_toSend 0 = .ok (.iload_n 2, 1) := by decide +kernel
theorem dX14_toSend_1 : decode cX14_toSend 1 = .ok (.aload_n 1, 1) := by decide +kernel
theorem dX14_toSend_2 : decode cX14_toSend 2 = .ok (.getfield 388, 3) := by decide +kernel
theorem dX14_toSend_5 : decode cX14_toSend 5 = .ok (.isub, 1) := by decide +kernel
theorem dX14_toSend_6 : decode cX14_toSend 6 = .ok (.istore_n 3, 1) := by decide +kernel
theorem dX14_toSend_7 : decode cX14_toSend 7 = .ok (.iload_n 3, 1) := by decide +kernel
theorem dX14_toSend_8 : decode cX14_toSend 8 = .ok (.aload_n 1, 1) := by decide +kernel
theorem dX14_toSend_9 : decode cX14_toSend 9 = .ok (.getfield 391, 3) := by decide +kernel
theorem dX14_toSend_12 : decode cX14_toSend 12 = .ok (.if_icmp .ge 12, 3) := by decide +kernel
theorem dX14_toSend_15 : decode cX14_toSend 15 = .ok (.aload_n 1, 1) := by decide +kernel
theorem dX14_toSend_16 : decode cX14_toSend 16 = .ok (.getfield 394, 3) := by decide +kernel
theorem dX14_toSend_19 : decode cX14_toSend 19 = .ok (.iload_n 3, 1) := by decide +kernel
theorem dX14_toSend_20 : decode cX14_toSend 20 = .ok (.baload, 1) := by decide +kernel
theorem dX14_toSend_21 : decode cX14_toSend 21 = .ok (.goto 19, 3) := by decide +kernel
theorem dX14_toSend_24 : decode cX14_toSend 24 = .ok (.aload_n 0, 1) := by decide +kernel
theorem dX14_toSend_25 : decode cX14_toSend 25 = .ok (.getfield 15, 3) := by decide +kernel
theorem dX14_toSend_28 : decode cX14_toSend 28 = .ok (.aload_n 1, 1) := by decide +kernel
theorem dX14_toSend_29 : decode cX14_toSend 29 = .ok (.getfield 395, 3) := by decide +kernel
theorem dX14_toSend_32 : decode cX14_toSend 32 = .ok (.iload_n 3, 1) := by decide +kernel
theorem dX14_toSend_33 : decode cX14_toSend 33 = .ok (.iadd, 1) := by decide +kernel
theorem dX14_toSend_34 : decode cX14_toSend 34 = .ok (.aload_n 1, 1) := by decide +kernel
theorem dX14_toSend_35 : decode cX14_toSend 35 = .ok (.getfield 391, 3) := by decide +kernel
theorem dX14_toSend_38 : decode cX14_toSend 38 = .ok (.isub, 1) := by decide +kernel
theorem dX14_toSend_39 : decode cX14_toSend 39 = .ok (.baload, 1) := by decide +kernel
theorem dX14_toSend_40 : decode cX14_toSend 40 = .ok (.ireturn, 1) := by decide +kernel
def rmX14_toSend : Room := { frames := 0, cells := 0, slots := 0, locals := 0 }
theorem kX14_toSend : yX14_toSend.cls = "WebHostModel" ∧ yX14_toSend.cls ≠ "java/lang/invoke/MethodHandle" ∧ yX14_toSend.cls ≠ "java/lang/invoke/VarHandle" ∧ (parseMethodDescriptor yX14_toSend.desc).map (fun d => d.parameters.length) = some 2 := by decide +kernel
def w14_toSend (σ : St) (o1 : Nat) (x2 : Int32) (Q : Int32 → Prop) : Prop := ((σ 15 o1 26) ≤ (x2 - (σ 15 o1 29)) → (vp_in (((σ 15 o1 27) + (x2 - (σ 15 o1 29))) - (σ 15 o1 26)) 65535 ∧ (by8 (σ 51 0 (((σ 15 o1 27) + (x2 - (σ 15 o1 29))) - (σ 15 o1 26)).toNatClampNeg) → (by8 (σ 51 0 (((σ 15 o1 27) + (x2 - (σ 15 o1 29))) - (σ 15 o1 26)).toNatClampNeg) ∧ (Q (σ 51 0 (((σ 15 o1 27) + (x2 - (σ 15 o1 29))) - (σ 15 o1 26)).toNatClampNeg)))))) ∧ (¬ (σ 15 o1 26) ≤ (x2 - (σ 15 o1 29)) → (vp_in (x2 - (σ 15 o1 29)) 512 ∧ (by8 (σ 71 o1 (x2 - (σ 15 o1 29)).toNatClampNeg) → (by8 (σ 71 o1 (x2 - (σ 15 o1 29)).toNatClampNeg) ∧ (Q (σ 71 o1 (x2 - (σ 15 o1 29)).toNatClampNeg))))))
set_option maxHeartbeats 4000000 in
theorem m14_toSend (l : Launch) (G : Gh) (a1 : Nat → Nat → Nat) (τ : St) (σ : St) (H : Heap) (o1 : Nat) (x2 : Int32) (ho1 : o1 < 16) (Q : Int32 → Prop) (hw : w14_toSend σ o1 x2 Q) : Met l yX14_toSend (ws_ yX14_toSend cX14_toSend 4 (some .byte)) rmX14_toSend (PcP G a1 (cmb τ σ) H [.ref (ga G 14 0), .ref (ga G 15 o1), .int x2]) (QIp G H Q) 0 0 (gA G) := by
  refine met_p (by decide) (Nat.le_of_ble_eq_true rfl) ?_
  intro p e s m below meth c ls hHe C hH hS hl
  have C : Cx p e s m _ meth c cX14_toSend 4 (some .byte) "WebHostModel" G := C
  have hl : lv_has ls 4 [(0, .ref (ga G 14 0)), (1, .ref (ga G 15 o1)), (2, .int x2)] := hl
  have hx := C.1
  have hb := C.2.1
  have hown := C.2.2.2.2.2.1
  have hts := C.2.2.2.2.2.2.1
  obtain ⟨locs, hlocs⟩ : ∃ z : List Loc, z = [] := ⟨_, rfl⟩
  rw [← hlocs] at hS ⊢
  refine lv_iload_n hx hb dX14_toSend_0 rfl (lv_at hl 2 rfl) ?_
  refine lv_aload_n hx hb dX14_toSend_1 rfl (lv_at hl 1 rfl) ?_
  refine g15_29 C hH ho1 q1740 dX14_toSend_2 ?_
  refine lv_isub hx hb dX14_toSend_5 ?_
  refine lv_istore_n (lv' := [(3, .int (x2 - (σ 15 o1 29))), (0, .ref (ga G 14 0)), (1, .ref (ga G 15 o1)), (2, .int x2)]) hx hb dX14_toSend_6 rfl hl (by decide) rfl (fun ls hl => ?_)
  refine lv_iload_n hx hb dX14_toSend_7 rfl (lv_at hl 0 rfl) ?_
  refine lv_aload_n hx hb dX14_toSend_8 rfl (lv_at hl 2 rfl) ?_
  refine g15_26 C hH ho1 q1735 dX14_toSend_9 ?_
  refine lv_icmp_ge (tgt := 24) hx hb dX14_toSend_12 (by decide) (fun h => ?_) (fun h => ?_)
  · have hw := hw.1 h
    refine lv_aload_n hx hb dX14_toSend_24 rfl (lv_at hl 1 rfl) ?_
    refine g14_2 C hH q1942 dX14_toSend_25 ?_
    refine lv_aload_n hx hb dX14_toSend_28 rfl (lv_at hl 2 rfl) ?_
    refine g15_27 C hH ho1 q1736 dX14_toSend_29 ?_
    refine lv_iload_n hx hb dX14_toSend_32 rfl (lv_at hl 0 rfl) ?_
    refine lv_iadd hx hb dX14_toSend_33 ?_
    refine lv_aload_n hx hb dX14_toSend_34 rfl (lv_at hl 2 rfl) ?_
    refine g15_26 C hH ho1 q1735 dX14_toSend_35 ?_
    refine lv_isub hx hb dX14_toSend_38 ?_
    refine l51 C hH hw.1 dX14_toSend_39 (fun hz => ?_)
    have hw := hw.2 hz
    exact rt_ip C (by8_n hw.1) hS hw.2 dX14_toSend_40
  have hw := hw.2 h
  refine lv_aload_n hx hb dX14_toSend_15 rfl (lv_at hl 2 rfl) ?_
  refine g15_25 C hH ho1 q1733 dX14_toSend_16 ?_
  refine lv_iload_n hx hb dX14_toSend_19 rfl (lv_at hl 0 rfl) ?_
  refine l71 C hH ho1 hw.1 dX14_toSend_20 (fun hz => ?_)
  have hw := hw.2 hz
  refine lv_goto (tgt := 40) hx hb dX14_toSend_21 (by decide) ?_
  exact rt_ip C (by8_n hw.1) hS hw.2 dX14_toSend_40
/-! WebHostModel.trayHalf(I)I -/
abbrev cX14_trayHalf : ByteArray := prog_17_method_24_code
def yX14_trayHalf : MethodName := ⟨RX14, "trayHalf", "(I)I"⟩
theorem dX14_trayHalf_0 : decode cX14_trayHalf 0 = .ok (.aload_n 0, 1) := by decide +kernel
theorem dX14_trayHalf_1 : decode cX14_trayHalf 1 = .ok (.getfield 10, 3) := by decide +kernel
theorem dX14_trayHalf_4 : decode cX14_trayHalf 4 = .ok (.iload_n 1, 1) := by decide +kernel
theorem dX14_trayHalf_5 : decode cX14_trayHalf 5 = .ok (.baload, 1) := by decide +kernel
theorem dX14_trayHalf_6 : decode cX14_trayHalf 6 = .ok (.sipush 255, 3) := by decide +kernel
theorem dX14_trayHalf_9 : decode cX14_trayHalf 9 = .ok (.iand, 1) := by decide +kernel
theorem dX14_trayHalf_10 : decode cX14_trayHalf 10 = .ok (.bipush 8, 2) := by decide +kernel
theorem dX14_trayHalf_12 : decode cX14_trayHalf 12 = .ok (.ishl, 1) := by decide +kernel
theorem dX14_trayHalf_13 : decode cX14_trayHalf 13 = .ok (.aload_n 0, 1) := by decide +kernel
theorem dX14_trayHalf_14 : decode cX14_trayHalf 14 = .ok (.getfield 10, 3) := by decide +kernel
theorem dX14_trayHalf_17 : decode cX14_trayHalf 17 = .ok (.iload_n 1, 1) := by decide +kernel
theorem dX14_trayHalf_18 : decode cX14_trayHalf 18 = .ok (.iconst 1, 1) := by decide +kernel
theorem dX14_trayHalf_19 : decode cX14_trayHalf 19 = .ok (.iadd, 1) := by decide +kernel
theorem dX14_trayHalf_20 : decode cX14_trayHalf 20 = .ok (.baload, 1) := by decide +kernel
theorem dX14_trayHalf_21 : decode cX14_trayHalf 21 = .ok (.sipush 255, 3) := by decide +kernel
theorem dX14_trayHalf_24 : decode cX14_trayHalf 24 = .ok (.iand, 1) := by decide +kernel
theorem dX14_trayHalf_25 : decode cX14_trayHalf 25 = .ok (.ior, 1) := by decide +kernel
theorem dX14_trayHalf_26 : decode cX14_trayHalf 26 = .ok (.ireturn, 1) := by decide +kernel
def rmX14_trayHalf : Room := { frames := 0, cells := 0, slots := 0, locals := 0 }
theorem kX14_trayHalf : yX14_trayHalf.cls = "WebHostModel" ∧ yX14_trayHalf.cls ≠ "java/lang/invoke/MethodHandle" ∧ yX14_trayHalf.cls ≠ "java/lang/invoke/VarHandle" ∧ (parseMethodDescriptor yX14_trayHalf.desc).map (fun d => d.parameters.length) = some 1 := by decide +kernel
def w14_trayHalf (σ : St) (x1 : Int32) (Q : Int32 → Prop) : Prop := vp_in x1 65540 ∧ (by8 (σ 50 0 x1.toNatClampNeg) → (vp_in (x1 + 1) 65540 ∧ (by8 (σ 50 0 (x1 + 1).toNatClampNeg) → (Q ((((σ 50 0 x1.toNatClampNeg) &&& 255) <<< ((8 : Int32) &&& 31)) ||| ((σ 50 0 (x1 + 1).toNatClampNeg) &&& 255))))))
set_option maxHeartbeats 4000000 in
theorem m14_trayHalf (l : Launch) (G : Gh) (a1 : Nat → Nat → Nat) (τ : St) (σ : St) (H : Heap) (x1 : Int32) (Q : Int32 → Prop) (hw : w14_trayHalf σ x1 Q) : Met l yX14_trayHalf (ws_ yX14_trayHalf cX14_trayHalf 2 (some .int)) rmX14_trayHalf (PcP G a1 (cmb τ σ) H [.ref (ga G 14 0), .int x1]) (QIp G H Q) 0 0 (gA G) := by
  refine met_p (by decide) (Nat.le_of_ble_eq_true rfl) ?_
  intro p e s m below meth c ls hHe C hH hS hl
  have C : Cx p e s m _ meth c cX14_trayHalf 2 (some .int) "WebHostModel" G := C
  have hl : lv_has ls 2 [(0, .ref (ga G 14 0)), (1, .int x1)] := hl
  have hx := C.1
  have hb := C.2.1
  have hown := C.2.2.2.2.2.1
  have hts := C.2.2.2.2.2.2.1
  obtain ⟨locs, hlocs⟩ : ∃ z : List Loc, z = [] := ⟨_, rfl⟩
  rw [← hlocs] at hS ⊢
  refine lv_aload_n hx hb dX14_trayHalf_0 rfl (lv_at hl 0 rfl) ?_
  refine g14_0 C hH q1940 dX14_trayHalf_1 ?_
  refine lv_iload_n hx hb dX14_trayHalf_4 rfl (lv_at hl 1 rfl) ?_
  refine l50 C hH hw.1 dX14_trayHalf_5 (fun hz => ?_)
  have hw := hw.2 hz
  refine lv_sipush (v := 255) hx hb dX14_trayHalf_6 (by decide) ?_
  refine lv_iand hx hb dX14_trayHalf_9 ?_
  refine lv_bipush (v := 8) hx hb dX14_trayHalf_10 (by decide) ?_
  refine lv_ishl hx hb dX14_trayHalf_12 ?_
  refine lv_aload_n hx hb dX14_trayHalf_13 rfl (lv_at hl 0 rfl) ?_
  refine g14_0 C hH q1940 dX14_trayHalf_14 ?_
  refine lv_iload_n hx hb dX14_trayHalf_17 rfl (lv_at hl 1 rfl) ?_
  refine lv_iconst (v := 1) hx hb dX14_trayHalf_18 (by decide) ?_
  refine lv_iadd hx hb dX14_trayHalf_19 ?_
  refine l50 C hH hw.1 dX14_trayHalf_20 (fun hz => ?_)
  have hw := hw.2 hz
  refine lv_sipush (v := 255) hx hb dX14_trayHalf_21 (by decide) ?_
  refine lv_iand hx hb dX14_trayHalf_24 ?_
  refine lv_ior hx hb dX14_trayHalf_25 ?_
  exact rt_ip C rfl hS hw dX14_trayHalf_26
/-! WebHostModel.waiting()I -/
abbrev cX14_waiting : ByteArray := prog_17_method_118_code
def yX14_waiting : MethodName := ⟨RX14, "waiting", "()I"⟩
theorem dX14_waiting_0 : decode cX14_waiting 0 = .ok (.iconst 0, 1) := by decide +kernel
theorem dX14_waiting_1 : decode cX14_waiting 1 = .ok (.istore_n 1, 1) := by decide +kernel
theorem dX14_waiting_2 : decode cX14_waiting 2 = .ok (.iconst 0, 1) := by decide +kernel
theorem dX14_waiting_3 : decode cX14_waiting 3 = .ok (.istore_n 2, 1) := by decide +kernel
theorem dX14_waiting_4 : decode cX14_waiting 4 = .ok (.iload_n 2, 1) := by decide +kernel
theorem dX14_waiting_5 : decode cX14_waiting 5 = .ok (.bipush 8, 2) := by decide +kernel
theorem dX14_waiting_7 : decode cX14_waiting 7 = .ok (.if_icmp .ge 31, 3) := by decide +kernel
theorem dX14_waiting_10 : decode cX14_waiting 10 = .ok (.aload_n 0, 1) := by decide +kernel
theorem dX14_waiting_11 : decode cX14_waiting 11 = .ok (.getfield 95, 3) := by decide +kernel
theorem dX14_waiting_14 : decode cX14_waiting 14 = .ok (.ifCond .eq 24, 3) := by decide +kernel
theorem dX14_waiting_17 : decode cX14_waiting 17 = .ok (.aload_n 0, 1) := by decide +kernel
theorem dX14_waiting_18 : decode cX14_waiting 18 = .ok (.getfield 55, 3) := by decide +kernel
theorem dX14_waiting_21 : decode cX14_waiting 21 = .ok (.iload_n 2, 1) := by decide +kernel
theorem dX14_waiting_22 : decode cX14_waiting 22 = .ok (.aaload, 1) := by decide +kernel
theorem dX14_waiting_23 : decode cX14_waiting 23 = .ok (.getfield 158, 3) := by decide +kernel
theorem dX14_waiting_26 : decode cX14_waiting 26 = .ok (.ifCond .eq 6, 3) := by decide +kernel
theorem dX14_waiting_29 : decode cX14_waiting 29 = .ok (.iinc 1 1, 3) := by decide +kernel
theorem dX14_waiting_32 : decode cX14_waiting 32 = .ok (.iinc 2 1, 3) := by decide +kernel
theorem dX14_waiting_35 : decode cX14_waiting 35 = .ok (.goto (-31), 3) := by decide +kernel
theorem dX14_waiting_38 : decode cX14_waiting 38 = .ok (.iload_n 1, 1) := by decide +kernel
theorem dX14_waiting_39 : decode cX14_waiting 39 = .ok (.ireturn, 1) := by decide +kernel
def rmX14_waiting : Room := { frames := 0, cells := 0, slots := 0, locals := 0 }
theorem kX14_waiting : yX14_waiting.cls = "WebHostModel" ∧ yX14_waiting.cls ≠ "java/lang/invoke/MethodHandle" ∧ yX14_waiting.cls ≠ "java/lang/invoke/VarHandle" ∧ (parseMethodDescriptor yX14_waiting.desc).map (fun d => d.parameters.length) = some 0 := by decide +kernel
def w14_waiting_L4 (σ : St) (Q : Int32 → Prop) (K38 : Int32 → Prop) : Nat → Int32 → Int32 → Prop
  | 0, _, _ => False
  | n + 1, x1, x2 => (8 ≤ x2 → K38 x1) ∧ (¬ 8 ≤ x2 → (bo (σ 14 0 4) → (((σ 14 0 4) = 0 → K38 x1) ∧ (¬ (σ 14 0 4) = 0 → (vp_in x2 8 ∧ (bo (σ 17 x2.toNatClampNeg 0) → (((σ 17 x2.toNatClampNeg 0) = 0 → (w14_waiting_L4 σ Q K38 n x1 (x2 + 1))) ∧ (¬ (σ 17 x2.toNatClampNeg 0) = 0 → (w14_waiting_L4 σ Q K38 n (x1 + 1) (x2 + 1))))))))))
set_option maxHeartbeats 4000000 in
theorem k14_waiting_L4 {p : Program} {l : Launch} {e : Env} {s : State} {m : MethodId} {args : Array Value} {below : List Frame} {meth : Method} {c : Code} {G : Gh} {a1 : Nat → Nat → Nat} {τ : St} {H : Heap} {Q : Int32 → Prop} {K38 : Int32 → Prop} (C : Cx p e s m args meth c cX14_waiting 3 (some .int) "WebHostModel" G) (σ : St) (hH : Hd G a1 (cmb τ σ) H) :
    ∀ (n : Nat) (x1 : Int32) (x2 : Int32), w14_waiting_L4 σ Q K38 n x1 x2 → ∀ (locs : List Loc) (ls : Array Slot), va_S (gA G) s.heap H locs → lv_has ls 3 [(0, .ref (ga G 14 0)), (1, .int x1), (2, .int x2)] → (∀ (x1 : Int32), K38 x1 → ∀ (locs : List Loc) (ls : Array Slot), va_S (gA G) s.heap H locs → lv_has ls 3 [(1, .int x1)] → W p l e rmX14_waiting s m args below meth c H locs 0 0 (MQ below (QIp G H Q) args s 0 0 (gA G)) (F0 m 38 ls [])) → W p l e rmX14_waiting s m args below meth c H locs 0 0 (MQ below (QIp G H Q) args s 0 0 (gA G)) (F0 m 4 ls []) := by
  have hx := C.1
  have hb := C.2.1
  have hown := C.2.2.2.2.2.1
  have hts := C.2.2.2.2.2.2.1
  intro n
  induction n with
  | zero =>
    intro x1 x2 hw
    exact False.elim hw
  | succ n ih =>
    intro x1 x2 hw locs ls hS hl hK38
    refine lv_iload_n hx hb dX14_waiting_4 rfl (lv_at hl 2 rfl) ?_
    refine lv_bipush (v := 8) hx hb dX14_waiting_5 (by decide) ?_
    refine lv_icmp_ge (tgt := 38) hx hb dX14_waiting_7 (by decide) (fun h => ?_) (fun h => ?_)
    · have hw := hw.1 h
      exact hK38 x1 hw locs ls hS (lv_sub hl [1] rfl)
    have hw := hw.2 h
    refine lv_aload_n hx hb dX14_waiting_10 rfl (lv_at hl 0 rfl) ?_
    refine g14_4 C hH q1944 dX14_waiting_11 (fun hz => ?_)
    have hw := hw hz
    refine lv_if_eq (tgt := 38) hx hb dX14_waiting_14 (by decide) (fun h => ?_) (fun h => ?_)
    · have hw := hw.1 h
      exact hK38 x1 hw locs ls hS (lv_sub hl [1] rfl)
    have hw := hw.2 h
    refine lv_aload_n hx hb dX14_waiting_17 rfl (lv_at hl 0 rfl) ?_
    refine g14_27 C hH q1967 dX14_waiting_18 ?_
    refine lv_iload_n hx hb dX14_waiting_21 rfl (lv_at hl 2 rfl) ?_
    have hq1 := vp_lt hw.1
    refine l62 C hH hw.1 dX14_waiting_22 ?_
    have hw := hw.2
    refine g17_0 C hH hq1 q1882 dX14_waiting_23 (fun hz => ?_)
    have hw := hw hz
    refine lv_if_eq (tgt := 32) hx hb dX14_waiting_26 (by decide) (fun h => ?_) (fun h => ?_)
    · have hw := hw.1 h
      refine lv_iinc (v := x2 + 1) (lv' := [(2, .int (x2 + 1)), (0, .ref (ga G 14 0)), (1, .int x1)]) hx hb dX14_waiting_32 hl (k := 2) rfl rfl (by decide) rfl (fun ls hl => ?_)
      refine lv_goto (tgt := 4) hx hb dX14_waiting_35 (by decide) ?_
      exact ih x1 (x2 + 1) hw locs ls hS (lv_sub hl [1, 2, 0] rfl) hK38
    have hw := hw.2 h
    refine lv_iinc (v := x1 + 1) (lv' := [(1, .int (x1 + 1)), (0, .ref (ga G 14 0)), (2, .int x2)]) hx hb dX14_waiting_29 hl (k := 1) rfl rfl (by decide) rfl (fun ls hl => ?_)
    refine lv_iinc (v := x2 + 1) (lv' := [(2, .int (x2 + 1)), (1, .int (x1 + 1)), (0, .ref (ga G 14 0))]) hx hb dX14_waiting_32 hl (k := 2) rfl rfl (by decide) rfl (fun ls hl => ?_)
    refine lv_goto (tgt := 4) hx hb dX14_waiting_35 (by decide) ?_
    exact ih (x1 + 1) (x2 + 1) hw locs ls hS (lv_sub hl [2, 1, 0] rfl) hK38
def w14_waiting (σ : St) (Q : Int32 → Prop) : Prop := ∃ z2, w14_waiting_L4 σ Q (fun x1_3 => Q x1_3) z2 0 0
set_option maxHeartbeats 4000000 in
theorem m14_waiting (l : Launch) (G : Gh) (a1 : Nat → Nat → Nat) (τ : St) (σ : St) (H : Heap) (Q : Int32 → Prop) (hw : w14_waiting σ Q) : Met l yX14_waiting (ws_ yX14_waiting cX14_waiting 3 (some .int)) rmX14_waiting (PcP G a1 (cmb τ σ) H [.ref (ga G 14 0)]) (QIp G H Q) 0 0 (gA G) := by
  refine met_p (by decide) (Nat.le_of_ble_eq_true rfl) ?_
  intro p e s m below meth c ls hHe C hH hS hl
  have C : Cx p e s m _ meth c cX14_waiting 3 (some .int) "WebHostModel" G := C
  have hl : lv_has ls 3 [(0, .ref (ga G 14 0))] := hl
  have hx := C.1
  have hb := C.2.1
  have hown := C.2.2.2.2.2.1
  have hts := C.2.2.2.2.2.2.1
  obtain ⟨locs, hlocs⟩ : ∃ z : List Loc, z = [] := ⟨_, rfl⟩
  rw [← hlocs] at hS ⊢
  refine lv_iconst (v := 0) hx hb dX14_waiting_0 (by decide) ?_
  refine lv_istore_n (lv' := [(1, .int 0), (0, .ref (ga G 14 0))]) hx hb dX14_waiting_1 rfl hl (by decide) rfl (fun ls hl => ?_)
  refine lv_iconst (v := 0) hx hb dX14_waiting_2 (by decide) ?_
  refine lv_istore_n (lv' := [(2, .int 0), (1, .int 0), (0, .ref (ga G 14 0))]) hx hb dX14_waiting_3 rfl hl (by decide) rfl (fun ls hl => ?_)
  obtain ⟨n2, hw⟩ := hw
  refine k14_waiting_L4 C σ hH n2 0 0 hw locs ls hS (lv_sub hl [2, 1, 0] rfl) (fun x1_3 hw locs ls hS hl => ?_)
  refine lv_iload_n hx hb dX14_waiting_38 rfl (lv_at hl 0 rfl) ?_
  exact rt_ip C rfl hS hw dX14_waiting_39
/-! WebHostModel.word(I)V -/
abbrev cX14_word : ByteArray := prog_17_method_4_code
def yX14_word : MethodName := ⟨RX14, "word", "(I)V"⟩
theorem dX14_word_0 : decode cX14_word 0 = .ok (.iconst 0, 1) := by decide +kernel
theorem dX14_word_1 : decode cX14_word 1 = .ok (.istore_n 2, 1) := by decide +kernel
theorem dX14_word_2 : decode cX14_word 2 = .ok (.iload_n 2, 1) := by decide +kernel
theorem dX14_word_3 : decode cX14_word 3 = .ok (.iconst 4, 1) := by decide +kernel
theorem dX14_word_4 : decode cX14_word 4 = .ok (.if_icmp .ge 38, 3) := by decide +kernel
theorem dX14_word_7 : decode cX14_word 7 = .ok (.aload_n 0, 1) := by decide +kernel
theorem dX14_word_8 : decode cX14_word 8 = .ok (.getfield 10, 3) := by decide +kernel
theorem dX14_word_11 : decode cX14_word 11 = .ok (.aload_n 0, 1) := by decide +kernel
theorem dX14_word_12 : decode cX14_word 12 = .ok (.getfield 84, 3) := by decide +kernel
theorem dX14_word_15 : decode cX14_word 15 = .ok (.iload_n 1, 1) := by decide +kernel
theorem dX14_word_16 : decode cX14_word 16 = .ok (.bipush 24, 2) := by decide +kernel
theorem dX14_word_18 : decode cX14_word 18 = .ok (.bipush 8, 2) := by decide +kernel
theorem dX14_word_20 : decode cX14_word 20 = .ok (.iload_n 2, 1) := by decide +kernel
theorem dX14_word_21 : decode cX14_word 21 = .ok (.imul, 1) := by decide +kernel
theorem dX14_word_22 : decode cX14_word 22 = .ok (.isub, 1) := by decide +kernel
theorem dX14_word_23 : decode cX14_word 23 = .ok (.ishr, 1) := by decide +kernel
theorem dX14_word_24 : decode cX14_word 24 = .ok (.i2b, 1) := by decide +kernel
theorem dX14_word_25 : decode cX14_word 25 = .ok (.bastore, 1) := by decide +kernel
theorem dX14_word_26 : decode cX14_word 26 = .ok (.aload_n 0, 1) := by decide +kernel
theorem dX14_word_27 : decode cX14_word 27 = .ok (.dup, 1) := by decide +kernel
theorem dX14_word_28 : decode cX14_word 28 = .ok (.getfield 84, 3) := by decide +kernel
theorem dX14_word_31 : decode cX14_word 31 = .ok (.iconst 1, 1) := by decide +kernel
theorem dX14_word_32 : decode cX14_word 32 = .ok (.iadd, 1) := by decide +kernel
theorem dX14_word_33 : decode cX14_word 33 = .ok (.putfield 84, 3) := by decide +kernel
theorem dX14_word_36 : decode cX14_word 36 = .ok (.iinc 2 1, 3) := by decide +kernel
theorem dX14_word_39 : decode cX14_word 39 = .ok (.goto (-37), 3) := by decide +kernel
theorem dX14_word_42 : decode cX14_word 42 = .ok (.return_, 1) := by decide +kernel
def rmX14_word : Room := { frames := 0, cells := 0, slots := 0, locals := 0 }
theorem kX14_word : yX14_word.cls = "WebHostModel" ∧ yX14_word.cls ≠ "java/lang/invoke/MethodHandle" ∧ yX14_word.cls ≠ "java/lang/invoke/VarHandle" ∧ (parseMethodDescriptor yX14_word.desc).map (fun d => d.parameters.length) = some 1 := by decide +kernel
def w14_word_L2 (x1 : Int32) (Q : St → Prop) (K42 : St → Prop) : Nat → St → Int32 → Prop
  | 0, _, _ => False
  | n + 1, σ, x2 => (4 ≤ x2 → K42 σ) ∧ (¬ 4 ≤ x2 → (vp_in (σ 14 0 1) 65540 ∧ (∀ σ1, σ1 = up3 σ 50 0 (σ 14 0 1).toNatClampNeg ((x1 >>> ((24 - (8 * x2)) &&& 31)).toInt8.toInt32).toInt8.toInt32 → (∀ σ2, σ2 = up3 σ1 14 0 1 ((σ1 14 0 1) + 1) → (w14_word_L2 x1 Q K42 n σ2 (x2 + 1))))))
set_option maxHeartbeats 4000000 in
theorem k14_word_L2 {p : Program} {l : Launch} {e : Env} {s : State} {m : MethodId} {args : Array Value} {below : List Frame} {meth : Method} {c : Code} {G : Gh} {a1 : Nat → Nat → Nat} {τ : St} {Q : St → Prop} {K42 : St → Prop} (C : Cx p e s m args meth c cX14_word 3 none "WebHostModel" G) (x1 : Int32) :
    ∀ (n : Nat) (σ : St) (x2 : Int32), w14_word_L2 x1 Q K42 n σ x2 → ∀ (H : Heap) (locs : List Loc) (ls : Array Slot), Hd G a1 (cmb τ σ) H → va_S (gA G) s.heap H locs → lv_has ls 3 [(0, .ref (ga G 14 0)), (1, .int x1), (2, .int x2)] → (∀ (σ : St) , K42 σ → ∀ (H : Heap) (locs : List Loc) (ls : Array Slot), Hd G a1 (cmb τ σ) H → va_S (gA G) s.heap H locs → lv_has ls 3 [] → W p l e rmX14_word s m args below meth c H locs 0 0 (MQ below (QVs G a1 (fun u => cmb τ u) Q) args s 0 0 (gA G)) (F0 m 42 ls [])) → W p l e rmX14_word s m args below meth c H locs 0 0 (MQ below (QVs G a1 (fun u => cmb τ u) Q) args s 0 0 (gA G)) (F0 m 2 ls []) := by
  have hx := C.1
  have hb := C.2.1
  have hown := C.2.2.2.2.2.1
  have hts := C.2.2.2.2.2.2.1
  intro n
  induction n with
  | zero =>
    intro σ x2 hw
    exact False.elim hw
  | succ n ih =>
    intro σ x2 hw H locs ls hH hS hl hK42
    refine lv_iload_n hx hb dX14_word_2 rfl (lv_at hl 2 rfl) ?_
    refine lv_iconst (v := 4) hx hb dX14_word_3 (by decide) ?_
    refine lv_icmp_ge (tgt := 42) hx hb dX14_word_4 (by decide) (fun h => ?_) (fun h => ?_)
    · have hw := hw.1 h
      exact hK42 σ hw H locs ls hH hS (lv_sub hl [] rfl)
    have hw := hw.2 h
    refine lv_aload_n hx hb dX14_word_7 rfl (lv_at hl 0 rfl) ?_
    refine g14_0 C hH q1940 dX14_word_8 ?_
    refine lv_aload_n hx hb dX14_word_11 rfl (lv_at hl 0 rfl) ?_
    refine g14_1 C hH q1941 dX14_word_12 ?_
    refine lv_iload_n hx hb dX14_word_15 rfl (lv_at hl 1 rfl) ?_
    refine lv_bipush (v := 24) hx hb dX14_word_16 (by decide) ?_
    refine lv_bipush (v := 8) hx hb dX14_word_18 (by decide) ?_
    refine lv_iload_n hx hb dX14_word_20 rfl (lv_at hl 2 rfl) ?_
    refine lv_imul hx hb dX14_word_21 ?_
    refine lv_isub hx hb dX14_word_22 ?_
    refine lv_ishr hx hb dX14_word_23 ?_
    refine lv_i2b (v := (x1 >>> ((24 - (8 * x2)) &&& 31)).toInt8.toInt32) hx hb dX14_word_24 rfl ?_
    refine s50 C hH hS hw.1 dX14_word_25 (fun σ1 e1 H locs hH hS => ?_)
    have hw := hw.2 σ1 e1
    refine lv_aload_n hx hb dX14_word_26 rfl (lv_at hl 0 rfl) ?_
    refine lv_dup hx hb dX14_word_27 rfl ?_
    refine g14_1 C hH q1941 dX14_word_28 ?_
    refine lv_iconst (v := 1) hx hb dX14_word_31 (by decide) ?_
    refine lv_iadd hx hb dX14_word_32 ?_
    refine p14_1 C hH hS q1941 dX14_word_33 (fun σ2 e2 H locs hH hS => ?_)
    have hw := hw σ2 e2
    refine lv_iinc (v := x2 + 1) (lv' := [(2, .int (x2 + 1)), (0, .ref (ga G 14 0)), (1, .int x1)]) hx hb dX14_word_36 hl (k := 2) rfl rfl (by decide) rfl (fun ls hl => ?_)
    refine lv_goto (tgt := 2) hx hb dX14_word_39 (by decide) ?_
    exact ih σ2 (x2 + 1) hw H locs ls hH hS (lv_sub hl [1, 2, 0] rfl) hK42
def w14_word (σ : St) (x1 : Int32) (Q : St → Prop) : Prop := ∃ z3, w14_word_L2 x1 Q (fun σ4 => Q σ4) z3 σ 0
set_option maxHeartbeats 4000000 in
theorem m14_word (l : Launch) (G : Gh) (a1 : Nat → Nat → Nat) (τ : St) (σ : St) (x1 : Int32) (Q : St → Prop) (hw : w14_word σ x1 Q) : Met l yX14_word (ws_ yX14_word cX14_word 3 none) rmX14_word (PcS G a1 (cmb τ σ) [.ref (ga G 14 0), .int x1]) (QVs G a1 (fun u => cmb τ u) Q) 0 0 (gA G) := by
  refine met_w (by decide) (Nat.le_of_ble_eq_true rfl) ?_
  intro p e s m below meth c ls C hH hS hl
  have C : Cx p e s m _ meth c cX14_word 3 none "WebHostModel" G := C
  have hl : lv_has ls 3 [(0, .ref (ga G 14 0)), (1, .int x1)] := hl
  have hx := C.1
  have hb := C.2.1
  have hown := C.2.2.2.2.2.1
  have hts := C.2.2.2.2.2.2.1
  obtain ⟨locs, hlocs⟩ : ∃ z : List Loc, z = [] := ⟨_, rfl⟩
  obtain ⟨H, hHe⟩ : ∃ z : Heap, z = s.heap := ⟨_, rfl⟩
  have hH : Hd G a1 (cmb τ σ) H := by rw [hHe]; exact hH
  have hS : va_S (gA G) s.heap H locs := by rw [hHe, hlocs]; exact hS
  refine W.heap0 hHe.symm hlocs.symm ?_
  refine lv_iconst (v := 0) hx hb dX14_word_0 (by decide) ?_
  refine lv_istore_n (lv' := [(2, .int 0), (0, .ref (ga G 14 0)), (1, .int x1)]) hx hb dX14_word_1 rfl hl (by decide) rfl (fun ls hl => ?_)
  obtain ⟨n3, hw⟩ := hw
  refine k14_word_L2 C x1 n3 σ 0 hw H locs ls hH hS (lv_sub hl [1, 2, 0] rfl) (fun σ4 hw H locs ls hH hS hl => ?_)
  exact rt_v C hH hS hw dX14_word_42
/-! WebHostModel$Connection.behind()I -/
abbrev cX15_behind : ByteArray := prog_18_method_2_code
def yX15_behind : MethodName := ⟨RX15, "behind", "()I"⟩
theorem dX15_behind_0 : decode cX15_behind 0 = .ok (.aload_n 0, 1) := by decide +kernel
theorem dX15_behind_1 : decode cX15_behind 1 = .ok (.getfield 22, 3) := by decide +kernel
theorem dX15_behind_4 : decode cX15_behind 4 = .ok (.aload_n 0, 1) := by decide +kernel
theorem dX15_behind_5 : decode cX15_behind 5 = .ok (.getfield 26, 3) := by decide +kernel
theorem dX15_behind_8 : decode cX15_behind 8 = .ok (.iadd, 1) := by decide +kernel
theorem dX15_behind_9 : decode cX15_behind 9 = .ok (.aload_n 0, 1) := by decide +kernel
theorem dX15_behind_10 : decode cX15_behind 10 = .ok (.getfield 29, 3) := by decide +kernel
theorem dX15_behind_13 : decode cX15_behind 13 = .ok (.iadd, 1) := by decide +kernel
theorem dX15_behind_14 : decode cX15_behind 14 = .ok (.ireturn, 1) := by decide +kernel
def rmX15_behind : Room := { frames := 0, cells := 0, slots := 0, locals := 0 }
theorem kX15_behind : yX15_behind.cls = "WebHostModel$Connection" ∧ yX15_behind.cls ≠ "java/lang/invoke/MethodHandle" ∧ yX15_behind.cls ≠ "java/lang/invoke/VarHandle" ∧ (parseMethodDescriptor yX15_behind.desc).map (fun d => d.parameters.length) = some 0 := by decide +kernel
def w15_behind (σ : St) (o0 : Nat) (Q : Int32 → Prop) : Prop := Q (((σ 15 o0 29) + (σ 15 o0 26)) + (σ 15 o0 28))
set_option maxHeartbeats 4000000 in
theorem m15_behind (l : Launch) (G : Gh) (a1 : Nat → Nat → Nat) (τ : St) (σ : St) (H : Heap) (o0 : Nat) (ho0 : o0 < 16) (Q : Int32 → Prop) (hw : w15_behind σ o0 Q) : Met l yX15_behind (ws_ yX15_behind cX15_behind 1 (some .int)) rmX15_behind (PcP G a1 (cmb τ σ) H [.ref (ga G 15 o0)]) (QIp G H Q) 0 0 (gA G) := by
  refine met_p (by decide) (Nat.le_of_ble_eq_true rfl) ?_
  intro p e s m below meth c ls hHe C hH hS hl
  have C : Cx p e s m _ meth c cX15_behind 1 (some .int) "WebHostModel$Connection" G := C
  have hl : lv_has ls 1 [(0, .ref (ga G 15 o0))] := hl
  have hx := C.1
  have hb := C.2.1
  have hown := C.2.2.2.2.2.1
  have hts := C.2.2.2.2.2.2.1
  obtain ⟨locs, hlocs⟩ : ∃ z : List Loc, z = [] := ⟨_, rfl⟩
  rw [← hlocs] at hS ⊢
  refine lv_aload_n hx hb dX15_behind_0 rfl (lv_at hl 0 rfl) ?_
  refine g15_29 C hH ho0 q1739 dX15_behind_1 ?_
  refine lv_aload_n hx hb dX15_behind_4 rfl (lv_at hl 0 rfl) ?_
  refine g15_26 C hH ho0 q1734 dX15_behind_5 ?_
  refine lv_iadd hx hb dX15_behind_8 ?_
  refine lv_aload_n hx hb dX15_behind_9 rfl (lv_at hl 0 rfl) ?_
  refine g15_28 C hH ho0 q1737 dX15_behind_10 ?_
  refine lv_iadd hx hb dX15_behind_13 ?_
  exact rt_ip C rfl hS hw dX15_behind_14
/-! WebHostModel$Connection.held()I -/
abbrev cX15_held : ByteArray := prog_18_method_4_code
def yX15_held : MethodName := ⟨RX15, "held", "()I"⟩
theorem dX15_held_0 : decode cX15_held 0 = .ok (.aload_n 0, 1) := by decide +kernel
theorem dX15_held_1 : decode cX15_held 1 = .ok (.getfield 40, 3) := by decide +kernel
theorem dX15_held_4 : decode cX15_held 4 = .ok (.aload_n 0, 1) := by decide +kernel
theorem dX15_held_5 : decode cX15_held 5 = .ok (.getfield 43, 3) := by decide +kernel
theorem dX15_held_8 : decode cX15_held 8 = .ok (.isub, 1) := by decide +kernel
theorem dX15_held_9 : decode cX15_held 9 = .ok (.aload_n 0, 1) := by decide +kernel
theorem dX15_held_10 : decode cX15_held 10 = .ok (.getfield 46, 3) := by decide +kernel
theorem dX15_held_13 : decode cX15_held 13 = .ok (.ifCond .eq 7, 3) := by decide +kernel
theorem dX15_held_16 : decode cX15_held 16 = .ok (.iconst 1, 1) := by decide +kernel
theorem dX15_held_17 : decode cX15_held 17 = .ok (.goto 4, 3) := by decide +kernel
theorem dX15_held_20 : decode cX15_held 20 = .ok (.iconst 0, 1) := by decide +kernel
theorem dX15_held_21 : decode cX15_held 21 = .ok (.isub, 1) := by decide +kernel
theorem dX15_held_22 : decode cX15_held 22 = .ok (.ireturn, 1) := by decide +kernel
def rmX15_held : Room := { frames := 0, cells := 0, slots := 0, locals := 0 }
theorem kX15_held : yX15_held.cls = "WebHostModel$Connection" ∧ yX15_held.cls ≠ "java/lang/invoke/MethodHandle" ∧ yX15_held.cls ≠ "java/lang/invoke/VarHandle" ∧ (parseMethodDescriptor yX15_held.desc).map (fun d => d.parameters.length) = some 0 := by decide +kernel
def w15_held (σ : St) (o0 : Nat) (Q : Int32 → Prop) : Prop := bo (σ 15 o0 41) → (((σ 15 o0 41) = 0 → (Q (((σ 15 o0 36) - (σ 15 o0 35)) - 0))) ∧ (¬ (σ 15 o0 41) = 0 → (Q (((σ 15 o0 36) - (σ 15 o0 35)) - 1))))
set_option maxHeartbeats 4000000 in
theorem m15_held (l : Launch) (G : Gh) (a1 : Nat → Nat → Nat) (τ : St) (σ : St) (H : Heap) (o0 : Nat) (ho0 : o0 < 16) (Q : Int32 → Prop) (hw : w15_held σ o0 Q) : Met l yX15_held (ws_ yX15_held cX15_held 1 (some .int)) rmX15_held (PcP G a1 (cmb τ σ) H [.ref (ga G 15 o0)]) (QIp G H Q) 0 0 (gA G) := by
  refine met_p (by decide) (Nat.le_of_ble_eq_true rfl) ?_
  intro p e s m below meth c ls hHe C hH hS hl
  have C : Cx p e s m _ meth c cX15_held 1 (some .int) "WebHostModel$Connection" G := C
  have hl : lv_has ls 1 [(0, .ref (ga G 15 o0))] := hl
  have hx := C.1
  have hb := C.2.1
  have hown := C.2.2.2.2.2.1
  have hts := C.2.2.2.2.2.2.1
  obtain ⟨locs, hlocs⟩ : ∃ z : List Loc, z = [] := ⟨_, rfl⟩
  rw [← hlocs] at hS ⊢
  refine lv_aload_n hx hb dX15_held_0 rfl (lv_at hl 0 rfl) ?_
  refine g15_36 C hH ho0 q1751 dX15_held_1 ?_
  refine lv_aload_n hx hb dX15_held_4 rfl (lv_at hl 0 rfl) ?_
  refine g15_35 C hH ho0 q1749 dX15_held_5 ?_
  refine lv_isub hx hb dX15_held_8 ?_
  refine lv_aload_n hx hb dX15_held_9 rfl (lv_at hl 0 rfl) ?_
  refine g15_41 C hH ho0 q1757 dX15_held_10 (fun hz => ?_)
  have hw := hw hz
  refine lv_if_eq (tgt := 20) hx hb dX15_held_13 (by decide) (fun h => ?_) (fun h => ?_)
  · have hw := hw.1 h
    refine lv_iconst (v := 0) hx hb dX15_held_20 (by decide) ?_
    refine lv_isub hx hb dX15_held_21 ?_
    exact rt_ip C rfl hS hw dX15_held_22
  have hw := hw.2 h
  refine lv_iconst (v := 1) hx hb dX15_held_16 (by decide) ?_
  refine lv_goto (tgt := 21) hx hb dX15_held_17 (by decide) ?_
  refine lv_isub hx hb dX15_held_21 ?_
  exact rt_ip C rfl hS hw dX15_held_22
/-! WebHost.isKept(I)Z -/
abbrev cX0_isKept : ByteArray := prog_1_method_20_code
def yX0_isKept : MethodName := ⟨RX0, "isKept", "(I)Z"⟩
theorem dX0_isKept_0 : decode cX0_isKept 0 = .ok (.aload_n 0, 1) := by decide +kernel
theorem dX0_isKept_1 : decode cX0_isKept 1 = .ok (.getfield 105, 3) := by decide +kernel
theorem dX0_isKept_4 : decode cX0_isKept 4 = .ok (.ifCond .eq 18, 3) := by decide +kernel
theorem dX0_isKept_7 : decode cX0_isKept 7 = .ok (.aload_n 0, 1) := by decide +kernel
theorem dX0_isKept_8 : decode cX0_isKept 8 = .ok (.getfield 24, 3) := by decide +kernel
theorem dX0_isKept_11 : decode cX0_isKept 11 = .ok (.iload_n 1, 1) := by decide +kernel
theorem dX0_isKept_12 : decode cX0_isKept 12 = .ok (.invokevirtual 276, 3) := by decide +kernel
theorem dX0_isKept_15 : decode cX0_isKept 15 = .ok (.ifCond .eq 7, 3) := by decide +kernel
theorem dX0_isKept_18 : decode cX0_isKept 18 = .ok (.iconst 1, 1) := by decide +kernel
theorem dX0_isKept_19 : decode cX0_isKept 19 = .ok (.goto 4, 3) := by decide +kernel
theorem dX0_isKept_22 : decode cX0_isKept 22 = .ok (.iconst 0, 1) := by decide +kernel
theorem dX0_isKept_23 : decode cX0_isKept 23 = .ok (.ireturn, 1) := by decide +kernel
def rmX0_isKept : Room := { frames := 1, cells := 0, slots := 0, locals := 21 }
theorem kX0_isKept : yX0_isKept.cls = "WebHost" ∧ yX0_isKept.cls ≠ "java/lang/invoke/MethodHandle" ∧ yX0_isKept.cls ≠ "java/lang/invoke/VarHandle" ∧ (parseMethodDescriptor yX0_isKept.desc).map (fun d => d.parameters.length) = some 1 := by decide +kernel
def w0_isKept (σ : St) (x1 : Int32) (Q : Int32 → Prop) : Prop := bo (σ 0 0 11) → (((σ 0 0 11) = 0 → Q 0) ∧ (¬ (σ 0 0 11) = 0 → (w2_isKept σ x1 (fun r1 => ((r1 = 0 → Q 0) ∧ (¬ r1 = 0 → Q 1))))))
set_option maxHeartbeats 4000000 in
theorem m0_isKept (l : Launch) (G : Gh) (a1 : Nat → Nat → Nat) (τ : St) (σ : St) (H : Heap) (x1 : Int32) (Q : Int32 → Prop) (hw : w0_isKept σ x1 Q) : Met l yX0_isKept (ws_ yX0_isKept cX0_isKept 2 (some .boolean)) rmX0_isKept (PcP G a1 (cmb σ τ) H [.ref (ga G 0 0), .int x1]) (QIp G H Q) 0 0 (gA G) := by
  refine met_p (by decide) (Nat.le_of_ble_eq_true rfl) ?_
  intro p e s m below meth c ls hHe C hH hS hl
  have C : Cx p e s m _ meth c cX0_isKept 2 (some .boolean) "WebHost" G := C
  have hl : lv_has ls 2 [(0, .ref (ga G 0 0)), (1, .int x1)] := hl
  have hx := C.1
  have hb := C.2.1
  have hown := C.2.2.2.2.2.1
  have hts := C.2.2.2.2.2.2.1
  obtain ⟨locs, hlocs⟩ : ∃ z : List Loc, z = [] := ⟨_, rfl⟩
  rw [← hlocs] at hS ⊢
  refine lv_aload_n hx hb dX0_isKept_0 rfl (lv_at hl 0 rfl) ?_
  refine g0_11 C hH q754 dX0_isKept_1 (fun hz => ?_)
  have hw := hw hz
  refine lv_if_eq (tgt := 22) hx hb dX0_isKept_4 (by decide) (fun h => ?_) (fun h => ?_)
  · have hw := hw.1 h
    refine lv_iconst (v := 0) hx hb dX0_isKept_22 (by decide) ?_
    exact rt_ip C rfl hS hw dX0_isKept_23
  have hw := hw.2 h
  refine lv_aload_n hx hb dX0_isKept_7 rfl (lv_at hl 0 rfl) ?_
  refine g0_3 C hH q746 dX0_isKept_8 ?_
  refine lv_iload_n hx hb dX0_isKept_11 rfl (lv_at hl 1 rfl) ?_
  refine kc_ip (rn_vp (As := [.int x1]) (rest := []) C hH hS (by decide) rfl (by decide) (m2_isKept l G a1 τ σ H x1 _ hw) (cwV 1 hts (lw_V q1612 q1613 q1614 q159 q1615) rfl rfl rfl kX2_isKept ⟨Nat.le_of_ble_eq_true rfl, Nat.le_of_ble_eq_true rfl⟩) rfl hl.1 rfl (Nat.le_of_ble_eq_true rfl) dX0_isKept_12 ⟨Nat.le_of_ble_eq_true rfl, Nat.le_of_ble_eq_true rfl⟩) hS (fun r1 locs hw hS => ?_)
  refine lv_if_eq (tgt := 22) hx hb dX0_isKept_15 (by decide) (fun h => ?_) (fun h => ?_)
  · have hw := hw.1 h
    refine lv_iconst (v := 0) hx hb dX0_isKept_22 (by decide) ?_
    exact rt_ip C rfl hS hw dX0_isKept_23
  have hw := hw.2 h
  refine lv_iconst (v := 1) hx hb dX0_isKept_18 (by decide) ?_
  refine lv_goto (tgt := 23) hx hb dX0_isKept_19 (by decide) ?_
  exact rt_ip C rfl hS hw dX0_isKept_23
/-! WebHost.state(I)I -/
abbrev cX0_state : ByteArray := prog_1_method_25_code
def yX0_state : MethodName := ⟨RX0, "state", "(I)I"⟩
theorem dX0_state_0 : decode cX0_state 0 = .ok (.iload_n 1, 1) := by decide +kernel
theorem dX0_state_1 : decode cX0_state 1 = .ok (.invokestatic 289, 3) := by decide +kernel
theorem dX0_state_4 : decode cX0_state 4 = .ok (.ifCond .ne 7, 3) := by decide +kernel
theorem dX0_state_7 : decode cX0_state 7 = .ok (.iconst (-1), 1) := by decide +kernel
theorem dX0_state_8 : decode cX0_state 8 = .ok (.goto 23, 3) := by decide +kernel
theorem dX0_state_11 : decode cX0_state 11 = .ok (.aload_n 0, 1) := by decide +kernel
theorem dX0_state_12 : decode cX0_state 12 = .ok (.getfield 105, 3) := by decide +kernel
theorem dX0_state_15 : decode cX0_state 15 = .ok (.ifCond .eq 15, 3) := by decide +kernel
theorem dX0_state_18 : decode cX0_state 18 = .ok (.aload_n 0, 1) := by decide +kernel
theorem dX0_state_19 : decode cX0_state 19 = .ok (.getfield 73, 3) := by decide +kernel
theorem dX0_state_22 : decode cX0_state 22 = .ok (.iload_n 1, 1) := by decide +kernel
theorem dX0_state_23 : decode cX0_state 23 = .ok (.aaload, 1) := by decide +kernel
theorem dX0_state_24 : decode cX0_state 24 = .ok (.getfield 243, 3) := by decide +kernel
theorem dX0_state_27 : decode cX0_state 27 = .ok (.goto 4, 3) := by decide +kernel
theorem dX0_state_30 : decode cX0_state 30 = .ok (.iconst 0, 1) := by decide +kernel
theorem dX0_state_31 : decode cX0_state 31 = .ok (.ireturn, 1) := by decide +kernel
def rmX0_state : Room := { frames := 1, cells := 0, slots := 0, locals := 20 }
theorem kX0_state : yX0_state.cls = "WebHost" ∧ yX0_state.cls ≠ "java/lang/invoke/MethodHandle" ∧ yX0_state.cls ≠ "java/lang/invoke/VarHandle" ∧ (parseMethodDescriptor yX0_state.desc).map (fun d => d.parameters.length) = some 1 := by decide +kernel
def w0_state (σ : St) (x1 : Int32) (Q : Int32 → Prop) : Prop := w0_isPlace σ x1 (fun r1 => ((¬ r1 = 0 → (bo (σ 0 0 11) → (((σ 0 0 11) = 0 → Q 0) ∧ (¬ (σ 0 0 11) = 0 → (vp_in x1 16 ∧ (Q (σ 11 x1.toNatClampNeg 2))))))) ∧ (r1 = 0 → (Q (-1)))))
set_option maxHeartbeats 4000000 in
theorem m0_state (l : Launch) (G : Gh) (a1 : Nat → Nat → Nat) (τ : St) (σ : St) (H : Heap) (x1 : Int32) (Q : Int32 → Prop) (hw : w0_state σ x1 Q) : Met l yX0_state (ws_ yX0_state cX0_state 2 (some .int)) rmX0_state (PcP G a1 (cmb σ τ) H [.ref (ga G 0 0), .int x1]) (QIp G H Q) 0 0 (gA G) := by
  refine met_p (by decide) (Nat.le_of_ble_eq_true rfl) ?_
  intro p e s m below meth c ls hHe C hH hS hl
  have C : Cx p e s m _ meth c cX0_state 2 (some .int) "WebHost" G := C
  have hl : lv_has ls 2 [(0, .ref (ga G 0 0)), (1, .int x1)] := hl
  have hx := C.1
  have hb := C.2.1
  have hown := C.2.2.2.2.2.1
  have hts := C.2.2.2.2.2.2.1
  obtain ⟨locs, hlocs⟩ : ∃ z : List Loc, z = [] := ⟨_, rfl⟩
  rw [← hlocs] at hS ⊢
  refine lv_iload_n hx hb dX0_state_0 rfl (lv_at hl 1 rfl) ?_
  refine kc_ip (rn_sp (As := [.int x1]) (rest := []) C hH hS (m0_isPlace l G a1 τ σ H x1 _ hw) (va_cwS 1 hts (lw_S q1645 q1646 q157 q1647) rfl rfl rfl kX0_isPlace.2 ⟨Nat.le_of_ble_eq_true rfl, Nat.le_of_ble_eq_true rfl⟩) rfl hl.1 rfl (Nat.le_of_ble_eq_true rfl) dX0_state_1 ⟨Nat.le_of_ble_eq_true rfl, Nat.le_of_ble_eq_true rfl⟩) hS (fun r1 locs hw hS => ?_)
  refine lv_if_ne (tgt := 11) hx hb dX0_state_4 (by decide) (fun h => ?_) (fun h => ?_)
  · have hw := hw.1 h
    refine lv_aload_n hx hb dX0_state_11 rfl (lv_at hl 0 rfl) ?_
    refine g0_11 C hH q754 dX0_state_12 (fun hz => ?_)
    have hw := hw hz
    refine lv_if_eq (tgt := 30) hx hb dX0_state_15 (by decide) (fun h => ?_) (fun h => ?_)
    · have hw := hw.1 h
      refine lv_iconst (v := 0) hx hb dX0_state_30 (by decide) ?_
      exact rt_ip C rfl hS hw dX0_state_31
    have hw := hw.2 h
    refine lv_aload_n hx hb dX0_state_18 rfl (lv_at hl 0 rfl) ?_
    refine g0_9 C hH q752 dX0_state_19 ?_
    refine lv_iload_n hx hb dX0_state_22 rfl (lv_at hl 1 rfl) ?_
    have hq2 := vp_lt hw.1
    refine l45 C hH hw.1 dX0_state_23 ?_
    have hw := hw.2
    refine g11_2 C hH hq2 q611 dX0_state_24 ?_
    refine lv_goto (tgt := 31) hx hb dX0_state_27 (by decide) ?_
    exact rt_ip C rfl hS hw dX0_state_31
  have hw := hw.2 h
  refine lv_iconst (v := (-1)) hx hb dX0_state_7 (by decide) ?_
  refine lv_goto (tgt := 31) hx hb dX0_state_8 (by decide) ?_
  exact rt_ip C rfl hS hw dX0_state_31
/-! WebHost$Store.nameLength(I)I -/
abbrev cX1_nameLength : ByteArray := prog_13_method_5_code
def yX1_nameLength : MethodName := ⟨RX1, "nameLength", "(I)I"⟩
theorem dX1_nameLength_0 : decode cX1_nameLength 0 = .ok (.iconst 0, 1) := by decide +kernel
theorem dX1_nameLength_1 : decode cX1_nameLength 1 = .ok (.istore_n 2, 1) := by decide +kernel
theorem dX1_nameLength_2 : decode cX1_nameLength 2 = .ok (.iload_n 2, 1) := by decide +kernel
theorem dX1_nameLength_3 : decode cX1_nameLength 3 = .ok (.bipush 48, 2) := by decide +kernel
theorem dX1_nameLength_5 : decode cX1_nameLength 5 = .ok (.if_icmp .ge 23, 3) := by decide +kernel
theorem dX1_nameLength_8 : decode cX1_nameLength 8 = .ok (.aload_n 0, 1) := by decide +kernel
theorem dX1_nameLength_9 : decode cX1_nameLength 9 = .ok (.aload_n 0, 1) := by decide +kernel
theorem dX1_nameLength_10 : decode cX1_nameLength 10 = .ok (.iload_n 1, 1) := by decide +kernel
theorem dX1_nameLength_11 : decode cX1_nameLength 11 = .ok (.invokevirtual 20, 3) := by decide +kernel
theorem dX1_nameLength_14 : decode cX1_nameLength 14 = .ok (.iload_n 2, 1) := by decide +kernel
theorem dX1_nameLength_15 : decode cX1_nameLength 15 = .ok (.iadd, 1) := by decide +kernel
theorem dX1_nameLength_16 : decode cX1_nameLength 16 = .ok (.invokevirtual 24, 3) := by decide +kernel
theorem dX1_nameLength_19 : decode cX1_nameLength 19 = .ok (.ifCond .eq 9, 3) := by decide +kernel
theorem dX1_nameLength_22 : decode cX1_nameLength 22 = .ok (.iinc 2 1, 3) := by decide +kernel
theorem dX1_nameLength_25 : decode cX1_nameLength 25 = .ok (.goto (-23), 3) := by decide +kernel
theorem dX1_nameLength_28 : decode cX1_nameLength 28 = .ok (.iload_n 2, 1) := by decide +kernel
theorem dX1_nameLength_29 : decode cX1_nameLength 29 = .ok (.ireturn, 1) := by decide +kernel
def rmX1_nameLength : Room := { frames := 1, cells := 0, slots := 0, locals := 21 }
theorem kX1_nameLength : yX1_nameLength.cls = "WebHost$Store" ∧ yX1_nameLength.cls ≠ "java/lang/invoke/MethodHandle" ∧ yX1_nameLength.cls ≠ "java/lang/invoke/VarHandle" ∧ (parseMethodDescriptor yX1_nameLength.desc).map (fun d => d.parameters.length) = some 1 := by decide +kernel
def w1_nameLength_L2 (σ : St) (x1 : Int32) (Q : Int32 → Prop) (K28 : Int32 → Prop) : Nat → Int32 → Prop
  | 0, _ => False
  | n + 1, x2 => (48 ≤ x2 → K28 x2) ∧ (¬ 48 ≤ x2 → (w1_entry σ x1 (fun r1 => (w1_look σ (r1 + x2) (fun r2 => ((r2 = 0 → K28 x2) ∧ (¬ r2 = 0 → (w1_nameLength_L2 σ x1 Q K28 n (x2 + 1)))))))))
set_option maxHeartbeats 4000000 in
theorem k1_nameLength_L2 {p : Program} {l : Launch} {e : Env} {s : State} {m : MethodId} {args : Array Value} {below : List Frame} {meth : Method} {c : Code} {G : Gh} {a1 : Nat → Nat → Nat} {τ : St} {H : Heap} {Q : Int32 → Prop} {K28 : Int32 → Prop} (C : Cx p e s m args meth c cX1_nameLength 3 (some .int) "WebHost$Store" G) (σ : St) (x1 : Int32) (hH : Hd G a1 (cmb σ τ) H) :
    ∀ (n : Nat) (x2 : Int32), w1_nameLength_L2 σ x1 Q K28 n x2 → ∀ (locs : List Loc) (ls : Array Slot), va_S (gA G) s.heap H locs → lv_has ls 3 [(0, .ref (ga G 1 0)), (1, .int x1), (2, .int x2)] → (∀ (x2 : Int32), K28 x2 → ∀ (locs : List Loc) (ls : Array Slot), va_S (gA G) s.heap H locs → lv_has ls 3 [(2, .int x2)] → W p l e rmX1_nameLength s m args below meth c H locs 0 0 (MQ below (QIp G H Q) args s 0 0 (gA G)) (F0 m 28 ls [])) → W p l e rmX1_nameLength s m args below meth c H locs 0 0 (MQ below (QIp G H Q) args s 0 0 (gA G)) (F0 m 2 ls []) := by
  have hx := C.1
  have hb := C.2.1
  have hown := C.2.2.2.2.2.1
  have hts := C.2.2.2.2.2.2.1
  intro n
  induction n with
  | zero =>
    intro x2 hw
    exact False.elim hw
  | succ n ih =>
    intro x2 hw locs ls hS hl hK28
    refine lv_iload_n hx hb dX1_nameLength_2 rfl (lv_at hl 2 rfl) ?_
    refine lv_bipush (v := 48) hx hb dX1_nameLength_3 (by decide) ?_
    refine lv_icmp_ge (tgt := 28) hx hb dX1_nameLength_5 (by decide) (fun h => ?_) (fun h => ?_)
    · have hw := hw.1 h
      exact hK28 x2 hw locs ls hS (lv_sub hl [2] rfl)
    have hw := hw.2 h
    refine lv_aload_n hx hb dX1_nameLength_8 rfl (lv_at hl 0 rfl) ?_
    refine lv_aload_n hx hb dX1_nameLength_9 rfl (lv_at hl 0 rfl) ?_
    refine lv_iload_n hx hb dX1_nameLength_10 rfl (lv_at hl 1 rfl) ?_
    refine kc_ip (rn_vp (As := [.int x1]) (rest := [.ref (ga G 1 0)]) C hH hS (by decide) rfl (by decide) (m1_entry l G a1 τ σ H x1 _ hw) (cwV 1 hts (lw_V q827 q829 qs0 q158 q830) rfl rfl rfl kX1_entry ⟨Nat.le_of_ble_eq_true rfl, Nat.le_of_ble_eq_true rfl⟩) rfl hl.1 rfl (Nat.le_of_ble_eq_true rfl) dX1_nameLength_11 ⟨Nat.le_of_ble_eq_true rfl, Nat.le_of_ble_eq_true rfl⟩) hS (fun r1 locs hw hS => ?_)
    refine lv_iload_n hx hb dX1_nameLength_14 rfl (lv_at hl 2 rfl) ?_
    refine lv_iadd hx hb dX1_nameLength_15 ?_
    refine kc_ip (rn_vp (As := [.int (r1 + x2)]) (rest := []) C hH hS (by decide) rfl (by decide) (m1_look l G a1 τ σ H (r1 + x2) _ hw) (cwV 1 hts (lw_V q844 q846 qs3 q158 q847) rfl rfl rfl kX1_look ⟨Nat.le_of_ble_eq_true rfl, Nat.le_of_ble_eq_true rfl⟩) rfl hl.1 rfl (Nat.le_of_ble_eq_true rfl) dX1_nameLength_16 ⟨Nat.le_of_ble_eq_true rfl, Nat.le_of_ble_eq_true rfl⟩) hS (fun r2 locs hw hS => ?_)
    refine lv_if_eq (tgt := 28) hx hb dX1_nameLength_19 (by decide) (fun h => ?_) (fun h => ?_)
    · have hw := hw.1 h
      exact hK28 x2 hw locs ls hS (lv_sub hl [2] rfl)
    have hw := hw.2 h
    refine lv_iinc (v := x2 + 1) (lv' := [(2, .int (x2 + 1)), (0, .ref (ga G 1 0)), (1, .int x1)]) hx hb dX1_nameLength_22 hl (k := 2) rfl rfl (by decide) rfl (fun ls hl => ?_)
    refine lv_goto (tgt := 2) hx hb dX1_nameLength_25 (by decide) ?_
    exact ih (x2 + 1) hw locs ls hS (lv_sub hl [1, 2, 0] rfl) hK28
def w1_nameLength (σ : St) (x1 : Int32) (Q : Int32 → Prop) : Prop := ∃ z3, w1_nameLength_L2 σ x1 Q (fun x2_4 => Q x2_4) z3 0
set_option maxHeartbeats 4000000 in
theorem m1_nameLength (l : Launch) (G : Gh) (a1 : Nat → Nat → Nat) (τ : St) (σ : St) (H : Heap) (x1 : Int32) (Q : Int32 → Prop) (hw : w1_nameLength σ x1 Q) : Met l yX1_nameLength (ws_ yX1_nameLength cX1_nameLength 3 (some .int)) rmX1_nameLength (PcP G a1 (cmb σ τ) H [.ref (ga G 1 0), .int x1]) (QIp G H Q) 0 0 (gA G) := by
  refine met_p (by decide) (Nat.le_of_ble_eq_true rfl) ?_
  intro p e s m below meth c ls hHe C hH hS hl
  have C : Cx p e s m _ meth c cX1_nameLength 3 (some .int) "WebHost$Store" G := C
  have hl : lv_has ls 3 [(0, .ref (ga G 1 0)), (1, .int x1)] := hl
  have hx := C.1
  have hb := C.2.1
  have hown := C.2.2.2.2.2.1
  have hts := C.2.2.2.2.2.2.1
  obtain ⟨locs, hlocs⟩ : ∃ z : List Loc, z = [] := ⟨_, rfl⟩
  rw [← hlocs] at hS ⊢
  refine lv_iconst (v := 0) hx hb dX1_nameLength_0 (by decide) ?_
  refine lv_istore_n (lv' := [(2, .int 0), (0, .ref (ga G 1 0)), (1, .int x1)]) hx hb dX1_nameLength_1 rfl hl (by decide) rfl (fun ls hl => ?_)
  obtain ⟨n3, hw⟩ := hw
  refine k1_nameLength_L2 C σ x1 hH n3 0 hw locs ls hS (lv_sub hl [1, 2, 0] rfl) (fun x2_4 hw locs ls hS hl => ?_)
  refine lv_iload_n hx hb dX1_nameLength_28 rfl (lv_at hl 0 rfl) ?_
  exact rt_ip C rfl hS hw dX1_nameLength_29
/-! WebHost$Device.length(I)I -/
abbrev cX2_length : ByteArray := prog_4_method_6_code
def yX2_length : MethodName := ⟨RX2, "length", "(I)I"⟩
theorem dX2_length_0 : decode cX2_length 0 = .ok (.aload_n 0, 1) := by decide +kernel
theorem dX2_length_1 : decode cX2_length 1 = .ok (.getfield 17, 3) := by decide +kernel
theorem dX2_length_4 : decode cX2_length 4 = .ok (.aload_n 0, 1) := by decide +kernel
theorem dX2_length_5 : decode cX2_length 5 = .ok (.iload_n 1, 1) := by decide +kernel
theorem dX2_length_6 : decode cX2_length 6 = .ok (.invokevirtual 53, 3) := by decide +kernel
theorem dX2_length_9 : decode cX2_length 9 = .ok (.iaload, 1) := by decide +kernel
theorem dX2_length_10 : decode cX2_length 10 = .ok (.ireturn, 1) := by decide +kernel
def rmX2_length : Room := { frames := 1, cells := 0, slots := 0, locals := 21 }
theorem kX2_length : yX2_length.cls = "WebHost$Device" ∧ yX2_length.cls ≠ "java/lang/invoke/MethodHandle" ∧ yX2_length.cls ≠ "java/lang/invoke/VarHandle" ∧ (parseMethodDescriptor yX2_length.desc).map (fun d => d.parameters.length) = some 1 := by decide +kernel
def w2_length (σ : St) (x1 : Int32) (Q : Int32 → Prop) : Prop := w2_slot σ x1 (fun r1 => (vp_in r1 32 ∧ (Q (σ 25 0 r1.toNatClampNeg))))
set_option maxHeartbeats 4000000 in
theorem m2_length (l : Launch) (G : Gh) (a1 : Nat → Nat → Nat) (τ : St) (σ : St) (H : Heap) (x1 : Int32) (Q : Int32 → Prop) (hw : w2_length σ x1 Q) : Met l yX2_length (ws_ yX2_length cX2_length 2 (some .int)) rmX2_length (PcP G a1 (cmb σ τ) H [.ref (ga G 2 0), .int x1]) (QIp G H Q) 0 0 (gA G) := by
  refine met_p (by decide) (Nat.le_of_ble_eq_true rfl) ?_
  intro p e s m below meth c ls hHe C hH hS hl
  have C : Cx p e s m _ meth c cX2_length 2 (some .int) "WebHost$Device" G := C
  have hl : lv_has ls 2 [(0, .ref (ga G 2 0)), (1, .int x1)] := hl
  have hx := C.1
  have hb := C.2.1
  have hown := C.2.2.2.2.2.1
  have hts := C.2.2.2.2.2.2.1
  obtain ⟨locs, hlocs⟩ : ∃ z : List Loc, z = [] := ⟨_, rfl⟩
  rw [← hlocs] at hS ⊢
  refine lv_aload_n hx hb dX2_length_0 rfl (lv_at hl 0 rfl) ?_
  refine g2_1 C hH q223 dX2_length_1 ?_
  refine lv_aload_n hx hb dX2_length_4 rfl (lv_at hl 0 rfl) ?_
  refine lv_iload_n hx hb dX2_length_5 rfl (lv_at hl 1 rfl) ?_
  refine kc_ip (rn_vp (As := [.int x1]) (rest := [.ref (adr G a1 25 0)]) C hH hS (by decide) rfl (by decide) (m2_slot l G a1 τ σ H x1 _ hw) (cwV 1 hts (lw_V q1620 q1622 qs74 q159 q1623) rfl rfl rfl kX2_slot ⟨Nat.le_of_ble_eq_true rfl, Nat.le_of_ble_eq_true rfl⟩) rfl hl.1 rfl (Nat.le_of_ble_eq_true rfl) dX2_length_6 ⟨Nat.le_of_ble_eq_true rfl, Nat.le_of_ble_eq_true rfl⟩) hS (fun r1 locs hw hS => ?_)
  refine l25 C hH hw.1 dX2_length_9 ?_
  have hw := hw.2
  exact rt_ip C rfl hS hw dX2_length_10
/-! WebHost$Device.send([BII[BI)V -/
abbrev cX2_send : ByteArray := prog_4_method_3_code
def yX2_send : MethodName := ⟨RX2, "send", "([BII[BI)V"⟩
theorem dX2_send_0 : decode cX2_send 0 = .ok (.aload_n 0, 1) := by decide +kernel
theorem dX2_send_1 : decode cX2_send 1 = .ok (.getfield 27, 3) := by decide +kernel
theorem dX2_send_4 : decode cX2_send 4 = .ok (.bipush 32, 2) := by decide +kernel
theorem dX2_send_6 : decode cX2_send 6 = .ok (.irem, 1) := by decide +kernel
theorem dX2_send_7 : decode cX2_send 7 = .ok (.istore 6, 2) := by decide +kernel
theorem dX2_send_9 : decode cX2_send 9 = .ok (.aload_n 0, 1) := by decide +kernel
theorem dX2_send_10 : decode cX2_send 10 = .ok (.getfield 11, 3) := by decide +kernel
theorem dX2_send_13 : decode cX2_send 13 = .ok (.iload 6, 2) := by decide +kernel
theorem dX2_send_15 : decode cX2_send 15 = .ok (.aaload, 1) := by decide +kernel
theorem dX2_send_16 : decode cX2_send 16 = .ok (.astore 7, 2) := by decide +kernel
theorem dX2_send_18 : decode cX2_send 18 = .ok (.aload_n 1, 1) := by decide +kernel
theorem dX2_send_19 : decode cX2_send 19 = .ok (.iload_n 2, 1) := by decide +kernel
theorem dX2_send_20 : decode cX2_send 20 = .ok (.aload 7, 2) := by decide +kernel
theorem dX2_send_22 : decode cX2_send 22 = .ok (.iconst 0, 1) := by decide +kernel
theorem dX2_send_23 : decode cX2_send 23 = .ok (.bipush 6, 2) := by decide +kernel
theorem dX2_send_25 : decode cX2_send 25 = .ok (.invokestatic 43, 3) := by decide +kernel
theorem dX2_send_28 : decode cX2_send 28 = .ok (.aload_n 0, 1) := by decide +kernel
theorem dX2_send_29 : decode cX2_send 29 = .ok (.getfield 24, 3) := by decide +kernel
theorem dX2_send_32 : decode cX2_send 32 = .ok (.iconst 0, 1) := by decide +kernel
theorem dX2_send_33 : decode cX2_send 33 = .ok (.aload 7, 2) := by decide +kernel
theorem dX2_send_35 : decode cX2_send 35 = .ok (.bipush 6, 2) := by decide +kernel
theorem dX2_send_37 : decode cX2_send 37 = .ok (.bipush 6, 2) := by decide +kernel
theorem dX2_send_39 : decode cX2_send 39 = .ok (.invokestatic 43, 3) := by decide +kernel
theorem dX2_send_42 : decode cX2_send 42 = .ok (.aload 7, 2) := by decide +kernel
theorem dX2_send_44 : decode cX2_send 44 = .ok (.bipush 12, 2) := by decide +kernel
theorem dX2_send_46 : decode cX2_send 46 = .ok (.iload_n 3, 1) := by decide +kernel
theorem dX2_send_47 : decode cX2_send 47 = .ok (.invokestatic 34, 3) := by decide +kernel
theorem dX2_send_50 : decode cX2_send 50 = .ok (.aload 4, 2) := by decide +kernel
theorem dX2_send_52 : decode cX2_send 52 = .ok (.iconst 0, 1) := by decide +kernel
theorem dX2_send_53 : decode cX2_send 53 = .ok (.aload 7, 2) := by decide +kernel
theorem dX2_send_55 : decode cX2_send 55 = .ok (.bipush 14, 2) := by decide +kernel
theorem dX2_send_57 : decode cX2_send 57 = .ok (.iload 5, 2) := by decide +kernel
theorem dX2_send_59 : decode cX2_send 59 = .ok (.invokestatic 43, 3) := by decide +kernel
theorem dX2_send_62 : decode cX2_send 62 = .ok (.bipush 14, 2) := by decide +kernel
theorem dX2_send_64 : decode cX2_send 64 = .ok (.iload 5, 2) := by decide +kernel
theorem dX2_send_66 : decode cX2_send 66 = .ok (.iadd, 1) := by decide +kernel
theorem dX2_send_67 : decode cX2_send 67 = .ok (.bipush 60, 2) := by decide +kernel
theorem dX2_send_69 : decode cX2_send 69 = .ok (.invokestatic 47, 3) := by decide +kernel
theorem dX2_send_72 : decode cX2_send 72 = .ok (.istore 8, 2) := by decide +kernel
theorem dX2_send_74 : decode cX2_send 74 = .ok (.bipush 14, 2) := by decide +kernel
theorem dX2_send_76 : decode cX2_send 76 = .ok (.iload 5, 2) := by decide +kernel
theorem dX2_send_78 : decode cX2_send 78 = .ok (.iadd, 1) := by decide +kernel
theorem dX2_send_79 : decode cX2_send 79 = .ok (.istore 9, 2) := by decide +kernel
theorem dX2_send_81 : decode cX2_send 81 = .ok (.iload 9, 2) := by decide +kernel
theorem dX2_send_83 : decode cX2_send 83 = .ok (.iload 8, 2) := by decide +kernel
theorem dX2_send_85 : decode cX2_send 85 = .ok (.if_icmp .ge 15, 3) := by decide +kernel
theorem dX2_send_88 : decode cX2_send 88 = .ok (.aload 7, 2) := by decide +kernel
theorem dX2_send_90 : decode cX2_send 90 = .ok (.iload 9, 2) := by decide +kernel
theorem dX2_send_92 : decode cX2_send 92 = .ok (.iconst 0, 1) := by decide +kernel
theorem dX2_send_93 : decode cX2_send 93 = .ok (.bastore, 1) := by decide +kernel
theorem dX2_send_94 : decode cX2_send 94 = .ok (.iinc 9 1, 3) := by decide +kernel
theorem dX2_send_97 : decode cX2_send 97 = .ok (.goto (-16), 3) := by decide +kernel
theorem dX2_send_100 : decode cX2_send 100 = .ok (.aload_n 0, 1) := by decide +kernel
theorem dX2_send_101 : decode cX2_send 101 = .ok (.getfield 17, 3) := by decide +kernel
theorem dX2_send_104 : decode cX2_send 104 = .ok (.iload 6, 2) := by decide +kernel
theorem dX2_send_106 : decode cX2_send 106 = .ok (.iload 8, 2) := by decide +kernel
theorem dX2_send_108 : decode cX2_send 108 = .ok (.iastore, 1) := by decide +kernel
theorem dX2_send_109 : decode cX2_send 109 = .ok (.aload_n 0, 1) := by decide +kernel
theorem dX2_send_110 : decode cX2_send 110 = .ok (.getfield 21, 3) := by decide +kernel
theorem dX2_send_113 : decode cX2_send 113 = .ok (.iload 6, 2) := by decide +kernel
theorem dX2_send_115 : decode cX2_send 115 = .ok (.aload_n 0, 1) := by decide +kernel
theorem dX2_send_116 : decode cX2_send 116 = .ok (.getfield 31, 3) := by decide +kernel
theorem dX2_send_119 : decode cX2_send 119 = .ok (.iastore, 1) := by decide +kernel
theorem dX2_send_120 : decode cX2_send 120 = .ok (.aload_n 0, 1) := by decide +kernel
theorem dX2_send_121 : decode cX2_send 121 = .ok (.dup, 1) := by decide +kernel
theorem dX2_send_122 : decode cX2_send 122 = .ok (.getfield 27, 3) := by decide +kernel
theorem dX2_send_125 : decode cX2_send 125 = .ok (.iconst 1, 1) := by decide +kernel
theorem dX2_send_126 : decode cX2_send 126 = .ok (.iadd, 1) := by decide +kernel
theorem dX2_send_127 : decode cX2_send 127 = .ok (.putfield 27, 3) := by decide +kernel
theorem dX2_send_130 : decode cX2_send 130 = .ok (.return_, 1) := by decide +kernel
def rmX2_send : Room := { frames := 1, cells := 0, slots := 0, locals := 25 }
theorem kX2_send : yX2_send.cls = "WebHost$Device" ∧ yX2_send.cls ≠ "java/lang/invoke/MethodHandle" ∧ yX2_send.cls ≠ "java/lang/invoke/VarHandle" ∧ (parseMethodDescriptor yX2_send.desc).map (fun d => d.parameters.length) = some 5 := by decide +kernel
def w2_send_L81 (x6 : Int32) (o7 : Nat) (x8 : Int32) (Q : St → Prop) (K100 : St → Prop) : Nat → St → Int32 → Prop
  | 0, _, _ => False
  | n + 1, σ, x9 => (x8 ≤ x9 → K100 σ) ∧ (¬ x8 ≤ x9 → (vp_in x9 1514 ∧ (∀ σ6, σ6 = up3 σ 23 o7 x9.toNatClampNeg (0 : Int32).toInt8.toInt32 → (w2_send_L81 x6 o7 x8 Q K100 n σ6 (x9 + 1)))))
set_option maxHeartbeats 4000000 in
theorem k2_send_L81 {p : Program} {l : Launch} {e : Env} {s : State} {m : MethodId} {args : Array Value} {below : List Frame} {meth : Method} {c : Code} {G : Gh} {a1 : Nat → Nat → Nat} {τ : St} {Q : St → Prop} {K100 : St → Prop} (C : Cx p e s m args meth c cX2_send 10 none "WebHost$Device" G) (x6 : Int32) (o7 : Nat) (x8 : Int32) (ho7 : o7 < 32) :
    ∀ (n : Nat) (σ : St) (x9 : Int32), w2_send_L81 x6 o7 x8 Q K100 n σ x9 → ∀ (H : Heap) (locs : List Loc) (ls : Array Slot), Hd G a1 (cmb σ τ) H → va_S (gA G) s.heap H locs → lv_has ls 10 [(0, .ref (ga G 2 0)), (6, .int x6), (7, .ref (adr G a1 23 o7)), (8, .int x8), (9, .int x9)] → (∀ (σ : St) , K100 σ → ∀ (H : Heap) (locs : List Loc) (ls : Array Slot), Hd G a1 (cmb σ τ) H → va_S (gA G) s.heap H locs → lv_has ls 10 [(0, .ref (ga G 2 0)), (6, .int x6), (8, .int x8)] → W p l e rmX2_send s m args below meth c H locs 0 0 (MQ below (QVs G a1 (fun u => cmb u τ) Q) args s 0 0 (gA G)) (F0 m 100 ls [])) → W p l e rmX2_send s m args below meth c H locs 0 0 (MQ below (QVs G a1 (fun u => cmb u τ) Q) args s 0 0 (gA G)) (F0 m 81 ls []) := by
  have hx := C.1
  have hb := C.2.1
  have hown := C.2.2.2.2.2.1
  have hts := C.2.2.2.2.2.2.1
  intro n
  induction n with
  | zero =>
    intro σ x9 hw
    exact False.elim hw
  | succ n ih =>
    intro σ x9 hw H locs ls hH hS hl hK100
    refine lv_iload hx hb dX2_send_81 (lv_at hl 4 rfl) ?_
    refine lv_iload hx hb dX2_send_83 (lv_at hl 3 rfl) ?_
    refine lv_icmp_ge (tgt := 100) hx hb dX2_send_85 (by decide) (fun h => ?_) (fun h => ?_)
    · have hw := hw.1 h
      exact hK100 σ hw H locs ls hH hS (lv_sub hl [0, 1, 3] rfl)
    have hw := hw.2 h
    refine lv_aload hx hb dX2_send_88 (lv_at hl 2 rfl) ?_
    refine lv_iload hx hb dX2_send_90 (lv_at hl 4 rfl) ?_
    refine lv_iconst (v := 0) hx hb dX2_send_92 (by decide) ?_
    refine s23 C hH hS ho7 hw.1 dX2_send_93 (fun σ6 e6 H locs hH hS => ?_)
    have hw := hw.2 σ6 e6
    refine lv_iinc (v := x9 + 1) (lv' := [(9, .int (x9 + 1)), (0, .ref (ga G 2 0)), (6, .int x6), (7, .ref (adr G a1 23 o7)), (8, .int x8)]) hx hb dX2_send_94 hl (k := 4) rfl rfl (by decide) rfl (fun ls hl => ?_)
    refine lv_goto (tgt := 81) hx hb dX2_send_97 (by decide) ?_
    exact ih σ6 (x9 + 1) hw H locs ls hH hS (lv_sub hl [1, 2, 3, 4, 0] rfl) hK100
def w2_send (σ : St) (k1 : Nat) (i1 : Nat) (x2 : Int32) (x3 : Int32) (k4 : Nat) (i4 : Nat) (x5 : Int32) (Q : St → Prop) : Prop := vp_in ((σ 2 0 3) - (σ 2 0 3) / 32 * 32) 32 ∧ (w19_copy σ k1 i1 x2 23 (((σ 2 0 3) - (σ 2 0 3) / 32 * 32).toNatClampNeg) 0 6 (fun σ2 => (w19_copy σ2 27 0 0 23 (((σ 2 0 3) - (σ 2 0 3) / 32 * 32).toNatClampNeg) 6 6 (fun σ3 => (w19_putTwo σ3 23 (((σ 2 0 3) - (σ 2 0 3) / 32 * 32).toNatClampNeg) 12 x3 (fun σ4 => (w19_copy σ4 k4 i4 0 23 (((σ 2 0 3) - (σ 2 0 3) / 32 * 32).toNatClampNeg) 14 x5 (fun σ5 => (∃ z7, w2_send_L81 ((σ 2 0 3) - (σ 2 0 3) / 32 * 32) (((σ 2 0 3) - (σ 2 0 3) / 32 * 32).toNatClampNeg) (imax (14 + x5) 60) Q (fun σ8 => vp_in ((σ 2 0 3) - (σ 2 0 3) / 32 * 32) 32 ∧ (∀ σ9, σ9 = up3 σ8 25 0 ((σ 2 0 3) - (σ 2 0 3) / 32 * 32).toNatClampNeg (imax (14 + x5) 60) → (vp_in ((σ 2 0 3) - (σ 2 0 3) / 32 * 32) 32 ∧ (∀ σ10, σ10 = up3 σ9 26 0 ((σ 2 0 3) - (σ 2 0 3) / 32 * 32).toNatClampNeg (σ9 2 0 4) → (∀ σ11, σ11 = up3 σ10 2 0 3 ((σ10 2 0 3) + 1) → (Q σ11)))))) z7 σ5 (14 + x5))))))))))
set_option maxHeartbeats 4000000 in
theorem m2_send (l : Launch) (G : Gh) (a1 : Nat → Nat → Nat) (τ : St) (σ : St) (k1 : Nat) (i1 : Nat) (x2 : Int32) (x3 : Int32) (k4 : Nat) (i4 : Nat) (x5 : Int32) (hk1 : abc k1 i1 = true) (hk4 : abc k4 i4 = true) (Q : St → Prop) (hw : w2_send σ k1 i1 x2 x3 k4 i4 x5 Q) : Met l yX2_send (ws_ yX2_send cX2_send 10 none) rmX2_send (PcS G a1 (cmb σ τ) [.ref (ga G 2 0), .ref (adr G a1 k1 i1), .int x2, .int x3, .ref (adr G a1 k4 i4), .int x5]) (QVs G a1 (fun u => cmb u τ) Q) 0 0 (gA G) := by
  refine met_w (by decide) (Nat.le_of_ble_eq_true rfl) ?_
  intro p e s m below meth c ls C hH hS hl
  have C : Cx p e s m _ meth c cX2_send 10 none "WebHost$Device" G := C
  have hl : lv_has ls 10 [(0, .ref (ga G 2 0)), (1, .ref (adr G a1 k1 i1)), (2, .int x2), (3, .int x3), (4, .ref (adr G a1 k4 i4)), (5, .int x5)] := hl
  have hx := C.1
  have hb := C.2.1
  have hown := C.2.2.2.2.2.1
  have hts := C.2.2.2.2.2.2.1
  obtain ⟨locs, hlocs⟩ : ∃ z : List Loc, z = [] := ⟨_, rfl⟩
  obtain ⟨H, hHe⟩ : ∃ z : Heap, z = s.heap := ⟨_, rfl⟩
  have hH : Hd G a1 (cmb σ τ) H := by rw [hHe]; exact hH
  have hS : va_S (gA G) s.heap H locs := by rw [hHe, hlocs]; exact hS
  refine W.heap0 hHe.symm hlocs.symm ?_
  refine lv_aload_n hx hb dX2_send_0 rfl (lv_at hl 0 rfl) ?_
  refine g2_3 C hH q225 dX2_send_1 ?_
  refine lv_bipush (v := 32) hx hb dX2_send_4 (by decide) ?_
  refine lv_irem hx hb dX2_send_6 (by decide) ?_
  refine lv_istore (lv' := [(6, .int ((σ 2 0 3) - (σ 2 0 3) / 32 * 32)), (0, .ref (ga G 2 0)), (1, .ref (adr G a1 k1 i1)), (2, .int x2), (3, .int x3), (4, .ref (adr G a1 k4 i4)), (5, .int x5)]) hx hb dX2_send_7 hl (by decide) rfl (fun ls hl => ?_)
  refine lv_aload_n hx hb dX2_send_9 rfl (lv_at hl 1 rfl) ?_
  refine g2_0 C hH q222 dX2_send_10 ?_
  refine lv_iload hx hb dX2_send_13 (lv_at hl 0 rfl) ?_
  have hq1 := vp_lt hw.1
  refine l24 C hH hw.1 dX2_send_15 ?_
  have hw := hw.2
  refine lv_astore (lv' := [(7, .ref (adr G a1 23 (((σ 2 0 3) - (σ 2 0 3) / 32 * 32).toNatClampNeg))), (6, .int ((σ 2 0 3) - (σ 2 0 3) / 32 * 32)), (0, .ref (ga G 2 0)), (1, .ref (adr G a1 k1 i1)), (2, .int x2), (3, .int x3), (4, .ref (adr G a1 k4 i4)), (5, .int x5)]) hx hb dX2_send_16 hl (by decide) rfl (fun ls hl => ?_)
  refine lv_aload_n hx hb dX2_send_18 rfl (lv_at hl 3 rfl) ?_
  refine lv_iload_n hx hb dX2_send_19 rfl (lv_at hl 4 rfl) ?_
  refine lv_aload hx hb dX2_send_20 (lv_at hl 0 rfl) ?_
  refine lv_iconst (v := 0) hx hb dX2_send_22 (by decide) ?_
  refine lv_bipush (v := 6) hx hb dX2_send_23 (by decide) ?_
  refine kc_v (rn_s (As := [.ref (adr G a1 k1 i1), .int x2, .ref (adr G a1 23 (((σ 2 0 3) - (σ 2 0 3) / 32 * 32).toNatClampNeg)), .int 0, .int 6]) (rest := []) C hH hS (m19_copy l G a1 τ σ k1 i1 x2 23 (((σ 2 0 3) - (σ 2 0 3) / 32 * 32).toNatClampNeg) 0 6 hk1 (ok23 hq1) _ hw) (va_cwS 5 hts (lw_S q956 q806 q176 q807) rfl rfl rfl kX19_copy.2 ⟨Nat.le_of_ble_eq_true rfl, Nat.le_of_ble_eq_true rfl⟩) rfl hl.1 rfl (Nat.le_of_ble_eq_true rfl) dX2_send_25 ⟨Nat.le_of_ble_eq_true rfl, Nat.le_of_ble_eq_true rfl⟩) hS (fun σ2 H locs hw hH hS => ?_)
  refine lv_aload_n hx hb dX2_send_28 rfl (lv_at hl 2 rfl) ?_
  refine g2_5 C hH q231 dX2_send_29 ?_
  refine lv_iconst (v := 0) hx hb dX2_send_32 (by decide) ?_
  refine lv_aload hx hb dX2_send_33 (lv_at hl 0 rfl) ?_
  refine lv_bipush (v := 6) hx hb dX2_send_35 (by decide) ?_
  refine lv_bipush (v := 6) hx hb dX2_send_37 (by decide) ?_
  refine kc_v (rn_s (As := [.ref (adr G a1 27 0), .int 0, .ref (adr G a1 23 (((σ 2 0 3) - (σ 2 0 3) / 32 * 32).toNatClampNeg)), .int 6, .int 6]) (rest := []) C hH hS (m19_copy l G a1 τ σ2 27 0 0 23 (((σ 2 0 3) - (σ 2 0 3) / 32 * 32).toNatClampNeg) 6 6 (by decide) (ok23 hq1) _ hw) (va_cwS 5 hts (lw_S q956 q806 q176 q807) rfl rfl rfl kX19_copy.2 ⟨Nat.le_of_ble_eq_true rfl, Nat.le_of_ble_eq_true rfl⟩) rfl hl.1 rfl (Nat.le_of_ble_eq_true rfl) dX2_send_39 ⟨Nat.le_of_ble_eq_true rfl, Nat.le_of_ble_eq_true rfl⟩) hS (fun σ3 H locs hw hH hS => ?_)
  refine lv_aload hx hb dX2_send_42 (lv_at hl 0 rfl) ?_
  refine lv_bipush (v := 12) hx hb dX2_send_44 (by decide) ?_
  refine lv_iload_n hx hb dX2_send_46 rfl (lv_at hl 5 rfl) ?_
  refine kc_v (rn_s (As := [.ref (adr G a1 23 (((σ 2 0 3) - (σ 2 0 3) / 32 * 32).toNatClampNeg)), .int 12, .int x3]) (rest := []) C hH hS (m19_putTwo l G a1 τ σ3 23 (((σ 2 0 3) - (σ 2 0 3) / 32 * 32).toNatClampNeg) 12 x3 (ok23 hq1) _ hw) (va_cwS 3 hts (lw_S q865 q794 q176 q795) rfl rfl rfl kX19_putTwo.2 ⟨Nat.le_of_ble_eq_true rfl, Nat.le_of_ble_eq_true rfl⟩) rfl hl.1 rfl (Nat.le_of_ble_eq_true rfl) dX2_send_47 ⟨Nat.le_of_ble_eq_true rfl, Nat.le_of_ble_eq_true rfl⟩) hS (fun σ4 H locs hw hH hS => ?_)
  refine lv_aload hx hb dX2_send_50 (lv_at hl 6 rfl) ?_
  refine lv_iconst (v := 0) hx hb dX2_send_52 (by decide) ?_
  refine lv_aload hx hb dX2_send_53 (lv_at hl 0 rfl) ?_
  refine lv_bipush (v := 14) hx hb dX2_send_55 (by decide) ?_
  refine lv_iload hx hb dX2_send_57 (lv_at hl 7 rfl) ?_
  refine kc_v (rn_s (As := [.ref (adr G a1 k4 i4), .int 0, .ref (adr G a1 23 (((σ 2 0 3) - (σ 2 0 3) / 32 * 32).toNatClampNeg)), .int 14, .int x5]) (rest := []) C hH hS (m19_copy l G a1 τ σ4 k4 i4 0 23 (((σ 2 0 3) - (σ 2 0 3) / 32 * 32).toNatClampNeg) 14 x5 hk4 (ok23 hq1) _ hw) (va_cwS 5 hts (lw_S q956 q806 q176 q807) rfl rfl rfl kX19_copy.2 ⟨Nat.le_of_ble_eq_true rfl, Nat.le_of_ble_eq_true rfl⟩) rfl hl.1 rfl (Nat.le_of_ble_eq_true rfl) dX2_send_59 ⟨Nat.le_of_ble_eq_true rfl, Nat.le_of_ble_eq_true rfl⟩) hS (fun σ5 H locs hw hH hS => ?_)
  refine lv_bipush (v := 14) hx hb dX2_send_62 (by decide) ?_
  refine lv_iload hx hb dX2_send_64 (lv_at hl 7 rfl) ?_
  refine lv_iadd hx hb dX2_send_66 ?_
  refine lv_bipush (v := 60) hx hb dX2_send_67 (by decide) ?_
  refine r_imax C hl.1 q957 (Nat.le_of_ble_eq_true rfl) (Nat.le_of_ble_eq_true rfl) (Nat.zero_le _) (Nat.zero_le _) dX2_send_69 ?_
  refine lv_istore (lv' := [(8, .int (imax (14 + x5) 60)), (7, .ref (adr G a1 23 (((σ 2 0 3) - (σ 2 0 3) / 32 * 32).toNatClampNeg))), (6, .int ((σ 2 0 3) - (σ 2 0 3) / 32 * 32)), (0, .ref (ga G 2 0)), (1, .ref (adr G a1 k1 i1)), (2, .int x2), (3, .int x3), (4, .ref (adr G a1 k4 i4)), (5, .int x5)]) hx hb dX2_send_72 hl (by decide) rfl (fun ls hl => ?_)
  refine lv_bipush (v := 14) hx hb dX2_send_74 (by decide) ?_
  refine lv_iload hx hb dX2_send_76 (lv_at hl 8 rfl) ?_
  refine lv_iadd hx hb dX2_send_78 ?_
  refine lv_istore (lv' := [(9, .int (14 + x5)), (8, .int (imax (14 + x5) 60)), (7, .ref (adr G a1 23 (((σ 2 0 3) - (σ 2 0 3) / 32 * 32).toNatClampNeg))), (6, .int ((σ 2 0 3) - (σ 2 0 3) / 32 * 32)), (0, .ref (ga G 2 0)), (1, .ref (adr G a1 k1 i1)), (2, .int x2), (3, .int x3), (4, .ref (adr G a1 k4 i4)), (5, .int x5)]) hx hb dX2_send_79 hl (by decide) rfl (fun ls hl => ?_)
  obtain ⟨n7, hw⟩ := hw
  refine k2_send_L81 C ((σ 2 0 3) - (σ 2 0 3) / 32 * 32) (((σ 2 0 3) - (σ 2 0 3) / 32 * 32).toNatClampNeg) (imax (14 + x5) 60) hq1 n7 σ5 (14 + x5) hw H locs ls hH hS (lv_sub hl [4, 3, 2, 1, 0] rfl) (fun σ8 hw H locs ls hH hS hl => ?_)
  refine lv_aload_n hx hb dX2_send_100 rfl (lv_at hl 0 rfl) ?_
  refine g2_1 C hH q223 dX2_send_101 ?_
  refine lv_iload hx hb dX2_send_104 (lv_at hl 1 rfl) ?_
  refine lv_iload hx hb dX2_send_106 (lv_at hl 2 rfl) ?_
  refine s25 C hH hS hw.1 dX2_send_108 (fun σ9 e9 H locs hH hS => ?_)
  have hw := hw.2 σ9 e9
  refine lv_aload_n hx hb dX2_send_109 rfl (lv_at hl 0 rfl) ?_
  refine g2_2 C hH q224 dX2_send_110 ?_
  refine lv_iload hx hb dX2_send_113 (lv_at hl 1 rfl) ?_
  refine lv_aload_n hx hb dX2_send_115 rfl (lv_at hl 0 rfl) ?_
  refine g2_4 C hH q227 dX2_send_116 ?_
  refine s26 C hH hS hw.1 dX2_send_119 (fun σ10 e10 H locs hH hS => ?_)
  have hw := hw.2 σ10 e10
  refine lv_aload_n hx hb dX2_send_120 rfl (lv_at hl 0 rfl) ?_
  refine lv_dup hx hb dX2_send_121 rfl ?_
  refine g2_3 C hH q225 dX2_send_122 ?_
  refine lv_iconst (v := 1) hx hb dX2_send_125 (by decide) ?_
  refine lv_iadd hx hb dX2_send_126 ?_
  refine p2_3 C hH hS q225 dX2_send_127 (fun σ11 e11 H locs hH hS => ?_)
  have hw := hw σ11 e11
  exact rt_v C hH hS hw dX2_send_130
/-! WebHost$Device.time(I)I -/
abbrev cX2_time : ByteArray := prog_4_method_7_code
def yX2_time : MethodName := ⟨RX2, "time", "(I)I"⟩
theorem dX2_time_0 : decode cX2_time 0 = .ok (.aload_n 0, 1) := by decide +kernel
theorem dX2_time_1 : decode cX2_time 1 = .ok (.getfield 21, 3) := by decide +kernel
theorem dX2_time_4 : decode cX2_time 4 = .ok (.aload_n 0, 1) := by decide +kernel
theorem dX2_time_5 : decode cX2_time 5 = .ok (.iload_n 1, 1) := by decide +kernel
theorem dX2_time_6 : decode cX2_time 6 = .ok (.invokevirtual 53, 3) := by decide +kernel
theorem dX2_time_9 : decode cX2_time 9 = .ok (.iaload, 1) := by decide +kernel
theorem dX2_time_10 : decode cX2_time 10 = .ok (.ireturn, 1) := by decide +kernel
def rmX2_time : Room := { frames := 1, cells := 0, slots := 0, locals := 21 }
theorem kX2_time : yX2_time.cls = "WebHost$Device" ∧ yX2_time.cls ≠ "java/lang/invoke/MethodHandle" ∧ yX2_time.cls ≠ "java/lang/invoke/VarHandle" ∧ (parseMethodDescriptor yX2_time.desc).map (fun d => d.parameters.length) = some 1 := by decide +kernel
def w2_time (σ : St) (x1 : Int32) (Q : Int32 → Prop) : Prop := w2_slot σ x1 (fun r1 => (vp_in r1 32 ∧ (Q (σ 26 0 r1.toNatClampNeg))))
set_option maxHeartbeats 4000000 in
theorem m2_time (l : Launch) (G : Gh) (a1 : Nat → Nat → Nat) (τ : St) (σ : St) (H : Heap) (x1 : Int32) (Q : Int32 → Prop) (hw : w2_time σ x1 Q) : Met l yX2_time (ws_ yX2_time cX2_time 2 (some .int)) rmX2_time (PcP G a1 (cmb σ τ) H [.ref (ga G 2 0), .int x1]) (QIp G H Q) 0 0 (gA G) := by
  refine met_p (by decide) (Nat.le_of_ble_eq_true rfl) ?_
  intro p e s m below meth c ls hHe C hH hS hl
  have C : Cx p e s m _ meth c cX2_time 2 (some .int) "WebHost$Device" G := C
  have hl : lv_has ls 2 [(0, .ref (ga G 2 0)), (1, .int x1)] := hl
  have hx := C.1
  have hb := C.2.1
  have hown := C.2.2.2.2.2.1
  have hts := C.2.2.2.2.2.2.1
  obtain ⟨locs, hlocs⟩ : ∃ z : List Loc, z = [] := ⟨_, rfl⟩
  rw [← hlocs] at hS ⊢
  refine lv_aload_n hx hb dX2_time_0 rfl (lv_at hl 0 rfl) ?_
  refine g2_2 C hH q224 dX2_time_1 ?_
  refine lv_aload_n hx hb dX2_time_4 rfl (lv_at hl 0 rfl) ?_
  refine lv_iload_n hx hb dX2_time_5 rfl (lv_at hl 1 rfl) ?_
  refine kc_ip (rn_vp (As := [.int x1]) (rest := [.ref (adr G a1 26 0)]) C hH hS (by decide) rfl (by decide) (m2_slot l G a1 τ σ H x1 _ hw) (cwV 1 hts (lw_V q1620 q1622 qs74 q159 q1623) rfl rfl rfl kX2_slot ⟨Nat.le_of_ble_eq_true rfl, Nat.le_of_ble_eq_true rfl⟩) rfl hl.1 rfl (Nat.le_of_ble_eq_true rfl) dX2_time_6 ⟨Nat.le_of_ble_eq_true rfl, Nat.le_of_ble_eq_true rfl⟩) hS (fun r1 locs hw hS => ?_)
  refine l26 C hH hw.1 dX2_time_9 ?_
  have hw := hw.2
  exact rt_ip C rfl hS hw dX2_time_10
/-! WebHost$Hops.due()I -/
abbrev cX3_due : ByteArray := prog_6_method_12_code
def yX3_due : MethodName := ⟨RX3, "due", "()I"⟩
theorem dX3_due_0 : decode cX3_due 0 = .ok (.ldc 133, 2) := by decide +kernel
theorem dX3_due_2 : decode cX3_due 2 = .ok (.istore_n 1, 1) := by decide +kernel
theorem dX3_due_3 : decode cX3_due 3 = .ok (.iconst 0, 1) := by decide +kernel
theorem dX3_due_4 : decode cX3_due 4 = .ok (.istore_n 2, 1) := by decide +kernel
theorem dX3_due_5 : decode cX3_due 5 = .ok (.iload_n 2, 1) := by decide +kernel
theorem dX3_due_6 : decode cX3_due 6 = .ok (.aload_n 0, 1) := by decide +kernel
theorem dX3_due_7 : decode cX3_due 7 = .ok (.getfield 53, 3) := by decide +kernel
theorem dX3_due_10 : decode cX3_due 10 = .ok (.if_icmp .ge 23, 3) := by decide +kernel
theorem dX3_due_13 : decode cX3_due 13 = .ok (.iload_n 1, 1) := by decide +kernel
theorem dX3_due_14 : decode cX3_due 14 = .ok (.aload_n 0, 1) := by decide +kernel
theorem dX3_due_15 : decode cX3_due 15 = .ok (.getfield 22, 3) := by decide +kernel
theorem dX3_due_18 : decode cX3_due 18 = .ok (.iload_n 2, 1) := by decide +kernel
theorem dX3_due_19 : decode cX3_due 19 = .ok (.aaload, 1) := by decide +kernel
theorem dX3_due_20 : decode cX3_due 20 = .ok (.invokevirtual 134, 3) := by decide +kernel
theorem dX3_due_23 : decode cX3_due 23 = .ok (.invokestatic 137, 3) := by decide +kernel
theorem dX3_due_26 : decode cX3_due 26 = .ok (.istore_n 1, 1) := by decide +kernel
theorem dX3_due_27 : decode cX3_due 27 = .ok (.iinc 2 1, 3) := by decide +kernel
theorem dX3_due_30 : decode cX3_due 30 = .ok (.goto (-25), 3) := by decide +kernel
theorem dX3_due_33 : decode cX3_due 33 = .ok (.iload_n 1, 1) := by decide +kernel
theorem dX3_due_34 : decode cX3_due 34 = .ok (.ireturn, 1) := by decide +kernel
def rmX3_due : Room := { frames := 1, cells := 0, slots := 0, locals := 23 }
theorem kX3_due : yX3_due.cls = "WebHost$Hops" ∧ yX3_due.cls ≠ "java/lang/invoke/MethodHandle" ∧ yX3_due.cls ≠ "java/lang/invoke/VarHandle" ∧ (parseMethodDescriptor yX3_due.desc).map (fun d => d.parameters.length) = some 0 := by decide +kernel
def w3_due_L5 (σ : St) (Q : Int32 → Prop) (K33 : Int32 → Prop) : Nat → Int32 → Int32 → Prop
  | 0, _, _ => False
  | n + 1, x1, x2 => ((σ 3 0 9) ≤ x2 → K33 x1) ∧ (¬ (σ 3 0 9) ≤ x2 → (vp_in x2 8 ∧ ((σ 31 0 x2.toNatClampNeg).toNatClampNeg < 8 ∧ (w4_due σ ((σ 31 0 x2.toNatClampNeg).toNatClampNeg) (fun r2 => (w3_due_L5 σ Q K33 n (imin x1 r2) (x2 + 1)))))))
set_option maxHeartbeats 4000000 in
theorem k3_due_L5 {p : Program} {l : Launch} {e : Env} {s : State} {m : MethodId} {args : Array Value} {below : List Frame} {meth : Method} {c : Code} {G : Gh} {a1 : Nat → Nat → Nat} {τ : St} {H : Heap} {Q : Int32 → Prop} {K33 : Int32 → Prop} (C : Cx p e s m args meth c cX3_due 3 (some .int) "WebHost$Hops" G) (σ : St) (hH : Hd G a1 (cmb σ τ) H) :
    ∀ (n : Nat) (x1 : Int32) (x2 : Int32), w3_due_L5 σ Q K33 n x1 x2 → ∀ (locs : List Loc) (ls : Array Slot), va_S (gA G) s.heap H locs → lv_has ls 3 [(0, .ref (ga G 3 0)), (1, .int x1), (2, .int x2)] → (∀ (x1 : Int32), K33 x1 → ∀ (locs : List Loc) (ls : Array Slot), va_S (gA G) s.heap H locs → lv_has ls 3 [(1, .int x1)] → W p l e rmX3_due s m args below meth c H locs 0 0 (MQ below (QIp G H Q) args s 0 0 (gA G)) (F0 m 33 ls [])) → W p l e rmX3_due s m args below meth c H locs 0 0 (MQ below (QIp G H Q) args s 0 0 (gA G)) (F0 m 5 ls []) := by
  have hx := C.1
  have hb := C.2.1
  have hown := C.2.2.2.2.2.1
  have hts := C.2.2.2.2.2.2.1
  intro n
  induction n with
  | zero =>
    intro x1 x2 hw
    exact False.elim hw
  | succ n ih =>
    intro x1 x2 hw locs ls hS hl hK33
    refine lv_iload_n hx hb dX3_due_5 rfl (lv_at hl 2 rfl) ?_
    refine lv_aload_n hx hb dX3_due_6 rfl (lv_at hl 0 rfl) ?_
    refine g3_9 C hH q288 dX3_due_7 ?_
    refine lv_icmp_ge (tgt := 33) hx hb dX3_due_10 (by decide) (fun h => ?_) (fun h => ?_)
    · have hw := hw.1 h
      exact hK33 x1 hw locs ls hS (lv_sub hl [1] rfl)
    have hw := hw.2 h
    refine lv_iload_n hx hb dX3_due_13 rfl (lv_at hl 1 rfl) ?_
    refine lv_aload_n hx hb dX3_due_14 rfl (lv_at hl 0 rfl) ?_
    refine g3_8 C hH q287 dX3_due_15 ?_
    refine lv_iload_n hx hb dX3_due_18 rfl (lv_at hl 2 rfl) ?_
    refine l31 C hH hw.1 dX3_due_19 ?_
    obtain ⟨hq1, hw⟩ := hw.2
    refine kc_ip (rn_vp (As := []) (rest := [.int x1]) C hH hS (by decide) rfl hq1 (m4_due l G a1 τ σ H ((σ 31 0 x2.toNatClampNeg).toNatClampNeg) hq1 _ hw) (cwV 0 hts (lw_V q910 q911 q912 q161 q913) rfl rfl rfl kX4_due ⟨Nat.le_of_ble_eq_true rfl, Nat.le_of_ble_eq_true rfl⟩) rfl hl.1 rfl (Nat.le_of_ble_eq_true rfl) dX3_due_20 ⟨Nat.le_of_ble_eq_true rfl, Nat.le_of_ble_eq_true rfl⟩) hS (fun r2 locs hw hS => ?_)
    refine r_imin C hl.1 q914 (Nat.le_of_ble_eq_true rfl) (Nat.le_of_ble_eq_true rfl) (Nat.zero_le _) (Nat.zero_le _) dX3_due_23 ?_
    refine lv_istore_n (lv' := [(1, .int (imin x1 r2)), (0, .ref (ga G 3 0)), (2, .int x2)]) hx hb dX3_due_26 rfl hl (by decide) rfl (fun ls hl => ?_)
    refine lv_iinc (v := x2 + 1) (lv' := [(2, .int (x2 + 1)), (1, .int (imin x1 r2)), (0, .ref (ga G 3 0))]) hx hb dX3_due_27 hl (k := 2) rfl rfl (by decide) rfl (fun ls hl => ?_)
    refine lv_goto (tgt := 5) hx hb dX3_due_30 (by decide) ?_
    exact ih (imin x1 r2) (x2 + 1) hw locs ls hS (lv_sub hl [2, 1, 0] rfl) hK33
def w3_due (σ : St) (Q : Int32 → Prop) : Prop := ∃ z3, w3_due_L5 σ Q (fun x1_4 => Q x1_4) z3 2147483647 0
set_option maxHeartbeats 4000000 in
theorem m3_due (l : Launch) (G : Gh) (a1 : Nat → Nat → Nat) (τ : St) (σ : St) (H : Heap) (Q : Int32 → Prop) (hw : w3_due σ Q) : Met l yX3_due (ws_ yX3_due cX3_due 3 (some .int)) rmX3_due (PcP G a1 (cmb σ τ) H [.ref (ga G 3 0)]) (QIp G H Q) 0 0 (gA G) := by
  refine met_p (by decide) (Nat.le_of_ble_eq_true rfl) ?_
  intro p e s m below meth c ls hHe C hH hS hl
  have C : Cx p e s m _ meth c cX3_due 3 (some .int) "WebHost$Hops" G := C
  have hl : lv_has ls 3 [(0, .ref (ga G 3 0))] := hl
  have hx := C.1
  have hb := C.2.1
  have hown := C.2.2.2.2.2.1
  have hts := C.2.2.2.2.2.2.1
  obtain ⟨locs, hlocs⟩ : ∃ z : List Loc, z = [] := ⟨_, rfl⟩
  rw [← hlocs] at hS ⊢
  refine lv_ldc (v := 2147483647) hx hb hown (hts _ q909) dX3_due_0 ?_
  refine lv_istore_n (lv' := [(1, .int 2147483647), (0, .ref (ga G 3 0))]) hx hb dX3_due_2 rfl hl (by decide) rfl (fun ls hl => ?_)
  refine lv_iconst (v := 0) hx hb dX3_due_3 (by decide) ?_
  refine lv_istore_n (lv' := [(2, .int 0), (1, .int 2147483647), (0, .ref (ga G 3 0))]) hx hb dX3_due_4 rfl hl (by decide) rfl (fun ls hl => ?_)
  obtain ⟨n3, hw⟩ := hw
  refine k3_due_L5 C σ hH n3 2147483647 0 hw locs ls hS (lv_sub hl [2, 1, 0] rfl) (fun x1_4 hw locs ls hS hl => ?_)
  refine lv_iload_n hx hb dX3_due_33 rfl (lv_at hl 0 rfl) ?_
  exact rt_ip C rfl hS hw dX3_due_34
/-! WebHost$Hops.knows(I)Z -/
abbrev cX3_knows : ByteArray := prog_6_method_4_code
def yX3_knows : MethodName := ⟨RX3, "knows", "(I)Z"⟩
theorem dX3_knows_0 : decode cX3_knows 0 = .ok (.aload_n 0, 1) := by decide +kernel
theorem dX3_knows_1 : decode cX3_knows 1 = .ok (.iload_n 1, 1) := by decide +kernel
theorem dX3_knows_2 : decode cX3_knows 2 = .ok (.invokevirtual 56, 3) := by decide +kernel
theorem dX3_knows_5 : decode cX3_knows 5 = .ok (.istore_n 2, 1) := by decide +kernel
theorem dX3_knows_6 : decode cX3_knows 6 = .ok (.iload_n 2, 1) := by decide +kernel
theorem dX3_knows_7 : decode cX3_knows 7 = .ok (.ifCond .lt 26, 3) := by decide +kernel
theorem dX3_knows_10 : decode cX3_knows 10 = .ok (.aload_n 0, 1) := by decide +kernel
theorem dX3_knows_11 : decode cX3_knows 11 = .ok (.getfield 35, 3) := by decide +kernel
theorem dX3_knows_14 : decode cX3_knows 14 = .ok (.getfield 60, 3) := by decide +kernel
theorem dX3_knows_17 : decode cX3_knows 17 = .ok (.aload_n 0, 1) := by decide +kernel
theorem dX3_knows_18 : decode cX3_knows 18 = .ok (.getfield 13, 3) := by decide +kernel
theorem dX3_knows_21 : decode cX3_knows 21 = .ok (.iload_n 2, 1) := by decide +kernel
theorem dX3_knows_22 : decode cX3_knows 22 = .ok (.iaload, 1) := by decide +kernel
theorem dX3_knows_23 : decode cX3_knows 23 = .ok (.isub, 1) := by decide +kernel
theorem dX3_knows_24 : decode cX3_knows 24 = .ok (.ldc 65, 2) := by decide +kernel
theorem dX3_knows_26 : decode cX3_knows 26 = .ok (.if_icmp .ge 7, 3) := by decide +kernel
theorem dX3_knows_29 : decode cX3_knows 29 = .ok (.iconst 1, 1) := by decide +kernel
theorem dX3_knows_30 : decode cX3_knows 30 = .ok (.goto 4, 3) := by decide +kernel
theorem dX3_knows_33 : decode cX3_knows 33 = .ok (.iconst 0, 1) := by decide +kernel
theorem dX3_knows_34 : decode cX3_knows 34 = .ok (.ireturn, 1) := by decide +kernel
def rmX3_knows : Room := { frames := 1, cells := 0, slots := 0, locals := 22 }
theorem kX3_knows : yX3_knows.cls = "WebHost$Hops" ∧ yX3_knows.cls ≠ "java/lang/invoke/MethodHandle" ∧ yX3_knows.cls ≠ "java/lang/invoke/VarHandle" ∧ (parseMethodDescriptor yX3_knows.desc).map (fun d => d.parameters.length) = some 1 := by decide +kernel
def w3_knows (σ : St) (x1 : Int32) (Q : Int32 → Prop) : Prop := w3_find σ x1 (fun r1 => ((r1 < 0 → Q 0) ∧ (¬ r1 < 0 → (vp_in r1 16 ∧ ((60000 ≤ ((σ 2 0 4) - (σ 29 0 r1.toNatClampNeg)) → Q 0) ∧ (¬ 60000 ≤ ((σ 2 0 4) - (σ 29 0 r1.toNatClampNeg)) → Q 1))))))
set_option maxHeartbeats 4000000 in
theorem m3_knows (l : Launch) (G : Gh) (a1 : Nat → Nat → Nat) (τ : St) (σ : St) (H : Heap) (x1 : Int32) (Q : Int32 → Prop) (hw : w3_knows σ x1 Q) : Met l yX3_knows (ws_ yX3_knows cX3_knows 3 (some .boolean)) rmX3_knows (PcP G a1 (cmb σ τ) H [.ref (ga G 3 0), .int x1]) (QIp G H Q) 0 0 (gA G) := by
  refine met_p (by decide) (Nat.le_of_ble_eq_true rfl) ?_
  intro p e s m below meth c ls hHe C hH hS hl
  have C : Cx p e s m _ meth c cX3_knows 3 (some .boolean) "WebHost$Hops" G := C
  have hl : lv_has ls 3 [(0, .ref (ga G 3 0)), (1, .int x1)] := hl
  have hx := C.1
  have hb := C.2.1
  have hown := C.2.2.2.2.2.1
  have hts := C.2.2.2.2.2.2.1
  obtain ⟨locs, hlocs⟩ : ∃ z : List Loc, z = [] := ⟨_, rfl⟩
  rw [← hlocs] at hS ⊢
  refine lv_aload_n hx hb dX3_knows_0 rfl (lv_at hl 0 rfl) ?_
  refine lv_iload_n hx hb dX3_knows_1 rfl (lv_at hl 1 rfl) ?_
  refine kc_ip (rn_vp (As := [.int x1]) (rest := []) C hH hS (by decide) rfl (by decide) (m3_find l G a1 τ σ H x1 _ hw) (cwV 1 hts (lw_V q1013 q1015 qs14 q160 q1016) rfl rfl rfl kX3_find ⟨Nat.le_of_ble_eq_true rfl, Nat.le_of_ble_eq_true rfl⟩) rfl hl.1 rfl (Nat.le_of_ble_eq_true rfl) dX3_knows_2 ⟨Nat.le_of_ble_eq_true rfl, Nat.le_of_ble_eq_true rfl⟩) hS (fun r1 locs hw hS => ?_)
  refine lv_istore_n (lv' := [(2, .int r1), (0, .ref (ga G 3 0)), (1, .int x1)]) hx hb dX3_knows_5 rfl hl (by decide) rfl (fun ls hl => ?_)
  refine lv_iload_n hx hb dX3_knows_6 rfl (lv_at hl 0 rfl) ?_
  refine lv_if_lt (tgt := 33) hx hb dX3_knows_7 (by decide) (fun h => ?_) (fun h => ?_)
  · have hw := hw.1 h
    refine lv_iconst (v := 0) hx hb dX3_knows_33 (by decide) ?_
    exact rt_ip C rfl hS hw dX3_knows_34
  have hw := hw.2 h
  refine lv_aload_n hx hb dX3_knows_10 rfl (lv_at hl 1 rfl) ?_
  refine g3_0 C hH q279 dX3_knows_11 ?_
  refine g2_4 C hH q229 dX3_knows_14 ?_
  refine lv_aload_n hx hb dX3_knows_17 rfl (lv_at hl 1 rfl) ?_
  refine g3_5 C hH q284 dX3_knows_18 ?_
  refine lv_iload_n hx hb dX3_knows_21 rfl (lv_at hl 0 rfl) ?_
  refine l29 C hH hw.1 dX3_knows_22 ?_
  have hw := hw.2
  refine lv_isub hx hb dX3_knows_23 ?_
  refine lv_ldc (v := 60000) hx hb hown (hts _ q1017) dX3_knows_24 ?_
  refine lv_icmp_ge (tgt := 33) hx hb dX3_knows_26 (by decide) (fun h => ?_) (fun h => ?_)
  · have hw := hw.1 h
    refine lv_iconst (v := 0) hx hb dX3_knows_33 (by decide) ?_
    exact rt_ip C rfl hS hw dX3_knows_34
  have hw := hw.2 h
  refine lv_iconst (v := 1) hx hb dX3_knows_29 (by decide) ?_
  refine lv_goto (tgt := 34) hx hb dX3_knows_30 (by decide) ?_
  exact rt_ip C rfl hS hw dX3_knows_34
/-! WebHost$Fragments.act()V -/
abbrev cX6_act : ByteArray := prog_5_method_8_code
def yX6_act : MethodName := ⟨RX6, "act", "()V"⟩
theorem dX6_act_0 : decode cX6_act 0 = .ok (.aload_n 0, 1) := by decide +kernel
theorem dX6_act_1 : decode cX6_act 1 = .ok (.iconst 0, 1) := by decide +kernel
theorem dX6_act_2 : decode cX6_act 2 = .ok (.invokevirtual 44, 3) := by decide +kernel
theorem dX6_act_5 : decode cX6_act 5 = .ok (.return_, 1) := by decide +kernel
def rmX6_act : Room := { frames := 1, cells := 0, slots := 0, locals := 23 }
theorem kX6_act : yX6_act.cls = "WebHost$Fragments" ∧ yX6_act.cls ≠ "java/lang/invoke/MethodHandle" ∧ yX6_act.cls ≠ "java/lang/invoke/VarHandle" ∧ (parseMethodDescriptor yX6_act.desc).map (fun d => d.parameters.length) = some 0 := by decide +kernel
def w6_act (σ : St) (Q : St → Prop) : Prop := w6_remove σ 0 (fun σ1 => (Q σ1))
set_option maxHeartbeats 4000000 in
theorem m6_act (l : Launch) (G : Gh) (a1 : Nat → Nat → Nat) (τ : St) (σ : St) (Q : St → Prop) (hw : w6_act σ Q) : Met l yX6_act (ws_ yX6_act cX6_act 1 none) rmX6_act (PcS G a1 (cmb σ τ) [.ref (ga G 6 0)]) (QVs G a1 (fun u => cmb u τ) Q) 0 0 (gA G) := by
  refine met_w (by decide) (Nat.le_of_ble_eq_true rfl) ?_
  intro p e s m below meth c ls C hH hS hl
  have C : Cx p e s m _ meth c cX6_act 1 none "WebHost$Fragments" G := C
  have hl : lv_has ls 1 [(0, .ref (ga G 6 0))] := hl
  have hx := C.1
  have hb := C.2.1
  have hown := C.2.2.2.2.2.1
  have hts := C.2.2.2.2.2.2.1
  obtain ⟨locs, hlocs⟩ : ∃ z : List Loc, z = [] := ⟨_, rfl⟩
  obtain ⟨H, hHe⟩ : ∃ z : Heap, z = s.heap := ⟨_, rfl⟩
  have hH : Hd G a1 (cmb σ τ) H := by rw [hHe]; exact hH
  have hS : va_S (gA G) s.heap H locs := by rw [hHe, hlocs]; exact hS
  refine W.heap0 hHe.symm hlocs.symm ?_
  refine lv_aload_n hx hb dX6_act_0 rfl (lv_at hl 0 rfl) ?_
  refine lv_iconst (v := 0) hx hb dX6_act_1 (by decide) ?_
  refine kc_v (rn_v (As := [.int 0]) (rest := []) C hH hS (by decide) rfl (by decide) (m6_remove l G a1 τ σ 0 _ hw) (cwV 1 hts (lw_V q964 q966 qs12 q163 q967) rfl rfl rfl kX6_remove ⟨Nat.le_of_ble_eq_true rfl, Nat.le_of_ble_eq_true rfl⟩) rfl hl.1 rfl (Nat.le_of_ble_eq_true rfl) dX6_act_2 ⟨Nat.le_of_ble_eq_true rfl, Nat.le_of_ble_eq_true rfl⟩) hS (fun σ1 H locs hw hH hS => ?_)
  exact rt_v C hH hS hw dX6_act_5
/-! WebHost$Fragments.take([BIIIIIIZI)LWebHost$Making; -/
abbrev cX6_take : ByteArray := prog_5_method_6_code
def yX6_take : MethodName := ⟨RX6, "take", "([BIIIIIIZI)LWebHost$Making;"⟩
theorem dX6_take_0 : decode cX6_take 0 = .ok (.iload 8, 2) := by decide +kernel
theorem dX6_take_2 : decode cX6_take 2 = .ok (.ifCond .ne 16, 3) := by decide +kernel
theorem dX6_take_5 : decode cX6_take 5 = .ok (.iload_n 3, 1) := by decide +kernel
theorem dX6_take_6 : decode cX6_take 6 = .ok (.bipush 8, 2) := by decide +kernel
theorem dX6_take_8 : decode cX6_take 8 = .ok (.if_icmp .lt 20, 3) := by decide +kernel
theorem dX6_take_11 : decode cX6_take 11 = .ok (.iload_n 3, 1) := by decide +kernel
theorem dX6_take_12 : decode cX6_take 12 = .ok (.bipush 8, 2) := by decide +kernel
theorem dX6_take_14 : decode cX6_take 14 = .ok (.irem, 1) := by decide +kernel
theorem dX6_take_15 : decode cX6_take 15 = .ok (.ifCond .ne 13, 3) := by decide +kernel
theorem dX6_take_18 : decode cX6_take 18 = .ok (.iload 7, 2) := by decide +kernel
theorem dX6_take_20 : decode cX6_take 20 = .ok (.iload_n 3, 1) := by decide +kernel
theorem dX6_take_21 : decode cX6_take 21 = .ok (.iadd, 1) := by decide +kernel
theorem dX6_take_22 : decode cX6_take 22 = .ok (.sipush 4096, 3) := by decide +kernel
theorem dX6_take_25 : decode cX6_take 25 = .ok (.if_icmp .le 5, 3) := by decide +kernel
theorem dX6_take_28 : decode cX6_take 28 = .ok (.aconst_null, 1) := by decide +kernel
theorem dX6_take_29 : decode cX6_take 29 = .ok (.areturn, 1) := by decide +kernel
theorem dX6_take_30 : decode cX6_take 30 = .ok (.aload_n 0, 1) := by decide +kernel
theorem dX6_take_31 : decode cX6_take 31 = .ok (.iload 4, 2) := by decide +kernel
theorem dX6_take_33 : decode cX6_take 33 = .ok (.iload 5, 2) := by decide +kernel
theorem dX6_take_35 : decode cX6_take 35 = .ok (.iload 6, 2) := by decide +kernel
theorem dX6_take_37 : decode cX6_take 37 = .ok (.invokevirtual 32, 3) := by decide +kernel
theorem dX6_take_40 : decode cX6_take 40 = .ok (.istore 10, 2) := by decide +kernel
theorem dX6_take_42 : decode cX6_take 42 = .ok (.iload 10, 2) := by decide +kernel
theorem dX6_take_44 : decode cX6_take 44 = .ok (.iconst 4, 1) := by decide +kernel
theorem dX6_take_45 : decode cX6_take 45 = .ok (.if_icmp .ne 5, 3) := by decide +kernel
theorem dX6_take_48 : decode cX6_take 48 = .ok (.aconst_null, 1) := by decide +kernel
theorem dX6_take_49 : decode cX6_take 49 = .ok (.areturn, 1) := by decide +kernel
theorem dX6_take_50 : decode cX6_take 50 = .ok (.iload 10, 2) := by decide +kernel
theorem dX6_take_52 : decode cX6_take 52 = .ok (.aload_n 0, 1) := by decide +kernel
theorem dX6_take_53 : decode cX6_take 53 = .ok (.getfield 16, 3) := by decide +kernel
theorem dX6_take_56 : decode cX6_take 56 = .ok (.if_icmp .ne 31, 3) := by decide +kernel
theorem dX6_take_59 : decode cX6_take 59 = .ok (.aload_n 0, 1) := by decide +kernel
theorem dX6_take_60 : decode cX6_take 60 = .ok (.getfield 11, 3) := by decide +kernel
theorem dX6_take_63 : decode cX6_take 63 = .ok (.iload 10, 2) := by decide +kernel
theorem dX6_take_65 : decode cX6_take 65 = .ok (.aaload, 1) := by decide +kernel
theorem dX6_take_66 : decode cX6_take 66 = .ok (.iload 4, 2) := by decide +kernel
theorem dX6_take_68 : decode cX6_take 68 = .ok (.iload 5, 2) := by decide +kernel
theorem dX6_take_70 : decode cX6_take 70 = .ok (.iload 6, 2) := by decide +kernel
theorem dX6_take_72 : decode cX6_take 72 = .ok (.iload 9, 2) := by decide +kernel
theorem dX6_take_74 : decode cX6_take 74 = .ok (.invokevirtual 36, 3) := by decide +kernel
theorem dX6_take_77 : decode cX6_take 77 = .ok (.aload_n 0, 1) := by decide +kernel
theorem dX6_take_78 : decode cX6_take 78 = .ok (.dup, 1) := by decide +kernel
theorem dX6_take_79 : decode cX6_take 79 = .ok (.getfield 16, 3) := by decide +kernel
theorem dX6_take_82 : decode cX6_take 82 = .ok (.iconst 1, 1) := by decide +kernel
theorem dX6_take_83 : decode cX6_take 83 = .ok (.iadd, 1) := by decide +kernel
theorem dX6_take_84 : decode cX6_take 84 = .ok (.putfield 16, 3) := by decide +kernel
theorem dX6_take_87 : decode cX6_take 87 = .ok (.aload_n 0, 1) := by decide +kernel
theorem dX6_take_88 : decode cX6_take 88 = .ok (.getfield 11, 3) := by decide +kernel
theorem dX6_take_91 : decode cX6_take 91 = .ok (.iload 10, 2) := by decide +kernel
theorem dX6_take_93 : decode cX6_take 93 = .ok (.aaload, 1) := by decide +kernel
theorem dX6_take_94 : decode cX6_take 94 = .ok (.astore 11, 2) := by decide +kernel
theorem dX6_take_96 : decode cX6_take 96 = .ok (.aload 11, 2) := by decide +kernel
theorem dX6_take_98 : decode cX6_take 98 = .ok (.aload_n 1, 1) := by decide +kernel
theorem dX6_take_99 : decode cX6_take 99 = .ok (.iload_n 2, 1) := by decide +kernel
theorem dX6_take_100 : decode cX6_take 100 = .ok (.iload 7, 2) := by decide +kernel
theorem dX6_take_102 : decode cX6_take 102 = .ok (.iload_n 3, 1) := by decide +kernel
theorem dX6_take_103 : decode cX6_take 103 = .ok (.iload 8, 2) := by decide +kernel
theorem dX6_take_105 : decode cX6_take 105 = .ok (.invokevirtual 40, 3) := by decide +kernel
theorem dX6_take_108 : decode cX6_take 108 = .ok (.ifCond .ne 11, 3) := by decide +kernel
theorem dX6_take_111 : decode cX6_take 111 = .ok (.aload_n 0, 1) := by decide +kernel
theorem dX6_take_112 : decode cX6_take 112 = .ok (.iload 10, 2) := by decide +kernel
theorem dX6_take_114 : decode cX6_take 114 = .ok (.invokevirtual 44, 3) := by decide +kernel
theorem dX6_take_117 : decode cX6_take 117 = .ok (.aconst_null, 1) := by decide +kernel
theorem dX6_take_118 : decode cX6_take 118 = .ok (.areturn, 1) := by decide +kernel
theorem dX6_take_119 : decode cX6_take 119 = .ok (.aload 11, 2) := by decide +kernel
theorem dX6_take_121 : decode cX6_take 121 = .ok (.invokevirtual 48, 3) := by decide +kernel
theorem dX6_take_124 : decode cX6_take 124 = .ok (.ifCond .ne 5, 3) := by decide +kernel
theorem dX6_take_127 : decode cX6_take 127 = .ok (.aconst_null, 1) := by decide +kernel
theorem dX6_take_128 : decode cX6_take 128 = .ok (.areturn, 1) := by decide +kernel
theorem dX6_take_129 : decode cX6_take 129 = .ok (.aload_n 0, 1) := by decide +kernel
theorem dX6_take_130 : decode cX6_take 130 = .ok (.iload 10, 2) := by decide +kernel
theorem dX6_take_132 : decode cX6_take 132 = .ok (.invokevirtual 44, 3) := by decide +kernel
theorem dX6_take_135 : decode cX6_take 135 = .ok (.aload_n 0, 1) := by decide +kernel
theorem dX6_take_136 : decode cX6_take 136 = .ok (.dup, 1) := by decide +kernel
theorem dX6_take_137 : decode cX6_take 137 = .ok (.getfield 20, 3) := by decide +kernel
theorem dX6_take_140 : decode cX6_take 140 = .ok (.iconst 1, 1) := by decide +kernel
theorem dX6_take_141 : decode cX6_take 141 = .ok (.iadd, 1) := by decide +kernel
theorem dX6_take_142 : decode cX6_take 142 = .ok (.putfield 20, 3) := by decide +kernel
theorem dX6_take_145 : decode cX6_take 145 = .ok (.aload 11, 2) := by decide +kernel
theorem dX6_take_147 : decode cX6_take 147 = .ok (.areturn, 1) := by decide +kernel
def rmX6_take : Room := { frames := 2, cells := 0, slots := 0, locals := 50 }
theorem kX6_take : yX6_take.cls = "WebHost$Fragments" ∧ yX6_take.cls ≠ "java/lang/invoke/MethodHandle" ∧ yX6_take.cls ≠ "java/lang/invoke/VarHandle" ∧ (parseMethodDescriptor yX6_take.desc).map (fun d => d.parameters.length) = some 9 := by decide +kernel
def w6_take_J87 (σ : St) (k1 : Nat) (i1 : Nat) (x2 : Int32) (x3 : Int32) (x7 : Int32) (x8 : Int32) (x10 : Int32) (Q : Option Nat → St → Prop) : Prop := vp_in x10 4 ∧ ((σ 37 0 x10.toNatClampNeg).toNatClampNeg < 4 ∧ (w7_add σ ((σ 37 0 x10.toNatClampNeg).toNatClampNeg) k1 i1 x2 x7 x3 x8 (fun r3 σ3 => ((¬ r3 = 0 → (w7_isWhole σ3 ((σ 37 0 x10.toNatClampNeg).toNatClampNeg) (fun r4 => ((¬ r4 = 0 → (w6_remove σ3 x10 (fun σ5 => (∀ σ6, σ6 = up3 σ5 6 0 2 ((σ5 6 0 2) + 1) → (Q (some ((σ 37 0 x10.toNatClampNeg).toNatClampNeg)) σ6))))) ∧ (r4 = 0 → Q none σ3))))) ∧ (r3 = 0 → (w6_remove σ3 x10 (fun σ7 => (Q none σ7))))))))
set_option maxHeartbeats 4000000 in
theorem k6_take_J87 {p : Program} {l : Launch} {e : Env} {s : State} {m : MethodId} {args : Array Value} {below : List Frame} {meth : Method} {c : Code} {G : Gh} {a1 : Nat → Nat → Nat} {τ : St} {Q : Option Nat → St → Prop} (C : Cx p e s m args meth c cX6_take 12 (some (.object "WebHost$Making")) "WebHost$Fragments" G) (σ : St) (k1 : Nat) (i1 : Nat) (x2 : Int32) (x3 : Int32) (x7 : Int32) (x8 : Int32) (x10 : Int32) (hk1 : abc k1 i1 = true) (hw : w6_take_J87 σ k1 i1 x2 x3 x7 x8 x10 Q) (H : Heap) (locs : List Loc) (ls : Array Slot) (hH : Hd G a1 (cmb σ τ) H) (hS : va_S (gA G) s.heap H locs) (hl : lv_has ls 12 [(0, .ref (ga G 6 0)), (1, .ref (adr G a1 k1 i1)), (2, .int x2), (3, .int x3), (7, .int x7), (8, .int x8), (10, .int x10)]) : W p l e rmX6_take s m args below meth c H locs 0 0 (MQ below (QEs G a1 7 (fun u => cmb u τ) Q) args s 0 0 (gA G)) (F0 m 87 ls []) := by
  have hx := C.1
  have hb := C.2.1
  have hown := C.2.2.2.2.2.1
  have hts := C.2.2.2.2.2.2.1
  refine lv_aload_n hx hb dX6_take_87 rfl (lv_at hl 0 rfl) ?_
  refine g6_0 C hH q386 dX6_take_88 ?_
  refine lv_iload hx hb dX6_take_91 (lv_at hl 6 rfl) ?_
  refine l37 C hH hw.1 dX6_take_93 ?_
  obtain ⟨hq2, hw⟩ := hw.2
  refine lv_astore (lv' := [(11, .ref (ga G 7 ((σ 37 0 x10.toNatClampNeg).toNatClampNeg))), (0, .ref (ga G 6 0)), (1, .ref (adr G a1 k1 i1)), (2, .int x2), (3, .int x3), (7, .int x7), (8, .int x8), (10, .int x10)]) hx hb dX6_take_94 hl (by decide) rfl (fun ls hl => ?_)
  refine lv_aload hx hb dX6_take_96 (lv_at hl 0 rfl) ?_
  refine lv_aload_n hx hb dX6_take_98 rfl (lv_at hl 2 rfl) ?_
  refine lv_iload_n hx hb dX6_take_99 rfl (lv_at hl 3 rfl) ?_
  refine lv_iload hx hb dX6_take_100 (lv_at hl 5 rfl) ?_
  refine lv_iload_n hx hb dX6_take_102 rfl (lv_at hl 4 rfl) ?_
  refine lv_iload hx hb dX6_take_103 (lv_at hl 6 rfl) ?_
  refine kc_i (rn_v (As := [.ref (adr G a1 k1 i1), .int x2, .int x7, .int x3, .int x8]) (rest := []) C hH hS (by decide) rfl hq2 (m7_add l G a1 τ σ ((σ 37 0 x10.toNatClampNeg).toNatClampNeg) k1 i1 x2 x7 x3 x8 hq2 hk1 _ hw) (cwV 5 hts (lw_V q1587 q1588 q1589 q164 q1590) rfl rfl rfl kX7_add ⟨Nat.le_of_ble_eq_true rfl, Nat.le_of_ble_eq_true rfl⟩) rfl hl.1 rfl (Nat.le_of_ble_eq_true rfl) dX6_take_105 ⟨Nat.le_of_ble_eq_true rfl, Nat.le_of_ble_eq_true rfl⟩) hS (fun r3 σ3 H locs hw hH hS => ?_)
  refine lv_if_ne (tgt := 119) hx hb dX6_take_108 (by decide) (fun h => ?_) (fun h => ?_)
  · have hw := hw.1 h
    refine lv_aload hx hb dX6_take_119 (lv_at hl 0 rfl) ?_
    refine kc_ip (rn_vp (As := []) (rest := []) C hH hS (by decide) rfl hq2 (m7_isWhole l G a1 τ σ3 H ((σ 37 0 x10.toNatClampNeg).toNatClampNeg) hq2 _ hw) (cwV 0 hts (lw_V q1592 q1593 q1594 q164 q1595) rfl rfl rfl kX7_isWhole ⟨Nat.le_of_ble_eq_true rfl, Nat.le_of_ble_eq_true rfl⟩) rfl hl.1 rfl (Nat.le_of_ble_eq_true rfl) dX6_take_121 ⟨Nat.le_of_ble_eq_true rfl, Nat.le_of_ble_eq_true rfl⟩) hS (fun r4 locs hw hS => ?_)
    refine lv_if_ne (tgt := 129) hx hb dX6_take_124 (by decide) (fun h => ?_) (fun h => ?_)
    · have hw := hw.1 h
      refine lv_aload_n hx hb dX6_take_129 rfl (lv_at hl 1 rfl) ?_
      refine lv_iload hx hb dX6_take_130 (lv_at hl 7 rfl) ?_
      refine kc_v (rn_v (As := [.int x10]) (rest := []) C hH hS (by decide) rfl (by decide) (m6_remove l G a1 τ σ3 x10 _ hw) (cwV 1 hts (lw_V q964 q966 qs12 q163 q967) rfl rfl rfl kX6_remove ⟨Nat.le_of_ble_eq_true rfl, Nat.le_of_ble_eq_true rfl⟩) rfl hl.1 rfl (Nat.le_of_ble_eq_true rfl) dX6_take_132 ⟨Nat.le_of_ble_eq_true rfl, Nat.le_of_ble_eq_true rfl⟩) hS (fun σ5 H locs hw hH hS => ?_)
      refine lv_aload_n hx hb dX6_take_135 rfl (lv_at hl 1 rfl) ?_
      refine lv_dup hx hb dX6_take_136 rfl ?_
      refine g6_2 C hH q388 dX6_take_137 ?_
      refine lv_iconst (v := 1) hx hb dX6_take_140 (by decide) ?_
      refine lv_iadd hx hb dX6_take_141 ?_
      refine p6_2 C hH hS q388 dX6_take_142 (fun σ6 e6 H locs hH hS => ?_)
      have hw := hw σ6 e6
      refine lv_aload hx hb dX6_take_145 (lv_at hl 0 rfl) ?_
      exact rt_e (some ((σ 37 0 x10.toNatClampNeg).toNatClampNeg)) C rfl hH hS hw dX6_take_147
    have hw := hw.2 h
    refine lv_null hx hb dX6_take_127 ?_
    exact rt_e none C rfl hH hS hw dX6_take_128
  have hw := hw.2 h
  refine lv_aload_n hx hb dX6_take_111 rfl (lv_at hl 1 rfl) ?_
  refine lv_iload hx hb dX6_take_112 (lv_at hl 7 rfl) ?_
  refine kc_v (rn_v (As := [.int x10]) (rest := []) C hH hS (by decide) rfl (by decide) (m6_remove l G a1 τ σ3 x10 _ hw) (cwV 1 hts (lw_V q964 q966 qs12 q163 q967) rfl rfl rfl kX6_remove ⟨Nat.le_of_ble_eq_true rfl, Nat.le_of_ble_eq_true rfl⟩) rfl hl.1 rfl (Nat.le_of_ble_eq_true rfl) dX6_take_114 ⟨Nat.le_of_ble_eq_true rfl, Nat.le_of_ble_eq_true rfl⟩) hS (fun σ7 H locs hw hH hS => ?_)
  refine lv_null hx hb dX6_take_117 ?_
  exact rt_e none C rfl hH hS hw dX6_take_118
def w6_take_J18 (σ : St) (k1 : Nat) (i1 : Nat) (x2 : Int32) (x3 : Int32) (x4 : Int32) (x5 : Int32) (x6 : Int32) (x7 : Int32) (x8 : Int32) (x9 : Int32) (Q : Option Nat → St → Prop) : Prop := ((x7 + x3) ≤ 4096 → (w6_find σ x4 x5 x6 (fun r1 => ((¬ r1 = 4 → ((¬ r1 = (σ 6 0 1) → w6_take_J87 σ k1 i1 x2 x3 x7 x8 r1 Q) ∧ (r1 = (σ 6 0 1) → (vp_in r1 4 ∧ ((σ 37 0 r1.toNatClampNeg).toNatClampNeg < 4 ∧ (w7_begin σ ((σ 37 0 r1.toNatClampNeg).toNatClampNeg) x4 x5 x6 x9 (fun σ9 => (∀ σ10, σ10 = up3 σ9 6 0 1 ((σ9 6 0 1) + 1) → (w6_take_J87 σ10 k1 i1 x2 x3 x7 x8 r1 Q))))))))) ∧ (r1 = 4 → Q none σ))))) ∧ (¬ (x7 + x3) ≤ 4096 → Q none σ)
set_option maxHeartbeats 4000000 in
theorem k6_take_J18 {p : Program} {l : Launch} {e : Env} {s : State} {m : MethodId} {args : Array Value} {below : List Frame} {meth : Method} {c : Code} {G : Gh} {a1 : Nat → Nat → Nat} {τ : St} {Q : Option Nat → St → Prop} (C : Cx p e s m args meth c cX6_take 12 (some (.object "WebHost$Making")) "WebHost$Fragments" G) (σ : St) (k1 : Nat) (i1 : Nat) (x2 : Int32) (x3 : Int32) (x4 : Int32) (x5 : Int32) (x6 : Int32) (x7 : Int32) (x8 : Int32) (x9 : Int32) (hk1 : abc k1 i1 = true) (hw : w6_take_J18 σ k1 i1 x2 x3 x4 x5 x6 x7 x8 x9 Q) (H : Heap) (locs : List Loc) (ls : Array Slot) (hH : Hd G a1 (cmb σ τ) H) (hS : va_S (gA G) s.heap H locs) (hl : lv_has ls 12 [(0, .ref (ga G 6 0)), (1, .ref (adr G a1 k1 i1)), (2, .int x2), (3, .int x3), (4, .int x4), (5, .int x5), (6, .int x6), (7, .int x7), (8, .int x8), (9, .int x9)]) : W p l e rmX6_take s m args below meth c H locs 0 0 (MQ below (QEs G a1 7 (fun u => cmb u τ) Q) args s 0 0 (gA G)) (F0 m 18 ls []) := by
  have hx := C.1
  have hb := C.2.1
  have hown := C.2.2.2.2.2.1
  have hts := C.2.2.2.2.2.2.1
  refine lv_iload hx hb dX6_take_18 (lv_at hl 7 rfl) ?_
  refine lv_iload_n hx hb dX6_take_20 rfl (lv_at hl 3 rfl) ?_
  refine lv_iadd hx hb dX6_take_21 ?_
  refine lv_sipush (v := 4096) hx hb dX6_take_22 (by decide) ?_
  refine lv_icmp_le (tgt := 30) hx hb dX6_take_25 (by decide) (fun h => ?_) (fun h => ?_)
  · have hw := hw.1 h
    refine lv_aload_n hx hb dX6_take_30 rfl (lv_at hl 0 rfl) ?_
    refine lv_iload hx hb dX6_take_31 (lv_at hl 4 rfl) ?_
    refine lv_iload hx hb dX6_take_33 (lv_at hl 5 rfl) ?_
    refine lv_iload hx hb dX6_take_35 (lv_at hl 6 rfl) ?_
    refine kc_ip (rn_vp (As := [.int x4, .int x5, .int x6]) (rest := []) C hH hS (by decide) rfl (by decide) (m6_find l G a1 τ σ H x4 x5 x6 _ hw) (cwV 3 hts (lw_V q1579 q1581 qs72 q163 q1582) rfl rfl rfl kX6_find ⟨Nat.le_of_ble_eq_true rfl, Nat.le_of_ble_eq_true rfl⟩) rfl hl.1 rfl (Nat.le_of_ble_eq_true rfl) dX6_take_37 ⟨Nat.le_of_ble_eq_true rfl, Nat.le_of_ble_eq_true rfl⟩) hS (fun r1 locs hw hS => ?_)
    refine lv_istore (lv' := [(10, .int r1), (0, .ref (ga G 6 0)), (1, .ref (adr G a1 k1 i1)), (2, .int x2), (3, .int x3), (4, .int x4), (5, .int x5), (6, .int x6), (7, .int x7), (8, .int x8), (9, .int x9)]) hx hb dX6_take_40 hl (by decide) rfl (fun ls hl => ?_)
    refine lv_iload hx hb dX6_take_42 (lv_at hl 0 rfl) ?_
    refine lv_iconst (v := 4) hx hb dX6_take_44 (by decide) ?_
    refine lv_icmp_ne (tgt := 50) hx hb dX6_take_45 (by decide) (fun h => ?_) (fun h => ?_)
    · have hw := hw.1 h
      refine lv_iload hx hb dX6_take_50 (lv_at hl 0 rfl) ?_
      refine lv_aload_n hx hb dX6_take_52 rfl (lv_at hl 1 rfl) ?_
      refine g6_1 C hH q387 dX6_take_53 ?_
      refine lv_icmp_ne (tgt := 87) hx hb dX6_take_56 (by decide) (fun h => ?_) (fun h => ?_)
      · have hw := hw.1 h
        exact k6_take_J87 C σ k1 i1 x2 x3 x7 x8 r1 hk1 hw H locs ls hH hS (lv_sub hl [1, 2, 3, 4, 8, 9, 0] rfl)
      have hw := hw.2 h
      refine lv_aload_n hx hb dX6_take_59 rfl (lv_at hl 1 rfl) ?_
      refine g6_0 C hH q386 dX6_take_60 ?_
      refine lv_iload hx hb dX6_take_63 (lv_at hl 0 rfl) ?_
      refine l37 C hH hw.1 dX6_take_65 ?_
      obtain ⟨hq8, hw⟩ := hw.2
      refine lv_iload hx hb dX6_take_66 (lv_at hl 5 rfl) ?_
      refine lv_iload hx hb dX6_take_68 (lv_at hl 6 rfl) ?_
      refine lv_iload hx hb dX6_take_70 (lv_at hl 7 rfl) ?_
      refine lv_iload hx hb dX6_take_72 (lv_at hl 10 rfl) ?_
      refine kc_v (rn_v (As := [.int x4, .int x5, .int x6, .int x9]) (rest := []) C hH hS (by decide) rfl hq8 (m7_begin l G a1 τ σ ((σ 37 0 r1.toNatClampNeg).toNatClampNeg) x4 x5 x6 x9 hq8 _ hw) (cwV 4 hts (lw_V q1583 q1584 q1585 q164 q1586) rfl rfl rfl kX7_begin ⟨Nat.le_of_ble_eq_true rfl, Nat.le_of_ble_eq_true rfl⟩) rfl hl.1 rfl (Nat.le_of_ble_eq_true rfl) dX6_take_74 ⟨Nat.le_of_ble_eq_true rfl, Nat.le_of_ble_eq_true rfl⟩) hS (fun σ9 H locs hw hH hS => ?_)
      refine lv_aload_n hx hb dX6_take_77 rfl (lv_at hl 1 rfl) ?_
      refine lv_dup hx hb dX6_take_78 rfl ?_
      refine g6_1 C hH q387 dX6_take_79 ?_
      refine lv_iconst (v := 1) hx hb dX6_take_82 (by decide) ?_
      refine lv_iadd hx hb dX6_take_83 ?_
      refine p6_1 C hH hS q387 dX6_take_84 (fun σ10 e10 H locs hH hS => ?_)
      have hw := hw σ10 e10
      exact k6_take_J87 C σ10 k1 i1 x2 x3 x7 x8 r1 hk1 hw H locs ls hH hS (lv_sub hl [1, 2, 3, 4, 8, 9, 0] rfl)
    have hw := hw.2 h
    refine lv_null hx hb dX6_take_48 ?_
    exact rt_e none C rfl hH hS hw dX6_take_49
  have hw := hw.2 h
  refine lv_null hx hb dX6_take_28 ?_
  exact rt_e none C rfl hH hS hw dX6_take_29
def w6_take (σ : St) (k1 : Nat) (i1 : Nat) (x2 : Int32) (x3 : Int32) (x4 : Int32) (x5 : Int32) (x6 : Int32) (x7 : Int32) (x8 : Int32) (x9 : Int32) (Q : Option Nat → St → Prop) : Prop := (¬ x8 = 0 → w6_take_J18 σ k1 i1 x2 x3 x4 x5 x6 x7 x8 x9 Q) ∧ (x8 = 0 → ((x3 < 8 → Q none σ) ∧ (¬ x3 < 8 → ((¬ (x3 - x3 / 8 * 8) = 0 → Q none σ) ∧ ((x3 - x3 / 8 * 8) = 0 → w6_take_J18 σ k1 i1 x2 x3 x4 x5 x6 x7 x8 x9 Q)))))
set_option maxHeartbeats 4000000 in
theorem m6_take (l : Launch) (G : Gh) (a1 : Nat → Nat → Nat) (τ : St) (σ : St) (k1 : Nat) (i1 : Nat) (x2 : Int32) (x3 : Int32) (x4 : Int32) (x5 : Int32) (x6 : Int32) (x7 : Int32) (x8 : Int32) (x9 : Int32) (hk1 : abc k1 i1 = true) (Q : Option Nat → St → Prop) (hw : w6_take σ k1 i1 x2 x3 x4 x5 x6 x7 x8 x9 Q) : Met l yX6_take (ws_ yX6_take cX6_take 12 (some (.object "WebHost$Making"))) rmX6_take (PcS G a1 (cmb σ τ) [.ref (ga G 6 0), .ref (adr G a1 k1 i1), .int x2, .int x3, .int x4, .int x5, .int x6, .int x7, .int x8, .int x9]) (QEs G a1 7 (fun u => cmb u τ) Q) 0 0 (gA G) := by
  refine met_w (by decide) (Nat.le_of_ble_eq_true rfl) ?_
  intro p e s m below meth c ls C hH hS hl
  have C : Cx p e s m _ meth c cX6_take 12 (some (.object "WebHost$Making")) "WebHost$Fragments" G := C
  have hl : lv_has ls 12 [(0, .ref (ga G 6 0)), (1, .ref (adr G a1 k1 i1)), (2, .int x2), (3, .int x3), (4, .int x4), (5, .int x5), (6, .int x6), (7, .int x7), (8, .int x8), (9, .int x9)] := hl
  have hx := C.1
  have hb := C.2.1
  have hown := C.2.2.2.2.2.1
  have hts := C.2.2.2.2.2.2.1
  obtain ⟨locs, hlocs⟩ : ∃ z : List Loc, z = [] := ⟨_, rfl⟩
  obtain ⟨H, hHe⟩ : ∃ z : Heap, z = s.heap := ⟨_, rfl⟩
  have hH : Hd G a1 (cmb σ τ) H := by rw [hHe]; exact hH
  have hS : va_S (gA G) s.heap H locs := by rw [hHe, hlocs]; exact hS
  refine W.heap0 hHe.symm hlocs.symm ?_
  refine lv_iload hx hb dX6_take_0 (lv_at hl 8 rfl) ?_
  refine lv_if_ne (tgt := 18) hx hb dX6_take_2 (by decide) (fun h => ?_) (fun h => ?_)
  · have hw := hw.1 h
    exact k6_take_J18 C σ k1 i1 x2 x3 x4 x5 x6 x7 x8 x9 hk1 hw H locs ls hH hS (lv_sub hl [0, 1, 2, 3, 4, 5, 6, 7, 8, 9] rfl)
  have hw := hw.2 h
  refine lv_iload_n hx hb dX6_take_5 rfl (lv_at hl 3 rfl) ?_
  refine lv_bipush (v := 8) hx hb dX6_take_6 (by decide) ?_
  refine lv_icmp_lt (tgt := 28) hx hb dX6_take_8 (by decide) (fun h => ?_) (fun h => ?_)
  · have hw := hw.1 h
    refine lv_null hx hb dX6_take_28 ?_
    exact rt_e none C rfl hH hS hw dX6_take_29
  have hw := hw.2 h
  refine lv_iload_n hx hb dX6_take_11 rfl (lv_at hl 3 rfl) ?_
  refine lv_bipush (v := 8) hx hb dX6_take_12 (by decide) ?_
  refine lv_irem hx hb dX6_take_14 (by decide) ?_
  refine lv_if_ne (tgt := 28) hx hb dX6_take_15 (by decide) (fun h => ?_) (fun h => ?_)
  · have hw := hw.1 h
    refine lv_null hx hb dX6_take_28 ?_
    exact rt_e none C rfl hH hS hw dX6_take_29
  have hw := hw.2 h
  exact k6_take_J18 C σ k1 i1 x2 x3 x4 x5 x6 x7 x8 x9 hk1 hw H locs ls hH hS (lv_sub hl [0, 1, 2, 3, 4, 5, 6, 7, 8, 9] rfl)
/-! WebHost$Requests.hexadecimal(I)I -/
abbrev cX9_hexadecimal : ByteArray := prog_11_method_21_code
def yX9_hexadecimal : MethodName := ⟨RX9, "hexadecimal", "(I)I"⟩
theorem dX9_hexadecimal_0 : decode cX9_hexadecimal 0 = .ok (.iload_n 0, 1) := by decide +kernel
theorem dX9_hexadecimal_1 : decode cX9_hexadecimal 1 = .ok (.bipush 48, 2) := by decide +kernel
theorem dX9_hexadecimal_3 : decode cX9_hexadecimal 3 = .ok (.bipush 57, 2) := by decide +kernel
theorem dX9_hexadecimal_5 : decode cX9_hexadecimal 5 = .ok (.invokestatic 60, 3) := by decide +kernel
theorem dX9_hexadecimal_8 : decode cX9_hexadecimal 8 = .ok (.ifCond .eq 10, 3) := by decide +kernel
theorem dX9_hexadecimal_11 : decode cX9_hexadecimal 11 = .ok (.iload_n 0, 1) := by decide +kernel
theorem dX9_hexadecimal_12 : decode cX9_hexadecimal 12 = .ok (.bipush 48, 2) := by decide +kernel
theorem dX9_hexadecimal_14 : decode cX9_hexadecimal 14 = .ok (.isub, 1) := by decide +kernel
theorem dX9_hexadecimal_15 : decode cX9_hexadecimal 15 = .ok (.goto 46, 3) := by decide +kernel
theorem dX9_hexadecimal_18 : decode cX9_hexadecimal 18 = .ok (.iload_n 0, 1) := by decide +kernel
theorem dX9_hexadecimal_19 : decode cX9_hexadecimal 19 = .ok (.bipush 97, 2) := by decide +kernel
theorem dX9_hexadecimal_21 : decode cX9_hexadecimal 21 = .ok (.bipush 102, 2) := by decide +kernel
theorem dX9_hexadecimal_23 : decode cX9_hexadecimal 23 = .ok (.invokestatic 60, 3) := by decide +kernel
theorem dX9_hexadecimal_26 : decode cX9_hexadecimal 26 = .ok (.ifCond .eq 13, 3) := by decide +kernel
theorem dX9_hexadecimal_29 : decode cX9_hexadecimal 29 = .ok (.iload_n 0, 1) := by decide +kernel
theorem dX9_hexadecimal_30 : decode cX9_hexadecimal 30 = .ok (.bipush 97, 2) := by decide +kernel
theorem dX9_hexadecimal_32 : decode cX9_hexadecimal 32 = .ok (.isub, 1) := by decide +kernel
theorem dX9_hexadecimal_33 : decode cX9_hexadecimal 33 = .ok (.bipush 10, 2) := by decide +kernel
theorem dX9_hexadecimal_35 : decode cX9_hexadecimal 35 = .ok (.iadd, 1) := by decide +kernel
theorem dX9_hexadecimal_36 : decode cX9_hexadecimal 36 = .ok (.goto 25, 3) := by decide +kernel
theorem dX9_hexadecimal_39 : decode cX9_hexadecimal 39 = .ok (.iload_n 0, 1) := by decide +kernel
theorem dX9_hexadecimal_40 : decode cX9_hexadecimal 40 = .ok (.bipush 65, 2) := by decide +kernel
theorem dX9_hexadecimal_42 : decode cX9_hexadecimal 42 = .ok (.bipush 70, 2) := by decide +kernel
theorem dX9_hexadecimal_44 : decode cX9_hexadecimal 44 = .ok (.invokestatic 60, 3) := by decide +kernel
theorem dX9_hexadecimal_47 : decode cX9_hexadecimal 47 = .ok (.ifCond .eq 13, 3) := by decide +kernel
theorem dX9_hexadecimal_50 : decode cX9_hexadecimal 50 = .ok (.iload_n 0, 1) := by decide +kernel
theorem dX9_hexadecimal_51 : decode cX9_hexadecimal 51 = .ok (.bipush 65, 2) := by decide +kernel
theorem dX9_hexadecimal_53 : decode cX9_hexadecimal 53 = .ok (.isub, 1) := by decide +kernel
theorem dX9_hexadecimal_54 : decode cX9_hexadecimal 54 = .ok (.bipush 10, 2) := by decide +kernel
theorem dX9_hexadecimal_56 : decode cX9_hexadecimal 56 = .ok (.iadd, 1) := by decide +kernel
theorem dX9_hexadecimal_57 : decode cX9_hexadecimal 57 = .ok (.goto 4, 3) := by decide +kernel
theorem dX9_hexadecimal_60 : decode cX9_hexadecimal 60 = .ok (.iconst (-1), 1) := by decide +kernel
theorem dX9_hexadecimal_61 : decode cX9_hexadecimal 61 = .ok (.ireturn, 1) := by decide +kernel
def rmX9_hexadecimal : Room := { frames := 1, cells := 0, slots := 0, locals := 22 }
theorem kX9_hexadecimal : yX9_hexadecimal.cls = "WebHost$Requests" ∧ yX9_hexadecimal.cls ≠ "java/lang/invoke/MethodHandle" ∧ yX9_hexadecimal.cls ≠ "java/lang/invoke/VarHandle" ∧ (parseMethodDescriptor yX9_hexadecimal.desc).map (fun d => d.parameters.length) = some 1 := by decide +kernel
def w9_hexadecimal (σ : St) (x0 : Int32) (Q : Int32 → Prop) : Prop := w9_isIn σ x0 48 57 (fun r1 => ((r1 = 0 → (w9_isIn σ x0 97 102 (fun r2 => ((r2 = 0 → (w9_isIn σ x0 65 70 (fun r3 => ((r3 = 0 → (Q (-1))) ∧ (¬ r3 = 0 → (Q ((x0 - 65) + 10))))))) ∧ (¬ r2 = 0 → (Q ((x0 - 97) + 10))))))) ∧ (¬ r1 = 0 → (Q (x0 - 48)))))
set_option maxHeartbeats 4000000 in
theorem m9_hexadecimal (l : Launch) (G : Gh) (a1 : Nat → Nat → Nat) (τ : St) (σ : St) (H : Heap) (x0 : Int32) (Q : Int32 → Prop) (hw : w9_hexadecimal σ x0 Q) : Met l yX9_hexadecimal (ws_ yX9_hexadecimal cX9_hexadecimal 1 (some .int)) rmX9_hexadecimal (PcP G a1 (cmb σ τ) H [.int x0]) (QIp G H Q) 0 0 (gA G) := by
  refine met_p (by decide) (Nat.le_of_ble_eq_true rfl) ?_
  intro p e s m below meth c ls hHe C hH hS hl
  have C : Cx p e s m _ meth c cX9_hexadecimal 1 (some .int) "WebHost$Requests" G := C
  have hl : lv_has ls 1 [(0, .int x0)] := hl
  have hx := C.1
  have hb := C.2.1
  have hown := C.2.2.2.2.2.1
  have hts := C.2.2.2.2.2.2.1
  obtain ⟨locs, hlocs⟩ : ∃ z : List Loc, z = [] := ⟨_, rfl⟩
  rw [← hlocs] at hS ⊢
  refine lv_iload_n hx hb dX9_hexadecimal_0 rfl (lv_at hl 0 rfl) ?_
  refine lv_bipush (v := 48) hx hb dX9_hexadecimal_1 (by decide) ?_
  refine lv_bipush (v := 57) hx hb dX9_hexadecimal_3 (by decide) ?_
  refine kc_ip (rn_sp (As := [.int x0, .int 48, .int 57]) (rest := []) C hH hS (m9_isIn l G a1 τ σ H x0 48 57 _ hw) (va_cwS 3 hts (lw_S q1365 q1366 q166 q1367) rfl rfl rfl kX9_isIn.2 ⟨Nat.le_of_ble_eq_true rfl, Nat.le_of_ble_eq_true rfl⟩) rfl hl.1 rfl (Nat.le_of_ble_eq_true rfl) dX9_hexadecimal_5 ⟨Nat.le_of_ble_eq_true rfl, Nat.le_of_ble_eq_true rfl⟩) hS (fun r1 locs hw hS => ?_)
  refine lv_if_eq (tgt := 18) hx hb dX9_hexadecimal_8 (by decide) (fun h => ?_) (fun h => ?_)
  · have hw := hw.1 h
    refine lv_iload_n hx hb dX9_hexadecimal_18 rfl (lv_at hl 0 rfl) ?_
    refine lv_bipush (v := 97) hx hb dX9_hexadecimal_19 (by decide) ?_
    refine lv_bipush (v := 102) hx hb dX9_hexadecimal_21 (by decide) ?_
    refine kc_ip (rn_sp (As := [.int x0, .int 97, .int 102]) (rest := []) C hH hS (m9_isIn l G a1 τ σ H x0 97 102 _ hw) (va_cwS 3 hts (lw_S q1365 q1366 q166 q1367) rfl rfl rfl kX9_isIn.2 ⟨Nat.le_of_ble_eq_true rfl, Nat.le_of_ble_eq_true rfl⟩) rfl hl.1 rfl (Nat.le_of_ble_eq_true rfl) dX9_hexadecimal_23 ⟨Nat.le_of_ble_eq_true rfl, Nat.le_of_ble_eq_true rfl⟩) hS (fun r2 locs hw hS => ?_)
    refine lv_if_eq (tgt := 39) hx hb dX9_hexadecimal_26 (by decide) (fun h => ?_) (fun h => ?_)
    · have hw := hw.1 h
      refine lv_iload_n hx hb dX9_hexadecimal_39 rfl (lv_at hl 0 rfl) ?_
      refine lv_bipush (v := 65) hx hb dX9_hexadecimal_40 (by decide) ?_
      refine lv_bipush (v := 70) hx hb dX9_hexadecimal_42 (by decide) ?_
      refine kc_ip (rn_sp (As := [.int x0, .int 65, .int 70]) (rest := []) C hH hS (m9_isIn l G a1 τ σ H x0 65 70 _ hw) (va_cwS 3 hts (lw_S q1365 q1366 q166 q1367) rfl rfl rfl kX9_isIn.2 ⟨Nat.le_of_ble_eq_true rfl, Nat.le_of_ble_eq_true rfl⟩) rfl hl.1 rfl (Nat.le_of_ble_eq_true rfl) dX9_hexadecimal_44 ⟨Nat.le_of_ble_eq_true rfl, Nat.le_of_ble_eq_true rfl⟩) hS (fun r3 locs hw hS => ?_)
      refine lv_if_eq (tgt := 60) hx hb dX9_hexadecimal_47 (by decide) (fun h => ?_) (fun h => ?_)
      · have hw := hw.1 h
        refine lv_iconst (v := (-1)) hx hb dX9_hexadecimal_60 (by decide) ?_
        exact rt_ip C rfl hS hw dX9_hexadecimal_61
      have hw := hw.2 h
      refine lv_iload_n hx hb dX9_hexadecimal_50 rfl (lv_at hl 0 rfl) ?_
      refine lv_bipush (v := 65) hx hb dX9_hexadecimal_51 (by decide) ?_
      refine lv_isub hx hb dX9_hexadecimal_53 ?_
      refine lv_bipush (v := 10) hx hb dX9_hexadecimal_54 (by decide) ?_
      refine lv_iadd hx hb dX9_hexadecimal_56 ?_
      refine lv_goto (tgt := 61) hx hb dX9_hexadecimal_57 (by decide) ?_
      exact rt_ip C rfl hS hw dX9_hexadecimal_61
    have hw := hw.2 h
    refine lv_iload_n hx hb dX9_hexadecimal_29 rfl (lv_at hl 0 rfl) ?_
    refine lv_bipush (v := 97) hx hb dX9_hexadecimal_30 (by decide) ?_
    refine lv_isub hx hb dX9_hexadecimal_32 ?_
    refine lv_bipush (v := 10) hx hb dX9_hexadecimal_33 (by decide) ?_
    refine lv_iadd hx hb dX9_hexadecimal_35 ?_
    refine lv_goto (tgt := 61) hx hb dX9_hexadecimal_36 (by decide) ?_
    exact rt_ip C rfl hS hw dX9_hexadecimal_61
  have hw := hw.2 h
  refine lv_iload_n hx hb dX9_hexadecimal_11 rfl (lv_at hl 0 rfl) ?_
  refine lv_bipush (v := 48) hx hb dX9_hexadecimal_12 (by decide) ?_
  refine lv_isub hx hb dX9_hexadecimal_14 ?_
  refine lv_goto (tgt := 61) hx hb dX9_hexadecimal_15 (by decide) ?_
  exact rt_ip C rfl hS hw dX9_hexadecimal_61
/-! WebHost$Requests.length(II)V -/
abbrev cX9_length_2 : ByteArray := prog_11_method_15_code
def yX9_length_2 : MethodName := ⟨RX9, "length", "(II)V"⟩
theorem dX9_length_2_0 : decode cX9_length_2 0 = .ok (.aload_n 0, 1) := by decide +kernel
theorem dX9_length_2_1 : decode cX9_length_2 1 = .ok (.dup, 1) := by decide +kernel
theorem dX9_length_2_2 : decode cX9_length_2 2 = .ok (.getfield 144, 3) := by decide +kernel
theorem dX9_length_2_5 : decode cX9_length_2 5 = .ok (.iconst 1, 1) := by decide +kernel
theorem dX9_length_2_6 : decode cX9_length_2 6 = .ok (.iadd, 1) := by decide +kernel
theorem dX9_length_2_7 : decode cX9_length_2 7 = .ok (.putfield 144, 3) := by decide +kernel
theorem dX9_length_2_10 : decode cX9_length_2 10 = .ok (.aload_n 0, 1) := by decide +kernel
theorem dX9_length_2_11 : decode cX9_length_2 11 = .ok (.iload_n 2, 1) := by decide +kernel
theorem dX9_length_2_12 : decode cX9_length_2 12 = .ok (.iload_n 1, 1) := by decide +kernel
theorem dX9_length_2_13 : decode cX9_length_2 13 = .ok (.if_icmp .le 15, 3) := by decide +kernel
theorem dX9_length_2_16 : decode cX9_length_2 16 = .ok (.iload_n 2, 1) := by decide +kernel
theorem dX9_length_2_17 : decode cX9_length_2 17 = .ok (.iload_n 1, 1) := by decide +kernel
theorem dX9_length_2_18 : decode cX9_length_2 18 = .ok (.isub, 1) := by decide +kernel
theorem dX9_length_2_19 : decode cX9_length_2 19 = .ok (.bipush 9, 2) := by decide +kernel
theorem dX9_length_2_21 : decode cX9_length_2 21 = .ok (.if_icmp .gt 7, 3) := by decide +kernel
theorem dX9_length_2_24 : decode cX9_length_2 24 = .ok (.iconst 1, 1) := by decide +kernel
theorem dX9_length_2_25 : decode cX9_length_2 25 = .ok (.goto 4, 3) := by decide +kernel
theorem dX9_length_2_28 : decode cX9_length_2 28 = .ok (.iconst 0, 1) := by decide +kernel
theorem dX9_length_2_29 : decode cX9_length_2 29 = .ok (.putfield 147, 3) := by decide +kernel
theorem dX9_length_2_32 : decode cX9_length_2 32 = .ok (.aload_n 0, 1) := by decide +kernel
theorem dX9_length_2_33 : decode cX9_length_2 33 = .ok (.iconst 0, 1) := by decide +kernel
theorem dX9_length_2_34 : decode cX9_length_2 34 = .ok (.putfield 150, 3) := by decide +kernel
theorem dX9_length_2_37 : decode cX9_length_2 37 = .ok (.iload_n 1, 1) := by decide +kernel
theorem dX9_length_2_38 : decode cX9_length_2 38 = .ok (.istore_n 3, 1) := by decide +kernel
theorem dX9_length_2_39 : decode cX9_length_2 39 = .ok (.iload_n 3, 1) := by decide +kernel
theorem dX9_length_2_40 : decode cX9_length_2 40 = .ok (.iload_n 2, 1) := by decide +kernel
theorem dX9_length_2_41 : decode cX9_length_2 41 = .ok (.if_icmp .ge 54, 3) := by decide +kernel
theorem dX9_length_2_44 : decode cX9_length_2 44 = .ok (.aload_n 0, 1) := by decide +kernel
theorem dX9_length_2_45 : decode cX9_length_2 45 = .ok (.getfield 147, 3) := by decide +kernel
theorem dX9_length_2_48 : decode cX9_length_2 48 = .ok (.ifCond .eq 47, 3) := by decide +kernel
theorem dX9_length_2_51 : decode cX9_length_2 51 = .ok (.aload_n 0, 1) := by decide +kernel
theorem dX9_length_2_52 : decode cX9_length_2 52 = .ok (.aload_n 0, 1) := by decide +kernel
theorem dX9_length_2_53 : decode cX9_length_2 53 = .ok (.getfield 9, 3) := by decide +kernel
theorem dX9_length_2_56 : decode cX9_length_2 56 = .ok (.iload_n 3, 1) := by decide +kernel
theorem dX9_length_2_57 : decode cX9_length_2 57 = .ok (.baload, 1) := by decide +kernel
theorem dX9_length_2_58 : decode cX9_length_2 58 = .ok (.bipush 48, 2) := by decide +kernel
theorem dX9_length_2_60 : decode cX9_length_2 60 = .ok (.bipush 57, 2) := by decide +kernel
theorem dX9_length_2_62 : decode cX9_length_2 62 = .ok (.invokestatic 60, 3) := by decide +kernel
theorem dX9_length_2_65 : decode cX9_length_2 65 = .ok (.putfield 147, 3) := by decide +kernel
theorem dX9_length_2_68 : decode cX9_length_2 68 = .ok (.aload_n 0, 1) := by decide +kernel
theorem dX9_length_2_69 : decode cX9_length_2 69 = .ok (.bipush 10, 2) := by decide +kernel
theorem dX9_length_2_71 : decode cX9_length_2 71 = .ok (.aload_n 0, 1) := by decide +kernel
theorem dX9_length_2_72 : decode cX9_length_2 72 = .ok (.getfield 150, 3) := by decide +kernel
theorem dX9_length_2_75 : decode cX9_length_2 75 = .ok (.imul, 1) := by decide +kernel
theorem dX9_length_2_76 : decode cX9_length_2 76 = .ok (.aload_n 0, 1) := by decide +kernel
theorem dX9_length_2_77 : decode cX9_length_2 77 = .ok (.getfield 9, 3) := by decide +kernel
theorem dX9_length_2_80 : decode cX9_length_2 80 = .ok (.iload_n 3, 1) := by decide +kernel
theorem dX9_length_2_81 : decode cX9_length_2 81 = .ok (.baload, 1) := by decide +kernel
theorem dX9_length_2_82 : decode cX9_length_2 82 = .ok (.iadd, 1) := by decide +kernel
theorem dX9_length_2_83 : decode cX9_length_2 83 = .ok (.bipush 48, 2) := by decide +kernel
theorem dX9_length_2_85 : decode cX9_length_2 85 = .ok (.isub, 1) := by decide +kernel
theorem dX9_length_2_86 : decode cX9_length_2 86 = .ok (.putfield 150, 3) := by decide +kernel
theorem dX9_length_2_89 : decode cX9_length_2 89 = .ok (.iinc 3 1, 3) := by decide +kernel
theorem dX9_length_2_92 : decode cX9_length_2 92 = .ok (.goto (-53), 3) := by decide +kernel
theorem dX9_length_2_95 : decode cX9_length_2 95 = .ok (.return_, 1) := by decide +kernel
def rmX9_length_2 : Room := { frames := 1, cells := 0, slots := 0, locals := 22 }
theorem kX9_length_2 : yX9_length_2.cls = "WebHost$Requests" ∧ yX9_length_2.cls ≠ "java/lang/invoke/MethodHandle" ∧ yX9_length_2.cls ≠ "java/lang/invoke/VarHandle" ∧ (parseMethodDescriptor yX9_length_2.desc).map (fun d => d.parameters.length) = some 2 := by decide +kernel
def w9_length_2_L39 (x2 : Int32) (Q : St → Prop) (K95 : St → Prop) : Nat → St → Int32 → Prop
  | 0, _, _ => False
  | n + 1, σ, x3 => (x2 ≤ x3 → K95 σ) ∧ (¬ x2 ≤ x3 → (bo (σ 9 0 13) → (((σ 9 0 13) = 0 → K95 σ) ∧ (¬ (σ 9 0 13) = 0 → (vp_in x3 4096 ∧ (by8 (σ 40 0 x3.toNatClampNeg) → (w9_isIn σ (σ 40 0 x3.toNatClampNeg) 48 57 (fun r4 => (bo r4 ∧ (∀ σ5, σ5 = up3 σ 9 0 13 r4 → (vp_in x3 4096 ∧ (by8 (σ5 40 0 x3.toNatClampNeg) → (∀ σ6, σ6 = up3 σ5 9 0 9 (((10 * (σ5 9 0 9)) + (σ5 40 0 x3.toNatClampNeg)) - 48) → (w9_length_2_L39 x2 Q K95 n σ6 (x3 + 1)))))))))))))))
set_option maxHeartbeats 4000000 in
theorem k9_length_2_L39 {p : Program} {l : Launch} {e : Env} {s : State} {m : MethodId} {args : Array Value} {below : List Frame} {meth : Method} {c : Code} {G : Gh} {a1 : Nat → Nat → Nat} {τ : St} {Q : St → Prop} {K95 : St → Prop} (C : Cx p e s m args meth c cX9_length_2 4 none "WebHost$Requests" G) (x2 : Int32) :
    ∀ (n : Nat) (σ : St) (x3 : Int32), w9_length_2_L39 x2 Q K95 n σ x3 → ∀ (H : Heap) (locs : List Loc) (ls : Array Slot), Hd G a1 (cmb σ τ) H → va_S (gA G) s.heap H locs → lv_has ls 4 [(0, .ref (ga G 9 0)), (2, .int x2), (3, .int x3)] → (∀ (σ : St) , K95 σ → ∀ (H : Heap) (locs : List Loc) (ls : Array Slot), Hd G a1 (cmb σ τ) H → va_S (gA G) s.heap H locs → lv_has ls 4 [] → W p l e rmX9_length_2 s m args below meth c H locs 0 0 (MQ below (QVs G a1 (fun u => cmb u τ) Q) args s 0 0 (gA G)) (F0 m 95 ls [])) → W p l e rmX9_length_2 s m args below meth c H locs 0 0 (MQ below (QVs G a1 (fun u => cmb u τ) Q) args s 0 0 (gA G)) (F0 m 39 ls []) := by
  have hx := C.1
  have hb := C.2.1
  have hown := C.2.2.2.2.2.1
  have hts := C.2.2.2.2.2.2.1
  intro n
  induction n with
  | zero =>
    intro σ x3 hw
    exact False.elim hw
  | succ n ih =>
    intro σ x3 hw H locs ls hH hS hl hK95
    refine lv_iload_n hx hb dX9_length_2_39 rfl (lv_at hl 2 rfl) ?_
    refine lv_iload_n hx hb dX9_length_2_40 rfl (lv_at hl 1 rfl) ?_
    refine lv_icmp_ge (tgt := 95) hx hb dX9_length_2_41 (by decide) (fun h => ?_) (fun h => ?_)
    · have hw := hw.1 h
      exact hK95 σ hw H locs ls hH hS (lv_sub hl [] rfl)
    have hw := hw.2 h
    refine lv_aload_n hx hb dX9_length_2_44 rfl (lv_at hl 0 rfl) ?_
    refine g9_13 C hH q461 dX9_length_2_45 (fun hz => ?_)
    have hw := hw hz
    refine lv_if_eq (tgt := 95) hx hb dX9_length_2_48 (by decide) (fun h => ?_) (fun h => ?_)
    · have hw := hw.1 h
      exact hK95 σ hw H locs ls hH hS (lv_sub hl [] rfl)
    have hw := hw.2 h
    refine lv_aload_n hx hb dX9_length_2_51 rfl (lv_at hl 0 rfl) ?_
    refine lv_aload_n hx hb dX9_length_2_52 rfl (lv_at hl 0 rfl) ?_
    refine g9_1 C hH q449 dX9_length_2_53 ?_
    refine lv_iload_n hx hb dX9_length_2_56 rfl (lv_at hl 2 rfl) ?_
    refine l40 C hH hw.1 dX9_length_2_57 (fun hz => ?_)
    have hw := hw.2 hz
    refine lv_bipush (v := 48) hx hb dX9_length_2_58 (by decide) ?_
    refine lv_bipush (v := 57) hx hb dX9_length_2_60 (by decide) ?_
    refine kc_ip (rn_sp (As := [.int (σ 40 0 x3.toNatClampNeg), .int 48, .int 57]) (rest := [.ref (ga G 9 0)]) C hH hS (m9_isIn l G a1 τ σ H (σ 40 0 x3.toNatClampNeg) 48 57 _ hw) (va_cwS 3 hts (lw_S q1365 q1366 q166 q1367) rfl rfl rfl kX9_isIn.2 ⟨Nat.le_of_ble_eq_true rfl, Nat.le_of_ble_eq_true rfl⟩) rfl hl.1 rfl (Nat.le_of_ble_eq_true rfl) dX9_length_2_62 ⟨Nat.le_of_ble_eq_true rfl, Nat.le_of_ble_eq_true rfl⟩) hS (fun r4 locs hw hS => ?_)
    refine p9_13 C hH hS hw.1 q461 dX9_length_2_65 (fun σ5 e5 H locs hH hS => ?_)
    have hw := hw.2 σ5 e5
    refine lv_aload_n hx hb dX9_length_2_68 rfl (lv_at hl 0 rfl) ?_
    refine lv_bipush (v := 10) hx hb dX9_length_2_69 (by decide) ?_
    refine lv_aload_n hx hb dX9_length_2_71 rfl (lv_at hl 0 rfl) ?_
    refine g9_9 C hH q457 dX9_length_2_72 ?_
    refine lv_imul hx hb dX9_length_2_75 ?_
    refine lv_aload_n hx hb dX9_length_2_76 rfl (lv_at hl 0 rfl) ?_
    refine g9_1 C hH q449 dX9_length_2_77 ?_
    refine lv_iload_n hx hb dX9_length_2_80 rfl (lv_at hl 2 rfl) ?_
    refine l40 C hH hw.1 dX9_length_2_81 (fun hz => ?_)
    have hw := hw.2 hz
    refine lv_iadd hx hb dX9_length_2_82 ?_
    refine lv_bipush (v := 48) hx hb dX9_length_2_83 (by decide) ?_
    refine lv_isub hx hb dX9_length_2_85 ?_
    refine p9_9 C hH hS q457 dX9_length_2_86 (fun σ6 e6 H locs hH hS => ?_)
    have hw := hw σ6 e6
    refine lv_iinc (v := x3 + 1) (lv' := [(3, .int (x3 + 1)), (0, .ref (ga G 9 0)), (2, .int x2)]) hx hb dX9_length_2_89 hl (k := 2) rfl rfl (by decide) rfl (fun ls hl => ?_)
    refine lv_goto (tgt := 39) hx hb dX9_length_2_92 (by decide) ?_
    exact ih σ6 (x3 + 1) hw H locs ls hH hS (lv_sub hl [1, 2, 0] rfl) hK95
def w9_length_2 (σ : St) (x1 : Int32) (x2 : Int32) (Q : St → Prop) : Prop := ∀ σ1, σ1 = up3 σ 9 0 8 ((σ 9 0 8) + 1) → ((x2 ≤ x1 → (∀ σ2, σ2 = up3 σ1 9 0 13 0 → (∀ σ3, σ3 = up3 σ2 9 0 9 0 → (∃ z7, w9_length_2_L39 x2 Q (fun σ8 => Q σ8) z7 σ3 x1)))) ∧ (¬ x2 ≤ x1 → ((9 < (x2 - x1) → (∀ σ9, σ9 = up3 σ1 9 0 13 0 → (∀ σ10, σ10 = up3 σ9 9 0 9 0 → (∃ z11, w9_length_2_L39 x2 Q (fun σ12 => Q σ12) z11 σ10 x1)))) ∧ (¬ 9 < (x2 - x1) → (∀ σ13, σ13 = up3 σ1 9 0 13 1 → (∀ σ14, σ14 = up3 σ13 9 0 9 0 → (∃ z15, w9_length_2_L39 x2 Q (fun σ16 => Q σ16) z15 σ14 x1)))))))
set_option maxHeartbeats 4000000 in
theorem m9_length_2 (l : Launch) (G : Gh) (a1 : Nat → Nat → Nat) (τ : St) (σ : St) (x1 : Int32) (x2 : Int32) (Q : St → Prop) (hw : w9_length_2 σ x1 x2 Q) : Met l yX9_length_2 (ws_ yX9_length_2 cX9_length_2 4 none) rmX9_length_2 (PcS G a1 (cmb σ τ) [.ref (ga G 9 0), .int x1, .int x2]) (QVs G a1 (fun u => cmb u τ) Q) 0 0 (gA G) := by
  refine met_w (by decide) (Nat.le_of_ble_eq_true rfl) ?_
  intro p e s m below meth c ls C hH hS hl
  have C : Cx p e s m _ meth c cX9_length_2 4 none "WebHost$Requests" G := C
  have hl : lv_has ls 4 [(0, .ref (ga G 9 0)), (1, .int x1), (2, .int x2)] := hl
  have hx := C.1
  have hb := C.2.1
  have hown := C.2.2.2.2.2.1
  have hts := C.2.2.2.2.2.2.1
  obtain ⟨locs, hlocs⟩ : ∃ z : List Loc, z = [] := ⟨_, rfl⟩
  obtain ⟨H, hHe⟩ : ∃ z : Heap, z = s.heap := ⟨_, rfl⟩
  have hH : Hd G a1 (cmb σ τ) H := by rw [hHe]; exact hH
  have hS : va_S (gA G) s.heap H locs := by rw [hHe, hlocs]; exact hS
  refine W.heap0 hHe.symm hlocs.symm ?_
  refine lv_aload_n hx hb dX9_length_2_0 rfl (lv_at hl 0 rfl) ?_
  refine lv_dup hx hb dX9_length_2_1 rfl ?_
  refine g9_8 C hH q456 dX9_length_2_2 ?_
  refine lv_iconst (v := 1) hx hb dX9_length_2_5 (by decide) ?_
  refine lv_iadd hx hb dX9_length_2_6 ?_
  refine p9_8 C hH hS q456 dX9_length_2_7 (fun σ1 e1 H locs hH hS => ?_)
  have hw := hw σ1 e1
  refine lv_aload_n hx hb dX9_length_2_10 rfl (lv_at hl 0 rfl) ?_
  refine lv_iload_n hx hb dX9_length_2_11 rfl (lv_at hl 2 rfl) ?_
  refine lv_iload_n hx hb dX9_length_2_12 rfl (lv_at hl 1 rfl) ?_
  refine lv_icmp_le (tgt := 28) hx hb dX9_length_2_13 (by decide) (fun h => ?_) (fun h => ?_)
  · have hw := hw.1 h
    refine lv_iconst (v := 0) hx hb dX9_length_2_28 (by decide) ?_
    refine p9_13 C hH hS (Or.inl rfl) q461 dX9_length_2_29 (fun σ2 e2 H locs hH hS => ?_)
    have hw := hw σ2 e2
    refine lv_aload_n hx hb dX9_length_2_32 rfl (lv_at hl 0 rfl) ?_
    refine lv_iconst (v := 0) hx hb dX9_length_2_33 (by decide) ?_
    refine p9_9 C hH hS q457 dX9_length_2_34 (fun σ3 e3 H locs hH hS => ?_)
    have hw := hw σ3 e3
    refine lv_iload_n hx hb dX9_length_2_37 rfl (lv_at hl 1 rfl) ?_
    refine lv_istore_n (lv' := [(3, .int x1), (0, .ref (ga G 9 0)), (1, .int x1), (2, .int x2)]) hx hb dX9_length_2_38 rfl hl (by decide) rfl (fun ls hl => ?_)
    obtain ⟨n7, hw⟩ := hw
    refine k9_length_2_L39 C x2 n7 σ3 x1 hw H locs ls hH hS (lv_sub hl [1, 3, 0] rfl) (fun σ8 hw H locs ls hH hS hl => ?_)
    exact rt_v C hH hS hw dX9_length_2_95
  have hw := hw.2 h
  refine lv_iload_n hx hb dX9_length_2_16 rfl (lv_at hl 2 rfl) ?_
  refine lv_iload_n hx hb dX9_length_2_17 rfl (lv_at hl 1 rfl) ?_
  refine lv_isub hx hb dX9_length_2_18 ?_
  refine lv_bipush (v := 9) hx hb dX9_length_2_19 (by decide) ?_
  refine lv_icmp_gt (tgt := 28) hx hb dX9_length_2_21 (by decide) (fun h => ?_) (fun h => ?_)
  · have hw := hw.1 h
    refine lv_iconst (v := 0) hx hb dX9_length_2_28 (by decide) ?_
    refine p9_13 C hH hS (Or.inl rfl) q461 dX9_length_2_29 (fun σ9 e9 H locs hH hS => ?_)
    have hw := hw σ9 e9
    refine lv_aload_n hx hb dX9_length_2_32 rfl (lv_at hl 0 rfl) ?_
    refine lv_iconst (v := 0) hx hb dX9_length_2_33 (by decide) ?_
    refine p9_9 C hH hS q457 dX9_length_2_34 (fun σ10 e10 H locs hH hS => ?_)
    have hw := hw σ10 e10
    refine lv_iload_n hx hb dX9_length_2_37 rfl (lv_at hl 1 rfl) ?_
    refine lv_istore_n (lv' := [(3, .int x1), (0, .ref (ga G 9 0)), (1, .int x1), (2, .int x2)]) hx hb dX9_length_2_38 rfl hl (by decide) rfl (fun ls hl => ?_)
    obtain ⟨n11, hw⟩ := hw
    refine k9_length_2_L39 C x2 n11 σ10 x1 hw H locs ls hH hS (lv_sub hl [1, 3, 0] rfl) (fun σ12 hw H locs ls hH hS hl => ?_)
    exact rt_v C hH hS hw dX9_length_2_95
  have hw := hw.2 h
  refine lv_iconst (v := 1) hx hb dX9_length_2_24 (by decide) ?_
  refine lv_goto (tgt := 29) hx hb dX9_length_2_25 (by decide) ?_
  refine p9_13 C hH hS (Or.inr rfl) q461 dX9_length_2_29 (fun σ13 e13 H locs hH hS => ?_)
  have hw := hw σ13 e13
  refine lv_aload_n hx hb dX9_length_2_32 rfl (lv_at hl 0 rfl) ?_
  refine lv_iconst (v := 0) hx hb dX9_length_2_33 (by decide) ?_
  refine p9_9 C hH hS q457 dX9_length_2_34 (fun σ14 e14 H locs hH hS => ?_)
  have hw := hw σ14 e14
  refine lv_iload_n hx hb dX9_length_2_37 rfl (lv_at hl 1 rfl) ?_
  refine lv_istore_n (lv' := [(3, .int x1), (0, .ref (ga G 9 0)), (1, .int x1), (2, .int x2)]) hx hb dX9_length_2_38 rfl hl (by decide) rfl (fun ls hl => ?_)
  obtain ⟨n15, hw⟩ := hw
  refine k9_length_2_L39 C x2 n15 σ14 x1 hw H locs ls hH hS (lv_sub hl [1, 3, 0] rfl) (fun σ16 hw H locs ls hH hS hl => ?_)
  exact rt_v C hH hS hw dX9_length_2_95
/-! WebHost$Requests.small(I)I -/
abbrev cX9_small : ByteArray := prog_11_method_7_code
def yX9_small : MethodName := ⟨RX9, "small", "(I)I"⟩
theorem dX9_small_0 : decode cX9_small 0 = .ok (.iload_n 0, 1) := by decide +kernel
theorem dX9_small_1 : decode cX9_small 1 = .ok (.bipush 65, 2) := by decide +kernel
theorem dX9_small_3 : decode cX9_small 3 = .ok (.bipush 90, 2) := by decide +kernel
theorem dX9_small_5 : decode cX9_small 5 = .ok (.invokestatic 60, 3) := by decide +kernel
theorem dX9_small_8 : decode cX9_small 8 = .ok (.ifCond .eq 10, 3) := by decide +kernel
theorem dX9_small_11 : decode cX9_small 11 = .ok (.iload_n 0, 1) := by decide +kernel
theorem dX9_small_12 : decode cX9_small 12 = .ok (.bipush 32, 2) := by decide +kernel
theorem dX9_small_14 : decode cX9_small 14 = .ok (.iadd, 1) := by decide +kernel
theorem dX9_small_15 : decode cX9_small 15 = .ok (.goto 4, 3) := by decide +kernel
theorem dX9_small_18 : decode cX9_small 18 = .ok (.iload_n 0, 1) := by decide +kernel
theorem dX9_small_19 : decode cX9_small 19 = .ok (.ireturn, 1) := by decide +kernel
def rmX9_small : Room := { frames := 1, cells := 0, slots := 0, locals := 22 }
theorem kX9_small : yX9_small.cls = "WebHost$Requests" ∧ yX9_small.cls ≠ "java/lang/invoke/MethodHandle" ∧ yX9_small.cls ≠ "java/lang/invoke/VarHandle" ∧ (parseMethodDescriptor yX9_small.desc).map (fun d => d.parameters.length) = some 1 := by decide +kernel
def w9_small (σ : St) (x0 : Int32) (Q : Int32 → Prop) : Prop := w9_isIn σ x0 65 90 (fun r1 => ((r1 = 0 → Q x0) ∧ (¬ r1 = 0 → (Q (x0 + 32)))))
set_option maxHeartbeats 4000000 in
theorem m9_small (l : Launch) (G : Gh) (a1 : Nat → Nat → Nat) (τ : St) (σ : St) (H : Heap) (x0 : Int32) (Q : Int32 → Prop) (hw : w9_small σ x0 Q) : Met l yX9_small (ws_ yX9_small cX9_small 1 (some .int)) rmX9_small (PcP G a1 (cmb σ τ) H [.int x0]) (QIp G H Q) 0 0 (gA G) := by
  refine met_p (by decide) (Nat.le_of_ble_eq_true rfl) ?_
  intro p e s m below meth c ls hHe C hH hS hl
  have C : Cx p e s m _ meth c cX9_small 1 (some .int) "WebHost$Requests" G := C
  have hl : lv_has ls 1 [(0, .int x0)] := hl
  have hx := C.1
  have hb := C.2.1
  have hown := C.2.2.2.2.2.1
  have hts := C.2.2.2.2.2.2.1
  obtain ⟨locs, hlocs⟩ : ∃ z : List Loc, z = [] := ⟨_, rfl⟩
  rw [← hlocs] at hS ⊢
  refine lv_iload_n hx hb dX9_small_0 rfl (lv_at hl 0 rfl) ?_
  refine lv_bipush (v := 65) hx hb dX9_small_1 (by decide) ?_
  refine lv_bipush (v := 90) hx hb dX9_small_3 (by decide) ?_
  refine kc_ip (rn_sp (As := [.int x0, .int 65, .int 90]) (rest := []) C hH hS (m9_isIn l G a1 τ σ H x0 65 90 _ hw) (va_cwS 3 hts (lw_S q1365 q1366 q166 q1367) rfl rfl rfl kX9_isIn.2 ⟨Nat.le_of_ble_eq_true rfl, Nat.le_of_ble_eq_true rfl⟩) rfl hl.1 rfl (Nat.le_of_ble_eq_true rfl) dX9_small_5 ⟨Nat.le_of_ble_eq_true rfl, Nat.le_of_ble_eq_true rfl⟩) hS (fun r1 locs hw hS => ?_)
  refine lv_if_eq (tgt := 18) hx hb dX9_small_8 (by decide) (fun h => ?_) (fun h => ?_)
  · have hw := hw.1 h
    refine lv_iload_n hx hb dX9_small_18 rfl (lv_at hl 0 rfl) ?_
    exact rt_ip C rfl hS hw dX9_small_19
  have hw := hw.2 h
  refine lv_iload_n hx hb dX9_small_11 rfl (lv_at hl 0 rfl) ?_
  refine lv_bipush (v := 32) hx hb dX9_small_12 (by decide) ?_
  refine lv_iadd hx hb dX9_small_14 ?_
  refine lv_goto (tgt := 19) hx hb dX9_small_15 (by decide) ?_
  exact rt_ip C rfl hS hw dX9_small_19
/-! WebHost$Segment.end()I -/
abbrev cX10_end : ByteArray := prog_12_method_4_code
def yX10_end : MethodName := ⟨RX10, "end", "()I"⟩
theorem dX10_end_0 : decode cX10_end 0 = .ok (.aload_n 0, 1) := by decide +kernel
theorem dX10_end_1 : decode cX10_end 1 = .ok (.getfield 22, 3) := by decide +kernel
theorem dX10_end_4 : decode cX10_end 4 = .ok (.aload_n 0, 1) := by decide +kernel
theorem dX10_end_5 : decode cX10_end 5 = .ok (.iconst 2, 1) := by decide +kernel
theorem dX10_end_6 : decode cX10_end 6 = .ok (.invokevirtual 18, 3) := by decide +kernel
theorem dX10_end_9 : decode cX10_end 9 = .ok (.ifCond .eq 7, 3) := by decide +kernel
theorem dX10_end_12 : decode cX10_end 12 = .ok (.iconst 1, 1) := by decide +kernel
theorem dX10_end_13 : decode cX10_end 13 = .ok (.goto 4, 3) := by decide +kernel
theorem dX10_end_16 : decode cX10_end 16 = .ok (.iconst 0, 1) := by decide +kernel
theorem dX10_end_17 : decode cX10_end 17 = .ok (.iadd, 1) := by decide +kernel
theorem dX10_end_18 : decode cX10_end 18 = .ok (.aload_n 0, 1) := by decide +kernel
theorem dX10_end_19 : decode cX10_end 19 = .ok (.getfield 15, 3) := by decide +kernel
theorem dX10_end_22 : decode cX10_end 22 = .ok (.iadd, 1) := by decide +kernel
theorem dX10_end_23 : decode cX10_end 23 = .ok (.ireturn, 1) := by decide +kernel
def rmX10_end : Room := { frames := 1, cells := 0, slots := 0, locals := 21 }
theorem kX10_end : yX10_end.cls = "WebHost$Segment" ∧ yX10_end.cls ≠ "java/lang/invoke/MethodHandle" ∧ yX10_end.cls ≠ "java/lang/invoke/VarHandle" ∧ (parseMethodDescriptor yX10_end.desc).map (fun d => d.parameters.length) = some 0 := by decide +kernel
def w10_end (σ : St) (Q : Int32 → Prop) : Prop := w10_has σ 2 (fun r1 => ((r1 = 0 → (Q (((σ 10 0 3) + 0) + (σ 10 0 9)))) ∧ (¬ r1 = 0 → (Q (((σ 10 0 3) + 1) + (σ 10 0 9))))))
set_option maxHeartbeats 4000000 in
theorem m10_end (l : Launch) (G : Gh) (a1 : Nat → Nat → Nat) (τ : St) (σ : St) (H : Heap) (Q : Int32 → Prop) (hw : w10_end σ Q) : Met l yX10_end (ws_ yX10_end cX10_end 1 (some .int)) rmX10_end (PcP G a1 (cmb σ τ) H [.ref (ga G 10 0)]) (QIp G H Q) 0 0 (gA G) := by
  refine met_p (by decide) (Nat.le_of_ble_eq_true rfl) ?_
  intro p e s m below meth c ls hHe C hH hS hl
  have C : Cx p e s m _ meth c cX10_end 1 (some .int) "WebHost$Segment" G := C
  have hl : lv_has ls 1 [(0, .ref (ga G 10 0))] := hl
  have hx := C.1
  have hb := C.2.1
  have hown := C.2.2.2.2.2.1
  have hts := C.2.2.2.2.2.2.1
  obtain ⟨locs, hlocs⟩ : ∃ z : List Loc, z = [] := ⟨_, rfl⟩
  rw [← hlocs] at hS ⊢
  refine lv_aload_n hx hb dX10_end_0 rfl (lv_at hl 0 rfl) ?_
  refine g10_3 C hH q525 dX10_end_1 ?_
  refine lv_aload_n hx hb dX10_end_4 rfl (lv_at hl 0 rfl) ?_
  refine lv_iconst (v := 2) hx hb dX10_end_5 (by decide) ?_
  refine kc_ip (rn_vp (As := [.int 2]) (rest := [.int (σ 10 0 3)]) C hH hS (by decide) rfl (by decide) (m10_has l G a1 τ σ H 2 _ hw) (cwV 1 hts (lw_V q1148 q1149 q1150 q167 q1151) rfl rfl rfl kX10_has ⟨Nat.le_of_ble_eq_true rfl, Nat.le_of_ble_eq_true rfl⟩) rfl hl.1 rfl (Nat.le_of_ble_eq_true rfl) dX10_end_6 ⟨Nat.le_of_ble_eq_true rfl, Nat.le_of_ble_eq_true rfl⟩) hS (fun r1 locs hw hS => ?_)
  refine lv_if_eq (tgt := 16) hx hb dX10_end_9 (by decide) (fun h => ?_) (fun h => ?_)
  · have hw := hw.1 h
    refine lv_iconst (v := 0) hx hb dX10_end_16 (by decide) ?_
    refine lv_iadd hx hb dX10_end_17 ?_
    refine lv_aload_n hx hb dX10_end_18 rfl (lv_at hl 0 rfl) ?_
    refine g10_9 C hH q538 dX10_end_19 ?_
    refine lv_iadd hx hb dX10_end_22 ?_
    exact rt_ip C rfl hS hw dX10_end_23
  have hw := hw.2 h
  refine lv_iconst (v := 1) hx hb dX10_end_12 (by decide) ?_
  refine lv_goto (tgt := 17) hx hb dX10_end_13 (by decide) ?_
  refine lv_iadd hx hb dX10_end_17 ?_
  refine lv_aload_n hx hb dX10_end_18 rfl (lv_at hl 0 rfl) ?_
  refine g10_9 C hH q538 dX10_end_19 ?_
  refine lv_iadd hx hb dX10_end_22 ?_
  exact rt_ip C rfl hS hw dX10_end_23
/-! WebHost$Segment.option(II)I -/
abbrev cX10_option : ByteArray := prog_12_method_6_code
def yX10_option : MethodName := ⟨RX10, "option", "(II)I"⟩
theorem dX10_option_0 : decode cX10_option 0 = .ok (.iload_n 1, 1) := by decide +kernel
theorem dX10_option_1 : decode cX10_option 1 = .ok (.istore_n 3, 1) := by decide +kernel
theorem dX10_option_2 : decode cX10_option 2 = .ok (.iload_n 3, 1) := by decide +kernel
theorem dX10_option_3 : decode cX10_option 3 = .ok (.iload_n 2, 1) := by decide +kernel
theorem dX10_option_4 : decode cX10_option 4 = .ok (.if_icmp .ge 121, 3) := by decide +kernel
theorem dX10_option_7 : decode cX10_option 7 = .ok (.aload_n 0, 1) := by decide +kernel
theorem dX10_option_8 : decode cX10_option 8 = .ok (.getfield 58, 3) := by decide +kernel
theorem dX10_option_11 : decode cX10_option 11 = .ok (.iload_n 3, 1) := by decide +kernel
theorem dX10_option_12 : decode cX10_option 12 = .ok (.baload, 1) := by decide +kernel
theorem dX10_option_13 : decode cX10_option 13 = .ok (.sipush 255, 3) := by decide +kernel
theorem dX10_option_16 : decode cX10_option 16 = .ok (.iand, 1) := by decide +kernel
theorem dX10_option_17 : decode cX10_option 17 = .ok (.istore 4, 2) := by decide +kernel
theorem dX10_option_19 : decode cX10_option 19 = .ok (.iload 4, 2) := by decide +kernel
theorem dX10_option_21 : decode cX10_option 21 = .ok (.ifCond .ne 7, 3) := by decide +kernel
theorem dX10_option_24 : decode cX10_option 24 = .ok (.sipush 536, 3) := by decide +kernel
theorem dX10_option_27 : decode cX10_option 27 = .ok (.ireturn, 1) := by decide +kernel
theorem dX10_option_28 : decode cX10_option 28 = .ok (.iload 4, 2) := by decide +kernel
theorem dX10_option_30 : decode cX10_option 30 = .ok (.iconst 1, 1) := by decide +kernel
theorem dX10_option_31 : decode cX10_option 31 = .ok (.if_icmp .ne 9, 3) := by decide +kernel
theorem dX10_option_34 : decode cX10_option 34 = .ok (.iinc 3 1, 3) := by decide +kernel
theorem dX10_option_37 : decode cX10_option 37 = .ok (.goto 85, 3) := by decide +kernel
theorem dX10_option_40 : decode cX10_option 40 = .ok (.iload_n 3, 1) := by decide +kernel
theorem dX10_option_41 : decode cX10_option 41 = .ok (.iconst 1, 1) := by decide +kernel
theorem dX10_option_42 : decode cX10_option 42 = .ok (.iadd, 1) := by decide +kernel
theorem dX10_option_43 : decode cX10_option 43 = .ok (.iload_n 2, 1) := by decide +kernel
theorem dX10_option_44 : decode cX10_option 44 = .ok (.if_icmp .ge 18, 3) := by decide +kernel
theorem dX10_option_47 : decode cX10_option 47 = .ok (.aload_n 0, 1) := by decide +kernel
theorem dX10_option_48 : decode cX10_option 48 = .ok (.getfield 58, 3) := by decide +kernel
theorem dX10_option_51 : decode cX10_option 51 = .ok (.iload_n 3, 1) := by decide +kernel
theorem dX10_option_52 : decode cX10_option 52 = .ok (.iconst 1, 1) := by decide +kernel
theorem dX10_option_53 : decode cX10_option 53 = .ok (.iadd, 1) := by decide +kernel
theorem dX10_option_54 : decode cX10_option 54 = .ok (.baload, 1) := by decide +kernel
theorem dX10_option_55 : decode cX10_option 55 = .ok (.sipush 255, 3) := by decide +kernel
theorem dX10_option_58 : decode cX10_option 58 = .ok (.iand, 1) := by decide +kernel
theorem dX10_option_59 : decode cX10_option 59 = .ok (.goto 4, 3) := by decide +kernel
theorem dX10_option_62 : decode cX10_option 62 = .ok (.iconst 0, 1) := by decide +kernel
theorem dX10_option_63 : decode cX10_option 63 = .ok (.istore 5, 2) := by decide +kernel
theorem dX10_option_65 : decode cX10_option 65 = .ok (.iload 5, 2) := by decide +kernel
theorem dX10_option_67 : decode cX10_option 67 = .ok (.iconst 2, 1) := by decide +kernel
theorem dX10_option_68 : decode cX10_option 68 = .ok (.if_icmp .lt 11, 3) := by decide +kernel
theorem dX10_option_71 : decode cX10_option 71 = .ok (.iload_n 3, 1) := by decide +kernel
theorem dX10_option_72 : decode cX10_option 72 = .ok (.iload 5, 2) := by decide +kernel
theorem dX10_option_74 : decode cX10_option 74 = .ok (.iadd, 1) := by decide +kernel
theorem dX10_option_75 : decode cX10_option 75 = .ok (.iload_n 2, 1) := by decide +kernel
theorem dX10_option_76 : decode cX10_option 76 = .ok (.if_icmp .le 7, 3) := by decide +kernel
theorem dX10_option_79 : decode cX10_option 79 = .ok (.sipush 536, 3) := by decide +kernel
theorem dX10_option_82 : decode cX10_option 82 = .ok (.ireturn, 1) := by decide +kernel
theorem dX10_option_83 : decode cX10_option 83 = .ok (.iload 4, 2) := by decide +kernel
theorem dX10_option_85 : decode cX10_option 85 = .ok (.iconst 2, 1) := by decide +kernel
theorem dX10_option_86 : decode cX10_option 86 = .ok (.if_icmp .ne 31, 3) := by decide +kernel
theorem dX10_option_89 : decode cX10_option 89 = .ok (.iload 5, 2) := by decide +kernel
theorem dX10_option_91 : decode cX10_option 91 = .ok (.iconst 4, 1) := by decide +kernel
theorem dX10_option_92 : decode cX10_option 92 = .ok (.if_icmp .ne 25, 3) := by decide +kernel
theorem dX10_option_95 : decode cX10_option 95 = .ok (.bipush 64, 2) := by decide +kernel
theorem dX10_option_97 : decode cX10_option 97 = .ok (.aload_n 0, 1) := by decide +kernel
theorem dX10_option_98 : decode cX10_option 98 = .ok (.getfield 58, 3) := by decide +kernel
theorem dX10_option_101 : decode cX10_option 101 = .ok (.iload_n 3, 1) := by decide +kernel
theorem dX10_option_102 : decode cX10_option 102 = .ok (.iconst 2, 1) := by decide +kernel
theorem dX10_option_103 : decode cX10_option 103 = .ok (.iadd, 1) := by decide +kernel
theorem dX10_option_104 : decode cX10_option 104 = .ok (.invokestatic 39, 3) := by decide +kernel
theorem dX10_option_107 : decode cX10_option 107 = .ok (.sipush 1460, 3) := by decide +kernel
theorem dX10_option_110 : decode cX10_option 110 = .ok (.invokestatic 72, 3) := by decide +kernel
theorem dX10_option_113 : decode cX10_option 113 = .ok (.invokestatic 77, 3) := by decide +kernel
theorem dX10_option_116 : decode cX10_option 116 = .ok (.ireturn, 1) := by decide +kernel
theorem dX10_option_117 : decode cX10_option 117 = .ok (.iload_n 3, 1) := by decide +kernel
theorem dX10_option_118 : decode cX10_option 118 = .ok (.iload 5, 2) := by decide +kernel
theorem dX10_option_120 : decode cX10_option 120 = .ok (.iadd, 1) := by decide +kernel
theorem dX10_option_121 : decode cX10_option 121 = .ok (.istore_n 3, 1) := by decide +kernel
theorem dX10_option_122 : decode cX10_option 122 = .ok (.goto (-120), 3) := by decide +kernel
theorem dX10_option_125 : decode cX10_option 125 = .ok (.sipush 536, 3) := by decide +kernel
theorem dX10_option_128 : decode cX10_option 128 = .ok (.ireturn, 1) := by decide +kernel
def rmX10_option : Room := { frames := 1, cells := 0, slots := 0, locals := 23 }
theorem kX10_option : yX10_option.cls = "WebHost$Segment" ∧ yX10_option.cls ≠ "java/lang/invoke/MethodHandle" ∧ yX10_option.cls ≠ "java/lang/invoke/VarHandle" ∧ (parseMethodDescriptor yX10_option.desc).map (fun d => d.parameters.length) = some 2 := by decide +kernel
def w10_option_J63 (σ : St) (x2 : Int32) (x3 : Int32) (x4 : Int32) (xs0 : Int32) (Q : Int32 → Prop) (K2 : Int32 → Prop) (K79 : Prop) (K95 : Int32 → Prop) : Prop := (xs0 < 2 → K79) ∧ (¬ xs0 < 2 → (((x3 + xs0) ≤ x2 → ((¬ x4 = 2 → (K2 (x3 + xs0))) ∧ (x4 = 2 → ((¬ xs0 = 4 → (K2 (x3 + xs0))) ∧ (xs0 = 4 → K95 x3))))) ∧ (¬ (x3 + xs0) ≤ x2 → K79)))
set_option maxHeartbeats 4000000 in
theorem k10_option_J63 {p : Program} {l : Launch} {e : Env} {s : State} {m : MethodId} {args : Array Value} {below : List Frame} {meth : Method} {c : Code} {G : Gh} {a1 : Nat → Nat → Nat} {τ : St} {H : Heap} {Q : Int32 → Prop} {K2 : Int32 → Prop} {K79 : Prop} {K95 : Int32 → Prop} (C : Cx p e s m args meth c cX10_option 6 (some .int) "WebHost$Segment" G) (σ : St) (x2 : Int32) (x3 : Int32) (x4 : Int32) (xs0 : Int32) (hH : Hd G a1 (cmb σ τ) H) (hw : w10_option_J63 σ x2 x3 x4 xs0 Q K2 K79 K95) (locs : List Loc) (ls : Array Slot) (hS : va_S (gA G) s.heap H locs) (hl : lv_has ls 6 [(0, .ref (ga G 10 0)), (2, .int x2), (3, .int x3), (4, .int x4)]) (hK2 : ∀ (x3 : Int32), K2 x3 → ∀ (locs : List Loc) (ls : Array Slot), va_S (gA G) s.heap H locs → lv_has ls 6 [(0, .ref (ga G 10 0)), (2, .int x2), (3, .int x3)] → W p l e rmX10_option s m args below meth c H locs 0 0 (MQ below (QIp G H Q) args s 0 0 (gA G)) (F0 m 2 ls [])) (hK79 : K79 → ∀ (locs : List Loc) (ls : Array Slot), va_S (gA G) s.heap H locs → lv_has ls 6 [] → W p l e rmX10_option s m args below meth c H locs 0 0 (MQ below (QIp G H Q) args s 0 0 (gA G)) (F0 m 79 ls [])) (hK95 : ∀ (x3 : Int32), K95 x3 → ∀ (locs : List Loc) (ls : Array Slot), va_S (gA G) s.heap H locs → lv_has ls 6 [(0, .ref (ga G 10 0)), (3, .int x3)] → W p l e rmX10_option s m args below meth c H locs 0 0 (MQ below (QIp G H Q) args s 0 0 (gA G)) (F0 m 95 ls [])) : W p l e rmX10_option s m args below meth c H locs 0 0 (MQ below (QIp G H Q) args s 0 0 (gA G)) (F0 m 63 ls [.int xs0]) := by
  have hx := C.1
  have hb := C.2.1
  have hown := C.2.2.2.2.2.1
  have hts := C.2.2.2.2.2.2.1
  refine lv_istore (lv' := [(5, .int xs0), (0, .ref (ga G 10 0)), (2, .int x2), (3, .int x3), (4, .int x4)]) hx hb dX10_option_63 hl (by decide) rfl (fun ls hl => ?_)
  refine lv_iload hx hb dX10_option_65 (lv_at hl 0 rfl) ?_
  refine lv_iconst (v := 2) hx hb dX10_option_67 (by decide) ?_
  refine lv_icmp_lt (tgt := 79) hx hb dX10_option_68 (by decide) (fun h => ?_) (fun h => ?_)
  · have hw := hw.1 h
    exact hK79 hw locs ls hS (lv_sub hl [] rfl)
  have hw := hw.2 h
  refine lv_iload_n hx hb dX10_option_71 rfl (lv_at hl 3 rfl) ?_
  refine lv_iload hx hb dX10_option_72 (lv_at hl 0 rfl) ?_
  refine lv_iadd hx hb dX10_option_74 ?_
  refine lv_iload_n hx hb dX10_option_75 rfl (lv_at hl 2 rfl) ?_
  refine lv_icmp_le (tgt := 83) hx hb dX10_option_76 (by decide) (fun h => ?_) (fun h => ?_)
  · have hw := hw.1 h
    refine lv_iload hx hb dX10_option_83 (lv_at hl 4 rfl) ?_
    refine lv_iconst (v := 2) hx hb dX10_option_85 (by decide) ?_
    refine lv_icmp_ne (tgt := 117) hx hb dX10_option_86 (by decide) (fun h => ?_) (fun h => ?_)
    · have hw := hw.1 h
      refine lv_iload_n hx hb dX10_option_117 rfl (lv_at hl 3 rfl) ?_
      refine lv_iload hx hb dX10_option_118 (lv_at hl 0 rfl) ?_
      refine lv_iadd hx hb dX10_option_120 ?_
      refine lv_istore_n (lv' := [(3, .int (x3 + xs0)), (5, .int xs0), (0, .ref (ga G 10 0)), (2, .int x2), (4, .int x4)]) hx hb dX10_option_121 rfl hl (by decide) rfl (fun ls hl => ?_)
      refine lv_goto (tgt := 2) hx hb dX10_option_122 (by decide) ?_
      exact hK2 (x3 + xs0) hw locs ls hS (lv_sub hl [2, 3, 0] rfl)
    have hw := hw.2 h
    refine lv_iload hx hb dX10_option_89 (lv_at hl 0 rfl) ?_
    refine lv_iconst (v := 4) hx hb dX10_option_91 (by decide) ?_
    refine lv_icmp_ne (tgt := 117) hx hb dX10_option_92 (by decide) (fun h => ?_) (fun h => ?_)
    · have hw := hw.1 h
      refine lv_iload_n hx hb dX10_option_117 rfl (lv_at hl 3 rfl) ?_
      refine lv_iload hx hb dX10_option_118 (lv_at hl 0 rfl) ?_
      refine lv_iadd hx hb dX10_option_120 ?_
      refine lv_istore_n (lv' := [(3, .int (x3 + xs0)), (5, .int xs0), (0, .ref (ga G 10 0)), (2, .int x2), (4, .int x4)]) hx hb dX10_option_121 rfl hl (by decide) rfl (fun ls hl => ?_)
      refine lv_goto (tgt := 2) hx hb dX10_option_122 (by decide) ?_
      exact hK2 (x3 + xs0) hw locs ls hS (lv_sub hl [2, 3, 0] rfl)
    have hw := hw.2 h
    exact hK95 x3 hw locs ls hS (lv_sub hl [1, 3] rfl)
  have hw := hw.2 h
  exact hK79 hw locs ls hS (lv_sub hl [] rfl)
def w10_option_L2 (σ : St) (x2 : Int32) (Q : Int32 → Prop) (K24 : Prop) (K79 : Prop) (K95 : Int32 → Prop) (K125 : Prop) : Nat → Int32 → Prop
  | 0, _ => False
  | n + 1, x3 => (x2 ≤ x3 → K125) ∧ (¬ x2 ≤ x3 → (abc (σ 10 0 7).toNatClampNeg (σ 10 0 107).toNatClampNeg = true ∧ (vp_in x3 (alen σ ((σ 10 0 7).toNatClampNeg) ((σ 10 0 107).toNatClampNeg)) ∧ (by8 (σ ((σ 10 0 7).toNatClampNeg) ((σ 10 0 107).toNatClampNeg) x3.toNatClampNeg) → ((¬ ((σ ((σ 10 0 7).toNatClampNeg) ((σ 10 0 107).toNatClampNeg) x3.toNatClampNeg) &&& 255) = 0 → ((¬ ((σ ((σ 10 0 7).toNatClampNeg) ((σ 10 0 107).toNatClampNeg) x3.toNatClampNeg) &&& 255) = 1 → ((x2 ≤ (x3 + 1) → (w10_option_J63 σ x2 x3 ((σ ((σ 10 0 7).toNatClampNeg) ((σ 10 0 107).toNatClampNeg) x3.toNatClampNeg) &&& 255) 0 Q (fun x3z => w10_option_L2 σ x2 Q K24 K79 K95 K125 n x3z) K79 K95)) ∧ (¬ x2 ≤ (x3 + 1) → (abc (σ 10 0 7).toNatClampNeg (σ 10 0 107).toNatClampNeg = true ∧ (vp_in (x3 + 1) (alen σ ((σ 10 0 7).toNatClampNeg) ((σ 10 0 107).toNatClampNeg)) ∧ (by8 (σ ((σ 10 0 7).toNatClampNeg) ((σ 10 0 107).toNatClampNeg) (x3 + 1).toNatClampNeg) → (w10_option_J63 σ x2 x3 ((σ ((σ 10 0 7).toNatClampNeg) ((σ 10 0 107).toNatClampNeg) x3.toNatClampNeg) &&& 255) ((σ ((σ 10 0 7).toNatClampNeg) ((σ 10 0 107).toNatClampNeg) (x3 + 1).toNatClampNeg) &&& 255) Q (fun x3z => w10_option_L2 σ x2 Q K24 K79 K95 K125 n x3z) K79 K95))))))) ∧ (((σ ((σ 10 0 7).toNatClampNeg) ((σ 10 0 107).toNatClampNeg) x3.toNatClampNeg) &&& 255) = 1 → (w10_option_L2 σ x2 Q K24 K79 K95 K125 n (x3 + 1))))) ∧ (((σ ((σ 10 0 7).toNatClampNeg) ((σ 10 0 107).toNatClampNeg) x3.toNatClampNeg) &&& 255) = 0 → K24))))))
set_option maxHeartbeats 4000000 in
theorem k10_option_L2 {p : Program} {l : Launch} {e : Env} {s : State} {m : MethodId} {args : Array Value} {below : List Frame} {meth : Method} {c : Code} {G : Gh} {a1 : Nat → Nat → Nat} {τ : St} {H : Heap} {Q : Int32 → Prop} {K24 : Prop} {K79 : Prop} {K95 : Int32 → Prop} {K125 : Prop} (C : Cx p e s m args meth c cX10_option 6 (some .int) "WebHost$Segment" G) (σ : St) (x2 : Int32) (hH : Hd G a1 (cmb σ τ) H) :
    ∀ (n : Nat) (x3 : Int32), w10_option_L2 σ x2 Q K24 K79 K95 K125 n x3 → ∀ (locs : List Loc) (ls : Array Slot), va_S (gA G) s.heap H locs → lv_has ls 6 [(0, .ref (ga G 10 0)), (2, .int x2), (3, .int x3)] → (K24 → ∀ (locs : List Loc) (ls : Array Slot), va_S (gA G) s.heap H locs → lv_has ls 6 [] → W p l e rmX10_option s m args below meth c H locs 0 0 (MQ below (QIp G H Q) args s 0 0 (gA G)) (F0 m 24 ls [])) → (K79 → ∀ (locs : List Loc) (ls : Array Slot), va_S (gA G) s.heap H locs → lv_has ls 6 [] → W p l e rmX10_option s m args below meth c H locs 0 0 (MQ below (QIp G H Q) args s 0 0 (gA G)) (F0 m 79 ls [])) → (∀ (x3 : Int32), K95 x3 → ∀ (locs : List Loc) (ls : Array Slot), va_S (gA G) s.heap H locs → lv_has ls 6 [(0, .ref (ga G 10 0)), (3, .int x3)] → W p l e rmX10_option s m args below meth c H locs 0 0 (MQ below (QIp G H Q) args s 0 0 (gA G)) (F0 m 95 ls [])) → (K125 → ∀ (locs : List Loc) (ls : Array Slot), va_S (gA G) s.heap H locs → lv_has ls 6 [] → W p l e rmX10_option s m args below meth c H locs 0 0 (MQ below (QIp G H Q) args s 0 0 (gA G)) (F0 m 125 ls [])) → W p l e rmX10_option s m args below meth c H locs 0 0 (MQ below (QIp G H Q) args s 0 0 (gA G)) (F0 m 2 ls []) := by
  have hx := C.1
  have hb := C.2.1
  have hown := C.2.2.2.2.2.1
  have hts := C.2.2.2.2.2.2.1
  intro n
  induction n with
  | zero =>
    intro x3 hw
    exact False.elim hw
  | succ n ih =>
    intro x3 hw locs ls hS hl hK24 hK79 hK95 hK125
    refine lv_iload_n hx hb dX10_option_2 rfl (lv_at hl 2 rfl) ?_
    refine lv_iload_n hx hb dX10_option_3 rfl (lv_at hl 1 rfl) ?_
    refine lv_icmp_ge (tgt := 125) hx hb dX10_option_4 (by decide) (fun h => ?_) (fun h => ?_)
    · have hw := hw.1 h
      exact hK125 hw locs ls hS (lv_sub hl [] rfl)
    have hw := hw.2 h
    refine lv_aload_n hx hb dX10_option_7 rfl (lv_at hl 0 rfl) ?_
    obtain ⟨hq1, hw⟩ := hw
    refine g10_7 C hH hq1 q534 dX10_option_8 ?_
    refine lv_iload_n hx hb dX10_option_11 rfl (lv_at hl 2 rfl) ?_
    refine lb_c C hH hq1 rfl hw.1 dX10_option_12 (fun hz => ?_)
    have hw := hw.2 hz
    refine lv_sipush (v := 255) hx hb dX10_option_13 (by decide) ?_
    refine lv_iand hx hb dX10_option_16 ?_
    refine lv_istore (lv' := [(4, .int ((σ ((σ 10 0 7).toNatClampNeg) ((σ 10 0 107).toNatClampNeg) x3.toNatClampNeg) &&& 255)), (0, .ref (ga G 10 0)), (2, .int x2), (3, .int x3)]) hx hb dX10_option_17 hl (by decide) rfl (fun ls hl => ?_)
    refine lv_iload hx hb dX10_option_19 (lv_at hl 0 rfl) ?_
    refine lv_if_ne (tgt := 28) hx hb dX10_option_21 (by decide) (fun h => ?_) (fun h => ?_)
    · have hw := hw.1 h
      refine lv_iload hx hb dX10_option_28 (lv_at hl 0 rfl) ?_
      refine lv_iconst (v := 1) hx hb dX10_option_30 (by decide) ?_
      refine lv_icmp_ne (tgt := 40) hx hb dX10_option_31 (by decide) (fun h => ?_) (fun h => ?_)
      · have hw := hw.1 h
        refine lv_iload_n hx hb dX10_option_40 rfl (lv_at hl 3 rfl) ?_
        refine lv_iconst (v := 1) hx hb dX10_option_41 (by decide) ?_
        refine lv_iadd hx hb dX10_option_42 ?_
        refine lv_iload_n hx hb dX10_option_43 rfl (lv_at hl 2 rfl) ?_
        refine lv_icmp_ge (tgt := 62) hx hb dX10_option_44 (by decide) (fun h => ?_) (fun h => ?_)
        · have hw := hw.1 h
          refine lv_iconst (v := 0) hx hb dX10_option_62 (by decide) ?_
          exact k10_option_J63 C σ x2 x3 ((σ ((σ 10 0 7).toNatClampNeg) ((σ 10 0 107).toNatClampNeg) x3.toNatClampNeg) &&& 255) 0 hH hw locs ls hS (lv_sub hl [1, 2, 3, 0] rfl) (fun x3z hw locs ls hS hl => ih x3z hw locs ls hS hl hK24 hK79 hK95 hK125) hK79 hK95
        have hw := hw.2 h
        refine lv_aload_n hx hb dX10_option_47 rfl (lv_at hl 1 rfl) ?_
        obtain ⟨hq2, hw⟩ := hw
        refine g10_7 C hH hq2 q534 dX10_option_48 ?_
        refine lv_iload_n hx hb dX10_option_51 rfl (lv_at hl 3 rfl) ?_
        refine lv_iconst (v := 1) hx hb dX10_option_52 (by decide) ?_
        refine lv_iadd hx hb dX10_option_53 ?_
        refine lb_c C hH hq2 rfl hw.1 dX10_option_54 (fun hz => ?_)
        have hw := hw.2 hz
        refine lv_sipush (v := 255) hx hb dX10_option_55 (by decide) ?_
        refine lv_iand hx hb dX10_option_58 ?_
        refine lv_goto (tgt := 63) hx hb dX10_option_59 (by decide) ?_
        exact k10_option_J63 C σ x2 x3 ((σ ((σ 10 0 7).toNatClampNeg) ((σ 10 0 107).toNatClampNeg) x3.toNatClampNeg) &&& 255) ((σ ((σ 10 0 7).toNatClampNeg) ((σ 10 0 107).toNatClampNeg) (x3 + 1).toNatClampNeg) &&& 255) hH hw locs ls hS (lv_sub hl [1, 2, 3, 0] rfl) (fun x3z hw locs ls hS hl => ih x3z hw locs ls hS hl hK24 hK79 hK95 hK125) hK79 hK95
      have hw := hw.2 h
      refine lv_iinc (v := x3 + 1) (lv' := [(3, .int (x3 + 1)), (4, .int ((σ ((σ 10 0 7).toNatClampNeg) ((σ 10 0 107).toNatClampNeg) x3.toNatClampNeg) &&& 255)), (0, .ref (ga G 10 0)), (2, .int x2)]) hx hb dX10_option_34 hl (k := 3) rfl rfl (by decide) rfl (fun ls hl => ?_)
      refine lv_goto (tgt := 122) hx hb dX10_option_37 (by decide) ?_
      refine lv_goto (tgt := 2) hx hb dX10_option_122 (by decide) ?_
      exact ih (x3 + 1) hw locs ls hS (lv_sub hl [2, 3, 0] rfl) hK24 hK79 hK95 hK125
    have hw := hw.2 h
    exact hK24 hw locs ls hS (lv_sub hl [] rfl)
def w10_option (σ : St) (x1 : Int32) (x2 : Int32) (Q : Int32 → Prop) : Prop := ∃ z3, w10_option_L2 σ x2 Q (Q 536) (Q 536) (fun x3_6 => abc (σ 10 0 7).toNatClampNeg (σ 10 0 107).toNatClampNeg = true ∧ (w19_two σ ((σ 10 0 7).toNatClampNeg) ((σ 10 0 107).toNatClampNeg) (x3_6 + 2) (fun r9 => (Q (imax 64 (imin r9 1460)))))) (Q 536) z3 x1
set_option maxHeartbeats 4000000 in
theorem m10_option (l : Launch) (G : Gh) (a1 : Nat → Nat → Nat) (τ : St) (σ : St) (H : Heap) (x1 : Int32) (x2 : Int32) (Q : Int32 → Prop) (hw : w10_option σ x1 x2 Q) : Met l yX10_option (ws_ yX10_option cX10_option 6 (some .int)) rmX10_option (PcP G a1 (cmb σ τ) H [.ref (ga G 10 0), .int x1, .int x2]) (QIp G H Q) 0 0 (gA G) := by
  refine met_p (by decide) (Nat.le_of_ble_eq_true rfl) ?_
  intro p e s m below meth c ls hHe C hH hS hl
  have C : Cx p e s m _ meth c cX10_option 6 (some .int) "WebHost$Segment" G := C
  have hl : lv_has ls 6 [(0, .ref (ga G 10 0)), (1, .int x1), (2, .int x2)] := hl
  have hx := C.1
  have hb := C.2.1
  have hown := C.2.2.2.2.2.1
  have hts := C.2.2.2.2.2.2.1
  obtain ⟨locs, hlocs⟩ : ∃ z : List Loc, z = [] := ⟨_, rfl⟩
  rw [← hlocs] at hS ⊢
  refine lv_iload_n hx hb dX10_option_0 rfl (lv_at hl 1 rfl) ?_
  refine lv_istore_n (lv' := [(3, .int x1), (0, .ref (ga G 10 0)), (1, .int x1), (2, .int x2)]) hx hb dX10_option_1 rfl hl (by decide) rfl (fun ls hl => ?_)
  obtain ⟨n3, hw⟩ := hw
  refine k10_option_L2 C σ x2 hH n3 x1 hw locs ls hS (lv_sub hl [1, 3, 0] rfl) (fun hw locs ls hS hl => ?_) (fun hw locs ls hS hl => ?_) (fun x3_6 hw locs ls hS hl => ?_) (fun hw locs ls hS hl => ?_)
  · refine lv_sipush (v := 536) hx hb dX10_option_24 (by decide) ?_
    exact rt_ip C rfl hS hw dX10_option_27
  · refine lv_sipush (v := 536) hx hb dX10_option_79 (by decide) ?_
    exact rt_ip C rfl hS hw dX10_option_82
  · refine lv_bipush (v := 64) hx hb dX10_option_95 (by decide) ?_
    refine lv_aload_n hx hb dX10_option_97 rfl (lv_at hl 0 rfl) ?_
    obtain ⟨hq8, hw⟩ := hw
    refine g10_7 C hH hq8 q534 dX10_option_98 ?_
    refine lv_iload_n hx hb dX10_option_101 rfl (lv_at hl 1 rfl) ?_
    refine lv_iconst (v := 2) hx hb dX10_option_102 (by decide) ?_
    refine lv_iadd hx hb dX10_option_103 ?_
    refine kc_ip (rn_sp (As := [.ref (adr G a1 ((σ 10 0 7).toNatClampNeg) ((σ 10 0 107).toNatClampNeg)), .int (x3_6 + 2)]) (rest := [.int 64]) C hH hS (m19_two l G a1 τ σ H ((σ 10 0 7).toNatClampNeg) ((σ 10 0 107).toNatClampNeg) (x3_6 + 2) hq8 _ hw) (va_cwS 2 hts (lw_S q1120 q823 q176 q824) rfl rfl rfl kX19_two.2 ⟨Nat.le_of_ble_eq_true rfl, Nat.le_of_ble_eq_true rfl⟩) rfl hl.1 rfl (Nat.le_of_ble_eq_true rfl) dX10_option_104 ⟨Nat.le_of_ble_eq_true rfl, Nat.le_of_ble_eq_true rfl⟩) hS (fun r9 locs hw hS => ?_)
    refine lv_sipush (v := 1460) hx hb dX10_option_107 (by decide) ?_
    refine r_imin C hl.1 q1126 (Nat.le_of_ble_eq_true rfl) (Nat.le_of_ble_eq_true rfl) (Nat.zero_le _) (Nat.zero_le _) dX10_option_110 ?_
    refine r_imax C hl.1 q1127 (Nat.le_of_ble_eq_true rfl) (Nat.le_of_ble_eq_true rfl) (Nat.zero_le _) (Nat.zero_le _) dX10_option_113 ?_
    exact rt_ip C rfl hS hw dX10_option_116
  refine lv_sipush (v := 536) hx hb dX10_option_125 (by decide) ?_
  exact rt_ip C rfl hS hw dX10_option_128
/-! WebHost$Segment.span()I -/
abbrev cX10_span : ByteArray := prog_12_method_3_code
def yX10_span : MethodName := ⟨RX10, "span", "()I"⟩
theorem dX10_span_0 : decode cX10_span 0 = .ok (.aload_n 0, 1) := by decide +kernel
theorem dX10_span_1 : decode cX10_span 1 = .ok (.getfield 15, 3) := by decide +kernel
theorem dX10_span_4 : decode cX10_span 4 = .ok (.aload_n 0, 1) := by decide +kernel
theorem dX10_span_5 : decode cX10_span 5 = .ok (.iconst 2, 1) := by decide +kernel
theorem dX10_span_6 : decode cX10_span 6 = .ok (.invokevirtual 18, 3) := by decide +kernel
theorem dX10_span_9 : decode cX10_span 9 = .ok (.ifCond .eq 7, 3) := by decide +kernel
theorem dX10_span_12 : decode cX10_span 12 = .ok (.iconst 1, 1) := by decide +kernel
theorem dX10_span_13 : decode cX10_span 13 = .ok (.goto 4, 3) := by decide +kernel
theorem dX10_span_16 : decode cX10_span 16 = .ok (.iconst 0, 1) := by decide +kernel
theorem dX10_span_17 : decode cX10_span 17 = .ok (.iadd, 1) := by decide +kernel
theorem dX10_span_18 : decode cX10_span 18 = .ok (.aload_n 0, 1) := by decide +kernel
theorem dX10_span_19 : decode cX10_span 19 = .ok (.iconst 1, 1) := by decide +kernel
theorem dX10_span_20 : decode cX10_span 20 = .ok (.invokevirtual 18, 3) := by decide +kernel
theorem dX10_span_23 : decode cX10_span 23 = .ok (.ifCond .eq 7, 3) := by decide +kernel
theorem dX10_span_26 : decode cX10_span 26 = .ok (.iconst 1, 1) := by decide +kernel
theorem dX10_span_27 : decode cX10_span 27 = .ok (.goto 4, 3) := by decide +kernel
theorem dX10_span_30 : decode cX10_span 30 = .ok (.iconst 0, 1) := by decide +kernel
theorem dX10_span_31 : decode cX10_span 31 = .ok (.iadd, 1) := by decide +kernel
theorem dX10_span_32 : decode cX10_span 32 = .ok (.ireturn, 1) := by decide +kernel
def rmX10_span : Room := { frames := 1, cells := 0, slots := 0, locals := 21 }
theorem kX10_span : yX10_span.cls = "WebHost$Segment" ∧ yX10_span.cls ≠ "java/lang/invoke/MethodHandle" ∧ yX10_span.cls ≠ "java/lang/invoke/VarHandle" ∧ (parseMethodDescriptor yX10_span.desc).map (fun d => d.parameters.length) = some 0 := by decide +kernel
def w10_span_J17 (σ : St) (xs0 : Int32) (xs1 : Int32) (Q : Int32 → Prop) : Prop := w10_has σ 1 (fun r2 => ((r2 = 0 → (Q ((xs1 + xs0) + 0))) ∧ (¬ r2 = 0 → (Q ((xs1 + xs0) + 1)))))
set_option maxHeartbeats 4000000 in
theorem k10_span_J17 {p : Program} {l : Launch} {e : Env} {s : State} {m : MethodId} {args : Array Value} {below : List Frame} {meth : Method} {c : Code} {G : Gh} {a1 : Nat → Nat → Nat} {τ : St} {H : Heap} {Q : Int32 → Prop} (C : Cx p e s m args meth c cX10_span 1 (some .int) "WebHost$Segment" G) (σ : St) (xs0 : Int32) (xs1 : Int32) (hH : Hd G a1 (cmb σ τ) H) (hw : w10_span_J17 σ xs0 xs1 Q) (locs : List Loc) (ls : Array Slot) (hS : va_S (gA G) s.heap H locs) (hl : lv_has ls 1 [(0, .ref (ga G 10 0))]) : W p l e rmX10_span s m args below meth c H locs 0 0 (MQ below (QIp G H Q) args s 0 0 (gA G)) (F0 m 17 ls [.int xs0, .int xs1]) := by
  have hx := C.1
  have hb := C.2.1
  have hown := C.2.2.2.2.2.1
  have hts := C.2.2.2.2.2.2.1
  refine lv_iadd hx hb dX10_span_17 ?_
  refine lv_aload_n hx hb dX10_span_18 rfl (lv_at hl 0 rfl) ?_
  refine lv_iconst (v := 1) hx hb dX10_span_19 (by decide) ?_
  refine kc_ip (rn_vp (As := [.int 1]) (rest := [.int (xs1 + xs0)]) C hH hS (by decide) rfl (by decide) (m10_has l G a1 τ σ H 1 _ hw) (cwV 1 hts (lw_V q1148 q1149 q1150 q167 q1151) rfl rfl rfl kX10_has ⟨Nat.le_of_ble_eq_true rfl, Nat.le_of_ble_eq_true rfl⟩) rfl hl.1 rfl (Nat.le_of_ble_eq_true rfl) dX10_span_20 ⟨Nat.le_of_ble_eq_true rfl, Nat.le_of_ble_eq_true rfl⟩) hS (fun r2 locs hw hS => ?_)
  refine lv_if_eq (tgt := 30) hx hb dX10_span_23 (by decide) (fun h => ?_) (fun h => ?_)
  · have hw := hw.1 h
    refine lv_iconst (v := 0) hx hb dX10_span_30 (by decide) ?_
    refine lv_iadd hx hb dX10_span_31 ?_
    exact rt_ip C rfl hS hw dX10_span_32
  have hw := hw.2 h
  refine lv_iconst (v := 1) hx hb dX10_span_26 (by decide) ?_
  refine lv_goto (tgt := 31) hx hb dX10_span_27 (by decide) ?_
  refine lv_iadd hx hb dX10_span_31 ?_
  exact rt_ip C rfl hS hw dX10_span_32
def w10_span (σ : St) (Q : Int32 → Prop) : Prop := w10_has σ 2 (fun r1 => ((r1 = 0 → (w10_span_J17 σ 0 (σ 10 0 9) Q)) ∧ (¬ r1 = 0 → (w10_span_J17 σ 1 (σ 10 0 9) Q))))
set_option maxHeartbeats 4000000 in
theorem m10_span (l : Launch) (G : Gh) (a1 : Nat → Nat → Nat) (τ : St) (σ : St) (H : Heap) (Q : Int32 → Prop) (hw : w10_span σ Q) : Met l yX10_span (ws_ yX10_span cX10_span 1 (some .int)) rmX10_span (PcP G a1 (cmb σ τ) H [.ref (ga G 10 0)]) (QIp G H Q) 0 0 (gA G) := by
  refine met_p (by decide) (Nat.le_of_ble_eq_true rfl) ?_
  intro p e s m below meth c ls hHe C hH hS hl
  have C : Cx p e s m _ meth c cX10_span 1 (some .int) "WebHost$Segment" G := C
  have hl : lv_has ls 1 [(0, .ref (ga G 10 0))] := hl
  have hx := C.1
  have hb := C.2.1
  have hown := C.2.2.2.2.2.1
  have hts := C.2.2.2.2.2.2.1
  obtain ⟨locs, hlocs⟩ : ∃ z : List Loc, z = [] := ⟨_, rfl⟩
  rw [← hlocs] at hS ⊢
  refine lv_aload_n hx hb dX10_span_0 rfl (lv_at hl 0 rfl) ?_
  refine g10_9 C hH q538 dX10_span_1 ?_
  refine lv_aload_n hx hb dX10_span_4 rfl (lv_at hl 0 rfl) ?_
  refine lv_iconst (v := 2) hx hb dX10_span_5 (by decide) ?_
  refine kc_ip (rn_vp (As := [.int 2]) (rest := [.int (σ 10 0 9)]) C hH hS (by decide) rfl (by decide) (m10_has l G a1 τ σ H 2 _ hw) (cwV 1 hts (lw_V q1148 q1149 q1150 q167 q1151) rfl rfl rfl kX10_has ⟨Nat.le_of_ble_eq_true rfl, Nat.le_of_ble_eq_true rfl⟩) rfl hl.1 rfl (Nat.le_of_ble_eq_true rfl) dX10_span_6 ⟨Nat.le_of_ble_eq_true rfl, Nat.le_of_ble_eq_true rfl⟩) hS (fun r1 locs hw hS => ?_)
  refine lv_if_eq (tgt := 16) hx hb dX10_span_9 (by decide) (fun h => ?_) (fun h => ?_)
  · have hw := hw.1 h
    refine lv_iconst (v := 0) hx hb dX10_span_16 (by decide) ?_
    exact k10_span_J17 C σ 0 (σ 10 0 9) hH hw locs ls hS (lv_sub hl [0] rfl)
  have hw := hw.2 h
  refine lv_iconst (v := 1) hx hb dX10_span_12 (by decide) ?_
  refine lv_goto (tgt := 17) hx hb dX10_span_13 (by decide) ?_
  exact k10_span_J17 C σ 1 (σ 10 0 9) hH hw locs ls hS (lv_sub hl [0] rfl)
/-! WebHost$Connection.isIn(II)Z -/
abbrev cX11_isIn : ByteArray := prog_3_method_16_code
def yX11_isIn : MethodName := ⟨RX11, "isIn", "(II)Z"⟩
theorem dX11_isIn_0 : decode cX11_isIn 0 = .ok (.iload_n 1, 1) := by decide +kernel
theorem dX11_isIn_1 : decode cX11_isIn 1 = .ok (.aload_n 0, 1) := by decide +kernel
theorem dX11_isIn_2 : decode cX11_isIn 2 = .ok (.getfield 33, 3) := by decide +kernel
theorem dX11_isIn_5 : decode cX11_isIn 5 = .ok (.invokestatic 97, 3) := by decide +kernel
theorem dX11_isIn_8 : decode cX11_isIn 8 = .ok (.ifCond .ne 20, 3) := by decide +kernel
theorem dX11_isIn_11 : decode cX11_isIn 11 = .ok (.iload_n 1, 1) := by decide +kernel
theorem dX11_isIn_12 : decode cX11_isIn 12 = .ok (.aload_n 0, 1) := by decide +kernel
theorem dX11_isIn_13 : decode cX11_isIn 13 = .ok (.getfield 33, 3) := by decide +kernel
theorem dX11_isIn_16 : decode cX11_isIn 16 = .ok (.iload_n 2, 1) := by decide +kernel
theorem dX11_isIn_17 : decode cX11_isIn 17 = .ok (.iadd, 1) := by decide +kernel
theorem dX11_isIn_18 : decode cX11_isIn 18 = .ok (.invokestatic 97, 3) := by decide +kernel
theorem dX11_isIn_21 : decode cX11_isIn 21 = .ok (.ifCond .eq 7, 3) := by decide +kernel
theorem dX11_isIn_24 : decode cX11_isIn 24 = .ok (.iconst 1, 1) := by decide +kernel
theorem dX11_isIn_25 : decode cX11_isIn 25 = .ok (.goto 4, 3) := by decide +kernel
theorem dX11_isIn_28 : decode cX11_isIn 28 = .ok (.iconst 0, 1) := by decide +kernel
theorem dX11_isIn_29 : decode cX11_isIn 29 = .ok (.ireturn, 1) := by decide +kernel
def rmX11_isIn : Room := { frames := 1, cells := 0, slots := 0, locals := 21 }
theorem kX11_isIn : yX11_isIn.cls = "WebHost$Connection" ∧ yX11_isIn.cls ≠ "java/lang/invoke/MethodHandle" ∧ yX11_isIn.cls ≠ "java/lang/invoke/VarHandle" ∧ (parseMethodDescriptor yX11_isIn.desc).map (fun d => d.parameters.length) = some 2 := by decide +kernel
def w11_isIn (σ : St) (o0 : Nat) (x1 : Int32) (x2 : Int32) (Q : Int32 → Prop) : Prop := w19_isBefore σ x1 (σ 11 o0 6) (fun r1 => ((¬ r1 = 0 → Q 0) ∧ (r1 = 0 → (w19_isBefore σ x1 ((σ 11 o0 6) + x2) (fun r2 => ((r2 = 0 → Q 0) ∧ (¬ r2 = 0 → Q 1)))))))
set_option maxHeartbeats 4000000 in
theorem m11_isIn (l : Launch) (G : Gh) (a1 : Nat → Nat → Nat) (τ : St) (σ : St) (H : Heap) (o0 : Nat) (x1 : Int32) (x2 : Int32) (ho0 : o0 < 16) (Q : Int32 → Prop) (hw : w11_isIn σ o0 x1 x2 Q) : Met l yX11_isIn (ws_ yX11_isIn cX11_isIn 3 (some .boolean)) rmX11_isIn (PcP G a1 (cmb σ τ) H [.ref (ga G 11 o0), .int x1, .int x2]) (QIp G H Q) 0 0 (gA G) := by
  refine met_p (by decide) (Nat.le_of_ble_eq_true rfl) ?_
  intro p e s m below meth c ls hHe C hH hS hl
  have C : Cx p e s m _ meth c cX11_isIn 3 (some .boolean) "WebHost$Connection" G := C
  have hl : lv_has ls 3 [(0, .ref (ga G 11 o0)), (1, .int x1), (2, .int x2)] := hl
  have hx := C.1
  have hb := C.2.1
  have hown := C.2.2.2.2.2.1
  have hts := C.2.2.2.2.2.2.1
  obtain ⟨locs, hlocs⟩ : ∃ z : List Loc, z = [] := ⟨_, rfl⟩
  rw [← hlocs] at hS ⊢
  refine lv_iload_n hx hb dX11_isIn_0 rfl (lv_at hl 1 rfl) ?_
  refine lv_aload_n hx hb dX11_isIn_1 rfl (lv_at hl 0 rfl) ?_
  refine g11_6 C hH ho0 q617 dX11_isIn_2 ?_
  refine kc_ip (rn_sp (As := [.int x1, .int (σ 11 o0 6)]) (rest := []) C hH hS (m19_isBefore l G a1 τ σ H x1 (σ 11 o0 6) _ hw) (va_cwS 2 hts (lw_S q1046 q1047 q176 q1048) rfl rfl rfl kX19_isBefore.2 ⟨Nat.le_of_ble_eq_true rfl, Nat.le_of_ble_eq_true rfl⟩) rfl hl.1 rfl (Nat.le_of_ble_eq_true rfl) dX11_isIn_5 ⟨Nat.le_of_ble_eq_true rfl, Nat.le_of_ble_eq_true rfl⟩) hS (fun r1 locs hw hS => ?_)
  refine lv_if_ne (tgt := 28) hx hb dX11_isIn_8 (by decide) (fun h => ?_) (fun h => ?_)
  · have hw := hw.1 h
    refine lv_iconst (v := 0) hx hb dX11_isIn_28 (by decide) ?_
    exact rt_ip C rfl hS hw dX11_isIn_29
  have hw := hw.2 h
  refine lv_iload_n hx hb dX11_isIn_11 rfl (lv_at hl 1 rfl) ?_
  refine lv_aload_n hx hb dX11_isIn_12 rfl (lv_at hl 0 rfl) ?_
  refine g11_6 C hH ho0 q617 dX11_isIn_13 ?_
  refine lv_iload_n hx hb dX11_isIn_16 rfl (lv_at hl 2 rfl) ?_
  refine lv_iadd hx hb dX11_isIn_17 ?_
  refine kc_ip (rn_sp (As := [.int x1, .int ((σ 11 o0 6) + x2)]) (rest := []) C hH hS (m19_isBefore l G a1 τ σ H x1 ((σ 11 o0 6) + x2) _ hw) (va_cwS 2 hts (lw_S q1046 q1047 q176 q1048) rfl rfl rfl kX19_isBefore.2 ⟨Nat.le_of_ble_eq_true rfl, Nat.le_of_ble_eq_true rfl⟩) rfl hl.1 rfl (Nat.le_of_ble_eq_true rfl) dX11_isIn_18 ⟨Nat.le_of_ble_eq_true rfl, Nat.le_of_ble_eq_true rfl⟩) hS (fun r2 locs hw hS => ?_)
  refine lv_if_eq (tgt := 28) hx hb dX11_isIn_21 (by decide) (fun h => ?_) (fun h => ?_)
  · have hw := hw.1 h
    refine lv_iconst (v := 0) hx hb dX11_isIn_28 (by decide) ?_
    exact rt_ip C rfl hS hw dX11_isIn_29
  have hw := hw.2 h
  refine lv_iconst (v := 1) hx hb dX11_isIn_24 (by decide) ?_
  refine lv_goto (tgt := 29) hx hb dX11_isIn_25 (by decide) ?_
  exact rt_ip C rfl hS hw dX11_isIn_29
/-! WebHost$Connection.left()I -/
abbrev cX11_left : ByteArray := prog_3_method_6_code
def yX11_left : MethodName := ⟨RX11, "left", "()I"⟩
theorem dX11_left_0 : decode cX11_left 0 = .ok (.aload_n 0, 1) := by decide +kernel
theorem dX11_left_1 : decode cX11_left 1 = .ok (.getfield 73, 3) := by decide +kernel
theorem dX11_left_4 : decode cX11_left 4 = .ok (.iconst 2, 1) := by decide +kernel
theorem dX11_left_5 : decode cX11_left 5 = .ok (.if_icmp .ge 7, 3) := by decide +kernel
theorem dX11_left_8 : decode cX11_left 8 = .ok (.iconst 0, 1) := by decide +kernel
theorem dX11_left_9 : decode cX11_left 9 = .ok (.goto 25, 3) := by decide +kernel
theorem dX11_left_12 : decode cX11_left 12 = .ok (.aload_n 0, 1) := by decide +kernel
theorem dX11_left_13 : decode cX11_left 13 = .ok (.invokevirtual 76, 3) := by decide +kernel
theorem dX11_left_16 : decode cX11_left 16 = .ok (.aload_n 0, 1) := by decide +kernel
theorem dX11_left_17 : decode cX11_left 17 = .ok (.getfield 79, 3) := by decide +kernel
theorem dX11_left_20 : decode cX11_left 20 = .ok (.ifCond .eq 7, 3) := by decide +kernel
theorem dX11_left_23 : decode cX11_left 23 = .ok (.iconst 1, 1) := by decide +kernel
theorem dX11_left_24 : decode cX11_left 24 = .ok (.goto 4, 3) := by decide +kernel
theorem dX11_left_27 : decode cX11_left 27 = .ok (.iconst 0, 1) := by decide +kernel
theorem dX11_left_28 : decode cX11_left 28 = .ok (.iadd, 1) := by decide +kernel
theorem dX11_left_29 : decode cX11_left 29 = .ok (.aload_n 0, 1) := by decide +kernel
theorem dX11_left_30 : decode cX11_left 30 = .ok (.getfield 60, 3) := by decide +kernel
theorem dX11_left_33 : decode cX11_left 33 = .ok (.isub, 1) := by decide +kernel
theorem dX11_left_34 : decode cX11_left 34 = .ok (.ireturn, 1) := by decide +kernel
def rmX11_left : Room := { frames := 1, cells := 0, slots := 0, locals := 20 }
theorem kX11_left : yX11_left.cls = "WebHost$Connection" ∧ yX11_left.cls ≠ "java/lang/invoke/MethodHandle" ∧ yX11_left.cls ≠ "java/lang/invoke/VarHandle" ∧ (parseMethodDescriptor yX11_left.desc).map (fun d => d.parameters.length) = some 0 := by decide +kernel
def w11_left (σ : St) (o0 : Nat) (Q : Int32 → Prop) : Prop := (2 ≤ (σ 11 o0 2) → (w11_end σ o0 (fun r1 => (bo (σ 11 o0 27) → (((σ 11 o0 27) = 0 → (Q ((r1 + 0) - (σ 11 o0 10)))) ∧ (¬ (σ 11 o0 27) = 0 → (Q ((r1 + 1) - (σ 11 o0 10))))))))) ∧ (¬ 2 ≤ (σ 11 o0 2) → Q 0)
set_option maxHeartbeats 4000000 in
theorem m11_left (l : Launch) (G : Gh) (a1 : Nat → Nat → Nat) (τ : St) (σ : St) (H : Heap) (o0 : Nat) (ho0 : o0 < 16) (Q : Int32 → Prop) (hw : w11_left σ o0 Q) : Met l yX11_left (ws_ yX11_left cX11_left 1 (some .int)) rmX11_left (PcP G a1 (cmb σ τ) H [.ref (ga G 11 o0)]) (QIp G H Q) 0 0 (gA G) := by
  refine met_p (by decide) (Nat.le_of_ble_eq_true rfl) ?_
  intro p e s m below meth c ls hHe C hH hS hl
  have C : Cx p e s m _ meth c cX11_left 1 (some .int) "WebHost$Connection" G := C
  have hl : lv_has ls 1 [(0, .ref (ga G 11 o0))] := hl
  have hx := C.1
  have hb := C.2.1
  have hown := C.2.2.2.2.2.1
  have hts := C.2.2.2.2.2.2.1
  obtain ⟨locs, hlocs⟩ : ∃ z : List Loc, z = [] := ⟨_, rfl⟩
  rw [← hlocs] at hS ⊢
  refine lv_aload_n hx hb dX11_left_0 rfl (lv_at hl 0 rfl) ?_
  refine g11_2 C hH ho0 q610 dX11_left_1 ?_
  refine lv_iconst (v := 2) hx hb dX11_left_4 (by decide) ?_
  refine lv_icmp_ge (tgt := 12) hx hb dX11_left_5 (by decide) (fun h => ?_) (fun h => ?_)
  · have hw := hw.1 h
    refine lv_aload_n hx hb dX11_left_12 rfl (lv_at hl 0 rfl) ?_
    refine kc_ip (rn_vp (As := []) (rest := []) C hH hS (by decide) rfl ho0 (m11_end l G a1 τ σ H o0 ho0 _ hw) (cwV 0 hts (lw_V q1038 q1040 qs17 q168 q1041) rfl rfl rfl kX11_end ⟨Nat.le_of_ble_eq_true rfl, Nat.le_of_ble_eq_true rfl⟩) rfl hl.1 rfl (Nat.le_of_ble_eq_true rfl) dX11_left_13 ⟨Nat.le_of_ble_eq_true rfl, Nat.le_of_ble_eq_true rfl⟩) hS (fun r1 locs hw hS => ?_)
    refine lv_aload_n hx hb dX11_left_16 rfl (lv_at hl 0 rfl) ?_
    refine g11_27 C hH ho0 q649 dX11_left_17 (fun hz => ?_)
    have hw := hw hz
    refine lv_if_eq (tgt := 27) hx hb dX11_left_20 (by decide) (fun h => ?_) (fun h => ?_)
    · have hw := hw.1 h
      refine lv_iconst (v := 0) hx hb dX11_left_27 (by decide) ?_
      refine lv_iadd hx hb dX11_left_28 ?_
      refine lv_aload_n hx hb dX11_left_29 rfl (lv_at hl 0 rfl) ?_
      refine g11_10 C hH ho0 q622 dX11_left_30 ?_
      refine lv_isub hx hb dX11_left_33 ?_
      exact rt_ip C rfl hS hw dX11_left_34
    have hw := hw.2 h
    refine lv_iconst (v := 1) hx hb dX11_left_23 (by decide) ?_
    refine lv_goto (tgt := 28) hx hb dX11_left_24 (by decide) ?_
    refine lv_iadd hx hb dX11_left_28 ?_
    refine lv_aload_n hx hb dX11_left_29 rfl (lv_at hl 0 rfl) ?_
    refine g11_10 C hH ho0 q622 dX11_left_30 ?_
    refine lv_isub hx hb dX11_left_33 ?_
    exact rt_ip C rfl hS hw dX11_left_34
  have hw := hw.2 h
  refine lv_iconst (v := 0) hx hb dX11_left_8 (by decide) ?_
  refine lv_goto (tgt := 34) hx hb dX11_left_9 (by decide) ?_
  exact rt_ip C rfl hS hw dX11_left_34
/-! WebHost$Connection.live(I)V -/
abbrev cX11_live : ByteArray := prog_3_method_25_code
def yX11_live : MethodName := ⟨RX11, "live", "(I)V"⟩
theorem dX11_live_0 : decode cX11_live 0 = .ok (.aload_n 0, 1) := by decide +kernel
theorem dX11_live_1 : decode cX11_live 1 = .ok (.iconst 1, 1) := by decide +kernel
theorem dX11_live_2 : decode cX11_live 2 = .ok (.putfield 116, 3) := by decide +kernel
theorem dX11_live_5 : decode cX11_live 5 = .ok (.aload_n 0, 1) := by decide +kernel
theorem dX11_live_6 : decode cX11_live 6 = .ok (.aload_n 0, 1) := by decide +kernel
theorem dX11_live_7 : decode cX11_live 7 = .ok (.getfield 25, 3) := by decide +kernel
theorem dX11_live_10 : decode cX11_live 10 = .ok (.invokevirtual 129, 3) := by decide +kernel
theorem dX11_live_13 : decode cX11_live 13 = .ok (.iload_n 1, 1) := by decide +kernel
theorem dX11_live_14 : decode cX11_live 14 = .ok (.iadd, 1) := by decide +kernel
theorem dX11_live_15 : decode cX11_live 15 = .ok (.putfield 250, 3) := by decide +kernel
theorem dX11_live_18 : decode cX11_live 18 = .ok (.return_, 1) := by decide +kernel
def rmX11_live : Room := { frames := 1, cells := 0, slots := 0, locals := 20 }
theorem kX11_live : yX11_live.cls = "WebHost$Connection" ∧ yX11_live.cls ≠ "java/lang/invoke/MethodHandle" ∧ yX11_live.cls ≠ "java/lang/invoke/VarHandle" ∧ (parseMethodDescriptor yX11_live.desc).map (fun d => d.parameters.length) = some 1 := by decide +kernel
def w11_live (σ : St) (o0 : Nat) (x1 : Int32) (Q : St → Prop) : Prop := ∀ σ1, σ1 = up3 σ 11 o0 33 1 → (w8_now σ1 (fun r2 => (∀ σ3, σ3 = up3 σ1 11 o0 31 (r2 + x1) → (Q σ3))))
set_option maxHeartbeats 4000000 in
theorem m11_live (l : Launch) (G : Gh) (a1 : Nat → Nat → Nat) (τ : St) (σ : St) (o0 : Nat) (x1 : Int32) (ho0 : o0 < 16) (Q : St → Prop) (hw : w11_live σ o0 x1 Q) : Met l yX11_live (ws_ yX11_live cX11_live 2 none) rmX11_live (PcS G a1 (cmb σ τ) [.ref (ga G 11 o0), .int x1]) (QVs G a1 (fun u => cmb u τ) Q) 0 0 (gA G) := by
  refine met_w (by decide) (Nat.le_of_ble_eq_true rfl) ?_
  intro p e s m below meth c ls C hH hS hl
  have C : Cx p e s m _ meth c cX11_live 2 none "WebHost$Connection" G := C
  have hl : lv_has ls 2 [(0, .ref (ga G 11 o0)), (1, .int x1)] := hl
  have hx := C.1
  have hb := C.2.1
  have hown := C.2.2.2.2.2.1
  have hts := C.2.2.2.2.2.2.1
  obtain ⟨locs, hlocs⟩ : ∃ z : List Loc, z = [] := ⟨_, rfl⟩
  obtain ⟨H, hHe⟩ : ∃ z : Heap, z = s.heap := ⟨_, rfl⟩
  have hH : Hd G a1 (cmb σ τ) H := by rw [hHe]; exact hH
  have hS : va_S (gA G) s.heap H locs := by rw [hHe, hlocs]; exact hS
  refine W.heap0 hHe.symm hlocs.symm ?_
  refine lv_aload_n hx hb dX11_live_0 rfl (lv_at hl 0 rfl) ?_
  refine lv_iconst (v := 1) hx hb dX11_live_1 (by decide) ?_
  refine p11_33 C hH hS ho0 (Or.inr rfl) q655 dX11_live_2 (fun σ1 e1 H locs hH hS => ?_)
  have hw := hw σ1 e1
  refine lv_aload_n hx hb dX11_live_5 rfl (lv_at hl 0 rfl) ?_
  refine lv_aload_n hx hb dX11_live_6 rfl (lv_at hl 0 rfl) ?_
  refine g11_0 C hH ho0 q608 dX11_live_7 ?_
  refine kc_ip (rn_vp (As := []) (rest := [.ref (ga G 11 o0)]) C hH hS (by decide) rfl (by decide) (m8_now l G a1 τ σ1 H _ hw) (cwV 0 hts (lw_V q1025 q1026 q1027 q165 q1028) rfl rfl rfl kX8_now ⟨Nat.le_of_ble_eq_true rfl, Nat.le_of_ble_eq_true rfl⟩) rfl hl.1 rfl (Nat.le_of_ble_eq_true rfl) dX11_live_10 ⟨Nat.le_of_ble_eq_true rfl, Nat.le_of_ble_eq_true rfl⟩) hS (fun r2 locs hw hS => ?_)
  refine lv_iload_n hx hb dX11_live_13 rfl (lv_at hl 1 rfl) ?_
  refine lv_iadd hx hb dX11_live_14 ?_
  refine p11_31 C hH hS ho0 q653 dX11_live_15 (fun σ3 e3 H locs hH hS => ?_)
  have hw := hw σ3 e3
  exact rt_v C hH hS hw dX11_live_18
/-! WebHost$Connection.measure(I)V -/
abbrev cX11_measure : ByteArray := prog_3_method_28_code
def yX11_measure : MethodName := ⟨RX11, "measure", "(I)V"⟩
theorem dX11_measure_0 : decode cX11_measure 0 = .ok (.aload_n 0, 1) := by decide +kernel
theorem dX11_measure_1 : decode cX11_measure 1 = .ok (.getfield 106, 3) := by decide +kernel
theorem dX11_measure_4 : decode cX11_measure 4 = .ok (.ifCond .eq 12, 3) := by decide +kernel
theorem dX11_measure_7 : decode cX11_measure 7 = .ok (.iload_n 1, 1) := by decide +kernel
theorem dX11_measure_8 : decode cX11_measure 8 = .ok (.aload_n 0, 1) := by decide +kernel
theorem dX11_measure_9 : decode cX11_measure 9 = .ok (.getfield 126, 3) := by decide +kernel
theorem dX11_measure_12 : decode cX11_measure 12 = .ok (.isub, 1) := by decide +kernel
theorem dX11_measure_13 : decode cX11_measure 13 = .ok (.ifCond .gt 4, 3) := by decide +kernel
theorem dX11_measure_16 : decode cX11_measure 16 = .ok (.return_, 1) := by decide +kernel
theorem dX11_measure_17 : decode cX11_measure 17 = .ok (.aload_n 0, 1) := by decide +kernel
theorem dX11_measure_18 : decode cX11_measure 18 = .ok (.iconst 0, 1) := by decide +kernel
theorem dX11_measure_19 : decode cX11_measure 19 = .ok (.putfield 106, 3) := by decide +kernel
theorem dX11_measure_22 : decode cX11_measure 22 = .ok (.aload_n 0, 1) := by decide +kernel
theorem dX11_measure_23 : decode cX11_measure 23 = .ok (.getfield 25, 3) := by decide +kernel
theorem dX11_measure_26 : decode cX11_measure 26 = .ok (.invokevirtual 129, 3) := by decide +kernel
theorem dX11_measure_29 : decode cX11_measure 29 = .ok (.aload_n 0, 1) := by decide +kernel
theorem dX11_measure_30 : decode cX11_measure 30 = .ok (.getfield 132, 3) := by decide +kernel
theorem dX11_measure_33 : decode cX11_measure 33 = .ok (.isub, 1) := by decide +kernel
theorem dX11_measure_34 : decode cX11_measure 34 = .ok (.istore_n 2, 1) := by decide +kernel
theorem dX11_measure_35 : decode cX11_measure 35 = .ok (.aload_n 0, 1) := by decide +kernel
theorem dX11_measure_36 : decode cX11_measure 36 = .ok (.getfield 198, 3) := by decide +kernel
theorem dX11_measure_39 : decode cX11_measure 39 = .ok (.ifCond .ne 23, 3) := by decide +kernel
theorem dX11_measure_42 : decode cX11_measure 42 = .ok (.aload_n 0, 1) := by decide +kernel
theorem dX11_measure_43 : decode cX11_measure 43 = .ok (.iconst 1, 1) := by decide +kernel
theorem dX11_measure_44 : decode cX11_measure 44 = .ok (.putfield 198, 3) := by decide +kernel
theorem dX11_measure_47 : decode cX11_measure 47 = .ok (.aload_n 0, 1) := by decide +kernel
theorem dX11_measure_48 : decode cX11_measure 48 = .ok (.iload_n 2, 1) := by decide +kernel
theorem dX11_measure_49 : decode cX11_measure 49 = .ok (.putfield 297, 3) := by decide +kernel
theorem dX11_measure_52 : decode cX11_measure 52 = .ok (.aload_n 0, 1) := by decide +kernel
theorem dX11_measure_53 : decode cX11_measure 53 = .ok (.iload_n 2, 1) := by decide +kernel
theorem dX11_measure_54 : decode cX11_measure 54 = .ok (.iconst 2, 1) := by decide +kernel
theorem dX11_measure_55 : decode cX11_measure 55 = .ok (.idiv, 1) := by decide +kernel
theorem dX11_measure_56 : decode cX11_measure 56 = .ok (.putfield 300, 3) := by decide +kernel
theorem dX11_measure_59 : decode cX11_measure 59 = .ok (.goto 41, 3) := by decide +kernel
theorem dX11_measure_62 : decode cX11_measure 62 = .ok (.aload_n 0, 1) := by decide +kernel
theorem dX11_measure_63 : decode cX11_measure 63 = .ok (.iconst 3, 1) := by decide +kernel
theorem dX11_measure_64 : decode cX11_measure 64 = .ok (.aload_n 0, 1) := by decide +kernel
theorem dX11_measure_65 : decode cX11_measure 65 = .ok (.getfield 300, 3) := by decide +kernel
theorem dX11_measure_68 : decode cX11_measure 68 = .ok (.imul, 1) := by decide +kernel
theorem dX11_measure_69 : decode cX11_measure 69 = .ok (.aload_n 0, 1) := by decide +kernel
theorem dX11_measure_70 : decode cX11_measure 70 = .ok (.getfield 297, 3) := by decide +kernel
theorem dX11_measure_73 : decode cX11_measure 73 = .ok (.iload_n 2, 1) := by decide +kernel
theorem dX11_measure_74 : decode cX11_measure 74 = .ok (.isub, 1) := by decide +kernel
theorem dX11_measure_75 : decode cX11_measure 75 = .ok (.invokestatic 303, 3) := by decide +kernel
theorem dX11_measure_78 : decode cX11_measure 78 = .ok (.iadd, 1) := by decide +kernel
theorem dX11_measure_79 : decode cX11_measure 79 = .ok (.iconst 4, 1) := by decide +kernel
theorem dX11_measure_80 : decode cX11_measure 80 = .ok (.idiv, 1) := by decide +kernel
theorem dX11_measure_81 : decode cX11_measure 81 = .ok (.putfield 300, 3) := by decide +kernel
theorem dX11_measure_84 : decode cX11_measure 84 = .ok (.aload_n 0, 1) := by decide +kernel
theorem dX11_measure_85 : decode cX11_measure 85 = .ok (.bipush 7, 2) := by decide +kernel
theorem dX11_measure_87 : decode cX11_measure 87 = .ok (.aload_n 0, 1) := by decide +kernel
theorem dX11_measure_88 : decode cX11_measure 88 = .ok (.getfield 297, 3) := by decide +kernel
theorem dX11_measure_91 : decode cX11_measure 91 = .ok (.imul, 1) := by decide +kernel
theorem dX11_measure_92 : decode cX11_measure 92 = .ok (.iload_n 2, 1) := by decide +kernel
theorem dX11_measure_93 : decode cX11_measure 93 = .ok (.iadd, 1) := by decide +kernel
theorem dX11_measure_94 : decode cX11_measure 94 = .ok (.bipush 8, 2) := by decide +kernel
theorem dX11_measure_96 : decode cX11_measure 96 = .ok (.idiv, 1) := by decide +kernel
theorem dX11_measure_97 : decode cX11_measure 97 = .ok (.putfield 297, 3) := by decide +kernel
theorem dX11_measure_100 : decode cX11_measure 100 = .ok (.aload_n 0, 1) := by decide +kernel
theorem dX11_measure_101 : decode cX11_measure 101 = .ok (.sipush 1000, 3) := by decide +kernel
theorem dX11_measure_104 : decode cX11_measure 104 = .ok (.aload_n 0, 1) := by decide +kernel
theorem dX11_measure_105 : decode cX11_measure 105 = .ok (.getfield 297, 3) := by decide +kernel
theorem dX11_measure_108 : decode cX11_measure 108 = .ok (.bipush 10, 2) := by decide +kernel
theorem dX11_measure_110 : decode cX11_measure 110 = .ok (.iconst 4, 1) := by decide +kernel
theorem dX11_measure_111 : decode cX11_measure 111 = .ok (.aload_n 0, 1) := by decide +kernel
theorem dX11_measure_112 : decode cX11_measure 112 = .ok (.getfield 300, 3) := by decide +kernel
theorem dX11_measure_115 : decode cX11_measure 115 = .ok (.imul, 1) := by decide +kernel
theorem dX11_measure_116 : decode cX11_measure 116 = .ok (.invokestatic 289, 3) := by decide +kernel
theorem dX11_measure_119 : decode cX11_measure 119 = .ok (.iadd, 1) := by decide +kernel
theorem dX11_measure_120 : decode cX11_measure 120 = .ok (.ldc 218, 2) := by decide +kernel
theorem dX11_measure_122 : decode cX11_measure 122 = .ok (.invokestatic 91, 3) := by decide +kernel
theorem dX11_measure_125 : decode cX11_measure 125 = .ok (.invokestatic 289, 3) := by decide +kernel
theorem dX11_measure_128 : decode cX11_measure 128 = .ok (.putfield 138, 3) := by decide +kernel
theorem dX11_measure_131 : decode cX11_measure 131 = .ok (.return_, 1) := by decide +kernel
def rmX11_measure : Room := { frames := 1, cells := 0, slots := 0, locals := 23 }
theorem kX11_measure : yX11_measure.cls = "WebHost$Connection" ∧ yX11_measure.cls ≠ "java/lang/invoke/MethodHandle" ∧ yX11_measure.cls ≠ "java/lang/invoke/VarHandle" ∧ (parseMethodDescriptor yX11_measure.desc).map (fun d => d.parameters.length) = some 1 := by decide +kernel
def w11_measure_J100 (σ : St) (o0 : Nat) (Q : St → Prop) : Prop := ∀ σ5, σ5 = up3 σ 11 o0 16 (imax 1000 (imin ((σ 11 o0 38) + (imax 10 (4 * (σ 11 o0 39)))) 60000)) → (Q σ5)
set_option maxHeartbeats 4000000 in
theorem k11_measure_J100 {p : Program} {l : Launch} {e : Env} {s : State} {m : MethodId} {args : Array Value} {below : List Frame} {meth : Method} {c : Code} {G : Gh} {a1 : Nat → Nat → Nat} {τ : St} {Q : St → Prop} (C : Cx p e s m args meth c cX11_measure 3 none "WebHost$Connection" G) (σ : St) (o0 : Nat) (ho0 : o0 < 16) (hw : w11_measure_J100 σ o0 Q) (H : Heap) (locs : List Loc) (ls : Array Slot) (hH : Hd G a1 (cmb σ τ) H) (hS : va_S (gA G) s.heap H locs) (hl : lv_has ls 3 [(0, .ref (ga G 11 o0))]) : W p l e rmX11_measure s m args below meth c H locs 0 0 (MQ below (QVs G a1 (fun u => cmb u τ) Q) args s 0 0 (gA G)) (F0 m 100 ls []) := by
  have hx := C.1
  have hb := C.2.1
  have hown := C.2.2.2.2.2.1
  have hts := C.2.2.2.2.2.2.1
  refine lv_aload_n hx hb dX11_measure_100 rfl (lv_at hl 0 rfl) ?_
  refine lv_sipush (v := 1000) hx hb dX11_measure_101 (by decide) ?_
  refine lv_aload_n hx hb dX11_measure_104 rfl (lv_at hl 0 rfl) ?_
  refine g11_38 C hH ho0 q660 dX11_measure_105 ?_
  refine lv_bipush (v := 10) hx hb dX11_measure_108 (by decide) ?_
  refine lv_iconst (v := 4) hx hb dX11_measure_110 (by decide) ?_
  refine lv_aload_n hx hb dX11_measure_111 rfl (lv_at hl 0 rfl) ?_
  refine g11_39 C hH ho0 q661 dX11_measure_112 ?_
  refine lv_imul hx hb dX11_measure_115 ?_
  refine r_imax C hl.1 q1033 (Nat.le_of_ble_eq_true rfl) (Nat.le_of_ble_eq_true rfl) (Nat.zero_le _) (Nat.zero_le _) dX11_measure_116 ?_
  refine lv_iadd hx hb dX11_measure_119 ?_
  refine lv_ldc (v := 60000) hx hb hown (hts _ q1019) dX11_measure_120 ?_
  refine r_imin C hl.1 q1020 (Nat.le_of_ble_eq_true rfl) (Nat.le_of_ble_eq_true rfl) (Nat.zero_le _) (Nat.zero_le _) dX11_measure_122 ?_
  refine r_imax C hl.1 q1033 (Nat.le_of_ble_eq_true rfl) (Nat.le_of_ble_eq_true rfl) (Nat.zero_le _) (Nat.zero_le _) dX11_measure_125 ?_
  refine p11_16 C hH hS ho0 q634 dX11_measure_128 (fun σ5 e5 H locs hH hS => ?_)
  have hw := hw σ5 e5
  exact rt_v C hH hS hw dX11_measure_131
def w11_measure (σ : St) (o0 : Nat) (x1 : Int32) (Q : St → Prop) : Prop := bo (σ 11 o0 34) → (((σ 11 o0 34) = 0 → Q σ) ∧ (¬ (σ 11 o0 34) = 0 → ((0 < (x1 - (σ 11 o0 36)) → (∀ σ1, σ1 = up3 σ 11 o0 34 0 → (w8_now σ1 (fun r2 => (bo (σ1 11 o0 35) → ((¬ (σ1 11 o0 35) = 0 → (∀ σ3, σ3 = up3 σ1 11 o0 39 (((3 * (σ1 11 o0 39)) + (iabs ((σ1 11 o0 38) - (r2 - (σ1 11 o0 37))))) / 4) → (∀ σ4, σ4 = up3 σ3 11 o0 38 (((7 * (σ3 11 o0 38)) + (r2 - (σ1 11 o0 37))) / 8) → (w11_measure_J100 σ4 o0 Q)))) ∧ ((σ1 11 o0 35) = 0 → (∀ σ6, σ6 = up3 σ1 11 o0 35 1 → (∀ σ7, σ7 = up3 σ6 11 o0 38 (r2 - (σ1 11 o0 37)) → (∀ σ8, σ8 = up3 σ7 11 o0 39 ((r2 - (σ1 11 o0 37)) / 2) → (w11_measure_J100 σ8 o0 Q))))))))))) ∧ (¬ 0 < (x1 - (σ 11 o0 36)) → Q σ))))
set_option maxHeartbeats 4000000 in
theorem m11_measure (l : Launch) (G : Gh) (a1 : Nat → Nat → Nat) (τ : St) (σ : St) (o0 : Nat) (x1 : Int32) (ho0 : o0 < 16) (Q : St → Prop) (hw : w11_measure σ o0 x1 Q) : Met l yX11_measure (ws_ yX11_measure cX11_measure 3 none) rmX11_measure (PcS G a1 (cmb σ τ) [.ref (ga G 11 o0), .int x1]) (QVs G a1 (fun u => cmb u τ) Q) 0 0 (gA G) := by
  refine met_w (by decide) (Nat.le_of_ble_eq_true rfl) ?_
  intro p e s m below meth c ls C hH hS hl
  have C : Cx p e s m _ meth c cX11_measure 3 none "WebHost$Connection" G := C
  have hl : lv_has ls 3 [(0, .ref (ga G 11 o0)), (1, .int x1)] := hl
  have hx := C.1
  have hb := C.2.1
  have hown := C.2.2.2.2.2.1
  have hts := C.2.2.2.2.2.2.1
  obtain ⟨locs, hlocs⟩ : ∃ z : List Loc, z = [] := ⟨_, rfl⟩
  obtain ⟨H, hHe⟩ : ∃ z : Heap, z = s.heap := ⟨_, rfl⟩
  have hH : Hd G a1 (cmb σ τ) H := by rw [hHe]; exact hH
  have hS : va_S (gA G) s.heap H locs := by rw [hHe, hlocs]; exact hS
  refine W.heap0 hHe.symm hlocs.symm ?_
  refine lv_aload_n hx hb dX11_measure_0 rfl (lv_at hl 0 rfl) ?_
  refine g11_34 C hH ho0 q656 dX11_measure_1 (fun hz => ?_)
  have hw := hw hz
  refine lv_if_eq (tgt := 16) hx hb dX11_measure_4 (by decide) (fun h => ?_) (fun h => ?_)
  · have hw := hw.1 h
    exact rt_v C hH hS hw dX11_measure_16
  have hw := hw.2 h
  refine lv_iload_n hx hb dX11_measure_7 rfl (lv_at hl 1 rfl) ?_
  refine lv_aload_n hx hb dX11_measure_8 rfl (lv_at hl 0 rfl) ?_
  refine g11_36 C hH ho0 q658 dX11_measure_9 ?_
  refine lv_isub hx hb dX11_measure_12 ?_
  refine lv_if_gt (tgt := 17) hx hb dX11_measure_13 (by decide) (fun h => ?_) (fun h => ?_)
  · have hw := hw.1 h
    refine lv_aload_n hx hb dX11_measure_17 rfl (lv_at hl 0 rfl) ?_
    refine lv_iconst (v := 0) hx hb dX11_measure_18 (by decide) ?_
    refine p11_34 C hH hS ho0 (Or.inl rfl) q656 dX11_measure_19 (fun σ1 e1 H locs hH hS => ?_)
    have hw := hw σ1 e1
    refine lv_aload_n hx hb dX11_measure_22 rfl (lv_at hl 0 rfl) ?_
    refine g11_0 C hH ho0 q608 dX11_measure_23 ?_
    refine kc_ip (rn_vp (As := []) (rest := []) C hH hS (by decide) rfl (by decide) (m8_now l G a1 τ σ1 H _ hw) (cwV 0 hts (lw_V q1025 q1026 q1027 q165 q1028) rfl rfl rfl kX8_now ⟨Nat.le_of_ble_eq_true rfl, Nat.le_of_ble_eq_true rfl⟩) rfl hl.1 rfl (Nat.le_of_ble_eq_true rfl) dX11_measure_26 ⟨Nat.le_of_ble_eq_true rfl, Nat.le_of_ble_eq_true rfl⟩) hS (fun r2 locs hw hS => ?_)
    refine lv_aload_n hx hb dX11_measure_29 rfl (lv_at hl 0 rfl) ?_
    refine g11_37 C hH ho0 q659 dX11_measure_30 ?_
    refine lv_isub hx hb dX11_measure_33 ?_
    refine lv_istore_n (lv' := [(2, .int (r2 - (σ1 11 o0 37))), (0, .ref (ga G 11 o0)), (1, .int x1)]) hx hb dX11_measure_34 rfl hl (by decide) rfl (fun ls hl => ?_)
    refine lv_aload_n hx hb dX11_measure_35 rfl (lv_at hl 1 rfl) ?_
    refine g11_35 C hH ho0 q657 dX11_measure_36 (fun hz => ?_)
    have hw := hw hz
    refine lv_if_ne (tgt := 62) hx hb dX11_measure_39 (by decide) (fun h => ?_) (fun h => ?_)
    · have hw := hw.1 h
      refine lv_aload_n hx hb dX11_measure_62 rfl (lv_at hl 1 rfl) ?_
      refine lv_iconst (v := 3) hx hb dX11_measure_63 (by decide) ?_
      refine lv_aload_n hx hb dX11_measure_64 rfl (lv_at hl 1 rfl) ?_
      refine g11_39 C hH ho0 q661 dX11_measure_65 ?_
      refine lv_imul hx hb dX11_measure_68 ?_
      refine lv_aload_n hx hb dX11_measure_69 rfl (lv_at hl 1 rfl) ?_
      refine g11_38 C hH ho0 q660 dX11_measure_70 ?_
      refine lv_iload_n hx hb dX11_measure_73 rfl (lv_at hl 0 rfl) ?_
      refine lv_isub hx hb dX11_measure_74 ?_
      refine r_iabs C hl.1 q1180 (Nat.le_of_ble_eq_true rfl) (Nat.le_of_ble_eq_true rfl) (Nat.zero_le _) (Nat.zero_le _) dX11_measure_75 ?_
      refine lv_iadd hx hb dX11_measure_78 ?_
      refine lv_iconst (v := 4) hx hb dX11_measure_79 (by decide) ?_
      refine lv_idiv hx hb dX11_measure_80 (by decide) ?_
      refine p11_39 C hH hS ho0 q661 dX11_measure_81 (fun σ3 e3 H locs hH hS => ?_)
      have hw := hw σ3 e3
      refine lv_aload_n hx hb dX11_measure_84 rfl (lv_at hl 1 rfl) ?_
      refine lv_bipush (v := 7) hx hb dX11_measure_85 (by decide) ?_
      refine lv_aload_n hx hb dX11_measure_87 rfl (lv_at hl 1 rfl) ?_
      refine g11_38 C hH ho0 q660 dX11_measure_88 ?_
      refine lv_imul hx hb dX11_measure_91 ?_
      refine lv_iload_n hx hb dX11_measure_92 rfl (lv_at hl 0 rfl) ?_
      refine lv_iadd hx hb dX11_measure_93 ?_
      refine lv_bipush (v := 8) hx hb dX11_measure_94 (by decide) ?_
      refine lv_idiv hx hb dX11_measure_96 (by decide) ?_
      refine p11_38 C hH hS ho0 q660 dX11_measure_97 (fun σ4 e4 H locs hH hS => ?_)
      have hw := hw σ4 e4
      exact k11_measure_J100 C σ4 o0 ho0 hw H locs ls hH hS (lv_sub hl [1] rfl)
    have hw := hw.2 h
    refine lv_aload_n hx hb dX11_measure_42 rfl (lv_at hl 1 rfl) ?_
    refine lv_iconst (v := 1) hx hb dX11_measure_43 (by decide) ?_
    refine p11_35 C hH hS ho0 (Or.inr rfl) q657 dX11_measure_44 (fun σ6 e6 H locs hH hS => ?_)
    have hw := hw σ6 e6
    refine lv_aload_n hx hb dX11_measure_47 rfl (lv_at hl 1 rfl) ?_
    refine lv_iload_n hx hb dX11_measure_48 rfl (lv_at hl 0 rfl) ?_
    refine p11_38 C hH hS ho0 q660 dX11_measure_49 (fun σ7 e7 H locs hH hS => ?_)
    have hw := hw σ7 e7
    refine lv_aload_n hx hb dX11_measure_52 rfl (lv_at hl 1 rfl) ?_
    refine lv_iload_n hx hb dX11_measure_53 rfl (lv_at hl 0 rfl) ?_
    refine lv_iconst (v := 2) hx hb dX11_measure_54 (by decide) ?_
    refine lv_idiv hx hb dX11_measure_55 (by decide) ?_
    refine p11_39 C hH hS ho0 q661 dX11_measure_56 (fun σ8 e8 H locs hH hS => ?_)
    have hw := hw σ8 e8
    refine lv_goto (tgt := 100) hx hb dX11_measure_59 (by decide) ?_
    exact k11_measure_J100 C σ8 o0 ho0 hw H locs ls hH hS (lv_sub hl [1] rfl)
  have hw := hw.2 h
  exact rt_v C hH hS hw dX11_measure_16
/-! WebHost$Connection.startTimer()V -/
abbrev cX11_startTimer : ByteArray := prog_3_method_11_code
def yX11_startTimer : MethodName := ⟨RX11, "startTimer", "()V"⟩
theorem dX11_startTimer_0 : decode cX11_startTimer 0 = .ok (.aload_n 0, 1) := by decide +kernel
theorem dX11_startTimer_1 : decode cX11_startTimer 1 = .ok (.getfield 135, 3) := by decide +kernel
theorem dX11_startTimer_4 : decode cX11_startTimer 4 = .ok (.ifCond .eq 4, 3) := by decide +kernel
theorem dX11_startTimer_7 : decode cX11_startTimer 7 = .ok (.return_, 1) := by decide +kernel
theorem dX11_startTimer_8 : decode cX11_startTimer 8 = .ok (.aload_n 0, 1) := by decide +kernel
theorem dX11_startTimer_9 : decode cX11_startTimer 9 = .ok (.iconst 1, 1) := by decide +kernel
theorem dX11_startTimer_10 : decode cX11_startTimer 10 = .ok (.putfield 135, 3) := by decide +kernel
theorem dX11_startTimer_13 : decode cX11_startTimer 13 = .ok (.aload_n 0, 1) := by decide +kernel
theorem dX11_startTimer_14 : decode cX11_startTimer 14 = .ok (.aload_n 0, 1) := by decide +kernel
theorem dX11_startTimer_15 : decode cX11_startTimer 15 = .ok (.getfield 25, 3) := by decide +kernel
theorem dX11_startTimer_18 : decode cX11_startTimer 18 = .ok (.invokevirtual 129, 3) := by decide +kernel
theorem dX11_startTimer_21 : decode cX11_startTimer 21 = .ok (.aload_n 0, 1) := by decide +kernel
theorem dX11_startTimer_22 : decode cX11_startTimer 22 = .ok (.getfield 138, 3) := by decide +kernel
theorem dX11_startTimer_25 : decode cX11_startTimer 25 = .ok (.iadd, 1) := by decide +kernel
theorem dX11_startTimer_26 : decode cX11_startTimer 26 = .ok (.putfield 141, 3) := by decide +kernel
theorem dX11_startTimer_29 : decode cX11_startTimer 29 = .ok (.return_, 1) := by decide +kernel
def rmX11_startTimer : Room := { frames := 1, cells := 0, slots := 0, locals := 20 }
theorem kX11_startTimer : yX11_startTimer.cls = "WebHost$Connection" ∧ yX11_startTimer.cls ≠ "java/lang/invoke/MethodHandle" ∧ yX11_startTimer.cls ≠ "java/lang/invoke/VarHandle" ∧ (parseMethodDescriptor yX11_startTimer.desc).map (fun d => d.parameters.length) = some 0 := by decide +kernel
def w11_startTimer (σ : St) (o0 : Nat) (Q : St → Prop) : Prop := bo (σ 11 o0 29) → (((σ 11 o0 29) = 0 → (∀ σ1, σ1 = up3 σ 11 o0 29 1 → (w8_now σ1 (fun r2 => (∀ σ3, σ3 = up3 σ1 11 o0 30 (r2 + (σ1 11 o0 16)) → (Q σ3)))))) ∧ (¬ (σ 11 o0 29) = 0 → Q σ))
set_option maxHeartbeats 4000000 in
theorem m11_startTimer (l : Launch) (G : Gh) (a1 : Nat → Nat → Nat) (τ : St) (σ : St) (o0 : Nat) (ho0 : o0 < 16) (Q : St → Prop) (hw : w11_startTimer σ o0 Q) : Met l yX11_startTimer (ws_ yX11_startTimer cX11_startTimer 1 none) rmX11_startTimer (PcS G a1 (cmb σ τ) [.ref (ga G 11 o0)]) (QVs G a1 (fun u => cmb u τ) Q) 0 0 (gA G) := by
  refine met_w (by decide) (Nat.le_of_ble_eq_true rfl) ?_
  intro p e s m below meth c ls C hH hS hl
  have C : Cx p e s m _ meth c cX11_startTimer 1 none "WebHost$Connection" G := C
  have hl : lv_has ls 1 [(0, .ref (ga G 11 o0))] := hl
  have hx := C.1
  have hb := C.2.1
  have hown := C.2.2.2.2.2.1
  have hts := C.2.2.2.2.2.2.1
  obtain ⟨locs, hlocs⟩ : ∃ z : List Loc, z = [] := ⟨_, rfl⟩
  obtain ⟨H, hHe⟩ : ∃ z : Heap, z = s.heap := ⟨_, rfl⟩
  have hH : Hd G a1 (cmb σ τ) H := by rw [hHe]; exact hH
  have hS : va_S (gA G) s.heap H locs := by rw [hHe, hlocs]; exact hS
  refine W.heap0 hHe.symm hlocs.symm ?_
  refine lv_aload_n hx hb dX11_startTimer_0 rfl (lv_at hl 0 rfl) ?_
  refine g11_29 C hH ho0 q651 dX11_startTimer_1 (fun hz => ?_)
  have hw := hw hz
  refine lv_if_eq (tgt := 8) hx hb dX11_startTimer_4 (by decide) (fun h => ?_) (fun h => ?_)
  · have hw := hw.1 h
    refine lv_aload_n hx hb dX11_startTimer_8 rfl (lv_at hl 0 rfl) ?_
    refine lv_iconst (v := 1) hx hb dX11_startTimer_9 (by decide) ?_
    refine p11_29 C hH hS ho0 (Or.inr rfl) q651 dX11_startTimer_10 (fun σ1 e1 H locs hH hS => ?_)
    have hw := hw σ1 e1
    refine lv_aload_n hx hb dX11_startTimer_13 rfl (lv_at hl 0 rfl) ?_
    refine lv_aload_n hx hb dX11_startTimer_14 rfl (lv_at hl 0 rfl) ?_
    refine g11_0 C hH ho0 q608 dX11_startTimer_15 ?_
    refine kc_ip (rn_vp (As := []) (rest := [.ref (ga G 11 o0)]) C hH hS (by decide) rfl (by decide) (m8_now l G a1 τ σ1 H _ hw) (cwV 0 hts (lw_V q1025 q1026 q1027 q165 q1028) rfl rfl rfl kX8_now ⟨Nat.le_of_ble_eq_true rfl, Nat.le_of_ble_eq_true rfl⟩) rfl hl.1 rfl (Nat.le_of_ble_eq_true rfl) dX11_startTimer_18 ⟨Nat.le_of_ble_eq_true rfl, Nat.le_of_ble_eq_true rfl⟩) hS (fun r2 locs hw hS => ?_)
    refine lv_aload_n hx hb dX11_startTimer_21 rfl (lv_at hl 0 rfl) ?_
    refine g11_16 C hH ho0 q634 dX11_startTimer_22 ?_
    refine lv_iadd hx hb dX11_startTimer_25 ?_
    refine p11_30 C hH hS ho0 q652 dX11_startTimer_26 (fun σ3 e3 H locs hH hS => ?_)
    have hw := hw σ3 e3
    exact rt_v C hH hS hw dX11_startTimer_29
  have hw := hw.2 h
  exact rt_v C hH hS hw dX11_startTimer_7
/-! WebHost$Connection.time(I)V -/
abbrev cX11_time : ByteArray := prog_3_method_10_code
def yX11_time : MethodName := ⟨RX11, "time", "(I)V"⟩
theorem dX11_time_0 : decode cX11_time 0 = .ok (.aload_n 0, 1) := by decide +kernel
theorem dX11_time_1 : decode cX11_time 1 = .ok (.iconst 1, 1) := by decide +kernel
theorem dX11_time_2 : decode cX11_time 2 = .ok (.putfield 106, 3) := by decide +kernel
theorem dX11_time_5 : decode cX11_time 5 = .ok (.aload_n 0, 1) := by decide +kernel
theorem dX11_time_6 : decode cX11_time 6 = .ok (.iload_n 1, 1) := by decide +kernel
theorem dX11_time_7 : decode cX11_time 7 = .ok (.putfield 126, 3) := by decide +kernel
theorem dX11_time_10 : decode cX11_time 10 = .ok (.aload_n 0, 1) := by decide +kernel
theorem dX11_time_11 : decode cX11_time 11 = .ok (.aload_n 0, 1) := by decide +kernel
theorem dX11_time_12 : decode cX11_time 12 = .ok (.getfield 25, 3) := by decide +kernel
theorem dX11_time_15 : decode cX11_time 15 = .ok (.invokevirtual 129, 3) := by decide +kernel
theorem dX11_time_18 : decode cX11_time 18 = .ok (.putfield 132, 3) := by decide +kernel
theorem dX11_time_21 : decode cX11_time 21 = .ok (.return_, 1) := by decide +kernel
def rmX11_time : Room := { frames := 1, cells := 0, slots := 0, locals := 20 }
theorem kX11_time : yX11_time.cls = "WebHost$Connection" ∧ yX11_time.cls ≠ "java/lang/invoke/MethodHandle" ∧ yX11_time.cls ≠ "java/lang/invoke/VarHandle" ∧ (parseMethodDescriptor yX11_time.desc).map (fun d => d.parameters.length) = some 1 := by decide +kernel
def w11_time (σ : St) (o0 : Nat) (x1 : Int32) (Q : St → Prop) : Prop := ∀ σ1, σ1 = up3 σ 11 o0 34 1 → (∀ σ2, σ2 = up3 σ1 11 o0 36 x1 → (w8_now σ2 (fun r3 => (∀ σ4, σ4 = up3 σ2 11 o0 37 r3 → (Q σ4)))))
set_option maxHeartbeats 4000000 in
theorem m11_time (l : Launch) (G : Gh) (a1 : Nat → Nat → Nat) (τ : St) (σ : St) (o0 : Nat) (x1 : Int32) (ho0 : o0 < 16) (Q : St → Prop) (hw : w11_time σ o0 x1 Q) : Met l yX11_time (ws_ yX11_time cX11_time 2 none) rmX11_time (PcS G a1 (cmb σ τ) [.ref (ga G 11 o0), .int x1]) (QVs G a1 (fun u => cmb u τ) Q) 0 0 (gA G) := by
  refine met_w (by decide) (Nat.le_of_ble_eq_true rfl) ?_
  intro p e s m below meth c ls C hH hS hl
  have C : Cx p e s m _ meth c cX11_time 2 none "WebHost$Connection" G := C
  have hl : lv_has ls 2 [(0, .ref (ga G 11 o0)), (1, .int x1)] := hl
  have hx := C.1
  have hb := C.2.1
  have hown := C.2.2.2.2.2.1
  have hts := C.2.2.2.2.2.2.1
  obtain ⟨locs, hlocs⟩ : ∃ z : List Loc, z = [] := ⟨_, rfl⟩
  obtain ⟨H, hHe⟩ : ∃ z : Heap, z = s.heap := ⟨_, rfl⟩
  have hH : Hd G a1 (cmb σ τ) H := by rw [hHe]; exact hH
  have hS : va_S (gA G) s.heap H locs := by rw [hHe, hlocs]; exact hS
  refine W.heap0 hHe.symm hlocs.symm ?_
  refine lv_aload_n hx hb dX11_time_0 rfl (lv_at hl 0 rfl) ?_
  refine lv_iconst (v := 1) hx hb dX11_time_1 (by decide) ?_
  refine p11_34 C hH hS ho0 (Or.inr rfl) q656 dX11_time_2 (fun σ1 e1 H locs hH hS => ?_)
  have hw := hw σ1 e1
  refine lv_aload_n hx hb dX11_time_5 rfl (lv_at hl 0 rfl) ?_
  refine lv_iload_n hx hb dX11_time_6 rfl (lv_at hl 1 rfl) ?_
  refine p11_36 C hH hS ho0 q658 dX11_time_7 (fun σ2 e2 H locs hH hS => ?_)
  have hw := hw σ2 e2
  refine lv_aload_n hx hb dX11_time_10 rfl (lv_at hl 0 rfl) ?_
  refine lv_aload_n hx hb dX11_time_11 rfl (lv_at hl 0 rfl) ?_
  refine g11_0 C hH ho0 q608 dX11_time_12 ?_
  refine kc_ip (rn_vp (As := []) (rest := [.ref (ga G 11 o0)]) C hH hS (by decide) rfl (by decide) (m8_now l G a1 τ σ2 H _ hw) (cwV 0 hts (lw_V q1025 q1026 q1027 q165 q1028) rfl rfl rfl kX8_now ⟨Nat.le_of_ble_eq_true rfl, Nat.le_of_ble_eq_true rfl⟩) rfl hl.1 rfl (Nat.le_of_ble_eq_true rfl) dX11_time_15 ⟨Nat.le_of_ble_eq_true rfl, Nat.le_of_ble_eq_true rfl⟩) hS (fun r3 locs hw hS => ?_)
  refine p11_37 C hH hS ho0 q659 dX11_time_18 (fun σ4 e4 H locs hH hS => ?_)
  have hw := hw σ4 e4
  exact rt_v C hH hS hw dX11_time_21
/-! WebHost$Inbox.leaveOut()V -/
abbrev cX12_leaveOut : ByteArray := prog_7_method_7_code
def yX12_leaveOut : MethodName := ⟨RX12, "leaveOut", "()V"⟩
theorem dX12_leaveOut_0 : decode cX12_leaveOut 0 = .ok (.aload_n 0, 1) := by decide +kernel
theorem dX12_leaveOut_1 : decode cX12_leaveOut 1 = .ok (.getfield 21, 3) := by decide +kernel
theorem dX12_leaveOut_4 : decode cX12_leaveOut 4 = .ok (.aload_n 0, 1) := by decide +kernel
theorem dX12_leaveOut_5 : decode cX12_leaveOut 5 = .ok (.getfield 17, 3) := by decide +kernel
theorem dX12_leaveOut_8 : decode cX12_leaveOut 8 = .ok (.invokestatic 24, 3) := by decide +kernel
theorem dX12_leaveOut_11 : decode cX12_leaveOut 11 = .ok (.istore_n 1, 1) := by decide +kernel
theorem dX12_leaveOut_12 : decode cX12_leaveOut 12 = .ok (.iload_n 1, 1) := by decide +kernel
theorem dX12_leaveOut_13 : decode cX12_leaveOut 13 = .ok (.ifCond .le 8, 3) := by decide +kernel
theorem dX12_leaveOut_16 : decode cX12_leaveOut 16 = .ok (.aload_n 0, 1) := by decide +kernel
theorem dX12_leaveOut_17 : decode cX12_leaveOut 17 = .ok (.iload_n 1, 1) := by decide +kernel
theorem dX12_leaveOut_18 : decode cX12_leaveOut 18 = .ok (.invokevirtual 30, 3) := by decide +kernel
theorem dX12_leaveOut_21 : decode cX12_leaveOut 21 = .ok (.aload_n 0, 1) := by decide +kernel
theorem dX12_leaveOut_22 : decode cX12_leaveOut 22 = .ok (.dup, 1) := by decide +kernel
theorem dX12_leaveOut_23 : decode cX12_leaveOut 23 = .ok (.getfield 21, 3) := by decide +kernel
theorem dX12_leaveOut_26 : decode cX12_leaveOut 26 = .ok (.iload_n 1, 1) := by decide +kernel
theorem dX12_leaveOut_27 : decode cX12_leaveOut 27 = .ok (.isub, 1) := by decide +kernel
theorem dX12_leaveOut_28 : decode cX12_leaveOut 28 = .ok (.putfield 21, 3) := by decide +kernel
theorem dX12_leaveOut_31 : decode cX12_leaveOut 31 = .ok (.return_, 1) := by decide +kernel
def rmX12_leaveOut : Room := { frames := 1, cells := 0, slots := 0, locals := 23 }
theorem kX12_leaveOut : yX12_leaveOut.cls = "WebHost$Inbox" ∧ yX12_leaveOut.cls ≠ "java/lang/invoke/MethodHandle" ∧ yX12_leaveOut.cls ≠ "java/lang/invoke/VarHandle" ∧ (parseMethodDescriptor yX12_leaveOut.desc).map (fun d => d.parameters.length) = some 0 := by decide +kernel
def w12_leaveOut (σ : St) (o0 : Nat) (Q : St → Prop) : Prop := ((imin (σ 12 o0 3) (σ 12 o0 2)) ≤ 0 → (∀ σ1, σ1 = up3 σ 12 o0 3 ((σ 12 o0 3) - (imin (σ 12 o0 3) (σ 12 o0 2))) → (Q σ1))) ∧ (¬ (imin (σ 12 o0 3) (σ 12 o0 2)) ≤ 0 → (w12_take σ o0 (imin (σ 12 o0 3) (σ 12 o0 2)) (fun σ2 => (∀ σ3, σ3 = up3 σ2 12 o0 3 ((σ2 12 o0 3) - (imin (σ 12 o0 3) (σ 12 o0 2))) → (Q σ3)))))
set_option maxHeartbeats 4000000 in
theorem m12_leaveOut (l : Launch) (G : Gh) (a1 : Nat → Nat → Nat) (τ : St) (σ : St) (o0 : Nat) (ho0 : o0 < 16) (Q : St → Prop) (hw : w12_leaveOut σ o0 Q) : Met l yX12_leaveOut (ws_ yX12_leaveOut cX12_leaveOut 2 none) rmX12_leaveOut (PcS G a1 (cmb σ τ) [.ref (ga G 12 o0)]) (QVs G a1 (fun u => cmb u τ) Q) 0 0 (gA G) := by
  refine met_w (by decide) (Nat.le_of_ble_eq_true rfl) ?_
  intro p e s m below meth c ls C hH hS hl
  have C : Cx p e s m _ meth c cX12_leaveOut 2 none "WebHost$Inbox" G := C
  have hl : lv_has ls 2 [(0, .ref (ga G 12 o0))] := hl
  have hx := C.1
  have hb := C.2.1
  have hown := C.2.2.2.2.2.1
  have hts := C.2.2.2.2.2.2.1
  obtain ⟨locs, hlocs⟩ : ∃ z : List Loc, z = [] := ⟨_, rfl⟩
  obtain ⟨H, hHe⟩ : ∃ z : Heap, z = s.heap := ⟨_, rfl⟩
  have hH : Hd G a1 (cmb σ τ) H := by rw [hHe]; exact hH
  have hS : va_S (gA G) s.heap H locs := by rw [hHe, hlocs]; exact hS
  refine W.heap0 hHe.symm hlocs.symm ?_
  refine lv_aload_n hx hb dX12_leaveOut_0 rfl (lv_at hl 0 rfl) ?_
  refine g12_3 C hH ho0 q582 dX12_leaveOut_1 ?_
  refine lv_aload_n hx hb dX12_leaveOut_4 rfl (lv_at hl 0 rfl) ?_
  refine g12_2 C hH ho0 q579 dX12_leaveOut_5 ?_
  refine r_imin C hl.1 q1236 (Nat.le_of_ble_eq_true rfl) (Nat.le_of_ble_eq_true rfl) (Nat.zero_le _) (Nat.zero_le _) dX12_leaveOut_8 ?_
  refine lv_istore_n (lv' := [(1, .int (imin (σ 12 o0 3) (σ 12 o0 2))), (0, .ref (ga G 12 o0))]) hx hb dX12_leaveOut_11 rfl hl (by decide) rfl (fun ls hl => ?_)
  refine lv_iload_n hx hb dX12_leaveOut_12 rfl (lv_at hl 0 rfl) ?_
  refine lv_if_le (tgt := 21) hx hb dX12_leaveOut_13 (by decide) (fun h => ?_) (fun h => ?_)
  · have hw := hw.1 h
    refine lv_aload_n hx hb dX12_leaveOut_21 rfl (lv_at hl 1 rfl) ?_
    refine lv_dup hx hb dX12_leaveOut_22 rfl ?_
    refine g12_3 C hH ho0 q582 dX12_leaveOut_23 ?_
    refine lv_iload_n hx hb dX12_leaveOut_26 rfl (lv_at hl 0 rfl) ?_
    refine lv_isub hx hb dX12_leaveOut_27 ?_
    refine p12_3 C hH hS ho0 q582 dX12_leaveOut_28 (fun σ1 e1 H locs hH hS => ?_)
    have hw := hw σ1 e1
    exact rt_v C hH hS hw dX12_leaveOut_31
  have hw := hw.2 h
  refine lv_aload_n hx hb dX12_leaveOut_16 rfl (lv_at hl 1 rfl) ?_
  refine lv_iload_n hx hb dX12_leaveOut_17 rfl (lv_at hl 0 rfl) ?_
  refine kc_v (rn_v (As := [.int (imin (σ 12 o0 3) (σ 12 o0 2))]) (rest := []) C hH hS (by decide) rfl ho0 (m12_take l G a1 τ σ o0 (imin (σ 12 o0 3) (σ 12 o0 2)) ho0 _ hw) (cwV 1 hts (lw_V q1237 q1238 q1239 q169 q1240) rfl rfl rfl kX12_take ⟨Nat.le_of_ble_eq_true rfl, Nat.le_of_ble_eq_true rfl⟩) rfl hl.1 rfl (Nat.le_of_ble_eq_true rfl) dX12_leaveOut_18 ⟨Nat.le_of_ble_eq_true rfl, Nat.le_of_ble_eq_true rfl⟩) hS (fun σ2 H locs hw hH hS => ?_)
  refine lv_aload_n hx hb dX12_leaveOut_21 rfl (lv_at hl 1 rfl) ?_
  refine lv_dup hx hb dX12_leaveOut_22 rfl ?_
  refine g12_3 C hH ho0 q582 dX12_leaveOut_23 ?_
  refine lv_iload_n hx hb dX12_leaveOut_26 rfl (lv_at hl 0 rfl) ?_
  refine lv_isub hx hb dX12_leaveOut_27 ?_
  refine p12_3 C hH hS ho0 q582 dX12_leaveOut_28 (fun σ3 e3 H locs hH hS => ?_)
  have hw := hw σ3 e3
  exact rt_v C hH hS hw dX12_leaveOut_31
/-! WebHost$Answer.number(I)V -/
abbrev cX13_number : ByteArray := prog_2_method_6_code
def yX13_number : MethodName := ⟨RX13, "number", "(I)V"⟩
theorem dX13_number_0 : decode cX13_number 0 = .ok (.iconst 1, 1) := by decide +kernel
theorem dX13_number_1 : decode cX13_number 1 = .ok (.istore_n 2, 1) := by decide +kernel
theorem dX13_number_2 : decode cX13_number 2 = .ok (.iload_n 1, 1) := by decide +kernel
theorem dX13_number_3 : decode cX13_number 3 = .ok (.iload_n 2, 1) := by decide +kernel
theorem dX13_number_4 : decode cX13_number 4 = .ok (.idiv, 1) := by decide +kernel
theorem dX13_number_5 : decode cX13_number 5 = .ok (.bipush 9, 2) := by decide +kernel
theorem dX13_number_7 : decode cX13_number 7 = .ok (.if_icmp .le 11, 3) := by decide +kernel
theorem dX13_number_10 : decode cX13_number 10 = .ok (.iload_n 2, 1) := by decide +kernel
theorem dX13_number_11 : decode cX13_number 11 = .ok (.bipush 10, 2) := by decide +kernel
theorem dX13_number_13 : decode cX13_number 13 = .ok (.imul, 1) := by decide +kernel
theorem dX13_number_14 : decode cX13_number 14 = .ok (.istore_n 2, 1) := by decide +kernel
theorem dX13_number_15 : decode cX13_number 15 = .ok (.goto (-13), 3) := by decide +kernel
theorem dX13_number_18 : decode cX13_number 18 = .ok (.iload_n 2, 1) := by decide +kernel
theorem dX13_number_19 : decode cX13_number 19 = .ok (.ifCond .le 24, 3) := by decide +kernel
theorem dX13_number_22 : decode cX13_number 22 = .ok (.aload_n 0, 1) := by decide +kernel
theorem dX13_number_23 : decode cX13_number 23 = .ok (.bipush 48, 2) := by decide +kernel
theorem dX13_number_25 : decode cX13_number 25 = .ok (.iload_n 1, 1) := by decide +kernel
theorem dX13_number_26 : decode cX13_number 26 = .ok (.iload_n 2, 1) := by decide +kernel
theorem dX13_number_27 : decode cX13_number 27 = .ok (.idiv, 1) := by decide +kernel
theorem dX13_number_28 : decode cX13_number 28 = .ok (.bipush 10, 2) := by decide +kernel
theorem dX13_number_30 : decode cX13_number 30 = .ok (.irem, 1) := by decide +kernel
theorem dX13_number_31 : decode cX13_number 31 = .ok (.iadd, 1) := by decide +kernel
theorem dX13_number_32 : decode cX13_number 32 = .ok (.invokevirtual 29, 3) := by decide +kernel
theorem dX13_number_35 : decode cX13_number 35 = .ok (.iload_n 2, 1) := by decide +kernel
theorem dX13_number_36 : decode cX13_number 36 = .ok (.bipush 10, 2) := by decide +kernel
theorem dX13_number_38 : decode cX13_number 38 = .ok (.idiv, 1) := by decide +kernel
theorem dX13_number_39 : decode cX13_number 39 = .ok (.istore_n 2, 1) := by decide +kernel
theorem dX13_number_40 : decode cX13_number 40 = .ok (.goto (-22), 3) := by decide +kernel
theorem dX13_number_43 : decode cX13_number 43 = .ok (.return_, 1) := by decide +kernel
def rmX13_number : Room := { frames := 1, cells := 0, slots := 0, locals := 21 }
theorem kX13_number : yX13_number.cls = "WebHost$Answer" ∧ yX13_number.cls ≠ "java/lang/invoke/MethodHandle" ∧ yX13_number.cls ≠ "java/lang/invoke/VarHandle" ∧ (parseMethodDescriptor yX13_number.desc).map (fun d => d.parameters.length) = some 1 := by decide +kernel
def w13_number_L2 (σ : St) (o0 : Nat) (x1 : Int32) (Q : St → Prop) (K18 : Int32 → Prop) : Nat → Int32 → Prop
  | 0, _ => False
  | n + 1, x2 => ¬ x2 = 0 ∧ (((x1 / x2) ≤ 9 → K18 x2) ∧ (¬ (x1 / x2) ≤ 9 → (w13_number_L2 σ o0 x1 Q K18 n (x2 * 10))))
set_option maxHeartbeats 4000000 in
theorem k13_number_L2 {p : Program} {l : Launch} {e : Env} {s : State} {m : MethodId} {args : Array Value} {below : List Frame} {meth : Method} {c : Code} {G : Gh} {a1 : Nat → Nat → Nat} {τ : St} {Q : St → Prop} {K18 : Int32 → Prop} (C : Cx p e s m args meth c cX13_number 3 none "WebHost$Answer" G) (σ : St) (o0 : Nat) (x1 : Int32) (ho0 : o0 < 16) :
    ∀ (n : Nat) (x2 : Int32), w13_number_L2 σ o0 x1 Q K18 n x2 → ∀ (H : Heap) (locs : List Loc) (ls : Array Slot), Hd G a1 (cmb σ τ) H → va_S (gA G) s.heap H locs → lv_has ls 3 [(0, .ref (ga G 13 o0)), (1, .int x1), (2, .int x2)] → (∀ (x2 : Int32), K18 x2 → ∀ (H : Heap) (locs : List Loc) (ls : Array Slot), Hd G a1 (cmb σ τ) H → va_S (gA G) s.heap H locs → lv_has ls 3 [(0, .ref (ga G 13 o0)), (1, .int x1), (2, .int x2)] → W p l e rmX13_number s m args below meth c H locs 0 0 (MQ below (QVs G a1 (fun u => cmb u τ) Q) args s 0 0 (gA G)) (F0 m 18 ls [])) → W p l e rmX13_number s m args below meth c H locs 0 0 (MQ below (QVs G a1 (fun u => cmb u τ) Q) args s 0 0 (gA G)) (F0 m 2 ls []) := by
  have hx := C.1
  have hb := C.2.1
  have hown := C.2.2.2.2.2.1
  have hts := C.2.2.2.2.2.2.1
  intro n
  induction n with
  | zero =>
    intro x2 hw
    exact False.elim hw
  | succ n ih =>
    intro x2 hw H locs ls hH hS hl hK18
    refine lv_iload_n hx hb dX13_number_2 rfl (lv_at hl 1 rfl) ?_
    refine lv_iload_n hx hb dX13_number_3 rfl (lv_at hl 2 rfl) ?_
    refine lv_idiv hx hb dX13_number_4 hw.1 ?_
    have hw := hw.2
    refine lv_bipush (v := 9) hx hb dX13_number_5 (by decide) ?_
    refine lv_icmp_le (tgt := 18) hx hb dX13_number_7 (by decide) (fun h => ?_) (fun h => ?_)
    · have hw := hw.1 h
      exact hK18 x2 hw H locs ls hH hS (lv_sub hl [0, 1, 2] rfl)
    have hw := hw.2 h
    refine lv_iload_n hx hb dX13_number_10 rfl (lv_at hl 2 rfl) ?_
    refine lv_bipush (v := 10) hx hb dX13_number_11 (by decide) ?_
    refine lv_imul hx hb dX13_number_13 ?_
    refine lv_istore_n (lv' := [(2, .int (x2 * 10)), (0, .ref (ga G 13 o0)), (1, .int x1)]) hx hb dX13_number_14 rfl hl (by decide) rfl (fun ls hl => ?_)
    refine lv_goto (tgt := 2) hx hb dX13_number_15 (by decide) ?_
    exact ih (x2 * 10) hw H locs ls hH hS (lv_sub hl [1, 2, 0] rfl) hK18
def w13_number_L18 (o0 : Nat) (x1 : Int32) (Q : St → Prop) (K43 : St → Prop) : Nat → St → Int32 → Prop
  | 0, _, _ => False
  | n + 1, σ, x2 => (x2 ≤ 0 → K43 σ) ∧ (¬ x2 ≤ 0 → (¬ x2 = 0 ∧ (w13_put σ o0 (48 + ((x1 / x2) - (x1 / x2) / 10 * 10)) (fun σ3 => (w13_number_L18 o0 x1 Q K43 n σ3 (x2 / 10))))))
set_option maxHeartbeats 4000000 in
theorem k13_number_L18 {p : Program} {l : Launch} {e : Env} {s : State} {m : MethodId} {args : Array Value} {below : List Frame} {meth : Method} {c : Code} {G : Gh} {a1 : Nat → Nat → Nat} {τ : St} {Q : St → Prop} {K43 : St → Prop} (C : Cx p e s m args meth c cX13_number 3 none "WebHost$Answer" G) (o0 : Nat) (x1 : Int32) (ho0 : o0 < 16) :
    ∀ (n : Nat) (σ : St) (x2 : Int32), w13_number_L18 o0 x1 Q K43 n σ x2 → ∀ (H : Heap) (locs : List Loc) (ls : Array Slot), Hd G a1 (cmb σ τ) H → va_S (gA G) s.heap H locs → lv_has ls 3 [(0, .ref (ga G 13 o0)), (1, .int x1), (2, .int x2)] → (∀ (σ : St) , K43 σ → ∀ (H : Heap) (locs : List Loc) (ls : Array Slot), Hd G a1 (cmb σ τ) H → va_S (gA G) s.heap H locs → lv_has ls 3 [] → W p l e rmX13_number s m args below meth c H locs 0 0 (MQ below (QVs G a1 (fun u => cmb u τ) Q) args s 0 0 (gA G)) (F0 m 43 ls [])) → W p l e rmX13_number s m args below meth c H locs 0 0 (MQ below (QVs G a1 (fun u => cmb u τ) Q) args s 0 0 (gA G)) (F0 m 18 ls []) := by
  have hx := C.1
  have hb := C.2.1
  have hown := C.2.2.2.2.2.1
  have hts := C.2.2.2.2.2.2.1
  intro n
  induction n with
  | zero =>
    intro σ x2 hw
    exact False.elim hw
  | succ n ih =>
    intro σ x2 hw H locs ls hH hS hl hK43
    refine lv_iload_n hx hb dX13_number_18 rfl (lv_at hl 2 rfl) ?_
    refine lv_if_le (tgt := 43) hx hb dX13_number_19 (by decide) (fun h => ?_) (fun h => ?_)
    · have hw := hw.1 h
      exact hK43 σ hw H locs ls hH hS (lv_sub hl [] rfl)
    have hw := hw.2 h
    refine lv_aload_n hx hb dX13_number_22 rfl (lv_at hl 0 rfl) ?_
    refine lv_bipush (v := 48) hx hb dX13_number_23 (by decide) ?_
    refine lv_iload_n hx hb dX13_number_25 rfl (lv_at hl 1 rfl) ?_
    refine lv_iload_n hx hb dX13_number_26 rfl (lv_at hl 2 rfl) ?_
    refine lv_idiv hx hb dX13_number_27 hw.1 ?_
    have hw := hw.2
    refine lv_bipush (v := 10) hx hb dX13_number_28 (by decide) ?_
    refine lv_irem hx hb dX13_number_30 (by decide) ?_
    refine lv_iadd hx hb dX13_number_31 ?_
    refine kc_v (rn_v (As := [.int (48 + ((x1 / x2) - (x1 / x2) / 10 * 10))]) (rest := []) C hH hS (by decide) rfl ho0 (m13_put l G a1 τ σ o0 (48 + ((x1 / x2) - (x1 / x2) / 10 * 10)) ho0 _ hw) (cwV 1 hts (lw_V q1320 q1321 q1322 q170 q1323) rfl rfl rfl kX13_put ⟨Nat.le_of_ble_eq_true rfl, Nat.le_of_ble_eq_true rfl⟩) rfl hl.1 rfl (Nat.le_of_ble_eq_true rfl) dX13_number_32 ⟨Nat.le_of_ble_eq_true rfl, Nat.le_of_ble_eq_true rfl⟩) hS (fun σ3 H locs hw hH hS => ?_)
    refine lv_iload_n hx hb dX13_number_35 rfl (lv_at hl 2 rfl) ?_
    refine lv_bipush (v := 10) hx hb dX13_number_36 (by decide) ?_
    refine lv_idiv hx hb dX13_number_38 (by decide) ?_
    refine lv_istore_n (lv' := [(2, .int (x2 / 10)), (0, .ref (ga G 13 o0)), (1, .int x1)]) hx hb dX13_number_39 rfl hl (by decide) rfl (fun ls hl => ?_)
    refine lv_goto (tgt := 18) hx hb dX13_number_40 (by decide) ?_
    exact ih σ3 (x2 / 10) hw H locs ls hH hS (lv_sub hl [1, 2, 0] rfl) hK43
def w13_number (σ : St) (o0 : Nat) (x1 : Int32) (Q : St → Prop) : Prop := ∃ z1, w13_number_L2 σ o0 x1 Q (fun x2_2 => ∃ z4, w13_number_L18 o0 x1 Q (fun σ5 => Q σ5) z4 σ x2_2) z1 1
set_option maxHeartbeats 4000000 in
theorem m13_number (l : Launch) (G : Gh) (a1 : Nat → Nat → Nat) (τ : St) (σ : St) (o0 : Nat) (x1 : Int32) (ho0 : o0 < 16) (Q : St → Prop) (hw : w13_number σ o0 x1 Q) : Met l yX13_number (ws_ yX13_number cX13_number 3 none) rmX13_number (PcS G a1 (cmb σ τ) [.ref (ga G 13 o0), .int x1]) (QVs G a1 (fun u => cmb u τ) Q) 0 0 (gA G) := by
  refine met_w (by decide) (Nat.le_of_ble_eq_true rfl) ?_
  intro p e s m below meth c ls C hH hS hl
  have C : Cx p e s m _ meth c cX13_number 3 none "WebHost$Answer" G := C
  have hl : lv_has ls 3 [(0, .ref (ga G 13 o0)), (1, .int x1)] := hl
  have hx := C.1
  have hb := C.2.1
  have hown := C.2.2.2.2.2.1
  have hts := C.2.2.2.2.2.2.1
  obtain ⟨locs, hlocs⟩ : ∃ z : List Loc, z = [] := ⟨_, rfl⟩
  obtain ⟨H, hHe⟩ : ∃ z : Heap, z = s.heap := ⟨_, rfl⟩
  have hH : Hd G a1 (cmb σ τ) H := by rw [hHe]; exact hH
  have hS : va_S (gA G) s.heap H locs := by rw [hHe, hlocs]; exact hS
  refine W.heap0 hHe.symm hlocs.symm ?_
  refine lv_iconst (v := 1) hx hb dX13_number_0 (by decide) ?_
  refine lv_istore_n (lv' := [(2, .int 1), (0, .ref (ga G 13 o0)), (1, .int x1)]) hx hb dX13_number_1 rfl hl (by decide) rfl (fun ls hl => ?_)
  obtain ⟨n1, hw⟩ := hw
  refine k13_number_L2 C σ o0 x1 ho0 n1 1 hw H locs ls hH hS (lv_sub hl [1, 2, 0] rfl) (fun x2_2 hw H locs ls hH hS hl => ?_)
  obtain ⟨n4, hw⟩ := hw
  refine k13_number_L18 C o0 x1 ho0 n4 σ x2_2 hw H locs ls hH hS (lv_sub hl [0, 1, 2] rfl) (fun σ5 hw H locs ls hH hS hl => ?_)
  exact rt_v C hH hS hw dX13_number_43
/-! WebHost$Net.four([BI)I -/
abbrev cX19_four : ByteArray := prog_9_method_3_code
def yX19_four : MethodName := ⟨RX19, "four", "([BI)I"⟩
theorem dX19_four_0 : decode cX19_four 0 = .ok (.aload_n 0, 1) := by decide +kernel
theorem dX19_four_1 : decode cX19_four 1 = .ok (.iload_n 1, 1) := by decide +kernel
theorem dX19_four_2 : decode cX19_four 2 = .ok (.invokestatic 7, 3) := by decide +kernel
theorem dX19_four_5 : decode cX19_four 5 = .ok (.bipush 16, 2) := by decide +kernel
theorem dX19_four_7 : decode cX19_four 7 = .ok (.ishl, 1) := by decide +kernel
theorem dX19_four_8 : decode cX19_four 8 = .ok (.aload_n 0, 1) := by decide +kernel
theorem dX19_four_9 : decode cX19_four 9 = .ok (.iload_n 1, 1) := by decide +kernel
theorem dX19_four_10 : decode cX19_four 10 = .ok (.iconst 2, 1) := by decide +kernel
theorem dX19_four_11 : decode cX19_four 11 = .ok (.iadd, 1) := by decide +kernel
theorem dX19_four_12 : decode cX19_four 12 = .ok (.invokestatic 7, 3) := by decide +kernel
theorem dX19_four_15 : decode cX19_four 15 = .ok (.ior, 1) := by decide +kernel
theorem dX19_four_16 : decode cX19_four 16 = .ok (.ireturn, 1) := by decide +kernel
def rmX19_four : Room := { frames := 1, cells := 0, slots := 0, locals := 21 }
theorem kX19_four : yX19_four.cls = "WebHost$Net" ∧ yX19_four.cls ≠ "java/lang/invoke/MethodHandle" ∧ yX19_four.cls ≠ "java/lang/invoke/VarHandle" ∧ (parseMethodDescriptor yX19_four.desc).map (fun d => d.parameters.length) = some 2 := by decide +kernel
def w19_four (σ : St) (k0 : Nat) (i0 : Nat) (x1 : Int32) (Q : Int32 → Prop) : Prop := w19_two σ k0 i0 x1 (fun r1 => (w19_two σ k0 i0 (x1 + 2) (fun r2 => (Q ((r1 <<< ((16 : Int32) &&& 31)) ||| r2)))))
set_option maxHeartbeats 4000000 in
theorem m19_four (l : Launch) (G : Gh) (a1 : Nat → Nat → Nat) (τ : St) (σ : St) (H : Heap) (k0 : Nat) (i0 : Nat) (x1 : Int32) (hk0 : abc k0 i0 = true) (Q : Int32 → Prop) (hw : w19_four σ k0 i0 x1 Q) : Met l yX19_four (ws_ yX19_four cX19_four 2 (some .int)) rmX19_four (PcP G a1 (cmb σ τ) H [.ref (adr G a1 k0 i0), .int x1]) (QIp G H Q) 0 0 (gA G) := by
  refine met_p (by decide) (Nat.le_of_ble_eq_true rfl) ?_
  intro p e s m below meth c ls hHe C hH hS hl
  have C : Cx p e s m _ meth c cX19_four 2 (some .int) "WebHost$Net" G := C
  have hl : lv_has ls 2 [(0, .ref (adr G a1 k0 i0)), (1, .int x1)] := hl
  have hx := C.1
  have hb := C.2.1
  have hown := C.2.2.2.2.2.1
  have hts := C.2.2.2.2.2.2.1
  obtain ⟨locs, hlocs⟩ : ∃ z : List Loc, z = [] := ⟨_, rfl⟩
  rw [← hlocs] at hS ⊢
  refine lv_aload_n hx hb dX19_four_0 rfl (lv_at hl 0 rfl) ?_
  refine lv_iload_n hx hb dX19_four_1 rfl (lv_at hl 1 rfl) ?_
  refine kc_ip (rn_sp (As := [.ref (adr G a1 k0 i0), .int x1]) (rest := []) C hH hS (m19_two l G a1 τ σ H k0 i0 x1 hk0 _ hw) (va_cwS 2 hts (lw_S q822 q823 q176 q824) rfl rfl rfl kX19_two.2 ⟨Nat.le_of_ble_eq_true rfl, Nat.le_of_ble_eq_true rfl⟩) rfl hl.1 rfl (Nat.le_of_ble_eq_true rfl) dX19_four_2 ⟨Nat.le_of_ble_eq_true rfl, Nat.le_of_ble_eq_true rfl⟩) hS (fun r1 locs hw hS => ?_)
  refine lv_bipush (v := 16) hx hb dX19_four_5 (by decide) ?_
  refine lv_ishl hx hb dX19_four_7 ?_
  refine lv_aload_n hx hb dX19_four_8 rfl (lv_at hl 0 rfl) ?_
  refine lv_iload_n hx hb dX19_four_9 rfl (lv_at hl 1 rfl) ?_
  refine lv_iconst (v := 2) hx hb dX19_four_10 (by decide) ?_
  refine lv_iadd hx hb dX19_four_11 ?_
  refine kc_ip (rn_sp (As := [.ref (adr G a1 k0 i0), .int (x1 + 2)]) (rest := [.int (r1 <<< ((16 : Int32) &&& 31))]) C hH hS (m19_two l G a1 τ σ H k0 i0 (x1 + 2) hk0 _ hw) (va_cwS 2 hts (lw_S q822 q823 q176 q824) rfl rfl rfl kX19_two.2 ⟨Nat.le_of_ble_eq_true rfl, Nat.le_of_ble_eq_true rfl⟩) rfl hl.1 rfl (Nat.le_of_ble_eq_true rfl) dX19_four_12 ⟨Nat.le_of_ble_eq_true rfl, Nat.le_of_ble_eq_true rfl⟩) hS (fun r2 locs hw hS => ?_)
  refine lv_ior hx hb dX19_four_15 ?_
  exact rt_ip C rfl hS hw dX19_four_16
/-! WebHost$Net.putFour([BII)V -/
abbrev cX19_putFour : ByteArray := prog_9_method_5_code
def yX19_putFour : MethodName := ⟨RX19, "putFour", "([BII)V"⟩
theorem dX19_putFour_0 : decode cX19_putFour 0 = .ok (.aload_n 0, 1) := by decide +kernel
theorem dX19_putFour_1 : decode cX19_putFour 1 = .ok (.iload_n 1, 1) := by decide +kernel
theorem dX19_putFour_2 : decode cX19_putFour 2 = .ok (.iload_n 2, 1) := by decide +kernel
theorem dX19_putFour_3 : decode cX19_putFour 3 = .ok (.bipush 16, 2) := by decide +kernel
theorem dX19_putFour_5 : decode cX19_putFour 5 = .ok (.iushr, 1) := by decide +kernel
theorem dX19_putFour_6 : decode cX19_putFour 6 = .ok (.invokestatic 13, 3) := by decide +kernel
theorem dX19_putFour_9 : decode cX19_putFour 9 = .ok (.aload_n 0, 1) := by decide +kernel
theorem dX19_putFour_10 : decode cX19_putFour 10 = .ok (.iload_n 1, 1) := by decide +kernel
theorem dX19_putFour_11 : decode cX19_putFour 11 = .ok (.iconst 2, 1) := by decide +kernel
theorem dX19_putFour_12 : decode cX19_putFour 12 = .ok (.iadd, 1) := by decide +kernel
theorem dX19_putFour_13 : decode cX19_putFour 13 = .ok (.iload_n 2, 1) := by decide +kernel
theorem dX19_putFour_14 : decode cX19_putFour 14 = .ok (.invokestatic 13, 3) := by decide +kernel
theorem dX19_putFour_17 : decode cX19_putFour 17 = .ok (.return_, 1) := by decide +kernel
def rmX19_putFour : Room := { frames := 1, cells := 0, slots := 0, locals := 22 }
theorem kX19_putFour : yX19_putFour.cls = "WebHost$Net" ∧ yX19_putFour.cls ≠ "java/lang/invoke/MethodHandle" ∧ yX19_putFour.cls ≠ "java/lang/invoke/VarHandle" ∧ (parseMethodDescriptor yX19_putFour.desc).map (fun d => d.parameters.length) = some 3 := by decide +kernel
def w19_putFour (σ : St) (k0 : Nat) (i0 : Nat) (x1 : Int32) (x2 : Int32) (Q : St → Prop) : Prop := w19_putTwo σ k0 i0 x1 (ushr x2 16) (fun σ1 => (w19_putTwo σ1 k0 i0 (x1 + 2) x2 (fun σ2 => (Q σ2))))
set_option maxHeartbeats 4000000 in
theorem m19_putFour (l : Launch) (G : Gh) (a1 : Nat → Nat → Nat) (τ : St) (σ : St) (k0 : Nat) (i0 : Nat) (x1 : Int32) (x2 : Int32) (hk0 : abc k0 i0 = true) (Q : St → Prop) (hw : w19_putFour σ k0 i0 x1 x2 Q) : Met l yX19_putFour (ws_ yX19_putFour cX19_putFour 3 none) rmX19_putFour (PcS G a1 (cmb σ τ) [.ref (adr G a1 k0 i0), .int x1, .int x2]) (QVs G a1 (fun u => cmb u τ) Q) 0 0 (gA G) := by
  refine met_w (by decide) (Nat.le_of_ble_eq_true rfl) ?_
  intro p e s m below meth c ls C hH hS hl
  have C : Cx p e s m _ meth c cX19_putFour 3 none "WebHost$Net" G := C
  have hl : lv_has ls 3 [(0, .ref (adr G a1 k0 i0)), (1, .int x1), (2, .int x2)] := hl
  have hx := C.1
  have hb := C.2.1
  have hown := C.2.2.2.2.2.1
  have hts := C.2.2.2.2.2.2.1
  obtain ⟨locs, hlocs⟩ : ∃ z : List Loc, z = [] := ⟨_, rfl⟩
  obtain ⟨H, hHe⟩ : ∃ z : Heap, z = s.heap := ⟨_, rfl⟩
  have hH : Hd G a1 (cmb σ τ) H := by rw [hHe]; exact hH
  have hS : va_S (gA G) s.heap H locs := by rw [hHe, hlocs]; exact hS
  refine W.heap0 hHe.symm hlocs.symm ?_
  refine lv_aload_n hx hb dX19_putFour_0 rfl (lv_at hl 0 rfl) ?_
  refine lv_iload_n hx hb dX19_putFour_1 rfl (lv_at hl 1 rfl) ?_
  refine lv_iload_n hx hb dX19_putFour_2 rfl (lv_at hl 2 rfl) ?_
  refine lv_bipush (v := 16) hx hb dX19_putFour_3 (by decide) ?_
  refine lv_iushr (v := ushr x2 16) hx hb dX19_putFour_5 rfl ?_
  refine kc_v (rn_s (As := [.ref (adr G a1 k0 i0), .int x1, .int (ushr x2 16)]) (rest := []) C hH hS (m19_putTwo l G a1 τ σ k0 i0 x1 (ushr x2 16) hk0 _ hw) (va_cwS 3 hts (lw_S q793 q794 q176 q795) rfl rfl rfl kX19_putTwo.2 ⟨Nat.le_of_ble_eq_true rfl, Nat.le_of_ble_eq_true rfl⟩) rfl hl.1 rfl (Nat.le_of_ble_eq_true rfl) dX19_putFour_6 ⟨Nat.le_of_ble_eq_true rfl, Nat.le_of_ble_eq_true rfl⟩) hS (fun σ1 H locs hw hH hS => ?_)
  refine lv_aload_n hx hb dX19_putFour_9 rfl (lv_at hl 0 rfl) ?_
  refine lv_iload_n hx hb dX19_putFour_10 rfl (lv_at hl 1 rfl) ?_
  refine lv_iconst (v := 2) hx hb dX19_putFour_11 (by decide) ?_
  refine lv_iadd hx hb dX19_putFour_12 ?_
  refine lv_iload_n hx hb dX19_putFour_13 rfl (lv_at hl 2 rfl) ?_
  refine kc_v (rn_s (As := [.ref (adr G a1 k0 i0), .int (x1 + 2), .int x2]) (rest := []) C hH hS (m19_putTwo l G a1 τ σ1 k0 i0 (x1 + 2) x2 hk0 _ hw) (va_cwS 3 hts (lw_S q793 q794 q176 q795) rfl rfl rfl kX19_putTwo.2 ⟨Nat.le_of_ble_eq_true rfl, Nat.le_of_ble_eq_true rfl⟩) rfl hl.1 rfl (Nat.le_of_ble_eq_true rfl) dX19_putFour_14 ⟨Nat.le_of_ble_eq_true rfl, Nat.le_of_ble_eq_true rfl⟩) hS (fun σ2 H locs hw hH hS => ?_)
  exact rt_v C hH hS hw dX19_putFour_17
/-! WebHostModel.at(II)I -/
abbrev cX14_at : ByteArray := prog_17_method_113_code
def yX14_at : MethodName := ⟨RX14, "at", "(II)I"⟩
theorem dX14_at_0 : decode cX14_at 0 = .ok (.aload_n 0, 1) := by decide +kernel
theorem dX14_at_1 : decode cX14_at 1 = .ok (.iload_n 1, 1) := by decide +kernel
theorem dX14_at_2 : decode cX14_at 2 = .ok (.invokevirtual 865, 3) := by decide +kernel
theorem dX14_at_5 : decode cX14_at 5 = .ok (.istore_n 3, 1) := by decide +kernel
theorem dX14_at_6 : decode cX14_at 6 = .ok (.iload_n 3, 1) := by decide +kernel
theorem dX14_at_7 : decode cX14_at 7 = .ok (.ifCond .lt 17, 3) := by decide +kernel
theorem dX14_at_10 : decode cX14_at 10 = .ok (.iload_n 2, 1) := by decide +kernel
theorem dX14_at_11 : decode cX14_at 11 = .ok (.ifCond .lt 13, 3) := by decide +kernel
theorem dX14_at_14 : decode cX14_at 14 = .ok (.iload_n 2, 1) := by decide +kernel
theorem dX14_at_15 : decode cX14_at 15 = .ok (.aload_n 0, 1) := by decide +kernel
theorem dX14_at_16 : decode cX14_at 16 = .ok (.getfield 41, 3) := by decide +kernel
theorem dX14_at_19 : decode cX14_at 19 = .ok (.iload_n 3, 1) := by decide +kernel
theorem dX14_at_20 : decode cX14_at 20 = .ok (.iaload, 1) := by decide +kernel
theorem dX14_at_21 : decode cX14_at 21 = .ok (.if_icmp .lt 7, 3) := by decide +kernel
theorem dX14_at_24 : decode cX14_at 24 = .ok (.iconst (-1), 1) := by decide +kernel
theorem dX14_at_25 : decode cX14_at 25 = .ok (.goto 19, 3) := by decide +kernel
theorem dX14_at_28 : decode cX14_at 28 = .ok (.aload_n 0, 1) := by decide +kernel
theorem dX14_at_29 : decode cX14_at 29 = .ok (.getfield 38, 3) := by decide +kernel
theorem dX14_at_32 : decode cX14_at 32 = .ok (.iload_n 3, 1) := by decide +kernel
theorem dX14_at_33 : decode cX14_at 33 = .ok (.sipush 1514, 3) := by decide +kernel
theorem dX14_at_36 : decode cX14_at 36 = .ok (.imul, 1) := by decide +kernel
theorem dX14_at_37 : decode cX14_at 37 = .ok (.iload_n 2, 1) := by decide +kernel
theorem dX14_at_38 : decode cX14_at 38 = .ok (.iadd, 1) := by decide +kernel
theorem dX14_at_39 : decode cX14_at 39 = .ok (.baload, 1) := by decide +kernel
theorem dX14_at_40 : decode cX14_at 40 = .ok (.sipush 255, 3) := by decide +kernel
theorem dX14_at_43 : decode cX14_at 43 = .ok (.iand, 1) := by decide +kernel
theorem dX14_at_44 : decode cX14_at 44 = .ok (.ireturn, 1) := by decide +kernel
def rmX14_at : Room := { frames := 1, cells := 0, slots := 0, locals := 21 }
theorem kX14_at : yX14_at.cls = "WebHostModel" ∧ yX14_at.cls ≠ "java/lang/invoke/MethodHandle" ∧ yX14_at.cls ≠ "java/lang/invoke/VarHandle" ∧ (parseMethodDescriptor yX14_at.desc).map (fun d => d.parameters.length) = some 2 := by decide +kernel
def w14_at (σ : St) (x1 : Int32) (x2 : Int32) (Q : Int32 → Prop) : Prop := w14_slot σ x1 (fun r1 => ((r1 < 0 → (Q (-1))) ∧ (¬ r1 < 0 → ((x2 < 0 → (Q (-1))) ∧ (¬ x2 < 0 → (vp_in r1 32 ∧ ((x2 < (σ 59 0 r1.toNatClampNeg) → (vp_in ((r1 * 1514) + x2) 48448 ∧ (by8 (σ 58 0 ((r1 * 1514) + x2).toNatClampNeg) → (Q ((σ 58 0 ((r1 * 1514) + x2).toNatClampNeg) &&& 255))))) ∧ (¬ x2 < (σ 59 0 r1.toNatClampNeg) → (Q (-1))))))))))
set_option maxHeartbeats 4000000 in
theorem m14_at (l : Launch) (G : Gh) (a1 : Nat → Nat → Nat) (τ : St) (σ : St) (H : Heap) (x1 : Int32) (x2 : Int32) (Q : Int32 → Prop) (hw : w14_at σ x1 x2 Q) : Met l yX14_at (ws_ yX14_at cX14_at 4 (some .int)) rmX14_at (PcP G a1 (cmb τ σ) H [.ref (ga G 14 0), .int x1, .int x2]) (QIp G H Q) 0 0 (gA G) := by
  refine met_p (by decide) (Nat.le_of_ble_eq_true rfl) ?_
  intro p e s m below meth c ls hHe C hH hS hl
  have C : Cx p e s m _ meth c cX14_at 4 (some .int) "WebHostModel" G := C
  have hl : lv_has ls 4 [(0, .ref (ga G 14 0)), (1, .int x1), (2, .int x2)] := hl
  have hx := C.1
  have hb := C.2.1
  have hown := C.2.2.2.2.2.1
  have hts := C.2.2.2.2.2.2.1
  obtain ⟨locs, hlocs⟩ : ∃ z : List Loc, z = [] := ⟨_, rfl⟩
  rw [← hlocs] at hS ⊢
  refine lv_aload_n hx hb dX14_at_0 rfl (lv_at hl 0 rfl) ?_
  refine lv_iload_n hx hb dX14_at_1 rfl (lv_at hl 1 rfl) ?_
  refine kc_ip (rn_vp (As := [.int x1]) (rest := []) C hH hS (by decide) rfl (by decide) (m14_slot l G a1 τ σ H x1 _ hw) (cwV 1 hts (lw_V q2630 q2632 qs155 q171 q2633) rfl rfl rfl kX14_slot ⟨Nat.le_of_ble_eq_true rfl, Nat.le_of_ble_eq_true rfl⟩) rfl hl.1 rfl (Nat.le_of_ble_eq_true rfl) dX14_at_2 ⟨Nat.le_of_ble_eq_true rfl, Nat.le_of_ble_eq_true rfl⟩) hS (fun r1 locs hw hS => ?_)
  refine lv_istore_n (lv' := [(3, .int r1), (0, .ref (ga G 14 0)), (1, .int x1), (2, .int x2)]) hx hb dX14_at_5 rfl hl (by decide) rfl (fun ls hl => ?_)
  refine lv_iload_n hx hb dX14_at_6 rfl (lv_at hl 0 rfl) ?_
  refine lv_if_lt (tgt := 24) hx hb dX14_at_7 (by decide) (fun h => ?_) (fun h => ?_)
  · have hw := hw.1 h
    refine lv_iconst (v := (-1)) hx hb dX14_at_24 (by decide) ?_
    refine lv_goto (tgt := 44) hx hb dX14_at_25 (by decide) ?_
    exact rt_ip C rfl hS hw dX14_at_44
  have hw := hw.2 h
  refine lv_iload_n hx hb dX14_at_10 rfl (lv_at hl 3 rfl) ?_
  refine lv_if_lt (tgt := 24) hx hb dX14_at_11 (by decide) (fun h => ?_) (fun h => ?_)
  · have hw := hw.1 h
    refine lv_iconst (v := (-1)) hx hb dX14_at_24 (by decide) ?_
    refine lv_goto (tgt := 44) hx hb dX14_at_25 (by decide) ?_
    exact rt_ip C rfl hS hw dX14_at_44
  have hw := hw.2 h
  refine lv_iload_n hx hb dX14_at_14 rfl (lv_at hl 3 rfl) ?_
  refine lv_aload_n hx hb dX14_at_15 rfl (lv_at hl 1 rfl) ?_
  refine g14_21 C hH q1961 dX14_at_16 ?_
  refine lv_iload_n hx hb dX14_at_19 rfl (lv_at hl 0 rfl) ?_
  refine l59 C hH hw.1 dX14_at_20 ?_
  have hw := hw.2
  refine lv_icmp_lt (tgt := 28) hx hb dX14_at_21 (by decide) (fun h => ?_) (fun h => ?_)
  · have hw := hw.1 h
    refine lv_aload_n hx hb dX14_at_28 rfl (lv_at hl 1 rfl) ?_
    refine g14_20 C hH q1960 dX14_at_29 ?_
    refine lv_iload_n hx hb dX14_at_32 rfl (lv_at hl 0 rfl) ?_
    refine lv_sipush (v := 1514) hx hb dX14_at_33 (by decide) ?_
    refine lv_imul hx hb dX14_at_36 ?_
    refine lv_iload_n hx hb dX14_at_37 rfl (lv_at hl 3 rfl) ?_
    refine lv_iadd hx hb dX14_at_38 ?_
    refine l58 C hH hw.1 dX14_at_39 (fun hz => ?_)
    have hw := hw.2 hz
    refine lv_sipush (v := 255) hx hb dX14_at_40 (by decide) ?_
    refine lv_iand hx hb dX14_at_43 ?_
    exact rt_ip C rfl hS hw dX14_at_44
  have hw := hw.2 h
  refine lv_iconst (v := (-1)) hx hb dX14_at_24 (by decide) ?_
  refine lv_goto (tgt := 44) hx hb dX14_at_25 (by decide) ?_
  exact rt_ip C rfl hS hw dX14_at_44
/-! WebHostModel.byteAt(LWebHostModel$Connection;I)I -/
abbrev cX14_byteAt : ByteArray := prog_17_method_77_code
def yX14_byteAt : MethodName := ⟨RX14, "byteAt", "(LWebHostModel$Connection;I)I"⟩
theorem dX14_byteAt_0 : decode cX14_byteAt 0 = .ok (.iload_n 1, 1) := by decide +kernel
theorem dX14_byteAt_1 : decode cX14_byteAt 1 = .ok (.aload_n 0, 1) := by decide +kernel
theorem dX14_byteAt_2 : decode cX14_byteAt 2 = .ok (.invokevirtual 612, 3) := by decide +kernel
theorem dX14_byteAt_5 : decode cX14_byteAt 5 = .ok (.if_icmp .ge 16, 3) := by decide +kernel
theorem dX14_byteAt_8 : decode cX14_byteAt 8 = .ok (.aload_n 0, 1) := by decide +kernel
theorem dX14_byteAt_9 : decode cX14_byteAt 9 = .ok (.getfield 560, 3) := by decide +kernel
theorem dX14_byteAt_12 : decode cX14_byteAt 12 = .ok (.iload_n 1, 1) := by decide +kernel
theorem dX14_byteAt_13 : decode cX14_byteAt 13 = .ok (.baload, 1) := by decide +kernel
theorem dX14_byteAt_14 : decode cX14_byteAt 14 = .ok (.sipush 255, 3) := by decide +kernel
theorem dX14_byteAt_17 : decode cX14_byteAt 17 = .ok (.iand, 1) := by decide +kernel
theorem dX14_byteAt_18 : decode cX14_byteAt 18 = .ok (.goto 4, 3) := by decide +kernel
theorem dX14_byteAt_21 : decode cX14_byteAt 21 = .ok (.iconst (-1), 1) := by decide +kernel
theorem dX14_byteAt_22 : decode cX14_byteAt 22 = .ok (.ireturn, 1) := by decide +kernel
def rmX14_byteAt : Room := { frames := 1, cells := 0, slots := 0, locals := 20 }
theorem kX14_byteAt : yX14_byteAt.cls = "WebHostModel" ∧ yX14_byteAt.cls ≠ "java/lang/invoke/MethodHandle" ∧ yX14_byteAt.cls ≠ "java/lang/invoke/VarHandle" ∧ (parseMethodDescriptor yX14_byteAt.desc).map (fun d => d.parameters.length) = some 2 := by decide +kernel
def w14_byteAt (σ : St) (o0 : Nat) (x1 : Int32) (Q : Int32 → Prop) : Prop := w15_held σ o0 (fun r1 => ((r1 ≤ x1 → (Q (-1))) ∧ (¬ r1 ≤ x1 → (vp_in x1 4096 ∧ (by8 (σ 72 o0 x1.toNatClampNeg) → (Q ((σ 72 o0 x1.toNatClampNeg) &&& 255)))))))
set_option maxHeartbeats 4000000 in
theorem m14_byteAt (l : Launch) (G : Gh) (a1 : Nat → Nat → Nat) (τ : St) (σ : St) (H : Heap) (o0 : Nat) (x1 : Int32) (ho0 : o0 < 16) (Q : Int32 → Prop) (hw : w14_byteAt σ o0 x1 Q) : Met l yX14_byteAt (ws_ yX14_byteAt cX14_byteAt 2 (some .int)) rmX14_byteAt (PcP G a1 (cmb τ σ) H [.ref (ga G 15 o0), .int x1]) (QIp G H Q) 0 0 (gA G) := by
  refine met_p (by decide) (Nat.le_of_ble_eq_true rfl) ?_
  intro p e s m below meth c ls hHe C hH hS hl
  have C : Cx p e s m _ meth c cX14_byteAt 2 (some .int) "WebHostModel" G := C
  have hl : lv_has ls 2 [(0, .ref (ga G 15 o0)), (1, .int x1)] := hl
  have hx := C.1
  have hb := C.2.1
  have hown := C.2.2.2.2.2.1
  have hts := C.2.2.2.2.2.2.1
  obtain ⟨locs, hlocs⟩ : ∃ z : List Loc, z = [] := ⟨_, rfl⟩
  rw [← hlocs] at hS ⊢
  refine lv_iload_n hx hb dX14_byteAt_0 rfl (lv_at hl 1 rfl) ?_
  refine lv_aload_n hx hb dX14_byteAt_1 rfl (lv_at hl 0 rfl) ?_
  refine kc_ip (rn_vp (As := []) (rest := [.int x1]) C hH hS (by decide) rfl ho0 (m15_held l G a1 τ σ H o0 ho0 _ hw) (cwV 0 hts (lw_V q2443 q2236 q2237 q172 q2238) rfl rfl rfl kX15_held ⟨Nat.le_of_ble_eq_true rfl, Nat.le_of_ble_eq_true rfl⟩) rfl hl.1 rfl (Nat.le_of_ble_eq_true rfl) dX14_byteAt_2 ⟨Nat.le_of_ble_eq_true rfl, Nat.le_of_ble_eq_true rfl⟩) hS (fun r1 locs hw hS => ?_)
  refine lv_icmp_ge (tgt := 21) hx hb dX14_byteAt_5 (by decide) (fun h => ?_) (fun h => ?_)
  · have hw := hw.1 h
    refine lv_iconst (v := (-1)) hx hb dX14_byteAt_21 (by decide) ?_
    exact rt_ip C rfl hS hw dX14_byteAt_22
  have hw := hw.2 h
  refine lv_aload_n hx hb dX14_byteAt_8 rfl (lv_at hl 0 rfl) ?_
  refine g15_32 C hH ho0 q1745 dX14_byteAt_9 ?_
  refine lv_iload_n hx hb dX14_byteAt_12 rfl (lv_at hl 1 rfl) ?_
  refine l72 C hH ho0 hw.1 dX14_byteAt_13 (fun hz => ?_)
  have hw := hw.2 hz
  refine lv_sipush (v := 255) hx hb dX14_byteAt_14 (by decide) ?_
  refine lv_iand hx hb dX14_byteAt_17 ?_
  refine lv_goto (tgt := 22) hx hb dX14_byteAt_18 (by decide) ?_
  exact rt_ip C rfl hS hw dX14_byteAt_22
