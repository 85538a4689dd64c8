/-! walks -/
set_option maxRecDepth 100000
/-! WebHost.counted(I)I -/
abbrev cX0_counted : ByteArray := prog_1_method_29_code
def yX0_counted : MethodName := ⟨RX0, "counted", "(I)I"⟩
theorem dX0_counted_0 : decode cX0_counted 0 = .ok (.aload_n 0, 1) := by decide +kernel
theorem dX0_counted_1 : decode cX0_counted 1 = .ok (.getfield 105, 3) := by decide +kernel
theorem dX0_counted_4 : decode cX0_counted 4 = .ok (.ifCond .ne 5, 3) := by decide +kernel
theorem dX0_counted_7 : decode cX0_counted 7 = .ok (.iconst (-1), 1) := by decide +kernel
theorem dX0_counted_8 : decode cX0_counted 8 = .ok (.ireturn, 1) := by decide +kernel
theorem dX0_counted_9 : decode cX0_counted 9 = .ok (.iload_n 1, 1) := by decide +kernel
theorem dX0_counted_10 : decode cX0_counted 10 = .ok (.tableswitch 107 0 7 #[46, 51, 59, 67, 75, 83, 91, 99], 46) := by decide +kernel
theorem dX0_counted_56 : decode cX0_counted 56 = .ok (.aload_n 0, 1) := by decide +kernel
theorem dX0_counted_57 : decode cX0_counted 57 = .ok (.getfield 136, 3) := by decide +kernel
theorem dX0_counted_60 : decode cX0_counted 60 = .ok (.ireturn, 1) := by decide +kernel
theorem dX0_counted_61 : decode cX0_counted 61 = .ok (.aload_n 0, 1) := by decide +kernel
theorem dX0_counted_62 : decode cX0_counted 62 = .ok (.getfield 49, 3) := by decide +kernel
theorem dX0_counted_65 : decode cX0_counted 65 = .ok (.getfield 348, 3) := by decide +kernel
theorem dX0_counted_68 : decode cX0_counted 68 = .ok (.ireturn, 1) := by decide +kernel
theorem dX0_counted_69 : decode cX0_counted 69 = .ok (.aload_n 0, 1) := by decide +kernel
theorem dX0_counted_70 : decode cX0_counted 70 = .ok (.getfield 58, 3) := by decide +kernel
theorem dX0_counted_73 : decode cX0_counted 73 = .ok (.getfield 351, 3) := by decide +kernel
theorem dX0_counted_76 : decode cX0_counted 76 = .ok (.ireturn, 1) := by decide +kernel
theorem dX0_counted_77 : decode cX0_counted 77 = .ok (.aload_n 0, 1) := by decide +kernel
theorem dX0_counted_78 : decode cX0_counted 78 = .ok (.getfield 58, 3) := by decide +kernel
theorem dX0_counted_81 : decode cX0_counted 81 = .ok (.getfield 354, 3) := by decide +kernel
theorem dX0_counted_84 : decode cX0_counted 84 = .ok (.ireturn, 1) := by decide +kernel
theorem dX0_counted_85 : decode cX0_counted 85 = .ok (.aload_n 0, 1) := by decide +kernel
theorem dX0_counted_86 : decode cX0_counted 86 = .ok (.getfield 58, 3) := by decide +kernel
theorem dX0_counted_89 : decode cX0_counted 89 = .ok (.getfield 357, 3) := by decide +kernel
theorem dX0_counted_92 : decode cX0_counted 92 = .ok (.ireturn, 1) := by decide +kernel
theorem dX0_counted_93 : decode cX0_counted 93 = .ok (.aload_n 0, 1) := by decide +kernel
theorem dX0_counted_94 : decode cX0_counted 94 = .ok (.getfield 58, 3) := by decide +kernel
theorem dX0_counted_97 : decode cX0_counted 97 = .ok (.getfield 270, 3) := by decide +kernel
theorem dX0_counted_100 : decode cX0_counted 100 = .ok (.ireturn, 1) := by decide +kernel
theorem dX0_counted_101 : decode cX0_counted 101 = .ok (.aload_n 0, 1) := by decide +kernel
theorem dX0_counted_102 : decode cX0_counted 102 = .ok (.getfield 58, 3) := by decide +kernel
theorem dX0_counted_105 : decode cX0_counted 105 = .ok (.getfield 360, 3) := by decide +kernel
theorem dX0_counted_108 : decode cX0_counted 108 = .ok (.ireturn, 1) := by decide +kernel
theorem dX0_counted_109 : decode cX0_counted 109 = .ok (.aload_n 0, 1) := by decide +kernel
theorem dX0_counted_110 : decode cX0_counted 110 = .ok (.getfield 58, 3) := by decide +kernel
theorem dX0_counted_113 : decode cX0_counted 113 = .ok (.getfield 363, 3) := by decide +kernel
theorem dX0_counted_116 : decode cX0_counted 116 = .ok (.ireturn, 1) := by decide +kernel
theorem dX0_counted_117 : decode cX0_counted 117 = .ok (.iconst (-1), 1) := by decide +kernel
theorem dX0_counted_118 : decode cX0_counted 118 = .ok (.ireturn, 1) := by decide +kernel
def rmX0_counted : Room := { frames := 0, cells := 0, slots := 0, locals := 0 }
theorem kX0_counted : yX0_counted.cls = "WebHost" ∧ yX0_counted.cls ≠ "java/lang/invoke/MethodHandle" ∧ yX0_counted.cls ≠ "java/lang/invoke/VarHandle" ∧ (parseMethodDescriptor yX0_counted.desc).map (fun d => d.parameters.length) = some 1 := by decide +kernel
def w0_counted (σ : St) (x1 : Int32) (Q : Int32 → Prop) : Prop := bo (σ 0 0 11) → ((¬ (σ 0 0 11) = 0 → ((x1 = 0 → (Q (σ 0 0 13))) ∧ (¬ x1 = 0 → ((x1 = 1 → (Q (σ 6 0 2))) ∧ (¬ x1 = 1 → ((x1 = 2 → (Q (σ 8 0 3))) ∧ (¬ x1 = 2 → ((x1 = 3 → (Q (σ 8 0 4))) ∧ (¬ x1 = 3 → ((x1 = 4 → (Q (σ 8 0 5))) ∧ (¬ x1 = 4 → ((x1 = 5 → (Q (σ 8 0 6))) ∧ (¬ x1 = 5 → ((x1 = 6 → (Q (σ 8 0 7))) ∧ (¬ x1 = 6 → ((x1 = 7 → (Q (σ 8 0 8))) ∧ (¬ x1 = 7 → (Q (-1))))))))))))))))))) ∧ ((σ 0 0 11) = 0 → (Q (-1))))
set_option maxHeartbeats 4000000 in
theorem m0_counted (l : Launch) (G : Gh) (a1 : Nat → Nat → Nat) (τ : St) (σ : St) (H : Heap) (x1 : Int32) (Q : Int32 → Prop) (hw : w0_counted σ x1 Q) : Met l yX0_counted (ws_ yX0_counted cX0_counted 2 (some .int)) rmX0_counted (PcP G a1 (cmb σ τ) H [.ref (ga G 0 0), .int x1]) (QIp G H Q) 0 0 (gA G) := by
  refine met_p (by decide) (Nat.le_of_ble_eq_true rfl) ?_
  intro p e s m below meth c ls hHe C hH hS hl
  have C : Cx p e s m _ meth c cX0_counted 2 (some .int) "WebHost" G := C
  have hl : lv_has ls 2 [(0, .ref (ga G 0 0)), (1, .int x1)] := hl
  have hx := C.1
  have hb := C.2.1
  have hown := C.2.2.2.2.2.1
  have hts := C.2.2.2.2.2.2.1
  obtain ⟨locs, hlocs⟩ : ∃ z : List Loc, z = [] := ⟨_, rfl⟩
  rw [← hlocs] at hS ⊢
  refine lv_aload_n hx hb dX0_counted_0 rfl (lv_at hl 0 rfl) ?_
  refine g0_11 C hH q754 dX0_counted_1 (fun hz => ?_)
  have hw := hw hz
  refine lv_if_ne (tgt := 9) hx hb dX0_counted_4 (by decide) (fun h => ?_) (fun h => ?_)
  · have hw := hw.1 h
    refine lv_iload_n hx hb dX0_counted_9 rfl (lv_at hl 1 rfl) ?_
    by_cases hs0 : x1 = 0
    · have hw := hw.1 hs0
      refine lv_tableIn (off := 46) (tgt := 56) hx hb dX0_counted_10 (by rw [hs0]; decide) (by rw [hs0]; decide) (by rw [hs0]; decide) (by decide) ?_
      refine lv_aload_n hx hb dX0_counted_56 rfl (lv_at hl 0 rfl) ?_
      refine g0_13 C hH q756 dX0_counted_57 ?_
      exact rt_ip C rfl hS hw dX0_counted_60
    have hw := hw.2 hs0
    by_cases hs1 : x1 = 1
    · have hw := hw.1 hs1
      refine lv_tableIn (off := 51) (tgt := 61) hx hb dX0_counted_10 (by rw [hs1]; decide) (by rw [hs1]; decide) (by rw [hs1]; decide) (by decide) ?_
      refine lv_aload_n hx hb dX0_counted_61 rfl (lv_at hl 0 rfl) ?_
      refine g0_6 C hH q749 dX0_counted_62 ?_
      refine g6_2 C hH q389 dX0_counted_65 ?_
      exact rt_ip C rfl hS hw dX0_counted_68
    have hw := hw.2 hs1
    by_cases hs2 : x1 = 2
    · have hw := hw.1 hs2
      refine lv_tableIn (off := 59) (tgt := 69) hx hb dX0_counted_10 (by rw [hs2]; decide) (by rw [hs2]; decide) (by rw [hs2]; decide) (by decide) ?_
      refine lv_aload_n hx hb dX0_counted_69 rfl (lv_at hl 0 rfl) ?_
      refine g0_7 C hH q750 dX0_counted_70 ?_
      refine g8_3 C hH q407 dX0_counted_73 ?_
      exact rt_ip C rfl hS hw dX0_counted_76
    have hw := hw.2 hs2
    by_cases hs3 : x1 = 3
    · have hw := hw.1 hs3
      refine lv_tableIn (off := 67) (tgt := 77) hx hb dX0_counted_10 (by rw [hs3]; decide) (by rw [hs3]; decide) (by rw [hs3]; decide) (by decide) ?_
      refine lv_aload_n hx hb dX0_counted_77 rfl (lv_at hl 0 rfl) ?_
      refine g0_7 C hH q750 dX0_counted_78 ?_
      refine g8_4 C hH q411 dX0_counted_81 ?_
      exact rt_ip C rfl hS hw dX0_counted_84
    have hw := hw.2 hs3
    by_cases hs4 : x1 = 4
    · have hw := hw.1 hs4
      refine lv_tableIn (off := 75) (tgt := 85) hx hb dX0_counted_10 (by rw [hs4]; decide) (by rw [hs4]; decide) (by rw [hs4]; decide) (by decide) ?_
      refine lv_aload_n hx hb dX0_counted_85 rfl (lv_at hl 0 rfl) ?_
      refine g0_7 C hH q750 dX0_counted_86 ?_
      refine g8_5 C hH q414 dX0_counted_89 ?_
      exact rt_ip C rfl hS hw dX0_counted_92
    have hw := hw.2 hs4
    by_cases hs5 : x1 = 5
    · have hw := hw.1 hs5
      refine lv_tableIn (off := 83) (tgt := 93) hx hb dX0_counted_10 (by rw [hs5]; decide) (by rw [hs5]; decide) (by rw [hs5]; decide) (by decide) ?_
      refine lv_aload_n hx hb dX0_counted_93 rfl (lv_at hl 0 rfl) ?_
      refine g0_7 C hH q750 dX0_counted_94 ?_
      refine g8_6 C hH q416 dX0_counted_97 ?_
      exact rt_ip C rfl hS hw dX0_counted_100
    have hw := hw.2 hs5
    by_cases hs6 : x1 = 6
    · have hw := hw.1 hs6
      refine lv_tableIn (off := 91) (tgt := 101) hx hb dX0_counted_10 (by rw [hs6]; decide) (by rw [hs6]; decide) (by rw [hs6]; decide) (by decide) ?_
      refine lv_aload_n hx hb dX0_counted_101 rfl (lv_at hl 0 rfl) ?_
      refine g0_7 C hH q750 dX0_counted_102 ?_
      refine g8_7 C hH q419 dX0_counted_105 ?_
      exact rt_ip C rfl hS hw dX0_counted_108
    have hw := hw.2 hs6
    by_cases hs7 : x1 = 7
    · have hw := hw.1 hs7
      refine lv_tableIn (off := 99) (tgt := 109) hx hb dX0_counted_10 (by rw [hs7]; decide) (by rw [hs7]; decide) (by rw [hs7]; decide) (by decide) ?_
      refine lv_aload_n hx hb dX0_counted_109 rfl (lv_at hl 0 rfl) ?_
      refine g0_7 C hH q750 dX0_counted_110 ?_
      refine g8_8 C hH q422 dX0_counted_113 ?_
      exact rt_ip C rfl hS hw dX0_counted_116
    have hw := hw.2 hs7
    refine lv_tableOut (tgt := 117) hx hb dX0_counted_10 (sw_out8 hs0 hs1 hs2 hs3 hs4 hs5 hs6 hs7) (by decide) ?_
    refine lv_iconst (v := (-1)) hx hb dX0_counted_117 (by decide) ?_
    exact rt_ip C rfl hS hw dX0_counted_118
  have hw := hw.2 h
  refine lv_iconst (v := (-1)) hx hb dX0_counted_7 (by decide) ?_
  exact rt_ip C rfl hS hw dX0_counted_8
/-! WebHost.end(I)I -/
abbrev cX0_end : ByteArray := prog_1_method_3_code
def yX0_end : MethodName := ⟨RX0, "end", "(I)I"⟩
theorem dX0_end_0 : decode cX0_end 0 = .ok (.iload_n 1, 1) := by decide +kernel
theorem dX0_end_1 : decode cX0_end 1 = .ok (.ifCond .lt 11, 3) := by decide +kernel
theorem dX0_end_4 : decode cX0_end 4 = .ok (.iload_n 1, 1) := by decide +kernel
theorem dX0_end_5 : decode cX0_end 5 = .ok (.aload_n 0, 1) := by decide +kernel
theorem dX0_end_6 : decode cX0_end 6 = .ok (.getfield 87, 3) := by decide +kernel
theorem dX0_end_9 : decode cX0_end 9 = .ok (.if_icmp .le 5, 3) := by decide +kernel
theorem dX0_end_12 : decode cX0_end 12 = .ok (.iconst (-1), 1) := by decide +kernel
theorem dX0_end_13 : decode cX0_end 13 = .ok (.ireturn, 1) := by decide +kernel
theorem dX0_end_14 : decode cX0_end 14 = .ok (.aload_n 0, 1) := by decide +kernel
theorem dX0_end_15 : decode cX0_end 15 = .ok (.iload_n 1, 1) := by decide +kernel
theorem dX0_end_16 : decode cX0_end 16 = .ok (.putfield 87, 3) := by decide +kernel
theorem dX0_end_19 : decode cX0_end 19 = .ok (.iload_n 1, 1) := by decide +kernel
theorem dX0_end_20 : decode cX0_end 20 = .ok (.ireturn, 1) := by decide +kernel
def rmX0_end : Room := { frames := 0, cells := 0, slots := 0, locals := 0 }
theorem kX0_end : yX0_end.cls = "WebHost" ∧ yX0_end.cls ≠ "java/lang/invoke/MethodHandle" ∧ yX0_end.cls ≠ "java/lang/invoke/VarHandle" ∧ (parseMethodDescriptor yX0_end.desc).map (fun d => d.parameters.length) = some 1 := by decide +kernel
def w0_end (σ : St) (x1 : Int32) (Q : Int32 → St → Prop) : Prop := (x1 < 0 → (Q (-1) σ)) ∧ (¬ x1 < 0 → ((x1 ≤ (σ 0 0 1) → (∀ σ1, σ1 = up3 σ 0 0 1 x1 → (Q x1 σ1))) ∧ (¬ x1 ≤ (σ 0 0 1) → (Q (-1) σ))))
set_option maxHeartbeats 4000000 in
theorem m0_end (l : Launch) (G : Gh) (a1 : Nat → Nat → Nat) (τ : St) (σ : St) (x1 : Int32) (Q : Int32 → St → Prop) (hw : w0_end σ x1 Q) : Met l yX0_end (ws_ yX0_end cX0_end 2 (some .int)) rmX0_end (PcS G a1 (cmb σ τ) [.ref (ga G 0 0), .int x1]) (QIs G a1 (fun u => cmb u τ) Q) 0 0 (gA G) := by
  refine met_w (by decide) (Nat.le_of_ble_eq_true rfl) ?_
  intro p e s m below meth c ls C hH hS hl
  have C : Cx p e s m _ meth c cX0_end 2 (some .int) "WebHost" G := C
  have hl : lv_has ls 2 [(0, .ref (ga G 0 0)), (1, .int x1)] := hl
  have hx := C.1
  have hb := C.2.1
  have hown := C.2.2.2.2.2.1
  have hts := C.2.2.2.2.2.2.1
  obtain ⟨locs, hlocs⟩ : ∃ z : List Loc, z = [] := ⟨_, rfl⟩
  obtain ⟨H, hHe⟩ : ∃ z : Heap, z = s.heap := ⟨_, rfl⟩
  have hH : Hd G a1 (cmb σ τ) H := by rw [hHe]; exact hH
  have hS : va_S (gA G) s.heap H locs := by rw [hHe, hlocs]; exact hS
  refine W.heap0 hHe.symm hlocs.symm ?_
  refine lv_iload_n hx hb dX0_end_0 rfl (lv_at hl 1 rfl) ?_
  refine lv_if_lt (tgt := 12) hx hb dX0_end_1 (by decide) (fun h => ?_) (fun h => ?_)
  · have hw := hw.1 h
    refine lv_iconst (v := (-1)) hx hb dX0_end_12 (by decide) ?_
    exact rt_i C rfl hH hS hw dX0_end_13
  have hw := hw.2 h
  refine lv_iload_n hx hb dX0_end_4 rfl (lv_at hl 1 rfl) ?_
  refine lv_aload_n hx hb dX0_end_5 rfl (lv_at hl 0 rfl) ?_
  refine g0_1 C hH q744 dX0_end_6 ?_
  refine lv_icmp_le (tgt := 14) hx hb dX0_end_9 (by decide) (fun h => ?_) (fun h => ?_)
  · have hw := hw.1 h
    refine lv_aload_n hx hb dX0_end_14 rfl (lv_at hl 0 rfl) ?_
    refine lv_iload_n hx hb dX0_end_15 rfl (lv_at hl 1 rfl) ?_
    refine p0_1 C hH hS q744 dX0_end_16 (fun σ1 e1 H locs hH hS => ?_)
    have hw := hw σ1 e1
    refine lv_iload_n hx hb dX0_end_19 rfl (lv_at hl 1 rfl) ?_
    exact rt_i C rfl hH hS hw dX0_end_20
  have hw := hw.2 h
  refine lv_iconst (v := (-1)) hx hb dX0_end_12 (by decide) ?_
  exact rt_i C rfl hH hS hw dX0_end_13
/-! WebHost.find(LWebHost$Segment;)I -/
abbrev cX0_find : ByteArray := prog_1_method_16_code
def yX0_find : MethodName := ⟨RX0, "find", "(LWebHost$Segment;)I"⟩
theorem dX0_find_0 : decode cX0_find 0 = .ok (.iconst 0, 1) := by decide +kernel
theorem dX0_find_1 : decode cX0_find 1 = .ok (.istore_n 2, 1) := by decide +kernel
theorem dX0_find_2 : decode cX0_find 2 = .ok (.iload_n 2, 1) := by decide +kernel
theorem dX0_find_3 : decode cX0_find 3 = .ok (.bipush 16, 2) := by decide +kernel
theorem dX0_find_5 : decode cX0_find 5 = .ok (.if_icmp .ge 55, 3) := by decide +kernel
theorem dX0_find_8 : decode cX0_find 8 = .ok (.aload_n 0, 1) := by decide +kernel
theorem dX0_find_9 : decode cX0_find 9 = .ok (.getfield 73, 3) := by decide +kernel
theorem dX0_find_12 : decode cX0_find 12 = .ok (.iload_n 2, 1) := by decide +kernel
theorem dX0_find_13 : decode cX0_find 13 = .ok (.aaload, 1) := by decide +kernel
theorem dX0_find_14 : decode cX0_find 14 = .ok (.getfield 243, 3) := by decide +kernel
theorem dX0_find_17 : decode cX0_find 17 = .ok (.ifCond .eq 37, 3) := by decide +kernel
theorem dX0_find_20 : decode cX0_find 20 = .ok (.aload_n 0, 1) := by decide +kernel
theorem dX0_find_21 : decode cX0_find 21 = .ok (.getfield 73, 3) := by decide +kernel
theorem dX0_find_24 : decode cX0_find 24 = .ok (.iload_n 2, 1) := by decide +kernel
theorem dX0_find_25 : decode cX0_find 25 = .ok (.aaload, 1) := by decide +kernel
theorem dX0_find_26 : decode cX0_find 26 = .ok (.getfield 246, 3) := by decide +kernel
theorem dX0_find_29 : decode cX0_find 29 = .ok (.aload_n 1, 1) := by decide +kernel
theorem dX0_find_30 : decode cX0_find 30 = .ok (.getfield 247, 3) := by decide +kernel
theorem dX0_find_33 : decode cX0_find 33 = .ok (.if_icmp .ne 21, 3) := by decide +kernel
theorem dX0_find_36 : decode cX0_find 36 = .ok (.aload_n 0, 1) := by decide +kernel
theorem dX0_find_37 : decode cX0_find 37 = .ok (.getfield 73, 3) := by decide +kernel
theorem dX0_find_40 : decode cX0_find 40 = .ok (.iload_n 2, 1) := by decide +kernel
theorem dX0_find_41 : decode cX0_find 41 = .ok (.aaload, 1) := by decide +kernel
theorem dX0_find_42 : decode cX0_find 42 = .ok (.getfield 250, 3) := by decide +kernel
theorem dX0_find_45 : decode cX0_find 45 = .ok (.aload_n 1, 1) := by decide +kernel
theorem dX0_find_46 : decode cX0_find 46 = .ok (.getfield 253, 3) := by decide +kernel
theorem dX0_find_49 : decode cX0_find 49 = .ok (.if_icmp .ne 5, 3) := by decide +kernel
theorem dX0_find_52 : decode cX0_find 52 = .ok (.iload_n 2, 1) := by decide +kernel
theorem dX0_find_53 : decode cX0_find 53 = .ok (.ireturn, 1) := by decide +kernel
theorem dX0_find_54 : decode cX0_find 54 = .ok (.iinc 2 1, 3) := by decide +kernel
theorem dX0_find_57 : decode cX0_find 57 = .ok (.goto (-55), 3) := by decide +kernel
theorem dX0_find_60 : decode cX0_find 60 = .ok (.iconst (-1), 1) := by decide +kernel
theorem dX0_find_61 : decode cX0_find 61 = .ok (.ireturn, 1) := by decide +kernel
def rmX0_find : Room := { frames := 0, cells := 0, slots := 0, locals := 0 }
theorem kX0_find : yX0_find.cls = "WebHost" ∧ yX0_find.cls ≠ "java/lang/invoke/MethodHandle" ∧ yX0_find.cls ≠ "java/lang/invoke/VarHandle" ∧ (parseMethodDescriptor yX0_find.desc).map (fun d => d.parameters.length) = some 1 := by decide +kernel
def w0_find_L2 (σ : St) (Q : Int32 → Prop) (K52 : Int32 → Prop) (K60 : Prop) : Nat → Int32 → Prop
  | 0, _ => False
  | n + 1, x2 => (16 ≤ x2 → K60) ∧ (¬ 16 ≤ x2 → (vp_in x2 16 ∧ (((σ 11 x2.toNatClampNeg 2) = 0 → (w0_find_L2 σ Q K52 K60 n (x2 + 1))) ∧ (¬ (σ 11 x2.toNatClampNeg 2) = 0 → (vp_in x2 16 ∧ ((¬ (σ 11 x2.toNatClampNeg 3) = (σ 10 0 0) → (w0_find_L2 σ Q K52 K60 n (x2 + 1))) ∧ ((σ 11 x2.toNatClampNeg 3) = (σ 10 0 0) → (vp_in x2 16 ∧ ((¬ (σ 11 x2.toNatClampNeg 4) = (σ 10 0 1) → (w0_find_L2 σ Q K52 K60 n (x2 + 1))) ∧ ((σ 11 x2.toNatClampNeg 4) = (σ 10 0 1) → K52 x2))))))))))
set_option maxHeartbeats 4000000 in
theorem k0_find_L2 {p : Program} {l : Launch} {e : Env} {s : State} {m : MethodId} {args : Array Value} {below : List Frame} {meth : Method} {c : Code} {G : Gh} {a1 : Nat → Nat → Nat} {τ : St} {H : Heap} {Q : Int32 → Prop} {K52 : Int32 → Prop} {K60 : Prop} (C : Cx p e s m args meth c cX0_find 3 (some .int) "WebHost" G) (σ : St) (hH : Hd G a1 (cmb σ τ) H) :
    ∀ (n : Nat) (x2 : Int32), w0_find_L2 σ Q K52 K60 n x2 → ∀ (locs : List Loc) (ls : Array Slot), va_S (gA G) s.heap H locs → lv_has ls 3 [(0, .ref (ga G 0 0)), (1, .ref (ga G 10 0)), (2, .int x2)] → (∀ (x2 : Int32), K52 x2 → ∀ (locs : List Loc) (ls : Array Slot), va_S (gA G) s.heap H locs → lv_has ls 3 [(2, .int x2)] → W p l e rmX0_find s m args below meth c H locs 0 0 (MQ below (QIp G H Q) args s 0 0 (gA G)) (F0 m 52 ls [])) → (K60 → ∀ (locs : List Loc) (ls : Array Slot), va_S (gA G) s.heap H locs → lv_has ls 3 [] → W p l e rmX0_find s m args below meth c H locs 0 0 (MQ below (QIp G H Q) args s 0 0 (gA G)) (F0 m 60 ls [])) → W p l e rmX0_find s m args below meth c H locs 0 0 (MQ below (QIp G H Q) args s 0 0 (gA G)) (F0 m 2 ls []) := by
  have hx := C.1
  have hb := C.2.1
  have hown := C.2.2.2.2.2.1
  have hts := C.2.2.2.2.2.2.1
  intro n
  induction n with
  | zero =>
    intro x2 hw
    exact False.elim hw
  | succ n ih =>
    intro x2 hw locs ls hS hl hK52 hK60
    refine lv_iload_n hx hb dX0_find_2 rfl (lv_at hl 2 rfl) ?_
    refine lv_bipush (v := 16) hx hb dX0_find_3 (by decide) ?_
    refine lv_icmp_ge (tgt := 60) hx hb dX0_find_5 (by decide) (fun h => ?_) (fun h => ?_)
    · have hw := hw.1 h
      exact hK60 hw locs ls hS (lv_sub hl [] rfl)
    have hw := hw.2 h
    refine lv_aload_n hx hb dX0_find_8 rfl (lv_at hl 0 rfl) ?_
    refine g0_9 C hH q752 dX0_find_9 ?_
    refine lv_iload_n hx hb dX0_find_12 rfl (lv_at hl 2 rfl) ?_
    have hq1 := vp_lt hw.1
    refine l45 C hH hw.1 dX0_find_13 ?_
    have hw := hw.2
    refine g11_2 C hH hq1 q611 dX0_find_14 ?_
    refine lv_if_eq (tgt := 54) hx hb dX0_find_17 (by decide) (fun h => ?_) (fun h => ?_)
    · have hw := hw.1 h
      refine lv_iinc (v := x2 + 1) (lv' := [(2, .int (x2 + 1)), (0, .ref (ga G 0 0)), (1, .ref (ga G 10 0))]) hx hb dX0_find_54 hl (k := 2) rfl rfl (by decide) rfl (fun ls hl => ?_)
      refine lv_goto (tgt := 2) hx hb dX0_find_57 (by decide) ?_
      exact ih (x2 + 1) hw locs ls hS (lv_sub hl [1, 2, 0] rfl) hK52 hK60
    have hw := hw.2 h
    refine lv_aload_n hx hb dX0_find_20 rfl (lv_at hl 0 rfl) ?_
    refine g0_9 C hH q752 dX0_find_21 ?_
    refine lv_iload_n hx hb dX0_find_24 rfl (lv_at hl 2 rfl) ?_
    have hq2 := vp_lt hw.1
    refine l45 C hH hw.1 dX0_find_25 ?_
    have hw := hw.2
    refine g11_3 C hH hq2 q613 dX0_find_26 ?_
    refine lv_aload_n hx hb dX0_find_29 rfl (lv_at hl 1 rfl) ?_
    refine g10_0 C hH q517 dX0_find_30 ?_
    refine lv_icmp_ne (tgt := 54) hx hb dX0_find_33 (by decide) (fun h => ?_) (fun h => ?_)
    · have hw := hw.1 h
      refine lv_iinc (v := x2 + 1) (lv' := [(2, .int (x2 + 1)), (0, .ref (ga G 0 0)), (1, .ref (ga G 10 0))]) hx hb dX0_find_54 hl (k := 2) rfl rfl (by decide) rfl (fun ls hl => ?_)
      refine lv_goto (tgt := 2) hx hb dX0_find_57 (by decide) ?_
      exact ih (x2 + 1) hw locs ls hS (lv_sub hl [1, 2, 0] rfl) hK52 hK60
    have hw := hw.2 h
    refine lv_aload_n hx hb dX0_find_36 rfl (lv_at hl 0 rfl) ?_
    refine g0_9 C hH q752 dX0_find_37 ?_
    refine lv_iload_n hx hb dX0_find_40 rfl (lv_at hl 2 rfl) ?_
    have hq3 := vp_lt hw.1
    refine l45 C hH hw.1 dX0_find_41 ?_
    have hw := hw.2
    refine g11_4 C hH hq3 q615 dX0_find_42 ?_
    refine lv_aload_n hx hb dX0_find_45 rfl (lv_at hl 1 rfl) ?_
    refine g10_1 C hH q521 dX0_find_46 ?_
    refine lv_icmp_ne (tgt := 54) hx hb dX0_find_49 (by decide) (fun h => ?_) (fun h => ?_)
    · have hw := hw.1 h
      refine lv_iinc (v := x2 + 1) (lv' := [(2, .int (x2 + 1)), (0, .ref (ga G 0 0)), (1, .ref (ga G 10 0))]) hx hb dX0_find_54 hl (k := 2) rfl rfl (by decide) rfl (fun ls hl => ?_)
      refine lv_goto (tgt := 2) hx hb dX0_find_57 (by decide) ?_
      exact ih (x2 + 1) hw locs ls hS (lv_sub hl [1, 2, 0] rfl) hK52 hK60
    have hw := hw.2 h
    exact hK52 x2 hw locs ls hS (lv_sub hl [2] rfl)
def w0_find (σ : St) (Q : Int32 → Prop) : Prop := ∃ z4, w0_find_L2 σ Q (fun x2_5 => Q x2_5) (Q (-1)) z4 0
set_option maxHeartbeats 4000000 in
theorem m0_find (l : Launch) (G : Gh) (a1 : Nat → Nat → Nat) (τ : St) (σ : St) (H : Heap) (Q : Int32 → Prop) (hw : w0_find σ Q) : Met l yX0_find (ws_ yX0_find cX0_find 3 (some .int)) rmX0_find (PcP G a1 (cmb σ τ) H [.ref (ga G 0 0), .ref (ga G 10 0)]) (QIp G H Q) 0 0 (gA G) := by
  refine met_p (by decide) (Nat.le_of_ble_eq_true rfl) ?_
  intro p e s m below meth c ls hHe C hH hS hl
  have C : Cx p e s m _ meth c cX0_find 3 (some .int) "WebHost" G := C
  have hl : lv_has ls 3 [(0, .ref (ga G 0 0)), (1, .ref (ga G 10 0))] := hl
  have hx := C.1
  have hb := C.2.1
  have hown := C.2.2.2.2.2.1
  have hts := C.2.2.2.2.2.2.1
  obtain ⟨locs, hlocs⟩ : ∃ z : List Loc, z = [] := ⟨_, rfl⟩
  rw [← hlocs] at hS ⊢
  refine lv_iconst (v := 0) hx hb dX0_find_0 (by decide) ?_
  refine lv_istore_n (lv' := [(2, .int 0), (0, .ref (ga G 0 0)), (1, .ref (ga G 10 0))]) hx hb dX0_find_1 rfl hl (by decide) rfl (fun ls hl => ?_)
  obtain ⟨n4, hw⟩ := hw
  refine k0_find_L2 C σ hH n4 0 hw locs ls hS (lv_sub hl [1, 2, 0] rfl) (fun x2_5 hw locs ls hS hl => ?_) (fun hw locs ls hS hl => ?_)
  · refine lv_iload_n hx hb dX0_find_52 rfl (lv_at hl 0 rfl) ?_
    exact rt_ip C rfl hS hw dX0_find_53
  refine lv_iconst (v := (-1)) hx hb dX0_find_60 (by decide) ?_
  exact rt_ip C rfl hS hw dX0_find_61
/-! WebHost.isPlace(I)Z -/
abbrev cX0_isPlace : ByteArray := prog_1_method_24_code
def yX0_isPlace : MethodName := ⟨RX0, "isPlace", "(I)Z"⟩
theorem dX0_isPlace_0 : decode cX0_isPlace 0 = .ok (.iload_n 0, 1) := by decide +kernel
theorem dX0_isPlace_1 : decode cX0_isPlace 1 = .ok (.ifCond .lt 13, 3) := by decide +kernel
theorem dX0_isPlace_4 : decode cX0_isPlace 4 = .ok (.iload_n 0, 1) := by decide +kernel
theorem dX0_isPlace_5 : decode cX0_isPlace 5 = .ok (.bipush 16, 2) := by decide +kernel
theorem dX0_isPlace_7 : decode cX0_isPlace 7 = .ok (.if_icmp .ge 7, 3) := by decide +kernel
theorem dX0_isPlace_10 : decode cX0_isPlace 10 = .ok (.iconst 1, 1) := by decide +kernel
theorem dX0_isPlace_11 : decode cX0_isPlace 11 = .ok (.goto 4, 3) := by decide +kernel
theorem dX0_isPlace_14 : decode cX0_isPlace 14 = .ok (.iconst 0, 1) := by decide +kernel
theorem dX0_isPlace_15 : decode cX0_isPlace 15 = .ok (.ireturn, 1) := by decide +kernel
def rmX0_isPlace : Room := { frames := 0, cells := 0, slots := 0, locals := 0 }
theorem kX0_isPlace : yX0_isPlace.cls = "WebHost" ∧ yX0_isPlace.cls ≠ "java/lang/invoke/MethodHandle" ∧ yX0_isPlace.cls ≠ "java/lang/invoke/VarHandle" ∧ (parseMethodDescriptor yX0_isPlace.desc).map (fun d => d.parameters.length) = some 1 := by decide +kernel
def w0_isPlace (σ : St) (x0 : Int32) (Q : Int32 → Prop) : Prop := (x0 < 0 → Q 0) ∧ (¬ x0 < 0 → ((16 ≤ x0 → Q 0) ∧ (¬ 16 ≤ x0 → Q 1)))
set_option maxHeartbeats 4000000 in
theorem m0_isPlace (l : Launch) (G : Gh) (a1 : Nat → Nat → Nat) (τ : St) (σ : St) (H : Heap) (x0 : Int32) (Q : Int32 → Prop) (hw : w0_isPlace σ x0 Q) : Met l yX0_isPlace (ws_ yX0_isPlace cX0_isPlace 1 (some .boolean)) rmX0_isPlace (PcP G a1 (cmb σ τ) H [.int x0]) (QIp G H Q) 0 0 (gA G) := by
  refine met_p (by decide) (Nat.le_of_ble_eq_true rfl) ?_
  intro p e s m below meth c ls hHe C hH hS hl
  have C : Cx p e s m _ meth c cX0_isPlace 1 (some .boolean) "WebHost" G := C
  have hl : lv_has ls 1 [(0, .int x0)] := hl
  have hx := C.1
  have hb := C.2.1
  have hown := C.2.2.2.2.2.1
  have hts := C.2.2.2.2.2.2.1
  obtain ⟨locs, hlocs⟩ : ∃ z : List Loc, z = [] := ⟨_, rfl⟩
  rw [← hlocs] at hS ⊢
  refine lv_iload_n hx hb dX0_isPlace_0 rfl (lv_at hl 0 rfl) ?_
  refine lv_if_lt (tgt := 14) hx hb dX0_isPlace_1 (by decide) (fun h => ?_) (fun h => ?_)
  · have hw := hw.1 h
    refine lv_iconst (v := 0) hx hb dX0_isPlace_14 (by decide) ?_
    exact rt_ip C rfl hS hw dX0_isPlace_15
  have hw := hw.2 h
  refine lv_iload_n hx hb dX0_isPlace_4 rfl (lv_at hl 0 rfl) ?_
  refine lv_bipush (v := 16) hx hb dX0_isPlace_5 (by decide) ?_
  refine lv_icmp_ge (tgt := 14) hx hb dX0_isPlace_7 (by decide) (fun h => ?_) (fun h => ?_)
  · have hw := hw.1 h
    refine lv_iconst (v := 0) hx hb dX0_isPlace_14 (by decide) ?_
    exact rt_ip C rfl hS hw dX0_isPlace_15
  have hw := hw.2 h
  refine lv_iconst (v := 1) hx hb dX0_isPlace_10 (by decide) ?_
  refine lv_goto (tgt := 15) hx hb dX0_isPlace_11 (by decide) ?_
  exact rt_ip C rfl hS hw dX0_isPlace_15
/-! WebHost.now()I -/
abbrev cX0_now : ByteArray := prog_1_method_18_code
def yX0_now : MethodName := ⟨RX0, "now", "()I"⟩
theorem dX0_now_0 : decode cX0_now 0 = .ok (.aload_n 0, 1) := by decide +kernel
theorem dX0_now_1 : decode cX0_now 1 = .ok (.getfield 105, 3) := by decide +kernel
theorem dX0_now_4 : decode cX0_now 4 = .ok (.ifCond .eq 13, 3) := by decide +kernel
theorem dX0_now_7 : decode cX0_now 7 = .ok (.aload_n 0, 1) := by decide +kernel
theorem dX0_now_8 : decode cX0_now 8 = .ok (.getfield 24, 3) := by decide +kernel
theorem dX0_now_11 : decode cX0_now 11 = .ok (.getfield 139, 3) := by decide +kernel
theorem dX0_now_14 : decode cX0_now 14 = .ok (.goto 4, 3) := by decide +kernel
theorem dX0_now_17 : decode cX0_now 17 = .ok (.iconst (-1), 1) := by decide +kernel
theorem dX0_now_18 : decode cX0_now 18 = .ok (.ireturn, 1) := by decide +kernel
def rmX0_now : Room := { frames := 0, cells := 0, slots := 0, locals := 0 }
theorem kX0_now : yX0_now.cls = "WebHost" ∧ yX0_now.cls ≠ "java/lang/invoke/MethodHandle" ∧ yX0_now.cls ≠ "java/lang/invoke/VarHandle" ∧ (parseMethodDescriptor yX0_now.desc).map (fun d => d.parameters.length) = some 0 := by decide +kernel
def w0_now (σ : St) (Q : Int32 → Prop) : Prop := bo (σ 0 0 11) → (((σ 0 0 11) = 0 → (Q (-1))) ∧ (¬ (σ 0 0 11) = 0 → (Q (σ 2 0 4))))
set_option maxHeartbeats 4000000 in
theorem m0_now (l : Launch) (G : Gh) (a1 : Nat → Nat → Nat) (τ : St) (σ : St) (H : Heap) (Q : Int32 → Prop) (hw : w0_now σ Q) : Met l yX0_now (ws_ yX0_now cX0_now 1 (some .int)) rmX0_now (PcP G a1 (cmb σ τ) H [.ref (ga G 0 0)]) (QIp G H Q) 0 0 (gA G) := by
  refine met_p (by decide) (Nat.le_of_ble_eq_true rfl) ?_
  intro p e s m below meth c ls hHe C hH hS hl
  have C : Cx p e s m _ meth c cX0_now 1 (some .int) "WebHost" G := C
  have hl : lv_has ls 1 [(0, .ref (ga G 0 0))] := hl
  have hx := C.1
  have hb := C.2.1
  have hown := C.2.2.2.2.2.1
  have hts := C.2.2.2.2.2.2.1
  obtain ⟨locs, hlocs⟩ : ∃ z : List Loc, z = [] := ⟨_, rfl⟩
  rw [← hlocs] at hS ⊢
  refine lv_aload_n hx hb dX0_now_0 rfl (lv_at hl 0 rfl) ?_
  refine g0_11 C hH q754 dX0_now_1 (fun hz => ?_)
  have hw := hw hz
  refine lv_if_eq (tgt := 17) hx hb dX0_now_4 (by decide) (fun h => ?_) (fun h => ?_)
  · have hw := hw.1 h
    refine lv_iconst (v := (-1)) hx hb dX0_now_17 (by decide) ?_
    exact rt_ip C rfl hS hw dX0_now_18
  have hw := hw.2 h
  refine lv_aload_n hx hb dX0_now_7 rfl (lv_at hl 0 rfl) ?_
  refine g0_3 C hH q746 dX0_now_8 ?_
  refine g2_4 C hH q230 dX0_now_11 ?_
  refine lv_goto (tgt := 18) hx hb dX0_now_14 (by decide) ?_
  exact rt_ip C rfl hS hw dX0_now_18
/-! WebHost.refusal(I)I -/
abbrev cX0_refusal : ByteArray := prog_1_method_6_code
def yX0_refusal : MethodName := ⟨RX0, "refusal", "(I)I"⟩
theorem dX0_refusal_0 : decode cX0_refusal 0 = .ok (.aload_n 0, 1) := by decide +kernel
theorem dX0_refusal_1 : decode cX0_refusal 1 = .ok (.getfield 105, 3) := by decide +kernel
theorem dX0_refusal_4 : decode cX0_refusal 4 = .ok (.ifCond .ne 5, 3) := by decide +kernel
theorem dX0_refusal_7 : decode cX0_refusal 7 = .ok (.iconst (-1), 1) := by decide +kernel
theorem dX0_refusal_8 : decode cX0_refusal 8 = .ok (.ireturn, 1) := by decide +kernel
theorem dX0_refusal_9 : decode cX0_refusal 9 = .ok (.iload_n 1, 1) := by decide +kernel
theorem dX0_refusal_10 : decode cX0_refusal 10 = .ok (.aload_n 0, 1) := by decide +kernel
theorem dX0_refusal_11 : decode cX0_refusal 11 = .ok (.getfield 24, 3) := by decide +kernel
theorem dX0_refusal_14 : decode cX0_refusal 14 = .ok (.getfield 139, 3) := by decide +kernel
theorem dX0_refusal_17 : decode cX0_refusal 17 = .ok (.if_icmp .lt 23, 3) := by decide +kernel
theorem dX0_refusal_20 : decode cX0_refusal 20 = .ok (.iload_n 1, 1) := by decide +kernel
theorem dX0_refusal_21 : decode cX0_refusal 21 = .ok (.aload_n 0, 1) := by decide +kernel
theorem dX0_refusal_22 : decode cX0_refusal 22 = .ok (.getfield 24, 3) := by decide +kernel
theorem dX0_refusal_25 : decode cX0_refusal 25 = .ok (.getfield 139, 3) := by decide +kernel
theorem dX0_refusal_28 : decode cX0_refusal 28 = .ok (.isub, 1) := by decide +kernel
theorem dX0_refusal_29 : decode cX0_refusal 29 = .ok (.ldc 142, 2) := by decide +kernel
theorem dX0_refusal_31 : decode cX0_refusal 31 = .ok (.if_icmp .gt 9, 3) := by decide +kernel
theorem dX0_refusal_34 : decode cX0_refusal 34 = .ok (.iload_n 1, 1) := by decide +kernel
theorem dX0_refusal_35 : decode cX0_refusal 35 = .ok (.ldc 143, 2) := by decide +kernel
theorem dX0_refusal_37 : decode cX0_refusal 37 = .ok (.if_icmp .le 8, 3) := by decide +kernel
theorem dX0_refusal_40 : decode cX0_refusal 40 = .ok (.bipush (-2), 2) := by decide +kernel
theorem dX0_refusal_42 : decode cX0_refusal 42 = .ok (.goto 4, 3) := by decide +kernel
theorem dX0_refusal_45 : decode cX0_refusal 45 = .ok (.iconst 0, 1) := by decide +kernel
theorem dX0_refusal_46 : decode cX0_refusal 46 = .ok (.ireturn, 1) := by decide +kernel
def rmX0_refusal : Room := { frames := 0, cells := 0, slots := 0, locals := 0 }
theorem kX0_refusal : yX0_refusal.cls = "WebHost" ∧ yX0_refusal.cls ≠ "java/lang/invoke/MethodHandle" ∧ yX0_refusal.cls ≠ "java/lang/invoke/VarHandle" ∧ (parseMethodDescriptor yX0_refusal.desc).map (fun d => d.parameters.length) = some 1 := by decide +kernel
def w0_refusal (σ : St) (x1 : Int32) (Q : Int32 → Prop) : Prop := bo (σ 0 0 11) → ((¬ (σ 0 0 11) = 0 → ((x1 < (σ 2 0 4) → (Q (-2))) ∧ (¬ x1 < (σ 2 0 4) → ((600000 < (x1 - (σ 2 0 4)) → (Q (-2))) ∧ (¬ 600000 < (x1 - (σ 2 0 4)) → ((x1 ≤ 2000000000 → Q 0) ∧ (¬ x1 ≤ 2000000000 → (Q (-2))))))))) ∧ ((σ 0 0 11) = 0 → (Q (-1))))
set_option maxHeartbeats 4000000 in
theorem m0_refusal (l : Launch) (G : Gh) (a1 : Nat → Nat → Nat) (τ : St) (σ : St) (H : Heap) (x1 : Int32) (Q : Int32 → Prop) (hw : w0_refusal σ x1 Q) : Met l yX0_refusal (ws_ yX0_refusal cX0_refusal 2 (some .int)) rmX0_refusal (PcP G a1 (cmb σ τ) H [.ref (ga G 0 0), .int x1]) (QIp G H Q) 0 0 (gA G) := by
  refine met_p (by decide) (Nat.le_of_ble_eq_true rfl) ?_
  intro p e s m below meth c ls hHe C hH hS hl
  have C : Cx p e s m _ meth c cX0_refusal 2 (some .int) "WebHost" G := C
  have hl : lv_has ls 2 [(0, .ref (ga G 0 0)), (1, .int x1)] := hl
  have hx := C.1
  have hb := C.2.1
  have hown := C.2.2.2.2.2.1
  have hts := C.2.2.2.2.2.2.1
  obtain ⟨locs, hlocs⟩ : ∃ z : List Loc, z = [] := ⟨_, rfl⟩
  rw [← hlocs] at hS ⊢
  refine lv_aload_n hx hb dX0_refusal_0 rfl (lv_at hl 0 rfl) ?_
  refine g0_11 C hH q754 dX0_refusal_1 (fun hz => ?_)
  have hw := hw hz
  refine lv_if_ne (tgt := 9) hx hb dX0_refusal_4 (by decide) (fun h => ?_) (fun h => ?_)
  · have hw := hw.1 h
    refine lv_iload_n hx hb dX0_refusal_9 rfl (lv_at hl 1 rfl) ?_
    refine lv_aload_n hx hb dX0_refusal_10 rfl (lv_at hl 0 rfl) ?_
    refine g0_3 C hH q746 dX0_refusal_11 ?_
    refine g2_4 C hH q230 dX0_refusal_14 ?_
    refine lv_icmp_lt (tgt := 40) hx hb dX0_refusal_17 (by decide) (fun h => ?_) (fun h => ?_)
    · have hw := hw.1 h
      refine lv_bipush (v := (-2)) hx hb dX0_refusal_40 (by decide) ?_
      refine lv_goto (tgt := 46) hx hb dX0_refusal_42 (by decide) ?_
      exact rt_ip C rfl hS hw dX0_refusal_46
    have hw := hw.2 h
    refine lv_iload_n hx hb dX0_refusal_20 rfl (lv_at hl 1 rfl) ?_
    refine lv_aload_n hx hb dX0_refusal_21 rfl (lv_at hl 0 rfl) ?_
    refine g0_3 C hH q746 dX0_refusal_22 ?_
    refine g2_4 C hH q230 dX0_refusal_25 ?_
    refine lv_isub hx hb dX0_refusal_28 ?_
    refine lv_ldc (v := 600000) hx hb hown (hts _ q895) dX0_refusal_29 ?_
    refine lv_icmp_gt (tgt := 40) hx hb dX0_refusal_31 (by decide) (fun h => ?_) (fun h => ?_)
    · have hw := hw.1 h
      refine lv_bipush (v := (-2)) hx hb dX0_refusal_40 (by decide) ?_
      refine lv_goto (tgt := 46) hx hb dX0_refusal_42 (by decide) ?_
      exact rt_ip C rfl hS hw dX0_refusal_46
    have hw := hw.2 h
    refine lv_iload_n hx hb dX0_refusal_34 rfl (lv_at hl 1 rfl) ?_
    refine lv_ldc (v := 2000000000) hx hb hown (hts _ q896) dX0_refusal_35 ?_
    refine lv_icmp_le (tgt := 45) hx hb dX0_refusal_37 (by decide) (fun h => ?_) (fun h => ?_)
    · have hw := hw.1 h
      refine lv_iconst (v := 0) hx hb dX0_refusal_45 (by decide) ?_
      exact rt_ip C rfl hS hw dX0_refusal_46
    have hw := hw.2 h
    refine lv_bipush (v := (-2)) hx hb dX0_refusal_40 (by decide) ?_
    refine lv_goto (tgt := 46) hx hb dX0_refusal_42 (by decide) ?_
    exact rt_ip C rfl hS hw dX0_refusal_46
  have hw := hw.2 h
  refine lv_iconst (v := (-1)) hx hb dX0_refusal_7 (by decide) ?_
  exact rt_ip C rfl hS hw dX0_refusal_8
/-! WebHost.sent()I -/
abbrev cX0_sent : ByteArray := prog_1_method_19_code
def yX0_sent : MethodName := ⟨RX0, "sent", "()I"⟩
theorem dX0_sent_0 : decode cX0_sent 0 = .ok (.aload_n 0, 1) := by decide +kernel
theorem dX0_sent_1 : decode cX0_sent 1 = .ok (.getfield 105, 3) := by decide +kernel
theorem dX0_sent_4 : decode cX0_sent 4 = .ok (.ifCond .eq 13, 3) := by decide +kernel
theorem dX0_sent_7 : decode cX0_sent 7 = .ok (.aload_n 0, 1) := by decide +kernel
theorem dX0_sent_8 : decode cX0_sent 8 = .ok (.getfield 24, 3) := by decide +kernel
theorem dX0_sent_11 : decode cX0_sent 11 = .ok (.getfield 177, 3) := by decide +kernel
theorem dX0_sent_14 : decode cX0_sent 14 = .ok (.goto 4, 3) := by decide +kernel
theorem dX0_sent_17 : decode cX0_sent 17 = .ok (.iconst (-1), 1) := by decide +kernel
theorem dX0_sent_18 : decode cX0_sent 18 = .ok (.ireturn, 1) := by decide +kernel
def rmX0_sent : Room := { frames := 0, cells := 0, slots := 0, locals := 0 }
theorem kX0_sent : yX0_sent.cls = "WebHost" ∧ yX0_sent.cls ≠ "java/lang/invoke/MethodHandle" ∧ yX0_sent.cls ≠ "java/lang/invoke/VarHandle" ∧ (parseMethodDescriptor yX0_sent.desc).map (fun d => d.parameters.length) = some 0 := by decide +kernel
def w0_sent (σ : St) (Q : Int32 → Prop) : Prop := bo (σ 0 0 11) → (((σ 0 0 11) = 0 → (Q (-1))) ∧ (¬ (σ 0 0 11) = 0 → (Q (σ 2 0 3))))
set_option maxHeartbeats 4000000 in
theorem m0_sent (l : Launch) (G : Gh) (a1 : Nat → Nat → Nat) (τ : St) (σ : St) (H : Heap) (Q : Int32 → Prop) (hw : w0_sent σ Q) : Met l yX0_sent (ws_ yX0_sent cX0_sent 1 (some .int)) rmX0_sent (PcP G a1 (cmb σ τ) H [.ref (ga G 0 0)]) (QIp G H Q) 0 0 (gA G) := by
  refine met_p (by decide) (Nat.le_of_ble_eq_true rfl) ?_
  intro p e s m below meth c ls hHe C hH hS hl
  have C : Cx p e s m _ meth c cX0_sent 1 (some .int) "WebHost" G := C
  have hl : lv_has ls 1 [(0, .ref (ga G 0 0))] := hl
  have hx := C.1
  have hb := C.2.1
  have hown := C.2.2.2.2.2.1
  have hts := C.2.2.2.2.2.2.1
  obtain ⟨locs, hlocs⟩ : ∃ z : List Loc, z = [] := ⟨_, rfl⟩
  rw [← hlocs] at hS ⊢
  refine lv_aload_n hx hb dX0_sent_0 rfl (lv_at hl 0 rfl) ?_
  refine g0_11 C hH q754 dX0_sent_1 (fun hz => ?_)
  have hw := hw hz
  refine lv_if_eq (tgt := 17) hx hb dX0_sent_4 (by decide) (fun h => ?_) (fun h => ?_)
  · have hw := hw.1 h
    refine lv_iconst (v := (-1)) hx hb dX0_sent_17 (by decide) ?_
    exact rt_ip C rfl hS hw dX0_sent_18
  have hw := hw.2 h
  refine lv_aload_n hx hb dX0_sent_7 rfl (lv_at hl 0 rfl) ?_
  refine g0_3 C hH q746 dX0_sent_8 ?_
  refine g2_3 C hH q226 dX0_sent_11 ?_
  refine lv_goto (tgt := 18) hx hb dX0_sent_14 (by decide) ?_
  exact rt_ip C rfl hS hw dX0_sent_18
/-! WebHost.strays()I -/
abbrev cX0_strays : ByteArray := prog_1_method_31_code
def yX0_strays : MethodName := ⟨RX0, "strays", "()I"⟩
theorem dX0_strays_0 : decode cX0_strays 0 = .ok (.iconst 0, 1) := by decide +kernel
theorem dX0_strays_1 : decode cX0_strays 1 = .ok (.ireturn, 1) := by decide +kernel
def rmX0_strays : Room := { frames := 0, cells := 0, slots := 0, locals := 0 }
theorem kX0_strays : yX0_strays.cls = "WebHost" ∧ yX0_strays.cls ≠ "java/lang/invoke/MethodHandle" ∧ yX0_strays.cls ≠ "java/lang/invoke/VarHandle" ∧ (parseMethodDescriptor yX0_strays.desc).map (fun d => d.parameters.length) = some 0 := by decide +kernel
def w0_strays (σ : St) (Q : Int32 → Prop) : Prop := Q 0
set_option maxHeartbeats 4000000 in
theorem m0_strays (l : Launch) (G : Gh) (a1 : Nat → Nat → Nat) (τ : St) (σ : St) (H : Heap) (Q : Int32 → Prop) (hw : w0_strays σ Q) : Met l yX0_strays (ws_ yX0_strays cX0_strays 1 (some .int)) rmX0_strays (PcP G a1 (cmb σ τ) H [.ref (ga G 0 0)]) (QIp G H Q) 0 0 (gA G) := by
  refine met_p (by decide) (Nat.le_of_ble_eq_true rfl) ?_
  intro p e s m below meth c ls hHe C hH hS hl
  have C : Cx p e s m _ meth c cX0_strays 1 (some .int) "WebHost" G := C
  have hl : lv_has ls 1 [(0, .ref (ga G 0 0))] := hl
  have hx := C.1
  have hb := C.2.1
  have hown := C.2.2.2.2.2.1
  have hts := C.2.2.2.2.2.2.1
  obtain ⟨locs, hlocs⟩ : ∃ z : List Loc, z = [] := ⟨_, rfl⟩
  rw [← hlocs] at hS ⊢
  refine lv_iconst (v := 0) hx hb dX0_strays_0 (by decide) ?_
  exact rt_ip C rfl hS hw dX0_strays_1
/-! WebHost.waiting()I -/
abbrev cX0_waiting : ByteArray := prog_1_method_28_code
def yX0_waiting : MethodName := ⟨RX0, "waiting", "()I"⟩
theorem dX0_waiting_0 : decode cX0_waiting 0 = .ok (.aload_n 0, 1) := by decide +kernel
theorem dX0_waiting_1 : decode cX0_waiting 1 = .ok (.getfield 105, 3) := by decide +kernel
theorem dX0_waiting_4 : decode cX0_waiting 4 = .ok (.ifCond .eq 13, 3) := by decide +kernel
theorem dX0_waiting_7 : decode cX0_waiting 7 = .ok (.aload_n 0, 1) := by decide +kernel
theorem dX0_waiting_8 : decode cX0_waiting 8 = .ok (.getfield 33, 3) := by decide +kernel
theorem dX0_waiting_11 : decode cX0_waiting 11 = .ok (.getfield 345, 3) := by decide +kernel
theorem dX0_waiting_14 : decode cX0_waiting 14 = .ok (.goto 4, 3) := by decide +kernel
theorem dX0_waiting_17 : decode cX0_waiting 17 = .ok (.iconst 0, 1) := by decide +kernel
theorem dX0_waiting_18 : decode cX0_waiting 18 = .ok (.ireturn, 1) := by decide +kernel
def rmX0_waiting : Room := { frames := 0, cells := 0, slots := 0, locals := 0 }
theorem kX0_waiting : yX0_waiting.cls = "WebHost" ∧ yX0_waiting.cls ≠ "java/lang/invoke/MethodHandle" ∧ yX0_waiting.cls ≠ "java/lang/invoke/VarHandle" ∧ (parseMethodDescriptor yX0_waiting.desc).map (fun d => d.parameters.length) = some 0 := by decide +kernel
def w0_waiting (σ : St) (Q : Int32 → Prop) : Prop := bo (σ 0 0 11) → (((σ 0 0 11) = 0 → Q 0) ∧ (¬ (σ 0 0 11) = 0 → (Q (σ 3 0 9))))
set_option maxHeartbeats 4000000 in
theorem m0_waiting (l : Launch) (G : Gh) (a1 : Nat → Nat → Nat) (τ : St) (σ : St) (H : Heap) (Q : Int32 → Prop) (hw : w0_waiting σ Q) : Met l yX0_waiting (ws_ yX0_waiting cX0_waiting 1 (some .int)) rmX0_waiting (PcP G a1 (cmb σ τ) H [.ref (ga G 0 0)]) (QIp G H Q) 0 0 (gA G) := by
  refine met_p (by decide) (Nat.le_of_ble_eq_true rfl) ?_
  intro p e s m below meth c ls hHe C hH hS hl
  have C : Cx p e s m _ meth c cX0_waiting 1 (some .int) "WebHost" G := C
  have hl : lv_has ls 1 [(0, .ref (ga G 0 0))] := hl
  have hx := C.1
  have hb := C.2.1
  have hown := C.2.2.2.2.2.1
  have hts := C.2.2.2.2.2.2.1
  obtain ⟨locs, hlocs⟩ : ∃ z : List Loc, z = [] := ⟨_, rfl⟩
  rw [← hlocs] at hS ⊢
  refine lv_aload_n hx hb dX0_waiting_0 rfl (lv_at hl 0 rfl) ?_
  refine g0_11 C hH q754 dX0_waiting_1 (fun hz => ?_)
  have hw := hw hz
  refine lv_if_eq (tgt := 17) hx hb dX0_waiting_4 (by decide) (fun h => ?_) (fun h => ?_)
  · have hw := hw.1 h
    refine lv_iconst (v := 0) hx hb dX0_waiting_17 (by decide) ?_
    exact rt_ip C rfl hS hw dX0_waiting_18
  have hw := hw.2 h
  refine lv_aload_n hx hb dX0_waiting_7 rfl (lv_at hl 0 rfl) ?_
  refine g0_4 C hH q747 dX0_waiting_8 ?_
  refine g3_9 C hH q289 dX0_waiting_11 ?_
  refine lv_goto (tgt := 18) hx hb dX0_waiting_14 (by decide) ?_
  exact rt_ip C rfl hS hw dX0_waiting_18
/-! WebHost$Store.check(II)I -/
abbrev cX1_check : ByteArray := prog_13_method_3_code
def yX1_check : MethodName := ⟨RX1, "check", "(II)I"⟩
theorem dX1_check_0 : decode cX1_check 0 = .ok (.iconst (-1), 1) := by decide +kernel
theorem dX1_check_1 : decode cX1_check 1 = .ok (.istore_n 3, 1) := by decide +kernel
theorem dX1_check_2 : decode cX1_check 2 = .ok (.iconst 0, 1) := by decide +kernel
theorem dX1_check_3 : decode cX1_check 3 = .ok (.istore 4, 2) := by decide +kernel
theorem dX1_check_5 : decode cX1_check 5 = .ok (.iload 4, 2) := by decide +kernel
theorem dX1_check_7 : decode cX1_check 7 = .ok (.iload_n 2, 1) := by decide +kernel
theorem dX1_check_8 : decode cX1_check 8 = .ok (.if_icmp .ge 61, 3) := by decide +kernel
theorem dX1_check_11 : decode cX1_check 11 = .ok (.iload_n 3, 1) := by decide +kernel
theorem dX1_check_12 : decode cX1_check 12 = .ok (.aload_n 0, 1) := by decide +kernel
theorem dX1_check_13 : decode cX1_check 13 = .ok (.getfield 7, 3) := by decide +kernel
theorem dX1_check_16 : decode cX1_check 16 = .ok (.iload_n 1, 1) := by decide +kernel
theorem dX1_check_17 : decode cX1_check 17 = .ok (.iload 4, 2) := by decide +kernel
theorem dX1_check_19 : decode cX1_check 19 = .ok (.iadd, 1) := by decide +kernel
theorem dX1_check_20 : decode cX1_check 20 = .ok (.baload, 1) := by decide +kernel
theorem dX1_check_21 : decode cX1_check 21 = .ok (.sipush 255, 3) := by decide +kernel
theorem dX1_check_24 : decode cX1_check 24 = .ok (.iand, 1) := by decide +kernel
theorem dX1_check_25 : decode cX1_check 25 = .ok (.ixor, 1) := by decide +kernel
theorem dX1_check_26 : decode cX1_check 26 = .ok (.istore_n 3, 1) := by decide +kernel
theorem dX1_check_27 : decode cX1_check 27 = .ok (.iconst 0, 1) := by decide +kernel
theorem dX1_check_28 : decode cX1_check 28 = .ok (.istore 5, 2) := by decide +kernel
theorem dX1_check_30 : decode cX1_check 30 = .ok (.iload 5, 2) := by decide +kernel
theorem dX1_check_32 : decode cX1_check 32 = .ok (.bipush 8, 2) := by decide +kernel
theorem dX1_check_34 : decode cX1_check 34 = .ok (.if_icmp .ge 29, 3) := by decide +kernel
theorem dX1_check_37 : decode cX1_check 37 = .ok (.iload_n 3, 1) := by decide +kernel
theorem dX1_check_38 : decode cX1_check 38 = .ok (.iconst 1, 1) := by decide +kernel
theorem dX1_check_39 : decode cX1_check 39 = .ok (.iand, 1) := by decide +kernel
theorem dX1_check_40 : decode cX1_check 40 = .ok (.iconst 1, 1) := by decide +kernel
theorem dX1_check_41 : decode cX1_check 41 = .ok (.if_icmp .ne 12, 3) := by decide +kernel
theorem dX1_check_44 : decode cX1_check 44 = .ok (.iload_n 3, 1) := by decide +kernel
theorem dX1_check_45 : decode cX1_check 45 = .ok (.iconst 1, 1) := by decide +kernel
theorem dX1_check_46 : decode cX1_check 46 = .ok (.iushr, 1) := by decide +kernel
theorem dX1_check_47 : decode cX1_check 47 = .ok (.ldc 19, 2) := by decide +kernel
theorem dX1_check_49 : decode cX1_check 49 = .ok (.ixor, 1) := by decide +kernel
theorem dX1_check_50 : decode cX1_check 50 = .ok (.goto 6, 3) := by decide +kernel
theorem dX1_check_53 : decode cX1_check 53 = .ok (.iload_n 3, 1) := by decide +kernel
theorem dX1_check_54 : decode cX1_check 54 = .ok (.iconst 1, 1) := by decide +kernel
theorem dX1_check_55 : decode cX1_check 55 = .ok (.iushr, 1) := by decide +kernel
theorem dX1_check_56 : decode cX1_check 56 = .ok (.istore_n 3, 1) := by decide +kernel
theorem dX1_check_57 : decode cX1_check 57 = .ok (.iinc 5 1, 3) := by decide +kernel
theorem dX1_check_60 : decode cX1_check 60 = .ok (.goto (-30), 3) := by decide +kernel
theorem dX1_check_63 : decode cX1_check 63 = .ok (.iinc 4 1, 3) := by decide +kernel
theorem dX1_check_66 : decode cX1_check 66 = .ok (.goto (-61), 3) := by decide +kernel
theorem dX1_check_69 : decode cX1_check 69 = .ok (.iload_n 3, 1) := by decide +kernel
theorem dX1_check_70 : decode cX1_check 70 = .ok (.iconst (-1), 1) := by decide +kernel
theorem dX1_check_71 : decode cX1_check 71 = .ok (.ixor, 1) := by decide +kernel
theorem dX1_check_72 : decode cX1_check 72 = .ok (.ireturn, 1) := by decide +kernel
def rmX1_check : Room := { frames := 0, cells := 0, slots := 0, locals := 0 }
theorem kX1_check : yX1_check.cls = "WebHost$Store" ∧ yX1_check.cls ≠ "java/lang/invoke/MethodHandle" ∧ yX1_check.cls ≠ "java/lang/invoke/VarHandle" ∧ (parseMethodDescriptor yX1_check.desc).map (fun d => d.parameters.length) = some 2 := by decide +kernel
def w1_check_L30 (σ : St) (x1 : Int32) (x2 : Int32) (x4 : Int32) (Q : Int32 → Prop) (K63 : Int32 → Prop) : Nat → Int32 → Int32 → Prop
  | 0, _, _ => False
  | n + 1, x3, x5 => (8 ≤ x5 → K63 x3) ∧ (¬ 8 ≤ x5 → ((¬ (x3 &&& 1) = 1 → (w1_check_L30 σ x1 x2 x4 Q K63 n (ushr x3 1) (x5 + 1))) ∧ ((x3 &&& 1) = 1 → (w1_check_L30 σ x1 x2 x4 Q K63 n ((ushr x3 1) ^^^ (-306674912)) (x5 + 1)))))
set_option maxHeartbeats 4000000 in
theorem k1_check_L30 {p : Program} {l : Launch} {e : Env} {s : State} {m : MethodId} {args : Array Value} {below : List Frame} {meth : Method} {c : Code} {G : Gh} {a1 : Nat → Nat → Nat} {τ : St} {H : Heap} {Q : Int32 → Prop} {K63 : Int32 → Prop} (C : Cx p e s m args meth c cX1_check 6 (some .int) "WebHost$Store" G) (σ : St) (x1 : Int32) (x2 : Int32) (x4 : Int32) (hH : Hd G a1 (cmb σ τ) H) :
    ∀ (n : Nat) (x3 : Int32) (x5 : Int32), w1_check_L30 σ x1 x2 x4 Q K63 n x3 x5 → ∀ (locs : List Loc) (ls : Array Slot), va_S (gA G) s.heap H locs → lv_has ls 6 [(0, .ref (ga G 1 0)), (1, .int x1), (2, .int x2), (3, .int x3), (4, .int x4), (5, .int x5)] → (∀ (x3 : Int32), K63 x3 → ∀ (locs : List Loc) (ls : Array Slot), va_S (gA G) s.heap H locs → lv_has ls 6 [(0, .ref (ga G 1 0)), (1, .int x1), (2, .int x2), (3, .int x3), (4, .int x4)] → W p l e rmX1_check s m args below meth c H locs 0 0 (MQ below (QIp G H Q) args s 0 0 (gA G)) (F0 m 63 ls [])) → W p l e rmX1_check s m args below meth c H locs 0 0 (MQ below (QIp G H Q) args s 0 0 (gA G)) (F0 m 30 ls []) := by
  have hx := C.1
  have hb := C.2.1
  have hown := C.2.2.2.2.2.1
  have hts := C.2.2.2.2.2.2.1
  intro n
  induction n with
  | zero =>
    intro x3 x5 hw
    exact False.elim hw
  | succ n ih =>
    intro x3 x5 hw locs ls hS hl hK63
    refine lv_iload hx hb dX1_check_30 (lv_at hl 5 rfl) ?_
    refine lv_bipush (v := 8) hx hb dX1_check_32 (by decide) ?_
    refine lv_icmp_ge (tgt := 63) hx hb dX1_check_34 (by decide) (fun h => ?_) (fun h => ?_)
    · have hw := hw.1 h
      exact hK63 x3 hw locs ls hS (lv_sub hl [0, 1, 2, 3, 4] rfl)
    have hw := hw.2 h
    refine lv_iload_n hx hb dX1_check_37 rfl (lv_at hl 3 rfl) ?_
    refine lv_iconst (v := 1) hx hb dX1_check_38 (by decide) ?_
    refine lv_iand hx hb dX1_check_39 ?_
    refine lv_iconst (v := 1) hx hb dX1_check_40 (by decide) ?_
    refine lv_icmp_ne (tgt := 53) hx hb dX1_check_41 (by decide) (fun h => ?_) (fun h => ?_)
    · have hw := hw.1 h
      refine lv_iload_n hx hb dX1_check_53 rfl (lv_at hl 3 rfl) ?_
      refine lv_iconst (v := 1) hx hb dX1_check_54 (by decide) ?_
      refine lv_iushr (v := ushr x3 1) hx hb dX1_check_55 rfl ?_
      refine lv_istore_n (lv' := [(3, .int (ushr x3 1)), (0, .ref (ga G 1 0)), (1, .int x1), (2, .int x2), (4, .int x4), (5, .int x5)]) hx hb dX1_check_56 rfl hl (by decide) rfl (fun ls hl => ?_)
      refine lv_iinc (v := x5 + 1) (lv' := [(5, .int (x5 + 1)), (3, .int (ushr x3 1)), (0, .ref (ga G 1 0)), (1, .int x1), (2, .int x2), (4, .int x4)]) hx hb dX1_check_57 hl (k := 5) rfl rfl (by decide) rfl (fun ls hl => ?_)
      refine lv_goto (tgt := 30) hx hb dX1_check_60 (by decide) ?_
      exact ih (ushr x3 1) (x5 + 1) hw locs ls hS (lv_sub hl [2, 3, 4, 1, 5, 0] rfl) hK63
    have hw := hw.2 h
    refine lv_iload_n hx hb dX1_check_44 rfl (lv_at hl 3 rfl) ?_
    refine lv_iconst (v := 1) hx hb dX1_check_45 (by decide) ?_
    refine lv_iushr (v := ushr x3 1) hx hb dX1_check_46 rfl ?_
    refine lv_ldc (v := (-306674912)) hx hb hown (hts _ q835) dX1_check_47 ?_
    refine lv_ixor hx hb dX1_check_49 ?_
    refine lv_goto (tgt := 56) hx hb dX1_check_50 (by decide) ?_
    refine lv_istore_n (lv' := [(3, .int ((ushr x3 1) ^^^ (-306674912))), (0, .ref (ga G 1 0)), (1, .int x1), (2, .int x2), (4, .int x4), (5, .int x5)]) hx hb dX1_check_56 rfl hl (by decide) rfl (fun ls hl => ?_)
    refine lv_iinc (v := x5 + 1) (lv' := [(5, .int (x5 + 1)), (3, .int ((ushr x3 1) ^^^ (-306674912))), (0, .ref (ga G 1 0)), (1, .int x1), (2, .int x2), (4, .int x4)]) hx hb dX1_check_57 hl (k := 5) rfl rfl (by decide) rfl (fun ls hl => ?_)
    refine lv_goto (tgt := 30) hx hb dX1_check_60 (by decide) ?_
    exact ih ((ushr x3 1) ^^^ (-306674912)) (x5 + 1) hw locs ls hS (lv_sub hl [2, 3, 4, 1, 5, 0] rfl) hK63
def w1_check_L5 (σ : St) (x1 : Int32) (x2 : Int32) (Q : Int32 → Prop) (K69 : Int32 → Prop) : Nat → Int32 → Int32 → Prop
  | 0, _, _ => False
  | n + 1, x3, x4 => (x2 ≤ x4 → K69 x3) ∧ (¬ x2 ≤ x4 → (vp_in (x1 + x4) (σ 90 0 0).toNatClampNeg ∧ (by8 (σ 21 0 (x1 + x4).toNatClampNeg) → (∃ z1, w1_check_L30 σ x1 x2 x4 Q (fun x3_2 => w1_check_L5 σ x1 x2 Q K69 n x3_2 (x4 + 1)) z1 (x3 ^^^ ((σ 21 0 (x1 + x4).toNatClampNeg) &&& 255)) 0))))
set_option maxHeartbeats 4000000 in
theorem k1_check_L5 {p : Program} {l : Launch} {e : Env} {s : State} {m : MethodId} {args : Array Value} {below : List Frame} {meth : Method} {c : Code} {G : Gh} {a1 : Nat → Nat → Nat} {τ : St} {H : Heap} {Q : Int32 → Prop} {K69 : Int32 → Prop} (C : Cx p e s m args meth c cX1_check 6 (some .int) "WebHost$Store" G) (σ : St) (x1 : Int32) (x2 : Int32) (hH : Hd G a1 (cmb σ τ) H) :
    ∀ (n : Nat) (x3 : Int32) (x4 : Int32), w1_check_L5 σ x1 x2 Q K69 n x3 x4 → ∀ (locs : List Loc) (ls : Array Slot), va_S (gA G) s.heap H locs → lv_has ls 6 [(0, .ref (ga G 1 0)), (1, .int x1), (2, .int x2), (3, .int x3), (4, .int x4)] → (∀ (x3 : Int32), K69 x3 → ∀ (locs : List Loc) (ls : Array Slot), va_S (gA G) s.heap H locs → lv_has ls 6 [(3, .int x3)] → W p l e rmX1_check s m args below meth c H locs 0 0 (MQ below (QIp G H Q) args s 0 0 (gA G)) (F0 m 69 ls [])) → W p l e rmX1_check s m args below meth c H locs 0 0 (MQ below (QIp G H Q) args s 0 0 (gA G)) (F0 m 5 ls []) := by
  have hx := C.1
  have hb := C.2.1
  have hown := C.2.2.2.2.2.1
  have hts := C.2.2.2.2.2.2.1
  intro n
  induction n with
  | zero =>
    intro x3 x4 hw
    exact False.elim hw
  | succ n ih =>
    intro x3 x4 hw locs ls hS hl hK69
    refine lv_iload hx hb dX1_check_5 (lv_at hl 4 rfl) ?_
    refine lv_iload_n hx hb dX1_check_7 rfl (lv_at hl 2 rfl) ?_
    refine lv_icmp_ge (tgt := 69) hx hb dX1_check_8 (by decide) (fun h => ?_) (fun h => ?_)
    · have hw := hw.1 h
      exact hK69 x3 hw locs ls hS (lv_sub hl [3] rfl)
    have hw := hw.2 h
    refine lv_iload_n hx hb dX1_check_11 rfl (lv_at hl 3 rfl) ?_
    refine lv_aload_n hx hb dX1_check_12 rfl (lv_at hl 0 rfl) ?_
    refine g1_0 C hH q198 dX1_check_13 ?_
    refine lv_iload_n hx hb dX1_check_16 rfl (lv_at hl 1 rfl) ?_
    refine lv_iload hx hb dX1_check_17 (lv_at hl 4 rfl) ?_
    refine lv_iadd hx hb dX1_check_19 ?_
    refine l21 C hH hw.1 dX1_check_20 (fun hz => ?_)
    have hw := hw.2 hz
    refine lv_sipush (v := 255) hx hb dX1_check_21 (by decide) ?_
    refine lv_iand hx hb dX1_check_24 ?_
    refine lv_ixor hx hb dX1_check_25 ?_
    refine lv_istore_n (lv' := [(3, .int (x3 ^^^ ((σ 21 0 (x1 + x4).toNatClampNeg) &&& 255))), (0, .ref (ga G 1 0)), (1, .int x1), (2, .int x2), (4, .int x4)]) hx hb dX1_check_26 rfl hl (by decide) rfl (fun ls hl => ?_)
    refine lv_iconst (v := 0) hx hb dX1_check_27 (by decide) ?_
    refine lv_istore (lv' := [(5, .int 0), (3, .int (x3 ^^^ ((σ 21 0 (x1 + x4).toNatClampNeg) &&& 255))), (0, .ref (ga G 1 0)), (1, .int x1), (2, .int x2), (4, .int x4)]) hx hb dX1_check_28 hl (by decide) rfl (fun ls hl => ?_)
    obtain ⟨n1, hw⟩ := hw
    refine k1_check_L30 C σ x1 x2 x4 hH n1 (x3 ^^^ ((σ 21 0 (x1 + x4).toNatClampNeg) &&& 255)) 0 hw locs ls hS (lv_sub hl [2, 3, 4, 1, 5, 0] rfl) (fun x3_2 hw locs ls hS hl => ?_)
    refine lv_iinc (v := x4 + 1) (lv' := [(4, .int (x4 + 1)), (0, .ref (ga G 1 0)), (1, .int x1), (2, .int x2), (3, .int x3_2)]) hx hb dX1_check_63 hl (k := 4) rfl rfl (by decide) rfl (fun ls hl => ?_)
    refine lv_goto (tgt := 5) hx hb dX1_check_66 (by decide) ?_
    exact ih x3_2 (x4 + 1) hw locs ls hS (lv_sub hl [1, 2, 3, 4, 0] rfl) hK69
def w1_check (σ : St) (x1 : Int32) (x2 : Int32) (Q : Int32 → Prop) : Prop := ∃ z3, w1_check_L5 σ x1 x2 Q (fun x3_4 => Q (x3_4 ^^^ (-1))) z3 (-1) 0
set_option maxHeartbeats 4000000 in
theorem m1_check (l : Launch) (G : Gh) (a1 : Nat → Nat → Nat) (τ : St) (σ : St) (H : Heap) (x1 : Int32) (x2 : Int32) (Q : Int32 → Prop) (hw : w1_check σ x1 x2 Q) : Met l yX1_check (ws_ yX1_check cX1_check 6 (some .int)) rmX1_check (PcP G a1 (cmb σ τ) H [.ref (ga G 1 0), .int x1, .int x2]) (QIp G H Q) 0 0 (gA G) := by
  refine met_p (by decide) (Nat.le_of_ble_eq_true rfl) ?_
  intro p e s m below meth c ls hHe C hH hS hl
  have C : Cx p e s m _ meth c cX1_check 6 (some .int) "WebHost$Store" G := C
  have hl : lv_has ls 6 [(0, .ref (ga G 1 0)), (1, .int x1), (2, .int x2)] := hl
  have hx := C.1
  have hb := C.2.1
  have hown := C.2.2.2.2.2.1
  have hts := C.2.2.2.2.2.2.1
  obtain ⟨locs, hlocs⟩ : ∃ z : List Loc, z = [] := ⟨_, rfl⟩
  rw [← hlocs] at hS ⊢
  refine lv_iconst (v := (-1)) hx hb dX1_check_0 (by decide) ?_
  refine lv_istore_n (lv' := [(3, .int (-1)), (0, .ref (ga G 1 0)), (1, .int x1), (2, .int x2)]) hx hb dX1_check_1 rfl hl (by decide) rfl (fun ls hl => ?_)
  refine lv_iconst (v := 0) hx hb dX1_check_2 (by decide) ?_
  refine lv_istore (lv' := [(4, .int 0), (3, .int (-1)), (0, .ref (ga G 1 0)), (1, .int x1), (2, .int x2)]) hx hb dX1_check_3 hl (by decide) rfl (fun ls hl => ?_)
  obtain ⟨n3, hw⟩ := hw
  refine k1_check_L5 C σ x1 x2 hH n3 (-1) 0 hw locs ls hS (lv_sub hl [2, 3, 4, 1, 0] rfl) (fun x3_4 hw locs ls hS hl => ?_)
  refine lv_iload_n hx hb dX1_check_69 rfl (lv_at hl 0 rfl) ?_
  refine lv_iconst (v := (-1)) hx hb dX1_check_70 (by decide) ?_
  refine lv_ixor hx hb dX1_check_71 ?_
  exact rt_ip C rfl hS hw dX1_check_72
/-! WebHost$Store.entry(I)I -/
abbrev cX1_entry : ByteArray := prog_13_method_4_code
def yX1_entry : MethodName := ⟨RX1, "entry", "(I)I"⟩
theorem dX1_entry_0 : decode cX1_entry 0 = .ok (.bipush 8, 2) := by decide +kernel
theorem dX1_entry_2 : decode cX1_entry 2 = .ok (.bipush 64, 2) := by decide +kernel
theorem dX1_entry_4 : decode cX1_entry 4 = .ok (.iload_n 1, 1) := by decide +kernel
theorem dX1_entry_5 : decode cX1_entry 5 = .ok (.imul, 1) := by decide +kernel
theorem dX1_entry_6 : decode cX1_entry 6 = .ok (.iadd, 1) := by decide +kernel
theorem dX1_entry_7 : decode cX1_entry 7 = .ok (.ireturn, 1) := by decide +kernel
def rmX1_entry : Room := { frames := 0, cells := 0, slots := 0, locals := 0 }
theorem kX1_entry : yX1_entry.cls = "WebHost$Store" ∧ yX1_entry.cls ≠ "java/lang/invoke/MethodHandle" ∧ yX1_entry.cls ≠ "java/lang/invoke/VarHandle" ∧ (parseMethodDescriptor yX1_entry.desc).map (fun d => d.parameters.length) = some 1 := by decide +kernel
def w1_entry (σ : St) (x1 : Int32) (Q : Int32 → Prop) : Prop := Q (8 + (64 * x1))
set_option maxHeartbeats 4000000 in
theorem m1_entry (l : Launch) (G : Gh) (a1 : Nat → Nat → Nat) (τ : St) (σ : St) (H : Heap) (x1 : Int32) (Q : Int32 → Prop) (hw : w1_entry σ x1 Q) : Met l yX1_entry (ws_ yX1_entry cX1_entry 2 (some .int)) rmX1_entry (PcP G a1 (cmb σ τ) H [.ref (ga G 1 0), .int x1]) (QIp G H Q) 0 0 (gA G) := by
  refine met_p (by decide) (Nat.le_of_ble_eq_true rfl) ?_
  intro p e s m below meth c ls hHe C hH hS hl
  have C : Cx p e s m _ meth c cX1_entry 2 (some .int) "WebHost$Store" G := C
  have hl : lv_has ls 2 [(0, .ref (ga G 1 0)), (1, .int x1)] := hl
  have hx := C.1
  have hb := C.2.1
  have hown := C.2.2.2.2.2.1
  have hts := C.2.2.2.2.2.2.1
  obtain ⟨locs, hlocs⟩ : ∃ z : List Loc, z = [] := ⟨_, rfl⟩
  rw [← hlocs] at hS ⊢
  refine lv_bipush (v := 8) hx hb dX1_entry_0 (by decide) ?_
  refine lv_bipush (v := 64) hx hb dX1_entry_2 (by decide) ?_
  refine lv_iload_n hx hb dX1_entry_4 rfl (lv_at hl 1 rfl) ?_
  refine lv_imul hx hb dX1_entry_5 ?_
  refine lv_iadd hx hb dX1_entry_6 ?_
  exact rt_ip C rfl hS hw dX1_entry_7
/-! WebHost$Store.look(I)I -/
abbrev cX1_look : ByteArray := prog_13_method_2_code
def yX1_look : MethodName := ⟨RX1, "look", "(I)I"⟩
theorem dX1_look_0 : decode cX1_look 0 = .ok (.aload_n 0, 1) := by decide +kernel
theorem dX1_look_1 : decode cX1_look 1 = .ok (.getfield 16, 3) := by decide +kernel
theorem dX1_look_4 : decode cX1_look 4 = .ok (.iload_n 1, 1) := by decide +kernel
theorem dX1_look_5 : decode cX1_look 5 = .ok (.baload, 1) := by decide +kernel
theorem dX1_look_6 : decode cX1_look 6 = .ok (.sipush 255, 3) := by decide +kernel
theorem dX1_look_9 : decode cX1_look 9 = .ok (.iand, 1) := by decide +kernel
theorem dX1_look_10 : decode cX1_look 10 = .ok (.ireturn, 1) := by decide +kernel
def rmX1_look : Room := { frames := 0, cells := 0, slots := 0, locals := 0 }
theorem kX1_look : yX1_look.cls = "WebHost$Store" ∧ yX1_look.cls ≠ "java/lang/invoke/MethodHandle" ∧ yX1_look.cls ≠ "java/lang/invoke/VarHandle" ∧ (parseMethodDescriptor yX1_look.desc).map (fun d => d.parameters.length) = some 1 := by decide +kernel
def w1_look (σ : St) (x1 : Int32) (Q : Int32 → Prop) : Prop := abc (σ 1 0 3).toNatClampNeg (σ 1 0 103).toNatClampNeg = true ∧ (vp_in x1 (alen σ ((σ 1 0 3).toNatClampNeg) ((σ 1 0 103).toNatClampNeg)) ∧ (by8 (σ ((σ 1 0 3).toNatClampNeg) ((σ 1 0 103).toNatClampNeg) x1.toNatClampNeg) → (Q ((σ ((σ 1 0 3).toNatClampNeg) ((σ 1 0 103).toNatClampNeg) x1.toNatClampNeg) &&& 255))))
set_option maxHeartbeats 4000000 in
theorem m1_look (l : Launch) (G : Gh) (a1 : Nat → Nat → Nat) (τ : St) (σ : St) (H : Heap) (x1 : Int32) (Q : Int32 → Prop) (hw : w1_look σ x1 Q) : Met l yX1_look (ws_ yX1_look cX1_look 2 (some .int)) rmX1_look (PcP G a1 (cmb σ τ) H [.ref (ga G 1 0), .int x1]) (QIp G H Q) 0 0 (gA G) := by
  refine met_p (by decide) (Nat.le_of_ble_eq_true rfl) ?_
  intro p e s m below meth c ls hHe C hH hS hl
  have C : Cx p e s m _ meth c cX1_look 2 (some .int) "WebHost$Store" G := C
  have hl : lv_has ls 2 [(0, .ref (ga G 1 0)), (1, .int x1)] := hl
  have hx := C.1
  have hb := C.2.1
  have hown := C.2.2.2.2.2.1
  have hts := C.2.2.2.2.2.2.1
  obtain ⟨locs, hlocs⟩ : ∃ z : List Loc, z = [] := ⟨_, rfl⟩
  rw [← hlocs] at hS ⊢
  refine lv_aload_n hx hb dX1_look_0 rfl (lv_at hl 0 rfl) ?_
  obtain ⟨hq1, hw⟩ := hw
  refine g1_3 C hH hq1 q203 dX1_look_1 ?_
  refine lv_iload_n hx hb dX1_look_4 rfl (lv_at hl 1 rfl) ?_
  refine lb_c C hH hq1 rfl hw.1 dX1_look_5 (fun hz => ?_)
  have hw := hw.2 hz
  refine lv_sipush (v := 255) hx hb dX1_look_6 (by decide) ?_
  refine lv_iand hx hb dX1_look_9 ?_
  exact rt_ip C rfl hS hw dX1_look_10
/-! WebHost$Device.isForUs([B)Z -/
abbrev cX2_isForUs : ByteArray := prog_4_method_9_code
def yX2_isForUs : MethodName := ⟨RX2, "isForUs", "([B)Z"⟩
theorem dX2_isForUs_0 : decode cX2_isForUs 0 = .ok (.iconst 1, 1) := by decide +kernel
theorem dX2_isForUs_1 : decode cX2_isForUs 1 = .ok (.istore_n 2, 1) := by decide +kernel
theorem dX2_isForUs_2 : decode cX2_isForUs 2 = .ok (.iconst 1, 1) := by decide +kernel
theorem dX2_isForUs_3 : decode cX2_isForUs 3 = .ok (.istore_n 3, 1) := by decide +kernel
theorem dX2_isForUs_4 : decode cX2_isForUs 4 = .ok (.iconst 0, 1) := by decide +kernel
theorem dX2_isForUs_5 : decode cX2_isForUs 5 = .ok (.istore 4, 2) := by decide +kernel
theorem dX2_isForUs_7 : decode cX2_isForUs 7 = .ok (.iload 4, 2) := by decide +kernel
theorem dX2_isForUs_9 : decode cX2_isForUs 9 = .ok (.bipush 6, 2) := by decide +kernel
theorem dX2_isForUs_11 : decode cX2_isForUs 11 = .ok (.if_icmp .ge 51, 3) := by decide +kernel
theorem dX2_isForUs_14 : decode cX2_isForUs 14 = .ok (.iload_n 2, 1) := by decide +kernel
theorem dX2_isForUs_15 : decode cX2_isForUs 15 = .ok (.ifCond .eq 15, 3) := by decide +kernel
theorem dX2_isForUs_18 : decode cX2_isForUs 18 = .ok (.aload_n 1, 1) := by decide +kernel
theorem dX2_isForUs_19 : decode cX2_isForUs 19 = .ok (.iload 4, 2) := by decide +kernel
theorem dX2_isForUs_21 : decode cX2_isForUs 21 = .ok (.baload, 1) := by decide +kernel
theorem dX2_isForUs_22 : decode cX2_isForUs 22 = .ok (.iconst (-1), 1) := by decide +kernel
theorem dX2_isForUs_23 : decode cX2_isForUs 23 = .ok (.if_icmp .ne 7, 3) := by decide +kernel
theorem dX2_isForUs_26 : decode cX2_isForUs 26 = .ok (.iconst 1, 1) := by decide +kernel
theorem dX2_isForUs_27 : decode cX2_isForUs 27 = .ok (.goto 4, 3) := by decide +kernel
theorem dX2_isForUs_30 : decode cX2_isForUs 30 = .ok (.iconst 0, 1) := by decide +kernel
theorem dX2_isForUs_31 : decode cX2_isForUs 31 = .ok (.istore_n 2, 1) := by decide +kernel
theorem dX2_isForUs_32 : decode cX2_isForUs 32 = .ok (.iload_n 3, 1) := by decide +kernel
theorem dX2_isForUs_33 : decode cX2_isForUs 33 = .ok (.ifCond .eq 21, 3) := by decide +kernel
theorem dX2_isForUs_36 : decode cX2_isForUs 36 = .ok (.aload_n 1, 1) := by decide +kernel
theorem dX2_isForUs_37 : decode cX2_isForUs 37 = .ok (.iload 4, 2) := by decide +kernel
theorem dX2_isForUs_39 : decode cX2_isForUs 39 = .ok (.baload, 1) := by decide +kernel
theorem dX2_isForUs_40 : decode cX2_isForUs 40 = .ok (.aload_n 0, 1) := by decide +kernel
theorem dX2_isForUs_41 : decode cX2_isForUs 41 = .ok (.getfield 24, 3) := by decide +kernel
theorem dX2_isForUs_44 : decode cX2_isForUs 44 = .ok (.iload 4, 2) := by decide +kernel
theorem dX2_isForUs_46 : decode cX2_isForUs 46 = .ok (.baload, 1) := by decide +kernel
theorem dX2_isForUs_47 : decode cX2_isForUs 47 = .ok (.if_icmp .ne 7, 3) := by decide +kernel
theorem dX2_isForUs_50 : decode cX2_isForUs 50 = .ok (.iconst 1, 1) := by decide +kernel
theorem dX2_isForUs_51 : decode cX2_isForUs 51 = .ok (.goto 4, 3) := by decide +kernel
theorem dX2_isForUs_54 : decode cX2_isForUs 54 = .ok (.iconst 0, 1) := by decide +kernel
theorem dX2_isForUs_55 : decode cX2_isForUs 55 = .ok (.istore_n 3, 1) := by decide +kernel
theorem dX2_isForUs_56 : decode cX2_isForUs 56 = .ok (.iinc 4 1, 3) := by decide +kernel
theorem dX2_isForUs_59 : decode cX2_isForUs 59 = .ok (.goto (-52), 3) := by decide +kernel
theorem dX2_isForUs_62 : decode cX2_isForUs 62 = .ok (.iload_n 2, 1) := by decide +kernel
theorem dX2_isForUs_63 : decode cX2_isForUs 63 = .ok (.ifCond .ne 7, 3) := by decide +kernel
theorem dX2_isForUs_66 : decode cX2_isForUs 66 = .ok (.iload_n 3, 1) := by decide +kernel
theorem dX2_isForUs_67 : decode cX2_isForUs 67 = .ok (.ifCond .eq 7, 3) := by decide +kernel
theorem dX2_isForUs_70 : decode cX2_isForUs 70 = .ok (.iconst 1, 1) := by decide +kernel
theorem dX2_isForUs_71 : decode cX2_isForUs 71 = .ok (.goto 4, 3) := by decide +kernel
theorem dX2_isForUs_74 : decode cX2_isForUs 74 = .ok (.iconst 0, 1) := by decide +kernel
theorem dX2_isForUs_75 : decode cX2_isForUs 75 = .ok (.ireturn, 1) := by decide +kernel
def rmX2_isForUs : Room := { frames := 0, cells := 0, slots := 0, locals := 0 }
theorem kX2_isForUs : yX2_isForUs.cls = "WebHost$Device" ∧ yX2_isForUs.cls ≠ "java/lang/invoke/MethodHandle" ∧ yX2_isForUs.cls ≠ "java/lang/invoke/VarHandle" ∧ (parseMethodDescriptor yX2_isForUs.desc).map (fun d => d.parameters.length) = some 1 := by decide +kernel
def w2_isForUs_J31 (σ : St) (k1 : Nat) (i1 : Nat) (x3 : Int32) (x4 : Int32) (xs0 : Int32) (Q : Int32 → Prop) (K7 : Int32 → Int32 → Int32 → Prop) : Prop := (x3 = 0 → (K7 xs0 0 (x4 + 1))) ∧ (¬ x3 = 0 → (vp_in x4 (alen σ k1 i1) ∧ (by8 (σ k1 i1 x4.toNatClampNeg) → (vp_in x4 6 ∧ (by8 (σ 27 0 x4.toNatClampNeg) → ((¬ (σ k1 i1 x4.toNatClampNeg) = (σ 27 0 x4.toNatClampNeg) → (K7 xs0 0 (x4 + 1))) ∧ ((σ k1 i1 x4.toNatClampNeg) = (σ 27 0 x4.toNatClampNeg) → (K7 xs0 1 (x4 + 1)))))))))
set_option maxHeartbeats 4000000 in
theorem k2_isForUs_J31 {p : Program} {l : Launch} {e : Env} {s : State} {m : MethodId} {args : Array Value} {below : List Frame} {meth : Method} {c : Code} {G : Gh} {a1 : Nat → Nat → Nat} {τ : St} {H : Heap} {Q : Int32 → Prop} {K7 : Int32 → Int32 → Int32 → Prop} (C : Cx p e s m args meth c cX2_isForUs 5 (some .boolean) "WebHost$Device" G) (σ : St) (k1 : Nat) (i1 : Nat) (x3 : Int32) (x4 : Int32) (xs0 : Int32) (hk1 : abc k1 i1 = true) (hH : Hd G a1 (cmb σ τ) H) (hw : w2_isForUs_J31 σ k1 i1 x3 x4 xs0 Q K7) (locs : List Loc) (ls : Array Slot) (hS : va_S (gA G) s.heap H locs) (hl : lv_has ls 5 [(0, .ref (ga G 2 0)), (1, .ref (adr G a1 k1 i1)), (3, .int x3), (4, .int x4)]) (hK7 : ∀ (x2 : Int32) (x3 : Int32) (x4 : Int32), K7 x2 x3 x4 → ∀ (locs : List Loc) (ls : Array Slot), va_S (gA G) s.heap H locs → lv_has ls 5 [(0, .ref (ga G 2 0)), (1, .ref (adr G a1 k1 i1)), (2, .int x2), (3, .int x3), (4, .int x4)] → W p l e rmX2_isForUs s m args below meth c H locs 0 0 (MQ below (QIp G H Q) args s 0 0 (gA G)) (F0 m 7 ls [])) : W p l e rmX2_isForUs s m args below meth c H locs 0 0 (MQ below (QIp G H Q) args s 0 0 (gA G)) (F0 m 31 ls [.int xs0]) := by
  have hx := C.1
  have hb := C.2.1
  have hown := C.2.2.2.2.2.1
  have hts := C.2.2.2.2.2.2.1
  refine lv_istore_n (lv' := [(2, .int xs0), (0, .ref (ga G 2 0)), (1, .ref (adr G a1 k1 i1)), (3, .int x3), (4, .int x4)]) hx hb dX2_isForUs_31 rfl hl (by decide) rfl (fun ls hl => ?_)
  refine lv_iload_n hx hb dX2_isForUs_32 rfl (lv_at hl 3 rfl) ?_
  refine lv_if_eq (tgt := 54) hx hb dX2_isForUs_33 (by decide) (fun h => ?_) (fun h => ?_)
  · have hw := hw.1 h
    refine lv_iconst (v := 0) hx hb dX2_isForUs_54 (by decide) ?_
    refine lv_istore_n (lv' := [(3, .int 0), (2, .int xs0), (0, .ref (ga G 2 0)), (1, .ref (adr G a1 k1 i1)), (4, .int x4)]) hx hb dX2_isForUs_55 rfl hl (by decide) rfl (fun ls hl => ?_)
    refine lv_iinc (v := x4 + 1) (lv' := [(4, .int (x4 + 1)), (3, .int 0), (2, .int xs0), (0, .ref (ga G 2 0)), (1, .ref (adr G a1 k1 i1))]) hx hb dX2_isForUs_56 hl (k := 4) rfl rfl (by decide) rfl (fun ls hl => ?_)
    refine lv_goto (tgt := 7) hx hb dX2_isForUs_59 (by decide) ?_
    exact hK7 xs0 0 (x4 + 1) hw locs ls hS (lv_sub hl [3, 4, 2, 1, 0] rfl)
  have hw := hw.2 h
  refine lv_aload_n hx hb dX2_isForUs_36 rfl (lv_at hl 2 rfl) ?_
  refine lv_iload hx hb dX2_isForUs_37 (lv_at hl 4 rfl) ?_
  refine lb_c C hH hk1 rfl hw.1 dX2_isForUs_39 (fun hz => ?_)
  have hw := hw.2 hz
  refine lv_aload_n hx hb dX2_isForUs_40 rfl (lv_at hl 1 rfl) ?_
  refine g2_5 C hH q231 dX2_isForUs_41 ?_
  refine lv_iload hx hb dX2_isForUs_44 (lv_at hl 4 rfl) ?_
  refine l27 C hH hw.1 dX2_isForUs_46 (fun hz => ?_)
  have hw := hw.2 hz
  refine lv_icmp_ne (tgt := 54) hx hb dX2_isForUs_47 (by decide) (fun h => ?_) (fun h => ?_)
  · have hw := hw.1 h
    refine lv_iconst (v := 0) hx hb dX2_isForUs_54 (by decide) ?_
    refine lv_istore_n (lv' := [(3, .int 0), (2, .int xs0), (0, .ref (ga G 2 0)), (1, .ref (adr G a1 k1 i1)), (4, .int x4)]) hx hb dX2_isForUs_55 rfl hl (by decide) rfl (fun ls hl => ?_)
    refine lv_iinc (v := x4 + 1) (lv' := [(4, .int (x4 + 1)), (3, .int 0), (2, .int xs0), (0, .ref (ga G 2 0)), (1, .ref (adr G a1 k1 i1))]) hx hb dX2_isForUs_56 hl (k := 4) rfl rfl (by decide) rfl (fun ls hl => ?_)
    refine lv_goto (tgt := 7) hx hb dX2_isForUs_59 (by decide) ?_
    exact hK7 xs0 0 (x4 + 1) hw locs ls hS (lv_sub hl [3, 4, 2, 1, 0] rfl)
  have hw := hw.2 h
  refine lv_iconst (v := 1) hx hb dX2_isForUs_50 (by decide) ?_
  refine lv_goto (tgt := 55) hx hb dX2_isForUs_51 (by decide) ?_
  refine lv_istore_n (lv' := [(3, .int 1), (2, .int xs0), (0, .ref (ga G 2 0)), (1, .ref (adr G a1 k1 i1)), (4, .int x4)]) hx hb dX2_isForUs_55 rfl hl (by decide) rfl (fun ls hl => ?_)
  refine lv_iinc (v := x4 + 1) (lv' := [(4, .int (x4 + 1)), (3, .int 1), (2, .int xs0), (0, .ref (ga G 2 0)), (1, .ref (adr G a1 k1 i1))]) hx hb dX2_isForUs_56 hl (k := 4) rfl rfl (by decide) rfl (fun ls hl => ?_)
  refine lv_goto (tgt := 7) hx hb dX2_isForUs_59 (by decide) ?_
  exact hK7 xs0 1 (x4 + 1) hw locs ls hS (lv_sub hl [3, 4, 2, 1, 0] rfl)
def w2_isForUs_L7 (σ : St) (k1 : Nat) (i1 : Nat) (Q : Int32 → Prop) (K62 : Int32 → Int32 → Prop) : Nat → Int32 → Int32 → Int32 → Prop
  | 0, _, _, _ => False
  | n + 1, x2, x3, x4 => (6 ≤ x4 → K62 x2 x3) ∧ (¬ 6 ≤ x4 → ((x2 = 0 → (w2_isForUs_J31 σ k1 i1 x3 x4 0 Q (fun x2z x3z x4z => w2_isForUs_L7 σ k1 i1 Q K62 n x2z x3z x4z))) ∧ (¬ x2 = 0 → (vp_in x4 (alen σ k1 i1) ∧ (by8 (σ k1 i1 x4.toNatClampNeg) → ((¬ (σ k1 i1 x4.toNatClampNeg) = (-1) → (w2_isForUs_J31 σ k1 i1 x3 x4 0 Q (fun x2z x3z x4z => w2_isForUs_L7 σ k1 i1 Q K62 n x2z x3z x4z))) ∧ ((σ k1 i1 x4.toNatClampNeg) = (-1) → (w2_isForUs_J31 σ k1 i1 x3 x4 1 Q (fun x2z x3z x4z => w2_isForUs_L7 σ k1 i1 Q K62 n x2z x3z x4z)))))))))
set_option maxHeartbeats 4000000 in
theorem k2_isForUs_L7 {p : Program} {l : Launch} {e : Env} {s : State} {m : MethodId} {args : Array Value} {below : List Frame} {meth : Method} {c : Code} {G : Gh} {a1 : Nat → Nat → Nat} {τ : St} {H : Heap} {Q : Int32 → Prop} {K62 : Int32 → Int32 → Prop} (C : Cx p e s m args meth c cX2_isForUs 5 (some .boolean) "WebHost$Device" G) (σ : St) (k1 : Nat) (i1 : Nat) (hk1 : abc k1 i1 = true) (hH : Hd G a1 (cmb σ τ) H) :
    ∀ (n : Nat) (x2 : Int32) (x3 : Int32) (x4 : Int32), w2_isForUs_L7 σ k1 i1 Q K62 n x2 x3 x4 → ∀ (locs : List Loc) (ls : Array Slot), va_S (gA G) s.heap H locs → lv_has ls 5 [(0, .ref (ga G 2 0)), (1, .ref (adr G a1 k1 i1)), (2, .int x2), (3, .int x3), (4, .int x4)] → (∀ (x2 : Int32) (x3 : Int32), K62 x2 x3 → ∀ (locs : List Loc) (ls : Array Slot), va_S (gA G) s.heap H locs → lv_has ls 5 [(2, .int x2), (3, .int x3)] → W p l e rmX2_isForUs s m args below meth c H locs 0 0 (MQ below (QIp G H Q) args s 0 0 (gA G)) (F0 m 62 ls [])) → W p l e rmX2_isForUs s m args below meth c H locs 0 0 (MQ below (QIp G H Q) args s 0 0 (gA G)) (F0 m 7 ls []) := by
  have hx := C.1
  have hb := C.2.1
  have hown := C.2.2.2.2.2.1
  have hts := C.2.2.2.2.2.2.1
  intro n
  induction n with
  | zero =>
    intro x2 x3 x4 hw
    exact False.elim hw
  | succ n ih =>
    intro x2 x3 x4 hw locs ls hS hl hK62
    refine lv_iload hx hb dX2_isForUs_7 (lv_at hl 4 rfl) ?_
    refine lv_bipush (v := 6) hx hb dX2_isForUs_9 (by decide) ?_
    refine lv_icmp_ge (tgt := 62) hx hb dX2_isForUs_11 (by decide) (fun h => ?_) (fun h => ?_)
    · have hw := hw.1 h
      exact hK62 x2 x3 hw locs ls hS (lv_sub hl [2, 3] rfl)
    have hw := hw.2 h
    refine lv_iload_n hx hb dX2_isForUs_14 rfl (lv_at hl 2 rfl) ?_
    refine lv_if_eq (tgt := 30) hx hb dX2_isForUs_15 (by decide) (fun h => ?_) (fun h => ?_)
    · have hw := hw.1 h
      refine lv_iconst (v := 0) hx hb dX2_isForUs_30 (by decide) ?_
      exact k2_isForUs_J31 C σ k1 i1 x3 x4 0 hk1 hH hw locs ls hS (lv_sub hl [0, 1, 3, 4] rfl) (fun x2z x3z x4z hw locs ls hS hl => ih x2z x3z x4z hw locs ls hS hl hK62)
    have hw := hw.2 h
    refine lv_aload_n hx hb dX2_isForUs_18 rfl (lv_at hl 1 rfl) ?_
    refine lv_iload hx hb dX2_isForUs_19 (lv_at hl 4 rfl) ?_
    refine lb_c C hH hk1 rfl hw.1 dX2_isForUs_21 (fun hz => ?_)
    have hw := hw.2 hz
    refine lv_iconst (v := (-1)) hx hb dX2_isForUs_22 (by decide) ?_
    refine lv_icmp_ne (tgt := 30) hx hb dX2_isForUs_23 (by decide) (fun h => ?_) (fun h => ?_)
    · have hw := hw.1 h
      refine lv_iconst (v := 0) hx hb dX2_isForUs_30 (by decide) ?_
      exact k2_isForUs_J31 C σ k1 i1 x3 x4 0 hk1 hH hw locs ls hS (lv_sub hl [0, 1, 3, 4] rfl) (fun x2z x3z x4z hw locs ls hS hl => ih x2z x3z x4z hw locs ls hS hl hK62)
    have hw := hw.2 h
    refine lv_iconst (v := 1) hx hb dX2_isForUs_26 (by decide) ?_
    refine lv_goto (tgt := 31) hx hb dX2_isForUs_27 (by decide) ?_
    exact k2_isForUs_J31 C σ k1 i1 x3 x4 1 hk1 hH hw locs ls hS (lv_sub hl [0, 1, 3, 4] rfl) (fun x2z x3z x4z hw locs ls hS hl => ih x2z x3z x4z hw locs ls hS hl hK62)
def w2_isForUs (σ : St) (k1 : Nat) (i1 : Nat) (Q : Int32 → Prop) : Prop := ∃ z1, w2_isForUs_L7 σ k1 i1 Q (fun x2_2 x3_2 => (¬ x2_2 = 0 → Q 1) ∧ (x2_2 = 0 → ((x3_2 = 0 → Q 0) ∧ (¬ x3_2 = 0 → Q 1)))) z1 1 1 0
set_option maxHeartbeats 4000000 in
theorem m2_isForUs (l : Launch) (G : Gh) (a1 : Nat → Nat → Nat) (τ : St) (σ : St) (H : Heap) (k1 : Nat) (i1 : Nat) (hk1 : abc k1 i1 = true) (Q : Int32 → Prop) (hw : w2_isForUs σ k1 i1 Q) : Met l yX2_isForUs (ws_ yX2_isForUs cX2_isForUs 5 (some .boolean)) rmX2_isForUs (PcP G a1 (cmb σ τ) H [.ref (ga G 2 0), .ref (adr G a1 k1 i1)]) (QIp G H Q) 0 0 (gA G) := by
  refine met_p (by decide) (Nat.le_of_ble_eq_true rfl) ?_
  intro p e s m below meth c ls hHe C hH hS hl
  have C : Cx p e s m _ meth c cX2_isForUs 5 (some .boolean) "WebHost$Device" G := C
  have hl : lv_has ls 5 [(0, .ref (ga G 2 0)), (1, .ref (adr G a1 k1 i1))] := hl
  have hx := C.1
  have hb := C.2.1
  have hown := C.2.2.2.2.2.1
  have hts := C.2.2.2.2.2.2.1
  obtain ⟨locs, hlocs⟩ : ∃ z : List Loc, z = [] := ⟨_, rfl⟩
  rw [← hlocs] at hS ⊢
  refine lv_iconst (v := 1) hx hb dX2_isForUs_0 (by decide) ?_
  refine lv_istore_n (lv' := [(2, .int 1), (0, .ref (ga G 2 0)), (1, .ref (adr G a1 k1 i1))]) hx hb dX2_isForUs_1 rfl hl (by decide) rfl (fun ls hl => ?_)
  refine lv_iconst (v := 1) hx hb dX2_isForUs_2 (by decide) ?_
  refine lv_istore_n (lv' := [(3, .int 1), (2, .int 1), (0, .ref (ga G 2 0)), (1, .ref (adr G a1 k1 i1))]) hx hb dX2_isForUs_3 rfl hl (by decide) rfl (fun ls hl => ?_)
  refine lv_iconst (v := 0) hx hb dX2_isForUs_4 (by decide) ?_
  refine lv_istore (lv' := [(4, .int 0), (3, .int 1), (2, .int 1), (0, .ref (ga G 2 0)), (1, .ref (adr G a1 k1 i1))]) hx hb dX2_isForUs_5 hl (by decide) rfl (fun ls hl => ?_)
  obtain ⟨n1, hw⟩ := hw
  refine k2_isForUs_L7 C σ k1 i1 hk1 hH n1 1 1 0 hw locs ls hS (lv_sub hl [3, 4, 2, 1, 0] rfl) (fun x2_2 x3_2 hw locs ls hS hl => ?_)
  refine lv_iload_n hx hb dX2_isForUs_62 rfl (lv_at hl 0 rfl) ?_
  refine lv_if_ne (tgt := 70) hx hb dX2_isForUs_63 (by decide) (fun h => ?_) (fun h => ?_)
  · have hw := hw.1 h
    refine lv_iconst (v := 1) hx hb dX2_isForUs_70 (by decide) ?_
    refine lv_goto (tgt := 75) hx hb dX2_isForUs_71 (by decide) ?_
    exact rt_ip C rfl hS hw dX2_isForUs_75
  have hw := hw.2 h
  refine lv_iload_n hx hb dX2_isForUs_66 rfl (lv_at hl 1 rfl) ?_
  refine lv_if_eq (tgt := 74) hx hb dX2_isForUs_67 (by decide) (fun h => ?_) (fun h => ?_)
  · have hw := hw.1 h
    refine lv_iconst (v := 0) hx hb dX2_isForUs_74 (by decide) ?_
    exact rt_ip C rfl hS hw dX2_isForUs_75
  have hw := hw.2 h
  refine lv_iconst (v := 1) hx hb dX2_isForUs_70 (by decide) ?_
  refine lv_goto (tgt := 75) hx hb dX2_isForUs_71 (by decide) ?_
  exact rt_ip C rfl hS hw dX2_isForUs_75
/-! WebHost$Device.isKept(I)Z -/
abbrev cX2_isKept : ByteArray := prog_4_method_4_code
def yX2_isKept : MethodName := ⟨RX2, "isKept", "(I)Z"⟩
theorem dX2_isKept_0 : decode cX2_isKept 0 = .ok (.iload_n 1, 1) := by decide +kernel
theorem dX2_isKept_1 : decode cX2_isKept 1 = .ok (.ifCond .lt 21, 3) := by decide +kernel
theorem dX2_isKept_4 : decode cX2_isKept 4 = .ok (.iload_n 1, 1) := by decide +kernel
theorem dX2_isKept_5 : decode cX2_isKept 5 = .ok (.bipush 32, 2) := by decide +kernel
theorem dX2_isKept_7 : decode cX2_isKept 7 = .ok (.if_icmp .ge 15, 3) := by decide +kernel
theorem dX2_isKept_10 : decode cX2_isKept 10 = .ok (.iload_n 1, 1) := by decide +kernel
theorem dX2_isKept_11 : decode cX2_isKept 11 = .ok (.aload_n 0, 1) := by decide +kernel
theorem dX2_isKept_12 : decode cX2_isKept 12 = .ok (.getfield 27, 3) := by decide +kernel
theorem dX2_isKept_15 : decode cX2_isKept 15 = .ok (.if_icmp .ge 7, 3) := by decide +kernel
theorem dX2_isKept_18 : decode cX2_isKept 18 = .ok (.iconst 1, 1) := by decide +kernel
theorem dX2_isKept_19 : decode cX2_isKept 19 = .ok (.goto 4, 3) := by decide +kernel
theorem dX2_isKept_22 : decode cX2_isKept 22 = .ok (.iconst 0, 1) := by decide +kernel
theorem dX2_isKept_23 : decode cX2_isKept 23 = .ok (.ireturn, 1) := by decide +kernel
def rmX2_isKept : Room := { frames := 0, cells := 0, slots := 0, locals := 0 }
theorem kX2_isKept : yX2_isKept.cls = "WebHost$Device" ∧ yX2_isKept.cls ≠ "java/lang/invoke/MethodHandle" ∧ yX2_isKept.cls ≠ "java/lang/invoke/VarHandle" ∧ (parseMethodDescriptor yX2_isKept.desc).map (fun d => d.parameters.length) = some 1 := by decide +kernel
def w2_isKept (σ : St) (x1 : Int32) (Q : Int32 → Prop) : Prop := (x1 < 0 → Q 0) ∧ (¬ x1 < 0 → ((32 ≤ x1 → Q 0) ∧ (¬ 32 ≤ x1 → (((σ 2 0 3) ≤ x1 → Q 0) ∧ (¬ (σ 2 0 3) ≤ x1 → Q 1)))))
set_option maxHeartbeats 4000000 in
theorem m2_isKept (l : Launch) (G : Gh) (a1 : Nat → Nat → Nat) (τ : St) (σ : St) (H : Heap) (x1 : Int32) (Q : Int32 → Prop) (hw : w2_isKept σ x1 Q) : Met l yX2_isKept (ws_ yX2_isKept cX2_isKept 2 (some .boolean)) rmX2_isKept (PcP G a1 (cmb σ τ) H [.ref (ga G 2 0), .int x1]) (QIp G H Q) 0 0 (gA G) := by
  refine met_p (by decide) (Nat.le_of_ble_eq_true rfl) ?_
  intro p e s m below meth c ls hHe C hH hS hl
  have C : Cx p e s m _ meth c cX2_isKept 2 (some .boolean) "WebHost$Device" G := C
  have hl : lv_has ls 2 [(0, .ref (ga G 2 0)), (1, .int x1)] := hl
  have hx := C.1
  have hb := C.2.1
  have hown := C.2.2.2.2.2.1
  have hts := C.2.2.2.2.2.2.1
  obtain ⟨locs, hlocs⟩ : ∃ z : List Loc, z = [] := ⟨_, rfl⟩
  rw [← hlocs] at hS ⊢
  refine lv_iload_n hx hb dX2_isKept_0 rfl (lv_at hl 1 rfl) ?_
  refine lv_if_lt (tgt := 22) hx hb dX2_isKept_1 (by decide) (fun h => ?_) (fun h => ?_)
  · have hw := hw.1 h
    refine lv_iconst (v := 0) hx hb dX2_isKept_22 (by decide) ?_
    exact rt_ip C rfl hS hw dX2_isKept_23
  have hw := hw.2 h
  refine lv_iload_n hx hb dX2_isKept_4 rfl (lv_at hl 1 rfl) ?_
  refine lv_bipush (v := 32) hx hb dX2_isKept_5 (by decide) ?_
  refine lv_icmp_ge (tgt := 22) hx hb dX2_isKept_7 (by decide) (fun h => ?_) (fun h => ?_)
  · have hw := hw.1 h
    refine lv_iconst (v := 0) hx hb dX2_isKept_22 (by decide) ?_
    exact rt_ip C rfl hS hw dX2_isKept_23
  have hw := hw.2 h
  refine lv_iload_n hx hb dX2_isKept_10 rfl (lv_at hl 1 rfl) ?_
  refine lv_aload_n hx hb dX2_isKept_11 rfl (lv_at hl 0 rfl) ?_
  refine g2_3 C hH q225 dX2_isKept_12 ?_
  refine lv_icmp_ge (tgt := 22) hx hb dX2_isKept_15 (by decide) (fun h => ?_) (fun h => ?_)
  · have hw := hw.1 h
    refine lv_iconst (v := 0) hx hb dX2_isKept_22 (by decide) ?_
    exact rt_ip C rfl hS hw dX2_isKept_23
  have hw := hw.2 h
  refine lv_iconst (v := 1) hx hb dX2_isKept_18 (by decide) ?_
  refine lv_goto (tgt := 23) hx hb dX2_isKept_19 (by decide) ?_
  exact rt_ip C rfl hS hw dX2_isKept_23
/-! WebHost$Device.slot(I)I -/
abbrev cX2_slot : ByteArray := prog_4_method_5_code
def yX2_slot : MethodName := ⟨RX2, "slot", "(I)I"⟩
theorem dX2_slot_0 : decode cX2_slot 0 = .ok (.aload_n 0, 1) := by decide +kernel
theorem dX2_slot_1 : decode cX2_slot 1 = .ok (.getfield 27, 3) := by decide +kernel
theorem dX2_slot_4 : decode cX2_slot 4 = .ok (.iconst 1, 1) := by decide +kernel
theorem dX2_slot_5 : decode cX2_slot 5 = .ok (.isub, 1) := by decide +kernel
theorem dX2_slot_6 : decode cX2_slot 6 = .ok (.iload_n 1, 1) := by decide +kernel
theorem dX2_slot_7 : decode cX2_slot 7 = .ok (.isub, 1) := by decide +kernel
theorem dX2_slot_8 : decode cX2_slot 8 = .ok (.bipush 32, 2) := by decide +kernel
theorem dX2_slot_10 : decode cX2_slot 10 = .ok (.irem, 1) := by decide +kernel
theorem dX2_slot_11 : decode cX2_slot 11 = .ok (.ireturn, 1) := by decide +kernel
def rmX2_slot : Room := { frames := 0, cells := 0, slots := 0, locals := 0 }
theorem kX2_slot : yX2_slot.cls = "WebHost$Device" ∧ yX2_slot.cls ≠ "java/lang/invoke/MethodHandle" ∧ yX2_slot.cls ≠ "java/lang/invoke/VarHandle" ∧ (parseMethodDescriptor yX2_slot.desc).map (fun d => d.parameters.length) = some 1 := by decide +kernel
def w2_slot (σ : St) (x1 : Int32) (Q : Int32 → Prop) : Prop := Q ((((σ 2 0 3) - 1) - x1) - (((σ 2 0 3) - 1) - x1) / 32 * 32)
set_option maxHeartbeats 4000000 in
theorem m2_slot (l : Launch) (G : Gh) (a1 : Nat → Nat → Nat) (τ : St) (σ : St) (H : Heap) (x1 : Int32) (Q : Int32 → Prop) (hw : w2_slot σ x1 Q) : Met l yX2_slot (ws_ yX2_slot cX2_slot 2 (some .int)) rmX2_slot (PcP G a1 (cmb σ τ) H [.ref (ga G 2 0), .int x1]) (QIp G H Q) 0 0 (gA G) := by
  refine met_p (by decide) (Nat.le_of_ble_eq_true rfl) ?_
  intro p e s m below meth c ls hHe C hH hS hl
  have C : Cx p e s m _ meth c cX2_slot 2 (some .int) "WebHost$Device" G := C
  have hl : lv_has ls 2 [(0, .ref (ga G 2 0)), (1, .int x1)] := hl
  have hx := C.1
  have hb := C.2.1
  have hown := C.2.2.2.2.2.1
  have hts := C.2.2.2.2.2.2.1
  obtain ⟨locs, hlocs⟩ : ∃ z : List Loc, z = [] := ⟨_, rfl⟩
  rw [← hlocs] at hS ⊢
  refine lv_aload_n hx hb dX2_slot_0 rfl (lv_at hl 0 rfl) ?_
  refine g2_3 C hH q225 dX2_slot_1 ?_
  refine lv_iconst (v := 1) hx hb dX2_slot_4 (by decide) ?_
  refine lv_isub hx hb dX2_slot_5 ?_
  refine lv_iload_n hx hb dX2_slot_6 rfl (lv_at hl 1 rfl) ?_
  refine lv_isub hx hb dX2_slot_7 ?_
  refine lv_bipush (v := 32) hx hb dX2_slot_8 (by decide) ?_
  refine lv_irem hx hb dX2_slot_10 (by decide) ?_
  exact rt_ip C rfl hS hw dX2_slot_11
/-! WebHost$Hops.begin(III)V -/
abbrev cX3_begin : ByteArray := prog_6_method_2_code
def yX3_begin : MethodName := ⟨RX3, "begin", "(III)V"⟩
theorem dX3_begin_0 : decode cX3_begin 0 = .ok (.aload_n 0, 1) := by decide +kernel
theorem dX3_begin_1 : decode cX3_begin 1 = .ok (.iload_n 1, 1) := by decide +kernel
theorem dX3_begin_2 : decode cX3_begin 2 = .ok (.putfield 40, 3) := by decide +kernel
theorem dX3_begin_5 : decode cX3_begin 5 = .ok (.aload_n 0, 1) := by decide +kernel
theorem dX3_begin_6 : decode cX3_begin 6 = .ok (.iconst (-1), 1) := by decide +kernel
theorem dX3_begin_7 : decode cX3_begin 7 = .ok (.bipush 32, 2) := by decide +kernel
theorem dX3_begin_9 : decode cX3_begin 9 = .ok (.iload_n 2, 1) := by decide +kernel
theorem dX3_begin_10 : decode cX3_begin 10 = .ok (.isub, 1) := by decide +kernel
theorem dX3_begin_11 : decode cX3_begin 11 = .ok (.ishl, 1) := by decide +kernel
theorem dX3_begin_12 : decode cX3_begin 12 = .ok (.putfield 44, 3) := by decide +kernel
theorem dX3_begin_15 : decode cX3_begin 15 = .ok (.aload_n 0, 1) := by decide +kernel
theorem dX3_begin_16 : decode cX3_begin 16 = .ok (.iload_n 3, 1) := by decide +kernel
theorem dX3_begin_17 : decode cX3_begin 17 = .ok (.putfield 47, 3) := by decide +kernel
theorem dX3_begin_20 : decode cX3_begin 20 = .ok (.aload_n 0, 1) := by decide +kernel
theorem dX3_begin_21 : decode cX3_begin 21 = .ok (.iconst 0, 1) := by decide +kernel
theorem dX3_begin_22 : decode cX3_begin 22 = .ok (.putfield 50, 3) := by decide +kernel
theorem dX3_begin_25 : decode cX3_begin 25 = .ok (.aload_n 0, 1) := by decide +kernel
theorem dX3_begin_26 : decode cX3_begin 26 = .ok (.iconst 0, 1) := by decide +kernel
theorem dX3_begin_27 : decode cX3_begin 27 = .ok (.putfield 53, 3) := by decide +kernel
theorem dX3_begin_30 : decode cX3_begin 30 = .ok (.return_, 1) := by decide +kernel
def rmX3_begin : Room := { frames := 0, cells := 0, slots := 0, locals := 0 }
theorem kX3_begin : yX3_begin.cls = "WebHost$Hops" ∧ yX3_begin.cls ≠ "java/lang/invoke/MethodHandle" ∧ yX3_begin.cls ≠ "java/lang/invoke/VarHandle" ∧ (parseMethodDescriptor yX3_begin.desc).map (fun d => d.parameters.length) = some 3 := by decide +kernel
def w3_begin (σ : St) (x1 : Int32) (x2 : Int32) (x3 : Int32) (Q : St → Prop) : Prop := ∀ σ1, σ1 = up3 σ 3 0 1 x1 → (∀ σ2, σ2 = up3 σ1 3 0 2 ((-1) <<< ((32 - x2) &&& 31)) → (∀ σ3, σ3 = up3 σ2 3 0 3 x3 → (∀ σ4, σ4 = up3 σ3 3 0 7 0 → (∀ σ5, σ5 = up3 σ4 3 0 9 0 → (Q σ5)))))
set_option maxHeartbeats 4000000 in
theorem m3_begin (l : Launch) (G : Gh) (a1 : Nat → Nat → Nat) (τ : St) (σ : St) (x1 : Int32) (x2 : Int32) (x3 : Int32) (Q : St → Prop) (hw : w3_begin σ x1 x2 x3 Q) : Met l yX3_begin (ws_ yX3_begin cX3_begin 4 none) rmX3_begin (PcS G a1 (cmb σ τ) [.ref (ga G 3 0), .int x1, .int x2, .int x3]) (QVs G a1 (fun u => cmb u τ) Q) 0 0 (gA G) := by
  refine met_w (by decide) (Nat.le_of_ble_eq_true rfl) ?_
  intro p e s m below meth c ls C hH hS hl
  have C : Cx p e s m _ meth c cX3_begin 4 none "WebHost$Hops" G := C
  have hl : lv_has ls 4 [(0, .ref (ga G 3 0)), (1, .int x1), (2, .int x2), (3, .int x3)] := hl
  have hx := C.1
  have hb := C.2.1
  have hown := C.2.2.2.2.2.1
  have hts := C.2.2.2.2.2.2.1
  obtain ⟨locs, hlocs⟩ : ∃ z : List Loc, z = [] := ⟨_, rfl⟩
  obtain ⟨H, hHe⟩ : ∃ z : Heap, z = s.heap := ⟨_, rfl⟩
  have hH : Hd G a1 (cmb σ τ) H := by rw [hHe]; exact hH
  have hS : va_S (gA G) s.heap H locs := by rw [hHe, hlocs]; exact hS
  refine W.heap0 hHe.symm hlocs.symm ?_
  refine lv_aload_n hx hb dX3_begin_0 rfl (lv_at hl 0 rfl) ?_
  refine lv_iload_n hx hb dX3_begin_1 rfl (lv_at hl 1 rfl) ?_
  refine p3_1 C hH hS q280 dX3_begin_2 (fun σ1 e1 H locs hH hS => ?_)
  have hw := hw σ1 e1
  refine lv_aload_n hx hb dX3_begin_5 rfl (lv_at hl 0 rfl) ?_
  refine lv_iconst (v := (-1)) hx hb dX3_begin_6 (by decide) ?_
  refine lv_bipush (v := 32) hx hb dX3_begin_7 (by decide) ?_
  refine lv_iload_n hx hb dX3_begin_9 rfl (lv_at hl 2 rfl) ?_
  refine lv_isub hx hb dX3_begin_10 ?_
  refine lv_ishl hx hb dX3_begin_11 ?_
  refine p3_2 C hH hS q281 dX3_begin_12 (fun σ2 e2 H locs hH hS => ?_)
  have hw := hw σ2 e2
  refine lv_aload_n hx hb dX3_begin_15 rfl (lv_at hl 0 rfl) ?_
  refine lv_iload_n hx hb dX3_begin_16 rfl (lv_at hl 3 rfl) ?_
  refine p3_3 C hH hS q282 dX3_begin_17 (fun σ3 e3 H locs hH hS => ?_)
  have hw := hw σ3 e3
  refine lv_aload_n hx hb dX3_begin_20 rfl (lv_at hl 0 rfl) ?_
  refine lv_iconst (v := 0) hx hb dX3_begin_21 (by decide) ?_
  refine p3_7 C hH hS q286 dX3_begin_22 (fun σ4 e4 H locs hH hS => ?_)
  have hw := hw σ4 e4
  refine lv_aload_n hx hb dX3_begin_25 rfl (lv_at hl 0 rfl) ?_
  refine lv_iconst (v := 0) hx hb dX3_begin_26 (by decide) ?_
  refine p3_9 C hH hS q288 dX3_begin_27 (fun σ5 e5 H locs hH hS => ?_)
  have hw := hw σ5 e5
  exact rt_v C hH hS hw dX3_begin_30
/-! WebHost$Hops.find(I)I -/
abbrev cX3_find : ByteArray := prog_6_method_3_code
def yX3_find : MethodName := ⟨RX3, "find", "(I)I"⟩
theorem dX3_find_0 : decode cX3_find 0 = .ok (.iconst 0, 1) := by decide +kernel
theorem dX3_find_1 : decode cX3_find 1 = .ok (.istore_n 2, 1) := by decide +kernel
theorem dX3_find_2 : decode cX3_find 2 = .ok (.iload_n 2, 1) := by decide +kernel
theorem dX3_find_3 : decode cX3_find 3 = .ok (.aload_n 0, 1) := by decide +kernel
theorem dX3_find_4 : decode cX3_find 4 = .ok (.getfield 50, 3) := by decide +kernel
theorem dX3_find_7 : decode cX3_find 7 = .ok (.if_icmp .ge 21, 3) := by decide +kernel
theorem dX3_find_10 : decode cX3_find 10 = .ok (.aload_n 0, 1) := by decide +kernel
theorem dX3_find_11 : decode cX3_find 11 = .ok (.getfield 9, 3) := by decide +kernel
theorem dX3_find_14 : decode cX3_find 14 = .ok (.iload_n 2, 1) := by decide +kernel
theorem dX3_find_15 : decode cX3_find 15 = .ok (.iaload, 1) := by decide +kernel
theorem dX3_find_16 : decode cX3_find 16 = .ok (.iload_n 1, 1) := by decide +kernel
theorem dX3_find_17 : decode cX3_find 17 = .ok (.if_icmp .ne 5, 3) := by decide +kernel
theorem dX3_find_20 : decode cX3_find 20 = .ok (.iload_n 2, 1) := by decide +kernel
theorem dX3_find_21 : decode cX3_find 21 = .ok (.ireturn, 1) := by decide +kernel
theorem dX3_find_22 : decode cX3_find 22 = .ok (.iinc 2 1, 3) := by decide +kernel
theorem dX3_find_25 : decode cX3_find 25 = .ok (.goto (-23), 3) := by decide +kernel
theorem dX3_find_28 : decode cX3_find 28 = .ok (.iconst (-1), 1) := by decide +kernel
theorem dX3_find_29 : decode cX3_find 29 = .ok (.ireturn, 1) := by decide +kernel
def rmX3_find : Room := { frames := 0, cells := 0, slots := 0, locals := 0 }
theorem kX3_find : yX3_find.cls = "WebHost$Hops" ∧ yX3_find.cls ≠ "java/lang/invoke/MethodHandle" ∧ yX3_find.cls ≠ "java/lang/invoke/VarHandle" ∧ (parseMethodDescriptor yX3_find.desc).map (fun d => d.parameters.length) = some 1 := by decide +kernel
def w3_find_L2 (σ : St) (x1 : Int32) (Q : Int32 → Prop) (K20 : Int32 → Prop) (K28 : Prop) : Nat → Int32 → Prop
  | 0, _ => False
  | n + 1, x2 => ((σ 3 0 7) ≤ x2 → K28) ∧ (¬ (σ 3 0 7) ≤ x2 → (vp_in x2 16 ∧ ((¬ (σ 28 0 x2.toNatClampNeg) = x1 → (w3_find_L2 σ x1 Q K20 K28 n (x2 + 1))) ∧ ((σ 28 0 x2.toNatClampNeg) = x1 → K20 x2))))
set_option maxHeartbeats 4000000 in
theorem k3_find_L2 {p : Program} {l : Launch} {e : Env} {s : State} {m : MethodId} {args : Array Value} {below : List Frame} {meth : Method} {c : Code} {G : Gh} {a1 : Nat → Nat → Nat} {τ : St} {H : Heap} {Q : Int32 → Prop} {K20 : Int32 → Prop} {K28 : Prop} (C : Cx p e s m args meth c cX3_find 3 (some .int) "WebHost$Hops" G) (σ : St) (x1 : Int32) (hH : Hd G a1 (cmb σ τ) H) :
    ∀ (n : Nat) (x2 : Int32), w3_find_L2 σ x1 Q K20 K28 n x2 → ∀ (locs : List Loc) (ls : Array Slot), va_S (gA G) s.heap H locs → lv_has ls 3 [(0, .ref (ga G 3 0)), (1, .int x1), (2, .int x2)] → (∀ (x2 : Int32), K20 x2 → ∀ (locs : List Loc) (ls : Array Slot), va_S (gA G) s.heap H locs → lv_has ls 3 [(2, .int x2)] → W p l e rmX3_find s m args below meth c H locs 0 0 (MQ below (QIp G H Q) args s 0 0 (gA G)) (F0 m 20 ls [])) → (K28 → ∀ (locs : List Loc) (ls : Array Slot), va_S (gA G) s.heap H locs → lv_has ls 3 [] → W p l e rmX3_find s m args below meth c H locs 0 0 (MQ below (QIp G H Q) args s 0 0 (gA G)) (F0 m 28 ls [])) → W p l e rmX3_find s m args below meth c H locs 0 0 (MQ below (QIp G H Q) args s 0 0 (gA G)) (F0 m 2 ls []) := by
  have hx := C.1
  have hb := C.2.1
  have hown := C.2.2.2.2.2.1
  have hts := C.2.2.2.2.2.2.1
  intro n
  induction n with
  | zero =>
    intro x2 hw
    exact False.elim hw
  | succ n ih =>
    intro x2 hw locs ls hS hl hK20 hK28
    refine lv_iload_n hx hb dX3_find_2 rfl (lv_at hl 2 rfl) ?_
    refine lv_aload_n hx hb dX3_find_3 rfl (lv_at hl 0 rfl) ?_
    refine g3_7 C hH q286 dX3_find_4 ?_
    refine lv_icmp_ge (tgt := 28) hx hb dX3_find_7 (by decide) (fun h => ?_) (fun h => ?_)
    · have hw := hw.1 h
      exact hK28 hw locs ls hS (lv_sub hl [] rfl)
    have hw := hw.2 h
    refine lv_aload_n hx hb dX3_find_10 rfl (lv_at hl 0 rfl) ?_
    refine g3_4 C hH q283 dX3_find_11 ?_
    refine lv_iload_n hx hb dX3_find_14 rfl (lv_at hl 2 rfl) ?_
    refine l28 C hH hw.1 dX3_find_15 ?_
    have hw := hw.2
    refine lv_iload_n hx hb dX3_find_16 rfl (lv_at hl 1 rfl) ?_
    refine lv_icmp_ne (tgt := 22) hx hb dX3_find_17 (by decide) (fun h => ?_) (fun h => ?_)
    · have hw := hw.1 h
      refine lv_iinc (v := x2 + 1) (lv' := [(2, .int (x2 + 1)), (0, .ref (ga G 3 0)), (1, .int x1)]) hx hb dX3_find_22 hl (k := 2) rfl rfl (by decide) rfl (fun ls hl => ?_)
      refine lv_goto (tgt := 2) hx hb dX3_find_25 (by decide) ?_
      exact ih (x2 + 1) hw locs ls hS (lv_sub hl [1, 2, 0] rfl) hK20 hK28
    have hw := hw.2 h
    exact hK20 x2 hw locs ls hS (lv_sub hl [2] rfl)
def w3_find (σ : St) (x1 : Int32) (Q : Int32 → Prop) : Prop := ∃ z1, w3_find_L2 σ x1 Q (fun x2_2 => Q x2_2) (Q (-1)) z1 0
set_option maxHeartbeats 4000000 in
theorem m3_find (l : Launch) (G : Gh) (a1 : Nat → Nat → Nat) (τ : St) (σ : St) (H : Heap) (x1 : Int32) (Q : Int32 → Prop) (hw : w3_find σ x1 Q) : Met l yX3_find (ws_ yX3_find cX3_find 3 (some .int)) rmX3_find (PcP G a1 (cmb σ τ) H [.ref (ga G 3 0), .int x1]) (QIp G H Q) 0 0 (gA G) := by
  refine met_p (by decide) (Nat.le_of_ble_eq_true rfl) ?_
  intro p e s m below meth c ls hHe C hH hS hl
  have C : Cx p e s m _ meth c cX3_find 3 (some .int) "WebHost$Hops" G := C
  have hl : lv_has ls 3 [(0, .ref (ga G 3 0)), (1, .int x1)] := hl
  have hx := C.1
  have hb := C.2.1
  have hown := C.2.2.2.2.2.1
  have hts := C.2.2.2.2.2.2.1
  obtain ⟨locs, hlocs⟩ : ∃ z : List Loc, z = [] := ⟨_, rfl⟩
  rw [← hlocs] at hS ⊢
  refine lv_iconst (v := 0) hx hb dX3_find_0 (by decide) ?_
  refine lv_istore_n (lv' := [(2, .int 0), (0, .ref (ga G 3 0)), (1, .int x1)]) hx hb dX3_find_1 rfl hl (by decide) rfl (fun ls hl => ?_)
  obtain ⟨n1, hw⟩ := hw
  refine k3_find_L2 C σ x1 hH n1 0 hw locs ls hS (lv_sub hl [1, 2, 0] rfl) (fun x2_2 hw locs ls hS hl => ?_) (fun hw locs ls hS hl => ?_)
  · refine lv_iload_n hx hb dX3_find_20 rfl (lv_at hl 0 rfl) ?_
    exact rt_ip C rfl hS hw dX3_find_21
  refine lv_iconst (v := (-1)) hx hb dX3_find_28 (by decide) ?_
  exact rt_ip C rfl hS hw dX3_find_29
/-! WebHost$Hops.oldest()I -/
abbrev cX3_oldest : ByteArray := prog_6_method_7_code
def yX3_oldest : MethodName := ⟨RX3, "oldest", "()I"⟩
theorem dX3_oldest_0 : decode cX3_oldest 0 = .ok (.iconst 0, 1) := by decide +kernel
theorem dX3_oldest_1 : decode cX3_oldest 1 = .ok (.istore_n 1, 1) := by decide +kernel
theorem dX3_oldest_2 : decode cX3_oldest 2 = .ok (.iconst 1, 1) := by decide +kernel
theorem dX3_oldest_3 : decode cX3_oldest 3 = .ok (.istore_n 2, 1) := by decide +kernel
theorem dX3_oldest_4 : decode cX3_oldest 4 = .ok (.iload_n 2, 1) := by decide +kernel
theorem dX3_oldest_5 : decode cX3_oldest 5 = .ok (.aload_n 0, 1) := by decide +kernel
theorem dX3_oldest_6 : decode cX3_oldest 6 = .ok (.getfield 50, 3) := by decide +kernel
theorem dX3_oldest_9 : decode cX3_oldest 9 = .ok (.if_icmp .ge 26, 3) := by decide +kernel
theorem dX3_oldest_12 : decode cX3_oldest 12 = .ok (.aload_n 0, 1) := by decide +kernel
theorem dX3_oldest_13 : decode cX3_oldest 13 = .ok (.getfield 13, 3) := by decide +kernel
theorem dX3_oldest_16 : decode cX3_oldest 16 = .ok (.iload_n 2, 1) := by decide +kernel
theorem dX3_oldest_17 : decode cX3_oldest 17 = .ok (.iaload, 1) := by decide +kernel
theorem dX3_oldest_18 : decode cX3_oldest 18 = .ok (.aload_n 0, 1) := by decide +kernel
theorem dX3_oldest_19 : decode cX3_oldest 19 = .ok (.getfield 13, 3) := by decide +kernel
theorem dX3_oldest_22 : decode cX3_oldest 22 = .ok (.iload_n 1, 1) := by decide +kernel
theorem dX3_oldest_23 : decode cX3_oldest 23 = .ok (.iaload, 1) := by decide +kernel
theorem dX3_oldest_24 : decode cX3_oldest 24 = .ok (.if_icmp .ge 5, 3) := by decide +kernel
theorem dX3_oldest_27 : decode cX3_oldest 27 = .ok (.iload_n 2, 1) := by decide +kernel
theorem dX3_oldest_28 : decode cX3_oldest 28 = .ok (.istore_n 1, 1) := by decide +kernel
theorem dX3_oldest_29 : decode cX3_oldest 29 = .ok (.iinc 2 1, 3) := by decide +kernel
theorem dX3_oldest_32 : decode cX3_oldest 32 = .ok (.goto (-28), 3) := by decide +kernel
theorem dX3_oldest_35 : decode cX3_oldest 35 = .ok (.iload_n 1, 1) := by decide +kernel
theorem dX3_oldest_36 : decode cX3_oldest 36 = .ok (.ireturn, 1) := by decide +kernel
def rmX3_oldest : Room := { frames := 0, cells := 0, slots := 0, locals := 0 }
theorem kX3_oldest : yX3_oldest.cls = "WebHost$Hops" ∧ yX3_oldest.cls ≠ "java/lang/invoke/MethodHandle" ∧ yX3_oldest.cls ≠ "java/lang/invoke/VarHandle" ∧ (parseMethodDescriptor yX3_oldest.desc).map (fun d => d.parameters.length) = some 0 := by decide +kernel
def w3_oldest_L4 (σ : St) (Q : Int32 → Prop) (K35 : Int32 → Prop) : Nat → Int32 → Int32 → Prop
  | 0, _, _ => False
  | n + 1, x1, x2 => ((σ 3 0 7) ≤ x2 → K35 x1) ∧ (¬ (σ 3 0 7) ≤ x2 → (vp_in x2 16 ∧ (vp_in x1 16 ∧ (((σ 29 0 x1.toNatClampNeg) ≤ (σ 29 0 x2.toNatClampNeg) → (w3_oldest_L4 σ Q K35 n x1 (x2 + 1))) ∧ (¬ (σ 29 0 x1.toNatClampNeg) ≤ (σ 29 0 x2.toNatClampNeg) → (w3_oldest_L4 σ Q K35 n x2 (x2 + 1)))))))
set_option maxHeartbeats 4000000 in
theorem k3_oldest_L4 {p : Program} {l : Launch} {e : Env} {s : State} {m : MethodId} {args : Array Value} {below : List Frame} {meth : Method} {c : Code} {G : Gh} {a1 : Nat → Nat → Nat} {τ : St} {H : Heap} {Q : Int32 → Prop} {K35 : Int32 → Prop} (C : Cx p e s m args meth c cX3_oldest 3 (some .int) "WebHost$Hops" G) (σ : St) (hH : Hd G a1 (cmb σ τ) H) :
    ∀ (n : Nat) (x1 : Int32) (x2 : Int32), w3_oldest_L4 σ Q K35 n x1 x2 → ∀ (locs : List Loc) (ls : Array Slot), va_S (gA G) s.heap H locs → lv_has ls 3 [(0, .ref (ga G 3 0)), (1, .int x1), (2, .int x2)] → (∀ (x1 : Int32), K35 x1 → ∀ (locs : List Loc) (ls : Array Slot), va_S (gA G) s.heap H locs → lv_has ls 3 [(1, .int x1)] → W p l e rmX3_oldest s m args below meth c H locs 0 0 (MQ below (QIp G H Q) args s 0 0 (gA G)) (F0 m 35 ls [])) → W p l e rmX3_oldest s m args below meth c H locs 0 0 (MQ below (QIp G H Q) args s 0 0 (gA G)) (F0 m 4 ls []) := by
  have hx := C.1
  have hb := C.2.1
  have hown := C.2.2.2.2.2.1
  have hts := C.2.2.2.2.2.2.1
  intro n
  induction n with
  | zero =>
    intro x1 x2 hw
    exact False.elim hw
  | succ n ih =>
    intro x1 x2 hw locs ls hS hl hK35
    refine lv_iload_n hx hb dX3_oldest_4 rfl (lv_at hl 2 rfl) ?_
    refine lv_aload_n hx hb dX3_oldest_5 rfl (lv_at hl 0 rfl) ?_
    refine g3_7 C hH q286 dX3_oldest_6 ?_
    refine lv_icmp_ge (tgt := 35) hx hb dX3_oldest_9 (by decide) (fun h => ?_) (fun h => ?_)
    · have hw := hw.1 h
      exact hK35 x1 hw locs ls hS (lv_sub hl [1] rfl)
    have hw := hw.2 h
    refine lv_aload_n hx hb dX3_oldest_12 rfl (lv_at hl 0 rfl) ?_
    refine g3_5 C hH q284 dX3_oldest_13 ?_
    refine lv_iload_n hx hb dX3_oldest_16 rfl (lv_at hl 2 rfl) ?_
    refine l29 C hH hw.1 dX3_oldest_17 ?_
    have hw := hw.2
    refine lv_aload_n hx hb dX3_oldest_18 rfl (lv_at hl 0 rfl) ?_
    refine g3_5 C hH q284 dX3_oldest_19 ?_
    refine lv_iload_n hx hb dX3_oldest_22 rfl (lv_at hl 1 rfl) ?_
    refine l29 C hH hw.1 dX3_oldest_23 ?_
    have hw := hw.2
    refine lv_icmp_ge (tgt := 29) hx hb dX3_oldest_24 (by decide) (fun h => ?_) (fun h => ?_)
    · have hw := hw.1 h
      refine lv_iinc (v := x2 + 1) (lv' := [(2, .int (x2 + 1)), (0, .ref (ga G 3 0)), (1, .int x1)]) hx hb dX3_oldest_29 hl (k := 2) rfl rfl (by decide) rfl (fun ls hl => ?_)
      refine lv_goto (tgt := 4) hx hb dX3_oldest_32 (by decide) ?_
      exact ih x1 (x2 + 1) hw locs ls hS (lv_sub hl [1, 2, 0] rfl) hK35
    have hw := hw.2 h
    refine lv_iload_n hx hb dX3_oldest_27 rfl (lv_at hl 2 rfl) ?_
    refine lv_istore_n (lv' := [(1, .int x2), (0, .ref (ga G 3 0)), (2, .int x2)]) hx hb dX3_oldest_28 rfl hl (by decide) rfl (fun ls hl => ?_)
    refine lv_iinc (v := x2 + 1) (lv' := [(2, .int (x2 + 1)), (1, .int x2), (0, .ref (ga G 3 0))]) hx hb dX3_oldest_29 hl (k := 2) rfl rfl (by decide) rfl (fun ls hl => ?_)
    refine lv_goto (tgt := 4) hx hb dX3_oldest_32 (by decide) ?_
    exact ih x2 (x2 + 1) hw locs ls hS (lv_sub hl [2, 1, 0] rfl) hK35
def w3_oldest (σ : St) (Q : Int32 → Prop) : Prop := ∃ z1, w3_oldest_L4 σ Q (fun x1_2 => Q x1_2) z1 0 1
set_option maxHeartbeats 4000000 in
theorem m3_oldest (l : Launch) (G : Gh) (a1 : Nat → Nat → Nat) (τ : St) (σ : St) (H : Heap) (Q : Int32 → Prop) (hw : w3_oldest σ Q) : Met l yX3_oldest (ws_ yX3_oldest cX3_oldest 3 (some .int)) rmX3_oldest (PcP G a1 (cmb σ τ) H [.ref (ga G 3 0)]) (QIp G H Q) 0 0 (gA G) := by
  refine met_p (by decide) (Nat.le_of_ble_eq_true rfl) ?_
  intro p e s m below meth c ls hHe C hH hS hl
  have C : Cx p e s m _ meth c cX3_oldest 3 (some .int) "WebHost$Hops" G := C
  have hl : lv_has ls 3 [(0, .ref (ga G 3 0))] := hl
  have hx := C.1
  have hb := C.2.1
  have hown := C.2.2.2.2.2.1
  have hts := C.2.2.2.2.2.2.1
  obtain ⟨locs, hlocs⟩ : ∃ z : List Loc, z = [] := ⟨_, rfl⟩
  rw [← hlocs] at hS ⊢
  refine lv_iconst (v := 0) hx hb dX3_oldest_0 (by decide) ?_
  refine lv_istore_n (lv' := [(1, .int 0), (0, .ref (ga G 3 0))]) hx hb dX3_oldest_1 rfl hl (by decide) rfl (fun ls hl => ?_)
  refine lv_iconst (v := 1) hx hb dX3_oldest_2 (by decide) ?_
  refine lv_istore_n (lv' := [(2, .int 1), (1, .int 0), (0, .ref (ga G 3 0))]) hx hb dX3_oldest_3 rfl hl (by decide) rfl (fun ls hl => ?_)
  obtain ⟨n1, hw⟩ := hw
  refine k3_oldest_L4 C σ hH n1 0 1 hw locs ls hS (lv_sub hl [2, 1, 0] rfl) (fun x1_2 hw locs ls hS hl => ?_)
  refine lv_iload_n hx hb dX3_oldest_35 rfl (lv_at hl 0 rfl) ?_
  exact rt_ip C rfl hS hw dX3_oldest_36
/-! WebHost$Hops.remove(I)V -/
abbrev cX3_remove : ByteArray := prog_6_method_9_code
def yX3_remove : MethodName := ⟨RX3, "remove", "(I)V"⟩
theorem dX3_remove_0 : decode cX3_remove 0 = .ok (.aload_n 0, 1) := by decide +kernel
theorem dX3_remove_1 : decode cX3_remove 1 = .ok (.getfield 22, 3) := by decide +kernel
theorem dX3_remove_4 : decode cX3_remove 4 = .ok (.iload_n 1, 1) := by decide +kernel
theorem dX3_remove_5 : decode cX3_remove 5 = .ok (.aaload, 1) := by decide +kernel
theorem dX3_remove_6 : decode cX3_remove 6 = .ok (.astore_n 2, 1) := by decide +kernel
theorem dX3_remove_7 : decode cX3_remove 7 = .ok (.iload_n 1, 1) := by decide +kernel
theorem dX3_remove_8 : decode cX3_remove 8 = .ok (.istore_n 3, 1) := by decide +kernel
theorem dX3_remove_9 : decode cX3_remove 9 = .ok (.iload_n 3, 1) := by decide +kernel
theorem dX3_remove_10 : decode cX3_remove 10 = .ok (.iconst 1, 1) := by decide +kernel
theorem dX3_remove_11 : decode cX3_remove 11 = .ok (.iadd, 1) := by decide +kernel
theorem dX3_remove_12 : decode cX3_remove 12 = .ok (.aload_n 0, 1) := by decide +kernel
theorem dX3_remove_13 : decode cX3_remove 13 = .ok (.getfield 53, 3) := by decide +kernel
theorem dX3_remove_16 : decode cX3_remove 16 = .ok (.if_icmp .ge 23, 3) := by decide +kernel
theorem dX3_remove_19 : decode cX3_remove 19 = .ok (.aload_n 0, 1) := by decide +kernel
theorem dX3_remove_20 : decode cX3_remove 20 = .ok (.getfield 22, 3) := by decide +kernel
theorem dX3_remove_23 : decode cX3_remove 23 = .ok (.iload_n 3, 1) := by decide +kernel
theorem dX3_remove_24 : decode cX3_remove 24 = .ok (.aload_n 0, 1) := by decide +kernel
theorem dX3_remove_25 : decode cX3_remove 25 = .ok (.getfield 22, 3) := by decide +kernel
theorem dX3_remove_28 : decode cX3_remove 28 = .ok (.iload_n 3, 1) := by decide +kernel
theorem dX3_remove_29 : decode cX3_remove 29 = .ok (.iconst 1, 1) := by decide +kernel
theorem dX3_remove_30 : decode cX3_remove 30 = .ok (.iadd, 1) := by decide +kernel
theorem dX3_remove_31 : decode cX3_remove 31 = .ok (.aaload, 1) := by decide +kernel
theorem dX3_remove_32 : decode cX3_remove 32 = .ok (.aastore, 1) := by decide +kernel
theorem dX3_remove_33 : decode cX3_remove 33 = .ok (.iinc 3 1, 3) := by decide +kernel
theorem dX3_remove_36 : decode cX3_remove 36 = .ok (.goto (-27), 3) := by decide +kernel
theorem dX3_remove_39 : decode cX3_remove 39 = .ok (.aload_n 0, 1) := by decide +kernel
theorem dX3_remove_40 : decode cX3_remove 40 = .ok (.dup, 1) := by decide +kernel
theorem dX3_remove_41 : decode cX3_remove 41 = .ok (.getfield 53, 3) := by decide +kernel
theorem dX3_remove_44 : decode cX3_remove 44 = .ok (.iconst 1, 1) := by decide +kernel
theorem dX3_remove_45 : decode cX3_remove 45 = .ok (.isub, 1) := by decide +kernel
theorem dX3_remove_46 : decode cX3_remove 46 = .ok (.putfield 53, 3) := by decide +kernel
theorem dX3_remove_49 : decode cX3_remove 49 = .ok (.aload_n 0, 1) := by decide +kernel
theorem dX3_remove_50 : decode cX3_remove 50 = .ok (.getfield 22, 3) := by decide +kernel
theorem dX3_remove_53 : decode cX3_remove 53 = .ok (.aload_n 0, 1) := by decide +kernel
theorem dX3_remove_54 : decode cX3_remove 54 = .ok (.getfield 53, 3) := by decide +kernel
theorem dX3_remove_57 : decode cX3_remove 57 = .ok (.aload_n 2, 1) := by decide +kernel
theorem dX3_remove_58 : decode cX3_remove 58 = .ok (.aastore, 1) := by decide +kernel
theorem dX3_remove_59 : decode cX3_remove 59 = .ok (.return_, 1) := by decide +kernel
def rmX3_remove : Room := { frames := 0, cells := 0, slots := 0, locals := 0 }
theorem kX3_remove : yX3_remove.cls = "WebHost$Hops" ∧ yX3_remove.cls ≠ "java/lang/invoke/MethodHandle" ∧ yX3_remove.cls ≠ "java/lang/invoke/VarHandle" ∧ (parseMethodDescriptor yX3_remove.desc).map (fun d => d.parameters.length) = some 1 := by decide +kernel
def w3_remove_L9 (o2 : Nat) (Q : St → Prop) (K39 : St → Prop) : Nat → St → Int32 → Prop
  | 0, _, _ => False
  | n + 1, σ, x3 => ((σ 3 0 9) ≤ (x3 + 1) → K39 σ) ∧ (¬ (σ 3 0 9) ≤ (x3 + 1) → (vp_in (x3 + 1) 8 ∧ ((σ 31 0 (x3 + 1).toNatClampNeg).toNatClampNeg < 8 ∧ (vp_in x3 8 ∧ (∀ σ3, σ3 = up3 σ 31 0 x3.toNatClampNeg (nI ((σ 31 0 (x3 + 1).toNatClampNeg).toNatClampNeg)) → (w3_remove_L9 o2 Q K39 n σ3 (x3 + 1)))))))
set_option maxHeartbeats 4000000 in
theorem k3_remove_L9 {p : Program} {l : Launch} {e : Env} {s : State} {m : MethodId} {args : Array Value} {below : List Frame} {meth : Method} {c : Code} {G : Gh} {a1 : Nat → Nat → Nat} {τ : St} {Q : St → Prop} {K39 : St → Prop} (C : Cx p e s m args meth c cX3_remove 4 none "WebHost$Hops" G) (o2 : Nat) (ho2 : o2 < 8) :
    ∀ (n : Nat) (σ : St) (x3 : Int32), w3_remove_L9 o2 Q K39 n σ x3 → ∀ (H : Heap) (locs : List Loc) (ls : Array Slot), Hd G a1 (cmb σ τ) H → va_S (gA G) s.heap H locs → lv_has ls 4 [(0, .ref (ga G 3 0)), (2, .ref (ga G 4 o2)), (3, .int x3)] → (∀ (σ : St) , K39 σ → ∀ (H : Heap) (locs : List Loc) (ls : Array Slot), Hd G a1 (cmb σ τ) H → va_S (gA G) s.heap H locs → lv_has ls 4 [(0, .ref (ga G 3 0)), (2, .ref (ga G 4 o2))] → W p l e rmX3_remove s m args below meth c H locs 0 0 (MQ below (QVs G a1 (fun u => cmb u τ) Q) args s 0 0 (gA G)) (F0 m 39 ls [])) → W p l e rmX3_remove s m args below meth c H locs 0 0 (MQ below (QVs G a1 (fun u => cmb u τ) Q) args s 0 0 (gA G)) (F0 m 9 ls []) := by
  have hx := C.1
  have hb := C.2.1
  have hown := C.2.2.2.2.2.1
  have hts := C.2.2.2.2.2.2.1
  intro n
  induction n with
  | zero =>
    intro σ x3 hw
    exact False.elim hw
  | succ n ih =>
    intro σ x3 hw H locs ls hH hS hl hK39
    refine lv_iload_n hx hb dX3_remove_9 rfl (lv_at hl 2 rfl) ?_
    refine lv_iconst (v := 1) hx hb dX3_remove_10 (by decide) ?_
    refine lv_iadd hx hb dX3_remove_11 ?_
    refine lv_aload_n hx hb dX3_remove_12 rfl (lv_at hl 0 rfl) ?_
    refine g3_9 C hH q288 dX3_remove_13 ?_
    refine lv_icmp_ge (tgt := 39) hx hb dX3_remove_16 (by decide) (fun h => ?_) (fun h => ?_)
    · have hw := hw.1 h
      exact hK39 σ hw H locs ls hH hS (lv_sub hl [0, 1] rfl)
    have hw := hw.2 h
    refine lv_aload_n hx hb dX3_remove_19 rfl (lv_at hl 0 rfl) ?_
    refine g3_8 C hH q287 dX3_remove_20 ?_
    refine lv_iload_n hx hb dX3_remove_23 rfl (lv_at hl 2 rfl) ?_
    refine lv_aload_n hx hb dX3_remove_24 rfl (lv_at hl 0 rfl) ?_
    refine g3_8 C hH q287 dX3_remove_25 ?_
    refine lv_iload_n hx hb dX3_remove_28 rfl (lv_at hl 2 rfl) ?_
    refine lv_iconst (v := 1) hx hb dX3_remove_29 (by decide) ?_
    refine lv_iadd hx hb dX3_remove_30 ?_
    refine l31 C hH hw.1 dX3_remove_31 ?_
    obtain ⟨hq2, hw⟩ := hw.2
    refine s31 C hH hS hq2 hw.1 dX3_remove_32 (fun σ3 e3 H locs hH hS => ?_)
    have hw := hw.2 σ3 e3
    refine lv_iinc (v := x3 + 1) (lv' := [(3, .int (x3 + 1)), (0, .ref (ga G 3 0)), (2, .ref (ga G 4 o2))]) hx hb dX3_remove_33 hl (k := 2) rfl rfl (by decide) rfl (fun ls hl => ?_)
    refine lv_goto (tgt := 9) hx hb dX3_remove_36 (by decide) ?_
    exact ih σ3 (x3 + 1) hw H locs ls hH hS (lv_sub hl [1, 2, 0] rfl) hK39
def w3_remove (σ : St) (x1 : Int32) (Q : St → Prop) : Prop := vp_in x1 8 ∧ ((σ 31 0 x1.toNatClampNeg).toNatClampNeg < 8 ∧ (∃ z4, w3_remove_L9 ((σ 31 0 x1.toNatClampNeg).toNatClampNeg) Q (fun σ5 => ∀ σ6, σ6 = up3 σ5 3 0 9 ((σ5 3 0 9) - 1) → (vp_in (σ6 3 0 9) 8 ∧ (∀ σ7, σ7 = up3 σ6 31 0 (σ6 3 0 9).toNatClampNeg (nI ((σ 31 0 x1.toNatClampNeg).toNatClampNeg)) → (Q σ7)))) z4 σ x1))
set_option maxHeartbeats 4000000 in
theorem m3_remove (l : Launch) (G : Gh) (a1 : Nat → Nat → Nat) (τ : St) (σ : St) (x1 : Int32) (Q : St → Prop) (hw : w3_remove σ x1 Q) : Met l yX3_remove (ws_ yX3_remove cX3_remove 4 none) rmX3_remove (PcS G a1 (cmb σ τ) [.ref (ga G 3 0), .int x1]) (QVs G a1 (fun u => cmb u τ) Q) 0 0 (gA G) := by
  refine met_w (by decide) (Nat.le_of_ble_eq_true rfl) ?_
  intro p e s m below meth c ls C hH hS hl
  have C : Cx p e s m _ meth c cX3_remove 4 none "WebHost$Hops" G := C
  have hl : lv_has ls 4 [(0, .ref (ga G 3 0)), (1, .int x1)] := hl
  have hx := C.1
  have hb := C.2.1
  have hown := C.2.2.2.2.2.1
  have hts := C.2.2.2.2.2.2.1
  obtain ⟨locs, hlocs⟩ : ∃ z : List Loc, z = [] := ⟨_, rfl⟩
  obtain ⟨H, hHe⟩ : ∃ z : Heap, z = s.heap := ⟨_, rfl⟩
  have hH : Hd G a1 (cmb σ τ) H := by rw [hHe]; exact hH
  have hS : va_S (gA G) s.heap H locs := by rw [hHe, hlocs]; exact hS
  refine W.heap0 hHe.symm hlocs.symm ?_
  refine lv_aload_n hx hb dX3_remove_0 rfl (lv_at hl 0 rfl) ?_
  refine g3_8 C hH q287 dX3_remove_1 ?_
  refine lv_iload_n hx hb dX3_remove_4 rfl (lv_at hl 1 rfl) ?_
  refine l31 C hH hw.1 dX3_remove_5 ?_
  obtain ⟨hq1, hw⟩ := hw.2
  refine lv_astore_n (lv' := [(2, .ref (ga G 4 ((σ 31 0 x1.toNatClampNeg).toNatClampNeg))), (0, .ref (ga G 3 0)), (1, .int x1)]) hx hb dX3_remove_6 rfl hl (by decide) rfl (fun ls hl => ?_)
  refine lv_iload_n hx hb dX3_remove_7 rfl (lv_at hl 2 rfl) ?_
  refine lv_istore_n (lv' := [(3, .int x1), (2, .ref (ga G 4 ((σ 31 0 x1.toNatClampNeg).toNatClampNeg))), (0, .ref (ga G 3 0)), (1, .int x1)]) hx hb dX3_remove_8 rfl hl (by decide) rfl (fun ls hl => ?_)
  obtain ⟨n4, hw⟩ := hw
  refine k3_remove_L9 C ((σ 31 0 x1.toNatClampNeg).toNatClampNeg) hq1 n4 σ x1 hw H locs ls hH hS (lv_sub hl [2, 1, 0] rfl) (fun σ5 hw H locs ls hH hS hl => ?_)
  refine lv_aload_n hx hb dX3_remove_39 rfl (lv_at hl 0 rfl) ?_
  refine lv_dup hx hb dX3_remove_40 rfl ?_
  refine g3_9 C hH q288 dX3_remove_41 ?_
  refine lv_iconst (v := 1) hx hb dX3_remove_44 (by decide) ?_
  refine lv_isub hx hb dX3_remove_45 ?_
  refine p3_9 C hH hS q288 dX3_remove_46 (fun σ6 e6 H locs hH hS => ?_)
  have hw := hw σ6 e6
  refine lv_aload_n hx hb dX3_remove_49 rfl (lv_at hl 0 rfl) ?_
  refine g3_8 C hH q287 dX3_remove_50 ?_
  refine lv_aload_n hx hb dX3_remove_53 rfl (lv_at hl 0 rfl) ?_
  refine g3_9 C hH q288 dX3_remove_54 ?_
  refine lv_aload_n hx hb dX3_remove_57 rfl (lv_at hl 1 rfl) ?_
  refine s31 C hH hS hq1 hw.1 dX3_remove_58 (fun σ7 e7 H locs hH hS => ?_)
  have hw := hw.2 σ7 e7
  exact rt_v C hH hS hw dX3_remove_59
/-! WebHost$Waiting.due()I -/
abbrev cX4_due : ByteArray := prog_14_method_2_code
def yX4_due : MethodName := ⟨RX4, "due", "()I"⟩
theorem dX4_due_0 : decode cX4_due 0 = .ok (.aload_n 0, 1) := by decide +kernel
theorem dX4_due_1 : decode cX4_due 1 = .ok (.getfield 15, 3) := by decide +kernel
theorem dX4_due_4 : decode cX4_due 4 = .ok (.sipush 1000, 3) := by decide +kernel
theorem dX4_due_7 : decode cX4_due 7 = .ok (.aload_n 0, 1) := by decide +kernel
theorem dX4_due_8 : decode cX4_due 8 = .ok (.getfield 19, 3) := by decide +kernel
theorem dX4_due_11 : decode cX4_due 11 = .ok (.imul, 1) := by decide +kernel
theorem dX4_due_12 : decode cX4_due 12 = .ok (.iadd, 1) := by decide +kernel
theorem dX4_due_13 : decode cX4_due 13 = .ok (.ireturn, 1) := by decide +kernel
def rmX4_due : Room := { frames := 0, cells := 0, slots := 0, locals := 0 }
theorem kX4_due : yX4_due.cls = "WebHost$Waiting" ∧ yX4_due.cls ≠ "java/lang/invoke/MethodHandle" ∧ yX4_due.cls ≠ "java/lang/invoke/VarHandle" ∧ (parseMethodDescriptor yX4_due.desc).map (fun d => d.parameters.length) = some 0 := by decide +kernel
def w4_due (σ : St) (o0 : Nat) (Q : Int32 → Prop) : Prop := Q ((σ 4 o0 1) + (1000 * (σ 4 o0 2)))
set_option maxHeartbeats 4000000 in
theorem m4_due (l : Launch) (G : Gh) (a1 : Nat → Nat → Nat) (τ : St) (σ : St) (H : Heap) (o0 : Nat) (ho0 : o0 < 8) (Q : Int32 → Prop) (hw : w4_due σ o0 Q) : Met l yX4_due (ws_ yX4_due cX4_due 1 (some .int)) rmX4_due (PcP G a1 (cmb σ τ) H [.ref (ga G 4 o0)]) (QIp G H Q) 0 0 (gA G) := by
  refine met_p (by decide) (Nat.le_of_ble_eq_true rfl) ?_
  intro p e s m below meth c ls hHe C hH hS hl
  have C : Cx p e s m _ meth c cX4_due 1 (some .int) "WebHost$Waiting" G := C
  have hl : lv_has ls 1 [(0, .ref (ga G 4 o0))] := hl
  have hx := C.1
  have hb := C.2.1
  have hown := C.2.2.2.2.2.1
  have hts := C.2.2.2.2.2.2.1
  obtain ⟨locs, hlocs⟩ : ∃ z : List Loc, z = [] := ⟨_, rfl⟩
  rw [← hlocs] at hS ⊢
  refine lv_aload_n hx hb dX4_due_0 rfl (lv_at hl 0 rfl) ?_
  refine g4_1 C hH ho0 q261 dX4_due_1 ?_
  refine lv_sipush (v := 1000) hx hb dX4_due_4 (by decide) ?_
  refine lv_aload_n hx hb dX4_due_7 rfl (lv_at hl 0 rfl) ?_
  refine g4_2 C hH ho0 q263 dX4_due_8 ?_
  refine lv_imul hx hb dX4_due_11 ?_
  refine lv_iadd hx hb dX4_due_12 ?_
  exact rt_ip C rfl hS hw dX4_due_13
/-! WebHost$Packets.begin(I)V -/
abbrev cX5_begin : ByteArray := prog_10_method_2_code
def yX5_begin : MethodName := ⟨RX5, "begin", "(I)V"⟩
theorem dX5_begin_0 : decode cX5_begin 0 = .ok (.aload_n 0, 1) := by decide +kernel
theorem dX5_begin_1 : decode cX5_begin 1 = .ok (.iload_n 1, 1) := by decide +kernel
theorem dX5_begin_2 : decode cX5_begin 2 = .ok (.putfield 19, 3) := by decide +kernel
theorem dX5_begin_5 : decode cX5_begin 5 = .ok (.aload_n 0, 1) := by decide +kernel
theorem dX5_begin_6 : decode cX5_begin 6 = .ok (.iconst 0, 1) := by decide +kernel
theorem dX5_begin_7 : decode cX5_begin 7 = .ok (.putfield 23, 3) := by decide +kernel
theorem dX5_begin_10 : decode cX5_begin 10 = .ok (.return_, 1) := by decide +kernel
def rmX5_begin : Room := { frames := 0, cells := 0, slots := 0, locals := 0 }
theorem kX5_begin : yX5_begin.cls = "WebHost$Packets" ∧ yX5_begin.cls ≠ "java/lang/invoke/MethodHandle" ∧ yX5_begin.cls ≠ "java/lang/invoke/VarHandle" ∧ (parseMethodDescriptor yX5_begin.desc).map (fun d => d.parameters.length) = some 1 := by decide +kernel
def w5_begin (σ : St) (x1 : Int32) (Q : St → Prop) : Prop := ∀ σ1, σ1 = up3 σ 5 0 1 x1 → (∀ σ2, σ2 = up3 σ1 5 0 2 0 → (Q σ2))
set_option maxHeartbeats 4000000 in
theorem m5_begin (l : Launch) (G : Gh) (a1 : Nat → Nat → Nat) (τ : St) (σ : St) (x1 : Int32) (Q : St → Prop) (hw : w5_begin σ x1 Q) : Met l yX5_begin (ws_ yX5_begin cX5_begin 2 none) rmX5_begin (PcS G a1 (cmb σ τ) [.ref (ga G 5 0), .int x1]) (QVs G a1 (fun u => cmb u τ) Q) 0 0 (gA G) := by
  refine met_w (by decide) (Nat.le_of_ble_eq_true rfl) ?_
  intro p e s m below meth c ls C hH hS hl
  have C : Cx p e s m _ meth c cX5_begin 2 none "WebHost$Packets" G := C
  have hl : lv_has ls 2 [(0, .ref (ga G 5 0)), (1, .int x1)] := hl
  have hx := C.1
  have hb := C.2.1
  have hown := C.2.2.2.2.2.1
  have hts := C.2.2.2.2.2.2.1
  obtain ⟨locs, hlocs⟩ : ∃ z : List Loc, z = [] := ⟨_, rfl⟩
  obtain ⟨H, hHe⟩ : ∃ z : Heap, z = s.heap := ⟨_, rfl⟩
  have hH : Hd G a1 (cmb σ τ) H := by rw [hHe]; exact hH
  have hS : va_S (gA G) s.heap H locs := by rw [hHe, hlocs]; exact hS
  refine W.heap0 hHe.symm hlocs.symm ?_
  refine lv_aload_n hx hb dX5_begin_0 rfl (lv_at hl 0 rfl) ?_
  refine lv_iload_n hx hb dX5_begin_1 rfl (lv_at hl 1 rfl) ?_
  refine p5_1 C hH hS q327 dX5_begin_2 (fun σ1 e1 H locs hH hS => ?_)
  have hw := hw σ1 e1
  refine lv_aload_n hx hb dX5_begin_5 rfl (lv_at hl 0 rfl) ?_
  refine lv_iconst (v := 0) hx hb dX5_begin_6 (by decide) ?_
  refine p5_2 C hH hS q328 dX5_begin_7 (fun σ2 e2 H locs hH hS => ?_)
  have hw := hw σ2 e2
  exact rt_v C hH hS hw dX5_begin_10
/-! WebHost$Fragments.begin()V -/
abbrev cX6_begin : ByteArray := prog_5_method_2_code
def yX6_begin : MethodName := ⟨RX6, "begin", "()V"⟩
theorem dX6_begin_0 : decode cX6_begin 0 = .ok (.aload_n 0, 1) := by decide +kernel
theorem dX6_begin_1 : decode cX6_begin 1 = .ok (.iconst 0, 1) := by decide +kernel
theorem dX6_begin_2 : decode cX6_begin 2 = .ok (.putfield 16, 3) := by decide +kernel
theorem dX6_begin_5 : decode cX6_begin 5 = .ok (.aload_n 0, 1) := by decide +kernel
theorem dX6_begin_6 : decode cX6_begin 6 = .ok (.iconst 0, 1) := by decide +kernel
theorem dX6_begin_7 : decode cX6_begin 7 = .ok (.putfield 20, 3) := by decide +kernel
theorem dX6_begin_10 : decode cX6_begin 10 = .ok (.return_, 1) := by decide +kernel
def rmX6_begin : Room := { frames := 0, cells := 0, slots := 0, locals := 0 }
theorem kX6_begin : yX6_begin.cls = "WebHost$Fragments" ∧ yX6_begin.cls ≠ "java/lang/invoke/MethodHandle" ∧ yX6_begin.cls ≠ "java/lang/invoke/VarHandle" ∧ (parseMethodDescriptor yX6_begin.desc).map (fun d => d.parameters.length) = some 0 := by decide +kernel
def w6_begin (σ : St) (Q : St → Prop) : Prop := ∀ σ1, σ1 = up3 σ 6 0 1 0 → (∀ σ2, σ2 = up3 σ1 6 0 2 0 → (Q σ2))
set_option maxHeartbeats 4000000 in
theorem m6_begin (l : Launch) (G : Gh) (a1 : Nat → Nat → Nat) (τ : St) (σ : St) (Q : St → Prop) (hw : w6_begin σ Q) : Met l yX6_begin (ws_ yX6_begin cX6_begin 1 none) rmX6_begin (PcS G a1 (cmb σ τ) [.ref (ga G 6 0)]) (QVs G a1 (fun u => cmb u τ) Q) 0 0 (gA G) := by
  refine met_w (by decide) (Nat.le_of_ble_eq_true rfl) ?_
  intro p e s m below meth c ls C hH hS hl
  have C : Cx p e s m _ meth c cX6_begin 1 none "WebHost$Fragments" G := C
  have hl : lv_has ls 1 [(0, .ref (ga G 6 0))] := hl
  have hx := C.1
  have hb := C.2.1
  have hown := C.2.2.2.2.2.1
  have hts := C.2.2.2.2.2.2.1
  obtain ⟨locs, hlocs⟩ : ∃ z : List Loc, z = [] := ⟨_, rfl⟩
  obtain ⟨H, hHe⟩ : ∃ z : Heap, z = s.heap := ⟨_, rfl⟩
  have hH : Hd G a1 (cmb σ τ) H := by rw [hHe]; exact hH
  have hS : va_S (gA G) s.heap H locs := by rw [hHe, hlocs]; exact hS
  refine W.heap0 hHe.symm hlocs.symm ?_
  refine lv_aload_n hx hb dX6_begin_0 rfl (lv_at hl 0 rfl) ?_
  refine lv_iconst (v := 0) hx hb dX6_begin_1 (by decide) ?_
  refine p6_1 C hH hS q387 dX6_begin_2 (fun σ1 e1 H locs hH hS => ?_)
  have hw := hw σ1 e1
  refine lv_aload_n hx hb dX6_begin_5 rfl (lv_at hl 0 rfl) ?_
  refine lv_iconst (v := 0) hx hb dX6_begin_6 (by decide) ?_
  refine p6_2 C hH hS q388 dX6_begin_7 (fun σ2 e2 H locs hH hS => ?_)
  have hw := hw σ2 e2
  exact rt_v C hH hS hw dX6_begin_10
/-! WebHost$Fragments.due()I -/
abbrev cX6_due : ByteArray := prog_5_method_7_code
def yX6_due : MethodName := ⟨RX6, "due", "()I"⟩
theorem dX6_due_0 : decode cX6_due 0 = .ok (.aload_n 0, 1) := by decide +kernel
theorem dX6_due_1 : decode cX6_due 1 = .ok (.getfield 16, 3) := by decide +kernel
theorem dX6_due_4 : decode cX6_due 4 = .ok (.ifCond .ne 8, 3) := by decide +kernel
theorem dX6_due_7 : decode cX6_due 7 = .ok (.ldc 54, 2) := by decide +kernel
theorem dX6_due_9 : decode cX6_due 9 = .ok (.goto 16, 3) := by decide +kernel
theorem dX6_due_12 : decode cX6_due 12 = .ok (.aload_n 0, 1) := by decide +kernel
theorem dX6_due_13 : decode cX6_due 13 = .ok (.getfield 11, 3) := by decide +kernel
theorem dX6_due_16 : decode cX6_due 16 = .ok (.iconst 0, 1) := by decide +kernel
theorem dX6_due_17 : decode cX6_due 17 = .ok (.aaload, 1) := by decide +kernel
theorem dX6_due_18 : decode cX6_due 18 = .ok (.getfield 55, 3) := by decide +kernel
theorem dX6_due_21 : decode cX6_due 21 = .ok (.sipush 15000, 3) := by decide +kernel
theorem dX6_due_24 : decode cX6_due 24 = .ok (.iadd, 1) := by decide +kernel
theorem dX6_due_25 : decode cX6_due 25 = .ok (.ireturn, 1) := by decide +kernel
def rmX6_due : Room := { frames := 0, cells := 0, slots := 0, locals := 0 }
theorem kX6_due : yX6_due.cls = "WebHost$Fragments" ∧ yX6_due.cls ≠ "java/lang/invoke/MethodHandle" ∧ yX6_due.cls ≠ "java/lang/invoke/VarHandle" ∧ (parseMethodDescriptor yX6_due.desc).map (fun d => d.parameters.length) = some 0 := by decide +kernel
def w6_due (σ : St) (Q : Int32 → Prop) : Prop := (¬ (σ 6 0 1) = 0 → (vp_in 0 4 ∧ ((σ 37 0 (0 : Int32).toNatClampNeg).toNatClampNeg < 4 ∧ (Q ((σ 7 ((σ 37 0 (0 : Int32).toNatClampNeg).toNatClampNeg) 3) + 15000))))) ∧ ((σ 6 0 1) = 0 → Q 2147483647)
set_option maxHeartbeats 4000000 in
theorem m6_due (l : Launch) (G : Gh) (a1 : Nat → Nat → Nat) (τ : St) (σ : St) (H : Heap) (Q : Int32 → Prop) (hw : w6_due σ Q) : Met l yX6_due (ws_ yX6_due cX6_due 1 (some .int)) rmX6_due (PcP G a1 (cmb σ τ) H [.ref (ga G 6 0)]) (QIp G H Q) 0 0 (gA G) := by
  refine met_p (by decide) (Nat.le_of_ble_eq_true rfl) ?_
  intro p e s m below meth c ls hHe C hH hS hl
  have C : Cx p e s m _ meth c cX6_due 1 (some .int) "WebHost$Fragments" G := C
  have hl : lv_has ls 1 [(0, .ref (ga G 6 0))] := hl
  have hx := C.1
  have hb := C.2.1
  have hown := C.2.2.2.2.2.1
  have hts := C.2.2.2.2.2.2.1
  obtain ⟨locs, hlocs⟩ : ∃ z : List Loc, z = [] := ⟨_, rfl⟩
  rw [← hlocs] at hS ⊢
  refine lv_aload_n hx hb dX6_due_0 rfl (lv_at hl 0 rfl) ?_
  refine g6_1 C hH q387 dX6_due_1 ?_
  refine lv_if_ne (tgt := 12) hx hb dX6_due_4 (by decide) (fun h => ?_) (fun h => ?_)
  · have hw := hw.1 h
    refine lv_aload_n hx hb dX6_due_12 rfl (lv_at hl 0 rfl) ?_
    refine g6_0 C hH q386 dX6_due_13 ?_
    refine lv_iconst (v := 0) hx hb dX6_due_16 (by decide) ?_
    refine l37 C hH hw.1 dX6_due_17 ?_
    obtain ⟨hq1, hw⟩ := hw.2
    refine g7_3 C hH hq1 q361 dX6_due_18 ?_
    refine lv_sipush (v := 15000) hx hb dX6_due_21 (by decide) ?_
    refine lv_iadd hx hb dX6_due_24 ?_
    exact rt_ip C rfl hS hw dX6_due_25
  have hw := hw.2 h
  refine lv_ldc (v := 2147483647) hx hb hown (hts _ q921) dX6_due_7 ?_
  refine lv_goto (tgt := 25) hx hb dX6_due_9 (by decide) ?_
  exact rt_ip C rfl hS hw dX6_due_25
/-! WebHost$Fragments.find(III)I -/
abbrev cX6_find : ByteArray := prog_5_method_4_code
def yX6_find : MethodName := ⟨RX6, "find", "(III)I"⟩
theorem dX6_find_0 : decode cX6_find 0 = .ok (.iconst 0, 1) := by decide +kernel
theorem dX6_find_1 : decode cX6_find 1 = .ok (.istore 4, 2) := by decide +kernel
theorem dX6_find_3 : decode cX6_find 3 = .ok (.iload 4, 2) := by decide +kernel
theorem dX6_find_5 : decode cX6_find 5 = .ok (.aload_n 0, 1) := by decide +kernel
theorem dX6_find_6 : decode cX6_find 6 = .ok (.getfield 16, 3) := by decide +kernel
theorem dX6_find_9 : decode cX6_find 9 = .ok (.if_icmp .ge 51, 3) := by decide +kernel
theorem dX6_find_12 : decode cX6_find 12 = .ok (.aload_n 0, 1) := by decide +kernel
theorem dX6_find_13 : decode cX6_find 13 = .ok (.getfield 11, 3) := by decide +kernel
theorem dX6_find_16 : decode cX6_find 16 = .ok (.iload 4, 2) := by decide +kernel
theorem dX6_find_18 : decode cX6_find 18 = .ok (.aaload, 1) := by decide +kernel
theorem dX6_find_19 : decode cX6_find 19 = .ok (.getfield 23, 3) := by decide +kernel
theorem dX6_find_22 : decode cX6_find 22 = .ok (.iload_n 1, 1) := by decide +kernel
theorem dX6_find_23 : decode cX6_find 23 = .ok (.if_icmp .ne 31, 3) := by decide +kernel
theorem dX6_find_26 : decode cX6_find 26 = .ok (.aload_n 0, 1) := by decide +kernel
theorem dX6_find_27 : decode cX6_find 27 = .ok (.getfield 11, 3) := by decide +kernel
theorem dX6_find_30 : decode cX6_find 30 = .ok (.iload 4, 2) := by decide +kernel
theorem dX6_find_32 : decode cX6_find 32 = .ok (.aaload, 1) := by decide +kernel
theorem dX6_find_33 : decode cX6_find 33 = .ok (.getfield 26, 3) := by decide +kernel
theorem dX6_find_36 : decode cX6_find 36 = .ok (.iload_n 2, 1) := by decide +kernel
theorem dX6_find_37 : decode cX6_find 37 = .ok (.if_icmp .ne 17, 3) := by decide +kernel
theorem dX6_find_40 : decode cX6_find 40 = .ok (.aload_n 0, 1) := by decide +kernel
theorem dX6_find_41 : decode cX6_find 41 = .ok (.getfield 11, 3) := by decide +kernel
theorem dX6_find_44 : decode cX6_find 44 = .ok (.iload 4, 2) := by decide +kernel
theorem dX6_find_46 : decode cX6_find 46 = .ok (.aaload, 1) := by decide +kernel
theorem dX6_find_47 : decode cX6_find 47 = .ok (.getfield 29, 3) := by decide +kernel
theorem dX6_find_50 : decode cX6_find 50 = .ok (.iload_n 3, 1) := by decide +kernel
theorem dX6_find_51 : decode cX6_find 51 = .ok (.if_icmp .eq 9, 3) := by decide +kernel
theorem dX6_find_54 : decode cX6_find 54 = .ok (.iinc 4 1, 3) := by decide +kernel
theorem dX6_find_57 : decode cX6_find 57 = .ok (.goto (-54), 3) := by decide +kernel
theorem dX6_find_60 : decode cX6_find 60 = .ok (.iload 4, 2) := by decide +kernel
theorem dX6_find_62 : decode cX6_find 62 = .ok (.ireturn, 1) := by decide +kernel
def rmX6_find : Room := { frames := 0, cells := 0, slots := 0, locals := 0 }
theorem kX6_find : yX6_find.cls = "WebHost$Fragments" ∧ yX6_find.cls ≠ "java/lang/invoke/MethodHandle" ∧ yX6_find.cls ≠ "java/lang/invoke/VarHandle" ∧ (parseMethodDescriptor yX6_find.desc).map (fun d => d.parameters.length) = some 3 := by decide +kernel
def w6_find_L3 (σ : St) (x1 : Int32) (x2 : Int32) (x3 : Int32) (Q : Int32 → Prop) (K60 : Int32 → Prop) : Nat → Int32 → Prop
  | 0, _ => False
  | n + 1, x4 => ((σ 6 0 1) ≤ x4 → K60 x4) ∧ (¬ (σ 6 0 1) ≤ x4 → (vp_in x4 4 ∧ ((σ 37 0 x4.toNatClampNeg).toNatClampNeg < 4 ∧ ((¬ (σ 7 ((σ 37 0 x4.toNatClampNeg).toNatClampNeg) 0) = x1 → (w6_find_L3 σ x1 x2 x3 Q K60 n (x4 + 1))) ∧ ((σ 7 ((σ 37 0 x4.toNatClampNeg).toNatClampNeg) 0) = x1 → (vp_in x4 4 ∧ ((σ 37 0 x4.toNatClampNeg).toNatClampNeg < 4 ∧ ((¬ (σ 7 ((σ 37 0 x4.toNatClampNeg).toNatClampNeg) 1) = x2 → (w6_find_L3 σ x1 x2 x3 Q K60 n (x4 + 1))) ∧ ((σ 7 ((σ 37 0 x4.toNatClampNeg).toNatClampNeg) 1) = x2 → (vp_in x4 4 ∧ ((σ 37 0 x4.toNatClampNeg).toNatClampNeg < 4 ∧ (((σ 7 ((σ 37 0 x4.toNatClampNeg).toNatClampNeg) 2) = x3 → K60 x4) ∧ (¬ (σ 7 ((σ 37 0 x4.toNatClampNeg).toNatClampNeg) 2) = x3 → (w6_find_L3 σ x1 x2 x3 Q K60 n (x4 + 1)))))))))))))))
set_option maxHeartbeats 4000000 in
theorem k6_find_L3 {p : Program} {l : Launch} {e : Env} {s : State} {m : MethodId} {args : Array Value} {below : List Frame} {meth : Method} {c : Code} {G : Gh} {a1 : Nat → Nat → Nat} {τ : St} {H : Heap} {Q : Int32 → Prop} {K60 : Int32 → Prop} (C : Cx p e s m args meth c cX6_find 5 (some .int) "WebHost$Fragments" G) (σ : St) (x1 : Int32) (x2 : Int32) (x3 : Int32) (hH : Hd G a1 (cmb σ τ) H) :
    ∀ (n : Nat) (x4 : Int32), w6_find_L3 σ x1 x2 x3 Q K60 n x4 → ∀ (locs : List Loc) (ls : Array Slot), va_S (gA G) s.heap H locs → lv_has ls 5 [(0, .ref (ga G 6 0)), (1, .int x1), (2, .int x2), (3, .int x3), (4, .int x4)] → (∀ (x4 : Int32), K60 x4 → ∀ (locs : List Loc) (ls : Array Slot), va_S (gA G) s.heap H locs → lv_has ls 5 [(4, .int x4)] → W p l e rmX6_find s m args below meth c H locs 0 0 (MQ below (QIp G H Q) args s 0 0 (gA G)) (F0 m 60 ls [])) → W p l e rmX6_find s m args below meth c H locs 0 0 (MQ below (QIp G H Q) args s 0 0 (gA G)) (F0 m 3 ls []) := by
  have hx := C.1
  have hb := C.2.1
  have hown := C.2.2.2.2.2.1
  have hts := C.2.2.2.2.2.2.1
  intro n
  induction n with
  | zero =>
    intro x4 hw
    exact False.elim hw
  | succ n ih =>
    intro x4 hw locs ls hS hl hK60
    refine lv_iload hx hb dX6_find_3 (lv_at hl 4 rfl) ?_
    refine lv_aload_n hx hb dX6_find_5 rfl (lv_at hl 0 rfl) ?_
    refine g6_1 C hH q387 dX6_find_6 ?_
    refine lv_icmp_ge (tgt := 60) hx hb dX6_find_9 (by decide) (fun h => ?_) (fun h => ?_)
    · have hw := hw.1 h
      exact hK60 x4 hw locs ls hS (lv_sub hl [4] rfl)
    have hw := hw.2 h
    refine lv_aload_n hx hb dX6_find_12 rfl (lv_at hl 0 rfl) ?_
    refine g6_0 C hH q386 dX6_find_13 ?_
    refine lv_iload hx hb dX6_find_16 (lv_at hl 4 rfl) ?_
    refine l37 C hH hw.1 dX6_find_18 ?_
    obtain ⟨hq1, hw⟩ := hw.2
    refine g7_0 C hH hq1 q355 dX6_find_19 ?_
    refine lv_iload_n hx hb dX6_find_22 rfl (lv_at hl 1 rfl) ?_
    refine lv_icmp_ne (tgt := 54) hx hb dX6_find_23 (by decide) (fun h => ?_) (fun h => ?_)
    · have hw := hw.1 h
      refine lv_iinc (v := x4 + 1) (lv' := [(4, .int (x4 + 1)), (0, .ref (ga G 6 0)), (1, .int x1), (2, .int x2), (3, .int x3)]) hx hb dX6_find_54 hl (k := 4) rfl rfl (by decide) rfl (fun ls hl => ?_)
      refine lv_goto (tgt := 3) hx hb dX6_find_57 (by decide) ?_
      exact ih (x4 + 1) hw locs ls hS (lv_sub hl [1, 2, 3, 4, 0] rfl) hK60
    have hw := hw.2 h
    refine lv_aload_n hx hb dX6_find_26 rfl (lv_at hl 0 rfl) ?_
    refine g6_0 C hH q386 dX6_find_27 ?_
    refine lv_iload hx hb dX6_find_30 (lv_at hl 4 rfl) ?_
    refine l37 C hH hw.1 dX6_find_32 ?_
    obtain ⟨hq2, hw⟩ := hw.2
    refine g7_1 C hH hq2 q357 dX6_find_33 ?_
    refine lv_iload_n hx hb dX6_find_36 rfl (lv_at hl 2 rfl) ?_
    refine lv_icmp_ne (tgt := 54) hx hb dX6_find_37 (by decide) (fun h => ?_) (fun h => ?_)
    · have hw := hw.1 h
      refine lv_iinc (v := x4 + 1) (lv' := [(4, .int (x4 + 1)), (0, .ref (ga G 6 0)), (1, .int x1), (2, .int x2), (3, .int x3)]) hx hb dX6_find_54 hl (k := 4) rfl rfl (by decide) rfl (fun ls hl => ?_)
      refine lv_goto (tgt := 3) hx hb dX6_find_57 (by decide) ?_
      exact ih (x4 + 1) hw locs ls hS (lv_sub hl [1, 2, 3, 4, 0] rfl) hK60
    have hw := hw.2 h
    refine lv_aload_n hx hb dX6_find_40 rfl (lv_at hl 0 rfl) ?_
    refine g6_0 C hH q386 dX6_find_41 ?_
    refine lv_iload hx hb dX6_find_44 (lv_at hl 4 rfl) ?_
    refine l37 C hH hw.1 dX6_find_46 ?_
    obtain ⟨hq3, hw⟩ := hw.2
    refine g7_2 C hH hq3 q359 dX6_find_47 ?_
    refine lv_iload_n hx hb dX6_find_50 rfl (lv_at hl 3 rfl) ?_
    refine lv_icmp_eq (tgt := 60) hx hb dX6_find_51 (by decide) (fun h => ?_) (fun h => ?_)
    · have hw := hw.1 h
      exact hK60 x4 hw locs ls hS (lv_sub hl [4] rfl)
    have hw := hw.2 h
    refine lv_iinc (v := x4 + 1) (lv' := [(4, .int (x4 + 1)), (0, .ref (ga G 6 0)), (1, .int x1), (2, .int x2), (3, .int x3)]) hx hb dX6_find_54 hl (k := 4) rfl rfl (by decide) rfl (fun ls hl => ?_)
    refine lv_goto (tgt := 3) hx hb dX6_find_57 (by decide) ?_
    exact ih (x4 + 1) hw locs ls hS (lv_sub hl [1, 2, 3, 4, 0] rfl) hK60
def w6_find (σ : St) (x1 : Int32) (x2 : Int32) (x3 : Int32) (Q : Int32 → Prop) : Prop := ∃ z4, w6_find_L3 σ x1 x2 x3 Q (fun x4_5 => Q x4_5) z4 0
set_option maxHeartbeats 4000000 in
theorem m6_find (l : Launch) (G : Gh) (a1 : Nat → Nat → Nat) (τ : St) (σ : St) (H : Heap) (x1 : Int32) (x2 : Int32) (x3 : Int32) (Q : Int32 → Prop) (hw : w6_find σ x1 x2 x3 Q) : Met l yX6_find (ws_ yX6_find cX6_find 5 (some .int)) rmX6_find (PcP G a1 (cmb σ τ) H [.ref (ga G 6 0), .int x1, .int x2, .int x3]) (QIp G H Q) 0 0 (gA G) := by
  refine met_p (by decide) (Nat.le_of_ble_eq_true rfl) ?_
  intro p e s m below meth c ls hHe C hH hS hl
  have C : Cx p e s m _ meth c cX6_find 5 (some .int) "WebHost$Fragments" G := C
  have hl : lv_has ls 5 [(0, .ref (ga G 6 0)), (1, .int x1), (2, .int x2), (3, .int x3)] := hl
  have hx := C.1
  have hb := C.2.1
  have hown := C.2.2.2.2.2.1
  have hts := C.2.2.2.2.2.2.1
  obtain ⟨locs, hlocs⟩ : ∃ z : List Loc, z = [] := ⟨_, rfl⟩
  rw [← hlocs] at hS ⊢
  refine lv_iconst (v := 0) hx hb dX6_find_0 (by decide) ?_
  refine lv_istore (lv' := [(4, .int 0), (0, .ref (ga G 6 0)), (1, .int x1), (2, .int x2), (3, .int x3)]) hx hb dX6_find_1 hl (by decide) rfl (fun ls hl => ?_)
  obtain ⟨n4, hw⟩ := hw
  refine k6_find_L3 C σ x1 x2 x3 hH n4 0 hw locs ls hS (lv_sub hl [1, 2, 3, 4, 0] rfl) (fun x4_5 hw locs ls hS hl => ?_)
  refine lv_iload hx hb dX6_find_60 (lv_at hl 0 rfl) ?_
  exact rt_ip C rfl hS hw dX6_find_62
/-! WebHost$Fragments.remove(I)V -/
abbrev cX6_remove : ByteArray := prog_5_method_3_code
def yX6_remove : MethodName := ⟨RX6, "remove", "(I)V"⟩
theorem dX6_remove_0 : decode cX6_remove 0 = .ok (.aload_n 0, 1) := by decide +kernel
theorem dX6_remove_1 : decode cX6_remove 1 = .ok (.getfield 11, 3) := by decide +kernel
theorem dX6_remove_4 : decode cX6_remove 4 = .ok (.iload_n 1, 1) := by decide +kernel
theorem dX6_remove_5 : decode cX6_remove 5 = .ok (.aaload, 1) := by decide +kernel
theorem dX6_remove_6 : decode cX6_remove 6 = .ok (.astore_n 2, 1) := by decide +kernel
theorem dX6_remove_7 : decode cX6_remove 7 = .ok (.iload_n 1, 1) := by decide +kernel
theorem dX6_remove_8 : decode cX6_remove 8 = .ok (.istore_n 3, 1) := by decide +kernel
theorem dX6_remove_9 : decode cX6_remove 9 = .ok (.iload_n 3, 1) := by decide +kernel
theorem dX6_remove_10 : decode cX6_remove 10 = .ok (.iconst 1, 1) := by decide +kernel
theorem dX6_remove_11 : decode cX6_remove 11 = .ok (.iadd, 1) := by decide +kernel
theorem dX6_remove_12 : decode cX6_remove 12 = .ok (.aload_n 0, 1) := by decide +kernel
theorem dX6_remove_13 : decode cX6_remove 13 = .ok (.getfield 16, 3) := by decide +kernel
theorem dX6_remove_16 : decode cX6_remove 16 = .ok (.if_icmp .ge 23, 3) := by decide +kernel
theorem dX6_remove_19 : decode cX6_remove 19 = .ok (.aload_n 0, 1) := by decide +kernel
theorem dX6_remove_20 : decode cX6_remove 20 = .ok (.getfield 11, 3) := by decide +kernel
theorem dX6_remove_23 : decode cX6_remove 23 = .ok (.iload_n 3, 1) := by decide +kernel
theorem dX6_remove_24 : decode cX6_remove 24 = .ok (.aload_n 0, 1) := by decide +kernel
theorem dX6_remove_25 : decode cX6_remove 25 = .ok (.getfield 11, 3) := by decide +kernel
theorem dX6_remove_28 : decode cX6_remove 28 = .ok (.iload_n 3, 1) := by decide +kernel
theorem dX6_remove_29 : decode cX6_remove 29 = .ok (.iconst 1, 1) := by decide +kernel
theorem dX6_remove_30 : decode cX6_remove 30 = .ok (.iadd, 1) := by decide +kernel
theorem dX6_remove_31 : decode cX6_remove 31 = .ok (.aaload, 1) := by decide +kernel
theorem dX6_remove_32 : decode cX6_remove 32 = .ok (.aastore, 1) := by decide +kernel
theorem dX6_remove_33 : decode cX6_remove 33 = .ok (.iinc 3 1, 3) := by decide +kernel
theorem dX6_remove_36 : decode cX6_remove 36 = .ok (.goto (-27), 3) := by decide +kernel
theorem dX6_remove_39 : decode cX6_remove 39 = .ok (.aload_n 0, 1) := by decide +kernel
theorem dX6_remove_40 : decode cX6_remove 40 = .ok (.dup, 1) := by decide +kernel
theorem dX6_remove_41 : decode cX6_remove 41 = .ok (.getfield 16, 3) := by decide +kernel
theorem dX6_remove_44 : decode cX6_remove 44 = .ok (.iconst 1, 1) := by decide +kernel
theorem dX6_remove_45 : decode cX6_remove 45 = .ok (.isub, 1) := by decide +kernel
theorem dX6_remove_46 : decode cX6_remove 46 = .ok (.putfield 16, 3) := by decide +kernel
theorem dX6_remove_49 : decode cX6_remove 49 = .ok (.aload_n 0, 1) := by decide +kernel
theorem dX6_remove_50 : decode cX6_remove 50 = .ok (.getfield 11, 3) := by decide +kernel
theorem dX6_remove_53 : decode cX6_remove 53 = .ok (.aload_n 0, 1) := by decide +kernel
theorem dX6_remove_54 : decode cX6_remove 54 = .ok (.getfield 16, 3) := by decide +kernel
theorem dX6_remove_57 : decode cX6_remove 57 = .ok (.aload_n 2, 1) := by decide +kernel
theorem dX6_remove_58 : decode cX6_remove 58 = .ok (.aastore, 1) := by decide +kernel
theorem dX6_remove_59 : decode cX6_remove 59 = .ok (.return_, 1) := by decide +kernel
def rmX6_remove : Room := { frames := 0, cells := 0, slots := 0, locals := 0 }
theorem kX6_remove : yX6_remove.cls = "WebHost$Fragments" ∧ yX6_remove.cls ≠ "java/lang/invoke/MethodHandle" ∧ yX6_remove.cls ≠ "java/lang/invoke/VarHandle" ∧ (parseMethodDescriptor yX6_remove.desc).map (fun d => d.parameters.length) = some 1 := by decide +kernel
def w6_remove_L9 (o2 : Nat) (Q : St → Prop) (K39 : St → Prop) : Nat → St → Int32 → Prop
  | 0, _, _ => False
  | n + 1, σ, x3 => ((σ 6 0 1) ≤ (x3 + 1) → K39 σ) ∧ (¬ (σ 6 0 1) ≤ (x3 + 1) → (vp_in (x3 + 1) 4 ∧ ((σ 37 0 (x3 + 1).toNatClampNeg).toNatClampNeg < 4 ∧ (vp_in x3 4 ∧ (∀ σ3, σ3 = up3 σ 37 0 x3.toNatClampNeg (nI ((σ 37 0 (x3 + 1).toNatClampNeg).toNatClampNeg)) → (w6_remove_L9 o2 Q K39 n σ3 (x3 + 1)))))))
set_option maxHeartbeats 4000000 in
theorem k6_remove_L9 {p : Program} {l : Launch} {e : Env} {s : State} {m : MethodId} {args : Array Value} {below : List Frame} {meth : Method} {c : Code} {G : Gh} {a1 : Nat → Nat → Nat} {τ : St} {Q : St → Prop} {K39 : St → Prop} (C : Cx p e s m args meth c cX6_remove 4 none "WebHost$Fragments" G) (o2 : Nat) (ho2 : o2 < 4) :
    ∀ (n : Nat) (σ : St) (x3 : Int32), w6_remove_L9 o2 Q K39 n σ x3 → ∀ (H : Heap) (locs : List Loc) (ls : Array Slot), Hd G a1 (cmb σ τ) H → va_S (gA G) s.heap H locs → lv_has ls 4 [(0, .ref (ga G 6 0)), (2, .ref (ga G 7 o2)), (3, .int x3)] → (∀ (σ : St) , K39 σ → ∀ (H : Heap) (locs : List Loc) (ls : Array Slot), Hd G a1 (cmb σ τ) H → va_S (gA G) s.heap H locs → lv_has ls 4 [(0, .ref (ga G 6 0)), (2, .ref (ga G 7 o2))] → W p l e rmX6_remove s m args below meth c H locs 0 0 (MQ below (QVs G a1 (fun u => cmb u τ) Q) args s 0 0 (gA G)) (F0 m 39 ls [])) → W p l e rmX6_remove s m args below meth c H locs 0 0 (MQ below (QVs G a1 (fun u => cmb u τ) Q) args s 0 0 (gA G)) (F0 m 9 ls []) := by
  have hx := C.1
  have hb := C.2.1
  have hown := C.2.2.2.2.2.1
  have hts := C.2.2.2.2.2.2.1
  intro n
  induction n with
  | zero =>
    intro σ x3 hw
    exact False.elim hw
  | succ n ih =>
    intro σ x3 hw H locs ls hH hS hl hK39
    refine lv_iload_n hx hb dX6_remove_9 rfl (lv_at hl 2 rfl) ?_
    refine lv_iconst (v := 1) hx hb dX6_remove_10 (by decide) ?_
    refine lv_iadd hx hb dX6_remove_11 ?_
    refine lv_aload_n hx hb dX6_remove_12 rfl (lv_at hl 0 rfl) ?_
    refine g6_1 C hH q387 dX6_remove_13 ?_
    refine lv_icmp_ge (tgt := 39) hx hb dX6_remove_16 (by decide) (fun h => ?_) (fun h => ?_)
    · have hw := hw.1 h
      exact hK39 σ hw H locs ls hH hS (lv_sub hl [0, 1] rfl)
    have hw := hw.2 h
    refine lv_aload_n hx hb dX6_remove_19 rfl (lv_at hl 0 rfl) ?_
    refine g6_0 C hH q386 dX6_remove_20 ?_
    refine lv_iload_n hx hb dX6_remove_23 rfl (lv_at hl 2 rfl) ?_
    refine lv_aload_n hx hb dX6_remove_24 rfl (lv_at hl 0 rfl) ?_
    refine g6_0 C hH q386 dX6_remove_25 ?_
    refine lv_iload_n hx hb dX6_remove_28 rfl (lv_at hl 2 rfl) ?_
    refine lv_iconst (v := 1) hx hb dX6_remove_29 (by decide) ?_
    refine lv_iadd hx hb dX6_remove_30 ?_
    refine l37 C hH hw.1 dX6_remove_31 ?_
    obtain ⟨hq2, hw⟩ := hw.2
    refine s37 C hH hS hq2 hw.1 dX6_remove_32 (fun σ3 e3 H locs hH hS => ?_)
    have hw := hw.2 σ3 e3
    refine lv_iinc (v := x3 + 1) (lv' := [(3, .int (x3 + 1)), (0, .ref (ga G 6 0)), (2, .ref (ga G 7 o2))]) hx hb dX6_remove_33 hl (k := 2) rfl rfl (by decide) rfl (fun ls hl => ?_)
    refine lv_goto (tgt := 9) hx hb dX6_remove_36 (by decide) ?_
    exact ih σ3 (x3 + 1) hw H locs ls hH hS (lv_sub hl [1, 2, 0] rfl) hK39
def w6_remove (σ : St) (x1 : Int32) (Q : St → Prop) : Prop := vp_in x1 4 ∧ ((σ 37 0 x1.toNatClampNeg).toNatClampNeg < 4 ∧ (∃ z4, w6_remove_L9 ((σ 37 0 x1.toNatClampNeg).toNatClampNeg) Q (fun σ5 => ∀ σ6, σ6 = up3 σ5 6 0 1 ((σ5 6 0 1) - 1) → (vp_in (σ6 6 0 1) 4 ∧ (∀ σ7, σ7 = up3 σ6 37 0 (σ6 6 0 1).toNatClampNeg (nI ((σ 37 0 x1.toNatClampNeg).toNatClampNeg)) → (Q σ7)))) z4 σ x1))
set_option maxHeartbeats 4000000 in
theorem m6_remove (l : Launch) (G : Gh) (a1 : Nat → Nat → Nat) (τ : St) (σ : St) (x1 : Int32) (Q : St → Prop) (hw : w6_remove σ x1 Q) : Met l yX6_remove (ws_ yX6_remove cX6_remove 4 none) rmX6_remove (PcS G a1 (cmb σ τ) [.ref (ga G 6 0), .int x1]) (QVs G a1 (fun u => cmb u τ) Q) 0 0 (gA G) := by
  refine met_w (by decide) (Nat.le_of_ble_eq_true rfl) ?_
  intro p e s m below meth c ls C hH hS hl
  have C : Cx p e s m _ meth c cX6_remove 4 none "WebHost$Fragments" G := C
  have hl : lv_has ls 4 [(0, .ref (ga G 6 0)), (1, .int x1)] := hl
  have hx := C.1
  have hb := C.2.1
  have hown := C.2.2.2.2.2.1
  have hts := C.2.2.2.2.2.2.1
  obtain ⟨locs, hlocs⟩ : ∃ z : List Loc, z = [] := ⟨_, rfl⟩
  obtain ⟨H, hHe⟩ : ∃ z : Heap, z = s.heap := ⟨_, rfl⟩
  have hH : Hd G a1 (cmb σ τ) H := by rw [hHe]; exact hH
  have hS : va_S (gA G) s.heap H locs := by rw [hHe, hlocs]; exact hS
  refine W.heap0 hHe.symm hlocs.symm ?_
  refine lv_aload_n hx hb dX6_remove_0 rfl (lv_at hl 0 rfl) ?_
  refine g6_0 C hH q386 dX6_remove_1 ?_
  refine lv_iload_n hx hb dX6_remove_4 rfl (lv_at hl 1 rfl) ?_
  refine l37 C hH hw.1 dX6_remove_5 ?_
  obtain ⟨hq1, hw⟩ := hw.2
  refine lv_astore_n (lv' := [(2, .ref (ga G 7 ((σ 37 0 x1.toNatClampNeg).toNatClampNeg))), (0, .ref (ga G 6 0)), (1, .int x1)]) hx hb dX6_remove_6 rfl hl (by decide) rfl (fun ls hl => ?_)
  refine lv_iload_n hx hb dX6_remove_7 rfl (lv_at hl 2 rfl) ?_
  refine lv_istore_n (lv' := [(3, .int x1), (2, .ref (ga G 7 ((σ 37 0 x1.toNatClampNeg).toNatClampNeg))), (0, .ref (ga G 6 0)), (1, .int x1)]) hx hb dX6_remove_8 rfl hl (by decide) rfl (fun ls hl => ?_)
  obtain ⟨n4, hw⟩ := hw
  refine k6_remove_L9 C ((σ 37 0 x1.toNatClampNeg).toNatClampNeg) hq1 n4 σ x1 hw H locs ls hH hS (lv_sub hl [2, 1, 0] rfl) (fun σ5 hw H locs ls hH hS hl => ?_)
  refine lv_aload_n hx hb dX6_remove_39 rfl (lv_at hl 0 rfl) ?_
  refine lv_dup hx hb dX6_remove_40 rfl ?_
  refine g6_1 C hH q387 dX6_remove_41 ?_
  refine lv_iconst (v := 1) hx hb dX6_remove_44 (by decide) ?_
  refine lv_isub hx hb dX6_remove_45 ?_
  refine p6_1 C hH hS q387 dX6_remove_46 (fun σ6 e6 H locs hH hS => ?_)
  have hw := hw σ6 e6
  refine lv_aload_n hx hb dX6_remove_49 rfl (lv_at hl 0 rfl) ?_
  refine g6_0 C hH q386 dX6_remove_50 ?_
  refine lv_aload_n hx hb dX6_remove_53 rfl (lv_at hl 0 rfl) ?_
  refine g6_1 C hH q387 dX6_remove_54 ?_
  refine lv_aload_n hx hb dX6_remove_57 rfl (lv_at hl 1 rfl) ?_
  refine s37 C hH hS hq1 hw.1 dX6_remove_58 (fun σ7 e7 H locs hH hS => ?_)
  have hw := hw.2 σ7 e7
  exact rt_v C hH hS hw dX6_remove_59
/-! WebHost$Making.add([BIIIZ)Z -/
abbrev cX7_add : ByteArray := prog_8_method_3_code
def yX7_add : MethodName := ⟨RX7, "add", "([BIIIZ)Z"⟩
theorem dX7_add_0 : decode cX7_add 0 = .ok (.iload_n 3, 1) := by decide +kernel
theorem dX7_add_1 : decode cX7_add 1 = .ok (.iload 4, 2) := by decide +kernel
theorem dX7_add_3 : decode cX7_add 3 = .ok (.iadd, 1) := by decide +kernel
theorem dX7_add_4 : decode cX7_add 4 = .ok (.istore 6, 2) := by decide +kernel
theorem dX7_add_6 : decode cX7_add 6 = .ok (.iload 5, 2) := by decide +kernel
theorem dX7_add_8 : decode cX7_add 8 = .ok (.ifCond .eq 19, 3) := by decide +kernel
theorem dX7_add_11 : decode cX7_add 11 = .ok (.aload_n 0, 1) := by decide +kernel
theorem dX7_add_12 : decode cX7_add 12 = .ok (.getfield 33, 3) := by decide +kernel
theorem dX7_add_15 : decode cX7_add 15 = .ok (.ifCond .lt 12, 3) := by decide +kernel
theorem dX7_add_18 : decode cX7_add 18 = .ok (.aload_n 0, 1) := by decide +kernel
theorem dX7_add_19 : decode cX7_add 19 = .ok (.getfield 33, 3) := by decide +kernel
theorem dX7_add_22 : decode cX7_add 22 = .ok (.iload 6, 2) := by decide +kernel
theorem dX7_add_24 : decode cX7_add 24 = .ok (.if_icmp .ne 33, 3) := by decide +kernel
theorem dX7_add_27 : decode cX7_add 27 = .ok (.aload_n 0, 1) := by decide +kernel
theorem dX7_add_28 : decode cX7_add 28 = .ok (.getfield 33, 3) := by decide +kernel
theorem dX7_add_31 : decode cX7_add 31 = .ok (.ifCond .lt 12, 3) := by decide +kernel
theorem dX7_add_34 : decode cX7_add 34 = .ok (.iload 6, 2) := by decide +kernel
theorem dX7_add_36 : decode cX7_add 36 = .ok (.aload_n 0, 1) := by decide +kernel
theorem dX7_add_37 : decode cX7_add 37 = .ok (.getfield 33, 3) := by decide +kernel
theorem dX7_add_40 : decode cX7_add 40 = .ok (.if_icmp .gt 17, 3) := by decide +kernel
theorem dX7_add_43 : decode cX7_add 43 = .ok (.iload 5, 2) := by decide +kernel
theorem dX7_add_45 : decode cX7_add 45 = .ok (.ifCond .eq 14, 3) := by decide +kernel
theorem dX7_add_48 : decode cX7_add 48 = .ok (.aload_n 0, 1) := by decide +kernel
theorem dX7_add_49 : decode cX7_add 49 = .ok (.getfield 30, 3) := by decide +kernel
theorem dX7_add_52 : decode cX7_add 52 = .ok (.iload 6, 2) := by decide +kernel
theorem dX7_add_54 : decode cX7_add 54 = .ok (.if_icmp .le 5, 3) := by decide +kernel
theorem dX7_add_57 : decode cX7_add 57 = .ok (.iconst 0, 1) := by decide +kernel
theorem dX7_add_58 : decode cX7_add 58 = .ok (.ireturn, 1) := by decide +kernel
theorem dX7_add_59 : decode cX7_add 59 = .ok (.iload 5, 2) := by decide +kernel
theorem dX7_add_61 : decode cX7_add 61 = .ok (.ifCond .eq 9, 3) := by decide +kernel
theorem dX7_add_64 : decode cX7_add 64 = .ok (.aload_n 0, 1) := by decide +kernel
theorem dX7_add_65 : decode cX7_add 65 = .ok (.iload 6, 2) := by decide +kernel
theorem dX7_add_67 : decode cX7_add 67 = .ok (.putfield 33, 3) := by decide +kernel
theorem dX7_add_70 : decode cX7_add 70 = .ok (.iconst 0, 1) := by decide +kernel
theorem dX7_add_71 : decode cX7_add 71 = .ok (.istore 7, 2) := by decide +kernel
theorem dX7_add_73 : decode cX7_add 73 = .ok (.iload 7, 2) := by decide +kernel
theorem dX7_add_75 : decode cX7_add 75 = .ok (.iload 4, 2) := by decide +kernel
theorem dX7_add_77 : decode cX7_add 77 = .ok (.if_icmp .ge 46, 3) := by decide +kernel
theorem dX7_add_80 : decode cX7_add 80 = .ok (.aload_n 0, 1) := by decide +kernel
theorem dX7_add_81 : decode cX7_add 81 = .ok (.getfield 13, 3) := by decide +kernel
theorem dX7_add_84 : decode cX7_add 84 = .ok (.iload_n 3, 1) := by decide +kernel
theorem dX7_add_85 : decode cX7_add 85 = .ok (.iload 7, 2) := by decide +kernel
theorem dX7_add_87 : decode cX7_add 87 = .ok (.iadd, 1) := by decide +kernel
theorem dX7_add_88 : decode cX7_add 88 = .ok (.baload, 1) := by decide +kernel
theorem dX7_add_89 : decode cX7_add 89 = .ok (.ifCond .ne 18, 3) := by decide +kernel
theorem dX7_add_92 : decode cX7_add 92 = .ok (.aload_n 0, 1) := by decide +kernel
theorem dX7_add_93 : decode cX7_add 93 = .ok (.getfield 9, 3) := by decide +kernel
theorem dX7_add_96 : decode cX7_add 96 = .ok (.iload_n 3, 1) := by decide +kernel
theorem dX7_add_97 : decode cX7_add 97 = .ok (.iload 7, 2) := by decide +kernel
theorem dX7_add_99 : decode cX7_add 99 = .ok (.iadd, 1) := by decide +kernel
theorem dX7_add_100 : decode cX7_add 100 = .ok (.aload_n 1, 1) := by decide +kernel
theorem dX7_add_101 : decode cX7_add 101 = .ok (.iload_n 2, 1) := by decide +kernel
theorem dX7_add_102 : decode cX7_add 102 = .ok (.iload 7, 2) := by decide +kernel
theorem dX7_add_104 : decode cX7_add 104 = .ok (.iadd, 1) := by decide +kernel
theorem dX7_add_105 : decode cX7_add 105 = .ok (.baload, 1) := by decide +kernel
theorem dX7_add_106 : decode cX7_add 106 = .ok (.bastore, 1) := by decide +kernel
theorem dX7_add_107 : decode cX7_add 107 = .ok (.aload_n 0, 1) := by decide +kernel
theorem dX7_add_108 : decode cX7_add 108 = .ok (.getfield 13, 3) := by decide +kernel
theorem dX7_add_111 : decode cX7_add 111 = .ok (.iload_n 3, 1) := by decide +kernel
theorem dX7_add_112 : decode cX7_add 112 = .ok (.iload 7, 2) := by decide +kernel
theorem dX7_add_114 : decode cX7_add 114 = .ok (.iadd, 1) := by decide +kernel
theorem dX7_add_115 : decode cX7_add 115 = .ok (.iconst 1, 1) := by decide +kernel
theorem dX7_add_116 : decode cX7_add 116 = .ok (.bastore, 1) := by decide +kernel
theorem dX7_add_117 : decode cX7_add 117 = .ok (.iinc 7 1, 3) := by decide +kernel
theorem dX7_add_120 : decode cX7_add 120 = .ok (.goto (-47), 3) := by decide +kernel
theorem dX7_add_123 : decode cX7_add 123 = .ok (.aload_n 0, 1) := by decide +kernel
theorem dX7_add_124 : decode cX7_add 124 = .ok (.aload_n 0, 1) := by decide +kernel
theorem dX7_add_125 : decode cX7_add 125 = .ok (.getfield 30, 3) := by decide +kernel
theorem dX7_add_128 : decode cX7_add 128 = .ok (.iload 6, 2) := by decide +kernel
theorem dX7_add_130 : decode cX7_add 130 = .ok (.invokestatic 36, 3) := by decide +kernel
theorem dX7_add_133 : decode cX7_add 133 = .ok (.putfield 30, 3) := by decide +kernel
theorem dX7_add_136 : decode cX7_add 136 = .ok (.iconst 1, 1) := by decide +kernel
theorem dX7_add_137 : decode cX7_add 137 = .ok (.ireturn, 1) := by decide +kernel
def rmX7_add : Room := { frames := 1, cells := 0, slots := 0, locals := 23 }
theorem kX7_add : yX7_add.cls = "WebHost$Making" ∧ yX7_add.cls ≠ "java/lang/invoke/MethodHandle" ∧ yX7_add.cls ≠ "java/lang/invoke/VarHandle" ∧ (parseMethodDescriptor yX7_add.desc).map (fun d => d.parameters.length) = some 5 := by decide +kernel
def w7_add_L73 (o0 : Nat) (k1 : Nat) (i1 : Nat) (x2 : Int32) (x3 : Int32) (x4 : Int32) (x6 : Int32) (Q : Int32 → St → Prop) (K123 : St → Prop) : Nat → St → Int32 → Prop
  | 0, _, _ => False
  | n + 1, σ, x7 => (x4 ≤ x7 → K123 σ) ∧ (¬ x4 ≤ x7 → (vp_in (x3 + x7) 4096 ∧ (bo (σ 39 o0 (x3 + x7).toNatClampNeg) → ((¬ (σ 39 o0 (x3 + x7).toNatClampNeg) = 0 → (vp_in (x3 + x7) 4096 ∧ (∀ σ1, σ1 = up3 σ 39 o0 (x3 + x7).toNatClampNeg 1 → (w7_add_L73 o0 k1 i1 x2 x3 x4 x6 Q K123 n σ1 (x7 + 1))))) ∧ ((σ 39 o0 (x3 + x7).toNatClampNeg) = 0 → (vp_in (x2 + x7) (alen σ k1 i1) ∧ (by8 (σ k1 i1 (x2 + x7).toNatClampNeg) → (vp_in (x3 + x7) 4096 ∧ (∀ σ2, σ2 = up3 σ 38 o0 (x3 + x7).toNatClampNeg (σ k1 i1 (x2 + x7).toNatClampNeg).toInt8.toInt32 → (vp_in (x3 + x7) 4096 ∧ (∀ σ3, σ3 = up3 σ2 39 o0 (x3 + x7).toNatClampNeg 1 → (w7_add_L73 o0 k1 i1 x2 x3 x4 x6 Q K123 n σ3 (x7 + 1)))))))))))))
set_option maxHeartbeats 4000000 in
theorem k7_add_L73 {p : Program} {l : Launch} {e : Env} {s : State} {m : MethodId} {args : Array Value} {below : List Frame} {meth : Method} {c : Code} {G : Gh} {a1 : Nat → Nat → Nat} {τ : St} {Q : Int32 → St → Prop} {K123 : St → Prop} (C : Cx p e s m args meth c cX7_add 8 (some .boolean) "WebHost$Making" G) (o0 : Nat) (k1 : Nat) (i1 : Nat) (x2 : Int32) (x3 : Int32) (x4 : Int32) (x6 : Int32) (ho0 : o0 < 4) (hk1 : abc k1 i1 = true) :
    ∀ (n : Nat) (σ : St) (x7 : Int32), w7_add_L73 o0 k1 i1 x2 x3 x4 x6 Q K123 n σ x7 → ∀ (H : Heap) (locs : List Loc) (ls : Array Slot), Hd G a1 (cmb σ τ) H → va_S (gA G) s.heap H locs → lv_has ls 8 [(0, .ref (ga G 7 o0)), (1, .ref (adr G a1 k1 i1)), (2, .int x2), (3, .int x3), (4, .int x4), (6, .int x6), (7, .int x7)] → (∀ (σ : St) , K123 σ → ∀ (H : Heap) (locs : List Loc) (ls : Array Slot), Hd G a1 (cmb σ τ) H → va_S (gA G) s.heap H locs → lv_has ls 8 [(0, .ref (ga G 7 o0)), (6, .int x6)] → W p l e rmX7_add s m args below meth c H locs 0 0 (MQ below (QIs G a1 (fun u => cmb u τ) Q) args s 0 0 (gA G)) (F0 m 123 ls [])) → W p l e rmX7_add s m args below meth c H locs 0 0 (MQ below (QIs G a1 (fun u => cmb u τ) Q) args s 0 0 (gA G)) (F0 m 73 ls []) := by
  have hx := C.1
  have hb := C.2.1
  have hown := C.2.2.2.2.2.1
  have hts := C.2.2.2.2.2.2.1
  intro n
  induction n with
  | zero =>
    intro σ x7 hw
    exact False.elim hw
  | succ n ih =>
    intro σ x7 hw H locs ls hH hS hl hK123
    refine lv_iload hx hb dX7_add_73 (lv_at hl 6 rfl) ?_
    refine lv_iload hx hb dX7_add_75 (lv_at hl 4 rfl) ?_
    refine lv_icmp_ge (tgt := 123) hx hb dX7_add_77 (by decide) (fun h => ?_) (fun h => ?_)
    · have hw := hw.1 h
      exact hK123 σ hw H locs ls hH hS (lv_sub hl [0, 5] rfl)
    have hw := hw.2 h
    refine lv_aload_n hx hb dX7_add_80 rfl (lv_at hl 0 rfl) ?_
    refine g7_5 C hH ho0 q364 dX7_add_81 ?_
    refine lv_iload_n hx hb dX7_add_84 rfl (lv_at hl 3 rfl) ?_
    refine lv_iload hx hb dX7_add_85 (lv_at hl 6 rfl) ?_
    refine lv_iadd hx hb dX7_add_87 ?_
    refine l39 C hH ho0 hw.1 dX7_add_88 (fun hz => ?_)
    have hw := hw.2 hz
    refine lv_if_ne (tgt := 107) hx hb dX7_add_89 (by decide) (fun h => ?_) (fun h => ?_)
    · have hw := hw.1 h
      refine lv_aload_n hx hb dX7_add_107 rfl (lv_at hl 0 rfl) ?_
      refine g7_5 C hH ho0 q364 dX7_add_108 ?_
      refine lv_iload_n hx hb dX7_add_111 rfl (lv_at hl 3 rfl) ?_
      refine lv_iload hx hb dX7_add_112 (lv_at hl 6 rfl) ?_
      refine lv_iadd hx hb dX7_add_114 ?_
      refine lv_iconst (v := 1) hx hb dX7_add_115 (by decide) ?_
      refine s39 C hH hS ho0 hw.1 (Or.inr rfl) dX7_add_116 (fun σ1 e1 H locs hH hS => ?_)
      have hw := hw.2 σ1 e1
      refine lv_iinc (v := x7 + 1) (lv' := [(7, .int (x7 + 1)), (0, .ref (ga G 7 o0)), (1, .ref (adr G a1 k1 i1)), (2, .int x2), (3, .int x3), (4, .int x4), (6, .int x6)]) hx hb dX7_add_117 hl (k := 6) rfl rfl (by decide) rfl (fun ls hl => ?_)
      refine lv_goto (tgt := 73) hx hb dX7_add_120 (by decide) ?_
      exact ih σ1 (x7 + 1) hw H locs ls hH hS (lv_sub hl [1, 2, 3, 4, 5, 6, 0] rfl) hK123
    have hw := hw.2 h
    refine lv_aload_n hx hb dX7_add_92 rfl (lv_at hl 0 rfl) ?_
    refine g7_4 C hH ho0 q362 dX7_add_93 ?_
    refine lv_iload_n hx hb dX7_add_96 rfl (lv_at hl 3 rfl) ?_
    refine lv_iload hx hb dX7_add_97 (lv_at hl 6 rfl) ?_
    refine lv_iadd hx hb dX7_add_99 ?_
    refine lv_aload_n hx hb dX7_add_100 rfl (lv_at hl 1 rfl) ?_
    refine lv_iload_n hx hb dX7_add_101 rfl (lv_at hl 2 rfl) ?_
    refine lv_iload hx hb dX7_add_102 (lv_at hl 6 rfl) ?_
    refine lv_iadd hx hb dX7_add_104 ?_
    refine lb_c C hH hk1 rfl hw.1 dX7_add_105 (fun hz => ?_)
    have hw := hw.2 hz
    refine s38 C hH hS ho0 hw.1 dX7_add_106 (fun σ2 e2 H locs hH hS => ?_)
    have hw := hw.2 σ2 e2
    refine lv_aload_n hx hb dX7_add_107 rfl (lv_at hl 0 rfl) ?_
    refine g7_5 C hH ho0 q364 dX7_add_108 ?_
    refine lv_iload_n hx hb dX7_add_111 rfl (lv_at hl 3 rfl) ?_
    refine lv_iload hx hb dX7_add_112 (lv_at hl 6 rfl) ?_
    refine lv_iadd hx hb dX7_add_114 ?_
    refine lv_iconst (v := 1) hx hb dX7_add_115 (by decide) ?_
    refine s39 C hH hS ho0 hw.1 (Or.inr rfl) dX7_add_116 (fun σ3 e3 H locs hH hS => ?_)
    have hw := hw.2 σ3 e3
    refine lv_iinc (v := x7 + 1) (lv' := [(7, .int (x7 + 1)), (0, .ref (ga G 7 o0)), (1, .ref (adr G a1 k1 i1)), (2, .int x2), (3, .int x3), (4, .int x4), (6, .int x6)]) hx hb dX7_add_117 hl (k := 6) rfl rfl (by decide) rfl (fun ls hl => ?_)
    refine lv_goto (tgt := 73) hx hb dX7_add_120 (by decide) ?_
    exact ih σ3 (x7 + 1) hw H locs ls hH hS (lv_sub hl [1, 2, 3, 4, 5, 6, 0] rfl) hK123
def w7_add_J43 (σ : St) (o0 : Nat) (k1 : Nat) (i1 : Nat) (x2 : Int32) (x3 : Int32) (x4 : Int32) (x5 : Int32) (x6 : Int32) (Q : Int32 → St → Prop) : Prop := (x5 = 0 → ((x5 = 0 → (∃ z4, w7_add_L73 o0 k1 i1 x2 x3 x4 x6 Q (fun σ5 => ∀ σ6, σ6 = up3 σ5 7 o0 6 (imax (σ5 7 o0 6) x6) → (Q 1 σ6)) z4 σ 0)) ∧ (¬ x5 = 0 → (∀ σ7, σ7 = up3 σ 7 o0 7 x6 → (∃ z8, w7_add_L73 o0 k1 i1 x2 x3 x4 x6 Q (fun σ9 => ∀ σ10, σ10 = up3 σ9 7 o0 6 (imax (σ9 7 o0 6) x6) → (Q 1 σ10)) z8 σ7 0))))) ∧ (¬ x5 = 0 → (((σ 7 o0 6) ≤ x6 → ((x5 = 0 → (∃ z11, w7_add_L73 o0 k1 i1 x2 x3 x4 x6 Q (fun σ12 => ∀ σ13, σ13 = up3 σ12 7 o0 6 (imax (σ12 7 o0 6) x6) → (Q 1 σ13)) z11 σ 0)) ∧ (¬ x5 = 0 → (∀ σ14, σ14 = up3 σ 7 o0 7 x6 → (∃ z15, w7_add_L73 o0 k1 i1 x2 x3 x4 x6 Q (fun σ16 => ∀ σ17, σ17 = up3 σ16 7 o0 6 (imax (σ16 7 o0 6) x6) → (Q 1 σ17)) z15 σ14 0))))) ∧ (¬ (σ 7 o0 6) ≤ x6 → Q 0 σ)))
set_option maxHeartbeats 4000000 in
theorem k7_add_J43 {p : Program} {l : Launch} {e : Env} {s : State} {m : MethodId} {args : Array Value} {below : List Frame} {meth : Method} {c : Code} {G : Gh} {a1 : Nat → Nat → Nat} {τ : St} {Q : Int32 → St → Prop} (C : Cx p e s m args meth c cX7_add 8 (some .boolean) "WebHost$Making" G) (σ : St) (o0 : Nat) (k1 : Nat) (i1 : Nat) (x2 : Int32) (x3 : Int32) (x4 : Int32) (x5 : Int32) (x6 : Int32) (ho0 : o0 < 4) (hk1 : abc k1 i1 = true) (hw : w7_add_J43 σ o0 k1 i1 x2 x3 x4 x5 x6 Q) (H : Heap) (locs : List Loc) (ls : Array Slot) (hH : Hd G a1 (cmb σ τ) H) (hS : va_S (gA G) s.heap H locs) (hl : lv_has ls 8 [(0, .ref (ga G 7 o0)), (1, .ref (adr G a1 k1 i1)), (2, .int x2), (3, .int x3), (4, .int x4), (5, .int x5), (6, .int x6)]) : W p l e rmX7_add s m args below meth c H locs 0 0 (MQ below (QIs G a1 (fun u => cmb u τ) Q) args s 0 0 (gA G)) (F0 m 43 ls []) := by
  have hx := C.1
  have hb := C.2.1
  have hown := C.2.2.2.2.2.1
  have hts := C.2.2.2.2.2.2.1
  refine lv_iload hx hb dX7_add_43 (lv_at hl 5 rfl) ?_
  refine lv_if_eq (tgt := 59) hx hb dX7_add_45 (by decide) (fun h => ?_) (fun h => ?_)
  · have hw := hw.1 h
    refine lv_iload hx hb dX7_add_59 (lv_at hl 5 rfl) ?_
    refine lv_if_eq (tgt := 70) hx hb dX7_add_61 (by decide) (fun h => ?_) (fun h => ?_)
    · have hw := hw.1 h
      refine lv_iconst (v := 0) hx hb dX7_add_70 (by decide) ?_
      refine lv_istore (lv' := [(7, .int 0), (0, .ref (ga G 7 o0)), (1, .ref (adr G a1 k1 i1)), (2, .int x2), (3, .int x3), (4, .int x4), (5, .int x5), (6, .int x6)]) hx hb dX7_add_71 hl (by decide) rfl (fun ls hl => ?_)
      obtain ⟨n4, hw⟩ := hw
      refine k7_add_L73 C o0 k1 i1 x2 x3 x4 x6 ho0 hk1 n4 σ 0 hw H locs ls hH hS (lv_sub hl [1, 2, 3, 4, 5, 7, 0] rfl) (fun σ5 hw H locs ls hH hS hl => ?_)
      refine lv_aload_n hx hb dX7_add_123 rfl (lv_at hl 0 rfl) ?_
      refine lv_aload_n hx hb dX7_add_124 rfl (lv_at hl 0 rfl) ?_
      refine g7_6 C hH ho0 q365 dX7_add_125 ?_
      refine lv_iload hx hb dX7_add_128 (lv_at hl 1 rfl) ?_
      refine r_imax C hl.1 q1591 (Nat.le_of_ble_eq_true rfl) (Nat.le_of_ble_eq_true rfl) (Nat.zero_le _) (Nat.zero_le _) dX7_add_130 ?_
      refine p7_6 C hH hS ho0 q365 dX7_add_133 (fun σ6 e6 H locs hH hS => ?_)
      have hw := hw σ6 e6
      refine lv_iconst (v := 1) hx hb dX7_add_136 (by decide) ?_
      exact rt_i C rfl hH hS hw dX7_add_137
    have hw := hw.2 h
    refine lv_aload_n hx hb dX7_add_64 rfl (lv_at hl 0 rfl) ?_
    refine lv_iload hx hb dX7_add_65 (lv_at hl 6 rfl) ?_
    refine p7_7 C hH hS ho0 q366 dX7_add_67 (fun σ7 e7 H locs hH hS => ?_)
    have hw := hw σ7 e7
    refine lv_iconst (v := 0) hx hb dX7_add_70 (by decide) ?_
    refine lv_istore (lv' := [(7, .int 0), (0, .ref (ga G 7 o0)), (1, .ref (adr G a1 k1 i1)), (2, .int x2), (3, .int x3), (4, .int x4), (5, .int x5), (6, .int x6)]) hx hb dX7_add_71 hl (by decide) rfl (fun ls hl => ?_)
    obtain ⟨n8, hw⟩ := hw
    refine k7_add_L73 C o0 k1 i1 x2 x3 x4 x6 ho0 hk1 n8 σ7 0 hw H locs ls hH hS (lv_sub hl [1, 2, 3, 4, 5, 7, 0] rfl) (fun σ9 hw H locs ls hH hS hl => ?_)
    refine lv_aload_n hx hb dX7_add_123 rfl (lv_at hl 0 rfl) ?_
    refine lv_aload_n hx hb dX7_add_124 rfl (lv_at hl 0 rfl) ?_
    refine g7_6 C hH ho0 q365 dX7_add_125 ?_
    refine lv_iload hx hb dX7_add_128 (lv_at hl 1 rfl) ?_
    refine r_imax C hl.1 q1591 (Nat.le_of_ble_eq_true rfl) (Nat.le_of_ble_eq_true rfl) (Nat.zero_le _) (Nat.zero_le _) dX7_add_130 ?_
    refine p7_6 C hH hS ho0 q365 dX7_add_133 (fun σ10 e10 H locs hH hS => ?_)
    have hw := hw σ10 e10
    refine lv_iconst (v := 1) hx hb dX7_add_136 (by decide) ?_
    exact rt_i C rfl hH hS hw dX7_add_137
  have hw := hw.2 h
  refine lv_aload_n hx hb dX7_add_48 rfl (lv_at hl 0 rfl) ?_
  refine g7_6 C hH ho0 q365 dX7_add_49 ?_
  refine lv_iload hx hb dX7_add_52 (lv_at hl 6 rfl) ?_
  refine lv_icmp_le (tgt := 59) hx hb dX7_add_54 (by decide) (fun h => ?_) (fun h => ?_)
  · have hw := hw.1 h
    refine lv_iload hx hb dX7_add_59 (lv_at hl 5 rfl) ?_
    refine lv_if_eq (tgt := 70) hx hb dX7_add_61 (by decide) (fun h => ?_) (fun h => ?_)
    · have hw := hw.1 h
      refine lv_iconst (v := 0) hx hb dX7_add_70 (by decide) ?_
      refine lv_istore (lv' := [(7, .int 0), (0, .ref (ga G 7 o0)), (1, .ref (adr G a1 k1 i1)), (2, .int x2), (3, .int x3), (4, .int x4), (5, .int x5), (6, .int x6)]) hx hb dX7_add_71 hl (by decide) rfl (fun ls hl => ?_)
      obtain ⟨n11, hw⟩ := hw
      refine k7_add_L73 C o0 k1 i1 x2 x3 x4 x6 ho0 hk1 n11 σ 0 hw H locs ls hH hS (lv_sub hl [1, 2, 3, 4, 5, 7, 0] rfl) (fun σ12 hw H locs ls hH hS hl => ?_)
      refine lv_aload_n hx hb dX7_add_123 rfl (lv_at hl 0 rfl) ?_
      refine lv_aload_n hx hb dX7_add_124 rfl (lv_at hl 0 rfl) ?_
      refine g7_6 C hH ho0 q365 dX7_add_125 ?_
      refine lv_iload hx hb dX7_add_128 (lv_at hl 1 rfl) ?_
      refine r_imax C hl.1 q1591 (Nat.le_of_ble_eq_true rfl) (Nat.le_of_ble_eq_true rfl) (Nat.zero_le _) (Nat.zero_le _) dX7_add_130 ?_
      refine p7_6 C hH hS ho0 q365 dX7_add_133 (fun σ13 e13 H locs hH hS => ?_)
      have hw := hw σ13 e13
      refine lv_iconst (v := 1) hx hb dX7_add_136 (by decide) ?_
      exact rt_i C rfl hH hS hw dX7_add_137
    have hw := hw.2 h
    refine lv_aload_n hx hb dX7_add_64 rfl (lv_at hl 0 rfl) ?_
    refine lv_iload hx hb dX7_add_65 (lv_at hl 6 rfl) ?_
    refine p7_7 C hH hS ho0 q366 dX7_add_67 (fun σ14 e14 H locs hH hS => ?_)
    have hw := hw σ14 e14
    refine lv_iconst (v := 0) hx hb dX7_add_70 (by decide) ?_
    refine lv_istore (lv' := [(7, .int 0), (0, .ref (ga G 7 o0)), (1, .ref (adr G a1 k1 i1)), (2, .int x2), (3, .int x3), (4, .int x4), (5, .int x5), (6, .int x6)]) hx hb dX7_add_71 hl (by decide) rfl (fun ls hl => ?_)
    obtain ⟨n15, hw⟩ := hw
    refine k7_add_L73 C o0 k1 i1 x2 x3 x4 x6 ho0 hk1 n15 σ14 0 hw H locs ls hH hS (lv_sub hl [1, 2, 3, 4, 5, 7, 0] rfl) (fun σ16 hw H locs ls hH hS hl => ?_)
    refine lv_aload_n hx hb dX7_add_123 rfl (lv_at hl 0 rfl) ?_
    refine lv_aload_n hx hb dX7_add_124 rfl (lv_at hl 0 rfl) ?_
    refine g7_6 C hH ho0 q365 dX7_add_125 ?_
    refine lv_iload hx hb dX7_add_128 (lv_at hl 1 rfl) ?_
    refine r_imax C hl.1 q1591 (Nat.le_of_ble_eq_true rfl) (Nat.le_of_ble_eq_true rfl) (Nat.zero_le _) (Nat.zero_le _) dX7_add_130 ?_
    refine p7_6 C hH hS ho0 q365 dX7_add_133 (fun σ17 e17 H locs hH hS => ?_)
    have hw := hw σ17 e17
    refine lv_iconst (v := 1) hx hb dX7_add_136 (by decide) ?_
    exact rt_i C rfl hH hS hw dX7_add_137
  have hw := hw.2 h
  refine lv_iconst (v := 0) hx hb dX7_add_57 (by decide) ?_
  exact rt_i C rfl hH hS hw dX7_add_58
def w7_add (σ : St) (o0 : Nat) (k1 : Nat) (i1 : Nat) (x2 : Int32) (x3 : Int32) (x4 : Int32) (x5 : Int32) (Q : Int32 → St → Prop) : Prop := (x5 = 0 → (((σ 7 o0 7) < 0 → (w7_add_J43 σ o0 k1 i1 x2 x3 x4 x5 (x3 + x4) Q)) ∧ (¬ (σ 7 o0 7) < 0 → (((σ 7 o0 7) < (x3 + x4) → Q 0 σ) ∧ (¬ (σ 7 o0 7) < (x3 + x4) → (w7_add_J43 σ o0 k1 i1 x2 x3 x4 x5 (x3 + x4) Q)))))) ∧ (¬ x5 = 0 → (((σ 7 o0 7) < 0 → (((σ 7 o0 7) < 0 → (w7_add_J43 σ o0 k1 i1 x2 x3 x4 x5 (x3 + x4) Q)) ∧ (¬ (σ 7 o0 7) < 0 → (((σ 7 o0 7) < (x3 + x4) → Q 0 σ) ∧ (¬ (σ 7 o0 7) < (x3 + x4) → (w7_add_J43 σ o0 k1 i1 x2 x3 x4 x5 (x3 + x4) Q)))))) ∧ (¬ (σ 7 o0 7) < 0 → ((¬ (σ 7 o0 7) = (x3 + x4) → Q 0 σ) ∧ ((σ 7 o0 7) = (x3 + x4) → (((σ 7 o0 7) < 0 → (w7_add_J43 σ o0 k1 i1 x2 x3 x4 x5 (x3 + x4) Q)) ∧ (¬ (σ 7 o0 7) < 0 → (((σ 7 o0 7) < (x3 + x4) → Q 0 σ) ∧ (¬ (σ 7 o0 7) < (x3 + x4) → (w7_add_J43 σ o0 k1 i1 x2 x3 x4 x5 (x3 + x4) Q))))))))))
set_option maxHeartbeats 4000000 in
theorem m7_add (l : Launch) (G : Gh) (a1 : Nat → Nat → Nat) (τ : St) (σ : St) (o0 : Nat) (k1 : Nat) (i1 : Nat) (x2 : Int32) (x3 : Int32) (x4 : Int32) (x5 : Int32) (ho0 : o0 < 4) (hk1 : abc k1 i1 = true) (Q : Int32 → St → Prop) (hw : w7_add σ o0 k1 i1 x2 x3 x4 x5 Q) : Met l yX7_add (ws_ yX7_add cX7_add 8 (some .boolean)) rmX7_add (PcS G a1 (cmb σ τ) [.ref (ga G 7 o0), .ref (adr G a1 k1 i1), .int x2, .int x3, .int x4, .int x5]) (QIs G a1 (fun u => cmb u τ) Q) 0 0 (gA G) := by
  refine met_w (by decide) (Nat.le_of_ble_eq_true rfl) ?_
  intro p e s m below meth c ls C hH hS hl
  have C : Cx p e s m _ meth c cX7_add 8 (some .boolean) "WebHost$Making" G := C
  have hl : lv_has ls 8 [(0, .ref (ga G 7 o0)), (1, .ref (adr G a1 k1 i1)), (2, .int x2), (3, .int x3), (4, .int x4), (5, .int x5)] := hl
  have hx := C.1
  have hb := C.2.1
  have hown := C.2.2.2.2.2.1
  have hts := C.2.2.2.2.2.2.1
  obtain ⟨locs, hlocs⟩ : ∃ z : List Loc, z = [] := ⟨_, rfl⟩
  obtain ⟨H, hHe⟩ : ∃ z : Heap, z = s.heap := ⟨_, rfl⟩
  have hH : Hd G a1 (cmb σ τ) H := by rw [hHe]; exact hH
  have hS : va_S (gA G) s.heap H locs := by rw [hHe, hlocs]; exact hS
  refine W.heap0 hHe.symm hlocs.symm ?_
  refine lv_iload_n hx hb dX7_add_0 rfl (lv_at hl 3 rfl) ?_
  refine lv_iload hx hb dX7_add_1 (lv_at hl 4 rfl) ?_
  refine lv_iadd hx hb dX7_add_3 ?_
  refine lv_istore (lv' := [(6, .int (x3 + x4)), (0, .ref (ga G 7 o0)), (1, .ref (adr G a1 k1 i1)), (2, .int x2), (3, .int x3), (4, .int x4), (5, .int x5)]) hx hb dX7_add_4 hl (by decide) rfl (fun ls hl => ?_)
  refine lv_iload hx hb dX7_add_6 (lv_at hl 6 rfl) ?_
  refine lv_if_eq (tgt := 27) hx hb dX7_add_8 (by decide) (fun h => ?_) (fun h => ?_)
  · have hw := hw.1 h
    refine lv_aload_n hx hb dX7_add_27 rfl (lv_at hl 1 rfl) ?_
    refine g7_7 C hH ho0 q366 dX7_add_28 ?_
    refine lv_if_lt (tgt := 43) hx hb dX7_add_31 (by decide) (fun h => ?_) (fun h => ?_)
    · have hw := hw.1 h
      exact k7_add_J43 C σ o0 k1 i1 x2 x3 x4 x5 (x3 + x4) ho0 hk1 hw H locs ls hH hS (lv_sub hl [1, 2, 3, 4, 5, 6, 0] rfl)
    have hw := hw.2 h
    refine lv_iload hx hb dX7_add_34 (lv_at hl 0 rfl) ?_
    refine lv_aload_n hx hb dX7_add_36 rfl (lv_at hl 1 rfl) ?_
    refine g7_7 C hH ho0 q366 dX7_add_37 ?_
    refine lv_icmp_gt (tgt := 57) hx hb dX7_add_40 (by decide) (fun h => ?_) (fun h => ?_)
    · have hw := hw.1 h
      refine lv_iconst (v := 0) hx hb dX7_add_57 (by decide) ?_
      exact rt_i C rfl hH hS hw dX7_add_58
    have hw := hw.2 h
    exact k7_add_J43 C σ o0 k1 i1 x2 x3 x4 x5 (x3 + x4) ho0 hk1 hw H locs ls hH hS (lv_sub hl [1, 2, 3, 4, 5, 6, 0] rfl)
  have hw := hw.2 h
  refine lv_aload_n hx hb dX7_add_11 rfl (lv_at hl 1 rfl) ?_
  refine g7_7 C hH ho0 q366 dX7_add_12 ?_
  refine lv_if_lt (tgt := 27) hx hb dX7_add_15 (by decide) (fun h => ?_) (fun h => ?_)
  · have hw := hw.1 h
    refine lv_aload_n hx hb dX7_add_27 rfl (lv_at hl 1 rfl) ?_
    refine g7_7 C hH ho0 q366 dX7_add_28 ?_
    refine lv_if_lt (tgt := 43) hx hb dX7_add_31 (by decide) (fun h => ?_) (fun h => ?_)
    · have hw := hw.1 h
      exact k7_add_J43 C σ o0 k1 i1 x2 x3 x4 x5 (x3 + x4) ho0 hk1 hw H locs ls hH hS (lv_sub hl [1, 2, 3, 4, 5, 6, 0] rfl)
    have hw := hw.2 h
    refine lv_iload hx hb dX7_add_34 (lv_at hl 0 rfl) ?_
    refine lv_aload_n hx hb dX7_add_36 rfl (lv_at hl 1 rfl) ?_
    refine g7_7 C hH ho0 q366 dX7_add_37 ?_
    refine lv_icmp_gt (tgt := 57) hx hb dX7_add_40 (by decide) (fun h => ?_) (fun h => ?_)
    · have hw := hw.1 h
      refine lv_iconst (v := 0) hx hb dX7_add_57 (by decide) ?_
      exact rt_i C rfl hH hS hw dX7_add_58
    have hw := hw.2 h
    exact k7_add_J43 C σ o0 k1 i1 x2 x3 x4 x5 (x3 + x4) ho0 hk1 hw H locs ls hH hS (lv_sub hl [1, 2, 3, 4, 5, 6, 0] rfl)
  have hw := hw.2 h
  refine lv_aload_n hx hb dX7_add_18 rfl (lv_at hl 1 rfl) ?_
  refine g7_7 C hH ho0 q366 dX7_add_19 ?_
  refine lv_iload hx hb dX7_add_22 (lv_at hl 0 rfl) ?_
  refine lv_icmp_ne (tgt := 57) hx hb dX7_add_24 (by decide) (fun h => ?_) (fun h => ?_)
  · have hw := hw.1 h
    refine lv_iconst (v := 0) hx hb dX7_add_57 (by decide) ?_
    exact rt_i C rfl hH hS hw dX7_add_58
  have hw := hw.2 h
  refine lv_aload_n hx hb dX7_add_27 rfl (lv_at hl 1 rfl) ?_
  refine g7_7 C hH ho0 q366 dX7_add_28 ?_
  refine lv_if_lt (tgt := 43) hx hb dX7_add_31 (by decide) (fun h => ?_) (fun h => ?_)
  · have hw := hw.1 h
    exact k7_add_J43 C σ o0 k1 i1 x2 x3 x4 x5 (x3 + x4) ho0 hk1 hw H locs ls hH hS (lv_sub hl [1, 2, 3, 4, 5, 6, 0] rfl)
  have hw := hw.2 h
  refine lv_iload hx hb dX7_add_34 (lv_at hl 0 rfl) ?_
  refine lv_aload_n hx hb dX7_add_36 rfl (lv_at hl 1 rfl) ?_
  refine g7_7 C hH ho0 q366 dX7_add_37 ?_
  refine lv_icmp_gt (tgt := 57) hx hb dX7_add_40 (by decide) (fun h => ?_) (fun h => ?_)
  · have hw := hw.1 h
    refine lv_iconst (v := 0) hx hb dX7_add_57 (by decide) ?_
    exact rt_i C rfl hH hS hw dX7_add_58
  have hw := hw.2 h
  exact k7_add_J43 C σ o0 k1 i1 x2 x3 x4 x5 (x3 + x4) ho0 hk1 hw H locs ls hH hS (lv_sub hl [1, 2, 3, 4, 5, 6, 0] rfl)
/-! WebHost$Making.begin(IIII)V -/
abbrev cX7_begin : ByteArray := prog_8_method_2_code
def yX7_begin : MethodName := ⟨RX7, "begin", "(IIII)V"⟩
theorem dX7_begin_0 : decode cX7_begin 0 = .ok (.aload_n 0, 1) := by decide +kernel
theorem dX7_begin_1 : decode cX7_begin 1 = .ok (.iload_n 1, 1) := by decide +kernel
theorem dX7_begin_2 : decode cX7_begin 2 = .ok (.putfield 17, 3) := by decide +kernel
theorem dX7_begin_5 : decode cX7_begin 5 = .ok (.aload_n 0, 1) := by decide +kernel
theorem dX7_begin_6 : decode cX7_begin 6 = .ok (.iload_n 2, 1) := by decide +kernel
theorem dX7_begin_7 : decode cX7_begin 7 = .ok (.putfield 21, 3) := by decide +kernel
theorem dX7_begin_10 : decode cX7_begin 10 = .ok (.aload_n 0, 1) := by decide +kernel
theorem dX7_begin_11 : decode cX7_begin 11 = .ok (.iload_n 3, 1) := by decide +kernel
theorem dX7_begin_12 : decode cX7_begin 12 = .ok (.putfield 24, 3) := by decide +kernel
theorem dX7_begin_15 : decode cX7_begin 15 = .ok (.aload_n 0, 1) := by decide +kernel
theorem dX7_begin_16 : decode cX7_begin 16 = .ok (.iload 4, 2) := by decide +kernel
theorem dX7_begin_18 : decode cX7_begin 18 = .ok (.putfield 27, 3) := by decide +kernel
theorem dX7_begin_21 : decode cX7_begin 21 = .ok (.aload_n 0, 1) := by decide +kernel
theorem dX7_begin_22 : decode cX7_begin 22 = .ok (.iconst 0, 1) := by decide +kernel
theorem dX7_begin_23 : decode cX7_begin 23 = .ok (.putfield 30, 3) := by decide +kernel
theorem dX7_begin_26 : decode cX7_begin 26 = .ok (.aload_n 0, 1) := by decide +kernel
theorem dX7_begin_27 : decode cX7_begin 27 = .ok (.iconst (-1), 1) := by decide +kernel
theorem dX7_begin_28 : decode cX7_begin 28 = .ok (.putfield 33, 3) := by decide +kernel
theorem dX7_begin_31 : decode cX7_begin 31 = .ok (.iconst 0, 1) := by decide +kernel
theorem dX7_begin_32 : decode cX7_begin 32 = .ok (.istore 5, 2) := by decide +kernel
theorem dX7_begin_34 : decode cX7_begin 34 = .ok (.iload 5, 2) := by decide +kernel
theorem dX7_begin_36 : decode cX7_begin 36 = .ok (.sipush 4096, 3) := by decide +kernel
theorem dX7_begin_39 : decode cX7_begin 39 = .ok (.if_icmp .ge 17, 3) := by decide +kernel
theorem dX7_begin_42 : decode cX7_begin 42 = .ok (.aload_n 0, 1) := by decide +kernel
theorem dX7_begin_43 : decode cX7_begin 43 = .ok (.getfield 13, 3) := by decide +kernel
theorem dX7_begin_46 : decode cX7_begin 46 = .ok (.iload 5, 2) := by decide +kernel
theorem dX7_begin_48 : decode cX7_begin 48 = .ok (.iconst 0, 1) := by decide +kernel
theorem dX7_begin_49 : decode cX7_begin 49 = .ok (.bastore, 1) := by decide +kernel
theorem dX7_begin_50 : decode cX7_begin 50 = .ok (.iinc 5 1, 3) := by decide +kernel
theorem dX7_begin_53 : decode cX7_begin 53 = .ok (.goto (-19), 3) := by decide +kernel
theorem dX7_begin_56 : decode cX7_begin 56 = .ok (.return_, 1) := by decide +kernel
def rmX7_begin : Room := { frames := 0, cells := 0, slots := 0, locals := 0 }
theorem kX7_begin : yX7_begin.cls = "WebHost$Making" ∧ yX7_begin.cls ≠ "java/lang/invoke/MethodHandle" ∧ yX7_begin.cls ≠ "java/lang/invoke/VarHandle" ∧ (parseMethodDescriptor yX7_begin.desc).map (fun d => d.parameters.length) = some 4 := by decide +kernel
def w7_begin_L34 (o0 : Nat) (Q : St → Prop) (K56 : St → Prop) : Nat → St → Int32 → Prop
  | 0, _, _ => False
  | n + 1, σ, x5 => (4096 ≤ x5 → K56 σ) ∧ (¬ 4096 ≤ x5 → (vp_in x5 4096 ∧ (∀ σ7, σ7 = up3 σ 39 o0 x5.toNatClampNeg 0 → (w7_begin_L34 o0 Q K56 n σ7 (x5 + 1)))))
set_option maxHeartbeats 4000000 in
theorem k7_begin_L34 {p : Program} {l : Launch} {e : Env} {s : State} {m : MethodId} {args : Array Value} {below : List Frame} {meth : Method} {c : Code} {G : Gh} {a1 : Nat → Nat → Nat} {τ : St} {Q : St → Prop} {K56 : St → Prop} (C : Cx p e s m args meth c cX7_begin 6 none "WebHost$Making" G) (o0 : Nat) (ho0 : o0 < 4) :
    ∀ (n : Nat) (σ : St) (x5 : Int32), w7_begin_L34 o0 Q K56 n σ x5 → ∀ (H : Heap) (locs : List Loc) (ls : Array Slot), Hd G a1 (cmb σ τ) H → va_S (gA G) s.heap H locs → lv_has ls 6 [(0, .ref (ga G 7 o0)), (5, .int x5)] → (∀ (σ : St) , K56 σ → ∀ (H : Heap) (locs : List Loc) (ls : Array Slot), Hd G a1 (cmb σ τ) H → va_S (gA G) s.heap H locs → lv_has ls 6 [] → W p l e rmX7_begin s m args below meth c H locs 0 0 (MQ below (QVs G a1 (fun u => cmb u τ) Q) args s 0 0 (gA G)) (F0 m 56 ls [])) → W p l e rmX7_begin s m args below meth c H locs 0 0 (MQ below (QVs G a1 (fun u => cmb u τ) Q) args s 0 0 (gA G)) (F0 m 34 ls []) := by
  have hx := C.1
  have hb := C.2.1
  have hown := C.2.2.2.2.2.1
  have hts := C.2.2.2.2.2.2.1
  intro n
  induction n with
  | zero =>
    intro σ x5 hw
    exact False.elim hw
  | succ n ih =>
    intro σ x5 hw H locs ls hH hS hl hK56
    refine lv_iload hx hb dX7_begin_34 (lv_at hl 1 rfl) ?_
    refine lv_sipush (v := 4096) hx hb dX7_begin_36 (by decide) ?_
    refine lv_icmp_ge (tgt := 56) hx hb dX7_begin_39 (by decide) (fun h => ?_) (fun h => ?_)
    · have hw := hw.1 h
      exact hK56 σ hw H locs ls hH hS (lv_sub hl [] rfl)
    have hw := hw.2 h
    refine lv_aload_n hx hb dX7_begin_42 rfl (lv_at hl 0 rfl) ?_
    refine g7_5 C hH ho0 q364 dX7_begin_43 ?_
    refine lv_iload hx hb dX7_begin_46 (lv_at hl 1 rfl) ?_
    refine lv_iconst (v := 0) hx hb dX7_begin_48 (by decide) ?_
    refine s39 C hH hS ho0 hw.1 (Or.inl rfl) dX7_begin_49 (fun σ7 e7 H locs hH hS => ?_)
    have hw := hw.2 σ7 e7
    refine lv_iinc (v := x5 + 1) (lv' := [(5, .int (x5 + 1)), (0, .ref (ga G 7 o0))]) hx hb dX7_begin_50 hl (k := 1) rfl rfl (by decide) rfl (fun ls hl => ?_)
    refine lv_goto (tgt := 34) hx hb dX7_begin_53 (by decide) ?_
    exact ih σ7 (x5 + 1) hw H locs ls hH hS (lv_sub hl [1, 0] rfl) hK56
def w7_begin (σ : St) (o0 : Nat) (x1 : Int32) (x2 : Int32) (x3 : Int32) (x4 : Int32) (Q : St → Prop) : Prop := ∀ σ1, σ1 = up3 σ 7 o0 0 x1 → (∀ σ2, σ2 = up3 σ1 7 o0 1 x2 → (∀ σ3, σ3 = up3 σ2 7 o0 2 x3 → (∀ σ4, σ4 = up3 σ3 7 o0 3 x4 → (∀ σ5, σ5 = up3 σ4 7 o0 6 0 → (∀ σ6, σ6 = up3 σ5 7 o0 7 (-1) → (∃ z8, w7_begin_L34 o0 Q (fun σ9 => Q σ9) z8 σ6 0))))))
set_option maxHeartbeats 4000000 in
theorem m7_begin (l : Launch) (G : Gh) (a1 : Nat → Nat → Nat) (τ : St) (σ : St) (o0 : Nat) (x1 : Int32) (x2 : Int32) (x3 : Int32) (x4 : Int32) (ho0 : o0 < 4) (Q : St → Prop) (hw : w7_begin σ o0 x1 x2 x3 x4 Q) : Met l yX7_begin (ws_ yX7_begin cX7_begin 6 none) rmX7_begin (PcS G a1 (cmb σ τ) [.ref (ga G 7 o0), .int x1, .int x2, .int x3, .int x4]) (QVs G a1 (fun u => cmb u τ) Q) 0 0 (gA G) := by
  refine met_w (by decide) (Nat.le_of_ble_eq_true rfl) ?_
  intro p e s m below meth c ls C hH hS hl
  have C : Cx p e s m _ meth c cX7_begin 6 none "WebHost$Making" G := C
  have hl : lv_has ls 6 [(0, .ref (ga G 7 o0)), (1, .int x1), (2, .int x2), (3, .int x3), (4, .int x4)] := hl
  have hx := C.1
  have hb := C.2.1
  have hown := C.2.2.2.2.2.1
  have hts := C.2.2.2.2.2.2.1
  obtain ⟨locs, hlocs⟩ : ∃ z : List Loc, z = [] := ⟨_, rfl⟩
  obtain ⟨H, hHe⟩ : ∃ z : Heap, z = s.heap := ⟨_, rfl⟩
  have hH : Hd G a1 (cmb σ τ) H := by rw [hHe]; exact hH
  have hS : va_S (gA G) s.heap H locs := by rw [hHe, hlocs]; exact hS
  refine W.heap0 hHe.symm hlocs.symm ?_
  refine lv_aload_n hx hb dX7_begin_0 rfl (lv_at hl 0 rfl) ?_
  refine lv_iload_n hx hb dX7_begin_1 rfl (lv_at hl 1 rfl) ?_
  refine p7_0 C hH hS ho0 q354 dX7_begin_2 (fun σ1 e1 H locs hH hS => ?_)
  have hw := hw σ1 e1
  refine lv_aload_n hx hb dX7_begin_5 rfl (lv_at hl 0 rfl) ?_
  refine lv_iload_n hx hb dX7_begin_6 rfl (lv_at hl 2 rfl) ?_
  refine p7_1 C hH hS ho0 q356 dX7_begin_7 (fun σ2 e2 H locs hH hS => ?_)
  have hw := hw σ2 e2
  refine lv_aload_n hx hb dX7_begin_10 rfl (lv_at hl 0 rfl) ?_
  refine lv_iload_n hx hb dX7_begin_11 rfl (lv_at hl 3 rfl) ?_
  refine p7_2 C hH hS ho0 q358 dX7_begin_12 (fun σ3 e3 H locs hH hS => ?_)
  have hw := hw σ3 e3
  refine lv_aload_n hx hb dX7_begin_15 rfl (lv_at hl 0 rfl) ?_
  refine lv_iload hx hb dX7_begin_16 (lv_at hl 4 rfl) ?_
  refine p7_3 C hH hS ho0 q360 dX7_begin_18 (fun σ4 e4 H locs hH hS => ?_)
  have hw := hw σ4 e4
  refine lv_aload_n hx hb dX7_begin_21 rfl (lv_at hl 0 rfl) ?_
  refine lv_iconst (v := 0) hx hb dX7_begin_22 (by decide) ?_
  refine p7_6 C hH hS ho0 q365 dX7_begin_23 (fun σ5 e5 H locs hH hS => ?_)
  have hw := hw σ5 e5
  refine lv_aload_n hx hb dX7_begin_26 rfl (lv_at hl 0 rfl) ?_
  refine lv_iconst (v := (-1)) hx hb dX7_begin_27 (by decide) ?_
  refine p7_7 C hH hS ho0 q366 dX7_begin_28 (fun σ6 e6 H locs hH hS => ?_)
  have hw := hw σ6 e6
  refine lv_iconst (v := 0) hx hb dX7_begin_31 (by decide) ?_
  refine lv_istore (lv' := [(5, .int 0), (0, .ref (ga G 7 o0)), (1, .int x1), (2, .int x2), (3, .int x3), (4, .int x4)]) hx hb dX7_begin_32 hl (by decide) rfl (fun ls hl => ?_)
  obtain ⟨n8, hw⟩ := hw
  refine k7_begin_L34 C o0 ho0 n8 σ6 0 hw H locs ls hH hS (lv_sub hl [1, 0] rfl) (fun σ9 hw H locs ls hH hS hl => ?_)
  exact rt_v C hH hS hw dX7_begin_56
/-! WebHost$Making.isWhole()Z -/
abbrev cX7_isWhole : ByteArray := prog_8_method_4_code
def yX7_isWhole : MethodName := ⟨RX7, "isWhole", "()Z"⟩
theorem dX7_isWhole_0 : decode cX7_isWhole 0 = .ok (.iconst 0, 1) := by decide +kernel
theorem dX7_isWhole_1 : decode cX7_isWhole 1 = .ok (.istore_n 1, 1) := by decide +kernel
theorem dX7_isWhole_2 : decode cX7_isWhole 2 = .ok (.iload_n 1, 1) := by decide +kernel
theorem dX7_isWhole_3 : decode cX7_isWhole 3 = .ok (.aload_n 0, 1) := by decide +kernel
theorem dX7_isWhole_4 : decode cX7_isWhole 4 = .ok (.getfield 33, 3) := by decide +kernel
theorem dX7_isWhole_7 : decode cX7_isWhole 7 = .ok (.if_icmp .ge 20, 3) := by decide +kernel
theorem dX7_isWhole_10 : decode cX7_isWhole 10 = .ok (.aload_n 0, 1) := by decide +kernel
theorem dX7_isWhole_11 : decode cX7_isWhole 11 = .ok (.getfield 13, 3) := by decide +kernel
theorem dX7_isWhole_14 : decode cX7_isWhole 14 = .ok (.iload_n 1, 1) := by decide +kernel
theorem dX7_isWhole_15 : decode cX7_isWhole 15 = .ok (.baload, 1) := by decide +kernel
theorem dX7_isWhole_16 : decode cX7_isWhole 16 = .ok (.ifCond .ne 5, 3) := by decide +kernel
theorem dX7_isWhole_19 : decode cX7_isWhole 19 = .ok (.iconst 0, 1) := by decide +kernel
theorem dX7_isWhole_20 : decode cX7_isWhole 20 = .ok (.ireturn, 1) := by decide +kernel
theorem dX7_isWhole_21 : decode cX7_isWhole 21 = .ok (.iinc 1 1, 3) := by decide +kernel
theorem dX7_isWhole_24 : decode cX7_isWhole 24 = .ok (.goto (-22), 3) := by decide +kernel
theorem dX7_isWhole_27 : decode cX7_isWhole 27 = .ok (.aload_n 0, 1) := by decide +kernel
theorem dX7_isWhole_28 : decode cX7_isWhole 28 = .ok (.getfield 33, 3) := by decide +kernel
theorem dX7_isWhole_31 : decode cX7_isWhole 31 = .ok (.ifCond .lt 7, 3) := by decide +kernel
theorem dX7_isWhole_34 : decode cX7_isWhole 34 = .ok (.iconst 1, 1) := by decide +kernel
theorem dX7_isWhole_35 : decode cX7_isWhole 35 = .ok (.goto 4, 3) := by decide +kernel
theorem dX7_isWhole_38 : decode cX7_isWhole 38 = .ok (.iconst 0, 1) := by decide +kernel
theorem dX7_isWhole_39 : decode cX7_isWhole 39 = .ok (.ireturn, 1) := by decide +kernel
def rmX7_isWhole : Room := { frames := 0, cells := 0, slots := 0, locals := 0 }
theorem kX7_isWhole : yX7_isWhole.cls = "WebHost$Making" ∧ yX7_isWhole.cls ≠ "java/lang/invoke/MethodHandle" ∧ yX7_isWhole.cls ≠ "java/lang/invoke/VarHandle" ∧ (parseMethodDescriptor yX7_isWhole.desc).map (fun d => d.parameters.length) = some 0 := by decide +kernel
def w7_isWhole_L2 (σ : St) (o0 : Nat) (Q : Int32 → Prop) (K19 : Prop) (K27 : Prop) : Nat → Int32 → Prop
  | 0, _ => False
  | n + 1, x1 => ((σ 7 o0 7) ≤ x1 → K27) ∧ (¬ (σ 7 o0 7) ≤ x1 → (vp_in x1 4096 ∧ (bo (σ 39 o0 x1.toNatClampNeg) → ((¬ (σ 39 o0 x1.toNatClampNeg) = 0 → (w7_isWhole_L2 σ o0 Q K19 K27 n (x1 + 1))) ∧ ((σ 39 o0 x1.toNatClampNeg) = 0 → K19)))))
set_option maxHeartbeats 4000000 in
theorem k7_isWhole_L2 {p : Program} {l : Launch} {e : Env} {s : State} {m : MethodId} {args : Array Value} {below : List Frame} {meth : Method} {c : Code} {G : Gh} {a1 : Nat → Nat → Nat} {τ : St} {H : Heap} {Q : Int32 → Prop} {K19 : Prop} {K27 : Prop} (C : Cx p e s m args meth c cX7_isWhole 2 (some .boolean) "WebHost$Making" G) (σ : St) (o0 : Nat) (ho0 : o0 < 4) (hH : Hd G a1 (cmb σ τ) H) :
    ∀ (n : Nat) (x1 : Int32), w7_isWhole_L2 σ o0 Q K19 K27 n x1 → ∀ (locs : List Loc) (ls : Array Slot), va_S (gA G) s.heap H locs → lv_has ls 2 [(0, .ref (ga G 7 o0)), (1, .int x1)] → (K19 → ∀ (locs : List Loc) (ls : Array Slot), va_S (gA G) s.heap H locs → lv_has ls 2 [] → W p l e rmX7_isWhole s m args below meth c H locs 0 0 (MQ below (QIp G H Q) args s 0 0 (gA G)) (F0 m 19 ls [])) → (K27 → ∀ (locs : List Loc) (ls : Array Slot), va_S (gA G) s.heap H locs → lv_has ls 2 [(0, .ref (ga G 7 o0))] → W p l e rmX7_isWhole s m args below meth c H locs 0 0 (MQ below (QIp G H Q) args s 0 0 (gA G)) (F0 m 27 ls [])) → W p l e rmX7_isWhole s m args below meth c H locs 0 0 (MQ below (QIp G H Q) args s 0 0 (gA G)) (F0 m 2 ls []) := by
  have hx := C.1
  have hb := C.2.1
  have hown := C.2.2.2.2.2.1
  have hts := C.2.2.2.2.2.2.1
  intro n
  induction n with
  | zero =>
    intro x1 hw
    exact False.elim hw
  | succ n ih =>
    intro x1 hw locs ls hS hl hK19 hK27
    refine lv_iload_n hx hb dX7_isWhole_2 rfl (lv_at hl 1 rfl) ?_
    refine lv_aload_n hx hb dX7_isWhole_3 rfl (lv_at hl 0 rfl) ?_
    refine g7_7 C hH ho0 q366 dX7_isWhole_4 ?_
    refine lv_icmp_ge (tgt := 27) hx hb dX7_isWhole_7 (by decide) (fun h => ?_) (fun h => ?_)
    · have hw := hw.1 h
      exact hK27 hw locs ls hS (lv_sub hl [0] rfl)
    have hw := hw.2 h
    refine lv_aload_n hx hb dX7_isWhole_10 rfl (lv_at hl 0 rfl) ?_
    refine g7_5 C hH ho0 q364 dX7_isWhole_11 ?_
    refine lv_iload_n hx hb dX7_isWhole_14 rfl (lv_at hl 1 rfl) ?_
    refine l39 C hH ho0 hw.1 dX7_isWhole_15 (fun hz => ?_)
    have hw := hw.2 hz
    refine lv_if_ne (tgt := 21) hx hb dX7_isWhole_16 (by decide) (fun h => ?_) (fun h => ?_)
    · have hw := hw.1 h
      refine lv_iinc (v := x1 + 1) (lv' := [(1, .int (x1 + 1)), (0, .ref (ga G 7 o0))]) hx hb dX7_isWhole_21 hl (k := 1) rfl rfl (by decide) rfl (fun ls hl => ?_)
      refine lv_goto (tgt := 2) hx hb dX7_isWhole_24 (by decide) ?_
      exact ih (x1 + 1) hw locs ls hS (lv_sub hl [1, 0] rfl) hK19 hK27
    have hw := hw.2 h
    exact hK19 hw locs ls hS (lv_sub hl [] rfl)
def w7_isWhole (σ : St) (o0 : Nat) (Q : Int32 → Prop) : Prop := ∃ z1, w7_isWhole_L2 σ o0 Q (Q 0) (((σ 7 o0 7) < 0 → Q 0) ∧ (¬ (σ 7 o0 7) < 0 → Q 1)) z1 0
set_option maxHeartbeats 4000000 in
theorem m7_isWhole (l : Launch) (G : Gh) (a1 : Nat → Nat → Nat) (τ : St) (σ : St) (H : Heap) (o0 : Nat) (ho0 : o0 < 4) (Q : Int32 → Prop) (hw : w7_isWhole σ o0 Q) : Met l yX7_isWhole (ws_ yX7_isWhole cX7_isWhole 2 (some .boolean)) rmX7_isWhole (PcP G a1 (cmb σ τ) H [.ref (ga G 7 o0)]) (QIp G H Q) 0 0 (gA G) := by
  refine met_p (by decide) (Nat.le_of_ble_eq_true rfl) ?_
  intro p e s m below meth c ls hHe C hH hS hl
  have C : Cx p e s m _ meth c cX7_isWhole 2 (some .boolean) "WebHost$Making" G := C
  have hl : lv_has ls 2 [(0, .ref (ga G 7 o0))] := hl
  have hx := C.1
  have hb := C.2.1
  have hown := C.2.2.2.2.2.1
  have hts := C.2.2.2.2.2.2.1
  obtain ⟨locs, hlocs⟩ : ∃ z : List Loc, z = [] := ⟨_, rfl⟩
  rw [← hlocs] at hS ⊢
  refine lv_iconst (v := 0) hx hb dX7_isWhole_0 (by decide) ?_
  refine lv_istore_n (lv' := [(1, .int 0), (0, .ref (ga G 7 o0))]) hx hb dX7_isWhole_1 rfl hl (by decide) rfl (fun ls hl => ?_)
  obtain ⟨n1, hw⟩ := hw
  refine k7_isWhole_L2 C σ o0 ho0 hH n1 0 hw locs ls hS (lv_sub hl [1, 0] rfl) (fun hw locs ls hS hl => ?_) (fun hw locs ls hS hl => ?_)
  · refine lv_iconst (v := 0) hx hb dX7_isWhole_19 (by decide) ?_
    exact rt_ip C rfl hS hw dX7_isWhole_20
  refine lv_aload_n hx hb dX7_isWhole_27 rfl (lv_at hl 0 rfl) ?_
  refine g7_7 C hH ho0 q366 dX7_isWhole_28 ?_
  refine lv_if_lt (tgt := 38) hx hb dX7_isWhole_31 (by decide) (fun h => ?_) (fun h => ?_)
  · have hw := hw.1 h
    refine lv_iconst (v := 0) hx hb dX7_isWhole_38 (by decide) ?_
    exact rt_ip C rfl hS hw dX7_isWhole_39
  have hw := hw.2 h
  refine lv_iconst (v := 1) hx hb dX7_isWhole_34 (by decide) ?_
  refine lv_goto (tgt := 39) hx hb dX7_isWhole_35 (by decide) ?_
  exact rt_ip C rfl hS hw dX7_isWhole_39
/-! WebHost$Wire.begin(I)V -/
abbrev cX8_begin : ByteArray := prog_15_method_2_code
def yX8_begin : MethodName := ⟨RX8, "begin", "(I)V"⟩
theorem dX8_begin_0 : decode cX8_begin 0 = .ok (.aload_n 0, 1) := by decide +kernel
theorem dX8_begin_1 : decode cX8_begin 1 = .ok (.iload_n 1, 1) := by decide +kernel
theorem dX8_begin_2 : decode cX8_begin 2 = .ok (.putfield 19, 3) := by decide +kernel
theorem dX8_begin_5 : decode cX8_begin 5 = .ok (.aload_n 0, 1) := by decide +kernel
theorem dX8_begin_6 : decode cX8_begin 6 = .ok (.iconst 0, 1) := by decide +kernel
theorem dX8_begin_7 : decode cX8_begin 7 = .ok (.putfield 23, 3) := by decide +kernel
theorem dX8_begin_10 : decode cX8_begin 10 = .ok (.aload_n 0, 1) := by decide +kernel
theorem dX8_begin_11 : decode cX8_begin 11 = .ok (.iconst 0, 1) := by decide +kernel
theorem dX8_begin_12 : decode cX8_begin 12 = .ok (.putfield 26, 3) := by decide +kernel
theorem dX8_begin_15 : decode cX8_begin 15 = .ok (.aload_n 0, 1) := by decide +kernel
theorem dX8_begin_16 : decode cX8_begin 16 = .ok (.iconst 0, 1) := by decide +kernel
theorem dX8_begin_17 : decode cX8_begin 17 = .ok (.putfield 29, 3) := by decide +kernel
theorem dX8_begin_20 : decode cX8_begin 20 = .ok (.aload_n 0, 1) := by decide +kernel
theorem dX8_begin_21 : decode cX8_begin 21 = .ok (.iconst 0, 1) := by decide +kernel
theorem dX8_begin_22 : decode cX8_begin 22 = .ok (.putfield 32, 3) := by decide +kernel
theorem dX8_begin_25 : decode cX8_begin 25 = .ok (.aload_n 0, 1) := by decide +kernel
theorem dX8_begin_26 : decode cX8_begin 26 = .ok (.iconst 0, 1) := by decide +kernel
theorem dX8_begin_27 : decode cX8_begin 27 = .ok (.putfield 35, 3) := by decide +kernel
theorem dX8_begin_30 : decode cX8_begin 30 = .ok (.aload_n 0, 1) := by decide +kernel
theorem dX8_begin_31 : decode cX8_begin 31 = .ok (.iconst 0, 1) := by decide +kernel
theorem dX8_begin_32 : decode cX8_begin 32 = .ok (.putfield 38, 3) := by decide +kernel
theorem dX8_begin_35 : decode cX8_begin 35 = .ok (.return_, 1) := by decide +kernel
def rmX8_begin : Room := { frames := 0, cells := 0, slots := 0, locals := 0 }
theorem kX8_begin : yX8_begin.cls = "WebHost$Wire" ∧ yX8_begin.cls ≠ "java/lang/invoke/MethodHandle" ∧ yX8_begin.cls ≠ "java/lang/invoke/VarHandle" ∧ (parseMethodDescriptor yX8_begin.desc).map (fun d => d.parameters.length) = some 1 := by decide +kernel
def w8_begin (σ : St) (x1 : Int32) (Q : St → Prop) : Prop := ∀ σ1, σ1 = up3 σ 8 0 2 x1 → (∀ σ2, σ2 = up3 σ1 8 0 3 0 → (∀ σ3, σ3 = up3 σ2 8 0 4 0 → (∀ σ4, σ4 = up3 σ3 8 0 5 0 → (∀ σ5, σ5 = up3 σ4 8 0 6 0 → (∀ σ6, σ6 = up3 σ5 8 0 7 0 → (∀ σ7, σ7 = up3 σ6 8 0 8 0 → (Q σ7)))))))
set_option maxHeartbeats 4000000 in
theorem m8_begin (l : Launch) (G : Gh) (a1 : Nat → Nat → Nat) (τ : St) (σ : St) (x1 : Int32) (Q : St → Prop) (hw : w8_begin σ x1 Q) : Met l yX8_begin (ws_ yX8_begin cX8_begin 2 none) rmX8_begin (PcS G a1 (cmb σ τ) [.ref (ga G 8 0), .int x1]) (QVs G a1 (fun u => cmb u τ) Q) 0 0 (gA G) := by
  refine met_w (by decide) (Nat.le_of_ble_eq_true rfl) ?_
  intro p e s m below meth c ls C hH hS hl
  have C : Cx p e s m _ meth c cX8_begin 2 none "WebHost$Wire" G := C
  have hl : lv_has ls 2 [(0, .ref (ga G 8 0)), (1, .int x1)] := hl
  have hx := C.1
  have hb := C.2.1
  have hown := C.2.2.2.2.2.1
  have hts := C.2.2.2.2.2.2.1
  obtain ⟨locs, hlocs⟩ : ∃ z : List Loc, z = [] := ⟨_, rfl⟩
  obtain ⟨H, hHe⟩ : ∃ z : Heap, z = s.heap := ⟨_, rfl⟩
  have hH : Hd G a1 (cmb σ τ) H := by rw [hHe]; exact hH
  have hS : va_S (gA G) s.heap H locs := by rw [hHe, hlocs]; exact hS
  refine W.heap0 hHe.symm hlocs.symm ?_
  refine lv_aload_n hx hb dX8_begin_0 rfl (lv_at hl 0 rfl) ?_
  refine lv_iload_n hx hb dX8_begin_1 rfl (lv_at hl 1 rfl) ?_
  refine p8_2 C hH hS q405 dX8_begin_2 (fun σ1 e1 H locs hH hS => ?_)
  have hw := hw σ1 e1
  refine lv_aload_n hx hb dX8_begin_5 rfl (lv_at hl 0 rfl) ?_
  refine lv_iconst (v := 0) hx hb dX8_begin_6 (by decide) ?_
  refine p8_3 C hH hS q406 dX8_begin_7 (fun σ2 e2 H locs hH hS => ?_)
  have hw := hw σ2 e2
  refine lv_aload_n hx hb dX8_begin_10 rfl (lv_at hl 0 rfl) ?_
  refine lv_iconst (v := 0) hx hb dX8_begin_11 (by decide) ?_
  refine p8_4 C hH hS q409 dX8_begin_12 (fun σ3 e3 H locs hH hS => ?_)
  have hw := hw σ3 e3
  refine lv_aload_n hx hb dX8_begin_15 rfl (lv_at hl 0 rfl) ?_
  refine lv_iconst (v := 0) hx hb dX8_begin_16 (by decide) ?_
  refine p8_5 C hH hS q412 dX8_begin_17 (fun σ4 e4 H locs hH hS => ?_)
  have hw := hw σ4 e4
  refine lv_aload_n hx hb dX8_begin_20 rfl (lv_at hl 0 rfl) ?_
  refine lv_iconst (v := 0) hx hb dX8_begin_21 (by decide) ?_
  refine p8_6 C hH hS q415 dX8_begin_22 (fun σ5 e5 H locs hH hS => ?_)
  have hw := hw σ5 e5
  refine lv_aload_n hx hb dX8_begin_25 rfl (lv_at hl 0 rfl) ?_
  refine lv_iconst (v := 0) hx hb dX8_begin_26 (by decide) ?_
  refine p8_7 C hH hS q417 dX8_begin_27 (fun σ6 e6 H locs hH hS => ?_)
  have hw := hw σ6 e6
  refine lv_aload_n hx hb dX8_begin_30 rfl (lv_at hl 0 rfl) ?_
  refine lv_iconst (v := 0) hx hb dX8_begin_31 (by decide) ?_
  refine p8_8 C hH hS q420 dX8_begin_32 (fun σ7 e7 H locs hH hS => ?_)
  have hw := hw σ7 e7
  exact rt_v C hH hS hw dX8_begin_35
/-! WebHost$Wire.now()I -/
abbrev cX8_now : ByteArray := prog_15_method_3_code
def yX8_now : MethodName := ⟨RX8, "now", "()I"⟩
theorem dX8_now_0 : decode cX8_now 0 = .ok (.aload_n 0, 1) := by decide +kernel
theorem dX8_now_1 : decode cX8_now 1 = .ok (.getfield 15, 3) := by decide +kernel
theorem dX8_now_4 : decode cX8_now 4 = .ok (.getfield 41, 3) := by decide +kernel
theorem dX8_now_7 : decode cX8_now 7 = .ok (.ireturn, 1) := by decide +kernel
def rmX8_now : Room := { frames := 0, cells := 0, slots := 0, locals := 0 }
theorem kX8_now : yX8_now.cls = "WebHost$Wire" ∧ yX8_now.cls ≠ "java/lang/invoke/MethodHandle" ∧ yX8_now.cls ≠ "java/lang/invoke/VarHandle" ∧ (parseMethodDescriptor yX8_now.desc).map (fun d => d.parameters.length) = some 0 := by decide +kernel
def w8_now (σ : St) (Q : Int32 → Prop) : Prop := Q (σ 2 0 4)
set_option maxHeartbeats 4000000 in
theorem m8_now (l : Launch) (G : Gh) (a1 : Nat → Nat → Nat) (τ : St) (σ : St) (H : Heap) (Q : Int32 → Prop) (hw : w8_now σ Q) : Met l yX8_now (ws_ yX8_now cX8_now 1 (some .int)) rmX8_now (PcP G a1 (cmb σ τ) H [.ref (ga G 8 0)]) (QIp G H Q) 0 0 (gA G) := by
  refine met_p (by decide) (Nat.le_of_ble_eq_true rfl) ?_
  intro p e s m below meth c ls hHe C hH hS hl
  have C : Cx p e s m _ meth c cX8_now 1 (some .int) "WebHost$Wire" G := C
  have hl : lv_has ls 1 [(0, .ref (ga G 8 0))] := hl
  have hx := C.1
  have hb := C.2.1
  have hown := C.2.2.2.2.2.1
  have hts := C.2.2.2.2.2.2.1
  obtain ⟨locs, hlocs⟩ : ∃ z : List Loc, z = [] := ⟨_, rfl⟩
  rw [← hlocs] at hS ⊢
  refine lv_aload_n hx hb dX8_now_0 rfl (lv_at hl 0 rfl) ?_
  refine g8_1 C hH q404 dX8_now_1 ?_
  refine g2_4 C hH q228 dX8_now_4 ?_
  exact rt_ip C rfl hS hw dX8_now_7
/-! WebHost$Requests.headEnd(LWebHost$Inbox;)I -/
abbrev cX9_headEnd : ByteArray := prog_11_method_3_code
def yX9_headEnd : MethodName := ⟨RX9, "headEnd", "(LWebHost$Inbox;)I"⟩
theorem dX9_headEnd_0 : decode cX9_headEnd 0 = .ok (.iconst 0, 1) := by decide +kernel
theorem dX9_headEnd_1 : decode cX9_headEnd 1 = .ok (.istore_n 1, 1) := by decide +kernel
theorem dX9_headEnd_2 : decode cX9_headEnd 2 = .ok (.iconst 0, 1) := by decide +kernel
theorem dX9_headEnd_3 : decode cX9_headEnd 3 = .ok (.istore_n 2, 1) := by decide +kernel
theorem dX9_headEnd_4 : decode cX9_headEnd 4 = .ok (.iload_n 2, 1) := by decide +kernel
theorem dX9_headEnd_5 : decode cX9_headEnd 5 = .ok (.aload_n 0, 1) := by decide +kernel
theorem dX9_headEnd_6 : decode cX9_headEnd 6 = .ok (.getfield 22, 3) := by decide +kernel
theorem dX9_headEnd_9 : decode cX9_headEnd 9 = .ok (.if_icmp .ge 54, 3) := by decide +kernel
theorem dX9_headEnd_12 : decode cX9_headEnd 12 = .ok (.aload_n 0, 1) := by decide +kernel
theorem dX9_headEnd_13 : decode cX9_headEnd 13 = .ok (.getfield 26, 3) := by decide +kernel
theorem dX9_headEnd_16 : decode cX9_headEnd 16 = .ok (.iload_n 2, 1) := by decide +kernel
theorem dX9_headEnd_17 : decode cX9_headEnd 17 = .ok (.baload, 1) := by decide +kernel
theorem dX9_headEnd_18 : decode cX9_headEnd 18 = .ok (.bipush 10, 2) := by decide +kernel
theorem dX9_headEnd_20 : decode cX9_headEnd 20 = .ok (.if_icmp .eq 6, 3) := by decide +kernel
theorem dX9_headEnd_23 : decode cX9_headEnd 23 = .ok (.goto 34, 3) := by decide +kernel
theorem dX9_headEnd_26 : decode cX9_headEnd 26 = .ok (.iload_n 2, 1) := by decide +kernel
theorem dX9_headEnd_27 : decode cX9_headEnd 27 = .ok (.iload_n 1, 1) := by decide +kernel
theorem dX9_headEnd_28 : decode cX9_headEnd 28 = .ok (.if_icmp .eq 21, 3) := by decide +kernel
theorem dX9_headEnd_31 : decode cX9_headEnd 31 = .ok (.iload_n 2, 1) := by decide +kernel
theorem dX9_headEnd_32 : decode cX9_headEnd 32 = .ok (.iload_n 1, 1) := by decide +kernel
theorem dX9_headEnd_33 : decode cX9_headEnd 33 = .ok (.iconst 1, 1) := by decide +kernel
theorem dX9_headEnd_34 : decode cX9_headEnd 34 = .ok (.iadd, 1) := by decide +kernel
theorem dX9_headEnd_35 : decode cX9_headEnd 35 = .ok (.if_icmp .ne 18, 3) := by decide +kernel
theorem dX9_headEnd_38 : decode cX9_headEnd 38 = .ok (.aload_n 0, 1) := by decide +kernel
theorem dX9_headEnd_39 : decode cX9_headEnd 39 = .ok (.getfield 26, 3) := by decide +kernel
theorem dX9_headEnd_42 : decode cX9_headEnd 42 = .ok (.iload_n 1, 1) := by decide +kernel
theorem dX9_headEnd_43 : decode cX9_headEnd 43 = .ok (.baload, 1) := by decide +kernel
theorem dX9_headEnd_44 : decode cX9_headEnd 44 = .ok (.bipush 13, 2) := by decide +kernel
theorem dX9_headEnd_46 : decode cX9_headEnd 46 = .ok (.if_icmp .ne 7, 3) := by decide +kernel
theorem dX9_headEnd_49 : decode cX9_headEnd 49 = .ok (.iload_n 2, 1) := by decide +kernel
theorem dX9_headEnd_50 : decode cX9_headEnd 50 = .ok (.iconst 1, 1) := by decide +kernel
theorem dX9_headEnd_51 : decode cX9_headEnd 51 = .ok (.iadd, 1) := by decide +kernel
theorem dX9_headEnd_52 : decode cX9_headEnd 52 = .ok (.ireturn, 1) := by decide +kernel
theorem dX9_headEnd_53 : decode cX9_headEnd 53 = .ok (.iload_n 2, 1) := by decide +kernel
theorem dX9_headEnd_54 : decode cX9_headEnd 54 = .ok (.iconst 1, 1) := by decide +kernel
theorem dX9_headEnd_55 : decode cX9_headEnd 55 = .ok (.iadd, 1) := by decide +kernel
theorem dX9_headEnd_56 : decode cX9_headEnd 56 = .ok (.istore_n 1, 1) := by decide +kernel
theorem dX9_headEnd_57 : decode cX9_headEnd 57 = .ok (.iinc 2 1, 3) := by decide +kernel
theorem dX9_headEnd_60 : decode cX9_headEnd 60 = .ok (.goto (-56), 3) := by decide +kernel
theorem dX9_headEnd_63 : decode cX9_headEnd 63 = .ok (.iconst (-1), 1) := by decide +kernel
theorem dX9_headEnd_64 : decode cX9_headEnd 64 = .ok (.ireturn, 1) := by decide +kernel
def rmX9_headEnd : Room := { frames := 0, cells := 0, slots := 0, locals := 0 }
theorem kX9_headEnd : yX9_headEnd.cls = "WebHost$Requests" ∧ yX9_headEnd.cls ≠ "java/lang/invoke/MethodHandle" ∧ yX9_headEnd.cls ≠ "java/lang/invoke/VarHandle" ∧ (parseMethodDescriptor yX9_headEnd.desc).map (fun d => d.parameters.length) = some 1 := by decide +kernel
def w9_headEnd_L4 (σ : St) (o0 : Nat) (Q : Int32 → Prop) (K49 : Int32 → Prop) (K63 : Prop) : Nat → Int32 → Int32 → Prop
  | 0, _, _ => False
  | n + 1, x1, x2 => ((σ 12 o0 2) ≤ x2 → K63) ∧ (¬ (σ 12 o0 2) ≤ x2 → (vp_in x2 4096 ∧ (by8 (σ 42 o0 x2.toNatClampNeg) → (((σ 42 o0 x2.toNatClampNeg) = 10 → ((x2 = x1 → K49 x2) ∧ (¬ x2 = x1 → ((¬ x2 = (x1 + 1) → (w9_headEnd_L4 σ o0 Q K49 K63 n (x2 + 1) (x2 + 1))) ∧ (x2 = (x1 + 1) → (vp_in x1 4096 ∧ (by8 (σ 42 o0 x1.toNatClampNeg) → ((¬ (σ 42 o0 x1.toNatClampNeg) = 13 → (w9_headEnd_L4 σ o0 Q K49 K63 n (x2 + 1) (x2 + 1))) ∧ ((σ 42 o0 x1.toNatClampNeg) = 13 → K49 x2))))))))) ∧ (¬ (σ 42 o0 x2.toNatClampNeg) = 10 → (w9_headEnd_L4 σ o0 Q K49 K63 n x1 (x2 + 1)))))))
set_option maxHeartbeats 4000000 in
theorem k9_headEnd_L4 {p : Program} {l : Launch} {e : Env} {s : State} {m : MethodId} {args : Array Value} {below : List Frame} {meth : Method} {c : Code} {G : Gh} {a1 : Nat → Nat → Nat} {τ : St} {H : Heap} {Q : Int32 → Prop} {K49 : Int32 → Prop} {K63 : Prop} (C : Cx p e s m args meth c cX9_headEnd 3 (some .int) "WebHost$Requests" G) (σ : St) (o0 : Nat) (ho0 : o0 < 16) (hH : Hd G a1 (cmb σ τ) H) :
    ∀ (n : Nat) (x1 : Int32) (x2 : Int32), w9_headEnd_L4 σ o0 Q K49 K63 n x1 x2 → ∀ (locs : List Loc) (ls : Array Slot), va_S (gA G) s.heap H locs → lv_has ls 3 [(0, .ref (ga G 12 o0)), (1, .int x1), (2, .int x2)] → (∀ (x2 : Int32), K49 x2 → ∀ (locs : List Loc) (ls : Array Slot), va_S (gA G) s.heap H locs → lv_has ls 3 [(2, .int x2)] → W p l e rmX9_headEnd s m args below meth c H locs 0 0 (MQ below (QIp G H Q) args s 0 0 (gA G)) (F0 m 49 ls [])) → (K63 → ∀ (locs : List Loc) (ls : Array Slot), va_S (gA G) s.heap H locs → lv_has ls 3 [] → W p l e rmX9_headEnd s m args below meth c H locs 0 0 (MQ below (QIp G H Q) args s 0 0 (gA G)) (F0 m 63 ls [])) → W p l e rmX9_headEnd s m args below meth c H locs 0 0 (MQ below (QIp G H Q) args s 0 0 (gA G)) (F0 m 4 ls []) := by
  have hx := C.1
  have hb := C.2.1
  have hown := C.2.2.2.2.2.1
  have hts := C.2.2.2.2.2.2.1
  intro n
  induction n with
  | zero =>
    intro x1 x2 hw
    exact False.elim hw
  | succ n ih =>
    intro x1 x2 hw locs ls hS hl hK49 hK63
    refine lv_iload_n hx hb dX9_headEnd_4 rfl (lv_at hl 2 rfl) ?_
    refine lv_aload_n hx hb dX9_headEnd_5 rfl (lv_at hl 0 rfl) ?_
    refine g12_2 C hH ho0 q580 dX9_headEnd_6 ?_
    refine lv_icmp_ge (tgt := 63) hx hb dX9_headEnd_9 (by decide) (fun h => ?_) (fun h => ?_)
    · have hw := hw.1 h
      exact hK63 hw locs ls hS (lv_sub hl [] rfl)
    have hw := hw.2 h
    refine lv_aload_n hx hb dX9_headEnd_12 rfl (lv_at hl 0 rfl) ?_
    refine g12_0 C hH ho0 q577 dX9_headEnd_13 ?_
    refine lv_iload_n hx hb dX9_headEnd_16 rfl (lv_at hl 2 rfl) ?_
    refine l42 C hH ho0 hw.1 dX9_headEnd_17 (fun hz => ?_)
    have hw := hw.2 hz
    refine lv_bipush (v := 10) hx hb dX9_headEnd_18 (by decide) ?_
    refine lv_icmp_eq (tgt := 26) hx hb dX9_headEnd_20 (by decide) (fun h => ?_) (fun h => ?_)
    · have hw := hw.1 h
      refine lv_iload_n hx hb dX9_headEnd_26 rfl (lv_at hl 2 rfl) ?_
      refine lv_iload_n hx hb dX9_headEnd_27 rfl (lv_at hl 1 rfl) ?_
      refine lv_icmp_eq (tgt := 49) hx hb dX9_headEnd_28 (by decide) (fun h => ?_) (fun h => ?_)
      · have hw := hw.1 h
        exact hK49 x2 hw locs ls hS (lv_sub hl [2] rfl)
      have hw := hw.2 h
      refine lv_iload_n hx hb dX9_headEnd_31 rfl (lv_at hl 2 rfl) ?_
      refine lv_iload_n hx hb dX9_headEnd_32 rfl (lv_at hl 1 rfl) ?_
      refine lv_iconst (v := 1) hx hb dX9_headEnd_33 (by decide) ?_
      refine lv_iadd hx hb dX9_headEnd_34 ?_
      refine lv_icmp_ne (tgt := 53) hx hb dX9_headEnd_35 (by decide) (fun h => ?_) (fun h => ?_)
      · have hw := hw.1 h
        refine lv_iload_n hx hb dX9_headEnd_53 rfl (lv_at hl 2 rfl) ?_
        refine lv_iconst (v := 1) hx hb dX9_headEnd_54 (by decide) ?_
        refine lv_iadd hx hb dX9_headEnd_55 ?_
        refine lv_istore_n (lv' := [(1, .int (x2 + 1)), (0, .ref (ga G 12 o0)), (2, .int x2)]) hx hb dX9_headEnd_56 rfl hl (by decide) rfl (fun ls hl => ?_)
        refine lv_iinc (v := x2 + 1) (lv' := [(2, .int (x2 + 1)), (1, .int (x2 + 1)), (0, .ref (ga G 12 o0))]) hx hb dX9_headEnd_57 hl (k := 2) rfl rfl (by decide) rfl (fun ls hl => ?_)
        refine lv_goto (tgt := 4) hx hb dX9_headEnd_60 (by decide) ?_
        exact ih (x2 + 1) (x2 + 1) hw locs ls hS (lv_sub hl [2, 1, 0] rfl) hK49 hK63
      have hw := hw.2 h
      refine lv_aload_n hx hb dX9_headEnd_38 rfl (lv_at hl 0 rfl) ?_
      refine g12_0 C hH ho0 q577 dX9_headEnd_39 ?_
      refine lv_iload_n hx hb dX9_headEnd_42 rfl (lv_at hl 1 rfl) ?_
      refine l42 C hH ho0 hw.1 dX9_headEnd_43 (fun hz => ?_)
      have hw := hw.2 hz
      refine lv_bipush (v := 13) hx hb dX9_headEnd_44 (by decide) ?_
      refine lv_icmp_ne (tgt := 53) hx hb dX9_headEnd_46 (by decide) (fun h => ?_) (fun h => ?_)
      · have hw := hw.1 h
        refine lv_iload_n hx hb dX9_headEnd_53 rfl (lv_at hl 2 rfl) ?_
        refine lv_iconst (v := 1) hx hb dX9_headEnd_54 (by decide) ?_
        refine lv_iadd hx hb dX9_headEnd_55 ?_
        refine lv_istore_n (lv' := [(1, .int (x2 + 1)), (0, .ref (ga G 12 o0)), (2, .int x2)]) hx hb dX9_headEnd_56 rfl hl (by decide) rfl (fun ls hl => ?_)
        refine lv_iinc (v := x2 + 1) (lv' := [(2, .int (x2 + 1)), (1, .int (x2 + 1)), (0, .ref (ga G 12 o0))]) hx hb dX9_headEnd_57 hl (k := 2) rfl rfl (by decide) rfl (fun ls hl => ?_)
        refine lv_goto (tgt := 4) hx hb dX9_headEnd_60 (by decide) ?_
        exact ih (x2 + 1) (x2 + 1) hw locs ls hS (lv_sub hl [2, 1, 0] rfl) hK49 hK63
      have hw := hw.2 h
      exact hK49 x2 hw locs ls hS (lv_sub hl [2] rfl)
    have hw := hw.2 h
    refine lv_goto (tgt := 57) hx hb dX9_headEnd_23 (by decide) ?_
    refine lv_iinc (v := x2 + 1) (lv' := [(2, .int (x2 + 1)), (0, .ref (ga G 12 o0)), (1, .int x1)]) hx hb dX9_headEnd_57 hl (k := 2) rfl rfl (by decide) rfl (fun ls hl => ?_)
    refine lv_goto (tgt := 4) hx hb dX9_headEnd_60 (by decide) ?_
    exact ih x1 (x2 + 1) hw locs ls hS (lv_sub hl [1, 2, 0] rfl) hK49 hK63
def w9_headEnd (σ : St) (o0 : Nat) (Q : Int32 → Prop) : Prop := ∃ z1, w9_headEnd_L4 σ o0 Q (fun x2_2 => Q (x2_2 + 1)) (Q (-1)) z1 0 0
set_option maxHeartbeats 4000000 in
theorem m9_headEnd (l : Launch) (G : Gh) (a1 : Nat → Nat → Nat) (τ : St) (σ : St) (H : Heap) (o0 : Nat) (ho0 : o0 < 16) (Q : Int32 → Prop) (hw : w9_headEnd σ o0 Q) : Met l yX9_headEnd (ws_ yX9_headEnd cX9_headEnd 3 (some .int)) rmX9_headEnd (PcP G a1 (cmb σ τ) H [.ref (ga G 12 o0)]) (QIp G H Q) 0 0 (gA G) := by
  refine met_p (by decide) (Nat.le_of_ble_eq_true rfl) ?_
  intro p e s m below meth c ls hHe C hH hS hl
  have C : Cx p e s m _ meth c cX9_headEnd 3 (some .int) "WebHost$Requests" G := C
  have hl : lv_has ls 3 [(0, .ref (ga G 12 o0))] := hl
  have hx := C.1
  have hb := C.2.1
  have hown := C.2.2.2.2.2.1
  have hts := C.2.2.2.2.2.2.1
  obtain ⟨locs, hlocs⟩ : ∃ z : List Loc, z = [] := ⟨_, rfl⟩
  rw [← hlocs] at hS ⊢
  refine lv_iconst (v := 0) hx hb dX9_headEnd_0 (by decide) ?_
  refine lv_istore_n (lv' := [(1, .int 0), (0, .ref (ga G 12 o0))]) hx hb dX9_headEnd_1 rfl hl (by decide) rfl (fun ls hl => ?_)
  refine lv_iconst (v := 0) hx hb dX9_headEnd_2 (by decide) ?_
  refine lv_istore_n (lv' := [(2, .int 0), (1, .int 0), (0, .ref (ga G 12 o0))]) hx hb dX9_headEnd_3 rfl hl (by decide) rfl (fun ls hl => ?_)
  obtain ⟨n1, hw⟩ := hw
  refine k9_headEnd_L4 C σ o0 ho0 hH n1 0 0 hw locs ls hS (lv_sub hl [2, 1, 0] rfl) (fun x2_2 hw locs ls hS hl => ?_) (fun hw locs ls hS hl => ?_)
  · refine lv_iload_n hx hb dX9_headEnd_49 rfl (lv_at hl 0 rfl) ?_
    refine lv_iconst (v := 1) hx hb dX9_headEnd_50 (by decide) ?_
    refine lv_iadd hx hb dX9_headEnd_51 ?_
    exact rt_ip C rfl hS hw dX9_headEnd_52
  refine lv_iconst (v := (-1)) hx hb dX9_headEnd_63 (by decide) ?_
  exact rt_ip C rfl hS hw dX9_headEnd_64
/-! WebHost$Requests.isBlank(I)Z -/
abbrev cX9_isBlank : ByteArray := prog_11_method_12_code
def yX9_isBlank : MethodName := ⟨RX9, "isBlank", "(I)Z"⟩
theorem dX9_isBlank_0 : decode cX9_isBlank 0 = .ok (.iload_n 0, 1) := by decide +kernel
theorem dX9_isBlank_1 : decode cX9_isBlank 1 = .ok (.bipush 32, 2) := by decide +kernel
theorem dX9_isBlank_3 : decode cX9_isBlank 3 = .ok (.if_icmp .eq 9, 3) := by decide +kernel
theorem dX9_isBlank_6 : decode cX9_isBlank 6 = .ok (.iload_n 0, 1) := by decide +kernel
theorem dX9_isBlank_7 : decode cX9_isBlank 7 = .ok (.bipush 9, 2) := by decide +kernel
theorem dX9_isBlank_9 : decode cX9_isBlank 9 = .ok (.if_icmp .ne 7, 3) := by decide +kernel
theorem dX9_isBlank_12 : decode cX9_isBlank 12 = .ok (.iconst 1, 1) := by decide +kernel
theorem dX9_isBlank_13 : decode cX9_isBlank 13 = .ok (.goto 4, 3) := by decide +kernel
theorem dX9_isBlank_16 : decode cX9_isBlank 16 = .ok (.iconst 0, 1) := by decide +kernel
theorem dX9_isBlank_17 : decode cX9_isBlank 17 = .ok (.ireturn, 1) := by decide +kernel
def rmX9_isBlank : Room := { frames := 0, cells := 0, slots := 0, locals := 0 }
theorem kX9_isBlank : yX9_isBlank.cls = "WebHost$Requests" ∧ yX9_isBlank.cls ≠ "java/lang/invoke/MethodHandle" ∧ yX9_isBlank.cls ≠ "java/lang/invoke/VarHandle" ∧ (parseMethodDescriptor yX9_isBlank.desc).map (fun d => d.parameters.length) = some 1 := by decide +kernel
def w9_isBlank (σ : St) (x0 : Int32) (Q : Int32 → Prop) : Prop := (x0 = 32 → Q 1) ∧ (¬ x0 = 32 → ((¬ x0 = 9 → Q 0) ∧ (x0 = 9 → Q 1)))
set_option maxHeartbeats 4000000 in
theorem m9_isBlank (l : Launch) (G : Gh) (a1 : Nat → Nat → Nat) (τ : St) (σ : St) (H : Heap) (x0 : Int32) (Q : Int32 → Prop) (hw : w9_isBlank σ x0 Q) : Met l yX9_isBlank (ws_ yX9_isBlank cX9_isBlank 1 (some .boolean)) rmX9_isBlank (PcP G a1 (cmb σ τ) H [.int x0]) (QIp G H Q) 0 0 (gA G) := by
  refine met_p (by decide) (Nat.le_of_ble_eq_true rfl) ?_
  intro p e s m below meth c ls hHe C hH hS hl
  have C : Cx p e s m _ meth c cX9_isBlank 1 (some .boolean) "WebHost$Requests" G := C
  have hl : lv_has ls 1 [(0, .int x0)] := hl
  have hx := C.1
  have hb := C.2.1
  have hown := C.2.2.2.2.2.1
  have hts := C.2.2.2.2.2.2.1
  obtain ⟨locs, hlocs⟩ : ∃ z : List Loc, z = [] := ⟨_, rfl⟩
  rw [← hlocs] at hS ⊢
  refine lv_iload_n hx hb dX9_isBlank_0 rfl (lv_at hl 0 rfl) ?_
  refine lv_bipush (v := 32) hx hb dX9_isBlank_1 (by decide) ?_
  refine lv_icmp_eq (tgt := 12) hx hb dX9_isBlank_3 (by decide) (fun h => ?_) (fun h => ?_)
  · have hw := hw.1 h
    refine lv_iconst (v := 1) hx hb dX9_isBlank_12 (by decide) ?_
    refine lv_goto (tgt := 17) hx hb dX9_isBlank_13 (by decide) ?_
    exact rt_ip C rfl hS hw dX9_isBlank_17
  have hw := hw.2 h
  refine lv_iload_n hx hb dX9_isBlank_6 rfl (lv_at hl 0 rfl) ?_
  refine lv_bipush (v := 9) hx hb dX9_isBlank_7 (by decide) ?_
  refine lv_icmp_ne (tgt := 16) hx hb dX9_isBlank_9 (by decide) (fun h => ?_) (fun h => ?_)
  · have hw := hw.1 h
    refine lv_iconst (v := 0) hx hb dX9_isBlank_16 (by decide) ?_
    exact rt_ip C rfl hS hw dX9_isBlank_17
  have hw := hw.2 h
  refine lv_iconst (v := 1) hx hb dX9_isBlank_12 (by decide) ?_
  refine lv_goto (tgt := 17) hx hb dX9_isBlank_13 (by decide) ?_
  exact rt_ip C rfl hS hw dX9_isBlank_17
/-! WebHost$Requests.isIn(III)Z -/
abbrev cX9_isIn : ByteArray := prog_11_method_6_code
def yX9_isIn : MethodName := ⟨RX9, "isIn", "(III)Z"⟩
theorem dX9_isIn_0 : decode cX9_isIn 0 = .ok (.iload_n 0, 1) := by decide +kernel
theorem dX9_isIn_1 : decode cX9_isIn 1 = .ok (.iload_n 1, 1) := by decide +kernel
theorem dX9_isIn_2 : decode cX9_isIn 2 = .ok (.if_icmp .lt 12, 3) := by decide +kernel
theorem dX9_isIn_5 : decode cX9_isIn 5 = .ok (.iload_n 0, 1) := by decide +kernel
theorem dX9_isIn_6 : decode cX9_isIn 6 = .ok (.iload_n 2, 1) := by decide +kernel
theorem dX9_isIn_7 : decode cX9_isIn 7 = .ok (.if_icmp .gt 7, 3) := by decide +kernel
theorem dX9_isIn_10 : decode cX9_isIn 10 = .ok (.iconst 1, 1) := by decide +kernel
theorem dX9_isIn_11 : decode cX9_isIn 11 = .ok (.goto 4, 3) := by decide +kernel
theorem dX9_isIn_14 : decode cX9_isIn 14 = .ok (.iconst 0, 1) := by decide +kernel
theorem dX9_isIn_15 : decode cX9_isIn 15 = .ok (.ireturn, 1) := by decide +kernel
def rmX9_isIn : Room := { frames := 0, cells := 0, slots := 0, locals := 0 }
theorem kX9_isIn : yX9_isIn.cls = "WebHost$Requests" ∧ yX9_isIn.cls ≠ "java/lang/invoke/MethodHandle" ∧ yX9_isIn.cls ≠ "java/lang/invoke/VarHandle" ∧ (parseMethodDescriptor yX9_isIn.desc).map (fun d => d.parameters.length) = some 3 := by decide +kernel
def w9_isIn (σ : St) (x0 : Int32) (x1 : Int32) (x2 : Int32) (Q : Int32 → Prop) : Prop := (x0 < x1 → Q 0) ∧ (¬ x0 < x1 → ((x2 < x0 → Q 0) ∧ (¬ x2 < x0 → Q 1)))
set_option maxHeartbeats 4000000 in
theorem m9_isIn (l : Launch) (G : Gh) (a1 : Nat → Nat → Nat) (τ : St) (σ : St) (H : Heap) (x0 : Int32) (x1 : Int32) (x2 : Int32) (Q : Int32 → Prop) (hw : w9_isIn σ x0 x1 x2 Q) : Met l yX9_isIn (ws_ yX9_isIn cX9_isIn 3 (some .boolean)) rmX9_isIn (PcP G a1 (cmb σ τ) H [.int x0, .int x1, .int x2]) (QIp G H Q) 0 0 (gA G) := by
  refine met_p (by decide) (Nat.le_of_ble_eq_true rfl) ?_
  intro p e s m below meth c ls hHe C hH hS hl
  have C : Cx p e s m _ meth c cX9_isIn 3 (some .boolean) "WebHost$Requests" G := C
  have hl : lv_has ls 3 [(0, .int x0), (1, .int x1), (2, .int x2)] := hl
  have hx := C.1
  have hb := C.2.1
  have hown := C.2.2.2.2.2.1
  have hts := C.2.2.2.2.2.2.1
  obtain ⟨locs, hlocs⟩ : ∃ z : List Loc, z = [] := ⟨_, rfl⟩
  rw [← hlocs] at hS ⊢
  refine lv_iload_n hx hb dX9_isIn_0 rfl (lv_at hl 0 rfl) ?_
  refine lv_iload_n hx hb dX9_isIn_1 rfl (lv_at hl 1 rfl) ?_
  refine lv_icmp_lt (tgt := 14) hx hb dX9_isIn_2 (by decide) (fun h => ?_) (fun h => ?_)
  · have hw := hw.1 h
    refine lv_iconst (v := 0) hx hb dX9_isIn_14 (by decide) ?_
    exact rt_ip C rfl hS hw dX9_isIn_15
  have hw := hw.2 h
  refine lv_iload_n hx hb dX9_isIn_5 rfl (lv_at hl 0 rfl) ?_
  refine lv_iload_n hx hb dX9_isIn_6 rfl (lv_at hl 2 rfl) ?_
  refine lv_icmp_gt (tgt := 14) hx hb dX9_isIn_7 (by decide) (fun h => ?_) (fun h => ?_)
  · have hw := hw.1 h
    refine lv_iconst (v := 0) hx hb dX9_isIn_14 (by decide) ?_
    exact rt_ip C rfl hS hw dX9_isIn_15
  have hw := hw.2 h
  refine lv_iconst (v := 1) hx hb dX9_isIn_10 (by decide) ?_
  refine lv_goto (tgt := 15) hx hb dX9_isIn_11 (by decide) ?_
  exact rt_ip C rfl hS hw dX9_isIn_15
/-! WebHost$Requests.lineEnd(I)I -/
abbrev cX9_lineEnd : ByteArray := prog_11_method_4_code
def yX9_lineEnd : MethodName := ⟨RX9, "lineEnd", "(I)I"⟩
theorem dX9_lineEnd_0 : decode cX9_lineEnd 0 = .ok (.iload_n 1, 1) := by decide +kernel
theorem dX9_lineEnd_1 : decode cX9_lineEnd 1 = .ok (.istore_n 2, 1) := by decide +kernel
theorem dX9_lineEnd_2 : decode cX9_lineEnd 2 = .ok (.aload_n 0, 1) := by decide +kernel
theorem dX9_lineEnd_3 : decode cX9_lineEnd 3 = .ok (.getfield 9, 3) := by decide +kernel
theorem dX9_lineEnd_6 : decode cX9_lineEnd 6 = .ok (.iload_n 2, 1) := by decide +kernel
theorem dX9_lineEnd_7 : decode cX9_lineEnd 7 = .ok (.baload, 1) := by decide +kernel
theorem dX9_lineEnd_8 : decode cX9_lineEnd 8 = .ok (.bipush 10, 2) := by decide +kernel
theorem dX9_lineEnd_10 : decode cX9_lineEnd 10 = .ok (.if_icmp .eq 9, 3) := by decide +kernel
theorem dX9_lineEnd_13 : decode cX9_lineEnd 13 = .ok (.iinc 2 1, 3) := by decide +kernel
theorem dX9_lineEnd_16 : decode cX9_lineEnd 16 = .ok (.goto (-14), 3) := by decide +kernel
theorem dX9_lineEnd_19 : decode cX9_lineEnd 19 = .ok (.iload_n 2, 1) := by decide +kernel
theorem dX9_lineEnd_20 : decode cX9_lineEnd 20 = .ok (.ireturn, 1) := by decide +kernel
def rmX9_lineEnd : Room := { frames := 0, cells := 0, slots := 0, locals := 0 }
theorem kX9_lineEnd : yX9_lineEnd.cls = "WebHost$Requests" ∧ yX9_lineEnd.cls ≠ "java/lang/invoke/MethodHandle" ∧ yX9_lineEnd.cls ≠ "java/lang/invoke/VarHandle" ∧ (parseMethodDescriptor yX9_lineEnd.desc).map (fun d => d.parameters.length) = some 1 := by decide +kernel
def w9_lineEnd_L2 (σ : St) (Q : Int32 → Prop) (K19 : Int32 → Prop) : Nat → Int32 → Prop
  | 0, _ => False
  | n + 1, x2 => vp_in x2 4096 ∧ (by8 (σ 40 0 x2.toNatClampNeg) → (((σ 40 0 x2.toNatClampNeg) = 10 → K19 x2) ∧ (¬ (σ 40 0 x2.toNatClampNeg) = 10 → (w9_lineEnd_L2 σ Q K19 n (x2 + 1)))))
set_option maxHeartbeats 4000000 in
theorem k9_lineEnd_L2 {p : Program} {l : Launch} {e : Env} {s : State} {m : MethodId} {args : Array Value} {below : List Frame} {meth : Method} {c : Code} {G : Gh} {a1 : Nat → Nat → Nat} {τ : St} {H : Heap} {Q : Int32 → Prop} {K19 : Int32 → Prop} (C : Cx p e s m args meth c cX9_lineEnd 3 (some .int) "WebHost$Requests" G) (σ : St) (hH : Hd G a1 (cmb σ τ) H) :
    ∀ (n : Nat) (x2 : Int32), w9_lineEnd_L2 σ Q K19 n x2 → ∀ (locs : List Loc) (ls : Array Slot), va_S (gA G) s.heap H locs → lv_has ls 3 [(0, .ref (ga G 9 0)), (2, .int x2)] → (∀ (x2 : Int32), K19 x2 → ∀ (locs : List Loc) (ls : Array Slot), va_S (gA G) s.heap H locs → lv_has ls 3 [(2, .int x2)] → W p l e rmX9_lineEnd s m args below meth c H locs 0 0 (MQ below (QIp G H Q) args s 0 0 (gA G)) (F0 m 19 ls [])) → W p l e rmX9_lineEnd s m args below meth c H locs 0 0 (MQ below (QIp G H Q) args s 0 0 (gA G)) (F0 m 2 ls []) := by
  have hx := C.1
  have hb := C.2.1
  have hown := C.2.2.2.2.2.1
  have hts := C.2.2.2.2.2.2.1
  intro n
  induction n with
  | zero =>
    intro x2 hw
    exact False.elim hw
  | succ n ih =>
    intro x2 hw locs ls hS hl hK19
    refine lv_aload_n hx hb dX9_lineEnd_2 rfl (lv_at hl 0 rfl) ?_
    refine g9_1 C hH q449 dX9_lineEnd_3 ?_
    refine lv_iload_n hx hb dX9_lineEnd_6 rfl (lv_at hl 1 rfl) ?_
    refine l40 C hH hw.1 dX9_lineEnd_7 (fun hz => ?_)
    have hw := hw.2 hz
    refine lv_bipush (v := 10) hx hb dX9_lineEnd_8 (by decide) ?_
    refine lv_icmp_eq (tgt := 19) hx hb dX9_lineEnd_10 (by decide) (fun h => ?_) (fun h => ?_)
    · have hw := hw.1 h
      exact hK19 x2 hw locs ls hS (lv_sub hl [1] rfl)
    have hw := hw.2 h
    refine lv_iinc (v := x2 + 1) (lv' := [(2, .int (x2 + 1)), (0, .ref (ga G 9 0))]) hx hb dX9_lineEnd_13 hl (k := 1) rfl rfl (by decide) rfl (fun ls hl => ?_)
    refine lv_goto (tgt := 2) hx hb dX9_lineEnd_16 (by decide) ?_
    exact ih (x2 + 1) hw locs ls hS (lv_sub hl [1, 0] rfl) hK19
def w9_lineEnd (σ : St) (x1 : Int32) (Q : Int32 → Prop) : Prop := ∃ z1, w9_lineEnd_L2 σ Q (fun x2_2 => Q x2_2) z1 x1
set_option maxHeartbeats 4000000 in
theorem m9_lineEnd (l : Launch) (G : Gh) (a1 : Nat → Nat → Nat) (τ : St) (σ : St) (H : Heap) (x1 : Int32) (Q : Int32 → Prop) (hw : w9_lineEnd σ x1 Q) : Met l yX9_lineEnd (ws_ yX9_lineEnd cX9_lineEnd 3 (some .int)) rmX9_lineEnd (PcP G a1 (cmb σ τ) H [.ref (ga G 9 0), .int x1]) (QIp G H Q) 0 0 (gA G) := by
  refine met_p (by decide) (Nat.le_of_ble_eq_true rfl) ?_
  intro p e s m below meth c ls hHe C hH hS hl
  have C : Cx p e s m _ meth c cX9_lineEnd 3 (some .int) "WebHost$Requests" G := C
  have hl : lv_has ls 3 [(0, .ref (ga G 9 0)), (1, .int x1)] := hl
  have hx := C.1
  have hb := C.2.1
  have hown := C.2.2.2.2.2.1
  have hts := C.2.2.2.2.2.2.1
  obtain ⟨locs, hlocs⟩ : ∃ z : List Loc, z = [] := ⟨_, rfl⟩
  rw [← hlocs] at hS ⊢
  refine lv_iload_n hx hb dX9_lineEnd_0 rfl (lv_at hl 1 rfl) ?_
  refine lv_istore_n (lv' := [(2, .int x1), (0, .ref (ga G 9 0)), (1, .int x1)]) hx hb dX9_lineEnd_1 rfl hl (by decide) rfl (fun ls hl => ?_)
  obtain ⟨n1, hw⟩ := hw
  refine k9_lineEnd_L2 C σ hH n1 x1 hw locs ls hS (lv_sub hl [1, 0] rfl) (fun x2_2 hw locs ls hS hl => ?_)
  refine lv_iload_n hx hb dX9_lineEnd_19 rfl (lv_at hl 0 rfl) ?_
  exact rt_ip C rfl hS hw dX9_lineEnd_20
/-! WebHost$Requests.step(I)V -/
abbrev cX9_step : ByteArray := prog_11_method_22_code
def yX9_step : MethodName := ⟨RX9, "step", "(I)V"⟩
theorem dX9_step_0 : decode cX9_step 0 = .ok (.aload_n 0, 1) := by decide +kernel
theorem dX9_step_1 : decode cX9_step 1 = .ok (.getfield 204, 3) := by decide +kernel
theorem dX9_step_4 : decode cX9_step 4 = .ok (.bipush 47, 2) := by decide +kernel
theorem dX9_step_6 : decode cX9_step 6 = .ok (.if_icmp .gt 19, 3) := by decide +kernel
theorem dX9_step_9 : decode cX9_step 9 = .ok (.aload_n 0, 1) := by decide +kernel
theorem dX9_step_10 : decode cX9_step 10 = .ok (.getfield 15, 3) := by decide +kernel
theorem dX9_step_13 : decode cX9_step 13 = .ok (.aload_n 0, 1) := by decide +kernel
theorem dX9_step_14 : decode cX9_step 14 = .ok (.getfield 204, 3) := by decide +kernel
theorem dX9_step_17 : decode cX9_step 17 = .ok (.bipush 47, 2) := by decide +kernel
theorem dX9_step_19 : decode cX9_step 19 = .ok (.invokestatic 235, 3) := by decide +kernel
theorem dX9_step_22 : decode cX9_step 22 = .ok (.iload_n 1, 1) := by decide +kernel
theorem dX9_step_23 : decode cX9_step 23 = .ok (.i2b, 1) := by decide +kernel
theorem dX9_step_24 : decode cX9_step 24 = .ok (.bastore, 1) := by decide +kernel
theorem dX9_step_25 : decode cX9_step 25 = .ok (.aload_n 0, 1) := by decide +kernel
theorem dX9_step_26 : decode cX9_step 26 = .ok (.dup, 1) := by decide +kernel
theorem dX9_step_27 : decode cX9_step 27 = .ok (.getfield 204, 3) := by decide +kernel
theorem dX9_step_30 : decode cX9_step 30 = .ok (.iconst 1, 1) := by decide +kernel
theorem dX9_step_31 : decode cX9_step 31 = .ok (.iadd, 1) := by decide +kernel
theorem dX9_step_32 : decode cX9_step 32 = .ok (.putfield 204, 3) := by decide +kernel
theorem dX9_step_35 : decode cX9_step 35 = .ok (.return_, 1) := by decide +kernel
def rmX9_step : Room := { frames := 1, cells := 0, slots := 0, locals := 23 }
theorem kX9_step : yX9_step.cls = "WebHost$Requests" ∧ yX9_step.cls ≠ "java/lang/invoke/MethodHandle" ∧ yX9_step.cls ≠ "java/lang/invoke/VarHandle" ∧ (parseMethodDescriptor yX9_step.desc).map (fun d => d.parameters.length) = some 1 := by decide +kernel
def w9_step (σ : St) (x1 : Int32) (Q : St → Prop) : Prop := (47 < (σ 9 0 18) → (∀ σ1, σ1 = up3 σ 9 0 18 ((σ 9 0 18) + 1) → (Q σ1))) ∧ (¬ 47 < (σ 9 0 18) → (vp_in (imin (σ 9 0 18) 47) 48 ∧ (∀ σ2, σ2 = up3 σ 41 0 (imin (σ 9 0 18) 47).toNatClampNeg x1.toInt8.toInt32.toInt8.toInt32 → (∀ σ3, σ3 = up3 σ2 9 0 18 ((σ2 9 0 18) + 1) → (Q σ3)))))
set_option maxHeartbeats 4000000 in
theorem m9_step (l : Launch) (G : Gh) (a1 : Nat → Nat → Nat) (τ : St) (σ : St) (x1 : Int32) (Q : St → Prop) (hw : w9_step σ x1 Q) : Met l yX9_step (ws_ yX9_step cX9_step 2 none) rmX9_step (PcS G a1 (cmb σ τ) [.ref (ga G 9 0), .int x1]) (QVs G a1 (fun u => cmb u τ) Q) 0 0 (gA G) := by
  refine met_w (by decide) (Nat.le_of_ble_eq_true rfl) ?_
  intro p e s m below meth c ls C hH hS hl
  have C : Cx p e s m _ meth c cX9_step 2 none "WebHost$Requests" G := C
  have hl : lv_has ls 2 [(0, .ref (ga G 9 0)), (1, .int x1)] := hl
  have hx := C.1
  have hb := C.2.1
  have hown := C.2.2.2.2.2.1
  have hts := C.2.2.2.2.2.2.1
  obtain ⟨locs, hlocs⟩ : ∃ z : List Loc, z = [] := ⟨_, rfl⟩
  obtain ⟨H, hHe⟩ : ∃ z : Heap, z = s.heap := ⟨_, rfl⟩
  have hH : Hd G a1 (cmb σ τ) H := by rw [hHe]; exact hH
  have hS : va_S (gA G) s.heap H locs := by rw [hHe, hlocs]; exact hS
  refine W.heap0 hHe.symm hlocs.symm ?_
  refine lv_aload_n hx hb dX9_step_0 rfl (lv_at hl 0 rfl) ?_
  refine g9_18 C hH q466 dX9_step_1 ?_
  refine lv_bipush (v := 47) hx hb dX9_step_4 (by decide) ?_
  refine lv_icmp_gt (tgt := 25) hx hb dX9_step_6 (by decide) (fun h => ?_) (fun h => ?_)
  · have hw := hw.1 h
    refine lv_aload_n hx hb dX9_step_25 rfl (lv_at hl 0 rfl) ?_
    refine lv_dup hx hb dX9_step_26 rfl ?_
    refine g9_18 C hH q466 dX9_step_27 ?_
    refine lv_iconst (v := 1) hx hb dX9_step_30 (by decide) ?_
    refine lv_iadd hx hb dX9_step_31 ?_
    refine p9_18 C hH hS q466 dX9_step_32 (fun σ1 e1 H locs hH hS => ?_)
    have hw := hw σ1 e1
    exact rt_v C hH hS hw dX9_step_35
  have hw := hw.2 h
  refine lv_aload_n hx hb dX9_step_9 rfl (lv_at hl 0 rfl) ?_
  refine g9_17 C hH q465 dX9_step_10 ?_
  refine lv_aload_n hx hb dX9_step_13 rfl (lv_at hl 0 rfl) ?_
  refine g9_18 C hH q466 dX9_step_14 ?_
  refine lv_bipush (v := 47) hx hb dX9_step_17 (by decide) ?_
  refine r_imin C hl.1 q1497 (Nat.le_of_ble_eq_true rfl) (Nat.le_of_ble_eq_true rfl) (Nat.zero_le _) (Nat.zero_le _) dX9_step_19 ?_
  refine lv_iload_n hx hb dX9_step_22 rfl (lv_at hl 1 rfl) ?_
  refine lv_i2b (v := x1.toInt8.toInt32) hx hb dX9_step_23 rfl ?_
  refine s41 C hH hS hw.1 dX9_step_24 (fun σ2 e2 H locs hH hS => ?_)
  have hw := hw.2 σ2 e2
  refine lv_aload_n hx hb dX9_step_25 rfl (lv_at hl 0 rfl) ?_
  refine lv_dup hx hb dX9_step_26 rfl ?_
  refine g9_18 C hH q466 dX9_step_27 ?_
  refine lv_iconst (v := 1) hx hb dX9_step_30 (by decide) ?_
  refine lv_iadd hx hb dX9_step_31 ?_
  refine p9_18 C hH hS q466 dX9_step_32 (fun σ3 e3 H locs hH hS => ?_)
  have hw := hw σ3 e3
  exact rt_v C hH hS hw dX9_step_35
/-! WebHost$Requests.textEnd(II)I -/
abbrev cX9_textEnd : ByteArray := prog_11_method_5_code
def yX9_textEnd : MethodName := ⟨RX9, "textEnd", "(II)I"⟩
theorem dX9_textEnd_0 : decode cX9_textEnd 0 = .ok (.iload_n 2, 1) := by decide +kernel
theorem dX9_textEnd_1 : decode cX9_textEnd 1 = .ok (.iload_n 1, 1) := by decide +kernel
theorem dX9_textEnd_2 : decode cX9_textEnd 2 = .ok (.if_icmp .le 22, 3) := by decide +kernel
theorem dX9_textEnd_5 : decode cX9_textEnd 5 = .ok (.aload_n 0, 1) := by decide +kernel
theorem dX9_textEnd_6 : decode cX9_textEnd 6 = .ok (.getfield 9, 3) := by decide +kernel
theorem dX9_textEnd_9 : decode cX9_textEnd 9 = .ok (.iload_n 2, 1) := by decide +kernel
theorem dX9_textEnd_10 : decode cX9_textEnd 10 = .ok (.iconst 1, 1) := by decide +kernel
theorem dX9_textEnd_11 : decode cX9_textEnd 11 = .ok (.isub, 1) := by decide +kernel
theorem dX9_textEnd_12 : decode cX9_textEnd 12 = .ok (.baload, 1) := by decide +kernel
theorem dX9_textEnd_13 : decode cX9_textEnd 13 = .ok (.bipush 13, 2) := by decide +kernel
theorem dX9_textEnd_15 : decode cX9_textEnd 15 = .ok (.if_icmp .ne 9, 3) := by decide +kernel
theorem dX9_textEnd_18 : decode cX9_textEnd 18 = .ok (.iload_n 2, 1) := by decide +kernel
theorem dX9_textEnd_19 : decode cX9_textEnd 19 = .ok (.iconst 1, 1) := by decide +kernel
theorem dX9_textEnd_20 : decode cX9_textEnd 20 = .ok (.isub, 1) := by decide +kernel
theorem dX9_textEnd_21 : decode cX9_textEnd 21 = .ok (.goto 4, 3) := by decide +kernel
theorem dX9_textEnd_24 : decode cX9_textEnd 24 = .ok (.iload_n 2, 1) := by decide +kernel
theorem dX9_textEnd_25 : decode cX9_textEnd 25 = .ok (.ireturn, 1) := by decide +kernel
def rmX9_textEnd : Room := { frames := 0, cells := 0, slots := 0, locals := 0 }
theorem kX9_textEnd : yX9_textEnd.cls = "WebHost$Requests" ∧ yX9_textEnd.cls ≠ "java/lang/invoke/MethodHandle" ∧ yX9_textEnd.cls ≠ "java/lang/invoke/VarHandle" ∧ (parseMethodDescriptor yX9_textEnd.desc).map (fun d => d.parameters.length) = some 2 := by decide +kernel
def w9_textEnd (σ : St) (x1 : Int32) (x2 : Int32) (Q : Int32 → Prop) : Prop := (x2 ≤ x1 → Q x2) ∧ (¬ x2 ≤ x1 → (vp_in (x2 - 1) 4096 ∧ (by8 (σ 40 0 (x2 - 1).toNatClampNeg) → ((¬ (σ 40 0 (x2 - 1).toNatClampNeg) = 13 → Q x2) ∧ ((σ 40 0 (x2 - 1).toNatClampNeg) = 13 → (Q (x2 - 1)))))))
set_option maxHeartbeats 4000000 in
theorem m9_textEnd (l : Launch) (G : Gh) (a1 : Nat → Nat → Nat) (τ : St) (σ : St) (H : Heap) (x1 : Int32) (x2 : Int32) (Q : Int32 → Prop) (hw : w9_textEnd σ x1 x2 Q) : Met l yX9_textEnd (ws_ yX9_textEnd cX9_textEnd 3 (some .int)) rmX9_textEnd (PcP G a1 (cmb σ τ) H [.ref (ga G 9 0), .int x1, .int x2]) (QIp G H Q) 0 0 (gA G) := by
  refine met_p (by decide) (Nat.le_of_ble_eq_true rfl) ?_
  intro p e s m below meth c ls hHe C hH hS hl
  have C : Cx p e s m _ meth c cX9_textEnd 3 (some .int) "WebHost$Requests" G := C
  have hl : lv_has ls 3 [(0, .ref (ga G 9 0)), (1, .int x1), (2, .int x2)] := hl
  have hx := C.1
  have hb := C.2.1
  have hown := C.2.2.2.2.2.1
  have hts := C.2.2.2.2.2.2.1
  obtain ⟨locs, hlocs⟩ : ∃ z : List Loc, z = [] := ⟨_, rfl⟩
  rw [← hlocs] at hS ⊢
  refine lv_iload_n hx hb dX9_textEnd_0 rfl (lv_at hl 2 rfl) ?_
  refine lv_iload_n hx hb dX9_textEnd_1 rfl (lv_at hl 1 rfl) ?_
  refine lv_icmp_le (tgt := 24) hx hb dX9_textEnd_2 (by decide) (fun h => ?_) (fun h => ?_)
  · have hw := hw.1 h
    refine lv_iload_n hx hb dX9_textEnd_24 rfl (lv_at hl 2 rfl) ?_
    exact rt_ip C rfl hS hw dX9_textEnd_25
  have hw := hw.2 h
  refine lv_aload_n hx hb dX9_textEnd_5 rfl (lv_at hl 0 rfl) ?_
  refine g9_1 C hH q449 dX9_textEnd_6 ?_
  refine lv_iload_n hx hb dX9_textEnd_9 rfl (lv_at hl 2 rfl) ?_
  refine lv_iconst (v := 1) hx hb dX9_textEnd_10 (by decide) ?_
  refine lv_isub hx hb dX9_textEnd_11 ?_
  refine l40 C hH hw.1 dX9_textEnd_12 (fun hz => ?_)
  have hw := hw.2 hz
  refine lv_bipush (v := 13) hx hb dX9_textEnd_13 (by decide) ?_
  refine lv_icmp_ne (tgt := 24) hx hb dX9_textEnd_15 (by decide) (fun h => ?_) (fun h => ?_)
  · have hw := hw.1 h
    refine lv_iload_n hx hb dX9_textEnd_24 rfl (lv_at hl 2 rfl) ?_
    exact rt_ip C rfl hS hw dX9_textEnd_25
  have hw := hw.2 h
  refine lv_iload_n hx hb dX9_textEnd_18 rfl (lv_at hl 2 rfl) ?_
  refine lv_iconst (v := 1) hx hb dX9_textEnd_19 (by decide) ?_
  refine lv_isub hx hb dX9_textEnd_20 ?_
  refine lv_goto (tgt := 25) hx hb dX9_textEnd_21 (by decide) ?_
  exact rt_ip C rfl hS hw dX9_textEnd_25
/-! WebHost$Segment.has(I)Z -/
abbrev cX10_has : ByteArray := prog_12_method_2_code
def yX10_has : MethodName := ⟨RX10, "has", "(I)Z"⟩
theorem dX10_has_0 : decode cX10_has 0 = .ok (.aload_n 0, 1) := by decide +kernel
theorem dX10_has_1 : decode cX10_has 1 = .ok (.getfield 9, 3) := by decide +kernel
theorem dX10_has_4 : decode cX10_has 4 = .ok (.iload_n 1, 1) := by decide +kernel
theorem dX10_has_5 : decode cX10_has 5 = .ok (.iand, 1) := by decide +kernel
theorem dX10_has_6 : decode cX10_has 6 = .ok (.ifCond .eq 7, 3) := by decide +kernel
theorem dX10_has_9 : decode cX10_has 9 = .ok (.iconst 1, 1) := by decide +kernel
theorem dX10_has_10 : decode cX10_has 10 = .ok (.goto 4, 3) := by decide +kernel
theorem dX10_has_13 : decode cX10_has 13 = .ok (.iconst 0, 1) := by decide +kernel
theorem dX10_has_14 : decode cX10_has 14 = .ok (.ireturn, 1) := by decide +kernel
def rmX10_has : Room := { frames := 0, cells := 0, slots := 0, locals := 0 }
theorem kX10_has : yX10_has.cls = "WebHost$Segment" ∧ yX10_has.cls ≠ "java/lang/invoke/MethodHandle" ∧ yX10_has.cls ≠ "java/lang/invoke/VarHandle" ∧ (parseMethodDescriptor yX10_has.desc).map (fun d => d.parameters.length) = some 1 := by decide +kernel
def w10_has (σ : St) (x1 : Int32) (Q : Int32 → Prop) : Prop := (((σ 10 0 5) &&& x1) = 0 → Q 0) ∧ (¬ ((σ 10 0 5) &&& x1) = 0 → Q 1)
set_option maxHeartbeats 4000000 in
theorem m10_has (l : Launch) (G : Gh) (a1 : Nat → Nat → Nat) (τ : St) (σ : St) (H : Heap) (x1 : Int32) (Q : Int32 → Prop) (hw : w10_has σ x1 Q) : Met l yX10_has (ws_ yX10_has cX10_has 2 (some .boolean)) rmX10_has (PcP G a1 (cmb σ τ) H [.ref (ga G 10 0), .int x1]) (QIp G H Q) 0 0 (gA G) := by
  refine met_p (by decide) (Nat.le_of_ble_eq_true rfl) ?_
  intro p e s m below meth c ls hHe C hH hS hl
  have C : Cx p e s m _ meth c cX10_has 2 (some .boolean) "WebHost$Segment" G := C
  have hl : lv_has ls 2 [(0, .ref (ga G 10 0)), (1, .int x1)] := hl
  have hx := C.1
  have hb := C.2.1
  have hown := C.2.2.2.2.2.1
  have hts := C.2.2.2.2.2.2.1
  obtain ⟨locs, hlocs⟩ : ∃ z : List Loc, z = [] := ⟨_, rfl⟩
  rw [← hlocs] at hS ⊢
  refine lv_aload_n hx hb dX10_has_0 rfl (lv_at hl 0 rfl) ?_
  refine g10_5 C hH q531 dX10_has_1 ?_
  refine lv_iload_n hx hb dX10_has_4 rfl (lv_at hl 1 rfl) ?_
  refine lv_iand hx hb dX10_has_5 ?_
  refine lv_if_eq (tgt := 13) hx hb dX10_has_6 (by decide) (fun h => ?_) (fun h => ?_)
  · have hw := hw.1 h
    refine lv_iconst (v := 0) hx hb dX10_has_13 (by decide) ?_
    exact rt_ip C rfl hS hw dX10_has_14
  have hw := hw.2 h
  refine lv_iconst (v := 1) hx hb dX10_has_9 (by decide) ?_
  refine lv_goto (tgt := 14) hx hb dX10_has_10 (by decide) ?_
  exact rt_ip C rfl hS hw dX10_has_14
/-! WebHost$Connection.end()I -/
abbrev cX11_end : ByteArray := prog_3_method_5_code
def yX11_end : MethodName := ⟨RX11, "end", "()I"⟩
theorem dX11_end_0 : decode cX11_end 0 = .ok (.aload_n 0, 1) := by decide +kernel
theorem dX11_end_1 : decode cX11_end 1 = .ok (.getfield 67, 3) := by decide +kernel
theorem dX11_end_4 : decode cX11_end 4 = .ok (.aload_n 0, 1) := by decide +kernel
theorem dX11_end_5 : decode cX11_end 5 = .ok (.getfield 21, 3) := by decide +kernel
theorem dX11_end_8 : decode cX11_end 8 = .ok (.getfield 70, 3) := by decide +kernel
theorem dX11_end_11 : decode cX11_end 11 = .ok (.iadd, 1) := by decide +kernel
theorem dX11_end_12 : decode cX11_end 12 = .ok (.ireturn, 1) := by decide +kernel
def rmX11_end : Room := { frames := 0, cells := 0, slots := 0, locals := 0 }
theorem kX11_end : yX11_end.cls = "WebHost$Connection" ∧ yX11_end.cls ≠ "java/lang/invoke/MethodHandle" ∧ yX11_end.cls ≠ "java/lang/invoke/VarHandle" ∧ (parseMethodDescriptor yX11_end.desc).map (fun d => d.parameters.length) = some 0 := by decide +kernel
def w11_end (σ : St) (o0 : Nat) (Q : Int32 → Prop) : Prop := Q ((σ 11 o0 26) + (σ 13 o0 1))
set_option maxHeartbeats 4000000 in
theorem m11_end (l : Launch) (G : Gh) (a1 : Nat → Nat → Nat) (τ : St) (σ : St) (H : Heap) (o0 : Nat) (ho0 : o0 < 16) (Q : Int32 → Prop) (hw : w11_end σ o0 Q) : Met l yX11_end (ws_ yX11_end cX11_end 1 (some .int)) rmX11_end (PcP G a1 (cmb σ τ) H [.ref (ga G 11 o0)]) (QIp G H Q) 0 0 (gA G) := by
  refine met_p (by decide) (Nat.le_of_ble_eq_true rfl) ?_
  intro p e s m below meth c ls hHe C hH hS hl
  have C : Cx p e s m _ meth c cX11_end 1 (some .int) "WebHost$Connection" G := C
  have hl : lv_has ls 1 [(0, .ref (ga G 11 o0))] := hl
  have hx := C.1
  have hb := C.2.1
  have hown := C.2.2.2.2.2.1
  have hts := C.2.2.2.2.2.2.1
  obtain ⟨locs, hlocs⟩ : ∃ z : List Loc, z = [] := ⟨_, rfl⟩
  rw [← hlocs] at hS ⊢
  refine lv_aload_n hx hb dX11_end_0 rfl (lv_at hl 0 rfl) ?_
  refine g11_26 C hH ho0 q648 dX11_end_1 ?_
  refine lv_aload_n hx hb dX11_end_4 rfl (lv_at hl 0 rfl) ?_
  refine g11_25 C hH ho0 q647 dX11_end_5 ?_
  refine g13_1 C hH ho0 q602 dX11_end_8 ?_
  refine lv_iadd hx hb dX11_end_11 ?_
  exact rt_ip C rfl hS hw dX11_end_12
/-! WebHost$Connection.flight()I -/
abbrev cX11_flight : ByteArray := prog_3_method_7_code
def yX11_flight : MethodName := ⟨RX11, "flight", "()I"⟩
theorem dX11_flight_0 : decode cX11_flight 0 = .ok (.aload_n 0, 1) := by decide +kernel
theorem dX11_flight_1 : decode cX11_flight 1 = .ok (.getfield 60, 3) := by decide +kernel
theorem dX11_flight_4 : decode cX11_flight 4 = .ok (.aload_n 0, 1) := by decide +kernel
theorem dX11_flight_5 : decode cX11_flight 5 = .ok (.getfield 82, 3) := by decide +kernel
theorem dX11_flight_8 : decode cX11_flight 8 = .ok (.isub, 1) := by decide +kernel
theorem dX11_flight_9 : decode cX11_flight 9 = .ok (.ireturn, 1) := by decide +kernel
def rmX11_flight : Room := { frames := 0, cells := 0, slots := 0, locals := 0 }
theorem kX11_flight : yX11_flight.cls = "WebHost$Connection" ∧ yX11_flight.cls ≠ "java/lang/invoke/MethodHandle" ∧ yX11_flight.cls ≠ "java/lang/invoke/VarHandle" ∧ (parseMethodDescriptor yX11_flight.desc).map (fun d => d.parameters.length) = some 0 := by decide +kernel
def w11_flight (σ : St) (o0 : Nat) (Q : Int32 → Prop) : Prop := Q ((σ 11 o0 10) - (σ 11 o0 9))
set_option maxHeartbeats 4000000 in
theorem m11_flight (l : Launch) (G : Gh) (a1 : Nat → Nat → Nat) (τ : St) (σ : St) (H : Heap) (o0 : Nat) (ho0 : o0 < 16) (Q : Int32 → Prop) (hw : w11_flight σ o0 Q) : Met l yX11_flight (ws_ yX11_flight cX11_flight 1 (some .int)) rmX11_flight (PcP G a1 (cmb σ τ) H [.ref (ga G 11 o0)]) (QIp G H Q) 0 0 (gA G) := by
  refine met_p (by decide) (Nat.le_of_ble_eq_true rfl) ?_
  intro p e s m below meth c ls hHe C hH hS hl
  have C : Cx p e s m _ meth c cX11_flight 1 (some .int) "WebHost$Connection" G := C
  have hl : lv_has ls 1 [(0, .ref (ga G 11 o0))] := hl
  have hx := C.1
  have hb := C.2.1
  have hown := C.2.2.2.2.2.1
  have hts := C.2.2.2.2.2.2.1
  obtain ⟨locs, hlocs⟩ : ∃ z : List Loc, z = [] := ⟨_, rfl⟩
  rw [← hlocs] at hS ⊢
  refine lv_aload_n hx hb dX11_flight_0 rfl (lv_at hl 0 rfl) ?_
  refine g11_10 C hH ho0 q622 dX11_flight_1 ?_
  refine lv_aload_n hx hb dX11_flight_4 rfl (lv_at hl 0 rfl) ?_
  refine g11_9 C hH ho0 q620 dX11_flight_5 ?_
  refine lv_isub hx hb dX11_flight_8 ?_
  exact rt_ip C rfl hS hw dX11_flight_9
/-! WebHost$Connection.gone()V -/
abbrev cX11_gone : ByteArray := prog_3_method_15_code
def yX11_gone : MethodName := ⟨RX11, "gone", "()V"⟩
theorem dX11_gone_0 : decode cX11_gone 0 = .ok (.aload_n 0, 1) := by decide +kernel
theorem dX11_gone_1 : decode cX11_gone 1 = .ok (.iconst 0, 1) := by decide +kernel
theorem dX11_gone_2 : decode cX11_gone 2 = .ok (.putfield 73, 3) := by decide +kernel
theorem dX11_gone_5 : decode cX11_gone 5 = .ok (.aload_n 0, 1) := by decide +kernel
theorem dX11_gone_6 : decode cX11_gone 6 = .ok (.iconst 0, 1) := by decide +kernel
theorem dX11_gone_7 : decode cX11_gone 7 = .ok (.putfield 135, 3) := by decide +kernel
theorem dX11_gone_10 : decode cX11_gone 10 = .ok (.aload_n 0, 1) := by decide +kernel
theorem dX11_gone_11 : decode cX11_gone 11 = .ok (.iconst 0, 1) := by decide +kernel
theorem dX11_gone_12 : decode cX11_gone 12 = .ok (.putfield 116, 3) := by decide +kernel
theorem dX11_gone_15 : decode cX11_gone 15 = .ok (.return_, 1) := by decide +kernel
def rmX11_gone : Room := { frames := 0, cells := 0, slots := 0, locals := 0 }
theorem kX11_gone : yX11_gone.cls = "WebHost$Connection" ∧ yX11_gone.cls ≠ "java/lang/invoke/MethodHandle" ∧ yX11_gone.cls ≠ "java/lang/invoke/VarHandle" ∧ (parseMethodDescriptor yX11_gone.desc).map (fun d => d.parameters.length) = some 0 := by decide +kernel
def w11_gone (σ : St) (o0 : Nat) (Q : St → Prop) : Prop := ∀ σ1, σ1 = up3 σ 11 o0 2 0 → (∀ σ2, σ2 = up3 σ1 11 o0 29 0 → (∀ σ3, σ3 = up3 σ2 11 o0 33 0 → (Q σ3)))
set_option maxHeartbeats 4000000 in
theorem m11_gone (l : Launch) (G : Gh) (a1 : Nat → Nat → Nat) (τ : St) (σ : St) (o0 : Nat) (ho0 : o0 < 16) (Q : St → Prop) (hw : w11_gone σ o0 Q) : Met l yX11_gone (ws_ yX11_gone cX11_gone 1 none) rmX11_gone (PcS G a1 (cmb σ τ) [.ref (ga G 11 o0)]) (QVs G a1 (fun u => cmb u τ) Q) 0 0 (gA G) := by
  refine met_w (by decide) (Nat.le_of_ble_eq_true rfl) ?_
  intro p e s m below meth c ls C hH hS hl
  have C : Cx p e s m _ meth c cX11_gone 1 none "WebHost$Connection" G := C
  have hl : lv_has ls 1 [(0, .ref (ga G 11 o0))] := hl
  have hx := C.1
  have hb := C.2.1
  have hown := C.2.2.2.2.2.1
  have hts := C.2.2.2.2.2.2.1
  obtain ⟨locs, hlocs⟩ : ∃ z : List Loc, z = [] := ⟨_, rfl⟩
  obtain ⟨H, hHe⟩ : ∃ z : Heap, z = s.heap := ⟨_, rfl⟩
  have hH : Hd G a1 (cmb σ τ) H := by rw [hHe]; exact hH
  have hS : va_S (gA G) s.heap H locs := by rw [hHe, hlocs]; exact hS
  refine W.heap0 hHe.symm hlocs.symm ?_
  refine lv_aload_n hx hb dX11_gone_0 rfl (lv_at hl 0 rfl) ?_
  refine lv_iconst (v := 0) hx hb dX11_gone_1 (by decide) ?_
  refine p11_2 C hH hS ho0 q610 dX11_gone_2 (fun σ1 e1 H locs hH hS => ?_)
  have hw := hw σ1 e1
  refine lv_aload_n hx hb dX11_gone_5 rfl (lv_at hl 0 rfl) ?_
  refine lv_iconst (v := 0) hx hb dX11_gone_6 (by decide) ?_
  refine p11_29 C hH hS ho0 (Or.inl rfl) q651 dX11_gone_7 (fun σ2 e2 H locs hH hS => ?_)
  have hw := hw σ2 e2
  refine lv_aload_n hx hb dX11_gone_10 rfl (lv_at hl 0 rfl) ?_
  refine lv_iconst (v := 0) hx hb dX11_gone_11 (by decide) ?_
  refine p11_33 C hH hS ho0 (Or.inl rfl) q655 dX11_gone_12 (fun σ3 e3 H locs hH hS => ?_)
  have hw := hw σ3 e3
  exact rt_v C hH hS hw dX11_gone_15
/-! WebHost$Connection.grow(I)V -/
abbrev cX11_grow : ByteArray := prog_3_method_27_code
def yX11_grow : MethodName := ⟨RX11, "grow", "(I)V"⟩
theorem dX11_grow_0 : decode cX11_grow 0 = .ok (.aload_n 0, 1) := by decide +kernel
theorem dX11_grow_1 : decode cX11_grow 1 = .ok (.aload_n 0, 1) := by decide +kernel
theorem dX11_grow_2 : decode cX11_grow 2 = .ok (.getfield 147, 3) := by decide +kernel
theorem dX11_grow_5 : decode cX11_grow 5 = .ok (.iload_n 1, 1) := by decide +kernel
theorem dX11_grow_6 : decode cX11_grow 6 = .ok (.iadd, 1) := by decide +kernel
theorem dX11_grow_7 : decode cX11_grow 7 = .ok (.ldc 179, 2) := by decide +kernel
theorem dX11_grow_9 : decode cX11_grow 9 = .ok (.invokestatic 91, 3) := by decide +kernel
theorem dX11_grow_12 : decode cX11_grow 12 = .ok (.putfield 147, 3) := by decide +kernel
theorem dX11_grow_15 : decode cX11_grow 15 = .ok (.return_, 1) := by decide +kernel
def rmX11_grow : Room := { frames := 1, cells := 0, slots := 0, locals := 23 }
theorem kX11_grow : yX11_grow.cls = "WebHost$Connection" ∧ yX11_grow.cls ≠ "java/lang/invoke/MethodHandle" ∧ yX11_grow.cls ≠ "java/lang/invoke/VarHandle" ∧ (parseMethodDescriptor yX11_grow.desc).map (fun d => d.parameters.length) = some 1 := by decide +kernel
def w11_grow (σ : St) (o0 : Nat) (x1 : Int32) (Q : St → Prop) : Prop := ∀ σ1, σ1 = up3 σ 11 o0 14 (imin ((σ 11 o0 14) + x1) 65535) → (Q σ1)
set_option maxHeartbeats 4000000 in
theorem m11_grow (l : Launch) (G : Gh) (a1 : Nat → Nat → Nat) (τ : St) (σ : St) (o0 : Nat) (x1 : Int32) (ho0 : o0 < 16) (Q : St → Prop) (hw : w11_grow σ o0 x1 Q) : Met l yX11_grow (ws_ yX11_grow cX11_grow 2 none) rmX11_grow (PcS G a1 (cmb σ τ) [.ref (ga G 11 o0), .int x1]) (QVs G a1 (fun u => cmb u τ) Q) 0 0 (gA G) := by
  refine met_w (by decide) (Nat.le_of_ble_eq_true rfl) ?_
  intro p e s m below meth c ls C hH hS hl
  have C : Cx p e s m _ meth c cX11_grow 2 none "WebHost$Connection" G := C
  have hl : lv_has ls 2 [(0, .ref (ga G 11 o0)), (1, .int x1)] := hl
  have hx := C.1
  have hb := C.2.1
  have hown := C.2.2.2.2.2.1
  have hts := C.2.2.2.2.2.2.1
  obtain ⟨locs, hlocs⟩ : ∃ z : List Loc, z = [] := ⟨_, rfl⟩
  obtain ⟨H, hHe⟩ : ∃ z : Heap, z = s.heap := ⟨_, rfl⟩
  have hH : Hd G a1 (cmb σ τ) H := by rw [hHe]; exact hH
  have hS : va_S (gA G) s.heap H locs := by rw [hHe, hlocs]; exact hS
  refine W.heap0 hHe.symm hlocs.symm ?_
  refine lv_aload_n hx hb dX11_grow_0 rfl (lv_at hl 0 rfl) ?_
  refine lv_aload_n hx hb dX11_grow_1 rfl (lv_at hl 0 rfl) ?_
  refine g11_14 C hH ho0 q630 dX11_grow_2 ?_
  refine lv_iload_n hx hb dX11_grow_5 rfl (lv_at hl 1 rfl) ?_
  refine lv_iadd hx hb dX11_grow_6 ?_
  refine lv_ldc (v := 65535) hx hb hown (hts _ q1195) dX11_grow_7 ?_
  refine r_imin C hl.1 q1020 (Nat.le_of_ble_eq_true rfl) (Nat.le_of_ble_eq_true rfl) (Nat.zero_le _) (Nat.zero_le _) dX11_grow_9 ?_
  refine p11_14 C hH hS ho0 q630 dX11_grow_12 (fun σ1 e1 H locs hH hS => ?_)
  have hw := hw σ1 e1
  exact rt_v C hH hS hw dX11_grow_15
/-! WebHost$Connection.half()I -/
abbrev cX11_half : ByteArray := prog_3_method_29_code
def yX11_half : MethodName := ⟨RX11, "half", "()I"⟩
theorem dX11_half_0 : decode cX11_half 0 = .ok (.aload_n 0, 1) := by decide +kernel
theorem dX11_half_1 : decode cX11_half 1 = .ok (.getfield 88, 3) := by decide +kernel
theorem dX11_half_4 : decode cX11_half 4 = .ok (.aload_n 0, 1) := by decide +kernel
theorem dX11_half_5 : decode cX11_half 5 = .ok (.getfield 82, 3) := by decide +kernel
theorem dX11_half_8 : decode cX11_half 8 = .ok (.isub, 1) := by decide +kernel
theorem dX11_half_9 : decode cX11_half 9 = .ok (.iconst 2, 1) := by decide +kernel
theorem dX11_half_10 : decode cX11_half 10 = .ok (.idiv, 1) := by decide +kernel
theorem dX11_half_11 : decode cX11_half 11 = .ok (.iconst 2, 1) := by decide +kernel
theorem dX11_half_12 : decode cX11_half 12 = .ok (.aload_n 0, 1) := by decide +kernel
theorem dX11_half_13 : decode cX11_half 13 = .ok (.getfield 144, 3) := by decide +kernel
theorem dX11_half_16 : decode cX11_half 16 = .ok (.imul, 1) := by decide +kernel
theorem dX11_half_17 : decode cX11_half 17 = .ok (.invokestatic 289, 3) := by decide +kernel
theorem dX11_half_20 : decode cX11_half 20 = .ok (.ireturn, 1) := by decide +kernel
def rmX11_half : Room := { frames := 1, cells := 0, slots := 0, locals := 23 }
theorem kX11_half : yX11_half.cls = "WebHost$Connection" ∧ yX11_half.cls ≠ "java/lang/invoke/MethodHandle" ∧ yX11_half.cls ≠ "java/lang/invoke/VarHandle" ∧ (parseMethodDescriptor yX11_half.desc).map (fun d => d.parameters.length) = some 0 := by decide +kernel
def w11_half (σ : St) (o0 : Nat) (Q : Int32 → Prop) : Prop := Q (imax (((σ 11 o0 11) - (σ 11 o0 9)) / 2) (2 * (σ 11 o0 13)))
set_option maxHeartbeats 4000000 in
theorem m11_half (l : Launch) (G : Gh) (a1 : Nat → Nat → Nat) (τ : St) (σ : St) (H : Heap) (o0 : Nat) (ho0 : o0 < 16) (Q : Int32 → Prop) (hw : w11_half σ o0 Q) : Met l yX11_half (ws_ yX11_half cX11_half 1 (some .int)) rmX11_half (PcP G a1 (cmb σ τ) H [.ref (ga G 11 o0)]) (QIp G H Q) 0 0 (gA G) := by
  refine met_p (by decide) (Nat.le_of_ble_eq_true rfl) ?_
  intro p e s m below meth c ls hHe C hH hS hl
  have C : Cx p e s m _ meth c cX11_half 1 (some .int) "WebHost$Connection" G := C
  have hl : lv_has ls 1 [(0, .ref (ga G 11 o0))] := hl
  have hx := C.1
  have hb := C.2.1
  have hown := C.2.2.2.2.2.1
  have hts := C.2.2.2.2.2.2.1
  obtain ⟨locs, hlocs⟩ : ∃ z : List Loc, z = [] := ⟨_, rfl⟩
  rw [← hlocs] at hS ⊢
  refine lv_aload_n hx hb dX11_half_0 rfl (lv_at hl 0 rfl) ?_
  refine g11_11 C hH ho0 q624 dX11_half_1 ?_
  refine lv_aload_n hx hb dX11_half_4 rfl (lv_at hl 0 rfl) ?_
  refine g11_9 C hH ho0 q620 dX11_half_5 ?_
  refine lv_isub hx hb dX11_half_8 ?_
  refine lv_iconst (v := 2) hx hb dX11_half_9 (by decide) ?_
  refine lv_idiv hx hb dX11_half_10 (by decide) ?_
  refine lv_iconst (v := 2) hx hb dX11_half_11 (by decide) ?_
  refine lv_aload_n hx hb dX11_half_12 rfl (lv_at hl 0 rfl) ?_
  refine g11_13 C hH ho0 q628 dX11_half_13 ?_
  refine lv_imul hx hb dX11_half_16 ?_
  refine r_imax C hl.1 q1033 (Nat.le_of_ble_eq_true rfl) (Nat.le_of_ble_eq_true rfl) (Nat.zero_le _) (Nat.zero_le _) dX11_half_17 ?_
  exact rt_ip C rfl hS hw dX11_half_20
/-! WebHost$Connection.lifeDue()I -/
abbrev cX11_lifeDue : ByteArray := prog_3_method_33_code
def yX11_lifeDue : MethodName := ⟨RX11, "lifeDue", "()I"⟩
theorem dX11_lifeDue_0 : decode cX11_lifeDue 0 = .ok (.aload_n 0, 1) := by decide +kernel
theorem dX11_lifeDue_1 : decode cX11_lifeDue 1 = .ok (.getfield 116, 3) := by decide +kernel
theorem dX11_lifeDue_4 : decode cX11_lifeDue 4 = .ok (.ifCond .eq 10, 3) := by decide +kernel
theorem dX11_lifeDue_7 : decode cX11_lifeDue 7 = .ok (.aload_n 0, 1) := by decide +kernel
theorem dX11_lifeDue_8 : decode cX11_lifeDue 8 = .ok (.getfield 250, 3) := by decide +kernel
theorem dX11_lifeDue_11 : decode cX11_lifeDue 11 = .ok (.goto 6, 3) := by decide +kernel
theorem dX11_lifeDue_14 : decode cX11_lifeDue 14 = .ok (.ldc_w 325, 3) := by decide +kernel
theorem dX11_lifeDue_17 : decode cX11_lifeDue 17 = .ok (.ireturn, 1) := by decide +kernel
def rmX11_lifeDue : Room := { frames := 0, cells := 0, slots := 0, locals := 0 }
theorem kX11_lifeDue : yX11_lifeDue.cls = "WebHost$Connection" ∧ yX11_lifeDue.cls ≠ "java/lang/invoke/MethodHandle" ∧ yX11_lifeDue.cls ≠ "java/lang/invoke/VarHandle" ∧ (parseMethodDescriptor yX11_lifeDue.desc).map (fun d => d.parameters.length) = some 0 := by decide +kernel
def w11_lifeDue (σ : St) (o0 : Nat) (Q : Int32 → Prop) : Prop := bo (σ 11 o0 33) → (((σ 11 o0 33) = 0 → Q 2147483647) ∧ (¬ (σ 11 o0 33) = 0 → (Q (σ 11 o0 31))))
set_option maxHeartbeats 4000000 in
theorem m11_lifeDue (l : Launch) (G : Gh) (a1 : Nat → Nat → Nat) (τ : St) (σ : St) (H : Heap) (o0 : Nat) (ho0 : o0 < 16) (Q : Int32 → Prop) (hw : w11_lifeDue σ o0 Q) : Met l yX11_lifeDue (ws_ yX11_lifeDue cX11_lifeDue 1 (some .int)) rmX11_lifeDue (PcP G a1 (cmb σ τ) H [.ref (ga G 11 o0)]) (QIp G H Q) 0 0 (gA G) := by
  refine met_p (by decide) (Nat.le_of_ble_eq_true rfl) ?_
  intro p e s m below meth c ls hHe C hH hS hl
  have C : Cx p e s m _ meth c cX11_lifeDue 1 (some .int) "WebHost$Connection" G := C
  have hl : lv_has ls 1 [(0, .ref (ga G 11 o0))] := hl
  have hx := C.1
  have hb := C.2.1
  have hown := C.2.2.2.2.2.1
  have hts := C.2.2.2.2.2.2.1
  obtain ⟨locs, hlocs⟩ : ∃ z : List Loc, z = [] := ⟨_, rfl⟩
  rw [← hlocs] at hS ⊢
  refine lv_aload_n hx hb dX11_lifeDue_0 rfl (lv_at hl 0 rfl) ?_
  refine g11_33 C hH ho0 q655 dX11_lifeDue_1 (fun hz => ?_)
  have hw := hw hz
  refine lv_if_eq (tgt := 14) hx hb dX11_lifeDue_4 (by decide) (fun h => ?_) (fun h => ?_)
  · have hw := hw.1 h
    refine lv_ldcw (v := 2147483647) hx hb hown (hts _ q927) dX11_lifeDue_14 ?_
    exact rt_ip C rfl hS hw dX11_lifeDue_17
  have hw := hw.2 h
  refine lv_aload_n hx hb dX11_lifeDue_7 rfl (lv_at hl 0 rfl) ?_
  refine g11_31 C hH ho0 q653 dX11_lifeDue_8 ?_
  refine lv_goto (tgt := 17) hx hb dX11_lifeDue_11 (by decide) ?_
  exact rt_ip C rfl hS hw dX11_lifeDue_17
/-! WebHost$Connection.next()I -/
abbrev cX11_next : ByteArray := prog_3_method_2_code
def yX11_next : MethodName := ⟨RX11, "next", "()I"⟩
theorem dX11_next_0 : decode cX11_next 0 = .ok (.aload_n 0, 1) := by decide +kernel
theorem dX11_next_1 : decode cX11_next 1 = .ok (.getfield 33, 3) := by decide +kernel
theorem dX11_next_4 : decode cX11_next 4 = .ok (.ireturn, 1) := by decide +kernel
def rmX11_next : Room := { frames := 0, cells := 0, slots := 0, locals := 0 }
theorem kX11_next : yX11_next.cls = "WebHost$Connection" ∧ yX11_next.cls ≠ "java/lang/invoke/MethodHandle" ∧ yX11_next.cls ≠ "java/lang/invoke/VarHandle" ∧ (parseMethodDescriptor yX11_next.desc).map (fun d => d.parameters.length) = some 0 := by decide +kernel
def w11_next (σ : St) (o0 : Nat) (Q : Int32 → Prop) : Prop := Q (σ 11 o0 6)
set_option maxHeartbeats 4000000 in
theorem m11_next (l : Launch) (G : Gh) (a1 : Nat → Nat → Nat) (τ : St) (σ : St) (H : Heap) (o0 : Nat) (ho0 : o0 < 16) (Q : Int32 → Prop) (hw : w11_next σ o0 Q) : Met l yX11_next (ws_ yX11_next cX11_next 1 (some .int)) rmX11_next (PcP G a1 (cmb σ τ) H [.ref (ga G 11 o0)]) (QIp G H Q) 0 0 (gA G) := by
  refine met_p (by decide) (Nat.le_of_ble_eq_true rfl) ?_
  intro p e s m below meth c ls hHe C hH hS hl
  have C : Cx p e s m _ meth c cX11_next 1 (some .int) "WebHost$Connection" G := C
  have hl : lv_has ls 1 [(0, .ref (ga G 11 o0))] := hl
  have hx := C.1
  have hb := C.2.1
  have hown := C.2.2.2.2.2.1
  have hts := C.2.2.2.2.2.2.1
  obtain ⟨locs, hlocs⟩ : ∃ z : List Loc, z = [] := ⟨_, rfl⟩
  rw [← hlocs] at hS ⊢
  refine lv_aload_n hx hb dX11_next_0 rfl (lv_at hl 0 rfl) ?_
  refine g11_6 C hH ho0 q617 dX11_next_1 ?_
  exact rt_ip C rfl hS hw dX11_next_4
/-! WebHost$Connection.takeWindow(LWebHost$Segment;)V -/
abbrev cX11_takeWindow : ByteArray := prog_3_method_22_code
def yX11_takeWindow : MethodName := ⟨RX11, "takeWindow", "(LWebHost$Segment;)V"⟩
theorem dX11_takeWindow_0 : decode cX11_takeWindow 0 = .ok (.aload_n 0, 1) := by decide +kernel
theorem dX11_takeWindow_1 : decode cX11_takeWindow 1 = .ok (.aload_n 1, 1) := by decide +kernel
theorem dX11_takeWindow_2 : decode cX11_takeWindow 2 = .ok (.getfield 171, 3) := by decide +kernel
theorem dX11_takeWindow_5 : decode cX11_takeWindow 5 = .ok (.putfield 150, 3) := by decide +kernel
theorem dX11_takeWindow_8 : decode cX11_takeWindow 8 = .ok (.aload_n 0, 1) := by decide +kernel
theorem dX11_takeWindow_9 : decode cX11_takeWindow 9 = .ok (.aload_n 1, 1) := by decide +kernel
theorem dX11_takeWindow_10 : decode cX11_takeWindow 10 = .ok (.getfield 168, 3) := by decide +kernel
theorem dX11_takeWindow_13 : decode cX11_takeWindow 13 = .ok (.putfield 172, 3) := by decide +kernel
theorem dX11_takeWindow_16 : decode cX11_takeWindow 16 = .ok (.aload_n 0, 1) := by decide +kernel
theorem dX11_takeWindow_17 : decode cX11_takeWindow 17 = .ok (.aload_n 1, 1) := by decide +kernel
theorem dX11_takeWindow_18 : decode cX11_takeWindow 18 = .ok (.getfield 261, 3) := by decide +kernel
theorem dX11_takeWindow_21 : decode cX11_takeWindow 21 = .ok (.putfield 175, 3) := by decide +kernel
theorem dX11_takeWindow_24 : decode cX11_takeWindow 24 = .ok (.return_, 1) := by decide +kernel
def rmX11_takeWindow : Room := { frames := 0, cells := 0, slots := 0, locals := 0 }
theorem kX11_takeWindow : yX11_takeWindow.cls = "WebHost$Connection" ∧ yX11_takeWindow.cls ≠ "java/lang/invoke/MethodHandle" ∧ yX11_takeWindow.cls ≠ "java/lang/invoke/VarHandle" ∧ (parseMethodDescriptor yX11_takeWindow.desc).map (fun d => d.parameters.length) = some 1 := by decide +kernel
def w11_takeWindow (σ : St) (o0 : Nat) (Q : St → Prop) : Prop := ∀ σ1, σ1 = up3 σ 11 o0 12 (σ 10 0 6) → (∀ σ2, σ2 = up3 σ1 11 o0 7 (σ1 10 0 3) → (∀ σ3, σ3 = up3 σ2 11 o0 8 (σ2 10 0 4) → (Q σ3)))
set_option maxHeartbeats 4000000 in
theorem m11_takeWindow (l : Launch) (G : Gh) (a1 : Nat → Nat → Nat) (τ : St) (σ : St) (o0 : Nat) (ho0 : o0 < 16) (Q : St → Prop) (hw : w11_takeWindow σ o0 Q) : Met l yX11_takeWindow (ws_ yX11_takeWindow cX11_takeWindow 2 none) rmX11_takeWindow (PcS G a1 (cmb σ τ) [.ref (ga G 11 o0), .ref (ga G 10 0)]) (QVs G a1 (fun u => cmb u τ) Q) 0 0 (gA G) := by
  refine met_w (by decide) (Nat.le_of_ble_eq_true rfl) ?_
  intro p e s m below meth c ls C hH hS hl
  have C : Cx p e s m _ meth c cX11_takeWindow 2 none "WebHost$Connection" G := C
  have hl : lv_has ls 2 [(0, .ref (ga G 11 o0)), (1, .ref (ga G 10 0))] := hl
  have hx := C.1
  have hb := C.2.1
  have hown := C.2.2.2.2.2.1
  have hts := C.2.2.2.2.2.2.1
  obtain ⟨locs, hlocs⟩ : ∃ z : List Loc, z = [] := ⟨_, rfl⟩
  obtain ⟨H, hHe⟩ : ∃ z : Heap, z = s.heap := ⟨_, rfl⟩
  have hH : Hd G a1 (cmb σ τ) H := by rw [hHe]; exact hH
  have hS : va_S (gA G) s.heap H locs := by rw [hHe, hlocs]; exact hS
  refine W.heap0 hHe.symm hlocs.symm ?_
  refine lv_aload_n hx hb dX11_takeWindow_0 rfl (lv_at hl 0 rfl) ?_
  refine lv_aload_n hx hb dX11_takeWindow_1 rfl (lv_at hl 1 rfl) ?_
  refine g10_6 C hH q533 dX11_takeWindow_2 ?_
  refine p11_12 C hH hS ho0 q626 dX11_takeWindow_5 (fun σ1 e1 H locs hH hS => ?_)
  have hw := hw σ1 e1
  refine lv_aload_n hx hb dX11_takeWindow_8 rfl (lv_at hl 0 rfl) ?_
  refine lv_aload_n hx hb dX11_takeWindow_9 rfl (lv_at hl 1 rfl) ?_
  refine g10_3 C hH q527 dX11_takeWindow_10 ?_
  refine p11_7 C hH hS ho0 q618 dX11_takeWindow_13 (fun σ2 e2 H locs hH hS => ?_)
  have hw := hw σ2 e2
  refine lv_aload_n hx hb dX11_takeWindow_16 rfl (lv_at hl 0 rfl) ?_
  refine lv_aload_n hx hb dX11_takeWindow_17 rfl (lv_at hl 1 rfl) ?_
  refine g10_4 C hH q530 dX11_takeWindow_18 ?_
  refine p11_8 C hH hS ho0 q619 dX11_takeWindow_21 (fun σ3 e3 H locs hH hS => ?_)
  have hw := hw σ3 e3
  exact rt_v C hH hS hw dX11_takeWindow_24
/-! WebHost$Connection.timerDue()I -/
abbrev cX11_timerDue : ByteArray := prog_3_method_32_code
def yX11_timerDue : MethodName := ⟨RX11, "timerDue", "()I"⟩
theorem dX11_timerDue_0 : decode cX11_timerDue 0 = .ok (.aload_n 0, 1) := by decide +kernel
theorem dX11_timerDue_1 : decode cX11_timerDue 1 = .ok (.getfield 135, 3) := by decide +kernel
theorem dX11_timerDue_4 : decode cX11_timerDue 4 = .ok (.ifCond .eq 10, 3) := by decide +kernel
theorem dX11_timerDue_7 : decode cX11_timerDue 7 = .ok (.aload_n 0, 1) := by decide +kernel
theorem dX11_timerDue_8 : decode cX11_timerDue 8 = .ok (.getfield 141, 3) := by decide +kernel
theorem dX11_timerDue_11 : decode cX11_timerDue 11 = .ok (.goto 6, 3) := by decide +kernel
theorem dX11_timerDue_14 : decode cX11_timerDue 14 = .ok (.ldc_w 325, 3) := by decide +kernel
theorem dX11_timerDue_17 : decode cX11_timerDue 17 = .ok (.ireturn, 1) := by decide +kernel
def rmX11_timerDue : Room := { frames := 0, cells := 0, slots := 0, locals := 0 }
theorem kX11_timerDue : yX11_timerDue.cls = "WebHost$Connection" ∧ yX11_timerDue.cls ≠ "java/lang/invoke/MethodHandle" ∧ yX11_timerDue.cls ≠ "java/lang/invoke/VarHandle" ∧ (parseMethodDescriptor yX11_timerDue.desc).map (fun d => d.parameters.length) = some 0 := by decide +kernel
def w11_timerDue (σ : St) (o0 : Nat) (Q : Int32 → Prop) : Prop := bo (σ 11 o0 29) → (((σ 11 o0 29) = 0 → Q 2147483647) ∧ (¬ (σ 11 o0 29) = 0 → (Q (σ 11 o0 30))))
set_option maxHeartbeats 4000000 in
theorem m11_timerDue (l : Launch) (G : Gh) (a1 : Nat → Nat → Nat) (τ : St) (σ : St) (H : Heap) (o0 : Nat) (ho0 : o0 < 16) (Q : Int32 → Prop) (hw : w11_timerDue σ o0 Q) : Met l yX11_timerDue (ws_ yX11_timerDue cX11_timerDue 1 (some .int)) rmX11_timerDue (PcP G a1 (cmb σ τ) H [.ref (ga G 11 o0)]) (QIp G H Q) 0 0 (gA G) := by
  refine met_p (by decide) (Nat.le_of_ble_eq_true rfl) ?_
  intro p e s m below meth c ls hHe C hH hS hl
  have C : Cx p e s m _ meth c cX11_timerDue 1 (some .int) "WebHost$Connection" G := C
  have hl : lv_has ls 1 [(0, .ref (ga G 11 o0))] := hl
  have hx := C.1
  have hb := C.2.1
  have hown := C.2.2.2.2.2.1
  have hts := C.2.2.2.2.2.2.1
  obtain ⟨locs, hlocs⟩ : ∃ z : List Loc, z = [] := ⟨_, rfl⟩
  rw [← hlocs] at hS ⊢
  refine lv_aload_n hx hb dX11_timerDue_0 rfl (lv_at hl 0 rfl) ?_
  refine g11_29 C hH ho0 q651 dX11_timerDue_1 (fun hz => ?_)
  have hw := hw hz
  refine lv_if_eq (tgt := 14) hx hb dX11_timerDue_4 (by decide) (fun h => ?_) (fun h => ?_)
  · have hw := hw.1 h
    refine lv_ldcw (v := 2147483647) hx hb hown (hts _ q927) dX11_timerDue_14 ?_
    exact rt_ip C rfl hS hw dX11_timerDue_17
  have hw := hw.2 h
  refine lv_aload_n hx hb dX11_timerDue_7 rfl (lv_at hl 0 rfl) ?_
  refine g11_30 C hH ho0 q652 dX11_timerDue_8 ?_
  refine lv_goto (tgt := 17) hx hb dX11_timerDue_11 (by decide) ?_
  exact rt_ip C rfl hS hw dX11_timerDue_17
/-! WebHost$Inbox.advance()I -/
abbrev cX12_advance : ByteArray := prog_7_method_5_code
def yX12_advance : MethodName := ⟨RX12, "advance", "()I"⟩
theorem dX12_advance_0 : decode cX12_advance 0 = .ok (.aload_n 0, 1) := by decide +kernel
theorem dX12_advance_1 : decode cX12_advance 1 = .ok (.getfield 17, 3) := by decide +kernel
theorem dX12_advance_4 : decode cX12_advance 4 = .ok (.istore_n 1, 1) := by decide +kernel
theorem dX12_advance_5 : decode cX12_advance 5 = .ok (.aload_n 0, 1) := by decide +kernel
theorem dX12_advance_6 : decode cX12_advance 6 = .ok (.getfield 17, 3) := by decide +kernel
theorem dX12_advance_9 : decode cX12_advance 9 = .ok (.sipush 4096, 3) := by decide +kernel
theorem dX12_advance_12 : decode cX12_advance 12 = .ok (.if_icmp .ge 28, 3) := by decide +kernel
theorem dX12_advance_15 : decode cX12_advance 15 = .ok (.aload_n 0, 1) := by decide +kernel
theorem dX12_advance_16 : decode cX12_advance 16 = .ok (.getfield 13, 3) := by decide +kernel
theorem dX12_advance_19 : decode cX12_advance 19 = .ok (.aload_n 0, 1) := by decide +kernel
theorem dX12_advance_20 : decode cX12_advance 20 = .ok (.getfield 17, 3) := by decide +kernel
theorem dX12_advance_23 : decode cX12_advance 23 = .ok (.baload, 1) := by decide +kernel
theorem dX12_advance_24 : decode cX12_advance 24 = .ok (.ifCond .eq 16, 3) := by decide +kernel
theorem dX12_advance_27 : decode cX12_advance 27 = .ok (.aload_n 0, 1) := by decide +kernel
theorem dX12_advance_28 : decode cX12_advance 28 = .ok (.dup, 1) := by decide +kernel
theorem dX12_advance_29 : decode cX12_advance 29 = .ok (.getfield 17, 3) := by decide +kernel
theorem dX12_advance_32 : decode cX12_advance 32 = .ok (.iconst 1, 1) := by decide +kernel
theorem dX12_advance_33 : decode cX12_advance 33 = .ok (.iadd, 1) := by decide +kernel
theorem dX12_advance_34 : decode cX12_advance 34 = .ok (.putfield 17, 3) := by decide +kernel
theorem dX12_advance_37 : decode cX12_advance 37 = .ok (.goto (-32), 3) := by decide +kernel
theorem dX12_advance_40 : decode cX12_advance 40 = .ok (.aload_n 0, 1) := by decide +kernel
theorem dX12_advance_41 : decode cX12_advance 41 = .ok (.getfield 17, 3) := by decide +kernel
theorem dX12_advance_44 : decode cX12_advance 44 = .ok (.iload_n 1, 1) := by decide +kernel
theorem dX12_advance_45 : decode cX12_advance 45 = .ok (.isub, 1) := by decide +kernel
theorem dX12_advance_46 : decode cX12_advance 46 = .ok (.ireturn, 1) := by decide +kernel
def rmX12_advance : Room := { frames := 0, cells := 0, slots := 0, locals := 0 }
theorem kX12_advance : yX12_advance.cls = "WebHost$Inbox" ∧ yX12_advance.cls ≠ "java/lang/invoke/MethodHandle" ∧ yX12_advance.cls ≠ "java/lang/invoke/VarHandle" ∧ (parseMethodDescriptor yX12_advance.desc).map (fun d => d.parameters.length) = some 0 := by decide +kernel
def w12_advance_L5 (o0 : Nat) (x1 : Int32) (Q : Int32 → St → Prop) (K40 : St → Prop) : Nat → St → Prop
  | 0, _ => False
  | n + 1, σ => (4096 ≤ (σ 12 o0 2) → K40 σ) ∧ (¬ 4096 ≤ (σ 12 o0 2) → (vp_in (σ 12 o0 2) 4096 ∧ (bo (σ 43 o0 (σ 12 o0 2).toNatClampNeg) → (((σ 43 o0 (σ 12 o0 2).toNatClampNeg) = 0 → K40 σ) ∧ (¬ (σ 43 o0 (σ 12 o0 2).toNatClampNeg) = 0 → (∀ σ1, σ1 = up3 σ 12 o0 2 ((σ 12 o0 2) + 1) → (w12_advance_L5 o0 x1 Q K40 n σ1)))))))
set_option maxHeartbeats 4000000 in
theorem k12_advance_L5 {p : Program} {l : Launch} {e : Env} {s : State} {m : MethodId} {args : Array Value} {below : List Frame} {meth : Method} {c : Code} {G : Gh} {a1 : Nat → Nat → Nat} {τ : St} {Q : Int32 → St → Prop} {K40 : St → Prop} (C : Cx p e s m args meth c cX12_advance 2 (some .int) "WebHost$Inbox" G) (o0 : Nat) (x1 : Int32) (ho0 : o0 < 16) :
    ∀ (n : Nat) (σ : St), w12_advance_L5 o0 x1 Q K40 n σ → ∀ (H : Heap) (locs : List Loc) (ls : Array Slot), Hd G a1 (cmb σ τ) H → va_S (gA G) s.heap H locs → lv_has ls 2 [(0, .ref (ga G 12 o0)), (1, .int x1)] → (∀ (σ : St) , K40 σ → ∀ (H : Heap) (locs : List Loc) (ls : Array Slot), Hd G a1 (cmb σ τ) H → va_S (gA G) s.heap H locs → lv_has ls 2 [(0, .ref (ga G 12 o0)), (1, .int x1)] → W p l e rmX12_advance s m args below meth c H locs 0 0 (MQ below (QIs G a1 (fun u => cmb u τ) Q) args s 0 0 (gA G)) (F0 m 40 ls [])) → W p l e rmX12_advance s m args below meth c H locs 0 0 (MQ below (QIs G a1 (fun u => cmb u τ) Q) args s 0 0 (gA G)) (F0 m 5 ls []) := by
  have hx := C.1
  have hb := C.2.1
  have hown := C.2.2.2.2.2.1
  have hts := C.2.2.2.2.2.2.1
  intro n
  induction n with
  | zero =>
    intro σ hw
    exact False.elim hw
  | succ n ih =>
    intro σ hw H locs ls hH hS hl hK40
    refine lv_aload_n hx hb dX12_advance_5 rfl (lv_at hl 0 rfl) ?_
    refine g12_2 C hH ho0 q579 dX12_advance_6 ?_
    refine lv_sipush (v := 4096) hx hb dX12_advance_9 (by decide) ?_
    refine lv_icmp_ge (tgt := 40) hx hb dX12_advance_12 (by decide) (fun h => ?_) (fun h => ?_)
    · have hw := hw.1 h
      exact hK40 σ hw H locs ls hH hS (lv_sub hl [0, 1] rfl)
    have hw := hw.2 h
    refine lv_aload_n hx hb dX12_advance_15 rfl (lv_at hl 0 rfl) ?_
    refine g12_1 C hH ho0 q578 dX12_advance_16 ?_
    refine lv_aload_n hx hb dX12_advance_19 rfl (lv_at hl 0 rfl) ?_
    refine g12_2 C hH ho0 q579 dX12_advance_20 ?_
    refine l43 C hH ho0 hw.1 dX12_advance_23 (fun hz => ?_)
    have hw := hw.2 hz
    refine lv_if_eq (tgt := 40) hx hb dX12_advance_24 (by decide) (fun h => ?_) (fun h => ?_)
    · have hw := hw.1 h
      exact hK40 σ hw H locs ls hH hS (lv_sub hl [0, 1] rfl)
    have hw := hw.2 h
    refine lv_aload_n hx hb dX12_advance_27 rfl (lv_at hl 0 rfl) ?_
    refine lv_dup hx hb dX12_advance_28 rfl ?_
    refine g12_2 C hH ho0 q579 dX12_advance_29 ?_
    refine lv_iconst (v := 1) hx hb dX12_advance_32 (by decide) ?_
    refine lv_iadd hx hb dX12_advance_33 ?_
    refine p12_2 C hH hS ho0 q579 dX12_advance_34 (fun σ1 e1 H locs hH hS => ?_)
    have hw := hw σ1 e1
    refine lv_goto (tgt := 5) hx hb dX12_advance_37 (by decide) ?_
    exact ih σ1 hw H locs ls hH hS (lv_sub hl [0, 1] rfl) hK40
def w12_advance (σ : St) (o0 : Nat) (Q : Int32 → St → Prop) : Prop := ∃ z2, w12_advance_L5 o0 (σ 12 o0 2) Q (fun σ3 => Q ((σ3 12 o0 2) - (σ 12 o0 2)) σ3) z2 σ
set_option maxHeartbeats 4000000 in
theorem m12_advance (l : Launch) (G : Gh) (a1 : Nat → Nat → Nat) (τ : St) (σ : St) (o0 : Nat) (ho0 : o0 < 16) (Q : Int32 → St → Prop) (hw : w12_advance σ o0 Q) : Met l yX12_advance (ws_ yX12_advance cX12_advance 2 (some .int)) rmX12_advance (PcS G a1 (cmb σ τ) [.ref (ga G 12 o0)]) (QIs G a1 (fun u => cmb u τ) Q) 0 0 (gA G) := by
  refine met_w (by decide) (Nat.le_of_ble_eq_true rfl) ?_
  intro p e s m below meth c ls C hH hS hl
  have C : Cx p e s m _ meth c cX12_advance 2 (some .int) "WebHost$Inbox" G := C
  have hl : lv_has ls 2 [(0, .ref (ga G 12 o0))] := hl
  have hx := C.1
  have hb := C.2.1
  have hown := C.2.2.2.2.2.1
  have hts := C.2.2.2.2.2.2.1
  obtain ⟨locs, hlocs⟩ : ∃ z : List Loc, z = [] := ⟨_, rfl⟩
  obtain ⟨H, hHe⟩ : ∃ z : Heap, z = s.heap := ⟨_, rfl⟩
  have hH : Hd G a1 (cmb σ τ) H := by rw [hHe]; exact hH
  have hS : va_S (gA G) s.heap H locs := by rw [hHe, hlocs]; exact hS
  refine W.heap0 hHe.symm hlocs.symm ?_
  refine lv_aload_n hx hb dX12_advance_0 rfl (lv_at hl 0 rfl) ?_
  refine g12_2 C hH ho0 q579 dX12_advance_1 ?_
  refine lv_istore_n (lv' := [(1, .int (σ 12 o0 2)), (0, .ref (ga G 12 o0))]) hx hb dX12_advance_4 rfl hl (by decide) rfl (fun ls hl => ?_)
  obtain ⟨n2, hw⟩ := hw
  refine k12_advance_L5 C o0 (σ 12 o0 2) ho0 n2 σ hw H locs ls hH hS (lv_sub hl [1, 0] rfl) (fun σ3 hw H locs ls hH hS hl => ?_)
  refine lv_aload_n hx hb dX12_advance_40 rfl (lv_at hl 0 rfl) ?_
  refine g12_2 C hH ho0 q579 dX12_advance_41 ?_
  refine lv_iload_n hx hb dX12_advance_44 rfl (lv_at hl 1 rfl) ?_
  refine lv_isub hx hb dX12_advance_45 ?_
  exact rt_i C rfl hH hS hw dX12_advance_46
