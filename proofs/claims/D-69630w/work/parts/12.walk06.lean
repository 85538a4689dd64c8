/-! walks -/
set_option maxRecDepth 100000
/-! WebHost.arrive(I)I -/
abbrev cX0_arrive : ByteArray := prog_1_method_11_code
def yX0_arrive : MethodName := ⟨RX0, "arrive", "(I)I"⟩
theorem dX0_arrive_0 : decode cX0_arrive 0 = .ok (.aload_n 0, 1) := by decide +kernel
theorem dX0_arrive_1 : decode cX0_arrive 1 = .ok (.iload_n 1, 1) := by decide +kernel
theorem dX0_arrive_2 : decode cX0_arrive 2 = .ok (.invokevirtual 173, 3) := by decide +kernel
theorem dX0_arrive_5 : decode cX0_arrive 5 = .ok (.istore_n 2, 1) := by decide +kernel
theorem dX0_arrive_6 : decode cX0_arrive 6 = .ok (.iload_n 2, 1) := by decide +kernel
theorem dX0_arrive_7 : decode cX0_arrive 7 = .ok (.ifCond .ge 5, 3) := by decide +kernel
theorem dX0_arrive_10 : decode cX0_arrive 10 = .ok (.iload_n 2, 1) := by decide +kernel
theorem dX0_arrive_11 : decode cX0_arrive 11 = .ok (.ireturn, 1) := by decide +kernel
theorem dX0_arrive_12 : decode cX0_arrive 12 = .ok (.aload_n 0, 1) := by decide +kernel
theorem dX0_arrive_13 : decode cX0_arrive 13 = .ok (.getfield 87, 3) := by decide +kernel
theorem dX0_arrive_16 : decode cX0_arrive 16 = .ok (.ifCond .eq 13, 3) := by decide +kernel
theorem dX0_arrive_19 : decode cX0_arrive 19 = .ok (.aload_n 0, 1) := by decide +kernel
theorem dX0_arrive_20 : decode cX0_arrive 20 = .ok (.getfield 87, 3) := by decide +kernel
theorem dX0_arrive_23 : decode cX0_arrive 23 = .ok (.sipush 1514, 3) := by decide +kernel
theorem dX0_arrive_26 : decode cX0_arrive 26 = .ok (.if_icmp .le 6, 3) := by decide +kernel
theorem dX0_arrive_29 : decode cX0_arrive 29 = .ok (.bipush (-3), 2) := by decide +kernel
theorem dX0_arrive_31 : decode cX0_arrive 31 = .ok (.ireturn, 1) := by decide +kernel
theorem dX0_arrive_32 : decode cX0_arrive 32 = .ok (.aload_n 0, 1) := by decide +kernel
theorem dX0_arrive_33 : decode cX0_arrive 33 = .ok (.getfield 24, 3) := by decide +kernel
theorem dX0_arrive_36 : decode cX0_arrive 36 = .ok (.getfield 177, 3) := by decide +kernel
theorem dX0_arrive_39 : decode cX0_arrive 39 = .ok (.istore_n 3, 1) := by decide +kernel
theorem dX0_arrive_40 : decode cX0_arrive 40 = .ok (.aload_n 0, 1) := by decide +kernel
theorem dX0_arrive_41 : decode cX0_arrive 41 = .ok (.iload_n 1, 1) := by decide +kernel
theorem dX0_arrive_42 : decode cX0_arrive 42 = .ok (.invokevirtual 180, 3) := by decide +kernel
theorem dX0_arrive_45 : decode cX0_arrive 45 = .ok (.aload_n 0, 1) := by decide +kernel
theorem dX0_arrive_46 : decode cX0_arrive 46 = .ok (.dup, 1) := by decide +kernel
theorem dX0_arrive_47 : decode cX0_arrive 47 = .ok (.getfield 136, 3) := by decide +kernel
theorem dX0_arrive_50 : decode cX0_arrive 50 = .ok (.iconst 1, 1) := by decide +kernel
theorem dX0_arrive_51 : decode cX0_arrive 51 = .ok (.iadd, 1) := by decide +kernel
theorem dX0_arrive_52 : decode cX0_arrive 52 = .ok (.putfield 136, 3) := by decide +kernel
theorem dX0_arrive_55 : decode cX0_arrive 55 = .ok (.aload_n 0, 1) := by decide +kernel
theorem dX0_arrive_56 : decode cX0_arrive 56 = .ok (.getfield 87, 3) := by decide +kernel
theorem dX0_arrive_59 : decode cX0_arrive 59 = .ok (.istore 4, 2) := by decide +kernel
theorem dX0_arrive_61 : decode cX0_arrive 61 = .ok (.aload_n 0, 1) := by decide +kernel
theorem dX0_arrive_62 : decode cX0_arrive 62 = .ok (.iconst 0, 1) := by decide +kernel
theorem dX0_arrive_63 : decode cX0_arrive 63 = .ok (.putfield 87, 3) := by decide +kernel
theorem dX0_arrive_66 : decode cX0_arrive 66 = .ok (.aload_n 0, 1) := by decide +kernel
theorem dX0_arrive_67 : decode cX0_arrive 67 = .ok (.iload 4, 2) := by decide +kernel
theorem dX0_arrive_69 : decode cX0_arrive 69 = .ok (.invokevirtual 183, 3) := by decide +kernel
theorem dX0_arrive_72 : decode cX0_arrive 72 = .ok (.aload_n 0, 1) := by decide +kernel
theorem dX0_arrive_73 : decode cX0_arrive 73 = .ok (.getfield 24, 3) := by decide +kernel
theorem dX0_arrive_76 : decode cX0_arrive 76 = .ok (.getfield 177, 3) := by decide +kernel
theorem dX0_arrive_79 : decode cX0_arrive 79 = .ok (.iload_n 3, 1) := by decide +kernel
theorem dX0_arrive_80 : decode cX0_arrive 80 = .ok (.isub, 1) := by decide +kernel
theorem dX0_arrive_81 : decode cX0_arrive 81 = .ok (.ireturn, 1) := by decide +kernel
def rmX0_arrive : Room := { frames := 19, cells := 1, slots := 66047, locals := 430 }
theorem kX0_arrive : yX0_arrive.cls = "WebHost" ∧ yX0_arrive.cls ≠ "java/lang/invoke/MethodHandle" ∧ yX0_arrive.cls ≠ "java/lang/invoke/VarHandle" ∧ (parseMethodDescriptor yX0_arrive.desc).map (fun d => d.parameters.length) = some 1 := by decide +kernel
def w0_arrive (σ : St) (x1 : Int32) (Q : Int32 → St → Prop) : Prop := w0_refusal σ x1 (fun r1 => ((0 ≤ r1 → (((σ 0 0 1) = 0 → (Q (-3) σ)) ∧ (¬ (σ 0 0 1) = 0 → (((σ 0 0 1) ≤ 1514 → (w0_goOn σ x1 (fun σ2 => (∀ σ3, σ3 = up3 σ2 0 0 13 ((σ2 0 0 13) + 1) → (∀ σ4, σ4 = up3 σ3 0 0 1 0 → (w0_frame σ4 (σ3 0 0 1) (fun σ5 => (Q ((σ5 2 0 3) - (σ 2 0 3)) σ5)))))))) ∧ (¬ (σ 0 0 1) ≤ 1514 → (Q (-3) σ)))))) ∧ (¬ 0 ≤ r1 → Q r1 σ)))
set_option maxHeartbeats 4000000 in
theorem m0_arrive (l : Launch) (G : Gh) (a1 : Nat → Nat → Nat) (τ : St) (σ : St) (x1 : Int32) (Q : Int32 → St → Prop) (hw : w0_arrive σ x1 Q) : Met l yX0_arrive (ws_ yX0_arrive cX0_arrive 5 (some .int)) rmX0_arrive (PcS G a1 (cmb σ τ) [.ref (ga G 0 0), .int x1]) (QIa G (fun u => cmb u τ) Q) 1 66047 (gA G) := by
  refine met_w (by decide) (Nat.le_of_ble_eq_true rfl) ?_
  intro p e s m below meth c ls C hH hS hl
  have C : Cx p e s m _ meth c cX0_arrive 5 (some .int) "WebHost" G := C
  have hl : lv_has ls 5 [(0, .ref (ga G 0 0)), (1, .int x1)] := hl
  have hx := C.1
  have hb := C.2.1
  have hown := C.2.2.2.2.2.1
  have hts := C.2.2.2.2.2.2.1
  obtain ⟨locs, hlocs⟩ : ∃ z : List Loc, z = [] := ⟨_, rfl⟩
  obtain ⟨H, hHe⟩ : ∃ z : Heap, z = s.heap := ⟨_, rfl⟩
  have hH : Hd G a1 (cmb σ τ) H := by rw [hHe]; exact hH
  have hS : va_S (gA G) s.heap H locs := by rw [hHe, hlocs]; exact hS
  refine W.heap0 hHe.symm hlocs.symm ?_
  refine lv_aload_n hx hb dX0_arrive_0 rfl (lv_at hl 0 rfl) ?_
  refine lv_iload_n hx hb dX0_arrive_1 rfl (lv_at hl 1 rfl) ?_
  refine kc_ip (rn_vp (As := [.int x1]) (rest := []) C hH hS (by decide) rfl (by decide) (m0_refusal l G a1 τ σ H x1 _ hw) (cwV 1 hts (lw_V q891 q893 qs6 q157 q894) rfl rfl rfl kX0_refusal ⟨Nat.le_of_ble_eq_true rfl, Nat.le_of_ble_eq_true rfl⟩) rfl hl.1 rfl (Nat.le_of_ble_eq_true rfl) dX0_arrive_2 ⟨Nat.le_of_ble_eq_true rfl, Nat.le_of_ble_eq_true rfl⟩) hS (fun r1 locs hw hS => ?_)
  refine lv_istore_n (lv' := [(2, .int r1), (0, .ref (ga G 0 0)), (1, .int x1)]) hx hb dX0_arrive_5 rfl hl (by decide) rfl (fun ls hl => ?_)
  refine lv_iload_n hx hb dX0_arrive_6 rfl (lv_at hl 0 rfl) ?_
  refine lv_if_ge (tgt := 12) hx hb dX0_arrive_7 (by decide) (fun h => ?_) (fun h => ?_)
  · have hw := hw.1 h
    refine lv_aload_n hx hb dX0_arrive_12 rfl (lv_at hl 1 rfl) ?_
    refine g0_1 C hH q744 dX0_arrive_13 ?_
    refine lv_if_eq (tgt := 29) hx hb dX0_arrive_16 (by decide) (fun h => ?_) (fun h => ?_)
    · have hw := hw.1 h
      refine lv_bipush (v := (-3)) hx hb dX0_arrive_29 (by decide) ?_
      refine W.widen (k := 1) (n := 66047) (Nat.zero_le _) (Nat.zero_le _) ?_
      exact rt_ia C rfl hH hS hw dX0_arrive_31
    have hw := hw.2 h
    refine lv_aload_n hx hb dX0_arrive_19 rfl (lv_at hl 1 rfl) ?_
    refine g0_1 C hH q744 dX0_arrive_20 ?_
    refine lv_sipush (v := 1514) hx hb dX0_arrive_23 (by decide) ?_
    refine lv_icmp_le (tgt := 32) hx hb dX0_arrive_26 (by decide) (fun h => ?_) (fun h => ?_)
    · have hw := hw.1 h
      refine lv_aload_n hx hb dX0_arrive_32 rfl (lv_at hl 1 rfl) ?_
      refine g0_3 C hH q746 dX0_arrive_33 ?_
      refine g2_3 C hH q226 dX0_arrive_36 ?_
      refine lv_istore_n (lv' := [(3, .int (σ 2 0 3)), (2, .int r1), (0, .ref (ga G 0 0)), (1, .int x1)]) hx hb dX0_arrive_39 rfl hl (by decide) rfl (fun ls hl => ?_)
      refine lv_aload_n hx hb dX0_arrive_40 rfl (lv_at hl 2 rfl) ?_
      refine lv_iload_n hx hb dX0_arrive_41 rfl (lv_at hl 3 rfl) ?_
      refine kc_v (rn_v (As := [.int x1]) (rest := []) C hH hS (by decide) rfl (by decide) (m0_goOn l G a1 τ σ x1 _ hw) (cwV 1 hts (lw_V q897 q899 qs7 q157 q900) rfl rfl rfl kX0_goOn ⟨Nat.le_of_ble_eq_true rfl, Nat.le_of_ble_eq_true rfl⟩) rfl hl.1 rfl (Nat.le_of_ble_eq_true rfl) dX0_arrive_42 ⟨Nat.le_of_ble_eq_true rfl, Nat.le_of_ble_eq_true rfl⟩) hS (fun σ2 H locs hw hH hS => ?_)
      refine lv_aload_n hx hb dX0_arrive_45 rfl (lv_at hl 2 rfl) ?_
      refine lv_dup hx hb dX0_arrive_46 rfl ?_
      refine g0_13 C hH q756 dX0_arrive_47 ?_
      refine lv_iconst (v := 1) hx hb dX0_arrive_50 (by decide) ?_
      refine lv_iadd hx hb dX0_arrive_51 ?_
      refine p0_13 C hH hS q756 dX0_arrive_52 (fun σ3 e3 H locs hH hS => ?_)
      have hw := hw σ3 e3
      refine lv_aload_n hx hb dX0_arrive_55 rfl (lv_at hl 2 rfl) ?_
      refine g0_1 C hH q744 dX0_arrive_56 ?_
      refine lv_istore (lv' := [(4, .int (σ3 0 0 1)), (3, .int (σ 2 0 3)), (2, .int r1), (0, .ref (ga G 0 0)), (1, .int x1)]) hx hb dX0_arrive_59 hl (by decide) rfl (fun ls hl => ?_)
      refine lv_aload_n hx hb dX0_arrive_61 rfl (lv_at hl 3 rfl) ?_
      refine lv_iconst (v := 0) hx hb dX0_arrive_62 (by decide) ?_
      refine p0_1 C hH hS q744 dX0_arrive_63 (fun σ4 e4 H locs hH hS => ?_)
      have hw := hw σ4 e4
      refine lv_aload_n hx hb dX0_arrive_66 rfl (lv_at hl 3 rfl) ?_
      refine lv_iload hx hb dX0_arrive_67 (lv_at hl 0 rfl) ?_
      refine kc_va (rn_v (As := [.int (σ3 0 0 1)]) (rest := []) C hH hS (by decide) rfl (by decide) (m0_frame l G a1 τ σ4 (σ3 0 0 1) _ hw) (cwV 1 hts (lw_V q1069 q1071 qs22 q157 q1072) rfl rfl rfl kX0_frame ⟨Nat.le_of_ble_eq_true rfl, Nat.le_of_ble_eq_true rfl⟩) rfl hl.1 rfl (Nat.le_of_ble_eq_true rfl) dX0_arrive_69 ⟨Nat.le_of_ble_eq_true rfl, Nat.le_of_ble_eq_true rfl⟩) hS (fun σ5 a5 H locs hw hH hS => ?_)
      refine W.cs (cells' := 1) (slots' := 66047) rfl rfl ?_
      refine lv_aload_n hx hb dX0_arrive_72 rfl (lv_at hl 3 rfl) ?_
      refine g0_3 C hH q746 dX0_arrive_73 ?_
      refine g2_3 C hH q226 dX0_arrive_76 ?_
      refine lv_iload_n hx hb dX0_arrive_79 rfl (lv_at hl 1 rfl) ?_
      refine lv_isub hx hb dX0_arrive_80 ?_
      exact rt_ia C rfl hH hS hw dX0_arrive_81
    have hw := hw.2 h
    refine lv_bipush (v := (-3)) hx hb dX0_arrive_29 (by decide) ?_
    refine W.widen (k := 1) (n := 66047) (Nat.zero_le _) (Nat.zero_le _) ?_
    exact rt_ia C rfl hH hS hw dX0_arrive_31
  have hw := hw.2 h
  refine lv_iload_n hx hb dX0_arrive_10 rfl (lv_at hl 0 rfl) ?_
  refine W.widen (k := 1) (n := 66047) (Nat.zero_le _) (Nat.zero_le _) ?_
  exact rt_ia C rfl hH hS hw dX0_arrive_11
