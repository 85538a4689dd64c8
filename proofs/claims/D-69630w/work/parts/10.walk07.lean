/-! walks -/
set_option maxRecDepth 100000
/-! WebHost$Hops.learn(I[BI)V -/
abbrev cX3_learn : ByteArray := prog_6_method_6_code
def yX3_learn : MethodName := ⟨RX3, "learn", "(I[BI)V"⟩
theorem dX3_learn_0 : decode cX3_learn 0 = .ok (.aload_n 0, 1) := by decide +kernel
theorem dX3_learn_1 : decode cX3_learn 1 = .ok (.iload_n 1, 1) := by decide +kernel
theorem dX3_learn_2 : decode cX3_learn 2 = .ok (.invokevirtual 56, 3) := by decide +kernel
theorem dX3_learn_5 : decode cX3_learn 5 = .ok (.istore 4, 2) := by decide +kernel
theorem dX3_learn_7 : decode cX3_learn 7 = .ok (.iload 4, 2) := by decide +kernel
theorem dX3_learn_9 : decode cX3_learn 9 = .ok (.ifCond .ge 44, 3) := by decide +kernel
theorem dX3_learn_12 : decode cX3_learn 12 = .ok (.aload_n 0, 1) := by decide +kernel
theorem dX3_learn_13 : decode cX3_learn 13 = .ok (.getfield 50, 3) := by decide +kernel
theorem dX3_learn_16 : decode cX3_learn 16 = .ok (.bipush 16, 2) := by decide +kernel
theorem dX3_learn_18 : decode cX3_learn 18 = .ok (.if_icmp .ge 10, 3) := by decide +kernel
theorem dX3_learn_21 : decode cX3_learn 21 = .ok (.aload_n 0, 1) := by decide +kernel
theorem dX3_learn_22 : decode cX3_learn 22 = .ok (.getfield 50, 3) := by decide +kernel
theorem dX3_learn_25 : decode cX3_learn 25 = .ok (.goto 7, 3) := by decide +kernel
theorem dX3_learn_28 : decode cX3_learn 28 = .ok (.aload_n 0, 1) := by decide +kernel
theorem dX3_learn_29 : decode cX3_learn 29 = .ok (.invokevirtual 84, 3) := by decide +kernel
theorem dX3_learn_32 : decode cX3_learn 32 = .ok (.istore 4, 2) := by decide +kernel
theorem dX3_learn_34 : decode cX3_learn 34 = .ok (.aload_n 0, 1) := by decide +kernel
theorem dX3_learn_35 : decode cX3_learn 35 = .ok (.getfield 50, 3) := by decide +kernel
theorem dX3_learn_38 : decode cX3_learn 38 = .ok (.bipush 16, 2) := by decide +kernel
theorem dX3_learn_40 : decode cX3_learn 40 = .ok (.if_icmp .ge 13, 3) := by decide +kernel
theorem dX3_learn_43 : decode cX3_learn 43 = .ok (.aload_n 0, 1) := by decide +kernel
theorem dX3_learn_44 : decode cX3_learn 44 = .ok (.dup, 1) := by decide +kernel
theorem dX3_learn_45 : decode cX3_learn 45 = .ok (.getfield 50, 3) := by decide +kernel
theorem dX3_learn_48 : decode cX3_learn 48 = .ok (.iconst 1, 1) := by decide +kernel
theorem dX3_learn_49 : decode cX3_learn 49 = .ok (.iadd, 1) := by decide +kernel
theorem dX3_learn_50 : decode cX3_learn 50 = .ok (.putfield 50, 3) := by decide +kernel
theorem dX3_learn_53 : decode cX3_learn 53 = .ok (.aload_n 0, 1) := by decide +kernel
theorem dX3_learn_54 : decode cX3_learn 54 = .ok (.getfield 9, 3) := by decide +kernel
theorem dX3_learn_57 : decode cX3_learn 57 = .ok (.iload 4, 2) := by decide +kernel
theorem dX3_learn_59 : decode cX3_learn 59 = .ok (.iload_n 1, 1) := by decide +kernel
theorem dX3_learn_60 : decode cX3_learn 60 = .ok (.iastore, 1) := by decide +kernel
theorem dX3_learn_61 : decode cX3_learn 61 = .ok (.aload_n 0, 1) := by decide +kernel
theorem dX3_learn_62 : decode cX3_learn 62 = .ok (.getfield 13, 3) := by decide +kernel
theorem dX3_learn_65 : decode cX3_learn 65 = .ok (.iload 4, 2) := by decide +kernel
theorem dX3_learn_67 : decode cX3_learn 67 = .ok (.aload_n 0, 1) := by decide +kernel
theorem dX3_learn_68 : decode cX3_learn 68 = .ok (.getfield 35, 3) := by decide +kernel
theorem dX3_learn_71 : decode cX3_learn 71 = .ok (.getfield 60, 3) := by decide +kernel
theorem dX3_learn_74 : decode cX3_learn 74 = .ok (.iastore, 1) := by decide +kernel
theorem dX3_learn_75 : decode cX3_learn 75 = .ok (.aload_n 2, 1) := by decide +kernel
theorem dX3_learn_76 : decode cX3_learn 76 = .ok (.iload_n 3, 1) := by decide +kernel
theorem dX3_learn_77 : decode cX3_learn 77 = .ok (.aload_n 0, 1) := by decide +kernel
theorem dX3_learn_78 : decode cX3_learn 78 = .ok (.getfield 16, 3) := by decide +kernel
theorem dX3_learn_81 : decode cX3_learn 81 = .ok (.bipush 6, 2) := by decide +kernel
theorem dX3_learn_83 : decode cX3_learn 83 = .ok (.iload 4, 2) := by decide +kernel
theorem dX3_learn_85 : decode cX3_learn 85 = .ok (.imul, 1) := by decide +kernel
theorem dX3_learn_86 : decode cX3_learn 86 = .ok (.bipush 6, 2) := by decide +kernel
theorem dX3_learn_88 : decode cX3_learn 88 = .ok (.invokestatic 88, 3) := by decide +kernel
theorem dX3_learn_91 : decode cX3_learn 91 = .ok (.aload_n 0, 1) := by decide +kernel
theorem dX3_learn_92 : decode cX3_learn 92 = .ok (.iload_n 1, 1) := by decide +kernel
theorem dX3_learn_93 : decode cX3_learn 93 = .ok (.iload 4, 2) := by decide +kernel
theorem dX3_learn_95 : decode cX3_learn 95 = .ok (.invokevirtual 92, 3) := by decide +kernel
theorem dX3_learn_98 : decode cX3_learn 98 = .ok (.return_, 1) := by decide +kernel
def rmX3_learn : Room := { frames := 3, cells := 0, slots := 0, locals := 78 }
theorem kX3_learn : yX3_learn.cls = "WebHost$Hops" ∧ yX3_learn.cls ≠ "java/lang/invoke/MethodHandle" ∧ yX3_learn.cls ≠ "java/lang/invoke/VarHandle" ∧ (parseMethodDescriptor yX3_learn.desc).map (fun d => d.parameters.length) = some 3 := by decide +kernel
def w3_learn_J53 (σ : St) (x1 : Int32) (k2 : Nat) (i2 : Nat) (x3 : Int32) (x4 : Int32) (Q : St → Prop) : Prop := vp_in x4 16 ∧ (∀ σ2, σ2 = up3 σ 28 0 x4.toNatClampNeg x1 → (vp_in x4 16 ∧ (∀ σ3, σ3 = up3 σ2 29 0 x4.toNatClampNeg (σ2 2 0 4) → (w19_copy σ3 k2 i2 x3 30 0 (6 * x4) 6 (fun σ4 => (w3_release σ4 x1 x4 (fun σ5 => (Q σ5))))))))
set_option maxHeartbeats 4000000 in
theorem k3_learn_J53 {p : Program} {l : Launch} {e : Env} {s : State} {m : MethodId} {args : Array Value} {below : List Frame} {meth : Method} {c : Code} {G : Gh} {a1 : Nat → Nat → Nat} {τ : St} {Q : St → Prop} (C : Cx p e s m args meth c cX3_learn 5 none "WebHost$Hops" G) (σ : St) (x1 : Int32) (k2 : Nat) (i2 : Nat) (x3 : Int32) (x4 : Int32) (hk2 : abc k2 i2 = true) (hw : w3_learn_J53 σ x1 k2 i2 x3 x4 Q) (H : Heap) (locs : List Loc) (ls : Array Slot) (hH : Hd G a1 (cmb σ τ) H) (hS : va_S (gA G) s.heap H locs) (hl : lv_has ls 5 [(0, .ref (ga G 3 0)), (1, .int x1), (2, .ref (adr G a1 k2 i2)), (3, .int x3), (4, .int x4)]) : W p l e rmX3_learn s m args below meth c H locs 0 0 (MQ below (QVs G a1 (fun u => cmb u τ) Q) args s 0 0 (gA G)) (F0 m 53 ls []) := by
  have hx := C.1
  have hb := C.2.1
  have hown := C.2.2.2.2.2.1
  have hts := C.2.2.2.2.2.2.1
  refine lv_aload_n hx hb dX3_learn_53 rfl (lv_at hl 0 rfl) ?_
  refine g3_4 C hH q283 dX3_learn_54 ?_
  refine lv_iload hx hb dX3_learn_57 (lv_at hl 4 rfl) ?_
  refine lv_iload_n hx hb dX3_learn_59 rfl (lv_at hl 1 rfl) ?_
  refine s28 C hH hS hw.1 dX3_learn_60 (fun σ2 e2 H locs hH hS => ?_)
  have hw := hw.2 σ2 e2
  refine lv_aload_n hx hb dX3_learn_61 rfl (lv_at hl 0 rfl) ?_
  refine g3_5 C hH q284 dX3_learn_62 ?_
  refine lv_iload hx hb dX3_learn_65 (lv_at hl 4 rfl) ?_
  refine lv_aload_n hx hb dX3_learn_67 rfl (lv_at hl 0 rfl) ?_
  refine g3_0 C hH q279 dX3_learn_68 ?_
  refine g2_4 C hH q229 dX3_learn_71 ?_
  refine s29 C hH hS hw.1 dX3_learn_74 (fun σ3 e3 H locs hH hS => ?_)
  have hw := hw.2 σ3 e3
  refine lv_aload_n hx hb dX3_learn_75 rfl (lv_at hl 2 rfl) ?_
  refine lv_iload_n hx hb dX3_learn_76 rfl (lv_at hl 3 rfl) ?_
  refine lv_aload_n hx hb dX3_learn_77 rfl (lv_at hl 0 rfl) ?_
  refine g3_6 C hH q285 dX3_learn_78 ?_
  refine lv_bipush (v := 6) hx hb dX3_learn_81 (by decide) ?_
  refine lv_iload hx hb dX3_learn_83 (lv_at hl 4 rfl) ?_
  refine lv_imul hx hb dX3_learn_85 ?_
  refine lv_bipush (v := 6) hx hb dX3_learn_86 (by decide) ?_
  refine kc_v (rn_s (As := [.ref (adr G a1 k2 i2), .int x3, .ref (adr G a1 30 0), .int (6 * x4), .int 6]) (rest := []) C hH hS (m19_copy l G a1 τ σ3 k2 i2 x3 30 0 (6 * x4) 6 hk2 (by decide) _ hw) (va_cwS 5 hts (lw_S q951 q806 q176 q807) rfl rfl rfl kX19_copy.2 ⟨Nat.le_of_ble_eq_true rfl, Nat.le_of_ble_eq_true rfl⟩) rfl hl.1 rfl (Nat.le_of_ble_eq_true rfl) dX3_learn_88 ⟨Nat.le_of_ble_eq_true rfl, Nat.le_of_ble_eq_true rfl⟩) hS (fun σ4 H locs hw hH hS => ?_)
  refine lv_aload_n hx hb dX3_learn_91 rfl (lv_at hl 0 rfl) ?_
  refine lv_iload_n hx hb dX3_learn_92 rfl (lv_at hl 1 rfl) ?_
  refine lv_iload hx hb dX3_learn_93 (lv_at hl 4 rfl) ?_
  refine kc_v (rn_v (As := [.int x1, .int x4]) (rest := []) C hH hS (by decide) rfl (by decide) (m3_release l G a1 τ σ4 x1 x4 _ hw) (cwV 2 hts (lw_V q1092 q1094 qs25 q160 q1095) rfl rfl rfl kX3_release ⟨Nat.le_of_ble_eq_true rfl, Nat.le_of_ble_eq_true rfl⟩) rfl hl.1 rfl (Nat.le_of_ble_eq_true rfl) dX3_learn_95 ⟨Nat.le_of_ble_eq_true rfl, Nat.le_of_ble_eq_true rfl⟩) hS (fun σ5 H locs hw hH hS => ?_)
  exact rt_v C hH hS hw dX3_learn_98
def w3_learn (σ : St) (x1 : Int32) (k2 : Nat) (i2 : Nat) (x3 : Int32) (Q : St → Prop) : Prop := w3_find σ x1 (fun r1 => ((0 ≤ r1 → w3_learn_J53 σ x1 k2 i2 x3 r1 Q) ∧ (¬ 0 ≤ r1 → ((16 ≤ (σ 3 0 7) → (w3_oldest σ (fun r6 => ((16 ≤ (σ 3 0 7) → w3_learn_J53 σ x1 k2 i2 x3 r6 Q) ∧ (¬ 16 ≤ (σ 3 0 7) → (∀ σ7, σ7 = up3 σ 3 0 7 ((σ 3 0 7) + 1) → (w3_learn_J53 σ7 x1 k2 i2 x3 r6 Q))))))) ∧ (¬ 16 ≤ (σ 3 0 7) → ((16 ≤ (σ 3 0 7) → (w3_learn_J53 σ x1 k2 i2 x3 (σ 3 0 7) Q)) ∧ (¬ 16 ≤ (σ 3 0 7) → (∀ σ8, σ8 = up3 σ 3 0 7 ((σ 3 0 7) + 1) → (w3_learn_J53 σ8 x1 k2 i2 x3 (σ 3 0 7) Q)))))))))
set_option maxHeartbeats 4000000 in
theorem m3_learn (l : Launch) (G : Gh) (a1 : Nat → Nat → Nat) (τ : St) (σ : St) (x1 : Int32) (k2 : Nat) (i2 : Nat) (x3 : Int32) (hk2 : abc k2 i2 = true) (Q : St → Prop) (hw : w3_learn σ x1 k2 i2 x3 Q) : Met l yX3_learn (ws_ yX3_learn cX3_learn 5 none) rmX3_learn (PcS G a1 (cmb σ τ) [.ref (ga G 3 0), .int x1, .ref (adr G a1 k2 i2), .int x3]) (QVs G a1 (fun u => cmb u τ) Q) 0 0 (gA G) := by
  refine met_w (by decide) (Nat.le_of_ble_eq_true rfl) ?_
  intro p e s m below meth c ls C hH hS hl
  have C : Cx p e s m _ meth c cX3_learn 5 none "WebHost$Hops" G := C
  have hl : lv_has ls 5 [(0, .ref (ga G 3 0)), (1, .int x1), (2, .ref (adr G a1 k2 i2)), (3, .int x3)] := hl
  have hx := C.1
  have hb := C.2.1
  have hown := C.2.2.2.2.2.1
  have hts := C.2.2.2.2.2.2.1
  obtain ⟨locs, hlocs⟩ : ∃ z : List Loc, z = [] := ⟨_, rfl⟩
  obtain ⟨H, hHe⟩ : ∃ z : Heap, z = s.heap := ⟨_, rfl⟩
  have hH : Hd G a1 (cmb σ τ) H := by rw [hHe]; exact hH
  have hS : va_S (gA G) s.heap H locs := by rw [hHe, hlocs]; exact hS
  refine W.heap0 hHe.symm hlocs.symm ?_
  refine lv_aload_n hx hb dX3_learn_0 rfl (lv_at hl 0 rfl) ?_
  refine lv_iload_n hx hb dX3_learn_1 rfl (lv_at hl 1 rfl) ?_
  refine kc_ip (rn_vp (As := [.int x1]) (rest := []) C hH hS (by decide) rfl (by decide) (m3_find l G a1 τ σ H x1 _ hw) (cwV 1 hts (lw_V q1013 q1015 qs14 q160 q1016) rfl rfl rfl kX3_find ⟨Nat.le_of_ble_eq_true rfl, Nat.le_of_ble_eq_true rfl⟩) rfl hl.1 rfl (Nat.le_of_ble_eq_true rfl) dX3_learn_2 ⟨Nat.le_of_ble_eq_true rfl, Nat.le_of_ble_eq_true rfl⟩) hS (fun r1 locs hw hS => ?_)
  refine lv_istore (lv' := [(4, .int r1), (0, .ref (ga G 3 0)), (1, .int x1), (2, .ref (adr G a1 k2 i2)), (3, .int x3)]) hx hb dX3_learn_5 hl (by decide) rfl (fun ls hl => ?_)
  refine lv_iload hx hb dX3_learn_7 (lv_at hl 0 rfl) ?_
  refine lv_if_ge (tgt := 53) hx hb dX3_learn_9 (by decide) (fun h => ?_) (fun h => ?_)
  · have hw := hw.1 h
    exact k3_learn_J53 C σ x1 k2 i2 x3 r1 hk2 hw H locs ls hH hS (lv_sub hl [1, 2, 3, 4, 0] rfl)
  have hw := hw.2 h
  refine lv_aload_n hx hb dX3_learn_12 rfl (lv_at hl 1 rfl) ?_
  refine g3_7 C hH q286 dX3_learn_13 ?_
  refine lv_bipush (v := 16) hx hb dX3_learn_16 (by decide) ?_
  refine lv_icmp_ge (tgt := 28) hx hb dX3_learn_18 (by decide) (fun h => ?_) (fun h => ?_)
  · have hw := hw.1 h
    refine lv_aload_n hx hb dX3_learn_28 rfl (lv_at hl 1 rfl) ?_
    refine kc_ip (rn_vp (As := []) (rest := []) C hH hS (by decide) rfl (by decide) (m3_oldest l G a1 τ σ H _ hw) (cwV 0 hts (lw_V q1088 q1090 qs24 q160 q1091) rfl rfl rfl kX3_oldest ⟨Nat.le_of_ble_eq_true rfl, Nat.le_of_ble_eq_true rfl⟩) rfl hl.1 rfl (Nat.le_of_ble_eq_true rfl) dX3_learn_29 ⟨Nat.le_of_ble_eq_true rfl, Nat.le_of_ble_eq_true rfl⟩) hS (fun r6 locs hw hS => ?_)
    refine lv_istore (lv' := [(4, .int r6), (0, .ref (ga G 3 0)), (1, .int x1), (2, .ref (adr G a1 k2 i2)), (3, .int x3)]) hx hb dX3_learn_32 hl (by decide) rfl (fun ls hl => ?_)
    refine lv_aload_n hx hb dX3_learn_34 rfl (lv_at hl 1 rfl) ?_
    refine g3_7 C hH q286 dX3_learn_35 ?_
    refine lv_bipush (v := 16) hx hb dX3_learn_38 (by decide) ?_
    refine lv_icmp_ge (tgt := 53) hx hb dX3_learn_40 (by decide) (fun h => ?_) (fun h => ?_)
    · have hw := hw.1 h
      exact k3_learn_J53 C σ x1 k2 i2 x3 r6 hk2 hw H locs ls hH hS (lv_sub hl [1, 2, 3, 4, 0] rfl)
    have hw := hw.2 h
    refine lv_aload_n hx hb dX3_learn_43 rfl (lv_at hl 1 rfl) ?_
    refine lv_dup hx hb dX3_learn_44 rfl ?_
    refine g3_7 C hH q286 dX3_learn_45 ?_
    refine lv_iconst (v := 1) hx hb dX3_learn_48 (by decide) ?_
    refine lv_iadd hx hb dX3_learn_49 ?_
    refine p3_7 C hH hS q286 dX3_learn_50 (fun σ7 e7 H locs hH hS => ?_)
    have hw := hw σ7 e7
    exact k3_learn_J53 C σ7 x1 k2 i2 x3 r6 hk2 hw H locs ls hH hS (lv_sub hl [1, 2, 3, 4, 0] rfl)
  have hw := hw.2 h
  refine lv_aload_n hx hb dX3_learn_21 rfl (lv_at hl 1 rfl) ?_
  refine g3_7 C hH q286 dX3_learn_22 ?_
  refine lv_goto (tgt := 32) hx hb dX3_learn_25 (by decide) ?_
  refine lv_istore (lv' := [(4, .int (σ 3 0 7)), (0, .ref (ga G 3 0)), (1, .int x1), (2, .ref (adr G a1 k2 i2)), (3, .int x3)]) hx hb dX3_learn_32 hl (by decide) rfl (fun ls hl => ?_)
  refine lv_aload_n hx hb dX3_learn_34 rfl (lv_at hl 1 rfl) ?_
  refine g3_7 C hH q286 dX3_learn_35 ?_
  refine lv_bipush (v := 16) hx hb dX3_learn_38 (by decide) ?_
  refine lv_icmp_ge (tgt := 53) hx hb dX3_learn_40 (by decide) (fun h => ?_) (fun h => ?_)
  · have hw := hw.1 h
    exact k3_learn_J53 C σ x1 k2 i2 x3 (σ 3 0 7) hk2 hw H locs ls hH hS (lv_sub hl [1, 2, 3, 4, 0] rfl)
  have hw := hw.2 h
  refine lv_aload_n hx hb dX3_learn_43 rfl (lv_at hl 1 rfl) ?_
  refine lv_dup hx hb dX3_learn_44 rfl ?_
  refine g3_7 C hH q286 dX3_learn_45 ?_
  refine lv_iconst (v := 1) hx hb dX3_learn_48 (by decide) ?_
  refine lv_iadd hx hb dX3_learn_49 ?_
  refine p3_7 C hH hS q286 dX3_learn_50 (fun σ8 e8 H locs hH hS => ?_)
  have hw := hw σ8 e8
  exact k3_learn_J53 C σ8 x1 k2 i2 x3 (σ 3 0 7) hk2 hw H locs ls hH hS (lv_sub hl [1, 2, 3, 4, 0] rfl)
/-! WebHost$Hops.send(I[BI)V -/
abbrev cX3_send : ByteArray := prog_6_method_11_code
def yX3_send : MethodName := ⟨RX3, "send", "(I[BI)V"⟩
theorem dX3_send_0 : decode cX3_send 0 = .ok (.iload_n 1, 1) := by decide +kernel
theorem dX3_send_1 : decode cX3_send 1 = .ok (.aload_n 0, 1) := by decide +kernel
theorem dX3_send_2 : decode cX3_send 2 = .ok (.getfield 44, 3) := by decide +kernel
theorem dX3_send_5 : decode cX3_send 5 = .ok (.iand, 1) := by decide +kernel
theorem dX3_send_6 : decode cX3_send 6 = .ok (.aload_n 0, 1) := by decide +kernel
theorem dX3_send_7 : decode cX3_send 7 = .ok (.getfield 40, 3) := by decide +kernel
theorem dX3_send_10 : decode cX3_send 10 = .ok (.aload_n 0, 1) := by decide +kernel
theorem dX3_send_11 : decode cX3_send 11 = .ok (.getfield 44, 3) := by decide +kernel
theorem dX3_send_14 : decode cX3_send 14 = .ok (.iand, 1) := by decide +kernel
theorem dX3_send_15 : decode cX3_send 15 = .ok (.if_icmp .ne 7, 3) := by decide +kernel
theorem dX3_send_18 : decode cX3_send 18 = .ok (.iload_n 1, 1) := by decide +kernel
theorem dX3_send_19 : decode cX3_send 19 = .ok (.goto 7, 3) := by decide +kernel
theorem dX3_send_22 : decode cX3_send 22 = .ok (.aload_n 0, 1) := by decide +kernel
theorem dX3_send_23 : decode cX3_send 23 = .ok (.getfield 47, 3) := by decide +kernel
theorem dX3_send_26 : decode cX3_send 26 = .ok (.istore 4, 2) := by decide +kernel
theorem dX3_send_28 : decode cX3_send 28 = .ok (.aload_n 0, 1) := by decide +kernel
theorem dX3_send_29 : decode cX3_send 29 = .ok (.iload 4, 2) := by decide +kernel
theorem dX3_send_31 : decode cX3_send 31 = .ok (.invokevirtual 121, 3) := by decide +kernel
theorem dX3_send_34 : decode cX3_send 34 = .ok (.ifCond .eq 29, 3) := by decide +kernel
theorem dX3_send_37 : decode cX3_send 37 = .ok (.aload_n 0, 1) := by decide +kernel
theorem dX3_send_38 : decode cX3_send 38 = .ok (.getfield 35, 3) := by decide +kernel
theorem dX3_send_41 : decode cX3_send 41 = .ok (.aload_n 0, 1) := by decide +kernel
theorem dX3_send_42 : decode cX3_send 42 = .ok (.getfield 16, 3) := by decide +kernel
theorem dX3_send_45 : decode cX3_send 45 = .ok (.bipush 6, 2) := by decide +kernel
theorem dX3_send_47 : decode cX3_send 47 = .ok (.aload_n 0, 1) := by decide +kernel
theorem dX3_send_48 : decode cX3_send 48 = .ok (.iload 4, 2) := by decide +kernel
theorem dX3_send_50 : decode cX3_send 50 = .ok (.invokevirtual 56, 3) := by decide +kernel
theorem dX3_send_53 : decode cX3_send 53 = .ok (.imul, 1) := by decide +kernel
theorem dX3_send_54 : decode cX3_send 54 = .ok (.sipush 2048, 3) := by decide +kernel
theorem dX3_send_57 : decode cX3_send 57 = .ok (.aload_n 2, 1) := by decide +kernel
theorem dX3_send_58 : decode cX3_send 58 = .ok (.iload_n 3, 1) := by decide +kernel
theorem dX3_send_59 : decode cX3_send 59 = .ok (.invokevirtual 107, 3) := by decide +kernel
theorem dX3_send_62 : decode cX3_send 62 = .ok (.return_, 1) := by decide +kernel
theorem dX3_send_63 : decode cX3_send 63 = .ok (.iconst 0, 1) := by decide +kernel
theorem dX3_send_64 : decode cX3_send 64 = .ok (.istore 5, 2) := by decide +kernel
theorem dX3_send_66 : decode cX3_send 66 = .ok (.iload 5, 2) := by decide +kernel
theorem dX3_send_68 : decode cX3_send 68 = .ok (.aload_n 0, 1) := by decide +kernel
theorem dX3_send_69 : decode cX3_send 69 = .ok (.getfield 53, 3) := by decide +kernel
theorem dX3_send_72 : decode cX3_send 72 = .ok (.if_icmp .ge 24, 3) := by decide +kernel
theorem dX3_send_75 : decode cX3_send 75 = .ok (.aload_n 0, 1) := by decide +kernel
theorem dX3_send_76 : decode cX3_send 76 = .ok (.getfield 22, 3) := by decide +kernel
theorem dX3_send_79 : decode cX3_send 79 = .ok (.iload 5, 2) := by decide +kernel
theorem dX3_send_81 : decode cX3_send 81 = .ok (.aaload, 1) := by decide +kernel
theorem dX3_send_82 : decode cX3_send 82 = .ok (.getfield 96, 3) := by decide +kernel
theorem dX3_send_85 : decode cX3_send 85 = .ok (.iload 4, 2) := by decide +kernel
theorem dX3_send_87 : decode cX3_send 87 = .ok (.if_icmp .eq 9, 3) := by decide +kernel
theorem dX3_send_90 : decode cX3_send 90 = .ok (.iinc 5 1, 3) := by decide +kernel
theorem dX3_send_93 : decode cX3_send 93 = .ok (.goto (-27), 3) := by decide +kernel
theorem dX3_send_96 : decode cX3_send 96 = .ok (.iload 5, 2) := by decide +kernel
theorem dX3_send_98 : decode cX3_send 98 = .ok (.bipush 8, 2) := by decide +kernel
theorem dX3_send_100 : decode cX3_send 100 = .ok (.if_icmp .ne 4, 3) := by decide +kernel
theorem dX3_send_103 : decode cX3_send 103 = .ok (.return_, 1) := by decide +kernel
theorem dX3_send_104 : decode cX3_send 104 = .ok (.aload_n 0, 1) := by decide +kernel
theorem dX3_send_105 : decode cX3_send 105 = .ok (.getfield 22, 3) := by decide +kernel
theorem dX3_send_108 : decode cX3_send 108 = .ok (.iload 5, 2) := by decide +kernel
theorem dX3_send_110 : decode cX3_send 110 = .ok (.aaload, 1) := by decide +kernel
theorem dX3_send_111 : decode cX3_send 111 = .ok (.astore 6, 2) := by decide +kernel
theorem dX3_send_113 : decode cX3_send 113 = .ok (.aload_n 2, 1) := by decide +kernel
theorem dX3_send_114 : decode cX3_send 114 = .ok (.iconst 0, 1) := by decide +kernel
theorem dX3_send_115 : decode cX3_send 115 = .ok (.aload 6, 2) := by decide +kernel
theorem dX3_send_117 : decode cX3_send 117 = .ok (.getfield 103, 3) := by decide +kernel
theorem dX3_send_120 : decode cX3_send 120 = .ok (.iconst 0, 1) := by decide +kernel
theorem dX3_send_121 : decode cX3_send 121 = .ok (.iload_n 3, 1) := by decide +kernel
theorem dX3_send_122 : decode cX3_send 122 = .ok (.invokestatic 88, 3) := by decide +kernel
theorem dX3_send_125 : decode cX3_send 125 = .ok (.aload 6, 2) := by decide +kernel
theorem dX3_send_127 : decode cX3_send 127 = .ok (.iload_n 3, 1) := by decide +kernel
theorem dX3_send_128 : decode cX3_send 128 = .ok (.putfield 104, 3) := by decide +kernel
theorem dX3_send_131 : decode cX3_send 131 = .ok (.iload 5, 2) := by decide +kernel
theorem dX3_send_133 : decode cX3_send 133 = .ok (.aload_n 0, 1) := by decide +kernel
theorem dX3_send_134 : decode cX3_send 134 = .ok (.getfield 53, 3) := by decide +kernel
theorem dX3_send_137 : decode cX3_send 137 = .ok (.if_icmp .ge 4, 3) := by decide +kernel
theorem dX3_send_140 : decode cX3_send 140 = .ok (.return_, 1) := by decide +kernel
theorem dX3_send_141 : decode cX3_send 141 = .ok (.aload_n 0, 1) := by decide +kernel
theorem dX3_send_142 : decode cX3_send 142 = .ok (.dup, 1) := by decide +kernel
theorem dX3_send_143 : decode cX3_send 143 = .ok (.getfield 53, 3) := by decide +kernel
theorem dX3_send_146 : decode cX3_send 146 = .ok (.iconst 1, 1) := by decide +kernel
theorem dX3_send_147 : decode cX3_send 147 = .ok (.iadd, 1) := by decide +kernel
theorem dX3_send_148 : decode cX3_send 148 = .ok (.putfield 53, 3) := by decide +kernel
theorem dX3_send_151 : decode cX3_send 151 = .ok (.aload 6, 2) := by decide +kernel
theorem dX3_send_153 : decode cX3_send 153 = .ok (.iload 4, 2) := by decide +kernel
theorem dX3_send_155 : decode cX3_send 155 = .ok (.putfield 96, 3) := by decide +kernel
theorem dX3_send_158 : decode cX3_send 158 = .ok (.aload 6, 2) := by decide +kernel
theorem dX3_send_160 : decode cX3_send 160 = .ok (.aload_n 0, 1) := by decide +kernel
theorem dX3_send_161 : decode cX3_send 161 = .ok (.getfield 35, 3) := by decide +kernel
theorem dX3_send_164 : decode cX3_send 164 = .ok (.getfield 60, 3) := by decide +kernel
theorem dX3_send_167 : decode cX3_send 167 = .ok (.putfield 125, 3) := by decide +kernel
theorem dX3_send_170 : decode cX3_send 170 = .ok (.aload 6, 2) := by decide +kernel
theorem dX3_send_172 : decode cX3_send 172 = .ok (.iconst 1, 1) := by decide +kernel
theorem dX3_send_173 : decode cX3_send 173 = .ok (.putfield 128, 3) := by decide +kernel
theorem dX3_send_176 : decode cX3_send 176 = .ok (.aload_n 0, 1) := by decide +kernel
theorem dX3_send_177 : decode cX3_send 177 = .ok (.iconst 1, 1) := by decide +kernel
theorem dX3_send_178 : decode cX3_send 178 = .ok (.aload_n 0, 1) := by decide +kernel
theorem dX3_send_179 : decode cX3_send 179 = .ok (.getfield 32, 3) := by decide +kernel
theorem dX3_send_182 : decode cX3_send 182 = .ok (.iconst 0, 1) := by decide +kernel
theorem dX3_send_183 : decode cX3_send 183 = .ok (.iload 4, 2) := by decide +kernel
theorem dX3_send_185 : decode cX3_send 185 = .ok (.invokevirtual 80, 3) := by decide +kernel
theorem dX3_send_188 : decode cX3_send 188 = .ok (.return_, 1) := by decide +kernel
def rmX3_send : Room := { frames := 3, cells := 0, slots := 0, locals := 78 }
theorem kX3_send : yX3_send.cls = "WebHost$Hops" ∧ yX3_send.cls ≠ "java/lang/invoke/MethodHandle" ∧ yX3_send.cls ≠ "java/lang/invoke/VarHandle" ∧ (parseMethodDescriptor yX3_send.desc).map (fun d => d.parameters.length) = some 3 := by decide +kernel
def w3_send_L66 (σ : St) (k2 : Nat) (i2 : Nat) (x3 : Int32) (x4 : Int32) (Q : St → Prop) (K96 : Int32 → Prop) : Nat → Int32 → Prop
  | 0, _ => False
  | n + 1, x5 => ((σ 3 0 9) ≤ x5 → K96 x5) ∧ (¬ (σ 3 0 9) ≤ x5 → (vp_in x5 8 ∧ ((σ 31 0 x5.toNatClampNeg).toNatClampNeg < 8 ∧ (((σ 4 ((σ 31 0 x5.toNatClampNeg).toNatClampNeg) 0) = x4 → K96 x5) ∧ (¬ (σ 4 ((σ 31 0 x5.toNatClampNeg).toNatClampNeg) 0) = x4 → (w3_send_L66 σ k2 i2 x3 x4 Q K96 n (x5 + 1)))))))
set_option maxHeartbeats 4000000 in
theorem k3_send_L66 {p : Program} {l : Launch} {e : Env} {s : State} {m : MethodId} {args : Array Value} {below : List Frame} {meth : Method} {c : Code} {G : Gh} {a1 : Nat → Nat → Nat} {τ : St} {Q : St → Prop} {K96 : Int32 → Prop} (C : Cx p e s m args meth c cX3_send 7 none "WebHost$Hops" G) (σ : St) (k2 : Nat) (i2 : Nat) (x3 : Int32) (x4 : Int32) (hk2 : abc k2 i2 = true) :
    ∀ (n : Nat) (x5 : Int32), w3_send_L66 σ k2 i2 x3 x4 Q K96 n x5 → ∀ (H : Heap) (locs : List Loc) (ls : Array Slot), Hd G a1 (cmb σ τ) H → va_S (gA G) s.heap H locs → lv_has ls 7 [(0, .ref (ga G 3 0)), (2, .ref (adr G a1 k2 i2)), (3, .int x3), (4, .int x4), (5, .int x5)] → (∀ (x5 : Int32), K96 x5 → ∀ (H : Heap) (locs : List Loc) (ls : Array Slot), Hd G a1 (cmb σ τ) H → va_S (gA G) s.heap H locs → lv_has ls 7 [(0, .ref (ga G 3 0)), (2, .ref (adr G a1 k2 i2)), (3, .int x3), (4, .int x4), (5, .int x5)] → W p l e rmX3_send s m args below meth c H locs 0 0 (MQ below (QVs G a1 (fun u => cmb u τ) Q) args s 0 0 (gA G)) (F0 m 96 ls [])) → W p l e rmX3_send s m args below meth c H locs 0 0 (MQ below (QVs G a1 (fun u => cmb u τ) Q) args s 0 0 (gA G)) (F0 m 66 ls []) := by
  have hx := C.1
  have hb := C.2.1
  have hown := C.2.2.2.2.2.1
  have hts := C.2.2.2.2.2.2.1
  intro n
  induction n with
  | zero =>
    intro x5 hw
    exact False.elim hw
  | succ n ih =>
    intro x5 hw H locs ls hH hS hl hK96
    refine lv_iload hx hb dX3_send_66 (lv_at hl 4 rfl) ?_
    refine lv_aload_n hx hb dX3_send_68 rfl (lv_at hl 0 rfl) ?_
    refine g3_9 C hH q288 dX3_send_69 ?_
    refine lv_icmp_ge (tgt := 96) hx hb dX3_send_72 (by decide) (fun h => ?_) (fun h => ?_)
    · have hw := hw.1 h
      exact hK96 x5 hw H locs ls hH hS (lv_sub hl [0, 1, 2, 3, 4] rfl)
    have hw := hw.2 h
    refine lv_aload_n hx hb dX3_send_75 rfl (lv_at hl 0 rfl) ?_
    refine g3_8 C hH q287 dX3_send_76 ?_
    refine lv_iload hx hb dX3_send_79 (lv_at hl 4 rfl) ?_
    refine l31 C hH hw.1 dX3_send_81 ?_
    obtain ⟨hq2, hw⟩ := hw.2
    refine g4_0 C hH hq2 q260 dX3_send_82 ?_
    refine lv_iload hx hb dX3_send_85 (lv_at hl 3 rfl) ?_
    refine lv_icmp_eq (tgt := 96) hx hb dX3_send_87 (by decide) (fun h => ?_) (fun h => ?_)
    · have hw := hw.1 h
      exact hK96 x5 hw H locs ls hH hS (lv_sub hl [0, 1, 2, 3, 4] rfl)
    have hw := hw.2 h
    refine lv_iinc (v := x5 + 1) (lv' := [(5, .int (x5 + 1)), (0, .ref (ga G 3 0)), (2, .ref (adr G a1 k2 i2)), (3, .int x3), (4, .int x4)]) hx hb dX3_send_90 hl (k := 4) rfl rfl (by decide) rfl (fun ls hl => ?_)
    refine lv_goto (tgt := 66) hx hb dX3_send_93 (by decide) ?_
    exact ih (x5 + 1) hw H locs ls hH hS (lv_sub hl [1, 2, 3, 4, 0] rfl) hK96
def w3_send_J96 (σ : St) (k2 : Nat) (i2 : Nat) (x3 : Int32) (x4 : Int32) (x5 : Int32) (Q : St → Prop) : Prop := (¬ x5 = 8 → (vp_in x5 8 ∧ ((σ 31 0 x5.toNatClampNeg).toNatClampNeg < 8 ∧ (w19_copy σ k2 i2 0 35 ((σ 31 0 x5.toNatClampNeg).toNatClampNeg) 0 x3 (fun σ6 => (∀ σ7, σ7 = up3 σ6 4 ((σ 31 0 x5.toNatClampNeg).toNatClampNeg) 4 x3 → (((σ7 3 0 9) ≤ x5 → (∀ σ8, σ8 = up3 σ7 3 0 9 ((σ7 3 0 9) + 1) → (∀ σ9, σ9 = up3 σ8 4 ((σ 31 0 x5.toNatClampNeg).toNatClampNeg) 0 x4 → (∀ σ10, σ10 = up3 σ9 4 ((σ 31 0 x5.toNatClampNeg).toNatClampNeg) 1 (σ9 2 0 4) → (∀ σ11, σ11 = up3 σ10 4 ((σ 31 0 x5.toNatClampNeg).toNatClampNeg) 2 1 → (w3_tell σ11 1 34 0 0 x4 (fun σ12 => (Q σ12)))))))) ∧ (¬ (σ7 3 0 9) ≤ x5 → Q σ7)))))))) ∧ (x5 = 8 → Q σ)
set_option maxHeartbeats 4000000 in
theorem k3_send_J96 {p : Program} {l : Launch} {e : Env} {s : State} {m : MethodId} {args : Array Value} {below : List Frame} {meth : Method} {c : Code} {G : Gh} {a1 : Nat → Nat → Nat} {τ : St} {Q : St → Prop} (C : Cx p e s m args meth c cX3_send 7 none "WebHost$Hops" G) (σ : St) (k2 : Nat) (i2 : Nat) (x3 : Int32) (x4 : Int32) (x5 : Int32) (hk2 : abc k2 i2 = true) (hw : w3_send_J96 σ k2 i2 x3 x4 x5 Q) (H : Heap) (locs : List Loc) (ls : Array Slot) (hH : Hd G a1 (cmb σ τ) H) (hS : va_S (gA G) s.heap H locs) (hl : lv_has ls 7 [(0, .ref (ga G 3 0)), (2, .ref (adr G a1 k2 i2)), (3, .int x3), (4, .int x4), (5, .int x5)]) : W p l e rmX3_send s m args below meth c H locs 0 0 (MQ below (QVs G a1 (fun u => cmb u τ) Q) args s 0 0 (gA G)) (F0 m 96 ls []) := by
  have hx := C.1
  have hb := C.2.1
  have hown := C.2.2.2.2.2.1
  have hts := C.2.2.2.2.2.2.1
  refine lv_iload hx hb dX3_send_96 (lv_at hl 4 rfl) ?_
  refine lv_bipush (v := 8) hx hb dX3_send_98 (by decide) ?_
  refine lv_icmp_ne (tgt := 104) hx hb dX3_send_100 (by decide) (fun h => ?_) (fun h => ?_)
  · have hw := hw.1 h
    refine lv_aload_n hx hb dX3_send_104 rfl (lv_at hl 0 rfl) ?_
    refine g3_8 C hH q287 dX3_send_105 ?_
    refine lv_iload hx hb dX3_send_108 (lv_at hl 4 rfl) ?_
    refine l31 C hH hw.1 dX3_send_110 ?_
    obtain ⟨hq5, hw⟩ := hw.2
    refine lv_astore (lv' := [(6, .ref (ga G 4 ((σ 31 0 x5.toNatClampNeg).toNatClampNeg))), (0, .ref (ga G 3 0)), (2, .ref (adr G a1 k2 i2)), (3, .int x3), (4, .int x4), (5, .int x5)]) hx hb dX3_send_111 hl (by decide) rfl (fun ls hl => ?_)
    refine lv_aload_n hx hb dX3_send_113 rfl (lv_at hl 2 rfl) ?_
    refine lv_iconst (v := 0) hx hb dX3_send_114 (by decide) ?_
    refine lv_aload hx hb dX3_send_115 (lv_at hl 0 rfl) ?_
    refine g4_3 C hH hq5 q266 dX3_send_117 ?_
    refine lv_iconst (v := 0) hx hb dX3_send_120 (by decide) ?_
    refine lv_iload_n hx hb dX3_send_121 rfl (lv_at hl 3 rfl) ?_
    refine kc_v (rn_s (As := [.ref (adr G a1 k2 i2), .int 0, .ref (adr G a1 35 ((σ 31 0 x5.toNatClampNeg).toNatClampNeg)), .int 0, .int x3]) (rest := []) C hH hS (m19_copy l G a1 τ σ k2 i2 0 35 ((σ 31 0 x5.toNatClampNeg).toNatClampNeg) 0 x3 hk2 (ok35 hq5) _ hw) (va_cwS 5 hts (lw_S q951 q806 q176 q807) rfl rfl rfl kX19_copy.2 ⟨Nat.le_of_ble_eq_true rfl, Nat.le_of_ble_eq_true rfl⟩) rfl hl.1 rfl (Nat.le_of_ble_eq_true rfl) dX3_send_122 ⟨Nat.le_of_ble_eq_true rfl, Nat.le_of_ble_eq_true rfl⟩) hS (fun σ6 H locs hw hH hS => ?_)
    refine lv_aload hx hb dX3_send_125 (lv_at hl 0 rfl) ?_
    refine lv_iload_n hx hb dX3_send_127 rfl (lv_at hl 3 rfl) ?_
    refine p4_4 C hH hS hq5 q267 dX3_send_128 (fun σ7 e7 H locs hH hS => ?_)
    have hw := hw σ7 e7
    refine lv_iload hx hb dX3_send_131 (lv_at hl 5 rfl) ?_
    refine lv_aload_n hx hb dX3_send_133 rfl (lv_at hl 1 rfl) ?_
    refine g3_9 C hH q288 dX3_send_134 ?_
    refine lv_icmp_ge (tgt := 141) hx hb dX3_send_137 (by decide) (fun h => ?_) (fun h => ?_)
    · have hw := hw.1 h
      refine lv_aload_n hx hb dX3_send_141 rfl (lv_at hl 1 rfl) ?_
      refine lv_dup hx hb dX3_send_142 rfl ?_
      refine g3_9 C hH q288 dX3_send_143 ?_
      refine lv_iconst (v := 1) hx hb dX3_send_146 (by decide) ?_
      refine lv_iadd hx hb dX3_send_147 ?_
      refine p3_9 C hH hS q288 dX3_send_148 (fun σ8 e8 H locs hH hS => ?_)
      have hw := hw σ8 e8
      refine lv_aload hx hb dX3_send_151 (lv_at hl 0 rfl) ?_
      refine lv_iload hx hb dX3_send_153 (lv_at hl 4 rfl) ?_
      refine p4_0 C hH hS hq5 q260 dX3_send_155 (fun σ9 e9 H locs hH hS => ?_)
      have hw := hw σ9 e9
      refine lv_aload hx hb dX3_send_158 (lv_at hl 0 rfl) ?_
      refine lv_aload_n hx hb dX3_send_160 rfl (lv_at hl 1 rfl) ?_
      refine g3_0 C hH q279 dX3_send_161 ?_
      refine g2_4 C hH q229 dX3_send_164 ?_
      refine p4_1 C hH hS hq5 q262 dX3_send_167 (fun σ10 e10 H locs hH hS => ?_)
      have hw := hw σ10 e10
      refine lv_aload hx hb dX3_send_170 (lv_at hl 0 rfl) ?_
      refine lv_iconst (v := 1) hx hb dX3_send_172 (by decide) ?_
      refine p4_2 C hH hS hq5 q264 dX3_send_173 (fun σ11 e11 H locs hH hS => ?_)
      have hw := hw σ11 e11
      refine lv_aload_n hx hb dX3_send_176 rfl (lv_at hl 1 rfl) ?_
      refine lv_iconst (v := 1) hx hb dX3_send_177 (by decide) ?_
      refine lv_aload_n hx hb dX3_send_178 rfl (lv_at hl 1 rfl) ?_
      refine g3_12 C hH q292 dX3_send_179 ?_
      refine lv_iconst (v := 0) hx hb dX3_send_182 (by decide) ?_
      refine lv_iload hx hb dX3_send_183 (lv_at hl 4 rfl) ?_
      refine kc_v (rn_v (As := [.int 1, .ref (adr G a1 34 0), .int 0, .int x4]) (rest := []) C hH hS (by decide) rfl (by decide) (m3_tell l G a1 τ σ11 1 34 0 0 x4 (by decide) _ hw) (cwV 4 hts (lw_V q944 q946 qs11 q160 q947) rfl rfl rfl kX3_tell ⟨Nat.le_of_ble_eq_true rfl, Nat.le_of_ble_eq_true rfl⟩) rfl hl.1 rfl (Nat.le_of_ble_eq_true rfl) dX3_send_185 ⟨Nat.le_of_ble_eq_true rfl, Nat.le_of_ble_eq_true rfl⟩) hS (fun σ12 H locs hw hH hS => ?_)
      exact rt_v C hH hS hw dX3_send_188
    have hw := hw.2 h
    exact rt_v C hH hS hw dX3_send_140
  have hw := hw.2 h
  exact rt_v C hH hS hw dX3_send_103
def w3_send_J26 (σ : St) (k2 : Nat) (i2 : Nat) (x3 : Int32) (xs0 : Int32) (Q : St → Prop) : Prop := w3_knows σ xs0 (fun r1 => ((r1 = 0 → (∃ z3, w3_send_L66 σ k2 i2 x3 xs0 Q (fun x5_4 => w3_send_J96 σ k2 i2 x3 xs0 x5_4 Q) z3 0)) ∧ (¬ r1 = 0 → (w3_find σ xs0 (fun r13 => (w2_send σ 30 0 (6 * r13) 2048 k2 i2 x3 (fun σ14 => (Q σ14))))))))
set_option maxHeartbeats 4000000 in
theorem k3_send_J26 {p : Program} {l : Launch} {e : Env} {s : State} {m : MethodId} {args : Array Value} {below : List Frame} {meth : Method} {c : Code} {G : Gh} {a1 : Nat → Nat → Nat} {τ : St} {Q : St → Prop} (C : Cx p e s m args meth c cX3_send 7 none "WebHost$Hops" G) (σ : St) (k2 : Nat) (i2 : Nat) (x3 : Int32) (xs0 : Int32) (hk2 : abc k2 i2 = true) (hw : w3_send_J26 σ k2 i2 x3 xs0 Q) (H : Heap) (locs : List Loc) (ls : Array Slot) (hH : Hd G a1 (cmb σ τ) H) (hS : va_S (gA G) s.heap H locs) (hl : lv_has ls 7 [(0, .ref (ga G 3 0)), (2, .ref (adr G a1 k2 i2)), (3, .int x3)]) : W p l e rmX3_send s m args below meth c H locs 0 0 (MQ below (QVs G a1 (fun u => cmb u τ) Q) args s 0 0 (gA G)) (F0 m 26 ls [.int xs0]) := by
  have hx := C.1
  have hb := C.2.1
  have hown := C.2.2.2.2.2.1
  have hts := C.2.2.2.2.2.2.1
  refine lv_istore (lv' := [(4, .int xs0), (0, .ref (ga G 3 0)), (2, .ref (adr G a1 k2 i2)), (3, .int x3)]) hx hb dX3_send_26 hl (by decide) rfl (fun ls hl => ?_)
  refine lv_aload_n hx hb dX3_send_28 rfl (lv_at hl 1 rfl) ?_
  refine lv_iload hx hb dX3_send_29 (lv_at hl 0 rfl) ?_
  refine kc_ip (rn_vp (As := [.int xs0]) (rest := []) C hH hS (by decide) rfl (by decide) (m3_knows l G a1 τ σ H xs0 _ hw) (cwV 1 hts (lw_V q1009 q1010 q1011 q160 q1012) rfl rfl rfl kX3_knows ⟨Nat.le_of_ble_eq_true rfl, Nat.le_of_ble_eq_true rfl⟩) rfl hl.1 rfl (Nat.le_of_ble_eq_true rfl) dX3_send_31 ⟨Nat.le_of_ble_eq_true rfl, Nat.le_of_ble_eq_true rfl⟩) hS (fun r1 locs hw hS => ?_)
  refine lv_if_eq (tgt := 63) hx hb dX3_send_34 (by decide) (fun h => ?_) (fun h => ?_)
  · have hw := hw.1 h
    refine lv_iconst (v := 0) hx hb dX3_send_63 (by decide) ?_
    refine lv_istore (lv' := [(5, .int 0), (4, .int xs0), (0, .ref (ga G 3 0)), (2, .ref (adr G a1 k2 i2)), (3, .int x3)]) hx hb dX3_send_64 hl (by decide) rfl (fun ls hl => ?_)
    obtain ⟨n3, hw⟩ := hw
    refine k3_send_L66 C σ k2 i2 x3 xs0 hk2 n3 0 hw H locs ls hH hS (lv_sub hl [2, 3, 4, 1, 0] rfl) (fun x5_4 hw H locs ls hH hS hl => ?_)
    exact k3_send_J96 C σ k2 i2 x3 xs0 x5_4 hk2 hw H locs ls hH hS (lv_sub hl [0, 1, 2, 3, 4] rfl)
  have hw := hw.2 h
  refine lv_aload_n hx hb dX3_send_37 rfl (lv_at hl 1 rfl) ?_
  refine g3_0 C hH q279 dX3_send_38 ?_
  refine lv_aload_n hx hb dX3_send_41 rfl (lv_at hl 1 rfl) ?_
  refine g3_6 C hH q285 dX3_send_42 ?_
  refine lv_bipush (v := 6) hx hb dX3_send_45 (by decide) ?_
  refine lv_aload_n hx hb dX3_send_47 rfl (lv_at hl 1 rfl) ?_
  refine lv_iload hx hb dX3_send_48 (lv_at hl 0 rfl) ?_
  refine kc_ip (rn_vp (As := [.int xs0]) (rest := [.int 6, .ref (adr G a1 30 0), .ref (ga G 2 0)]) C hH hS (by decide) rfl (by decide) (m3_find l G a1 τ σ H xs0 _ hw) (cwV 1 hts (lw_V q1013 q1015 qs14 q160 q1016) rfl rfl rfl kX3_find ⟨Nat.le_of_ble_eq_true rfl, Nat.le_of_ble_eq_true rfl⟩) rfl hl.1 rfl (Nat.le_of_ble_eq_true rfl) dX3_send_50 ⟨Nat.le_of_ble_eq_true rfl, Nat.le_of_ble_eq_true rfl⟩) hS (fun r13 locs hw hS => ?_)
  refine lv_imul hx hb dX3_send_53 ?_
  refine lv_sipush (v := 2048) hx hb dX3_send_54 (by decide) ?_
  refine lv_aload_n hx hb dX3_send_57 rfl (lv_at hl 2 rfl) ?_
  refine lv_iload_n hx hb dX3_send_58 rfl (lv_at hl 3 rfl) ?_
  refine kc_v (rn_v (As := [.ref (adr G a1 30 0), .int (6 * r13), .int 2048, .ref (adr G a1 k2 i2), .int x3]) (rest := []) C hH hS (by decide) rfl (by decide) (m2_send l G a1 τ σ 30 0 (6 * r13) 2048 k2 i2 x3 (by decide) hk2 _ hw) (cwV 5 hts (lw_V q952 q953 q954 q159 q955) rfl rfl rfl kX2_send ⟨Nat.le_of_ble_eq_true rfl, Nat.le_of_ble_eq_true rfl⟩) rfl hl.1 rfl (Nat.le_of_ble_eq_true rfl) dX3_send_59 ⟨Nat.le_of_ble_eq_true rfl, Nat.le_of_ble_eq_true rfl⟩) hS (fun σ14 H locs hw hH hS => ?_)
  exact rt_v C hH hS hw dX3_send_62
def w3_send (σ : St) (x1 : Int32) (k2 : Nat) (i2 : Nat) (x3 : Int32) (Q : St → Prop) : Prop := (¬ (x1 &&& (σ 3 0 2)) = ((σ 3 0 1) &&& (σ 3 0 2)) → (w3_send_J26 σ k2 i2 x3 (σ 3 0 3) Q)) ∧ ((x1 &&& (σ 3 0 2)) = ((σ 3 0 1) &&& (σ 3 0 2)) → w3_send_J26 σ k2 i2 x3 x1 Q)
set_option maxHeartbeats 4000000 in
theorem m3_send (l : Launch) (G : Gh) (a1 : Nat → Nat → Nat) (τ : St) (σ : St) (x1 : Int32) (k2 : Nat) (i2 : Nat) (x3 : Int32) (hk2 : abc k2 i2 = true) (Q : St → Prop) (hw : w3_send σ x1 k2 i2 x3 Q) : Met l yX3_send (ws_ yX3_send cX3_send 7 none) rmX3_send (PcS G a1 (cmb σ τ) [.ref (ga G 3 0), .int x1, .ref (adr G a1 k2 i2), .int x3]) (QVs G a1 (fun u => cmb u τ) Q) 0 0 (gA G) := by
  refine met_w (by decide) (Nat.le_of_ble_eq_true rfl) ?_
  intro p e s m below meth c ls C hH hS hl
  have C : Cx p e s m _ meth c cX3_send 7 none "WebHost$Hops" G := C
  have hl : lv_has ls 7 [(0, .ref (ga G 3 0)), (1, .int x1), (2, .ref (adr G a1 k2 i2)), (3, .int x3)] := hl
  have hx := C.1
  have hb := C.2.1
  have hown := C.2.2.2.2.2.1
  have hts := C.2.2.2.2.2.2.1
  obtain ⟨locs, hlocs⟩ : ∃ z : List Loc, z = [] := ⟨_, rfl⟩
  obtain ⟨H, hHe⟩ : ∃ z : Heap, z = s.heap := ⟨_, rfl⟩
  have hH : Hd G a1 (cmb σ τ) H := by rw [hHe]; exact hH
  have hS : va_S (gA G) s.heap H locs := by rw [hHe, hlocs]; exact hS
  refine W.heap0 hHe.symm hlocs.symm ?_
  refine lv_iload_n hx hb dX3_send_0 rfl (lv_at hl 1 rfl) ?_
  refine lv_aload_n hx hb dX3_send_1 rfl (lv_at hl 0 rfl) ?_
  refine g3_2 C hH q281 dX3_send_2 ?_
  refine lv_iand hx hb dX3_send_5 ?_
  refine lv_aload_n hx hb dX3_send_6 rfl (lv_at hl 0 rfl) ?_
  refine g3_1 C hH q280 dX3_send_7 ?_
  refine lv_aload_n hx hb dX3_send_10 rfl (lv_at hl 0 rfl) ?_
  refine g3_2 C hH q281 dX3_send_11 ?_
  refine lv_iand hx hb dX3_send_14 ?_
  refine lv_icmp_ne (tgt := 22) hx hb dX3_send_15 (by decide) (fun h => ?_) (fun h => ?_)
  · have hw := hw.1 h
    refine lv_aload_n hx hb dX3_send_22 rfl (lv_at hl 0 rfl) ?_
    refine g3_3 C hH q282 dX3_send_23 ?_
    exact k3_send_J26 C σ k2 i2 x3 (σ 3 0 3) hk2 hw H locs ls hH hS (lv_sub hl [0, 2, 3] rfl)
  have hw := hw.2 h
  refine lv_iload_n hx hb dX3_send_18 rfl (lv_at hl 1 rfl) ?_
  refine lv_goto (tgt := 26) hx hb dX3_send_19 (by decide) ?_
  exact k3_send_J26 C σ k2 i2 x3 x1 hk2 hw H locs ls hH hS (lv_sub hl [0, 2, 3] rfl)
/-! WebHost$Connection.finDone()V -/
abbrev cX11_finDone : ByteArray := prog_3_method_23_code
def yX11_finDone : MethodName := ⟨RX11, "finDone", "()V"⟩
theorem dX11_finDone_0 : decode cX11_finDone 0 = .ok (.aload_n 0, 1) := by decide +kernel
theorem dX11_finDone_1 : decode cX11_finDone 1 = .ok (.getfield 73, 3) := by decide +kernel
theorem dX11_finDone_4 : decode cX11_finDone 4 = .ok (.iconst 3, 1) := by decide +kernel
theorem dX11_finDone_5 : decode cX11_finDone 5 = .ok (.if_icmp .ne 17, 3) := by decide +kernel
theorem dX11_finDone_8 : decode cX11_finDone 8 = .ok (.aload_n 0, 1) := by decide +kernel
theorem dX11_finDone_9 : decode cX11_finDone 9 = .ok (.iconst 4, 1) := by decide +kernel
theorem dX11_finDone_10 : decode cX11_finDone 10 = .ok (.putfield 73, 3) := by decide +kernel
theorem dX11_finDone_13 : decode cX11_finDone 13 = .ok (.aload_n 0, 1) := by decide +kernel
theorem dX11_finDone_14 : decode cX11_finDone 14 = .ok (.ldc 218, 2) := by decide +kernel
theorem dX11_finDone_16 : decode cX11_finDone 16 = .ok (.invokevirtual 219, 3) := by decide +kernel
theorem dX11_finDone_19 : decode cX11_finDone 19 = .ok (.goto 31, 3) := by decide +kernel
theorem dX11_finDone_22 : decode cX11_finDone 22 = .ok (.aload_n 0, 1) := by decide +kernel
theorem dX11_finDone_23 : decode cX11_finDone 23 = .ok (.getfield 73, 3) := by decide +kernel
theorem dX11_finDone_26 : decode cX11_finDone 26 = .ok (.iconst 5, 1) := by decide +kernel
theorem dX11_finDone_27 : decode cX11_finDone 27 = .ok (.if_icmp .ne 10, 3) := by decide +kernel
theorem dX11_finDone_30 : decode cX11_finDone 30 = .ok (.aload_n 0, 1) := by decide +kernel
theorem dX11_finDone_31 : decode cX11_finDone 31 = .ok (.invokevirtual 286, 3) := by decide +kernel
theorem dX11_finDone_34 : decode cX11_finDone 34 = .ok (.goto 16, 3) := by decide +kernel
theorem dX11_finDone_37 : decode cX11_finDone 37 = .ok (.aload_n 0, 1) := by decide +kernel
theorem dX11_finDone_38 : decode cX11_finDone 38 = .ok (.getfield 73, 3) := by decide +kernel
theorem dX11_finDone_41 : decode cX11_finDone 41 = .ok (.bipush 8, 2) := by decide +kernel
theorem dX11_finDone_43 : decode cX11_finDone 43 = .ok (.if_icmp .ne 7, 3) := by decide +kernel
theorem dX11_finDone_46 : decode cX11_finDone 46 = .ok (.aload_n 0, 1) := by decide +kernel
theorem dX11_finDone_47 : decode cX11_finDone 47 = .ok (.invokevirtual 225, 3) := by decide +kernel
theorem dX11_finDone_50 : decode cX11_finDone 50 = .ok (.return_, 1) := by decide +kernel
def rmX11_finDone : Room := { frames := 3, cells := 0, slots := 0, locals := 61 }
theorem kX11_finDone : yX11_finDone.cls = "WebHost$Connection" ∧ yX11_finDone.cls ≠ "java/lang/invoke/MethodHandle" ∧ yX11_finDone.cls ≠ "java/lang/invoke/VarHandle" ∧ (parseMethodDescriptor yX11_finDone.desc).map (fun d => d.parameters.length) = some 0 := by decide +kernel
def w11_finDone (σ : St) (o0 : Nat) (Q : St → Prop) : Prop := (¬ (σ 11 o0 2) = 3 → ((¬ (σ 11 o0 2) = 5 → ((¬ (σ 11 o0 2) = 8 → Q σ) ∧ ((σ 11 o0 2) = 8 → (w11_gone σ o0 (fun σ1 => (Q σ1)))))) ∧ ((σ 11 o0 2) = 5 → (w11_wait2 σ o0 (fun σ2 => (Q σ2)))))) ∧ ((σ 11 o0 2) = 3 → (∀ σ3, σ3 = up3 σ 11 o0 2 4 → (w11_live σ3 o0 60000 (fun σ4 => (Q σ4)))))
set_option maxHeartbeats 4000000 in
theorem m11_finDone (l : Launch) (G : Gh) (a1 : Nat → Nat → Nat) (τ : St) (σ : St) (o0 : Nat) (ho0 : o0 < 16) (Q : St → Prop) (hw : w11_finDone σ o0 Q) : Met l yX11_finDone (ws_ yX11_finDone cX11_finDone 1 none) rmX11_finDone (PcS G a1 (cmb σ τ) [.ref (ga G 11 o0)]) (QVs G a1 (fun u => cmb u τ) Q) 0 0 (gA G) := by
  refine met_w (by decide) (Nat.le_of_ble_eq_true rfl) ?_
  intro p e s m below meth c ls C hH hS hl
  have C : Cx p e s m _ meth c cX11_finDone 1 none "WebHost$Connection" G := C
  have hl : lv_has ls 1 [(0, .ref (ga G 11 o0))] := hl
  have hx := C.1
  have hb := C.2.1
  have hown := C.2.2.2.2.2.1
  have hts := C.2.2.2.2.2.2.1
  obtain ⟨locs, hlocs⟩ : ∃ z : List Loc, z = [] := ⟨_, rfl⟩
  obtain ⟨H, hHe⟩ : ∃ z : Heap, z = s.heap := ⟨_, rfl⟩
  have hH : Hd G a1 (cmb σ τ) H := by rw [hHe]; exact hH
  have hS : va_S (gA G) s.heap H locs := by rw [hHe, hlocs]; exact hS
  refine W.heap0 hHe.symm hlocs.symm ?_
  refine lv_aload_n hx hb dX11_finDone_0 rfl (lv_at hl 0 rfl) ?_
  refine g11_2 C hH ho0 q610 dX11_finDone_1 ?_
  refine lv_iconst (v := 3) hx hb dX11_finDone_4 (by decide) ?_
  refine lv_icmp_ne (tgt := 22) hx hb dX11_finDone_5 (by decide) (fun h => ?_) (fun h => ?_)
  · have hw := hw.1 h
    refine lv_aload_n hx hb dX11_finDone_22 rfl (lv_at hl 0 rfl) ?_
    refine g11_2 C hH ho0 q610 dX11_finDone_23 ?_
    refine lv_iconst (v := 5) hx hb dX11_finDone_26 (by decide) ?_
    refine lv_icmp_ne (tgt := 37) hx hb dX11_finDone_27 (by decide) (fun h => ?_) (fun h => ?_)
    · have hw := hw.1 h
      refine lv_aload_n hx hb dX11_finDone_37 rfl (lv_at hl 0 rfl) ?_
      refine g11_2 C hH ho0 q610 dX11_finDone_38 ?_
      refine lv_bipush (v := 8) hx hb dX11_finDone_41 (by decide) ?_
      refine lv_icmp_ne (tgt := 50) hx hb dX11_finDone_43 (by decide) (fun h => ?_) (fun h => ?_)
      · have hw := hw.1 h
        exact rt_v C hH hS hw dX11_finDone_50
      have hw := hw.2 h
      refine lv_aload_n hx hb dX11_finDone_46 rfl (lv_at hl 0 rfl) ?_
      refine kc_v (rn_v (As := []) (rest := []) C hH hS (by decide) rfl ho0 (m11_gone l G a1 τ σ o0 ho0 _ hw) (cwV 0 hts (lw_V q1018 q885 qs5 q168 q886) rfl rfl rfl kX11_gone ⟨Nat.le_of_ble_eq_true rfl, Nat.le_of_ble_eq_true rfl⟩) rfl hl.1 rfl (Nat.le_of_ble_eq_true rfl) dX11_finDone_47 ⟨Nat.le_of_ble_eq_true rfl, Nat.le_of_ble_eq_true rfl⟩) hS (fun σ1 H locs hw hH hS => ?_)
      exact rt_v C hH hS hw dX11_finDone_50
    have hw := hw.2 h
    refine lv_aload_n hx hb dX11_finDone_30 rfl (lv_at hl 0 rfl) ?_
    refine kc_v (rn_v (As := []) (rest := []) C hH hS (by decide) rfl ho0 (m11_wait2 l G a1 τ σ o0 ho0 _ hw) (cwV 0 hts (lw_V q1208 q1210 qs44 q168 q1211) rfl rfl rfl kX11_wait2 ⟨Nat.le_of_ble_eq_true rfl, Nat.le_of_ble_eq_true rfl⟩) rfl hl.1 rfl (Nat.le_of_ble_eq_true rfl) dX11_finDone_31 ⟨Nat.le_of_ble_eq_true rfl, Nat.le_of_ble_eq_true rfl⟩) hS (fun σ2 H locs hw hH hS => ?_)
    refine lv_goto (tgt := 50) hx hb dX11_finDone_34 (by decide) ?_
    exact rt_v C hH hS hw dX11_finDone_50
  have hw := hw.2 h
  refine lv_aload_n hx hb dX11_finDone_8 rfl (lv_at hl 0 rfl) ?_
  refine lv_iconst (v := 4) hx hb dX11_finDone_9 (by decide) ?_
  refine p11_2 C hH hS ho0 q610 dX11_finDone_10 (fun σ3 e3 H locs hH hS => ?_)
  have hw := hw σ3 e3
  refine lv_aload_n hx hb dX11_finDone_13 rfl (lv_at hl 0 rfl) ?_
  refine lv_ldc (v := 60000) hx hb hown (hts _ q1019) dX11_finDone_14 ?_
  refine kc_v (rn_v (As := [.int 60000]) (rest := []) C hH hS (by decide) rfl ho0 (m11_live l G a1 τ σ3 o0 60000 ho0 _ hw) (cwV 1 hts (lw_V q1157 q1159 qs34 q168 q1160) rfl rfl rfl kX11_live ⟨Nat.le_of_ble_eq_true rfl, Nat.le_of_ble_eq_true rfl⟩) rfl hl.1 rfl (Nat.le_of_ble_eq_true rfl) dX11_finDone_16 ⟨Nat.le_of_ble_eq_true rfl, Nat.le_of_ble_eq_true rfl⟩) hS (fun σ4 H locs hw hH hS => ?_)
  refine lv_goto (tgt := 50) hx hb dX11_finDone_19 (by decide) ?_
  exact rt_v C hH hS hw dX11_finDone_50
/-! WebHost$Connection.renew(II)V -/
abbrev cX11_renew : ByteArray := prog_3_method_26_code
def yX11_renew : MethodName := ⟨RX11, "renew", "(II)V"⟩
theorem dX11_renew_0 : decode cX11_renew 0 = .ok (.aload_n 0, 1) := by decide +kernel
theorem dX11_renew_1 : decode cX11_renew 1 = .ok (.iload_n 1, 1) := by decide +kernel
theorem dX11_renew_2 : decode cX11_renew 2 = .ok (.putfield 82, 3) := by decide +kernel
theorem dX11_renew_5 : decode cX11_renew 5 = .ok (.aload_n 0, 1) := by decide +kernel
theorem dX11_renew_6 : decode cX11_renew 6 = .ok (.getfield 60, 3) := by decide +kernel
theorem dX11_renew_9 : decode cX11_renew 9 = .ok (.aload_n 0, 1) := by decide +kernel
theorem dX11_renew_10 : decode cX11_renew 10 = .ok (.getfield 82, 3) := by decide +kernel
theorem dX11_renew_13 : decode cX11_renew 13 = .ok (.invokestatic 97, 3) := by decide +kernel
theorem dX11_renew_16 : decode cX11_renew 16 = .ok (.ifCond .eq 11, 3) := by decide +kernel
theorem dX11_renew_19 : decode cX11_renew 19 = .ok (.aload_n 0, 1) := by decide +kernel
theorem dX11_renew_20 : decode cX11_renew 20 = .ok (.aload_n 0, 1) := by decide +kernel
theorem dX11_renew_21 : decode cX11_renew 21 = .ok (.getfield 82, 3) := by decide +kernel
theorem dX11_renew_24 : decode cX11_renew 24 = .ok (.putfield 60, 3) := by decide +kernel
theorem dX11_renew_27 : decode cX11_renew 27 = .ok (.aload_n 0, 1) := by decide +kernel
theorem dX11_renew_28 : decode cX11_renew 28 = .ok (.iconst 0, 1) := by decide +kernel
theorem dX11_renew_29 : decode cX11_renew 29 = .ok (.putfield 183, 3) := by decide +kernel
theorem dX11_renew_32 : decode cX11_renew 32 = .ok (.aload_n 0, 1) := by decide +kernel
theorem dX11_renew_33 : decode cX11_renew 33 = .ok (.iconst 0, 1) := by decide +kernel
theorem dX11_renew_34 : decode cX11_renew 34 = .ok (.putfield 186, 3) := by decide +kernel
theorem dX11_renew_37 : decode cX11_renew 37 = .ok (.aload_n 0, 1) := by decide +kernel
theorem dX11_renew_38 : decode cX11_renew 38 = .ok (.aload_n 0, 1) := by decide +kernel
theorem dX11_renew_39 : decode cX11_renew 39 = .ok (.getfield 25, 3) := by decide +kernel
theorem dX11_renew_42 : decode cX11_renew 42 = .ok (.invokevirtual 129, 3) := by decide +kernel
theorem dX11_renew_45 : decode cX11_renew 45 = .ok (.putfield 201, 3) := by decide +kernel
theorem dX11_renew_48 : decode cX11_renew 48 = .ok (.aload_n 0, 1) := by decide +kernel
theorem dX11_renew_49 : decode cX11_renew 49 = .ok (.getfield 25, 3) := by decide +kernel
theorem dX11_renew_52 : decode cX11_renew 52 = .ok (.dup, 1) := by decide +kernel
theorem dX11_renew_53 : decode cX11_renew 53 = .ok (.getfield 267, 3) := by decide +kernel
theorem dX11_renew_56 : decode cX11_renew 56 = .ok (.iconst 1, 1) := by decide +kernel
theorem dX11_renew_57 : decode cX11_renew 57 = .ok (.iadd, 1) := by decide +kernel
theorem dX11_renew_58 : decode cX11_renew 58 = .ok (.putfield 267, 3) := by decide +kernel
theorem dX11_renew_61 : decode cX11_renew 61 = .ok (.aload_n 0, 1) := by decide +kernel
theorem dX11_renew_62 : decode cX11_renew 62 = .ok (.getfield 25, 3) := by decide +kernel
theorem dX11_renew_65 : decode cX11_renew 65 = .ok (.dup, 1) := by decide +kernel
theorem dX11_renew_66 : decode cX11_renew 66 = .ok (.getfield 270, 3) := by decide +kernel
theorem dX11_renew_69 : decode cX11_renew 69 = .ok (.iload_n 2, 1) := by decide +kernel
theorem dX11_renew_70 : decode cX11_renew 70 = .ok (.iadd, 1) := by decide +kernel
theorem dX11_renew_71 : decode cX11_renew 71 = .ok (.putfield 270, 3) := by decide +kernel
theorem dX11_renew_74 : decode cX11_renew 74 = .ok (.aload_n 0, 1) := by decide +kernel
theorem dX11_renew_75 : decode cX11_renew 75 = .ok (.iload_n 1, 1) := by decide +kernel
theorem dX11_renew_76 : decode cX11_renew 76 = .ok (.invokevirtual 264, 3) := by decide +kernel
theorem dX11_renew_79 : decode cX11_renew 79 = .ok (.aload_n 0, 1) := by decide +kernel
theorem dX11_renew_80 : decode cX11_renew 80 = .ok (.getfield 189, 3) := by decide +kernel
theorem dX11_renew_83 : decode cX11_renew 83 = .ok (.ifCond .eq 19, 3) := by decide +kernel
theorem dX11_renew_86 : decode cX11_renew 86 = .ok (.aload_n 0, 1) := by decide +kernel
theorem dX11_renew_87 : decode cX11_renew 87 = .ok (.iconst 0, 1) := by decide +kernel
theorem dX11_renew_88 : decode cX11_renew 88 = .ok (.putfield 189, 3) := by decide +kernel
theorem dX11_renew_91 : decode cX11_renew 91 = .ok (.aload_n 0, 1) := by decide +kernel
theorem dX11_renew_92 : decode cX11_renew 92 = .ok (.aload_n 0, 1) := by decide +kernel
theorem dX11_renew_93 : decode cX11_renew 93 = .ok (.getfield 180, 3) := by decide +kernel
theorem dX11_renew_96 : decode cX11_renew 96 = .ok (.putfield 147, 3) := by decide +kernel
theorem dX11_renew_99 : decode cX11_renew 99 = .ok (.goto 47, 3) := by decide +kernel
theorem dX11_renew_102 : decode cX11_renew 102 = .ok (.aload_n 0, 1) := by decide +kernel
theorem dX11_renew_103 : decode cX11_renew 103 = .ok (.aload_n 0, 1) := by decide +kernel
theorem dX11_renew_104 : decode cX11_renew 104 = .ok (.getfield 147, 3) := by decide +kernel
theorem dX11_renew_107 : decode cX11_renew 107 = .ok (.aload_n 0, 1) := by decide +kernel
theorem dX11_renew_108 : decode cX11_renew 108 = .ok (.getfield 180, 3) := by decide +kernel
theorem dX11_renew_111 : decode cX11_renew 111 = .ok (.if_icmp .ge 14, 3) := by decide +kernel
theorem dX11_renew_114 : decode cX11_renew 114 = .ok (.iload_n 2, 1) := by decide +kernel
theorem dX11_renew_115 : decode cX11_renew 115 = .ok (.aload_n 0, 1) := by decide +kernel
theorem dX11_renew_116 : decode cX11_renew 116 = .ok (.getfield 144, 3) := by decide +kernel
theorem dX11_renew_119 : decode cX11_renew 119 = .ok (.invokestatic 91, 3) := by decide +kernel
theorem dX11_renew_122 : decode cX11_renew 122 = .ok (.goto 21, 3) := by decide +kernel
theorem dX11_renew_125 : decode cX11_renew 125 = .ok (.iconst 1, 1) := by decide +kernel
theorem dX11_renew_126 : decode cX11_renew 126 = .ok (.aload_n 0, 1) := by decide +kernel
theorem dX11_renew_127 : decode cX11_renew 127 = .ok (.getfield 144, 3) := by decide +kernel
theorem dX11_renew_130 : decode cX11_renew 130 = .ok (.aload_n 0, 1) := by decide +kernel
theorem dX11_renew_131 : decode cX11_renew 131 = .ok (.getfield 144, 3) := by decide +kernel
theorem dX11_renew_134 : decode cX11_renew 134 = .ok (.imul, 1) := by decide +kernel
theorem dX11_renew_135 : decode cX11_renew 135 = .ok (.aload_n 0, 1) := by decide +kernel
theorem dX11_renew_136 : decode cX11_renew 136 = .ok (.getfield 147, 3) := by decide +kernel
theorem dX11_renew_139 : decode cX11_renew 139 = .ok (.idiv, 1) := by decide +kernel
theorem dX11_renew_140 : decode cX11_renew 140 = .ok (.invokestatic 289, 3) := by decide +kernel
theorem dX11_renew_143 : decode cX11_renew 143 = .ok (.invokevirtual 291, 3) := by decide +kernel
theorem dX11_renew_146 : decode cX11_renew 146 = .ok (.aload_n 0, 1) := by decide +kernel
theorem dX11_renew_147 : decode cX11_renew 147 = .ok (.getfield 88, 3) := by decide +kernel
theorem dX11_renew_150 : decode cX11_renew 150 = .ok (.aload_n 0, 1) := by decide +kernel
theorem dX11_renew_151 : decode cX11_renew 151 = .ok (.getfield 82, 3) := by decide +kernel
theorem dX11_renew_154 : decode cX11_renew 154 = .ok (.if_icmp .eq 10, 3) := by decide +kernel
theorem dX11_renew_157 : decode cX11_renew 157 = .ok (.aload_n 0, 1) := by decide +kernel
theorem dX11_renew_158 : decode cX11_renew 158 = .ok (.invokevirtual 294, 3) := by decide +kernel
theorem dX11_renew_161 : decode cX11_renew 161 = .ok (.goto 8, 3) := by decide +kernel
theorem dX11_renew_164 : decode cX11_renew 164 = .ok (.aload_n 0, 1) := by decide +kernel
theorem dX11_renew_165 : decode cX11_renew 165 = .ok (.iconst 0, 1) := by decide +kernel
theorem dX11_renew_166 : decode cX11_renew 166 = .ok (.putfield 135, 3) := by decide +kernel
theorem dX11_renew_169 : decode cX11_renew 169 = .ok (.return_, 1) := by decide +kernel
def rmX11_renew : Room := { frames := 3, cells := 0, slots := 0, locals := 60 }
theorem kX11_renew : yX11_renew.cls = "WebHost$Connection" ∧ yX11_renew.cls ≠ "java/lang/invoke/MethodHandle" ∧ yX11_renew.cls ≠ "java/lang/invoke/VarHandle" ∧ (parseMethodDescriptor yX11_renew.desc).map (fun d => d.parameters.length) = some 2 := by decide +kernel
def w11_renew_J146 (σ : St) (o0 : Nat) (Q : St → Prop) : Prop := ((σ 11 o0 11) = (σ 11 o0 9) → (∀ σ11, σ11 = up3 σ 11 o0 29 0 → (Q σ11))) ∧ (¬ (σ 11 o0 11) = (σ 11 o0 9) → (w11_restartTimer σ o0 (fun σ12 => (Q σ12))))
set_option maxHeartbeats 4000000 in
theorem k11_renew_J146 {p : Program} {l : Launch} {e : Env} {s : State} {m : MethodId} {args : Array Value} {below : List Frame} {meth : Method} {c : Code} {G : Gh} {a1 : Nat → Nat → Nat} {τ : St} {Q : St → Prop} (C : Cx p e s m args meth c cX11_renew 3 none "WebHost$Connection" G) (σ : St) (o0 : Nat) (ho0 : o0 < 16) (hw : w11_renew_J146 σ o0 Q) (H : Heap) (locs : List Loc) (ls : Array Slot) (hH : Hd G a1 (cmb σ τ) H) (hS : va_S (gA G) s.heap H locs) (hl : lv_has ls 3 [(0, .ref (ga G 11 o0))]) : W p l e rmX11_renew s m args below meth c H locs 0 0 (MQ below (QVs G a1 (fun u => cmb u τ) Q) args s 0 0 (gA G)) (F0 m 146 ls []) := by
  have hx := C.1
  have hb := C.2.1
  have hown := C.2.2.2.2.2.1
  have hts := C.2.2.2.2.2.2.1
  refine lv_aload_n hx hb dX11_renew_146 rfl (lv_at hl 0 rfl) ?_
  refine g11_11 C hH ho0 q624 dX11_renew_147 ?_
  refine lv_aload_n hx hb dX11_renew_150 rfl (lv_at hl 0 rfl) ?_
  refine g11_9 C hH ho0 q620 dX11_renew_151 ?_
  refine lv_icmp_eq (tgt := 164) hx hb dX11_renew_154 (by decide) (fun h => ?_) (fun h => ?_)
  · have hw := hw.1 h
    refine lv_aload_n hx hb dX11_renew_164 rfl (lv_at hl 0 rfl) ?_
    refine lv_iconst (v := 0) hx hb dX11_renew_165 (by decide) ?_
    refine p11_29 C hH hS ho0 (Or.inl rfl) q651 dX11_renew_166 (fun σ11 e11 H locs hH hS => ?_)
    have hw := hw σ11 e11
    exact rt_v C hH hS hw dX11_renew_169
  have hw := hw.2 h
  refine lv_aload_n hx hb dX11_renew_157 rfl (lv_at hl 0 rfl) ?_
  refine kc_v (rn_v (As := []) (rest := []) C hH hS (by decide) rfl ho0 (m11_restartTimer l G a1 τ σ o0 ho0 _ hw) (cwV 0 hts (lw_V q1196 q1198 qs41 q168 q1199) rfl rfl rfl kX11_restartTimer ⟨Nat.le_of_ble_eq_true rfl, Nat.le_of_ble_eq_true rfl⟩) rfl hl.1 rfl (Nat.le_of_ble_eq_true rfl) dX11_renew_158 ⟨Nat.le_of_ble_eq_true rfl, Nat.le_of_ble_eq_true rfl⟩) hS (fun σ12 H locs hw hH hS => ?_)
  refine lv_goto (tgt := 169) hx hb dX11_renew_161 (by decide) ?_
  exact rt_v C hH hS hw dX11_renew_169
def w11_renew_J27 (σ : St) (o0 : Nat) (x1 : Int32) (x2 : Int32) (Q : St → Prop) : Prop := ∀ σ3, σ3 = up3 σ 11 o0 17 0 → (∀ σ4, σ4 = up3 σ3 11 o0 18 0 → (w8_now σ4 (fun r5 => (∀ σ6, σ6 = up3 σ4 11 o0 32 r5 → (∀ σ7, σ7 = up3 σ6 8 0 7 ((σ6 8 0 7) + 1) → (∀ σ8, σ8 = up3 σ7 8 0 8 ((σ7 8 0 8) + x2) → (w11_measure σ8 o0 x1 (fun σ9 => (bo (σ9 11 o0 19) → (((σ9 11 o0 19) = 0 → (((σ9 11 o0 15) ≤ (σ9 11 o0 14) → (¬ (σ9 11 o0 14) = 0 ∧ (w11_grow σ9 o0 (imax 1 (((σ9 11 o0 13) * (σ9 11 o0 13)) / (σ9 11 o0 14))) (fun σ10 => (w11_renew_J146 σ10 o0 Q))))) ∧ (¬ (σ9 11 o0 15) ≤ (σ9 11 o0 14) → (w11_grow σ9 o0 (imin x2 (σ9 11 o0 13)) (fun σ13 => (w11_renew_J146 σ13 o0 Q)))))) ∧ (¬ (σ9 11 o0 19) = 0 → (∀ σ14, σ14 = up3 σ9 11 o0 19 0 → (∀ σ15, σ15 = up3 σ14 11 o0 14 (σ14 11 o0 15) → (w11_renew_J146 σ15 o0 Q))))))))))))))
set_option maxHeartbeats 4000000 in
theorem k11_renew_J27 {p : Program} {l : Launch} {e : Env} {s : State} {m : MethodId} {args : Array Value} {below : List Frame} {meth : Method} {c : Code} {G : Gh} {a1 : Nat → Nat → Nat} {τ : St} {Q : St → Prop} (C : Cx p e s m args meth c cX11_renew 3 none "WebHost$Connection" G) (σ : St) (o0 : Nat) (x1 : Int32) (x2 : Int32) (ho0 : o0 < 16) (hw : w11_renew_J27 σ o0 x1 x2 Q) (H : Heap) (locs : List Loc) (ls : Array Slot) (hH : Hd G a1 (cmb σ τ) H) (hS : va_S (gA G) s.heap H locs) (hl : lv_has ls 3 [(0, .ref (ga G 11 o0)), (1, .int x1), (2, .int x2)]) : W p l e rmX11_renew s m args below meth c H locs 0 0 (MQ below (QVs G a1 (fun u => cmb u τ) Q) args s 0 0 (gA G)) (F0 m 27 ls []) := by
  have hx := C.1
  have hb := C.2.1
  have hown := C.2.2.2.2.2.1
  have hts := C.2.2.2.2.2.2.1
  refine lv_aload_n hx hb dX11_renew_27 rfl (lv_at hl 0 rfl) ?_
  refine lv_iconst (v := 0) hx hb dX11_renew_28 (by decide) ?_
  refine p11_17 C hH hS ho0 q636 dX11_renew_29 (fun σ3 e3 H locs hH hS => ?_)
  have hw := hw σ3 e3
  refine lv_aload_n hx hb dX11_renew_32 rfl (lv_at hl 0 rfl) ?_
  refine lv_iconst (v := 0) hx hb dX11_renew_33 (by decide) ?_
  refine p11_18 C hH hS ho0 q638 dX11_renew_34 (fun σ4 e4 H locs hH hS => ?_)
  have hw := hw σ4 e4
  refine lv_aload_n hx hb dX11_renew_37 rfl (lv_at hl 0 rfl) ?_
  refine lv_aload_n hx hb dX11_renew_38 rfl (lv_at hl 0 rfl) ?_
  refine g11_0 C hH ho0 q608 dX11_renew_39 ?_
  refine kc_ip (rn_vp (As := []) (rest := [.ref (ga G 11 o0)]) C hH hS (by decide) rfl (by decide) (m8_now l G a1 τ σ4 H _ hw) (cwV 0 hts (lw_V q1025 q1026 q1027 q165 q1028) rfl rfl rfl kX8_now ⟨Nat.le_of_ble_eq_true rfl, Nat.le_of_ble_eq_true rfl⟩) rfl hl.1 rfl (Nat.le_of_ble_eq_true rfl) dX11_renew_42 ⟨Nat.le_of_ble_eq_true rfl, Nat.le_of_ble_eq_true rfl⟩) hS (fun r5 locs hw hS => ?_)
  refine p11_32 C hH hS ho0 q654 dX11_renew_45 (fun σ6 e6 H locs hH hS => ?_)
  have hw := hw σ6 e6
  refine lv_aload_n hx hb dX11_renew_48 rfl (lv_at hl 0 rfl) ?_
  refine g11_0 C hH ho0 q608 dX11_renew_49 ?_
  refine lv_dup hx hb dX11_renew_52 rfl ?_
  refine g8_7 C hH q418 dX11_renew_53 ?_
  refine lv_iconst (v := 1) hx hb dX11_renew_56 (by decide) ?_
  refine lv_iadd hx hb dX11_renew_57 ?_
  refine p8_7 C hH hS q418 dX11_renew_58 (fun σ7 e7 H locs hH hS => ?_)
  have hw := hw σ7 e7
  refine lv_aload_n hx hb dX11_renew_61 rfl (lv_at hl 0 rfl) ?_
  refine g11_0 C hH ho0 q608 dX11_renew_62 ?_
  refine lv_dup hx hb dX11_renew_65 rfl ?_
  refine g8_8 C hH q421 dX11_renew_66 ?_
  refine lv_iload_n hx hb dX11_renew_69 rfl (lv_at hl 2 rfl) ?_
  refine lv_iadd hx hb dX11_renew_70 ?_
  refine p8_8 C hH hS q421 dX11_renew_71 (fun σ8 e8 H locs hH hS => ?_)
  have hw := hw σ8 e8
  refine lv_aload_n hx hb dX11_renew_74 rfl (lv_at hl 0 rfl) ?_
  refine lv_iload_n hx hb dX11_renew_75 rfl (lv_at hl 1 rfl) ?_
  refine kc_v (rn_v (As := [.int x1]) (rest := []) C hH hS (by decide) rfl ho0 (m11_measure l G a1 τ σ8 o0 x1 ho0 _ hw) (cwV 1 hts (lw_V q1176 q1178 qs37 q168 q1179) rfl rfl rfl kX11_measure ⟨Nat.le_of_ble_eq_true rfl, Nat.le_of_ble_eq_true rfl⟩) rfl hl.1 rfl (Nat.le_of_ble_eq_true rfl) dX11_renew_76 ⟨Nat.le_of_ble_eq_true rfl, Nat.le_of_ble_eq_true rfl⟩) hS (fun σ9 H locs hw hH hS => ?_)
  refine lv_aload_n hx hb dX11_renew_79 rfl (lv_at hl 0 rfl) ?_
  refine g11_19 C hH ho0 q640 dX11_renew_80 (fun hz => ?_)
  have hw := hw hz
  refine lv_if_eq (tgt := 102) hx hb dX11_renew_83 (by decide) (fun h => ?_) (fun h => ?_)
  · have hw := hw.1 h
    refine lv_aload_n hx hb dX11_renew_102 rfl (lv_at hl 0 rfl) ?_
    refine lv_aload_n hx hb dX11_renew_103 rfl (lv_at hl 0 rfl) ?_
    refine g11_14 C hH ho0 q630 dX11_renew_104 ?_
    refine lv_aload_n hx hb dX11_renew_107 rfl (lv_at hl 0 rfl) ?_
    refine g11_15 C hH ho0 q632 dX11_renew_108 ?_
    refine lv_icmp_ge (tgt := 125) hx hb dX11_renew_111 (by decide) (fun h => ?_) (fun h => ?_)
    · have hw := hw.1 h
      refine lv_iconst (v := 1) hx hb dX11_renew_125 (by decide) ?_
      refine lv_aload_n hx hb dX11_renew_126 rfl (lv_at hl 0 rfl) ?_
      refine g11_13 C hH ho0 q628 dX11_renew_127 ?_
      refine lv_aload_n hx hb dX11_renew_130 rfl (lv_at hl 0 rfl) ?_
      refine g11_13 C hH ho0 q628 dX11_renew_131 ?_
      refine lv_imul hx hb dX11_renew_134 ?_
      refine lv_aload_n hx hb dX11_renew_135 rfl (lv_at hl 0 rfl) ?_
      refine g11_14 C hH ho0 q630 dX11_renew_136 ?_
      refine lv_idiv hx hb dX11_renew_139 hw.1 ?_
      have hw := hw.2
      refine r_imax C hl.1 q1033 (Nat.le_of_ble_eq_true rfl) (Nat.le_of_ble_eq_true rfl) (Nat.zero_le _) (Nat.zero_le _) dX11_renew_140 ?_
      refine kc_v (rn_v (As := [.int (imax 1 (((σ9 11 o0 13) * (σ9 11 o0 13)) / (σ9 11 o0 14)))]) (rest := []) C hH hS (by decide) rfl ho0 (m11_grow l G a1 τ σ9 o0 (imax 1 (((σ9 11 o0 13) * (σ9 11 o0 13)) / (σ9 11 o0 14))) ho0 _ hw) (cwV 1 hts (lw_V q1191 q1193 qs40 q168 q1194) rfl rfl rfl kX11_grow ⟨Nat.le_of_ble_eq_true rfl, Nat.le_of_ble_eq_true rfl⟩) rfl hl.1 rfl (Nat.le_of_ble_eq_true rfl) dX11_renew_143 ⟨Nat.le_of_ble_eq_true rfl, Nat.le_of_ble_eq_true rfl⟩) hS (fun σ10 H locs hw hH hS => ?_)
      exact k11_renew_J146 C σ10 o0 ho0 hw H locs ls hH hS (lv_sub hl [0] rfl)
    have hw := hw.2 h
    refine lv_iload_n hx hb dX11_renew_114 rfl (lv_at hl 2 rfl) ?_
    refine lv_aload_n hx hb dX11_renew_115 rfl (lv_at hl 0 rfl) ?_
    refine g11_13 C hH ho0 q628 dX11_renew_116 ?_
    refine r_imin C hl.1 q1020 (Nat.le_of_ble_eq_true rfl) (Nat.le_of_ble_eq_true rfl) (Nat.zero_le _) (Nat.zero_le _) dX11_renew_119 ?_
    refine lv_goto (tgt := 143) hx hb dX11_renew_122 (by decide) ?_
    refine kc_v (rn_v (As := [.int (imin x2 (σ9 11 o0 13))]) (rest := []) C hH hS (by decide) rfl ho0 (m11_grow l G a1 τ σ9 o0 (imin x2 (σ9 11 o0 13)) ho0 _ hw) (cwV 1 hts (lw_V q1191 q1193 qs40 q168 q1194) rfl rfl rfl kX11_grow ⟨Nat.le_of_ble_eq_true rfl, Nat.le_of_ble_eq_true rfl⟩) rfl hl.1 rfl (Nat.le_of_ble_eq_true rfl) dX11_renew_143 ⟨Nat.le_of_ble_eq_true rfl, Nat.le_of_ble_eq_true rfl⟩) hS (fun σ13 H locs hw hH hS => ?_)
    exact k11_renew_J146 C σ13 o0 ho0 hw H locs ls hH hS (lv_sub hl [0] rfl)
  have hw := hw.2 h
  refine lv_aload_n hx hb dX11_renew_86 rfl (lv_at hl 0 rfl) ?_
  refine lv_iconst (v := 0) hx hb dX11_renew_87 (by decide) ?_
  refine p11_19 C hH hS ho0 (Or.inl rfl) q640 dX11_renew_88 (fun σ14 e14 H locs hH hS => ?_)
  have hw := hw σ14 e14
  refine lv_aload_n hx hb dX11_renew_91 rfl (lv_at hl 0 rfl) ?_
  refine lv_aload_n hx hb dX11_renew_92 rfl (lv_at hl 0 rfl) ?_
  refine g11_15 C hH ho0 q632 dX11_renew_93 ?_
  refine p11_14 C hH hS ho0 q630 dX11_renew_96 (fun σ15 e15 H locs hH hS => ?_)
  have hw := hw σ15 e15
  refine lv_goto (tgt := 146) hx hb dX11_renew_99 (by decide) ?_
  exact k11_renew_J146 C σ15 o0 ho0 hw H locs ls hH hS (lv_sub hl [0] rfl)
def w11_renew (σ : St) (o0 : Nat) (x1 : Int32) (x2 : Int32) (Q : St → Prop) : Prop := ∀ σ1, σ1 = up3 σ 11 o0 9 x1 → (w19_isBefore σ1 (σ1 11 o0 10) (σ1 11 o0 9) (fun r2 => ((r2 = 0 → w11_renew_J27 σ1 o0 x1 x2 Q) ∧ (¬ r2 = 0 → (∀ σ16, σ16 = up3 σ1 11 o0 10 (σ1 11 o0 9) → (w11_renew_J27 σ16 o0 x1 x2 Q))))))
set_option maxHeartbeats 4000000 in
theorem m11_renew (l : Launch) (G : Gh) (a1 : Nat → Nat → Nat) (τ : St) (σ : St) (o0 : Nat) (x1 : Int32) (x2 : Int32) (ho0 : o0 < 16) (Q : St → Prop) (hw : w11_renew σ o0 x1 x2 Q) : Met l yX11_renew (ws_ yX11_renew cX11_renew 3 none) rmX11_renew (PcS G a1 (cmb σ τ) [.ref (ga G 11 o0), .int x1, .int x2]) (QVs G a1 (fun u => cmb u τ) Q) 0 0 (gA G) := by
  refine met_w (by decide) (Nat.le_of_ble_eq_true rfl) ?_
  intro p e s m below meth c ls C hH hS hl
  have C : Cx p e s m _ meth c cX11_renew 3 none "WebHost$Connection" G := C
  have hl : lv_has ls 3 [(0, .ref (ga G 11 o0)), (1, .int x1), (2, .int x2)] := hl
  have hx := C.1
  have hb := C.2.1
  have hown := C.2.2.2.2.2.1
  have hts := C.2.2.2.2.2.2.1
  obtain ⟨locs, hlocs⟩ : ∃ z : List Loc, z = [] := ⟨_, rfl⟩
  obtain ⟨H, hHe⟩ : ∃ z : Heap, z = s.heap := ⟨_, rfl⟩
  have hH : Hd G a1 (cmb σ τ) H := by rw [hHe]; exact hH
  have hS : va_S (gA G) s.heap H locs := by rw [hHe, hlocs]; exact hS
  refine W.heap0 hHe.symm hlocs.symm ?_
  refine lv_aload_n hx hb dX11_renew_0 rfl (lv_at hl 0 rfl) ?_
  refine lv_iload_n hx hb dX11_renew_1 rfl (lv_at hl 1 rfl) ?_
  refine p11_9 C hH hS ho0 q620 dX11_renew_2 (fun σ1 e1 H locs hH hS => ?_)
  have hw := hw σ1 e1
  refine lv_aload_n hx hb dX11_renew_5 rfl (lv_at hl 0 rfl) ?_
  refine g11_10 C hH ho0 q622 dX11_renew_6 ?_
  refine lv_aload_n hx hb dX11_renew_9 rfl (lv_at hl 0 rfl) ?_
  refine g11_9 C hH ho0 q620 dX11_renew_10 ?_
  refine kc_ip (rn_sp (As := [.int (σ1 11 o0 10), .int (σ1 11 o0 9)]) (rest := []) C hH hS (m19_isBefore l G a1 τ σ1 H (σ1 11 o0 10) (σ1 11 o0 9) _ hw) (va_cwS 2 hts (lw_S q1046 q1047 q176 q1048) rfl rfl rfl kX19_isBefore.2 ⟨Nat.le_of_ble_eq_true rfl, Nat.le_of_ble_eq_true rfl⟩) rfl hl.1 rfl (Nat.le_of_ble_eq_true rfl) dX11_renew_13 ⟨Nat.le_of_ble_eq_true rfl, Nat.le_of_ble_eq_true rfl⟩) hS (fun r2 locs hw hS => ?_)
  refine lv_if_eq (tgt := 27) hx hb dX11_renew_16 (by decide) (fun h => ?_) (fun h => ?_)
  · have hw := hw.1 h
    exact k11_renew_J27 C σ1 o0 x1 x2 ho0 hw H locs ls hH hS (lv_sub hl [0, 1, 2] rfl)
  have hw := hw.2 h
  refine lv_aload_n hx hb dX11_renew_19 rfl (lv_at hl 0 rfl) ?_
  refine lv_aload_n hx hb dX11_renew_20 rfl (lv_at hl 0 rfl) ?_
  refine g11_9 C hH ho0 q620 dX11_renew_21 ?_
  refine p11_10 C hH hS ho0 q622 dX11_renew_24 (fun σ16 e16 H locs hH hS => ?_)
  have hw := hw σ16 e16
  exact k11_renew_J27 C σ16 o0 x1 x2 ho0 hw H locs ls hH hS (lv_sub hl [0, 1, 2] rfl)
/-! WebHost$Connection.takeData(LWebHost$Segment;)V -/
abbrev cX11_takeData : ByteArray := prog_3_method_31_code
def yX11_takeData : MethodName := ⟨RX11, "takeData", "(LWebHost$Segment;)V"⟩
theorem dX11_takeData_0 : decode cX11_takeData 0 = .ok (.aload_n 0, 1) := by decide +kernel
theorem dX11_takeData_1 : decode cX11_takeData 1 = .ok (.getfield 12, 3) := by decide +kernel
theorem dX11_takeData_4 : decode cX11_takeData 4 = .ok (.invokevirtual 37, 3) := by decide +kernel
theorem dX11_takeData_7 : decode cX11_takeData 7 = .ok (.istore_n 2, 1) := by decide +kernel
theorem dX11_takeData_8 : decode cX11_takeData 8 = .ok (.aload_n 1, 1) := by decide +kernel
theorem dX11_takeData_9 : decode cX11_takeData 9 = .ok (.getfield 168, 3) := by decide +kernel
theorem dX11_takeData_12 : decode cX11_takeData 12 = .ok (.istore_n 3, 1) := by decide +kernel
theorem dX11_takeData_13 : decode cX11_takeData 13 = .ok (.iconst 0, 1) := by decide +kernel
theorem dX11_takeData_14 : decode cX11_takeData 14 = .ok (.istore 4, 2) := by decide +kernel
theorem dX11_takeData_16 : decode cX11_takeData 16 = .ok (.iload 4, 2) := by decide +kernel
theorem dX11_takeData_18 : decode cX11_takeData 18 = .ok (.aload_n 1, 1) := by decide +kernel
theorem dX11_takeData_19 : decode cX11_takeData 19 = .ok (.getfield 275, 3) := by decide +kernel
theorem dX11_takeData_22 : decode cX11_takeData 22 = .ok (.if_icmp .ge 49, 3) := by decide +kernel
theorem dX11_takeData_25 : decode cX11_takeData 25 = .ok (.aload_n 0, 1) := by decide +kernel
theorem dX11_takeData_26 : decode cX11_takeData 26 = .ok (.iload_n 3, 1) := by decide +kernel
theorem dX11_takeData_27 : decode cX11_takeData 27 = .ok (.iload 4, 2) := by decide +kernel
theorem dX11_takeData_29 : decode cX11_takeData 29 = .ok (.iadd, 1) := by decide +kernel
theorem dX11_takeData_30 : decode cX11_takeData 30 = .ok (.iload_n 2, 1) := by decide +kernel
theorem dX11_takeData_31 : decode cX11_takeData 31 = .ok (.invokevirtual 207, 3) := by decide +kernel
theorem dX11_takeData_34 : decode cX11_takeData 34 = .ok (.ifCond .eq 31, 3) := by decide +kernel
theorem dX11_takeData_37 : decode cX11_takeData 37 = .ok (.aload_n 0, 1) := by decide +kernel
theorem dX11_takeData_38 : decode cX11_takeData 38 = .ok (.getfield 12, 3) := by decide +kernel
theorem dX11_takeData_41 : decode cX11_takeData 41 = .ok (.iload_n 3, 1) := by decide +kernel
theorem dX11_takeData_42 : decode cX11_takeData 42 = .ok (.iload 4, 2) := by decide +kernel
theorem dX11_takeData_44 : decode cX11_takeData 44 = .ok (.iadd, 1) := by decide +kernel
theorem dX11_takeData_45 : decode cX11_takeData 45 = .ok (.aload_n 0, 1) := by decide +kernel
theorem dX11_takeData_46 : decode cX11_takeData 46 = .ok (.getfield 33, 3) := by decide +kernel
theorem dX11_takeData_49 : decode cX11_takeData 49 = .ok (.isub, 1) := by decide +kernel
theorem dX11_takeData_50 : decode cX11_takeData 50 = .ok (.aload_n 1, 1) := by decide +kernel
theorem dX11_takeData_51 : decode cX11_takeData 51 = .ok (.getfield 310, 3) := by decide +kernel
theorem dX11_takeData_54 : decode cX11_takeData 54 = .ok (.aload_n 1, 1) := by decide +kernel
theorem dX11_takeData_55 : decode cX11_takeData 55 = .ok (.getfield 311, 3) := by decide +kernel
theorem dX11_takeData_58 : decode cX11_takeData 58 = .ok (.iload 4, 2) := by decide +kernel
theorem dX11_takeData_60 : decode cX11_takeData 60 = .ok (.iadd, 1) := by decide +kernel
theorem dX11_takeData_61 : decode cX11_takeData 61 = .ok (.baload, 1) := by decide +kernel
theorem dX11_takeData_62 : decode cX11_takeData 62 = .ok (.invokevirtual 312, 3) := by decide +kernel
theorem dX11_takeData_65 : decode cX11_takeData 65 = .ok (.iinc 4 1, 3) := by decide +kernel
theorem dX11_takeData_68 : decode cX11_takeData 68 = .ok (.goto (-52), 3) := by decide +kernel
theorem dX11_takeData_71 : decode cX11_takeData 71 = .ok (.aload_n 1, 1) := by decide +kernel
theorem dX11_takeData_72 : decode cX11_takeData 72 = .ok (.getfield 275, 3) := by decide +kernel
theorem dX11_takeData_75 : decode cX11_takeData 75 = .ok (.ifCond .le 19, 3) := by decide +kernel
theorem dX11_takeData_78 : decode cX11_takeData 78 = .ok (.aload_n 0, 1) := by decide +kernel
theorem dX11_takeData_79 : decode cX11_takeData 79 = .ok (.iconst 1, 1) := by decide +kernel
theorem dX11_takeData_80 : decode cX11_takeData 80 = .ok (.putfield 56, 3) := by decide +kernel
theorem dX11_takeData_83 : decode cX11_takeData 83 = .ok (.aload_n 0, 1) := by decide +kernel
theorem dX11_takeData_84 : decode cX11_takeData 84 = .ok (.aload_n 0, 1) := by decide +kernel
theorem dX11_takeData_85 : decode cX11_takeData 85 = .ok (.getfield 25, 3) := by decide +kernel
theorem dX11_takeData_88 : decode cX11_takeData 88 = .ok (.invokevirtual 129, 3) := by decide +kernel
theorem dX11_takeData_91 : decode cX11_takeData 91 = .ok (.putfield 201, 3) := by decide +kernel
theorem dX11_takeData_94 : decode cX11_takeData 94 = .ok (.aload_n 1, 1) := by decide +kernel
theorem dX11_takeData_95 : decode cX11_takeData 95 = .ok (.iconst 1, 1) := by decide +kernel
theorem dX11_takeData_96 : decode cX11_takeData 96 = .ok (.invokevirtual 214, 3) := by decide +kernel
theorem dX11_takeData_99 : decode cX11_takeData 99 = .ok (.ifCond .eq 40, 3) := by decide +kernel
theorem dX11_takeData_102 : decode cX11_takeData 102 = .ok (.aload_n 0, 1) := by decide +kernel
theorem dX11_takeData_103 : decode cX11_takeData 103 = .ok (.iconst 1, 1) := by decide +kernel
theorem dX11_takeData_104 : decode cX11_takeData 104 = .ok (.putfield 56, 3) := by decide +kernel
theorem dX11_takeData_107 : decode cX11_takeData 107 = .ok (.aload_n 0, 1) := by decide +kernel
theorem dX11_takeData_108 : decode cX11_takeData 108 = .ok (.aload_n 1, 1) := by decide +kernel
theorem dX11_takeData_109 : decode cX11_takeData 109 = .ok (.invokevirtual 316, 3) := by decide +kernel
theorem dX11_takeData_112 : decode cX11_takeData 112 = .ok (.iload_n 2, 1) := by decide +kernel
theorem dX11_takeData_113 : decode cX11_takeData 113 = .ok (.invokevirtual 207, 3) := by decide +kernel
theorem dX11_takeData_116 : decode cX11_takeData 116 = .ok (.ifCond .eq 23, 3) := by decide +kernel
theorem dX11_takeData_119 : decode cX11_takeData 119 = .ok (.aload_n 0, 1) := by decide +kernel
theorem dX11_takeData_120 : decode cX11_takeData 120 = .ok (.getfield 195, 3) := by decide +kernel
theorem dX11_takeData_123 : decode cX11_takeData 123 = .ok (.ifCond .ne 16, 3) := by decide +kernel
theorem dX11_takeData_126 : decode cX11_takeData 126 = .ok (.aload_n 0, 1) := by decide +kernel
theorem dX11_takeData_127 : decode cX11_takeData 127 = .ok (.iconst 1, 1) := by decide +kernel
theorem dX11_takeData_128 : decode cX11_takeData 128 = .ok (.putfield 195, 3) := by decide +kernel
theorem dX11_takeData_131 : decode cX11_takeData 131 = .ok (.aload_n 0, 1) := by decide +kernel
theorem dX11_takeData_132 : decode cX11_takeData 132 = .ok (.aload_n 1, 1) := by decide +kernel
theorem dX11_takeData_133 : decode cX11_takeData 133 = .ok (.invokevirtual 316, 3) := by decide +kernel
theorem dX11_takeData_136 : decode cX11_takeData 136 = .ok (.putfield 317, 3) := by decide +kernel
theorem dX11_takeData_139 : decode cX11_takeData 139 = .ok (.aload_n 0, 1) := by decide +kernel
theorem dX11_takeData_140 : decode cX11_takeData 140 = .ok (.dup, 1) := by decide +kernel
theorem dX11_takeData_141 : decode cX11_takeData 141 = .ok (.getfield 33, 3) := by decide +kernel
theorem dX11_takeData_144 : decode cX11_takeData 144 = .ok (.aload_n 0, 1) := by decide +kernel
theorem dX11_takeData_145 : decode cX11_takeData 145 = .ok (.getfield 12, 3) := by decide +kernel
theorem dX11_takeData_148 : decode cX11_takeData 148 = .ok (.invokevirtual 320, 3) := by decide +kernel
theorem dX11_takeData_151 : decode cX11_takeData 151 = .ok (.iadd, 1) := by decide +kernel
theorem dX11_takeData_152 : decode cX11_takeData 152 = .ok (.putfield 33, 3) := by decide +kernel
theorem dX11_takeData_155 : decode cX11_takeData 155 = .ok (.aload_n 0, 1) := by decide +kernel
theorem dX11_takeData_156 : decode cX11_takeData 156 = .ok (.getfield 195, 3) := by decide +kernel
theorem dX11_takeData_159 : decode cX11_takeData 159 = .ok (.ifCond .eq 14, 3) := by decide +kernel
theorem dX11_takeData_162 : decode cX11_takeData 162 = .ok (.aload_n 0, 1) := by decide +kernel
theorem dX11_takeData_163 : decode cX11_takeData 163 = .ok (.getfield 317, 3) := by decide +kernel
theorem dX11_takeData_166 : decode cX11_takeData 166 = .ok (.aload_n 0, 1) := by decide +kernel
theorem dX11_takeData_167 : decode cX11_takeData 167 = .ok (.getfield 33, 3) := by decide +kernel
theorem dX11_takeData_170 : decode cX11_takeData 170 = .ok (.if_icmp .eq 4, 3) := by decide +kernel
theorem dX11_takeData_173 : decode cX11_takeData 173 = .ok (.return_, 1) := by decide +kernel
theorem dX11_takeData_174 : decode cX11_takeData 174 = .ok (.aload_n 0, 1) := by decide +kernel
theorem dX11_takeData_175 : decode cX11_takeData 175 = .ok (.dup, 1) := by decide +kernel
theorem dX11_takeData_176 : decode cX11_takeData 176 = .ok (.getfield 33, 3) := by decide +kernel
theorem dX11_takeData_179 : decode cX11_takeData 179 = .ok (.iconst 1, 1) := by decide +kernel
theorem dX11_takeData_180 : decode cX11_takeData 180 = .ok (.iadd, 1) := by decide +kernel
theorem dX11_takeData_181 : decode cX11_takeData 181 = .ok (.putfield 33, 3) := by decide +kernel
theorem dX11_takeData_184 : decode cX11_takeData 184 = .ok (.aload_n 0, 1) := by decide +kernel
theorem dX11_takeData_185 : decode cX11_takeData 185 = .ok (.iconst 1, 1) := by decide +kernel
theorem dX11_takeData_186 : decode cX11_takeData 186 = .ok (.putfield 56, 3) := by decide +kernel
theorem dX11_takeData_189 : decode cX11_takeData 189 = .ok (.aload_n 0, 1) := by decide +kernel
theorem dX11_takeData_190 : decode cX11_takeData 190 = .ok (.getfield 73, 3) := by decide +kernel
theorem dX11_takeData_193 : decode cX11_takeData 193 = .ok (.iconst 2, 1) := by decide +kernel
theorem dX11_takeData_194 : decode cX11_takeData 194 = .ok (.if_icmp .ne 17, 3) := by decide +kernel
theorem dX11_takeData_197 : decode cX11_takeData 197 = .ok (.aload_n 0, 1) := by decide +kernel
theorem dX11_takeData_198 : decode cX11_takeData 198 = .ok (.bipush 7, 2) := by decide +kernel
theorem dX11_takeData_200 : decode cX11_takeData 200 = .ok (.putfield 73, 3) := by decide +kernel
theorem dX11_takeData_203 : decode cX11_takeData 203 = .ok (.aload_n 0, 1) := by decide +kernel
theorem dX11_takeData_204 : decode cX11_takeData 204 = .ok (.iconst 0, 1) := by decide +kernel
theorem dX11_takeData_205 : decode cX11_takeData 205 = .ok (.putfield 116, 3) := by decide +kernel
theorem dX11_takeData_208 : decode cX11_takeData 208 = .ok (.goto 23, 3) := by decide +kernel
theorem dX11_takeData_211 : decode cX11_takeData 211 = .ok (.aload_n 0, 1) := by decide +kernel
theorem dX11_takeData_212 : decode cX11_takeData 212 = .ok (.getfield 73, 3) := by decide +kernel
theorem dX11_takeData_215 : decode cX11_takeData 215 = .ok (.iconst 3, 1) := by decide +kernel
theorem dX11_takeData_216 : decode cX11_takeData 216 = .ok (.if_icmp .ne 11, 3) := by decide +kernel
theorem dX11_takeData_219 : decode cX11_takeData 219 = .ok (.aload_n 0, 1) := by decide +kernel
theorem dX11_takeData_220 : decode cX11_takeData 220 = .ok (.iconst 5, 1) := by decide +kernel
theorem dX11_takeData_221 : decode cX11_takeData 221 = .ok (.putfield 73, 3) := by decide +kernel
theorem dX11_takeData_224 : decode cX11_takeData 224 = .ok (.goto 7, 3) := by decide +kernel
theorem dX11_takeData_227 : decode cX11_takeData 227 = .ok (.aload_n 0, 1) := by decide +kernel
theorem dX11_takeData_228 : decode cX11_takeData 228 = .ok (.invokevirtual 286, 3) := by decide +kernel
theorem dX11_takeData_231 : decode cX11_takeData 231 = .ok (.return_, 1) := by decide +kernel
def rmX11_takeData : Room := { frames := 3, cells := 0, slots := 0, locals := 61 }
theorem kX11_takeData : yX11_takeData.cls = "WebHost$Connection" ∧ yX11_takeData.cls ≠ "java/lang/invoke/MethodHandle" ∧ yX11_takeData.cls ≠ "java/lang/invoke/VarHandle" ∧ (parseMethodDescriptor yX11_takeData.desc).map (fun d => d.parameters.length) = some 1 := by decide +kernel
def w11_takeData_L16 (o0 : Nat) (x2 : Int32) (x3 : Int32) (Q : St → Prop) (K71 : St → Prop) : Nat → St → Int32 → Prop
  | 0, _, _ => False
  | n + 1, σ, x4 => ((σ 10 0 9) ≤ x4 → K71 σ) ∧ (¬ (σ 10 0 9) ≤ x4 → (w11_isIn σ o0 (x3 + x4) x2 (fun r2 => ((r2 = 0 → (w11_takeData_L16 o0 x2 x3 Q K71 n σ (x4 + 1))) ∧ (¬ r2 = 0 → (abc (σ 10 0 7).toNatClampNeg (σ 10 0 107).toNatClampNeg = true ∧ (vp_in ((σ 10 0 8) + x4) (alen σ ((σ 10 0 7).toNatClampNeg) ((σ 10 0 107).toNatClampNeg)) ∧ (by8 (σ ((σ 10 0 7).toNatClampNeg) ((σ 10 0 107).toNatClampNeg) ((σ 10 0 8) + x4).toNatClampNeg) → (w12_put σ o0 ((x3 + x4) - (σ 11 o0 6)) (σ ((σ 10 0 7).toNatClampNeg) ((σ 10 0 107).toNatClampNeg) ((σ 10 0 8) + x4).toNatClampNeg) (fun σ4 => (w11_takeData_L16 o0 x2 x3 Q K71 n σ4 (x4 + 1))))))))))))
set_option maxHeartbeats 4000000 in
theorem k11_takeData_L16 {p : Program} {l : Launch} {e : Env} {s : State} {m : MethodId} {args : Array Value} {below : List Frame} {meth : Method} {c : Code} {G : Gh} {a1 : Nat → Nat → Nat} {τ : St} {Q : St → Prop} {K71 : St → Prop} (C : Cx p e s m args meth c cX11_takeData 5 none "WebHost$Connection" G) (o0 : Nat) (x2 : Int32) (x3 : Int32) (ho0 : o0 < 16) :
    ∀ (n : Nat) (σ : St) (x4 : Int32), w11_takeData_L16 o0 x2 x3 Q K71 n σ x4 → ∀ (H : Heap) (locs : List Loc) (ls : Array Slot), Hd G a1 (cmb σ τ) H → va_S (gA G) s.heap H locs → lv_has ls 5 [(0, .ref (ga G 11 o0)), (1, .ref (ga G 10 0)), (2, .int x2), (3, .int x3), (4, .int x4)] → (∀ (σ : St) , K71 σ → ∀ (H : Heap) (locs : List Loc) (ls : Array Slot), Hd G a1 (cmb σ τ) H → va_S (gA G) s.heap H locs → lv_has ls 5 [(0, .ref (ga G 11 o0)), (1, .ref (ga G 10 0)), (2, .int x2)] → W p l e rmX11_takeData s m args below meth c H locs 0 0 (MQ below (QVs G a1 (fun u => cmb u τ) Q) args s 0 0 (gA G)) (F0 m 71 ls [])) → W p l e rmX11_takeData s m args below meth c H locs 0 0 (MQ below (QVs G a1 (fun u => cmb u τ) Q) args s 0 0 (gA G)) (F0 m 16 ls []) := by
  have hx := C.1
  have hb := C.2.1
  have hown := C.2.2.2.2.2.1
  have hts := C.2.2.2.2.2.2.1
  intro n
  induction n with
  | zero =>
    intro σ x4 hw
    exact False.elim hw
  | succ n ih =>
    intro σ x4 hw H locs ls hH hS hl hK71
    refine lv_iload hx hb dX11_takeData_16 (lv_at hl 4 rfl) ?_
    refine lv_aload_n hx hb dX11_takeData_18 rfl (lv_at hl 1 rfl) ?_
    refine g10_9 C hH q539 dX11_takeData_19 ?_
    refine lv_icmp_ge (tgt := 71) hx hb dX11_takeData_22 (by decide) (fun h => ?_) (fun h => ?_)
    · have hw := hw.1 h
      exact hK71 σ hw H locs ls hH hS (lv_sub hl [0, 1, 2] rfl)
    have hw := hw.2 h
    refine lv_aload_n hx hb dX11_takeData_25 rfl (lv_at hl 0 rfl) ?_
    refine lv_iload_n hx hb dX11_takeData_26 rfl (lv_at hl 3 rfl) ?_
    refine lv_iload hx hb dX11_takeData_27 (lv_at hl 4 rfl) ?_
    refine lv_iadd hx hb dX11_takeData_29 ?_
    refine lv_iload_n hx hb dX11_takeData_30 rfl (lv_at hl 2 rfl) ?_
    refine kc_ip (rn_vp (As := [.int (x3 + x4), .int x2]) (rest := []) C hH hS (by decide) rfl ho0 (m11_isIn l G a1 τ σ H o0 (x3 + x4) x2 ho0 _ hw) (cwV 2 hts (lw_V q1152 q1154 qs33 q168 q1155) rfl rfl rfl kX11_isIn ⟨Nat.le_of_ble_eq_true rfl, Nat.le_of_ble_eq_true rfl⟩) rfl hl.1 rfl (Nat.le_of_ble_eq_true rfl) dX11_takeData_31 ⟨Nat.le_of_ble_eq_true rfl, Nat.le_of_ble_eq_true rfl⟩) hS (fun r2 locs hw hS => ?_)
    refine lv_if_eq (tgt := 65) hx hb dX11_takeData_34 (by decide) (fun h => ?_) (fun h => ?_)
    · have hw := hw.1 h
      refine lv_iinc (v := x4 + 1) (lv' := [(4, .int (x4 + 1)), (0, .ref (ga G 11 o0)), (1, .ref (ga G 10 0)), (2, .int x2), (3, .int x3)]) hx hb dX11_takeData_65 hl (k := 4) rfl rfl (by decide) rfl (fun ls hl => ?_)
      refine lv_goto (tgt := 16) hx hb dX11_takeData_68 (by decide) ?_
      exact ih σ (x4 + 1) hw H locs ls hH hS (lv_sub hl [1, 2, 3, 4, 0] rfl) hK71
    have hw := hw.2 h
    refine lv_aload_n hx hb dX11_takeData_37 rfl (lv_at hl 0 rfl) ?_
    refine g11_20 C hH ho0 q641 dX11_takeData_38 ?_
    refine lv_iload_n hx hb dX11_takeData_41 rfl (lv_at hl 3 rfl) ?_
    refine lv_iload hx hb dX11_takeData_42 (lv_at hl 4 rfl) ?_
    refine lv_iadd hx hb dX11_takeData_44 ?_
    refine lv_aload_n hx hb dX11_takeData_45 rfl (lv_at hl 0 rfl) ?_
    refine g11_6 C hH ho0 q617 dX11_takeData_46 ?_
    refine lv_isub hx hb dX11_takeData_49 ?_
    refine lv_aload_n hx hb dX11_takeData_50 rfl (lv_at hl 1 rfl) ?_
    obtain ⟨hq3, hw⟩ := hw
    refine g10_7 C hH hq3 q535 dX11_takeData_51 ?_
    refine lv_aload_n hx hb dX11_takeData_54 rfl (lv_at hl 1 rfl) ?_
    refine g10_8 C hH q537 dX11_takeData_55 ?_
    refine lv_iload hx hb dX11_takeData_58 (lv_at hl 4 rfl) ?_
    refine lv_iadd hx hb dX11_takeData_60 ?_
    refine lb_c C hH hq3 rfl hw.1 dX11_takeData_61 (fun hz => ?_)
    have hw := hw.2 hz
    refine kc_v (rn_v (As := [.int ((x3 + x4) - (σ 11 o0 6)), .int (σ ((σ 10 0 7).toNatClampNeg) ((σ 10 0 107).toNatClampNeg) ((σ 10 0 8) + x4).toNatClampNeg)]) (rest := []) C hH hS (by decide) rfl ho0 (m12_put l G a1 τ σ o0 ((x3 + x4) - (σ 11 o0 6)) (σ ((σ 10 0 7).toNatClampNeg) ((σ 10 0 107).toNatClampNeg) ((σ 10 0 8) + x4).toNatClampNeg) ho0 _ hw) (cwV 2 hts (lw_V q1216 q1217 q1218 q169 q1219) rfl rfl rfl kX12_put ⟨Nat.le_of_ble_eq_true rfl, Nat.le_of_ble_eq_true rfl⟩) rfl hl.1 rfl (Nat.le_of_ble_eq_true rfl) dX11_takeData_62 ⟨Nat.le_of_ble_eq_true rfl, Nat.le_of_ble_eq_true rfl⟩) hS (fun σ4 H locs hw hH hS => ?_)
    refine lv_iinc (v := x4 + 1) (lv' := [(4, .int (x4 + 1)), (0, .ref (ga G 11 o0)), (1, .ref (ga G 10 0)), (2, .int x2), (3, .int x3)]) hx hb dX11_takeData_65 hl (k := 4) rfl rfl (by decide) rfl (fun ls hl => ?_)
    refine lv_goto (tgt := 16) hx hb dX11_takeData_68 (by decide) ?_
    exact ih σ4 (x4 + 1) hw H locs ls hH hS (lv_sub hl [1, 2, 3, 4, 0] rfl) hK71
def w11_takeData_J139 (σ : St) (o0 : Nat) (Q : St → Prop) : Prop := w12_advance σ o0 (fun r8 σ8 => (∀ σ9, σ9 = up3 σ8 11 o0 6 ((σ 11 o0 6) + r8) → (bo (σ9 11 o0 23) → (((σ9 11 o0 23) = 0 → Q σ9) ∧ (¬ (σ9 11 o0 23) = 0 → (((σ9 11 o0 24) = (σ9 11 o0 6) → (∀ σ10, σ10 = up3 σ9 11 o0 6 ((σ9 11 o0 6) + 1) → (∀ σ11, σ11 = up3 σ10 11 o0 22 1 → ((¬ (σ11 11 o0 2) = 2 → ((¬ (σ11 11 o0 2) = 3 → (w11_wait2 σ11 o0 (fun σ12 => (Q σ12)))) ∧ ((σ11 11 o0 2) = 3 → (∀ σ13, σ13 = up3 σ11 11 o0 2 5 → (Q σ13))))) ∧ ((σ11 11 o0 2) = 2 → (∀ σ14, σ14 = up3 σ11 11 o0 2 7 → (∀ σ15, σ15 = up3 σ14 11 o0 33 0 → (Q σ15)))))))) ∧ (¬ (σ9 11 o0 24) = (σ9 11 o0 6) → Q σ9)))))))
set_option maxHeartbeats 4000000 in
theorem k11_takeData_J139 {p : Program} {l : Launch} {e : Env} {s : State} {m : MethodId} {args : Array Value} {below : List Frame} {meth : Method} {c : Code} {G : Gh} {a1 : Nat → Nat → Nat} {τ : St} {Q : St → Prop} (C : Cx p e s m args meth c cX11_takeData 5 none "WebHost$Connection" G) (σ : St) (o0 : Nat) (ho0 : o0 < 16) (hw : w11_takeData_J139 σ o0 Q) (H : Heap) (locs : List Loc) (ls : Array Slot) (hH : Hd G a1 (cmb σ τ) H) (hS : va_S (gA G) s.heap H locs) (hl : lv_has ls 5 [(0, .ref (ga G 11 o0))]) : W p l e rmX11_takeData s m args below meth c H locs 0 0 (MQ below (QVs G a1 (fun u => cmb u τ) Q) args s 0 0 (gA G)) (F0 m 139 ls []) := by
  have hx := C.1
  have hb := C.2.1
  have hown := C.2.2.2.2.2.1
  have hts := C.2.2.2.2.2.2.1
  refine lv_aload_n hx hb dX11_takeData_139 rfl (lv_at hl 0 rfl) ?_
  refine lv_dup hx hb dX11_takeData_140 rfl ?_
  refine g11_6 C hH ho0 q617 dX11_takeData_141 ?_
  refine lv_aload_n hx hb dX11_takeData_144 rfl (lv_at hl 0 rfl) ?_
  refine g11_20 C hH ho0 q641 dX11_takeData_145 ?_
  refine kc_i (rn_v (As := []) (rest := [.int (σ 11 o0 6), .ref (ga G 11 o0)]) C hH hS (by decide) rfl ho0 (m12_advance l G a1 τ σ o0 ho0 _ hw) (cwV 0 hts (lw_V q1224 q1225 q1226 q169 q1227) rfl rfl rfl kX12_advance ⟨Nat.le_of_ble_eq_true rfl, Nat.le_of_ble_eq_true rfl⟩) rfl hl.1 rfl (Nat.le_of_ble_eq_true rfl) dX11_takeData_148 ⟨Nat.le_of_ble_eq_true rfl, Nat.le_of_ble_eq_true rfl⟩) hS (fun r8 σ8 H locs hw hH hS => ?_)
  refine lv_iadd hx hb dX11_takeData_151 ?_
  refine p11_6 C hH hS ho0 q617 dX11_takeData_152 (fun σ9 e9 H locs hH hS => ?_)
  have hw := hw σ9 e9
  refine lv_aload_n hx hb dX11_takeData_155 rfl (lv_at hl 0 rfl) ?_
  refine g11_23 C hH ho0 q645 dX11_takeData_156 (fun hz => ?_)
  have hw := hw hz
  refine lv_if_eq (tgt := 173) hx hb dX11_takeData_159 (by decide) (fun h => ?_) (fun h => ?_)
  · have hw := hw.1 h
    exact rt_v C hH hS hw dX11_takeData_173
  have hw := hw.2 h
  refine lv_aload_n hx hb dX11_takeData_162 rfl (lv_at hl 0 rfl) ?_
  refine g11_24 C hH ho0 q646 dX11_takeData_163 ?_
  refine lv_aload_n hx hb dX11_takeData_166 rfl (lv_at hl 0 rfl) ?_
  refine g11_6 C hH ho0 q617 dX11_takeData_167 ?_
  refine lv_icmp_eq (tgt := 174) hx hb dX11_takeData_170 (by decide) (fun h => ?_) (fun h => ?_)
  · have hw := hw.1 h
    refine lv_aload_n hx hb dX11_takeData_174 rfl (lv_at hl 0 rfl) ?_
    refine lv_dup hx hb dX11_takeData_175 rfl ?_
    refine g11_6 C hH ho0 q617 dX11_takeData_176 ?_
    refine lv_iconst (v := 1) hx hb dX11_takeData_179 (by decide) ?_
    refine lv_iadd hx hb dX11_takeData_180 ?_
    refine p11_6 C hH hS ho0 q617 dX11_takeData_181 (fun σ10 e10 H locs hH hS => ?_)
    have hw := hw σ10 e10
    refine lv_aload_n hx hb dX11_takeData_184 rfl (lv_at hl 0 rfl) ?_
    refine lv_iconst (v := 1) hx hb dX11_takeData_185 (by decide) ?_
    refine p11_22 C hH hS ho0 (Or.inr rfl) q644 dX11_takeData_186 (fun σ11 e11 H locs hH hS => ?_)
    have hw := hw σ11 e11
    refine lv_aload_n hx hb dX11_takeData_189 rfl (lv_at hl 0 rfl) ?_
    refine g11_2 C hH ho0 q610 dX11_takeData_190 ?_
    refine lv_iconst (v := 2) hx hb dX11_takeData_193 (by decide) ?_
    refine lv_icmp_ne (tgt := 211) hx hb dX11_takeData_194 (by decide) (fun h => ?_) (fun h => ?_)
    · have hw := hw.1 h
      refine lv_aload_n hx hb dX11_takeData_211 rfl (lv_at hl 0 rfl) ?_
      refine g11_2 C hH ho0 q610 dX11_takeData_212 ?_
      refine lv_iconst (v := 3) hx hb dX11_takeData_215 (by decide) ?_
      refine lv_icmp_ne (tgt := 227) hx hb dX11_takeData_216 (by decide) (fun h => ?_) (fun h => ?_)
      · have hw := hw.1 h
        refine lv_aload_n hx hb dX11_takeData_227 rfl (lv_at hl 0 rfl) ?_
        refine kc_v (rn_v (As := []) (rest := []) C hH hS (by decide) rfl ho0 (m11_wait2 l G a1 τ σ11 o0 ho0 _ hw) (cwV 0 hts (lw_V q1208 q1210 qs44 q168 q1211) rfl rfl rfl kX11_wait2 ⟨Nat.le_of_ble_eq_true rfl, Nat.le_of_ble_eq_true rfl⟩) rfl hl.1 rfl (Nat.le_of_ble_eq_true rfl) dX11_takeData_228 ⟨Nat.le_of_ble_eq_true rfl, Nat.le_of_ble_eq_true rfl⟩) hS (fun σ12 H locs hw hH hS => ?_)
        exact rt_v C hH hS hw dX11_takeData_231
      have hw := hw.2 h
      refine lv_aload_n hx hb dX11_takeData_219 rfl (lv_at hl 0 rfl) ?_
      refine lv_iconst (v := 5) hx hb dX11_takeData_220 (by decide) ?_
      refine p11_2 C hH hS ho0 q610 dX11_takeData_221 (fun σ13 e13 H locs hH hS => ?_)
      have hw := hw σ13 e13
      refine lv_goto (tgt := 231) hx hb dX11_takeData_224 (by decide) ?_
      exact rt_v C hH hS hw dX11_takeData_231
    have hw := hw.2 h
    refine lv_aload_n hx hb dX11_takeData_197 rfl (lv_at hl 0 rfl) ?_
    refine lv_bipush (v := 7) hx hb dX11_takeData_198 (by decide) ?_
    refine p11_2 C hH hS ho0 q610 dX11_takeData_200 (fun σ14 e14 H locs hH hS => ?_)
    have hw := hw σ14 e14
    refine lv_aload_n hx hb dX11_takeData_203 rfl (lv_at hl 0 rfl) ?_
    refine lv_iconst (v := 0) hx hb dX11_takeData_204 (by decide) ?_
    refine p11_33 C hH hS ho0 (Or.inl rfl) q655 dX11_takeData_205 (fun σ15 e15 H locs hH hS => ?_)
    have hw := hw σ15 e15
    refine lv_goto (tgt := 231) hx hb dX11_takeData_208 (by decide) ?_
    exact rt_v C hH hS hw dX11_takeData_231
  have hw := hw.2 h
  exact rt_v C hH hS hw dX11_takeData_173
def w11_takeData_J94 (σ : St) (o0 : Nat) (x2 : Int32) (Q : St → Prop) : Prop := w10_has σ 1 (fun r7 => ((r7 = 0 → w11_takeData_J139 σ o0 Q) ∧ (¬ r7 = 0 → (∀ σ16, σ16 = up3 σ 11 o0 22 1 → (w10_end σ16 (fun r17 => (w11_isIn σ16 o0 r17 x2 (fun r18 => ((r18 = 0 → w11_takeData_J139 σ16 o0 Q) ∧ (¬ r18 = 0 → (bo (σ16 11 o0 23) → ((¬ (σ16 11 o0 23) = 0 → w11_takeData_J139 σ16 o0 Q) ∧ ((σ16 11 o0 23) = 0 → (∀ σ19, σ19 = up3 σ16 11 o0 23 1 → (w10_end σ19 (fun r20 => (∀ σ21, σ21 = up3 σ19 11 o0 24 r20 → (w11_takeData_J139 σ21 o0 Q))))))))))))))))))
set_option maxHeartbeats 4000000 in
theorem k11_takeData_J94 {p : Program} {l : Launch} {e : Env} {s : State} {m : MethodId} {args : Array Value} {below : List Frame} {meth : Method} {c : Code} {G : Gh} {a1 : Nat → Nat → Nat} {τ : St} {Q : St → Prop} (C : Cx p e s m args meth c cX11_takeData 5 none "WebHost$Connection" G) (σ : St) (o0 : Nat) (x2 : Int32) (ho0 : o0 < 16) (hw : w11_takeData_J94 σ o0 x2 Q) (H : Heap) (locs : List Loc) (ls : Array Slot) (hH : Hd G a1 (cmb σ τ) H) (hS : va_S (gA G) s.heap H locs) (hl : lv_has ls 5 [(0, .ref (ga G 11 o0)), (1, .ref (ga G 10 0)), (2, .int x2)]) : W p l e rmX11_takeData s m args below meth c H locs 0 0 (MQ below (QVs G a1 (fun u => cmb u τ) Q) args s 0 0 (gA G)) (F0 m 94 ls []) := by
  have hx := C.1
  have hb := C.2.1
  have hown := C.2.2.2.2.2.1
  have hts := C.2.2.2.2.2.2.1
  refine lv_aload_n hx hb dX11_takeData_94 rfl (lv_at hl 1 rfl) ?_
  refine lv_iconst (v := 1) hx hb dX11_takeData_95 (by decide) ?_
  refine kc_ip (rn_vp (As := [.int 1]) (rest := []) C hH hS (by decide) rfl (by decide) (m10_has l G a1 τ σ H 1 _ hw) (cwV 1 hts (lw_V q1156 q1149 q1150 q167 q1151) rfl rfl rfl kX10_has ⟨Nat.le_of_ble_eq_true rfl, Nat.le_of_ble_eq_true rfl⟩) rfl hl.1 rfl (Nat.le_of_ble_eq_true rfl) dX11_takeData_96 ⟨Nat.le_of_ble_eq_true rfl, Nat.le_of_ble_eq_true rfl⟩) hS (fun r7 locs hw hS => ?_)
  refine lv_if_eq (tgt := 139) hx hb dX11_takeData_99 (by decide) (fun h => ?_) (fun h => ?_)
  · have hw := hw.1 h
    exact k11_takeData_J139 C σ o0 ho0 hw H locs ls hH hS (lv_sub hl [0] rfl)
  have hw := hw.2 h
  refine lv_aload_n hx hb dX11_takeData_102 rfl (lv_at hl 0 rfl) ?_
  refine lv_iconst (v := 1) hx hb dX11_takeData_103 (by decide) ?_
  refine p11_22 C hH hS ho0 (Or.inr rfl) q644 dX11_takeData_104 (fun σ16 e16 H locs hH hS => ?_)
  have hw := hw σ16 e16
  refine lv_aload_n hx hb dX11_takeData_107 rfl (lv_at hl 0 rfl) ?_
  refine lv_aload_n hx hb dX11_takeData_108 rfl (lv_at hl 1 rfl) ?_
  refine kc_ip (rn_vp (As := []) (rest := [.ref (ga G 11 o0)]) C hH hS (by decide) rfl (by decide) (m10_end l G a1 τ σ16 H _ hw) (cwV 0 hts (lw_V q1220 q1221 q1222 q167 q1223) rfl rfl rfl kX10_end ⟨Nat.le_of_ble_eq_true rfl, Nat.le_of_ble_eq_true rfl⟩) rfl hl.1 rfl (Nat.le_of_ble_eq_true rfl) dX11_takeData_109 ⟨Nat.le_of_ble_eq_true rfl, Nat.le_of_ble_eq_true rfl⟩) hS (fun r17 locs hw hS => ?_)
  refine lv_iload_n hx hb dX11_takeData_112 rfl (lv_at hl 2 rfl) ?_
  refine kc_ip (rn_vp (As := [.int r17, .int x2]) (rest := []) C hH hS (by decide) rfl ho0 (m11_isIn l G a1 τ σ16 H o0 r17 x2 ho0 _ hw) (cwV 2 hts (lw_V q1152 q1154 qs33 q168 q1155) rfl rfl rfl kX11_isIn ⟨Nat.le_of_ble_eq_true rfl, Nat.le_of_ble_eq_true rfl⟩) rfl hl.1 rfl (Nat.le_of_ble_eq_true rfl) dX11_takeData_113 ⟨Nat.le_of_ble_eq_true rfl, Nat.le_of_ble_eq_true rfl⟩) hS (fun r18 locs hw hS => ?_)
  refine lv_if_eq (tgt := 139) hx hb dX11_takeData_116 (by decide) (fun h => ?_) (fun h => ?_)
  · have hw := hw.1 h
    exact k11_takeData_J139 C σ16 o0 ho0 hw H locs ls hH hS (lv_sub hl [0] rfl)
  have hw := hw.2 h
  refine lv_aload_n hx hb dX11_takeData_119 rfl (lv_at hl 0 rfl) ?_
  refine g11_23 C hH ho0 q645 dX11_takeData_120 (fun hz => ?_)
  have hw := hw hz
  refine lv_if_ne (tgt := 139) hx hb dX11_takeData_123 (by decide) (fun h => ?_) (fun h => ?_)
  · have hw := hw.1 h
    exact k11_takeData_J139 C σ16 o0 ho0 hw H locs ls hH hS (lv_sub hl [0] rfl)
  have hw := hw.2 h
  refine lv_aload_n hx hb dX11_takeData_126 rfl (lv_at hl 0 rfl) ?_
  refine lv_iconst (v := 1) hx hb dX11_takeData_127 (by decide) ?_
  refine p11_23 C hH hS ho0 (Or.inr rfl) q645 dX11_takeData_128 (fun σ19 e19 H locs hH hS => ?_)
  have hw := hw σ19 e19
  refine lv_aload_n hx hb dX11_takeData_131 rfl (lv_at hl 0 rfl) ?_
  refine lv_aload_n hx hb dX11_takeData_132 rfl (lv_at hl 1 rfl) ?_
  refine kc_ip (rn_vp (As := []) (rest := [.ref (ga G 11 o0)]) C hH hS (by decide) rfl (by decide) (m10_end l G a1 τ σ19 H _ hw) (cwV 0 hts (lw_V q1220 q1221 q1222 q167 q1223) rfl rfl rfl kX10_end ⟨Nat.le_of_ble_eq_true rfl, Nat.le_of_ble_eq_true rfl⟩) rfl hl.1 rfl (Nat.le_of_ble_eq_true rfl) dX11_takeData_133 ⟨Nat.le_of_ble_eq_true rfl, Nat.le_of_ble_eq_true rfl⟩) hS (fun r20 locs hw hS => ?_)
  refine p11_24 C hH hS ho0 q646 dX11_takeData_136 (fun σ21 e21 H locs hH hS => ?_)
  have hw := hw σ21 e21
  exact k11_takeData_J139 C σ21 o0 ho0 hw H locs ls hH hS (lv_sub hl [0] rfl)
def w11_takeData (σ : St) (o0 : Nat) (Q : St → Prop) : Prop := w12_window σ o0 (fun r1 => (∃ z5, w11_takeData_L16 o0 r1 (σ 10 0 3) Q (fun σ6 => ((σ6 10 0 9) ≤ 0 → w11_takeData_J94 σ6 o0 r1 Q) ∧ (¬ (σ6 10 0 9) ≤ 0 → (∀ σ22, σ22 = up3 σ6 11 o0 22 1 → (w8_now σ22 (fun r23 => (∀ σ24, σ24 = up3 σ22 11 o0 32 r23 → (w11_takeData_J94 σ24 o0 r1 Q))))))) z5 σ 0))
set_option maxHeartbeats 4000000 in
theorem m11_takeData (l : Launch) (G : Gh) (a1 : Nat → Nat → Nat) (τ : St) (σ : St) (o0 : Nat) (ho0 : o0 < 16) (Q : St → Prop) (hw : w11_takeData σ o0 Q) : Met l yX11_takeData (ws_ yX11_takeData cX11_takeData 5 none) rmX11_takeData (PcS G a1 (cmb σ τ) [.ref (ga G 11 o0), .ref (ga G 10 0)]) (QVs G a1 (fun u => cmb u τ) Q) 0 0 (gA G) := by
  refine met_w (by decide) (Nat.le_of_ble_eq_true rfl) ?_
  intro p e s m below meth c ls C hH hS hl
  have C : Cx p e s m _ meth c cX11_takeData 5 none "WebHost$Connection" G := C
  have hl : lv_has ls 5 [(0, .ref (ga G 11 o0)), (1, .ref (ga G 10 0))] := hl
  have hx := C.1
  have hb := C.2.1
  have hown := C.2.2.2.2.2.1
  have hts := C.2.2.2.2.2.2.1
  obtain ⟨locs, hlocs⟩ : ∃ z : List Loc, z = [] := ⟨_, rfl⟩
  obtain ⟨H, hHe⟩ : ∃ z : Heap, z = s.heap := ⟨_, rfl⟩
  have hH : Hd G a1 (cmb σ τ) H := by rw [hHe]; exact hH
  have hS : va_S (gA G) s.heap H locs := by rw [hHe, hlocs]; exact hS
  refine W.heap0 hHe.symm hlocs.symm ?_
  refine lv_aload_n hx hb dX11_takeData_0 rfl (lv_at hl 0 rfl) ?_
  refine g11_20 C hH ho0 q641 dX11_takeData_1 ?_
  refine kc_ip (rn_vp (As := []) (rest := []) C hH hS (by decide) rfl ho0 (m12_window l G a1 τ σ H o0 ho0 _ hw) (cwV 0 hts (lw_V q976 q977 q978 q169 q979) rfl rfl rfl kX12_window ⟨Nat.le_of_ble_eq_true rfl, Nat.le_of_ble_eq_true rfl⟩) rfl hl.1 rfl (Nat.le_of_ble_eq_true rfl) dX11_takeData_4 ⟨Nat.le_of_ble_eq_true rfl, Nat.le_of_ble_eq_true rfl⟩) hS (fun r1 locs hw hS => ?_)
  refine lv_istore_n (lv' := [(2, .int r1), (0, .ref (ga G 11 o0)), (1, .ref (ga G 10 0))]) hx hb dX11_takeData_7 rfl hl (by decide) rfl (fun ls hl => ?_)
  refine lv_aload_n hx hb dX11_takeData_8 rfl (lv_at hl 2 rfl) ?_
  refine g10_3 C hH q527 dX11_takeData_9 ?_
  refine lv_istore_n (lv' := [(3, .int (σ 10 0 3)), (2, .int r1), (0, .ref (ga G 11 o0)), (1, .ref (ga G 10 0))]) hx hb dX11_takeData_12 rfl hl (by decide) rfl (fun ls hl => ?_)
  refine lv_iconst (v := 0) hx hb dX11_takeData_13 (by decide) ?_
  refine lv_istore (lv' := [(4, .int 0), (3, .int (σ 10 0 3)), (2, .int r1), (0, .ref (ga G 11 o0)), (1, .ref (ga G 10 0))]) hx hb dX11_takeData_14 hl (by decide) rfl (fun ls hl => ?_)
  obtain ⟨n5, hw⟩ := hw
  refine k11_takeData_L16 C o0 r1 (σ 10 0 3) ho0 n5 σ 0 hw H locs ls hH hS (lv_sub hl [3, 4, 2, 1, 0] rfl) (fun σ6 hw H locs ls hH hS hl => ?_)
  refine lv_aload_n hx hb dX11_takeData_71 rfl (lv_at hl 1 rfl) ?_
  refine g10_9 C hH q539 dX11_takeData_72 ?_
  refine lv_if_le (tgt := 94) hx hb dX11_takeData_75 (by decide) (fun h => ?_) (fun h => ?_)
  · have hw := hw.1 h
    exact k11_takeData_J94 C σ6 o0 r1 ho0 hw H locs ls hH hS (lv_sub hl [0, 1, 2] rfl)
  have hw := hw.2 h
  refine lv_aload_n hx hb dX11_takeData_78 rfl (lv_at hl 0 rfl) ?_
  refine lv_iconst (v := 1) hx hb dX11_takeData_79 (by decide) ?_
  refine p11_22 C hH hS ho0 (Or.inr rfl) q644 dX11_takeData_80 (fun σ22 e22 H locs hH hS => ?_)
  have hw := hw σ22 e22
  refine lv_aload_n hx hb dX11_takeData_83 rfl (lv_at hl 0 rfl) ?_
  refine lv_aload_n hx hb dX11_takeData_84 rfl (lv_at hl 0 rfl) ?_
  refine g11_0 C hH ho0 q608 dX11_takeData_85 ?_
  refine kc_ip (rn_vp (As := []) (rest := [.ref (ga G 11 o0)]) C hH hS (by decide) rfl (by decide) (m8_now l G a1 τ σ22 H _ hw) (cwV 0 hts (lw_V q1025 q1026 q1027 q165 q1028) rfl rfl rfl kX8_now ⟨Nat.le_of_ble_eq_true rfl, Nat.le_of_ble_eq_true rfl⟩) rfl hl.1 rfl (Nat.le_of_ble_eq_true rfl) dX11_takeData_88 ⟨Nat.le_of_ble_eq_true rfl, Nat.le_of_ble_eq_true rfl⟩) hS (fun r23 locs hw hS => ?_)
  refine p11_32 C hH hS ho0 q654 dX11_takeData_91 (fun σ24 e24 H locs hH hS => ?_)
  have hw := hw σ24 e24
  exact k11_takeData_J94 C σ24 o0 r1 ho0 hw H locs ls hH hS (lv_sub hl [0, 1, 2] rfl)
/-! WebHostModel.arp()V -/
abbrev cX14_arp : ByteArray := prog_17_method_23_code
def yX14_arp : MethodName := ⟨RX14, "arp", "()V"⟩
theorem dX14_arp_0 : decode cX14_arp 0 = .ok (.aload_n 0, 1) := by decide +kernel
theorem dX14_arp_1 : decode cX14_arp 1 = .ok (.getfield 84, 3) := by decide +kernel
theorem dX14_arp_4 : decode cX14_arp 4 = .ok (.bipush 42, 2) := by decide +kernel
theorem dX14_arp_6 : decode cX14_arp 6 = .ok (.if_icmp .lt 26, 3) := by decide +kernel
theorem dX14_arp_9 : decode cX14_arp 9 = .ok (.aload_n 0, 1) := by decide +kernel
theorem dX14_arp_10 : decode cX14_arp 10 = .ok (.bipush 14, 2) := by decide +kernel
theorem dX14_arp_12 : decode cX14_arp 12 = .ok (.invokevirtual 206, 3) := by decide +kernel
theorem dX14_arp_15 : decode cX14_arp 15 = .ok (.ldc 201, 2) := by decide +kernel
theorem dX14_arp_17 : decode cX14_arp 17 = .ok (.if_icmp .ne 15, 3) := by decide +kernel
theorem dX14_arp_20 : decode cX14_arp 20 = .ok (.aload_n 0, 1) := by decide +kernel
theorem dX14_arp_21 : decode cX14_arp 21 = .ok (.bipush 18, 2) := by decide +kernel
theorem dX14_arp_23 : decode cX14_arp 23 = .ok (.invokevirtual 210, 3) := by decide +kernel
theorem dX14_arp_26 : decode cX14_arp 26 = .ok (.sipush 1540, 3) := by decide +kernel
theorem dX14_arp_29 : decode cX14_arp 29 = .ok (.if_icmp .eq 4, 3) := by decide +kernel
theorem dX14_arp_32 : decode cX14_arp 32 = .ok (.return_, 1) := by decide +kernel
theorem dX14_arp_33 : decode cX14_arp 33 = .ok (.aload_n 0, 1) := by decide +kernel
theorem dX14_arp_34 : decode cX14_arp 34 = .ok (.bipush 20, 2) := by decide +kernel
theorem dX14_arp_36 : decode cX14_arp 36 = .ok (.invokevirtual 210, 3) := by decide +kernel
theorem dX14_arp_39 : decode cX14_arp 39 = .ok (.istore_n 1, 1) := by decide +kernel
theorem dX14_arp_40 : decode cX14_arp 40 = .ok (.iload_n 1, 1) := by decide +kernel
theorem dX14_arp_41 : decode cX14_arp 41 = .ok (.iconst 1, 1) := by decide +kernel
theorem dX14_arp_42 : decode cX14_arp 42 = .ok (.if_icmp .eq 9, 3) := by decide +kernel
theorem dX14_arp_45 : decode cX14_arp 45 = .ok (.iload_n 1, 1) := by decide +kernel
theorem dX14_arp_46 : decode cX14_arp 46 = .ok (.iconst 2, 1) := by decide +kernel
theorem dX14_arp_47 : decode cX14_arp 47 = .ok (.if_icmp .eq 4, 3) := by decide +kernel
theorem dX14_arp_50 : decode cX14_arp 50 = .ok (.return_, 1) := by decide +kernel
theorem dX14_arp_51 : decode cX14_arp 51 = .ok (.aload_n 0, 1) := by decide +kernel
theorem dX14_arp_52 : decode cX14_arp 52 = .ok (.bipush 22, 2) := by decide +kernel
theorem dX14_arp_54 : decode cX14_arp 54 = .ok (.invokevirtual 210, 3) := by decide +kernel
theorem dX14_arp_57 : decode cX14_arp 57 = .ok (.istore_n 2, 1) := by decide +kernel
theorem dX14_arp_58 : decode cX14_arp 58 = .ok (.aload_n 0, 1) := by decide +kernel
theorem dX14_arp_59 : decode cX14_arp 59 = .ok (.bipush 24, 2) := by decide +kernel
theorem dX14_arp_61 : decode cX14_arp 61 = .ok (.invokevirtual 206, 3) := by decide +kernel
theorem dX14_arp_64 : decode cX14_arp 64 = .ok (.istore_n 3, 1) := by decide +kernel
theorem dX14_arp_65 : decode cX14_arp 65 = .ok (.aload_n 0, 1) := by decide +kernel
theorem dX14_arp_66 : decode cX14_arp 66 = .ok (.bipush 28, 2) := by decide +kernel
theorem dX14_arp_68 : decode cX14_arp 68 = .ok (.invokevirtual 206, 3) := by decide +kernel
theorem dX14_arp_71 : decode cX14_arp 71 = .ok (.istore 4, 2) := by decide +kernel
theorem dX14_arp_73 : decode cX14_arp 73 = .ok (.aload_n 0, 1) := by decide +kernel
theorem dX14_arp_74 : decode cX14_arp 74 = .ok (.bipush 38, 2) := by decide +kernel
theorem dX14_arp_76 : decode cX14_arp 76 = .ok (.invokevirtual 206, 3) := by decide +kernel
theorem dX14_arp_79 : decode cX14_arp 79 = .ok (.istore 5, 2) := by decide +kernel
theorem dX14_arp_81 : decode cX14_arp 81 = .ok (.aload_n 0, 1) := by decide +kernel
theorem dX14_arp_82 : decode cX14_arp 82 = .ok (.iload 4, 2) := by decide +kernel
theorem dX14_arp_84 : decode cX14_arp 84 = .ok (.invokevirtual 174, 3) := by decide +kernel
theorem dX14_arp_87 : decode cX14_arp 87 = .ok (.ifnonnull 21, 3) := by decide +kernel
theorem dX14_arp_90 : decode cX14_arp 90 = .ok (.iload 5, 2) := by decide +kernel
theorem dX14_arp_92 : decode cX14_arp 92 = .ok (.aload_n 0, 1) := by decide +kernel
theorem dX14_arp_93 : decode cX14_arp 93 = .ok (.getfield 119, 3) := by decide +kernel
theorem dX14_arp_96 : decode cX14_arp 96 = .ok (.if_icmp .ne 20, 3) := by decide +kernel
theorem dX14_arp_99 : decode cX14_arp 99 = .ok (.iload 4, 2) := by decide +kernel
theorem dX14_arp_101 : decode cX14_arp 101 = .ok (.aload_n 0, 1) := by decide +kernel
theorem dX14_arp_102 : decode cX14_arp 102 = .ok (.getfield 119, 3) := by decide +kernel
theorem dX14_arp_105 : decode cX14_arp 105 = .ok (.if_icmp .eq 11, 3) := by decide +kernel
theorem dX14_arp_108 : decode cX14_arp 108 = .ok (.aload_n 0, 1) := by decide +kernel
theorem dX14_arp_109 : decode cX14_arp 109 = .ok (.iload 4, 2) := by decide +kernel
theorem dX14_arp_111 : decode cX14_arp 111 = .ok (.iload_n 2, 1) := by decide +kernel
theorem dX14_arp_112 : decode cX14_arp 112 = .ok (.iload_n 3, 1) := by decide +kernel
theorem dX14_arp_113 : decode cX14_arp 113 = .ok (.invokevirtual 213, 3) := by decide +kernel
theorem dX14_arp_116 : decode cX14_arp 116 = .ok (.iload_n 1, 1) := by decide +kernel
theorem dX14_arp_117 : decode cX14_arp 117 = .ok (.iconst 1, 1) := by decide +kernel
theorem dX14_arp_118 : decode cX14_arp 118 = .ok (.if_icmp .ne 23, 3) := by decide +kernel
theorem dX14_arp_121 : decode cX14_arp 121 = .ok (.iload 5, 2) := by decide +kernel
theorem dX14_arp_123 : decode cX14_arp 123 = .ok (.aload_n 0, 1) := by decide +kernel
theorem dX14_arp_124 : decode cX14_arp 124 = .ok (.getfield 119, 3) := by decide +kernel
theorem dX14_arp_127 : decode cX14_arp 127 = .ok (.if_icmp .ne 14, 3) := by decide +kernel
theorem dX14_arp_130 : decode cX14_arp 130 = .ok (.aload_n 0, 1) := by decide +kernel
theorem dX14_arp_131 : decode cX14_arp 131 = .ok (.iconst 2, 1) := by decide +kernel
theorem dX14_arp_132 : decode cX14_arp 132 = .ok (.iload_n 2, 1) := by decide +kernel
theorem dX14_arp_133 : decode cX14_arp 133 = .ok (.iload_n 3, 1) := by decide +kernel
theorem dX14_arp_134 : decode cX14_arp 134 = .ok (.iload_n 2, 1) := by decide +kernel
theorem dX14_arp_135 : decode cX14_arp 135 = .ok (.iload_n 3, 1) := by decide +kernel
theorem dX14_arp_136 : decode cX14_arp 136 = .ok (.iload 4, 2) := by decide +kernel
theorem dX14_arp_138 : decode cX14_arp 138 = .ok (.invokevirtual 202, 3) := by decide +kernel
theorem dX14_arp_141 : decode cX14_arp 141 = .ok (.return_, 1) := by decide +kernel
def rmX14_arp : Room := { frames := 3, cells := 0, slots := 0, locals := 77 }
theorem kX14_arp : yX14_arp.cls = "WebHostModel" ∧ yX14_arp.cls ≠ "java/lang/invoke/MethodHandle" ∧ yX14_arp.cls ≠ "java/lang/invoke/VarHandle" ∧ (parseMethodDescriptor yX14_arp.desc).map (fun d => d.parameters.length) = some 0 := by decide +kernel
def w14_arp_J116 (σ : St) (x1 : Int32) (x2 : Int32) (x3 : Int32) (x4 : Int32) (x5 : Int32) (Q : St → Prop) : Prop := (¬ x1 = 1 → Q σ) ∧ (x1 = 1 → ((¬ x5 = (σ 14 0 5) → Q σ) ∧ (x5 = (σ 14 0 5) → (w14_arpFrame σ 2 x2 x3 x2 x3 x4 (fun σ10 => (Q σ10))))))
set_option maxHeartbeats 4000000 in
theorem k14_arp_J116 {p : Program} {l : Launch} {e : Env} {s : State} {m : MethodId} {args : Array Value} {below : List Frame} {meth : Method} {c : Code} {G : Gh} {a1 : Nat → Nat → Nat} {τ : St} {Q : St → Prop} (C : Cx p e s m args meth c cX14_arp 6 none "WebHostModel" G) (σ : St) (x1 : Int32) (x2 : Int32) (x3 : Int32) (x4 : Int32) (x5 : Int32) (hw : w14_arp_J116 σ x1 x2 x3 x4 x5 Q) (H : Heap) (locs : List Loc) (ls : Array Slot) (hH : Hd G a1 (cmb τ σ) H) (hS : va_S (gA G) s.heap H locs) (hl : lv_has ls 6 [(0, .ref (ga G 14 0)), (1, .int x1), (2, .int x2), (3, .int x3), (4, .int x4), (5, .int x5)]) : W p l e rmX14_arp s m args below meth c H locs 0 0 (MQ below (QVs G a1 (fun u => cmb τ u) Q) args s 0 0 (gA G)) (F0 m 116 ls []) := by
  have hx := C.1
  have hb := C.2.1
  have hown := C.2.2.2.2.2.1
  have hts := C.2.2.2.2.2.2.1
  refine lv_iload_n hx hb dX14_arp_116 rfl (lv_at hl 1 rfl) ?_
  refine lv_iconst (v := 1) hx hb dX14_arp_117 (by decide) ?_
  refine lv_icmp_ne (tgt := 141) hx hb dX14_arp_118 (by decide) (fun h => ?_) (fun h => ?_)
  · have hw := hw.1 h
    exact rt_v C hH hS hw dX14_arp_141
  have hw := hw.2 h
  refine lv_iload hx hb dX14_arp_121 (lv_at hl 5 rfl) ?_
  refine lv_aload_n hx hb dX14_arp_123 rfl (lv_at hl 0 rfl) ?_
  refine g14_5 C hH q1945 dX14_arp_124 ?_
  refine lv_icmp_ne (tgt := 141) hx hb dX14_arp_127 (by decide) (fun h => ?_) (fun h => ?_)
  · have hw := hw.1 h
    exact rt_v C hH hS hw dX14_arp_141
  have hw := hw.2 h
  refine lv_aload_n hx hb dX14_arp_130 rfl (lv_at hl 0 rfl) ?_
  refine lv_iconst (v := 2) hx hb dX14_arp_131 (by decide) ?_
  refine lv_iload_n hx hb dX14_arp_132 rfl (lv_at hl 2 rfl) ?_
  refine lv_iload_n hx hb dX14_arp_133 rfl (lv_at hl 3 rfl) ?_
  refine lv_iload_n hx hb dX14_arp_134 rfl (lv_at hl 2 rfl) ?_
  refine lv_iload_n hx hb dX14_arp_135 rfl (lv_at hl 3 rfl) ?_
  refine lv_iload hx hb dX14_arp_136 (lv_at hl 4 rfl) ?_
  refine kc_v (rn_v (As := [.int 2, .int x2, .int x3, .int x2, .int x3, .int x4]) (rest := []) C hH hS (by decide) rfl (by decide) (m14_arpFrame l G a1 τ σ 2 x2 x3 x2 x3 x4 _ hw) (cwV 6 hts (lw_V q2213 q2215 qs83 q171 q2216) rfl rfl rfl kX14_arpFrame ⟨Nat.le_of_ble_eq_true rfl, Nat.le_of_ble_eq_true rfl⟩) rfl hl.1 rfl (Nat.le_of_ble_eq_true rfl) dX14_arp_138 ⟨Nat.le_of_ble_eq_true rfl, Nat.le_of_ble_eq_true rfl⟩) hS (fun σ10 H locs hw hH hS => ?_)
  exact rt_v C hH hS hw dX14_arp_141
def w14_arp_J51 (σ : St) (x1 : Int32) (Q : St → Prop) : Prop := w14_trayHalf σ 22 (fun r4 => (w14_trayWord σ 24 (fun r5 => (w14_trayWord σ 28 (fun r6 => (w14_trayWord σ 38 (fun r7 => (w14_entry σ r6 (fun p8 => ((p8 = none → ((¬ r7 = (σ 14 0 5) → w14_arp_J116 σ x1 r4 r5 r6 r7 Q) ∧ (r7 = (σ 14 0 5) → ((r6 = (σ 14 0 5) → w14_arp_J116 σ x1 r4 r5 r6 r7 Q) ∧ (¬ r6 = (σ 14 0 5) → (w14_remember σ r6 r4 r5 (fun σ11 => (w14_arp_J116 σ11 x1 r4 r5 r6 r7 Q)))))))) ∧ (∀ i9, p8 = some i9 → (i9 < 16 ∧ (w14_remember σ r6 r4 r5 (fun σ12 => (w14_arp_J116 σ12 x1 r4 r5 r6 r7 Q)))))))))))))))
set_option maxHeartbeats 4000000 in
theorem k14_arp_J51 {p : Program} {l : Launch} {e : Env} {s : State} {m : MethodId} {args : Array Value} {below : List Frame} {meth : Method} {c : Code} {G : Gh} {a1 : Nat → Nat → Nat} {τ : St} {Q : St → Prop} (C : Cx p e s m args meth c cX14_arp 6 none "WebHostModel" G) (σ : St) (x1 : Int32) (hw : w14_arp_J51 σ x1 Q) (H : Heap) (locs : List Loc) (ls : Array Slot) (hH : Hd G a1 (cmb τ σ) H) (hS : va_S (gA G) s.heap H locs) (hl : lv_has ls 6 [(0, .ref (ga G 14 0)), (1, .int x1)]) : W p l e rmX14_arp s m args below meth c H locs 0 0 (MQ below (QVs G a1 (fun u => cmb τ u) Q) args s 0 0 (gA G)) (F0 m 51 ls []) := by
  have hx := C.1
  have hb := C.2.1
  have hown := C.2.2.2.2.2.1
  have hts := C.2.2.2.2.2.2.1
  refine lv_aload_n hx hb dX14_arp_51 rfl (lv_at hl 0 rfl) ?_
  refine lv_bipush (v := 22) hx hb dX14_arp_52 (by decide) ?_
  refine kc_ip (rn_vp (As := [.int 22]) (rest := []) C hH hS (by decide) rfl (by decide) (m14_trayHalf l G a1 τ σ H 22 _ hw) (cwV 1 hts (lw_V q2329 q2331 qs105 q171 q2332) rfl rfl rfl kX14_trayHalf ⟨Nat.le_of_ble_eq_true rfl, Nat.le_of_ble_eq_true rfl⟩) rfl hl.1 rfl (Nat.le_of_ble_eq_true rfl) dX14_arp_54 ⟨Nat.le_of_ble_eq_true rfl, Nat.le_of_ble_eq_true rfl⟩) hS (fun r4 locs hw hS => ?_)
  refine lv_istore_n (lv' := [(2, .int r4), (0, .ref (ga G 14 0)), (1, .int x1)]) hx hb dX14_arp_57 rfl hl (by decide) rfl (fun ls hl => ?_)
  refine lv_aload_n hx hb dX14_arp_58 rfl (lv_at hl 1 rfl) ?_
  refine lv_bipush (v := 24) hx hb dX14_arp_59 (by decide) ?_
  refine kc_ip (rn_vp (As := [.int 24]) (rest := []) C hH hS (by decide) rfl (by decide) (m14_trayWord l G a1 τ σ H 24 _ hw) (cwV 1 hts (lw_V q2333 q2335 qs106 q171 q2336) rfl rfl rfl kX14_trayWord ⟨Nat.le_of_ble_eq_true rfl, Nat.le_of_ble_eq_true rfl⟩) rfl hl.1 rfl (Nat.le_of_ble_eq_true rfl) dX14_arp_61 ⟨Nat.le_of_ble_eq_true rfl, Nat.le_of_ble_eq_true rfl⟩) hS (fun r5 locs hw hS => ?_)
  refine lv_istore_n (lv' := [(3, .int r5), (2, .int r4), (0, .ref (ga G 14 0)), (1, .int x1)]) hx hb dX14_arp_64 rfl hl (by decide) rfl (fun ls hl => ?_)
  refine lv_aload_n hx hb dX14_arp_65 rfl (lv_at hl 2 rfl) ?_
  refine lv_bipush (v := 28) hx hb dX14_arp_66 (by decide) ?_
  refine kc_ip (rn_vp (As := [.int 28]) (rest := []) C hH hS (by decide) rfl (by decide) (m14_trayWord l G a1 τ σ H 28 _ hw) (cwV 1 hts (lw_V q2333 q2335 qs106 q171 q2336) rfl rfl rfl kX14_trayWord ⟨Nat.le_of_ble_eq_true rfl, Nat.le_of_ble_eq_true rfl⟩) rfl hl.1 rfl (Nat.le_of_ble_eq_true rfl) dX14_arp_68 ⟨Nat.le_of_ble_eq_true rfl, Nat.le_of_ble_eq_true rfl⟩) hS (fun r6 locs hw hS => ?_)
  refine lv_istore (lv' := [(4, .int r6), (3, .int r5), (2, .int r4), (0, .ref (ga G 14 0)), (1, .int x1)]) hx hb dX14_arp_71 hl (by decide) rfl (fun ls hl => ?_)
  refine lv_aload_n hx hb dX14_arp_73 rfl (lv_at hl 3 rfl) ?_
  refine lv_bipush (v := 38) hx hb dX14_arp_74 (by decide) ?_
  refine kc_ip (rn_vp (As := [.int 38]) (rest := []) C hH hS (by decide) rfl (by decide) (m14_trayWord l G a1 τ σ H 38 _ hw) (cwV 1 hts (lw_V q2333 q2335 qs106 q171 q2336) rfl rfl rfl kX14_trayWord ⟨Nat.le_of_ble_eq_true rfl, Nat.le_of_ble_eq_true rfl⟩) rfl hl.1 rfl (Nat.le_of_ble_eq_true rfl) dX14_arp_76 ⟨Nat.le_of_ble_eq_true rfl, Nat.le_of_ble_eq_true rfl⟩) hS (fun r7 locs hw hS => ?_)
  refine lv_istore (lv' := [(5, .int r7), (4, .int r6), (3, .int r5), (2, .int r4), (0, .ref (ga G 14 0)), (1, .int x1)]) hx hb dX14_arp_79 hl (by decide) rfl (fun ls hl => ?_)
  refine lv_aload_n hx hb dX14_arp_81 rfl (lv_at hl 4 rfl) ?_
  refine lv_iload hx hb dX14_arp_82 (lv_at hl 1 rfl) ?_
  refine kc_ep (rn_vp (As := [.int r6]) (rest := []) C hH hS (by decide) rfl (by decide) (m14_entry l G a1 τ σ H r6 _ hw) (cwV 1 hts (lw_V q2268 q2270 qs92 q171 q2271) rfl rfl rfl kX14_entry ⟨Nat.le_of_ble_eq_true rfl, Nat.le_of_ble_eq_true rfl⟩) rfl hl.1 rfl (Nat.le_of_ble_eq_true rfl) dX14_arp_84 ⟨Nat.le_of_ble_eq_true rfl, Nat.le_of_ble_eq_true rfl⟩) hS (fun p8 locs hw hS => ?_)
  rcases p8 with _ | i9
  · have hw := hw.1 rfl
    have hl : lv_has ls 6 [(5, .int r7), (4, .int r6), (3, .int r5), (2, .int r4), (0, .ref (ga G 14 0)), (1, .int x1)] := hl
    refine lv_ifnonnullN hx hb dX14_arp_87 ?_
    refine lv_iload hx hb dX14_arp_90 (lv_at hl 0 rfl) ?_
    refine lv_aload_n hx hb dX14_arp_92 rfl (lv_at hl 4 rfl) ?_
    refine g14_5 C hH q1945 dX14_arp_93 ?_
    refine lv_icmp_ne (tgt := 116) hx hb dX14_arp_96 (by decide) (fun h => ?_) (fun h => ?_)
    · have hw := hw.1 h
      exact k14_arp_J116 C σ x1 r4 r5 r6 r7 hw H locs ls hH hS (lv_sub hl [4, 5, 3, 2, 1, 0] rfl)
    have hw := hw.2 h
    refine lv_iload hx hb dX14_arp_99 (lv_at hl 1 rfl) ?_
    refine lv_aload_n hx hb dX14_arp_101 rfl (lv_at hl 4 rfl) ?_
    refine g14_5 C hH q1945 dX14_arp_102 ?_
    refine lv_icmp_eq (tgt := 116) hx hb dX14_arp_105 (by decide) (fun h => ?_) (fun h => ?_)
    · have hw := hw.1 h
      exact k14_arp_J116 C σ x1 r4 r5 r6 r7 hw H locs ls hH hS (lv_sub hl [4, 5, 3, 2, 1, 0] rfl)
    have hw := hw.2 h
    refine lv_aload_n hx hb dX14_arp_108 rfl (lv_at hl 4 rfl) ?_
    refine lv_iload hx hb dX14_arp_109 (lv_at hl 1 rfl) ?_
    refine lv_iload_n hx hb dX14_arp_111 rfl (lv_at hl 3 rfl) ?_
    refine lv_iload_n hx hb dX14_arp_112 rfl (lv_at hl 2 rfl) ?_
    refine kc_v (rn_v (As := [.int r6, .int r4, .int r5]) (rest := []) C hH hS (by decide) rfl (by decide) (m14_remember l G a1 τ σ r6 r4 r5 _ hw) (cwV 3 hts (lw_V q2341 q2343 qs108 q171 q2344) rfl rfl rfl kX14_remember ⟨Nat.le_of_ble_eq_true rfl, Nat.le_of_ble_eq_true rfl⟩) rfl hl.1 rfl (Nat.le_of_ble_eq_true rfl) dX14_arp_113 ⟨Nat.le_of_ble_eq_true rfl, Nat.le_of_ble_eq_true rfl⟩) hS (fun σ11 H locs hw hH hS => ?_)
    exact k14_arp_J116 C σ11 x1 r4 r5 r6 r7 hw H locs ls hH hS (lv_sub hl [4, 5, 3, 2, 1, 0] rfl)
  obtain ⟨hq9, hw⟩ := hw.2 i9 rfl
  have hl : lv_has ls 6 [(5, .int r7), (4, .int r6), (3, .int r5), (2, .int r4), (0, .ref (ga G 14 0)), (1, .int x1)] := hl
  refine lv_ifnonnull (tgt := 108) hx hb dX14_arp_87 (by decide) ?_
  refine lv_aload_n hx hb dX14_arp_108 rfl (lv_at hl 4 rfl) ?_
  refine lv_iload hx hb dX14_arp_109 (lv_at hl 1 rfl) ?_
  refine lv_iload_n hx hb dX14_arp_111 rfl (lv_at hl 3 rfl) ?_
  refine lv_iload_n hx hb dX14_arp_112 rfl (lv_at hl 2 rfl) ?_
  refine kc_v (rn_v (As := [.int r6, .int r4, .int r5]) (rest := []) C hH hS (by decide) rfl (by decide) (m14_remember l G a1 τ σ r6 r4 r5 _ hw) (cwV 3 hts (lw_V q2341 q2343 qs108 q171 q2344) rfl rfl rfl kX14_remember ⟨Nat.le_of_ble_eq_true rfl, Nat.le_of_ble_eq_true rfl⟩) rfl hl.1 rfl (Nat.le_of_ble_eq_true rfl) dX14_arp_113 ⟨Nat.le_of_ble_eq_true rfl, Nat.le_of_ble_eq_true rfl⟩) hS (fun σ12 H locs hw hH hS => ?_)
  exact k14_arp_J116 C σ12 x1 r4 r5 r6 r7 hw H locs ls hH hS (lv_sub hl [4, 5, 3, 2, 1, 0] rfl)
def w14_arp (σ : St) (Q : St → Prop) : Prop := ((σ 14 0 1) < 42 → Q σ) ∧ (¬ (σ 14 0 1) < 42 → (w14_trayWord σ 14 (fun r1 => ((¬ r1 = 67584 → Q σ) ∧ (r1 = 67584 → (w14_trayHalf σ 18 (fun r2 => ((r2 = 1540 → (w14_trayHalf σ 20 (fun r3 => ((r3 = 1 → w14_arp_J51 σ r3 Q) ∧ (¬ r3 = 1 → ((r3 = 2 → w14_arp_J51 σ r3 Q) ∧ (¬ r3 = 2 → Q σ))))))) ∧ (¬ r2 = 1540 → Q σ)))))))))
set_option maxHeartbeats 4000000 in
theorem m14_arp (l : Launch) (G : Gh) (a1 : Nat → Nat → Nat) (τ : St) (σ : St) (Q : St → Prop) (hw : w14_arp σ Q) : Met l yX14_arp (ws_ yX14_arp cX14_arp 6 none) rmX14_arp (PcS G a1 (cmb τ σ) [.ref (ga G 14 0)]) (QVs G a1 (fun u => cmb τ u) Q) 0 0 (gA G) := by
  refine met_w (by decide) (Nat.le_of_ble_eq_true rfl) ?_
  intro p e s m below meth c ls C hH hS hl
  have C : Cx p e s m _ meth c cX14_arp 6 none "WebHostModel" G := C
  have hl : lv_has ls 6 [(0, .ref (ga G 14 0))] := hl
  have hx := C.1
  have hb := C.2.1
  have hown := C.2.2.2.2.2.1
  have hts := C.2.2.2.2.2.2.1
  obtain ⟨locs, hlocs⟩ : ∃ z : List Loc, z = [] := ⟨_, rfl⟩
  obtain ⟨H, hHe⟩ : ∃ z : Heap, z = s.heap := ⟨_, rfl⟩
  have hH : Hd G a1 (cmb τ σ) H := by rw [hHe]; exact hH
  have hS : va_S (gA G) s.heap H locs := by rw [hHe, hlocs]; exact hS
  refine W.heap0 hHe.symm hlocs.symm ?_
  refine lv_aload_n hx hb dX14_arp_0 rfl (lv_at hl 0 rfl) ?_
  refine g14_1 C hH q1941 dX14_arp_1 ?_
  refine lv_bipush (v := 42) hx hb dX14_arp_4 (by decide) ?_
  refine lv_icmp_lt (tgt := 32) hx hb dX14_arp_6 (by decide) (fun h => ?_) (fun h => ?_)
  · have hw := hw.1 h
    exact rt_v C hH hS hw dX14_arp_32
  have hw := hw.2 h
  refine lv_aload_n hx hb dX14_arp_9 rfl (lv_at hl 0 rfl) ?_
  refine lv_bipush (v := 14) hx hb dX14_arp_10 (by decide) ?_
  refine kc_ip (rn_vp (As := [.int 14]) (rest := []) C hH hS (by decide) rfl (by decide) (m14_trayWord l G a1 τ σ H 14 _ hw) (cwV 1 hts (lw_V q2333 q2335 qs106 q171 q2336) rfl rfl rfl kX14_trayWord ⟨Nat.le_of_ble_eq_true rfl, Nat.le_of_ble_eq_true rfl⟩) rfl hl.1 rfl (Nat.le_of_ble_eq_true rfl) dX14_arp_12 ⟨Nat.le_of_ble_eq_true rfl, Nat.le_of_ble_eq_true rfl⟩) hS (fun r1 locs hw hS => ?_)
  refine lv_ldc (v := 67584) hx hb hown (hts _ q2217) dX14_arp_15 ?_
  refine lv_icmp_ne (tgt := 32) hx hb dX14_arp_17 (by decide) (fun h => ?_) (fun h => ?_)
  · have hw := hw.1 h
    exact rt_v C hH hS hw dX14_arp_32
  have hw := hw.2 h
  refine lv_aload_n hx hb dX14_arp_20 rfl (lv_at hl 0 rfl) ?_
  refine lv_bipush (v := 18) hx hb dX14_arp_21 (by decide) ?_
  refine kc_ip (rn_vp (As := [.int 18]) (rest := []) C hH hS (by decide) rfl (by decide) (m14_trayHalf l G a1 τ σ H 18 _ hw) (cwV 1 hts (lw_V q2329 q2331 qs105 q171 q2332) rfl rfl rfl kX14_trayHalf ⟨Nat.le_of_ble_eq_true rfl, Nat.le_of_ble_eq_true rfl⟩) rfl hl.1 rfl (Nat.le_of_ble_eq_true rfl) dX14_arp_23 ⟨Nat.le_of_ble_eq_true rfl, Nat.le_of_ble_eq_true rfl⟩) hS (fun r2 locs hw hS => ?_)
  refine lv_sipush (v := 1540) hx hb dX14_arp_26 (by decide) ?_
  refine lv_icmp_eq (tgt := 33) hx hb dX14_arp_29 (by decide) (fun h => ?_) (fun h => ?_)
  · have hw := hw.1 h
    refine lv_aload_n hx hb dX14_arp_33 rfl (lv_at hl 0 rfl) ?_
    refine lv_bipush (v := 20) hx hb dX14_arp_34 (by decide) ?_
    refine kc_ip (rn_vp (As := [.int 20]) (rest := []) C hH hS (by decide) rfl (by decide) (m14_trayHalf l G a1 τ σ H 20 _ hw) (cwV 1 hts (lw_V q2329 q2331 qs105 q171 q2332) rfl rfl rfl kX14_trayHalf ⟨Nat.le_of_ble_eq_true rfl, Nat.le_of_ble_eq_true rfl⟩) rfl hl.1 rfl (Nat.le_of_ble_eq_true rfl) dX14_arp_36 ⟨Nat.le_of_ble_eq_true rfl, Nat.le_of_ble_eq_true rfl⟩) hS (fun r3 locs hw hS => ?_)
    refine lv_istore_n (lv' := [(1, .int r3), (0, .ref (ga G 14 0))]) hx hb dX14_arp_39 rfl hl (by decide) rfl (fun ls hl => ?_)
    refine lv_iload_n hx hb dX14_arp_40 rfl (lv_at hl 0 rfl) ?_
    refine lv_iconst (v := 1) hx hb dX14_arp_41 (by decide) ?_
    refine lv_icmp_eq (tgt := 51) hx hb dX14_arp_42 (by decide) (fun h => ?_) (fun h => ?_)
    · have hw := hw.1 h
      exact k14_arp_J51 C σ r3 hw H locs ls hH hS (lv_sub hl [1, 0] rfl)
    have hw := hw.2 h
    refine lv_iload_n hx hb dX14_arp_45 rfl (lv_at hl 0 rfl) ?_
    refine lv_iconst (v := 2) hx hb dX14_arp_46 (by decide) ?_
    refine lv_icmp_eq (tgt := 51) hx hb dX14_arp_47 (by decide) (fun h => ?_) (fun h => ?_)
    · have hw := hw.1 h
      exact k14_arp_J51 C σ r3 hw H locs ls hH hS (lv_sub hl [1, 0] rfl)
    have hw := hw.2 h
    exact rt_v C hH hS hw dX14_arp_50
  have hw := hw.2 h
  exact rt_v C hH hS hw dX14_arp_32
/-! WebHostModel.ask(I)V -/
abbrev cX14_ask : ByteArray := prog_17_method_22_code
def yX14_ask : MethodName := ⟨RX14, "ask", "(I)V"⟩
theorem dX14_ask_0 : decode cX14_ask 0 = .ok (.aload_n 0, 1) := by decide +kernel
theorem dX14_ask_1 : decode cX14_ask 1 = .ok (.iconst 1, 1) := by decide +kernel
theorem dX14_ask_2 : decode cX14_ask 2 = .ok (.ldc 14, 2) := by decide +kernel
theorem dX14_ask_4 : decode cX14_ask 4 = .ok (.iconst (-1), 1) := by decide +kernel
theorem dX14_ask_5 : decode cX14_ask 5 = .ok (.iconst 0, 1) := by decide +kernel
theorem dX14_ask_6 : decode cX14_ask 6 = .ok (.iconst 0, 1) := by decide +kernel
theorem dX14_ask_7 : decode cX14_ask 7 = .ok (.iload_n 1, 1) := by decide +kernel
theorem dX14_ask_8 : decode cX14_ask 8 = .ok (.invokevirtual 202, 3) := by decide +kernel
theorem dX14_ask_11 : decode cX14_ask 11 = .ok (.return_, 1) := by decide +kernel
def rmX14_ask : Room := { frames := 3, cells := 0, slots := 0, locals := 77 }
theorem kX14_ask : yX14_ask.cls = "WebHostModel" ∧ yX14_ask.cls ≠ "java/lang/invoke/MethodHandle" ∧ yX14_ask.cls ≠ "java/lang/invoke/VarHandle" ∧ (parseMethodDescriptor yX14_ask.desc).map (fun d => d.parameters.length) = some 1 := by decide +kernel
def w14_ask (σ : St) (x1 : Int32) (Q : St → Prop) : Prop := w14_arpFrame σ 1 65535 (-1) 0 0 x1 (fun σ1 => (Q σ1))
set_option maxHeartbeats 4000000 in
theorem m14_ask (l : Launch) (G : Gh) (a1 : Nat → Nat → Nat) (τ : St) (σ : St) (x1 : Int32) (Q : St → Prop) (hw : w14_ask σ x1 Q) : Met l yX14_ask (ws_ yX14_ask cX14_ask 2 none) rmX14_ask (PcS G a1 (cmb τ σ) [.ref (ga G 14 0), .int x1]) (QVs G a1 (fun u => cmb τ u) Q) 0 0 (gA G) := by
  refine met_w (by decide) (Nat.le_of_ble_eq_true rfl) ?_
  intro p e s m below meth c ls C hH hS hl
  have C : Cx p e s m _ meth c cX14_ask 2 none "WebHostModel" G := C
  have hl : lv_has ls 2 [(0, .ref (ga G 14 0)), (1, .int x1)] := hl
  have hx := C.1
  have hb := C.2.1
  have hown := C.2.2.2.2.2.1
  have hts := C.2.2.2.2.2.2.1
  obtain ⟨locs, hlocs⟩ : ∃ z : List Loc, z = [] := ⟨_, rfl⟩
  obtain ⟨H, hHe⟩ : ∃ z : Heap, z = s.heap := ⟨_, rfl⟩
  have hH : Hd G a1 (cmb τ σ) H := by rw [hHe]; exact hH
  have hS : va_S (gA G) s.heap H locs := by rw [hHe, hlocs]; exact hS
  refine W.heap0 hHe.symm hlocs.symm ?_
  refine lv_aload_n hx hb dX14_ask_0 rfl (lv_at hl 0 rfl) ?_
  refine lv_iconst (v := 1) hx hb dX14_ask_1 (by decide) ?_
  refine lv_ldc (v := 65535) hx hb hown (hts _ q1692) dX14_ask_2 ?_
  refine lv_iconst (v := (-1)) hx hb dX14_ask_4 (by decide) ?_
  refine lv_iconst (v := 0) hx hb dX14_ask_5 (by decide) ?_
  refine lv_iconst (v := 0) hx hb dX14_ask_6 (by decide) ?_
  refine lv_iload_n hx hb dX14_ask_7 rfl (lv_at hl 1 rfl) ?_
  refine kc_v (rn_v (As := [.int 1, .int 65535, .int (-1), .int 0, .int 0, .int x1]) (rest := []) C hH hS (by decide) rfl (by decide) (m14_arpFrame l G a1 τ σ 1 65535 (-1) 0 0 x1 _ hw) (cwV 6 hts (lw_V q2213 q2215 qs83 q171 q2216) rfl rfl rfl kX14_arpFrame ⟨Nat.le_of_ble_eq_true rfl, Nat.le_of_ble_eq_true rfl⟩) rfl hl.1 rfl (Nat.le_of_ble_eq_true rfl) dX14_ask_8 ⟨Nat.le_of_ble_eq_true rfl, Nat.le_of_ble_eq_true rfl⟩) hS (fun σ1 H locs hw hH hS => ?_)
  exact rt_v C hH hS hw dX14_ask_11
/-! WebHostModel.life(LWebHostModel$Connection;)J -/
abbrev cX14_life : ByteArray := prog_17_method_67_code
def yX14_life : MethodName := ⟨RX14, "life", "(LWebHostModel$Connection;)J"⟩
theorem dX14_life_0 : decode cX14_life 0 = .ok (.aload_n 0, 1) := by decide +kernel
theorem dX14_life_1 : decode cX14_life 1 = .ok (.getfield 152, 3) := by decide +kernel
theorem dX14_life_4 : decode cX14_life 4 = .ok (.bipush 6, 2) := by decide +kernel
theorem dX14_life_6 : decode cX14_life 6 = .ok (.if_icmp .eq 11, 3) := by decide +kernel
theorem dX14_life_9 : decode cX14_life 9 = .ok (.aload_n 0, 1) := by decide +kernel
theorem dX14_life_10 : decode cX14_life 10 = .ok (.getfield 152, 3) := by decide +kernel
theorem dX14_life_13 : decode cX14_life 13 = .ok (.iconst 4, 1) := by decide +kernel
theorem dX14_life_14 : decode cX14_life 14 = .ok (.if_icmp .ne 13, 3) := by decide +kernel
theorem dX14_life_17 : decode cX14_life 17 = .ok (.aload_n 0, 1) := by decide +kernel
theorem dX14_life_18 : decode cX14_life 18 = .ok (.getfield 499, 3) := by decide +kernel
theorem dX14_life_21 : decode cX14_life 21 = .ok (.i2l, 1) := by decide +kernel
theorem dX14_life_22 : decode cX14_life 22 = .ok (.ldc2_w 553, 3) := by decide +kernel
theorem dX14_life_25 : decode cX14_life 25 = .ok (.ladd, 1) := by decide +kernel
theorem dX14_life_26 : decode cX14_life 26 = .ok (.lreturn, 1) := by decide +kernel
theorem dX14_life_27 : decode cX14_life 27 = .ok (.aload_n 0, 1) := by decide +kernel
theorem dX14_life_28 : decode cX14_life 28 = .ok (.invokestatic 566, 3) := by decide +kernel
theorem dX14_life_31 : decode cX14_life 31 = .ok (.ifCond .eq 15, 3) := by decide +kernel
theorem dX14_life_34 : decode cX14_life 34 = .ok (.aload_n 0, 1) := by decide +kernel
theorem dX14_life_35 : decode cX14_life 35 = .ok (.getfield 523, 3) := by decide +kernel
theorem dX14_life_38 : decode cX14_life 38 = .ok (.i2l, 1) := by decide +kernel
theorem dX14_life_39 : decode cX14_life 39 = .ok (.ldc2_w 569, 3) := by decide +kernel
theorem dX14_life_42 : decode cX14_life 42 = .ok (.ladd, 1) := by decide +kernel
theorem dX14_life_43 : decode cX14_life 43 = .ok (.goto 6, 3) := by decide +kernel
theorem dX14_life_46 : decode cX14_life 46 = .ok (.ldc2_w 573, 3) := by decide +kernel
theorem dX14_life_49 : decode cX14_life 49 = .ok (.lreturn, 1) := by decide +kernel
def rmX14_life : Room := { frames := 3, cells := 0, slots := 0, locals := 61 }
theorem kX14_life : yX14_life.cls = "WebHostModel" ∧ yX14_life.cls ≠ "java/lang/invoke/MethodHandle" ∧ yX14_life.cls ≠ "java/lang/invoke/VarHandle" ∧ (parseMethodDescriptor yX14_life.desc).map (fun d => d.parameters.length) = some 1 := by decide +kernel
def w14_life (σ : St) (o0 : Nat) (Q : Int64 → Prop) : Prop := ((σ 15 o0 0) = 6 → (Q (((σ 15 o0 45).toInt64) + 60000))) ∧ (¬ (σ 15 o0 0) = 6 → ((¬ (σ 15 o0 0) = 4 → (w14_isIdle σ o0 (fun r1 => ((r1 = 0 → Q 9223372036854775807) ∧ (¬ r1 = 0 → (Q (((σ 15 o0 44).toInt64) + 30000))))))) ∧ ((σ 15 o0 0) = 4 → (Q (((σ 15 o0 45).toInt64) + 60000)))))
set_option maxHeartbeats 4000000 in
theorem m14_life (l : Launch) (G : Gh) (a1 : Nat → Nat → Nat) (τ : St) (σ : St) (H : Heap) (o0 : Nat) (ho0 : o0 < 16) (Q : Int64 → Prop) (hw : w14_life σ o0 Q) : Met l yX14_life (ws_ yX14_life cX14_life 1 (some .long)) rmX14_life (PcP G a1 (cmb τ σ) H [.ref (ga G 15 o0)]) (QJp G H Q) 0 0 (gA G) := by
  refine met_p (by decide) (Nat.le_of_ble_eq_true rfl) ?_
  intro p e s m below meth c ls hHe C hH hS hl
  have C : Cx p e s m _ meth c cX14_life 1 (some .long) "WebHostModel" G := C
  have hl : lv_has ls 1 [(0, .ref (ga G 15 o0))] := hl
  have hx := C.1
  have hb := C.2.1
  have hown := C.2.2.2.2.2.1
  have hts := C.2.2.2.2.2.2.1
  obtain ⟨locs, hlocs⟩ : ∃ z : List Loc, z = [] := ⟨_, rfl⟩
  rw [← hlocs] at hS ⊢
  refine lv_aload_n hx hb dX14_life_0 rfl (lv_at hl 0 rfl) ?_
  refine g15_0 C hH ho0 q1707 dX14_life_1 ?_
  refine lv_bipush (v := 6) hx hb dX14_life_4 (by decide) ?_
  refine lv_icmp_eq (tgt := 17) hx hb dX14_life_6 (by decide) (fun h => ?_) (fun h => ?_)
  · have hw := hw.1 h
    refine lv_aload_n hx hb dX14_life_17 rfl (lv_at hl 0 rfl) ?_
    refine g15_45 C hH ho0 q1762 dX14_life_18 ?_
    refine lv_i2l (v := (σ 15 o0 45).toInt64) hx hb dX14_life_21 rfl ?_
    refine lv_ldc2 (v := 60000) hx hb hown (hts _ q2189) dX14_life_22 ?_
    refine lv_ladd hx hb dX14_life_25 ?_
    exact rt_jp C hS hw dX14_life_26
  have hw := hw.2 h
  refine lv_aload_n hx hb dX14_life_9 rfl (lv_at hl 0 rfl) ?_
  refine g15_0 C hH ho0 q1707 dX14_life_10 ?_
  refine lv_iconst (v := 4) hx hb dX14_life_13 (by decide) ?_
  refine lv_icmp_ne (tgt := 27) hx hb dX14_life_14 (by decide) (fun h => ?_) (fun h => ?_)
  · have hw := hw.1 h
    refine lv_aload_n hx hb dX14_life_27 rfl (lv_at hl 0 rfl) ?_
    refine kc_ip (rn_sp (As := [.ref (ga G 15 o0)]) (rest := []) C hH hS (m14_isIdle l G a1 τ σ H o0 ho0 _ hw) (va_cwS 1 hts (lw_S q2190 q2191 q171 q2192) rfl rfl rfl kX14_isIdle.2 ⟨Nat.le_of_ble_eq_true rfl, Nat.le_of_ble_eq_true rfl⟩) rfl hl.1 rfl (Nat.le_of_ble_eq_true rfl) dX14_life_28 ⟨Nat.le_of_ble_eq_true rfl, Nat.le_of_ble_eq_true rfl⟩) hS (fun r1 locs hw hS => ?_)
    refine lv_if_eq (tgt := 46) hx hb dX14_life_31 (by decide) (fun h => ?_) (fun h => ?_)
    · have hw := hw.1 h
      refine lv_ldc2 (v := 9223372036854775807) hx hb hown (hts _ q2180) dX14_life_46 ?_
      exact rt_jp C hS hw dX14_life_49
    have hw := hw.2 h
    refine lv_aload_n hx hb dX14_life_34 rfl (lv_at hl 0 rfl) ?_
    refine g15_44 C hH ho0 q1761 dX14_life_35 ?_
    refine lv_i2l (v := (σ 15 o0 44).toInt64) hx hb dX14_life_38 rfl ?_
    refine lv_ldc2 (v := 30000) hx hb hown (hts _ q2201) dX14_life_39 ?_
    refine lv_ladd hx hb dX14_life_42 ?_
    refine lv_goto (tgt := 49) hx hb dX14_life_43 (by decide) ?_
    exact rt_jp C hS hw dX14_life_49
  have hw := hw.2 h
  refine lv_aload_n hx hb dX14_life_17 rfl (lv_at hl 0 rfl) ?_
  refine g15_45 C hH ho0 q1762 dX14_life_18 ?_
  refine lv_i2l (v := (σ 15 o0 45).toInt64) hx hb dX14_life_21 rfl ?_
  refine lv_ldc2 (v := 60000) hx hb hown (hts _ q2189) dX14_life_22 ?_
  refine lv_ladd hx hb dX14_life_25 ?_
  exact rt_jp C hS hw dX14_life_26
/-! WebHost$Store.open()I -/
abbrev cX1_open : ByteArray := prog_13_method_9_code
def yX1_open : MethodName := ⟨RX1, "open", "()I"⟩
theorem dX1_open_0 : decode cX1_open 0 = .ok (.aload_n 0, 1) := by decide +kernel
theorem dX1_open_1 : decode cX1_open 1 = .ok (.getfield 7, 3) := by decide +kernel
theorem dX1_open_4 : decode cX1_open 4 = .ok (.arraylength, 1) := by decide +kernel
theorem dX1_open_5 : decode cX1_open 5 = .ok (.bipush 12, 2) := by decide +kernel
theorem dX1_open_7 : decode cX1_open 7 = .ok (.if_icmp .lt 28, 3) := by decide +kernel
theorem dX1_open_10 : decode cX1_open 10 = .ok (.aload_n 0, 1) := by decide +kernel
theorem dX1_open_11 : decode cX1_open 11 = .ok (.getfield 7, 3) := by decide +kernel
theorem dX1_open_14 : decode cX1_open 14 = .ok (.iconst 0, 1) := by decide +kernel
theorem dX1_open_15 : decode cX1_open 15 = .ok (.invokestatic 27, 3) := by decide +kernel
theorem dX1_open_18 : decode cX1_open 18 = .ok (.ldc 33, 2) := by decide +kernel
theorem dX1_open_20 : decode cX1_open 20 = .ok (.if_icmp .ne 15, 3) := by decide +kernel
theorem dX1_open_23 : decode cX1_open 23 = .ok (.aload_n 0, 1) := by decide +kernel
theorem dX1_open_24 : decode cX1_open 24 = .ok (.getfield 7, 3) := by decide +kernel
theorem dX1_open_27 : decode cX1_open 27 = .ok (.bipush 6, 2) := by decide +kernel
theorem dX1_open_29 : decode cX1_open 29 = .ok (.invokestatic 34, 3) := by decide +kernel
theorem dX1_open_32 : decode cX1_open 32 = .ok (.ifCond .eq 5, 3) := by decide +kernel
theorem dX1_open_35 : decode cX1_open 35 = .ok (.iconst (-1), 1) := by decide +kernel
theorem dX1_open_36 : decode cX1_open 36 = .ok (.ireturn, 1) := by decide +kernel
theorem dX1_open_37 : decode cX1_open 37 = .ok (.aload_n 0, 1) := by decide +kernel
theorem dX1_open_38 : decode cX1_open 38 = .ok (.getfield 7, 3) := by decide +kernel
theorem dX1_open_41 : decode cX1_open 41 = .ok (.iconst 4, 1) := by decide +kernel
theorem dX1_open_42 : decode cX1_open 42 = .ok (.invokestatic 34, 3) := by decide +kernel
theorem dX1_open_45 : decode cX1_open 45 = .ok (.istore_n 1, 1) := by decide +kernel
theorem dX1_open_46 : decode cX1_open 46 = .ok (.aload_n 0, 1) := by decide +kernel
theorem dX1_open_47 : decode cX1_open 47 = .ok (.iload_n 1, 1) := by decide +kernel
theorem dX1_open_48 : decode cX1_open 48 = .ok (.invokevirtual 20, 3) := by decide +kernel
theorem dX1_open_51 : decode cX1_open 51 = .ok (.istore_n 2, 1) := by decide +kernel
theorem dX1_open_52 : decode cX1_open 52 = .ok (.iload_n 1, 1) := by decide +kernel
theorem dX1_open_53 : decode cX1_open 53 = .ok (.bipush 64, 2) := by decide +kernel
theorem dX1_open_55 : decode cX1_open 55 = .ok (.if_icmp .gt 14, 3) := by decide +kernel
theorem dX1_open_58 : decode cX1_open 58 = .ok (.iload_n 2, 1) := by decide +kernel
theorem dX1_open_59 : decode cX1_open 59 = .ok (.iconst 4, 1) := by decide +kernel
theorem dX1_open_60 : decode cX1_open 60 = .ok (.iadd, 1) := by decide +kernel
theorem dX1_open_61 : decode cX1_open 61 = .ok (.aload_n 0, 1) := by decide +kernel
theorem dX1_open_62 : decode cX1_open 62 = .ok (.getfield 7, 3) := by decide +kernel
theorem dX1_open_65 : decode cX1_open 65 = .ok (.arraylength, 1) := by decide +kernel
theorem dX1_open_66 : decode cX1_open 66 = .ok (.if_icmp .le 5, 3) := by decide +kernel
theorem dX1_open_69 : decode cX1_open 69 = .ok (.iconst (-1), 1) := by decide +kernel
theorem dX1_open_70 : decode cX1_open 70 = .ok (.ireturn, 1) := by decide +kernel
theorem dX1_open_71 : decode cX1_open 71 = .ok (.aload_n 0, 1) := by decide +kernel
theorem dX1_open_72 : decode cX1_open 72 = .ok (.iconst 0, 1) := by decide +kernel
theorem dX1_open_73 : decode cX1_open 73 = .ok (.iload_n 2, 1) := by decide +kernel
theorem dX1_open_74 : decode cX1_open 74 = .ok (.invokevirtual 37, 3) := by decide +kernel
theorem dX1_open_77 : decode cX1_open 77 = .ok (.aload_n 0, 1) := by decide +kernel
theorem dX1_open_78 : decode cX1_open 78 = .ok (.getfield 7, 3) := by decide +kernel
theorem dX1_open_81 : decode cX1_open 81 = .ok (.iload_n 2, 1) := by decide +kernel
theorem dX1_open_82 : decode cX1_open 82 = .ok (.invokestatic 27, 3) := by decide +kernel
theorem dX1_open_85 : decode cX1_open 85 = .ok (.if_icmp .ne 7, 3) := by decide +kernel
theorem dX1_open_88 : decode cX1_open 88 = .ok (.iconst 1, 1) := by decide +kernel
theorem dX1_open_89 : decode cX1_open 89 = .ok (.goto 4, 3) := by decide +kernel
theorem dX1_open_92 : decode cX1_open 92 = .ok (.iconst 0, 1) := by decide +kernel
theorem dX1_open_93 : decode cX1_open 93 = .ok (.istore_n 3, 1) := by decide +kernel
theorem dX1_open_94 : decode cX1_open 94 = .ok (.aload_n 0, 1) := by decide +kernel
theorem dX1_open_95 : decode cX1_open 95 = .ok (.aload_n 0, 1) := by decide +kernel
theorem dX1_open_96 : decode cX1_open 96 = .ok (.getfield 7, 3) := by decide +kernel
theorem dX1_open_99 : decode cX1_open 99 = .ok (.putfield 16, 3) := by decide +kernel
theorem dX1_open_102 : decode cX1_open 102 = .ok (.iconst 0, 1) := by decide +kernel
theorem dX1_open_103 : decode cX1_open 103 = .ok (.istore 4, 2) := by decide +kernel
theorem dX1_open_105 : decode cX1_open 105 = .ok (.iload 4, 2) := by decide +kernel
theorem dX1_open_107 : decode cX1_open 107 = .ok (.iload_n 1, 1) := by decide +kernel
theorem dX1_open_108 : decode cX1_open 108 = .ok (.if_icmp .ge 20, 3) := by decide +kernel
theorem dX1_open_111 : decode cX1_open 111 = .ok (.iload_n 3, 1) := by decide +kernel
theorem dX1_open_112 : decode cX1_open 112 = .ok (.ifCond .eq 16, 3) := by decide +kernel
theorem dX1_open_115 : decode cX1_open 115 = .ok (.aload_n 0, 1) := by decide +kernel
theorem dX1_open_116 : decode cX1_open 116 = .ok (.iload 4, 2) := by decide +kernel
theorem dX1_open_118 : decode cX1_open 118 = .ok (.invokevirtual 41, 3) := by decide +kernel
theorem dX1_open_121 : decode cX1_open 121 = .ok (.istore_n 3, 1) := by decide +kernel
theorem dX1_open_122 : decode cX1_open 122 = .ok (.iinc 4 1, 3) := by decide +kernel
theorem dX1_open_125 : decode cX1_open 125 = .ok (.goto (-20), 3) := by decide +kernel
theorem dX1_open_128 : decode cX1_open 128 = .ok (.aload_n 0, 1) := by decide +kernel
theorem dX1_open_129 : decode cX1_open 129 = .ok (.aload_n 0, 1) := by decide +kernel
theorem dX1_open_130 : decode cX1_open 130 = .ok (.getfield 13, 3) := by decide +kernel
theorem dX1_open_133 : decode cX1_open 133 = .ok (.putfield 16, 3) := by decide +kernel
theorem dX1_open_136 : decode cX1_open 136 = .ok (.iload_n 3, 1) := by decide +kernel
theorem dX1_open_137 : decode cX1_open 137 = .ok (.ifCond .ne 5, 3) := by decide +kernel
theorem dX1_open_140 : decode cX1_open 140 = .ok (.iconst (-1), 1) := by decide +kernel
theorem dX1_open_141 : decode cX1_open 141 = .ok (.ireturn, 1) := by decide +kernel
theorem dX1_open_142 : decode cX1_open 142 = .ok (.aload_n 0, 1) := by decide +kernel
theorem dX1_open_143 : decode cX1_open 143 = .ok (.getfield 7, 3) := by decide +kernel
theorem dX1_open_146 : decode cX1_open 146 = .ok (.iconst 0, 1) := by decide +kernel
theorem dX1_open_147 : decode cX1_open 147 = .ok (.aload_n 0, 1) := by decide +kernel
theorem dX1_open_148 : decode cX1_open 148 = .ok (.getfield 13, 3) := by decide +kernel
theorem dX1_open_151 : decode cX1_open 151 = .ok (.iconst 0, 1) := by decide +kernel
theorem dX1_open_152 : decode cX1_open 152 = .ok (.iload_n 2, 1) := by decide +kernel
theorem dX1_open_153 : decode cX1_open 153 = .ok (.invokestatic 45, 3) := by decide +kernel
theorem dX1_open_156 : decode cX1_open 156 = .ok (.aload_n 0, 1) := by decide +kernel
theorem dX1_open_157 : decode cX1_open 157 = .ok (.iload_n 1, 1) := by decide +kernel
theorem dX1_open_158 : decode cX1_open 158 = .ok (.putfield 49, 3) := by decide +kernel
theorem dX1_open_161 : decode cX1_open 161 = .ok (.iload_n 1, 1) := by decide +kernel
theorem dX1_open_162 : decode cX1_open 162 = .ok (.ireturn, 1) := by decide +kernel
def rmX1_open : Room := { frames := 4, cells := 0, slots := 0, locals := 93 }
theorem kX1_open : yX1_open.cls = "WebHost$Store" ∧ yX1_open.cls ≠ "java/lang/invoke/MethodHandle" ∧ yX1_open.cls ≠ "java/lang/invoke/VarHandle" ∧ (parseMethodDescriptor yX1_open.desc).map (fun d => d.parameters.length) = some 0 := by decide +kernel
def w1_open_L105 (σ : St) (x1 : Int32) (x2 : Int32) (Q : Int32 → St → Prop) (K128 : Int32 → Prop) : Nat → Int32 → Int32 → Prop
  | 0, _, _ => False
  | n + 1, x3, x4 => (x1 ≤ x4 → K128 x3) ∧ (¬ x1 ≤ x4 → ((x3 = 0 → K128 x3) ∧ (¬ x3 = 0 → (w1_isRight σ x4 (fun r8 => (w1_open_L105 σ x1 x2 Q K128 n r8 (x4 + 1)))))))
set_option maxHeartbeats 4000000 in
theorem k1_open_L105 {p : Program} {l : Launch} {e : Env} {s : State} {m : MethodId} {args : Array Value} {below : List Frame} {meth : Method} {c : Code} {G : Gh} {a1 : Nat → Nat → Nat} {τ : St} {Q : Int32 → St → Prop} {K128 : Int32 → Prop} (C : Cx p e s m args meth c cX1_open 5 (some .int) "WebHost$Store" G) (σ : St) (x1 : Int32) (x2 : Int32) :
    ∀ (n : Nat) (x3 : Int32) (x4 : Int32), w1_open_L105 σ x1 x2 Q K128 n x3 x4 → ∀ (H : Heap) (locs : List Loc) (ls : Array Slot), Hd G a1 (cmb σ τ) H → va_S (gA G) s.heap H locs → lv_has ls 5 [(0, .ref (ga G 1 0)), (1, .int x1), (2, .int x2), (3, .int x3), (4, .int x4)] → (∀ (x3 : Int32), K128 x3 → ∀ (H : Heap) (locs : List Loc) (ls : Array Slot), Hd G a1 (cmb σ τ) H → va_S (gA G) s.heap H locs → lv_has ls 5 [(0, .ref (ga G 1 0)), (1, .int x1), (2, .int x2), (3, .int x3)] → W p l e rmX1_open s m args below meth c H locs 0 0 (MQ below (QIs G a1 (fun u => cmb u τ) Q) args s 0 0 (gA G)) (F0 m 128 ls [])) → W p l e rmX1_open s m args below meth c H locs 0 0 (MQ below (QIs G a1 (fun u => cmb u τ) Q) args s 0 0 (gA G)) (F0 m 105 ls []) := by
  have hx := C.1
  have hb := C.2.1
  have hown := C.2.2.2.2.2.1
  have hts := C.2.2.2.2.2.2.1
  intro n
  induction n with
  | zero =>
    intro x3 x4 hw
    exact False.elim hw
  | succ n ih =>
    intro x3 x4 hw H locs ls hH hS hl hK128
    refine lv_iload hx hb dX1_open_105 (lv_at hl 4 rfl) ?_
    refine lv_iload_n hx hb dX1_open_107 rfl (lv_at hl 1 rfl) ?_
    refine lv_icmp_ge (tgt := 128) hx hb dX1_open_108 (by decide) (fun h => ?_) (fun h => ?_)
    · have hw := hw.1 h
      exact hK128 x3 hw H locs ls hH hS (lv_sub hl [0, 1, 2, 3] rfl)
    have hw := hw.2 h
    refine lv_iload_n hx hb dX1_open_111 rfl (lv_at hl 3 rfl) ?_
    refine lv_if_eq (tgt := 128) hx hb dX1_open_112 (by decide) (fun h => ?_) (fun h => ?_)
    · have hw := hw.1 h
      exact hK128 x3 hw H locs ls hH hS (lv_sub hl [0, 1, 2, 3] rfl)
    have hw := hw.2 h
    refine lv_aload_n hx hb dX1_open_115 rfl (lv_at hl 0 rfl) ?_
    refine lv_iload hx hb dX1_open_116 (lv_at hl 4 rfl) ?_
    refine kc_ip (rn_vp (As := [.int x4]) (rest := []) C hH hS (by decide) rfl (by decide) (m1_isRight l G a1 τ σ H x4 _ hw) (cwV 1 hts (lw_V q836 q838 qs1 q158 q839) rfl rfl rfl kX1_isRight ⟨Nat.le_of_ble_eq_true rfl, Nat.le_of_ble_eq_true rfl⟩) rfl hl.1 rfl (Nat.le_of_ble_eq_true rfl) dX1_open_118 ⟨Nat.le_of_ble_eq_true rfl, Nat.le_of_ble_eq_true rfl⟩) hS (fun r8 locs hw hS => ?_)
    refine lv_istore_n (lv' := [(3, .int r8), (0, .ref (ga G 1 0)), (1, .int x1), (2, .int x2), (4, .int x4)]) hx hb dX1_open_121 rfl hl (by decide) rfl (fun ls hl => ?_)
    refine lv_iinc (v := x4 + 1) (lv' := [(4, .int (x4 + 1)), (3, .int r8), (0, .ref (ga G 1 0)), (1, .int x1), (2, .int x2)]) hx hb dX1_open_122 hl (k := 4) rfl rfl (by decide) rfl (fun ls hl => ?_)
    refine lv_goto (tgt := 105) hx hb dX1_open_125 (by decide) ?_
    exact ih r8 (x4 + 1) hw H locs ls hH hS (lv_sub hl [2, 3, 4, 1, 0] rfl) hK128
def w1_open_J128 (σ : St) (x1 : Int32) (x2 : Int32) (x3 : Int32) (Q : Int32 → St → Prop) : Prop := ∀ σ11, σ11 = up3 (up3 σ 1 0 3 (nI 22)) 1 0 103 (nI 0) → ((¬ x3 = 0 → (w19_copy σ11 21 0 0 22 0 0 x2 (fun σ12 => (∀ σ13, σ13 = up3 σ12 1 0 1 x1 → (Q x1 σ13))))) ∧ (x3 = 0 → (Q (-1) σ11)))
set_option maxHeartbeats 4000000 in
theorem k1_open_J128 {p : Program} {l : Launch} {e : Env} {s : State} {m : MethodId} {args : Array Value} {below : List Frame} {meth : Method} {c : Code} {G : Gh} {a1 : Nat → Nat → Nat} {τ : St} {Q : Int32 → St → Prop} (C : Cx p e s m args meth c cX1_open 5 (some .int) "WebHost$Store" G) (σ : St) (x1 : Int32) (x2 : Int32) (x3 : Int32) (hw : w1_open_J128 σ x1 x2 x3 Q) (H : Heap) (locs : List Loc) (ls : Array Slot) (hH : Hd G a1 (cmb σ τ) H) (hS : va_S (gA G) s.heap H locs) (hl : lv_has ls 5 [(0, .ref (ga G 1 0)), (1, .int x1), (2, .int x2), (3, .int x3)]) : W p l e rmX1_open s m args below meth c H locs 0 0 (MQ below (QIs G a1 (fun u => cmb u τ) Q) args s 0 0 (gA G)) (F0 m 128 ls []) := by
  have hx := C.1
  have hb := C.2.1
  have hown := C.2.2.2.2.2.1
  have hts := C.2.2.2.2.2.2.1
  refine lv_aload_n hx hb dX1_open_128 rfl (lv_at hl 0 rfl) ?_
  refine lv_aload_n hx hb dX1_open_129 rfl (lv_at hl 0 rfl) ?_
  refine g1_2 C hH q202 dX1_open_130 ?_
  refine p1_3 C hH hS (by decide) q203 dX1_open_133 (fun σ11 e11 H locs hH hS => ?_)
  have hw := hw σ11 e11
  refine lv_iload_n hx hb dX1_open_136 rfl (lv_at hl 3 rfl) ?_
  refine lv_if_ne (tgt := 142) hx hb dX1_open_137 (by decide) (fun h => ?_) (fun h => ?_)
  · have hw := hw.1 h
    refine lv_aload_n hx hb dX1_open_142 rfl (lv_at hl 0 rfl) ?_
    refine g1_0 C hH q198 dX1_open_143 ?_
    refine lv_iconst (v := 0) hx hb dX1_open_146 (by decide) ?_
    refine lv_aload_n hx hb dX1_open_147 rfl (lv_at hl 0 rfl) ?_
    refine g1_2 C hH q202 dX1_open_148 ?_
    refine lv_iconst (v := 0) hx hb dX1_open_151 (by decide) ?_
    refine lv_iload_n hx hb dX1_open_152 rfl (lv_at hl 2 rfl) ?_
    refine kc_v (rn_s (As := [.ref (adr G a1 21 0), .int 0, .ref (adr G a1 22 0), .int 0, .int x2]) (rest := []) C hH hS (m19_copy l G a1 τ σ11 21 0 0 22 0 0 x2 (by decide) (by decide) _ hw) (va_cwS 5 hts (lw_S q860 q806 q176 q807) rfl rfl rfl kX19_copy.2 ⟨Nat.le_of_ble_eq_true rfl, Nat.le_of_ble_eq_true rfl⟩) rfl hl.1 rfl (Nat.le_of_ble_eq_true rfl) dX1_open_153 ⟨Nat.le_of_ble_eq_true rfl, Nat.le_of_ble_eq_true rfl⟩) hS (fun σ12 H locs hw hH hS => ?_)
    refine lv_aload_n hx hb dX1_open_156 rfl (lv_at hl 0 rfl) ?_
    refine lv_iload_n hx hb dX1_open_157 rfl (lv_at hl 1 rfl) ?_
    refine p1_1 C hH hS q201 dX1_open_158 (fun σ13 e13 H locs hH hS => ?_)
    have hw := hw σ13 e13
    refine lv_iload_n hx hb dX1_open_161 rfl (lv_at hl 1 rfl) ?_
    exact rt_i C rfl hH hS hw dX1_open_162
  have hw := hw.2 h
  refine lv_iconst (v := (-1)) hx hb dX1_open_140 (by decide) ?_
  exact rt_i C rfl hH hS hw dX1_open_141
def w1_open (σ : St) (Q : Int32 → St → Prop) : Prop := ((nI (σ 90 0 0).toNatClampNeg) < 12 → (Q (-1) σ)) ∧ (¬ (nI (σ 90 0 0).toNatClampNeg) < 12 → (w19_four σ 21 0 0 (fun r1 => ((¬ r1 = 1398034258 → (Q (-1) σ)) ∧ (r1 = 1398034258 → (w19_two σ 21 0 6 (fun r2 => ((r2 = 0 → (w19_two σ 21 0 4 (fun r3 => (w1_entry σ r3 (fun r4 => ((64 < r3 → (Q (-1) σ)) ∧ (¬ 64 < r3 → (((r4 + 4) ≤ (nI (σ 90 0 0).toNatClampNeg) → (w1_check σ 0 r4 (fun r5 => (w19_four σ 21 0 r4 (fun r6 => ((¬ r5 = r6 → (∀ σ7, σ7 = up3 (up3 σ 1 0 3 (nI 21)) 1 0 103 (nI 0) → (∃ z9, w1_open_L105 σ7 r3 r4 Q (fun x3_10 => w1_open_J128 σ7 r3 r4 x3_10 Q) z9 0 0))) ∧ (r5 = r6 → (∀ σ14, σ14 = up3 (up3 σ 1 0 3 (nI 21)) 1 0 103 (nI 0) → (∃ z15, w1_open_L105 σ14 r3 r4 Q (fun x3_16 => w1_open_J128 σ14 r3 r4 x3_16 Q) z15 1 0))))))))) ∧ (¬ (r4 + 4) ≤ (nI (σ 90 0 0).toNatClampNeg) → (Q (-1) σ)))))))))) ∧ (¬ r2 = 0 → (Q (-1) σ))))))))))
set_option maxHeartbeats 4000000 in
theorem m1_open (l : Launch) (G : Gh) (a1 : Nat → Nat → Nat) (τ : St) (σ : St) (Q : Int32 → St → Prop) (hw : w1_open σ Q) : Met l yX1_open (ws_ yX1_open cX1_open 5 (some .int)) rmX1_open (PcS G a1 (cmb σ τ) [.ref (ga G 1 0)]) (QIs G a1 (fun u => cmb u τ) Q) 0 0 (gA G) := by
  refine met_w (by decide) (Nat.le_of_ble_eq_true rfl) ?_
  intro p e s m below meth c ls C hH hS hl
  have C : Cx p e s m _ meth c cX1_open 5 (some .int) "WebHost$Store" G := C
  have hl : lv_has ls 5 [(0, .ref (ga G 1 0))] := hl
  have hx := C.1
  have hb := C.2.1
  have hown := C.2.2.2.2.2.1
  have hts := C.2.2.2.2.2.2.1
  obtain ⟨locs, hlocs⟩ : ∃ z : List Loc, z = [] := ⟨_, rfl⟩
  obtain ⟨H, hHe⟩ : ∃ z : Heap, z = s.heap := ⟨_, rfl⟩
  have hH : Hd G a1 (cmb σ τ) H := by rw [hHe]; exact hH
  have hS : va_S (gA G) s.heap H locs := by rw [hHe, hlocs]; exact hS
  refine W.heap0 hHe.symm hlocs.symm ?_
  refine lv_aload_n hx hb dX1_open_0 rfl (lv_at hl 0 rfl) ?_
  refine g1_0 C hH q198 dX1_open_1 ?_
  refine al21 C hH dX1_open_4 ?_
  refine lv_bipush (v := 12) hx hb dX1_open_5 (by decide) ?_
  refine lv_icmp_lt (tgt := 35) hx hb dX1_open_7 (by decide) (fun h => ?_) (fun h => ?_)
  · have hw := hw.1 h
    refine lv_iconst (v := (-1)) hx hb dX1_open_35 (by decide) ?_
    exact rt_i C rfl hH hS hw dX1_open_36
  have hw := hw.2 h
  refine lv_aload_n hx hb dX1_open_10 rfl (lv_at hl 0 rfl) ?_
  refine g1_0 C hH q198 dX1_open_11 ?_
  refine lv_iconst (v := 0) hx hb dX1_open_14 (by decide) ?_
  refine kc_ip (rn_sp (As := [.ref (adr G a1 21 0), .int 0]) (rest := []) C hH hS (m19_four l G a1 τ σ H 21 0 0 (by decide) _ hw) (va_cwS 2 hts (lw_S q819 q820 q176 q821) rfl rfl rfl kX19_four.2 ⟨Nat.le_of_ble_eq_true rfl, Nat.le_of_ble_eq_true rfl⟩) rfl hl.1 rfl (Nat.le_of_ble_eq_true rfl) dX1_open_15 ⟨Nat.le_of_ble_eq_true rfl, Nat.le_of_ble_eq_true rfl⟩) hS (fun r1 locs hw hS => ?_)
  refine lv_ldc (v := 1398034258) hx hb hown (hts _ q825) dX1_open_18 ?_
  refine lv_icmp_ne (tgt := 35) hx hb dX1_open_20 (by decide) (fun h => ?_) (fun h => ?_)
  · have hw := hw.1 h
    refine lv_iconst (v := (-1)) hx hb dX1_open_35 (by decide) ?_
    exact rt_i C rfl hH hS hw dX1_open_36
  have hw := hw.2 h
  refine lv_aload_n hx hb dX1_open_23 rfl (lv_at hl 0 rfl) ?_
  refine g1_0 C hH q198 dX1_open_24 ?_
  refine lv_bipush (v := 6) hx hb dX1_open_27 (by decide) ?_
  refine kc_ip (rn_sp (As := [.ref (adr G a1 21 0), .int 6]) (rest := []) C hH hS (m19_two l G a1 τ σ H 21 0 6 (by decide) _ hw) (va_cwS 2 hts (lw_S q826 q823 q176 q824) rfl rfl rfl kX19_two.2 ⟨Nat.le_of_ble_eq_true rfl, Nat.le_of_ble_eq_true rfl⟩) rfl hl.1 rfl (Nat.le_of_ble_eq_true rfl) dX1_open_29 ⟨Nat.le_of_ble_eq_true rfl, Nat.le_of_ble_eq_true rfl⟩) hS (fun r2 locs hw hS => ?_)
  refine lv_if_eq (tgt := 37) hx hb dX1_open_32 (by decide) (fun h => ?_) (fun h => ?_)
  · have hw := hw.1 h
    refine lv_aload_n hx hb dX1_open_37 rfl (lv_at hl 0 rfl) ?_
    refine g1_0 C hH q198 dX1_open_38 ?_
    refine lv_iconst (v := 4) hx hb dX1_open_41 (by decide) ?_
    refine kc_ip (rn_sp (As := [.ref (adr G a1 21 0), .int 4]) (rest := []) C hH hS (m19_two l G a1 τ σ H 21 0 4 (by decide) _ hw) (va_cwS 2 hts (lw_S q826 q823 q176 q824) rfl rfl rfl kX19_two.2 ⟨Nat.le_of_ble_eq_true rfl, Nat.le_of_ble_eq_true rfl⟩) rfl hl.1 rfl (Nat.le_of_ble_eq_true rfl) dX1_open_42 ⟨Nat.le_of_ble_eq_true rfl, Nat.le_of_ble_eq_true rfl⟩) hS (fun r3 locs hw hS => ?_)
    refine lv_istore_n (lv' := [(1, .int r3), (0, .ref (ga G 1 0))]) hx hb dX1_open_45 rfl hl (by decide) rfl (fun ls hl => ?_)
    refine lv_aload_n hx hb dX1_open_46 rfl (lv_at hl 1 rfl) ?_
    refine lv_iload_n hx hb dX1_open_47 rfl (lv_at hl 0 rfl) ?_
    refine kc_ip (rn_vp (As := [.int r3]) (rest := []) C hH hS (by decide) rfl (by decide) (m1_entry l G a1 τ σ H r3 _ hw) (cwV 1 hts (lw_V q827 q829 qs0 q158 q830) rfl rfl rfl kX1_entry ⟨Nat.le_of_ble_eq_true rfl, Nat.le_of_ble_eq_true rfl⟩) rfl hl.1 rfl (Nat.le_of_ble_eq_true rfl) dX1_open_48 ⟨Nat.le_of_ble_eq_true rfl, Nat.le_of_ble_eq_true rfl⟩) hS (fun r4 locs hw hS => ?_)
    refine lv_istore_n (lv' := [(2, .int r4), (1, .int r3), (0, .ref (ga G 1 0))]) hx hb dX1_open_51 rfl hl (by decide) rfl (fun ls hl => ?_)
    refine lv_iload_n hx hb dX1_open_52 rfl (lv_at hl 1 rfl) ?_
    refine lv_bipush (v := 64) hx hb dX1_open_53 (by decide) ?_
    refine lv_icmp_gt (tgt := 69) hx hb dX1_open_55 (by decide) (fun h => ?_) (fun h => ?_)
    · have hw := hw.1 h
      refine lv_iconst (v := (-1)) hx hb dX1_open_69 (by decide) ?_
      exact rt_i C rfl hH hS hw dX1_open_70
    have hw := hw.2 h
    refine lv_iload_n hx hb dX1_open_58 rfl (lv_at hl 0 rfl) ?_
    refine lv_iconst (v := 4) hx hb dX1_open_59 (by decide) ?_
    refine lv_iadd hx hb dX1_open_60 ?_
    refine lv_aload_n hx hb dX1_open_61 rfl (lv_at hl 2 rfl) ?_
    refine g1_0 C hH q198 dX1_open_62 ?_
    refine al21 C hH dX1_open_65 ?_
    refine lv_icmp_le (tgt := 71) hx hb dX1_open_66 (by decide) (fun h => ?_) (fun h => ?_)
    · have hw := hw.1 h
      refine lv_aload_n hx hb dX1_open_71 rfl (lv_at hl 2 rfl) ?_
      refine lv_iconst (v := 0) hx hb dX1_open_72 (by decide) ?_
      refine lv_iload_n hx hb dX1_open_73 rfl (lv_at hl 0 rfl) ?_
      refine kc_ip (rn_vp (As := [.int 0, .int r4]) (rest := []) C hH hS (by decide) rfl (by decide) (m1_check l G a1 τ σ H 0 r4 _ hw) (cwV 2 hts (lw_V q831 q832 q833 q158 q834) rfl rfl rfl kX1_check ⟨Nat.le_of_ble_eq_true rfl, Nat.le_of_ble_eq_true rfl⟩) rfl hl.1 rfl (Nat.le_of_ble_eq_true rfl) dX1_open_74 ⟨Nat.le_of_ble_eq_true rfl, Nat.le_of_ble_eq_true rfl⟩) hS (fun r5 locs hw hS => ?_)
      refine lv_aload_n hx hb dX1_open_77 rfl (lv_at hl 2 rfl) ?_
      refine g1_0 C hH q198 dX1_open_78 ?_
      refine lv_iload_n hx hb dX1_open_81 rfl (lv_at hl 0 rfl) ?_
      refine kc_ip (rn_sp (As := [.ref (adr G a1 21 0), .int r4]) (rest := [.int r5]) C hH hS (m19_four l G a1 τ σ H 21 0 r4 (by decide) _ hw) (va_cwS 2 hts (lw_S q819 q820 q176 q821) rfl rfl rfl kX19_four.2 ⟨Nat.le_of_ble_eq_true rfl, Nat.le_of_ble_eq_true rfl⟩) rfl hl.1 rfl (Nat.le_of_ble_eq_true rfl) dX1_open_82 ⟨Nat.le_of_ble_eq_true rfl, Nat.le_of_ble_eq_true rfl⟩) hS (fun r6 locs hw hS => ?_)
      refine lv_icmp_ne (tgt := 92) hx hb dX1_open_85 (by decide) (fun h => ?_) (fun h => ?_)
      · have hw := hw.1 h
        refine lv_iconst (v := 0) hx hb dX1_open_92 (by decide) ?_
        refine lv_istore_n (lv' := [(3, .int 0), (2, .int r4), (1, .int r3), (0, .ref (ga G 1 0))]) hx hb dX1_open_93 rfl hl (by decide) rfl (fun ls hl => ?_)
        refine lv_aload_n hx hb dX1_open_94 rfl (lv_at hl 3 rfl) ?_
        refine lv_aload_n hx hb dX1_open_95 rfl (lv_at hl 3 rfl) ?_
        refine g1_0 C hH q198 dX1_open_96 ?_
        refine p1_3 C hH hS (by decide) q203 dX1_open_99 (fun σ7 e7 H locs hH hS => ?_)
        have hw := hw σ7 e7
        refine lv_iconst (v := 0) hx hb dX1_open_102 (by decide) ?_
        refine lv_istore (lv' := [(4, .int 0), (3, .int 0), (2, .int r4), (1, .int r3), (0, .ref (ga G 1 0))]) hx hb dX1_open_103 hl (by decide) rfl (fun ls hl => ?_)
        obtain ⟨n9, hw⟩ := hw
        refine k1_open_L105 C σ7 r3 r4 n9 0 0 hw H locs ls hH hS (lv_sub hl [4, 3, 2, 1, 0] rfl) (fun x3_10 hw H locs ls hH hS hl => ?_)
        exact k1_open_J128 C σ7 r3 r4 x3_10 hw H locs ls hH hS (lv_sub hl [0, 1, 2, 3] rfl)
      have hw := hw.2 h
      refine lv_iconst (v := 1) hx hb dX1_open_88 (by decide) ?_
      refine lv_goto (tgt := 93) hx hb dX1_open_89 (by decide) ?_
      refine lv_istore_n (lv' := [(3, .int 1), (2, .int r4), (1, .int r3), (0, .ref (ga G 1 0))]) hx hb dX1_open_93 rfl hl (by decide) rfl (fun ls hl => ?_)
      refine lv_aload_n hx hb dX1_open_94 rfl (lv_at hl 3 rfl) ?_
      refine lv_aload_n hx hb dX1_open_95 rfl (lv_at hl 3 rfl) ?_
      refine g1_0 C hH q198 dX1_open_96 ?_
      refine p1_3 C hH hS (by decide) q203 dX1_open_99 (fun σ14 e14 H locs hH hS => ?_)
      have hw := hw σ14 e14
      refine lv_iconst (v := 0) hx hb dX1_open_102 (by decide) ?_
      refine lv_istore (lv' := [(4, .int 0), (3, .int 1), (2, .int r4), (1, .int r3), (0, .ref (ga G 1 0))]) hx hb dX1_open_103 hl (by decide) rfl (fun ls hl => ?_)
      obtain ⟨n15, hw⟩ := hw
      refine k1_open_L105 C σ14 r3 r4 n15 1 0 hw H locs ls hH hS (lv_sub hl [4, 3, 2, 1, 0] rfl) (fun x3_16 hw H locs ls hH hS hl => ?_)
      exact k1_open_J128 C σ14 r3 r4 x3_16 hw H locs ls hH hS (lv_sub hl [0, 1, 2, 3] rfl)
    have hw := hw.2 h
    refine lv_iconst (v := (-1)) hx hb dX1_open_69 (by decide) ?_
    exact rt_i C rfl hH hS hw dX1_open_70
  have hw := hw.2 h
  refine lv_iconst (v := (-1)) hx hb dX1_open_35 (by decide) ?_
  exact rt_i C rfl hH hS hw dX1_open_36
/-! WebHost$Hops.arrive([BI)V -/
abbrev cX3_arrive : ByteArray := prog_6_method_5_code
def yX3_arrive : MethodName := ⟨RX3, "arrive", "([BI)V"⟩
theorem dX3_arrive_0 : decode cX3_arrive 0 = .ok (.iload_n 2, 1) := by decide +kernel
theorem dX3_arrive_1 : decode cX3_arrive 1 = .ok (.bipush 42, 2) := by decide +kernel
theorem dX3_arrive_3 : decode cX3_arrive 3 = .ok (.if_icmp .lt 26, 3) := by decide +kernel
theorem dX3_arrive_6 : decode cX3_arrive 6 = .ok (.aload_n 1, 1) := by decide +kernel
theorem dX3_arrive_7 : decode cX3_arrive 7 = .ok (.bipush 14, 2) := by decide +kernel
theorem dX3_arrive_9 : decode cX3_arrive 9 = .ok (.invokestatic 66, 3) := by decide +kernel
theorem dX3_arrive_12 : decode cX3_arrive 12 = .ok (.ldc 72, 2) := by decide +kernel
theorem dX3_arrive_14 : decode cX3_arrive 14 = .ok (.if_icmp .ne 15, 3) := by decide +kernel
theorem dX3_arrive_17 : decode cX3_arrive 17 = .ok (.aload_n 1, 1) := by decide +kernel
theorem dX3_arrive_18 : decode cX3_arrive 18 = .ok (.bipush 18, 2) := by decide +kernel
theorem dX3_arrive_20 : decode cX3_arrive 20 = .ok (.invokestatic 73, 3) := by decide +kernel
theorem dX3_arrive_23 : decode cX3_arrive 23 = .ok (.sipush 1540, 3) := by decide +kernel
theorem dX3_arrive_26 : decode cX3_arrive 26 = .ok (.if_icmp .eq 4, 3) := by decide +kernel
theorem dX3_arrive_29 : decode cX3_arrive 29 = .ok (.return_, 1) := by decide +kernel
theorem dX3_arrive_30 : decode cX3_arrive 30 = .ok (.aload_n 1, 1) := by decide +kernel
theorem dX3_arrive_31 : decode cX3_arrive 31 = .ok (.bipush 20, 2) := by decide +kernel
theorem dX3_arrive_33 : decode cX3_arrive 33 = .ok (.invokestatic 73, 3) := by decide +kernel
theorem dX3_arrive_36 : decode cX3_arrive 36 = .ok (.istore_n 3, 1) := by decide +kernel
theorem dX3_arrive_37 : decode cX3_arrive 37 = .ok (.iload_n 3, 1) := by decide +kernel
theorem dX3_arrive_38 : decode cX3_arrive 38 = .ok (.iconst 1, 1) := by decide +kernel
theorem dX3_arrive_39 : decode cX3_arrive 39 = .ok (.if_icmp .eq 9, 3) := by decide +kernel
theorem dX3_arrive_42 : decode cX3_arrive 42 = .ok (.iload_n 3, 1) := by decide +kernel
theorem dX3_arrive_43 : decode cX3_arrive 43 = .ok (.iconst 2, 1) := by decide +kernel
theorem dX3_arrive_44 : decode cX3_arrive 44 = .ok (.if_icmp .eq 4, 3) := by decide +kernel
theorem dX3_arrive_47 : decode cX3_arrive 47 = .ok (.return_, 1) := by decide +kernel
theorem dX3_arrive_48 : decode cX3_arrive 48 = .ok (.aload_n 1, 1) := by decide +kernel
theorem dX3_arrive_49 : decode cX3_arrive 49 = .ok (.bipush 28, 2) := by decide +kernel
theorem dX3_arrive_51 : decode cX3_arrive 51 = .ok (.invokestatic 66, 3) := by decide +kernel
theorem dX3_arrive_54 : decode cX3_arrive 54 = .ok (.istore 4, 2) := by decide +kernel
theorem dX3_arrive_56 : decode cX3_arrive 56 = .ok (.aload_n 1, 1) := by decide +kernel
theorem dX3_arrive_57 : decode cX3_arrive 57 = .ok (.bipush 38, 2) := by decide +kernel
theorem dX3_arrive_59 : decode cX3_arrive 59 = .ok (.invokestatic 66, 3) := by decide +kernel
theorem dX3_arrive_62 : decode cX3_arrive 62 = .ok (.aload_n 0, 1) := by decide +kernel
theorem dX3_arrive_63 : decode cX3_arrive 63 = .ok (.getfield 40, 3) := by decide +kernel
theorem dX3_arrive_66 : decode cX3_arrive 66 = .ok (.if_icmp .ne 7, 3) := by decide +kernel
theorem dX3_arrive_69 : decode cX3_arrive 69 = .ok (.iconst 1, 1) := by decide +kernel
theorem dX3_arrive_70 : decode cX3_arrive 70 = .ok (.goto 4, 3) := by decide +kernel
theorem dX3_arrive_73 : decode cX3_arrive 73 = .ok (.iconst 0, 1) := by decide +kernel
theorem dX3_arrive_74 : decode cX3_arrive 74 = .ok (.istore 5, 2) := by decide +kernel
theorem dX3_arrive_76 : decode cX3_arrive 76 = .ok (.aload_n 0, 1) := by decide +kernel
theorem dX3_arrive_77 : decode cX3_arrive 77 = .ok (.iload 4, 2) := by decide +kernel
theorem dX3_arrive_79 : decode cX3_arrive 79 = .ok (.invokevirtual 56, 3) := by decide +kernel
theorem dX3_arrive_82 : decode cX3_arrive 82 = .ok (.ifCond .ge 17, 3) := by decide +kernel
theorem dX3_arrive_85 : decode cX3_arrive 85 = .ok (.iload 5, 2) := by decide +kernel
theorem dX3_arrive_87 : decode cX3_arrive 87 = .ok (.ifCond .eq 21, 3) := by decide +kernel
theorem dX3_arrive_90 : decode cX3_arrive 90 = .ok (.iload 4, 2) := by decide +kernel
theorem dX3_arrive_92 : decode cX3_arrive 92 = .ok (.aload_n 0, 1) := by decide +kernel
theorem dX3_arrive_93 : decode cX3_arrive 93 = .ok (.getfield 40, 3) := by decide +kernel
theorem dX3_arrive_96 : decode cX3_arrive 96 = .ok (.if_icmp .eq 12, 3) := by decide +kernel
theorem dX3_arrive_99 : decode cX3_arrive 99 = .ok (.aload_n 0, 1) := by decide +kernel
theorem dX3_arrive_100 : decode cX3_arrive 100 = .ok (.iload 4, 2) := by decide +kernel
theorem dX3_arrive_102 : decode cX3_arrive 102 = .ok (.aload_n 1, 1) := by decide +kernel
theorem dX3_arrive_103 : decode cX3_arrive 103 = .ok (.bipush 22, 2) := by decide +kernel
theorem dX3_arrive_105 : decode cX3_arrive 105 = .ok (.invokevirtual 76, 3) := by decide +kernel
theorem dX3_arrive_108 : decode cX3_arrive 108 = .ok (.iload_n 3, 1) := by decide +kernel
theorem dX3_arrive_109 : decode cX3_arrive 109 = .ok (.iconst 1, 1) := by decide +kernel
theorem dX3_arrive_110 : decode cX3_arrive 110 = .ok (.if_icmp .ne 18, 3) := by decide +kernel
theorem dX3_arrive_113 : decode cX3_arrive 113 = .ok (.iload 5, 2) := by decide +kernel
theorem dX3_arrive_115 : decode cX3_arrive 115 = .ok (.ifCond .eq 13, 3) := by decide +kernel
theorem dX3_arrive_118 : decode cX3_arrive 118 = .ok (.aload_n 0, 1) := by decide +kernel
theorem dX3_arrive_119 : decode cX3_arrive 119 = .ok (.iconst 2, 1) := by decide +kernel
theorem dX3_arrive_120 : decode cX3_arrive 120 = .ok (.aload_n 1, 1) := by decide +kernel
theorem dX3_arrive_121 : decode cX3_arrive 121 = .ok (.bipush 22, 2) := by decide +kernel
theorem dX3_arrive_123 : decode cX3_arrive 123 = .ok (.iload 4, 2) := by decide +kernel
theorem dX3_arrive_125 : decode cX3_arrive 125 = .ok (.invokevirtual 80, 3) := by decide +kernel
theorem dX3_arrive_128 : decode cX3_arrive 128 = .ok (.return_, 1) := by decide +kernel
def rmX3_arrive : Room := { frames := 4, cells := 0, slots := 0, locals := 102 }
theorem kX3_arrive : yX3_arrive.cls = "WebHost$Hops" ∧ yX3_arrive.cls ≠ "java/lang/invoke/MethodHandle" ∧ yX3_arrive.cls ≠ "java/lang/invoke/VarHandle" ∧ (parseMethodDescriptor yX3_arrive.desc).map (fun d => d.parameters.length) = some 2 := by decide +kernel
def w3_arrive_J108 (σ : St) (k1 : Nat) (i1 : Nat) (x3 : Int32) (x4 : Int32) (x5 : Int32) (Q : St → Prop) : Prop := (¬ x3 = 1 → Q σ) ∧ (x3 = 1 → ((x5 = 0 → Q σ) ∧ (¬ x5 = 0 → (w3_tell σ 2 k1 i1 22 x4 (fun σ8 => (Q σ8))))))
set_option maxHeartbeats 4000000 in
theorem k3_arrive_J108 {p : Program} {l : Launch} {e : Env} {s : State} {m : MethodId} {args : Array Value} {below : List Frame} {meth : Method} {c : Code} {G : Gh} {a1 : Nat → Nat → Nat} {τ : St} {Q : St → Prop} (C : Cx p e s m args meth c cX3_arrive 6 none "WebHost$Hops" G) (σ : St) (k1 : Nat) (i1 : Nat) (x3 : Int32) (x4 : Int32) (x5 : Int32) (hk1 : abc k1 i1 = true) (hw : w3_arrive_J108 σ k1 i1 x3 x4 x5 Q) (H : Heap) (locs : List Loc) (ls : Array Slot) (hH : Hd G a1 (cmb σ τ) H) (hS : va_S (gA G) s.heap H locs) (hl : lv_has ls 6 [(0, .ref (ga G 3 0)), (1, .ref (adr G a1 k1 i1)), (3, .int x3), (4, .int x4), (5, .int x5)]) : W p l e rmX3_arrive s m args below meth c H locs 0 0 (MQ below (QVs G a1 (fun u => cmb u τ) Q) args s 0 0 (gA G)) (F0 m 108 ls []) := by
  have hx := C.1
  have hb := C.2.1
  have hown := C.2.2.2.2.2.1
  have hts := C.2.2.2.2.2.2.1
  refine lv_iload_n hx hb dX3_arrive_108 rfl (lv_at hl 2 rfl) ?_
  refine lv_iconst (v := 1) hx hb dX3_arrive_109 (by decide) ?_
  refine lv_icmp_ne (tgt := 128) hx hb dX3_arrive_110 (by decide) (fun h => ?_) (fun h => ?_)
  · have hw := hw.1 h
    exact rt_v C hH hS hw dX3_arrive_128
  have hw := hw.2 h
  refine lv_iload hx hb dX3_arrive_113 (lv_at hl 4 rfl) ?_
  refine lv_if_eq (tgt := 128) hx hb dX3_arrive_115 (by decide) (fun h => ?_) (fun h => ?_)
  · have hw := hw.1 h
    exact rt_v C hH hS hw dX3_arrive_128
  have hw := hw.2 h
  refine lv_aload_n hx hb dX3_arrive_118 rfl (lv_at hl 0 rfl) ?_
  refine lv_iconst (v := 2) hx hb dX3_arrive_119 (by decide) ?_
  refine lv_aload_n hx hb dX3_arrive_120 rfl (lv_at hl 1 rfl) ?_
  refine lv_bipush (v := 22) hx hb dX3_arrive_121 (by decide) ?_
  refine lv_iload hx hb dX3_arrive_123 (lv_at hl 3 rfl) ?_
  refine kc_v (rn_v (As := [.int 2, .ref (adr G a1 k1 i1), .int 22, .int x4]) (rest := []) C hH hS (by decide) rfl (by decide) (m3_tell l G a1 τ σ 2 k1 i1 22 x4 hk1 _ hw) (cwV 4 hts (lw_V q944 q946 qs11 q160 q947) rfl rfl rfl kX3_tell ⟨Nat.le_of_ble_eq_true rfl, Nat.le_of_ble_eq_true rfl⟩) rfl hl.1 rfl (Nat.le_of_ble_eq_true rfl) dX3_arrive_125 ⟨Nat.le_of_ble_eq_true rfl, Nat.le_of_ble_eq_true rfl⟩) hS (fun σ8 H locs hw hH hS => ?_)
  exact rt_v C hH hS hw dX3_arrive_128
def w3_arrive_J74 (σ : St) (k1 : Nat) (i1 : Nat) (x3 : Int32) (x4 : Int32) (xs0 : Int32) (Q : St → Prop) : Prop := w3_find σ x4 (fun r6 => ((0 ≤ r6 → (w3_learn σ x4 k1 i1 22 (fun σ7 => (w3_arrive_J108 σ7 k1 i1 x3 x4 xs0 Q)))) ∧ (¬ 0 ≤ r6 → ((xs0 = 0 → w3_arrive_J108 σ k1 i1 x3 x4 xs0 Q) ∧ (¬ xs0 = 0 → ((x4 = (σ 3 0 1) → w3_arrive_J108 σ k1 i1 x3 x4 xs0 Q) ∧ (¬ x4 = (σ 3 0 1) → (w3_learn σ x4 k1 i1 22 (fun σ9 => (w3_arrive_J108 σ9 k1 i1 x3 x4 xs0 Q))))))))))
set_option maxHeartbeats 4000000 in
theorem k3_arrive_J74 {p : Program} {l : Launch} {e : Env} {s : State} {m : MethodId} {args : Array Value} {below : List Frame} {meth : Method} {c : Code} {G : Gh} {a1 : Nat → Nat → Nat} {τ : St} {Q : St → Prop} (C : Cx p e s m args meth c cX3_arrive 6 none "WebHost$Hops" G) (σ : St) (k1 : Nat) (i1 : Nat) (x3 : Int32) (x4 : Int32) (xs0 : Int32) (hk1 : abc k1 i1 = true) (hw : w3_arrive_J74 σ k1 i1 x3 x4 xs0 Q) (H : Heap) (locs : List Loc) (ls : Array Slot) (hH : Hd G a1 (cmb σ τ) H) (hS : va_S (gA G) s.heap H locs) (hl : lv_has ls 6 [(0, .ref (ga G 3 0)), (1, .ref (adr G a1 k1 i1)), (3, .int x3), (4, .int x4)]) : W p l e rmX3_arrive s m args below meth c H locs 0 0 (MQ below (QVs G a1 (fun u => cmb u τ) Q) args s 0 0 (gA G)) (F0 m 74 ls [.int xs0]) := by
  have hx := C.1
  have hb := C.2.1
  have hown := C.2.2.2.2.2.1
  have hts := C.2.2.2.2.2.2.1
  refine lv_istore (lv' := [(5, .int xs0), (0, .ref (ga G 3 0)), (1, .ref (adr G a1 k1 i1)), (3, .int x3), (4, .int x4)]) hx hb dX3_arrive_74 hl (by decide) rfl (fun ls hl => ?_)
  refine lv_aload_n hx hb dX3_arrive_76 rfl (lv_at hl 1 rfl) ?_
  refine lv_iload hx hb dX3_arrive_77 (lv_at hl 4 rfl) ?_
  refine kc_ip (rn_vp (As := [.int x4]) (rest := []) C hH hS (by decide) rfl (by decide) (m3_find l G a1 τ σ H x4 _ hw) (cwV 1 hts (lw_V q1013 q1015 qs14 q160 q1016) rfl rfl rfl kX3_find ⟨Nat.le_of_ble_eq_true rfl, Nat.le_of_ble_eq_true rfl⟩) rfl hl.1 rfl (Nat.le_of_ble_eq_true rfl) dX3_arrive_79 ⟨Nat.le_of_ble_eq_true rfl, Nat.le_of_ble_eq_true rfl⟩) hS (fun r6 locs hw hS => ?_)
  refine lv_if_ge (tgt := 99) hx hb dX3_arrive_82 (by decide) (fun h => ?_) (fun h => ?_)
  · have hw := hw.1 h
    refine lv_aload_n hx hb dX3_arrive_99 rfl (lv_at hl 1 rfl) ?_
    refine lv_iload hx hb dX3_arrive_100 (lv_at hl 4 rfl) ?_
    refine lv_aload_n hx hb dX3_arrive_102 rfl (lv_at hl 2 rfl) ?_
    refine lv_bipush (v := 22) hx hb dX3_arrive_103 (by decide) ?_
    refine kc_v (rn_v (As := [.int x4, .ref (adr G a1 k1 i1), .int 22]) (rest := []) C hH hS (by decide) rfl (by decide) (m3_learn l G a1 τ σ x4 k1 i1 22 hk1 _ hw) (cwV 3 hts (lw_V q1084 q1086 qs23 q160 q1087) rfl rfl rfl kX3_learn ⟨Nat.le_of_ble_eq_true rfl, Nat.le_of_ble_eq_true rfl⟩) rfl hl.1 rfl (Nat.le_of_ble_eq_true rfl) dX3_arrive_105 ⟨Nat.le_of_ble_eq_true rfl, Nat.le_of_ble_eq_true rfl⟩) hS (fun σ7 H locs hw hH hS => ?_)
    exact k3_arrive_J108 C σ7 k1 i1 x3 x4 xs0 hk1 hw H locs ls hH hS (lv_sub hl [1, 2, 3, 4, 0] rfl)
  have hw := hw.2 h
  refine lv_iload hx hb dX3_arrive_85 (lv_at hl 0 rfl) ?_
  refine lv_if_eq (tgt := 108) hx hb dX3_arrive_87 (by decide) (fun h => ?_) (fun h => ?_)
  · have hw := hw.1 h
    exact k3_arrive_J108 C σ k1 i1 x3 x4 xs0 hk1 hw H locs ls hH hS (lv_sub hl [1, 2, 3, 4, 0] rfl)
  have hw := hw.2 h
  refine lv_iload hx hb dX3_arrive_90 (lv_at hl 4 rfl) ?_
  refine lv_aload_n hx hb dX3_arrive_92 rfl (lv_at hl 1 rfl) ?_
  refine g3_1 C hH q280 dX3_arrive_93 ?_
  refine lv_icmp_eq (tgt := 108) hx hb dX3_arrive_96 (by decide) (fun h => ?_) (fun h => ?_)
  · have hw := hw.1 h
    exact k3_arrive_J108 C σ k1 i1 x3 x4 xs0 hk1 hw H locs ls hH hS (lv_sub hl [1, 2, 3, 4, 0] rfl)
  have hw := hw.2 h
  refine lv_aload_n hx hb dX3_arrive_99 rfl (lv_at hl 1 rfl) ?_
  refine lv_iload hx hb dX3_arrive_100 (lv_at hl 4 rfl) ?_
  refine lv_aload_n hx hb dX3_arrive_102 rfl (lv_at hl 2 rfl) ?_
  refine lv_bipush (v := 22) hx hb dX3_arrive_103 (by decide) ?_
  refine kc_v (rn_v (As := [.int x4, .ref (adr G a1 k1 i1), .int 22]) (rest := []) C hH hS (by decide) rfl (by decide) (m3_learn l G a1 τ σ x4 k1 i1 22 hk1 _ hw) (cwV 3 hts (lw_V q1084 q1086 qs23 q160 q1087) rfl rfl rfl kX3_learn ⟨Nat.le_of_ble_eq_true rfl, Nat.le_of_ble_eq_true rfl⟩) rfl hl.1 rfl (Nat.le_of_ble_eq_true rfl) dX3_arrive_105 ⟨Nat.le_of_ble_eq_true rfl, Nat.le_of_ble_eq_true rfl⟩) hS (fun σ9 H locs hw hH hS => ?_)
  exact k3_arrive_J108 C σ9 k1 i1 x3 x4 xs0 hk1 hw H locs ls hH hS (lv_sub hl [1, 2, 3, 4, 0] rfl)
def w3_arrive_J48 (σ : St) (k1 : Nat) (i1 : Nat) (x3 : Int32) (Q : St → Prop) : Prop := w19_four σ k1 i1 28 (fun r4 => (w19_four σ k1 i1 38 (fun r5 => ((¬ r5 = (σ 3 0 1) → w3_arrive_J74 σ k1 i1 x3 r4 0 Q) ∧ (r5 = (σ 3 0 1) → w3_arrive_J74 σ k1 i1 x3 r4 1 Q)))))
set_option maxHeartbeats 4000000 in
theorem k3_arrive_J48 {p : Program} {l : Launch} {e : Env} {s : State} {m : MethodId} {args : Array Value} {below : List Frame} {meth : Method} {c : Code} {G : Gh} {a1 : Nat → Nat → Nat} {τ : St} {Q : St → Prop} (C : Cx p e s m args meth c cX3_arrive 6 none "WebHost$Hops" G) (σ : St) (k1 : Nat) (i1 : Nat) (x3 : Int32) (hk1 : abc k1 i1 = true) (hw : w3_arrive_J48 σ k1 i1 x3 Q) (H : Heap) (locs : List Loc) (ls : Array Slot) (hH : Hd G a1 (cmb σ τ) H) (hS : va_S (gA G) s.heap H locs) (hl : lv_has ls 6 [(0, .ref (ga G 3 0)), (1, .ref (adr G a1 k1 i1)), (3, .int x3)]) : W p l e rmX3_arrive s m args below meth c H locs 0 0 (MQ below (QVs G a1 (fun u => cmb u τ) Q) args s 0 0 (gA G)) (F0 m 48 ls []) := by
  have hx := C.1
  have hb := C.2.1
  have hown := C.2.2.2.2.2.1
  have hts := C.2.2.2.2.2.2.1
  refine lv_aload_n hx hb dX3_arrive_48 rfl (lv_at hl 1 rfl) ?_
  refine lv_bipush (v := 28) hx hb dX3_arrive_49 (by decide) ?_
  refine kc_ip (rn_sp (As := [.ref (adr G a1 k1 i1), .int 28]) (rest := []) C hH hS (m19_four l G a1 τ σ H k1 i1 28 hk1 _ hw) (va_cwS 2 hts (lw_S q1082 q820 q176 q821) rfl rfl rfl kX19_four.2 ⟨Nat.le_of_ble_eq_true rfl, Nat.le_of_ble_eq_true rfl⟩) rfl hl.1 rfl (Nat.le_of_ble_eq_true rfl) dX3_arrive_51 ⟨Nat.le_of_ble_eq_true rfl, Nat.le_of_ble_eq_true rfl⟩) hS (fun r4 locs hw hS => ?_)
  refine lv_istore (lv' := [(4, .int r4), (0, .ref (ga G 3 0)), (1, .ref (adr G a1 k1 i1)), (3, .int x3)]) hx hb dX3_arrive_54 hl (by decide) rfl (fun ls hl => ?_)
  refine lv_aload_n hx hb dX3_arrive_56 rfl (lv_at hl 2 rfl) ?_
  refine lv_bipush (v := 38) hx hb dX3_arrive_57 (by decide) ?_
  refine kc_ip (rn_sp (As := [.ref (adr G a1 k1 i1), .int 38]) (rest := []) C hH hS (m19_four l G a1 τ σ H k1 i1 38 hk1 _ hw) (va_cwS 2 hts (lw_S q1082 q820 q176 q821) rfl rfl rfl kX19_four.2 ⟨Nat.le_of_ble_eq_true rfl, Nat.le_of_ble_eq_true rfl⟩) rfl hl.1 rfl (Nat.le_of_ble_eq_true rfl) dX3_arrive_59 ⟨Nat.le_of_ble_eq_true rfl, Nat.le_of_ble_eq_true rfl⟩) hS (fun r5 locs hw hS => ?_)
  refine lv_aload_n hx hb dX3_arrive_62 rfl (lv_at hl 1 rfl) ?_
  refine g3_1 C hH q280 dX3_arrive_63 ?_
  refine lv_icmp_ne (tgt := 73) hx hb dX3_arrive_66 (by decide) (fun h => ?_) (fun h => ?_)
  · have hw := hw.1 h
    refine lv_iconst (v := 0) hx hb dX3_arrive_73 (by decide) ?_
    exact k3_arrive_J74 C σ k1 i1 x3 r4 0 hk1 hw H locs ls hH hS (lv_sub hl [1, 2, 3, 0] rfl)
  have hw := hw.2 h
  refine lv_iconst (v := 1) hx hb dX3_arrive_69 (by decide) ?_
  refine lv_goto (tgt := 74) hx hb dX3_arrive_70 (by decide) ?_
  exact k3_arrive_J74 C σ k1 i1 x3 r4 1 hk1 hw H locs ls hH hS (lv_sub hl [1, 2, 3, 0] rfl)
def w3_arrive (σ : St) (k1 : Nat) (i1 : Nat) (x2 : Int32) (Q : St → Prop) : Prop := (x2 < 42 → Q σ) ∧ (¬ x2 < 42 → (w19_four σ k1 i1 14 (fun r1 => ((¬ r1 = 67584 → Q σ) ∧ (r1 = 67584 → (w19_two σ k1 i1 18 (fun r2 => ((r2 = 1540 → (w19_two σ k1 i1 20 (fun r3 => ((r3 = 1 → w3_arrive_J48 σ k1 i1 r3 Q) ∧ (¬ r3 = 1 → ((r3 = 2 → w3_arrive_J48 σ k1 i1 r3 Q) ∧ (¬ r3 = 2 → Q σ))))))) ∧ (¬ r2 = 1540 → Q σ)))))))))
set_option maxHeartbeats 4000000 in
theorem m3_arrive (l : Launch) (G : Gh) (a1 : Nat → Nat → Nat) (τ : St) (σ : St) (k1 : Nat) (i1 : Nat) (x2 : Int32) (hk1 : abc k1 i1 = true) (Q : St → Prop) (hw : w3_arrive σ k1 i1 x2 Q) : Met l yX3_arrive (ws_ yX3_arrive cX3_arrive 6 none) rmX3_arrive (PcS G a1 (cmb σ τ) [.ref (ga G 3 0), .ref (adr G a1 k1 i1), .int x2]) (QVs G a1 (fun u => cmb u τ) Q) 0 0 (gA G) := by
  refine met_w (by decide) (Nat.le_of_ble_eq_true rfl) ?_
  intro p e s m below meth c ls C hH hS hl
  have C : Cx p e s m _ meth c cX3_arrive 6 none "WebHost$Hops" G := C
  have hl : lv_has ls 6 [(0, .ref (ga G 3 0)), (1, .ref (adr G a1 k1 i1)), (2, .int x2)] := hl
  have hx := C.1
  have hb := C.2.1
  have hown := C.2.2.2.2.2.1
  have hts := C.2.2.2.2.2.2.1
  obtain ⟨locs, hlocs⟩ : ∃ z : List Loc, z = [] := ⟨_, rfl⟩
  obtain ⟨H, hHe⟩ : ∃ z : Heap, z = s.heap := ⟨_, rfl⟩
  have hH : Hd G a1 (cmb σ τ) H := by rw [hHe]; exact hH
  have hS : va_S (gA G) s.heap H locs := by rw [hHe, hlocs]; exact hS
  refine W.heap0 hHe.symm hlocs.symm ?_
  refine lv_iload_n hx hb dX3_arrive_0 rfl (lv_at hl 2 rfl) ?_
  refine lv_bipush (v := 42) hx hb dX3_arrive_1 (by decide) ?_
  refine lv_icmp_lt (tgt := 29) hx hb dX3_arrive_3 (by decide) (fun h => ?_) (fun h => ?_)
  · have hw := hw.1 h
    exact rt_v C hH hS hw dX3_arrive_29
  have hw := hw.2 h
  refine lv_aload_n hx hb dX3_arrive_6 rfl (lv_at hl 1 rfl) ?_
  refine lv_bipush (v := 14) hx hb dX3_arrive_7 (by decide) ?_
  refine kc_ip (rn_sp (As := [.ref (adr G a1 k1 i1), .int 14]) (rest := []) C hH hS (m19_four l G a1 τ σ H k1 i1 14 hk1 _ hw) (va_cwS 2 hts (lw_S q1082 q820 q176 q821) rfl rfl rfl kX19_four.2 ⟨Nat.le_of_ble_eq_true rfl, Nat.le_of_ble_eq_true rfl⟩) rfl hl.1 rfl (Nat.le_of_ble_eq_true rfl) dX3_arrive_9 ⟨Nat.le_of_ble_eq_true rfl, Nat.le_of_ble_eq_true rfl⟩) hS (fun r1 locs hw hS => ?_)
  refine lv_ldc (v := 67584) hx hb hown (hts _ q948) dX3_arrive_12 ?_
  refine lv_icmp_ne (tgt := 29) hx hb dX3_arrive_14 (by decide) (fun h => ?_) (fun h => ?_)
  · have hw := hw.1 h
    exact rt_v C hH hS hw dX3_arrive_29
  have hw := hw.2 h
  refine lv_aload_n hx hb dX3_arrive_17 rfl (lv_at hl 1 rfl) ?_
  refine lv_bipush (v := 18) hx hb dX3_arrive_18 (by decide) ?_
  refine kc_ip (rn_sp (As := [.ref (adr G a1 k1 i1), .int 18]) (rest := []) C hH hS (m19_two l G a1 τ σ H k1 i1 18 hk1 _ hw) (va_cwS 2 hts (lw_S q1083 q823 q176 q824) rfl rfl rfl kX19_two.2 ⟨Nat.le_of_ble_eq_true rfl, Nat.le_of_ble_eq_true rfl⟩) rfl hl.1 rfl (Nat.le_of_ble_eq_true rfl) dX3_arrive_20 ⟨Nat.le_of_ble_eq_true rfl, Nat.le_of_ble_eq_true rfl⟩) hS (fun r2 locs hw hS => ?_)
  refine lv_sipush (v := 1540) hx hb dX3_arrive_23 (by decide) ?_
  refine lv_icmp_eq (tgt := 30) hx hb dX3_arrive_26 (by decide) (fun h => ?_) (fun h => ?_)
  · have hw := hw.1 h
    refine lv_aload_n hx hb dX3_arrive_30 rfl (lv_at hl 1 rfl) ?_
    refine lv_bipush (v := 20) hx hb dX3_arrive_31 (by decide) ?_
    refine kc_ip (rn_sp (As := [.ref (adr G a1 k1 i1), .int 20]) (rest := []) C hH hS (m19_two l G a1 τ σ H k1 i1 20 hk1 _ hw) (va_cwS 2 hts (lw_S q1083 q823 q176 q824) rfl rfl rfl kX19_two.2 ⟨Nat.le_of_ble_eq_true rfl, Nat.le_of_ble_eq_true rfl⟩) rfl hl.1 rfl (Nat.le_of_ble_eq_true rfl) dX3_arrive_33 ⟨Nat.le_of_ble_eq_true rfl, Nat.le_of_ble_eq_true rfl⟩) hS (fun r3 locs hw hS => ?_)
    refine lv_istore_n (lv' := [(3, .int r3), (0, .ref (ga G 3 0)), (1, .ref (adr G a1 k1 i1)), (2, .int x2)]) hx hb dX3_arrive_36 rfl hl (by decide) rfl (fun ls hl => ?_)
    refine lv_iload_n hx hb dX3_arrive_37 rfl (lv_at hl 0 rfl) ?_
    refine lv_iconst (v := 1) hx hb dX3_arrive_38 (by decide) ?_
    refine lv_icmp_eq (tgt := 48) hx hb dX3_arrive_39 (by decide) (fun h => ?_) (fun h => ?_)
    · have hw := hw.1 h
      exact k3_arrive_J48 C σ k1 i1 r3 hk1 hw H locs ls hH hS (lv_sub hl [1, 2, 0] rfl)
    have hw := hw.2 h
    refine lv_iload_n hx hb dX3_arrive_42 rfl (lv_at hl 0 rfl) ?_
    refine lv_iconst (v := 2) hx hb dX3_arrive_43 (by decide) ?_
    refine lv_icmp_eq (tgt := 48) hx hb dX3_arrive_44 (by decide) (fun h => ?_) (fun h => ?_)
    · have hw := hw.1 h
      exact k3_arrive_J48 C σ k1 i1 r3 hk1 hw H locs ls hH hS (lv_sub hl [1, 2, 0] rfl)
    have hw := hw.2 h
    exact rt_v C hH hS hw dX3_arrive_47
  have hw := hw.2 h
  exact rt_v C hH hS hw dX3_arrive_29
/-! WebHost$Packets.send(III)V -/
abbrev cX5_send : ByteArray := prog_10_method_3_code
def yX5_send : MethodName := ⟨RX5, "send", "(III)V"⟩
theorem dX5_send_0 : decode cX5_send 0 = .ok (.aload_n 0, 1) := by decide +kernel
theorem dX5_send_1 : decode cX5_send 1 = .ok (.aload_n 0, 1) := by decide +kernel
theorem dX5_send_2 : decode cX5_send 2 = .ok (.getfield 23, 3) := by decide +kernel
theorem dX5_send_5 : decode cX5_send 5 = .ok (.iconst 1, 1) := by decide +kernel
theorem dX5_send_6 : decode cX5_send 6 = .ok (.iadd, 1) := by decide +kernel
theorem dX5_send_7 : decode cX5_send 7 = .ok (.ldc 26, 2) := by decide +kernel
theorem dX5_send_9 : decode cX5_send 9 = .ok (.iand, 1) := by decide +kernel
theorem dX5_send_10 : decode cX5_send 10 = .ok (.putfield 23, 3) := by decide +kernel
theorem dX5_send_13 : decode cX5_send 13 = .ok (.aload_n 0, 1) := by decide +kernel
theorem dX5_send_14 : decode cX5_send 14 = .ok (.getfield 9, 3) := by decide +kernel
theorem dX5_send_17 : decode cX5_send 17 = .ok (.iconst 0, 1) := by decide +kernel
theorem dX5_send_18 : decode cX5_send 18 = .ok (.sipush 17664, 3) := by decide +kernel
theorem dX5_send_21 : decode cX5_send 21 = .ok (.invokestatic 27, 3) := by decide +kernel
theorem dX5_send_24 : decode cX5_send 24 = .ok (.aload_n 0, 1) := by decide +kernel
theorem dX5_send_25 : decode cX5_send 25 = .ok (.getfield 9, 3) := by decide +kernel
theorem dX5_send_28 : decode cX5_send 28 = .ok (.iconst 2, 1) := by decide +kernel
theorem dX5_send_29 : decode cX5_send 29 = .ok (.bipush 20, 2) := by decide +kernel
theorem dX5_send_31 : decode cX5_send 31 = .ok (.iload_n 3, 1) := by decide +kernel
theorem dX5_send_32 : decode cX5_send 32 = .ok (.iadd, 1) := by decide +kernel
theorem dX5_send_33 : decode cX5_send 33 = .ok (.invokestatic 27, 3) := by decide +kernel
theorem dX5_send_36 : decode cX5_send 36 = .ok (.aload_n 0, 1) := by decide +kernel
theorem dX5_send_37 : decode cX5_send 37 = .ok (.getfield 9, 3) := by decide +kernel
theorem dX5_send_40 : decode cX5_send 40 = .ok (.iconst 4, 1) := by decide +kernel
theorem dX5_send_41 : decode cX5_send 41 = .ok (.aload_n 0, 1) := by decide +kernel
theorem dX5_send_42 : decode cX5_send 42 = .ok (.getfield 23, 3) := by decide +kernel
theorem dX5_send_45 : decode cX5_send 45 = .ok (.invokestatic 27, 3) := by decide +kernel
theorem dX5_send_48 : decode cX5_send 48 = .ok (.aload_n 0, 1) := by decide +kernel
theorem dX5_send_49 : decode cX5_send 49 = .ok (.getfield 9, 3) := by decide +kernel
theorem dX5_send_52 : decode cX5_send 52 = .ok (.bipush 6, 2) := by decide +kernel
theorem dX5_send_54 : decode cX5_send 54 = .ok (.sipush 16384, 3) := by decide +kernel
theorem dX5_send_57 : decode cX5_send 57 = .ok (.invokestatic 27, 3) := by decide +kernel
theorem dX5_send_60 : decode cX5_send 60 = .ok (.aload_n 0, 1) := by decide +kernel
theorem dX5_send_61 : decode cX5_send 61 = .ok (.getfield 9, 3) := by decide +kernel
theorem dX5_send_64 : decode cX5_send 64 = .ok (.bipush 8, 2) := by decide +kernel
theorem dX5_send_66 : decode cX5_send 66 = .ok (.bipush 64, 2) := by decide +kernel
theorem dX5_send_68 : decode cX5_send 68 = .ok (.bastore, 1) := by decide +kernel
theorem dX5_send_69 : decode cX5_send 69 = .ok (.aload_n 0, 1) := by decide +kernel
theorem dX5_send_70 : decode cX5_send 70 = .ok (.getfield 9, 3) := by decide +kernel
theorem dX5_send_73 : decode cX5_send 73 = .ok (.bipush 9, 2) := by decide +kernel
theorem dX5_send_75 : decode cX5_send 75 = .ok (.iload_n 2, 1) := by decide +kernel
theorem dX5_send_76 : decode cX5_send 76 = .ok (.i2b, 1) := by decide +kernel
theorem dX5_send_77 : decode cX5_send 77 = .ok (.bastore, 1) := by decide +kernel
theorem dX5_send_78 : decode cX5_send 78 = .ok (.aload_n 0, 1) := by decide +kernel
theorem dX5_send_79 : decode cX5_send 79 = .ok (.getfield 9, 3) := by decide +kernel
theorem dX5_send_82 : decode cX5_send 82 = .ok (.bipush 10, 2) := by decide +kernel
theorem dX5_send_84 : decode cX5_send 84 = .ok (.iconst 0, 1) := by decide +kernel
theorem dX5_send_85 : decode cX5_send 85 = .ok (.invokestatic 27, 3) := by decide +kernel
theorem dX5_send_88 : decode cX5_send 88 = .ok (.aload_n 0, 1) := by decide +kernel
theorem dX5_send_89 : decode cX5_send 89 = .ok (.getfield 9, 3) := by decide +kernel
theorem dX5_send_92 : decode cX5_send 92 = .ok (.bipush 12, 2) := by decide +kernel
theorem dX5_send_94 : decode cX5_send 94 = .ok (.aload_n 0, 1) := by decide +kernel
theorem dX5_send_95 : decode cX5_send 95 = .ok (.getfield 19, 3) := by decide +kernel
theorem dX5_send_98 : decode cX5_send 98 = .ok (.invokestatic 33, 3) := by decide +kernel
theorem dX5_send_101 : decode cX5_send 101 = .ok (.aload_n 0, 1) := by decide +kernel
theorem dX5_send_102 : decode cX5_send 102 = .ok (.getfield 9, 3) := by decide +kernel
theorem dX5_send_105 : decode cX5_send 105 = .ok (.bipush 16, 2) := by decide +kernel
theorem dX5_send_107 : decode cX5_send 107 = .ok (.iload_n 1, 1) := by decide +kernel
theorem dX5_send_108 : decode cX5_send 108 = .ok (.invokestatic 33, 3) := by decide +kernel
theorem dX5_send_111 : decode cX5_send 111 = .ok (.aload_n 0, 1) := by decide +kernel
theorem dX5_send_112 : decode cX5_send 112 = .ok (.getfield 9, 3) := by decide +kernel
theorem dX5_send_115 : decode cX5_send 115 = .ok (.bipush 10, 2) := by decide +kernel
theorem dX5_send_117 : decode cX5_send 117 = .ok (.iconst 0, 1) := by decide +kernel
theorem dX5_send_118 : decode cX5_send 118 = .ok (.aload_n 0, 1) := by decide +kernel
theorem dX5_send_119 : decode cX5_send 119 = .ok (.getfield 9, 3) := by decide +kernel
theorem dX5_send_122 : decode cX5_send 122 = .ok (.iconst 0, 1) := by decide +kernel
theorem dX5_send_123 : decode cX5_send 123 = .ok (.bipush 20, 2) := by decide +kernel
theorem dX5_send_125 : decode cX5_send 125 = .ok (.invokestatic 36, 3) := by decide +kernel
theorem dX5_send_128 : decode cX5_send 128 = .ok (.invokestatic 40, 3) := by decide +kernel
theorem dX5_send_131 : decode cX5_send 131 = .ok (.invokestatic 27, 3) := by decide +kernel
theorem dX5_send_134 : decode cX5_send 134 = .ok (.aload_n 0, 1) := by decide +kernel
theorem dX5_send_135 : decode cX5_send 135 = .ok (.getfield 15, 3) := by decide +kernel
theorem dX5_send_138 : decode cX5_send 138 = .ok (.iload_n 1, 1) := by decide +kernel
theorem dX5_send_139 : decode cX5_send 139 = .ok (.aload_n 0, 1) := by decide +kernel
theorem dX5_send_140 : decode cX5_send 140 = .ok (.getfield 9, 3) := by decide +kernel
theorem dX5_send_143 : decode cX5_send 143 = .ok (.bipush 20, 2) := by decide +kernel
theorem dX5_send_145 : decode cX5_send 145 = .ok (.iload_n 3, 1) := by decide +kernel
theorem dX5_send_146 : decode cX5_send 146 = .ok (.iadd, 1) := by decide +kernel
theorem dX5_send_147 : decode cX5_send 147 = .ok (.invokevirtual 44, 3) := by decide +kernel
theorem dX5_send_150 : decode cX5_send 150 = .ok (.return_, 1) := by decide +kernel
def rmX5_send : Room := { frames := 4, cells := 0, slots := 0, locals := 104 }
theorem kX5_send : yX5_send.cls = "WebHost$Packets" ∧ yX5_send.cls ≠ "java/lang/invoke/MethodHandle" ∧ yX5_send.cls ≠ "java/lang/invoke/VarHandle" ∧ (parseMethodDescriptor yX5_send.desc).map (fun d => d.parameters.length) = some 3 := by decide +kernel
def w5_send (σ : St) (x1 : Int32) (x2 : Int32) (x3 : Int32) (Q : St → Prop) : Prop := ∀ σ1, σ1 = up3 σ 5 0 2 (((σ 5 0 2) + 1) &&& 65535) → (w19_putTwo σ1 36 0 0 17664 (fun σ2 => (w19_putTwo σ2 36 0 2 (20 + x3) (fun σ3 => (w19_putTwo σ3 36 0 4 (σ3 5 0 2) (fun σ4 => (w19_putTwo σ4 36 0 6 16384 (fun σ5 => (vp_in 8 1500 ∧ (∀ σ6, σ6 = up3 σ5 36 0 (8 : Int32).toNatClampNeg (64 : Int32).toInt8.toInt32 → (vp_in 9 1500 ∧ (∀ σ7, σ7 = up3 σ6 36 0 (9 : Int32).toNatClampNeg x2.toInt8.toInt32.toInt8.toInt32 → (w19_putTwo σ7 36 0 10 0 (fun σ8 => (w19_putFour σ8 36 0 12 (σ8 5 0 1) (fun σ9 => (w19_putFour σ9 36 0 16 x1 (fun σ10 => (w19_added σ10 0 36 0 0 20 (fun r11 => (w19_folded σ10 r11 (fun r12 => (w19_putTwo σ10 36 0 10 r12 (fun σ13 => (w3_send σ13 x1 36 0 (20 + x3) (fun σ14 => (Q σ14)))))))))))))))))))))))))))
set_option maxHeartbeats 4000000 in
theorem m5_send (l : Launch) (G : Gh) (a1 : Nat → Nat → Nat) (τ : St) (σ : St) (x1 : Int32) (x2 : Int32) (x3 : Int32) (Q : St → Prop) (hw : w5_send σ x1 x2 x3 Q) : Met l yX5_send (ws_ yX5_send cX5_send 4 none) rmX5_send (PcS G a1 (cmb σ τ) [.ref (ga G 5 0), .int x1, .int x2, .int x3]) (QVs G a1 (fun u => cmb u τ) Q) 0 0 (gA G) := by
  refine met_w (by decide) (Nat.le_of_ble_eq_true rfl) ?_
  intro p e s m below meth c ls C hH hS hl
  have C : Cx p e s m _ meth c cX5_send 4 none "WebHost$Packets" G := C
  have hl : lv_has ls 4 [(0, .ref (ga G 5 0)), (1, .int x1), (2, .int x2), (3, .int x3)] := hl
  have hx := C.1
  have hb := C.2.1
  have hown := C.2.2.2.2.2.1
  have hts := C.2.2.2.2.2.2.1
  obtain ⟨locs, hlocs⟩ : ∃ z : List Loc, z = [] := ⟨_, rfl⟩
  obtain ⟨H, hHe⟩ : ∃ z : Heap, z = s.heap := ⟨_, rfl⟩
  have hH : Hd G a1 (cmb σ τ) H := by rw [hHe]; exact hH
  have hS : va_S (gA G) s.heap H locs := by rw [hHe, hlocs]; exact hS
  refine W.heap0 hHe.symm hlocs.symm ?_
  refine lv_aload_n hx hb dX5_send_0 rfl (lv_at hl 0 rfl) ?_
  refine lv_aload_n hx hb dX5_send_1 rfl (lv_at hl 0 rfl) ?_
  refine g5_2 C hH q328 dX5_send_2 ?_
  refine lv_iconst (v := 1) hx hb dX5_send_5 (by decide) ?_
  refine lv_iadd hx hb dX5_send_6 ?_
  refine lv_ldc (v := 65535) hx hb hown (hts _ q1000) dX5_send_7 ?_
  refine lv_iand hx hb dX5_send_9 ?_
  refine p5_2 C hH hS q328 dX5_send_10 (fun σ1 e1 H locs hH hS => ?_)
  have hw := hw σ1 e1
  refine lv_aload_n hx hb dX5_send_13 rfl (lv_at hl 0 rfl) ?_
  refine g5_3 C hH q329 dX5_send_14 ?_
  refine lv_iconst (v := 0) hx hb dX5_send_17 (by decide) ?_
  refine lv_sipush (v := 17664) hx hb dX5_send_18 (by decide) ?_
  refine kc_v (rn_s (As := [.ref (adr G a1 36 0), .int 0, .int 17664]) (rest := []) C hH hS (m19_putTwo l G a1 τ σ1 36 0 0 17664 (by decide) _ hw) (va_cwS 3 hts (lw_S q1001 q794 q176 q795) rfl rfl rfl kX19_putTwo.2 ⟨Nat.le_of_ble_eq_true rfl, Nat.le_of_ble_eq_true rfl⟩) rfl hl.1 rfl (Nat.le_of_ble_eq_true rfl) dX5_send_21 ⟨Nat.le_of_ble_eq_true rfl, Nat.le_of_ble_eq_true rfl⟩) hS (fun σ2 H locs hw hH hS => ?_)
  refine lv_aload_n hx hb dX5_send_24 rfl (lv_at hl 0 rfl) ?_
  refine g5_3 C hH q329 dX5_send_25 ?_
  refine lv_iconst (v := 2) hx hb dX5_send_28 (by decide) ?_
  refine lv_bipush (v := 20) hx hb dX5_send_29 (by decide) ?_
  refine lv_iload_n hx hb dX5_send_31 rfl (lv_at hl 3 rfl) ?_
  refine lv_iadd hx hb dX5_send_32 ?_
  refine kc_v (rn_s (As := [.ref (adr G a1 36 0), .int 2, .int (20 + x3)]) (rest := []) C hH hS (m19_putTwo l G a1 τ σ2 36 0 2 (20 + x3) (by decide) _ hw) (va_cwS 3 hts (lw_S q1001 q794 q176 q795) rfl rfl rfl kX19_putTwo.2 ⟨Nat.le_of_ble_eq_true rfl, Nat.le_of_ble_eq_true rfl⟩) rfl hl.1 rfl (Nat.le_of_ble_eq_true rfl) dX5_send_33 ⟨Nat.le_of_ble_eq_true rfl, Nat.le_of_ble_eq_true rfl⟩) hS (fun σ3 H locs hw hH hS => ?_)
  refine lv_aload_n hx hb dX5_send_36 rfl (lv_at hl 0 rfl) ?_
  refine g5_3 C hH q329 dX5_send_37 ?_
  refine lv_iconst (v := 4) hx hb dX5_send_40 (by decide) ?_
  refine lv_aload_n hx hb dX5_send_41 rfl (lv_at hl 0 rfl) ?_
  refine g5_2 C hH q328 dX5_send_42 ?_
  refine kc_v (rn_s (As := [.ref (adr G a1 36 0), .int 4, .int (σ3 5 0 2)]) (rest := []) C hH hS (m19_putTwo l G a1 τ σ3 36 0 4 (σ3 5 0 2) (by decide) _ hw) (va_cwS 3 hts (lw_S q1001 q794 q176 q795) rfl rfl rfl kX19_putTwo.2 ⟨Nat.le_of_ble_eq_true rfl, Nat.le_of_ble_eq_true rfl⟩) rfl hl.1 rfl (Nat.le_of_ble_eq_true rfl) dX5_send_45 ⟨Nat.le_of_ble_eq_true rfl, Nat.le_of_ble_eq_true rfl⟩) hS (fun σ4 H locs hw hH hS => ?_)
  refine lv_aload_n hx hb dX5_send_48 rfl (lv_at hl 0 rfl) ?_
  refine g5_3 C hH q329 dX5_send_49 ?_
  refine lv_bipush (v := 6) hx hb dX5_send_52 (by decide) ?_
  refine lv_sipush (v := 16384) hx hb dX5_send_54 (by decide) ?_
  refine kc_v (rn_s (As := [.ref (adr G a1 36 0), .int 6, .int 16384]) (rest := []) C hH hS (m19_putTwo l G a1 τ σ4 36 0 6 16384 (by decide) _ hw) (va_cwS 3 hts (lw_S q1001 q794 q176 q795) rfl rfl rfl kX19_putTwo.2 ⟨Nat.le_of_ble_eq_true rfl, Nat.le_of_ble_eq_true rfl⟩) rfl hl.1 rfl (Nat.le_of_ble_eq_true rfl) dX5_send_57 ⟨Nat.le_of_ble_eq_true rfl, Nat.le_of_ble_eq_true rfl⟩) hS (fun σ5 H locs hw hH hS => ?_)
  refine lv_aload_n hx hb dX5_send_60 rfl (lv_at hl 0 rfl) ?_
  refine g5_3 C hH q329 dX5_send_61 ?_
  refine lv_bipush (v := 8) hx hb dX5_send_64 (by decide) ?_
  refine lv_bipush (v := 64) hx hb dX5_send_66 (by decide) ?_
  refine s36 C hH hS hw.1 dX5_send_68 (fun σ6 e6 H locs hH hS => ?_)
  have hw := hw.2 σ6 e6
  refine lv_aload_n hx hb dX5_send_69 rfl (lv_at hl 0 rfl) ?_
  refine g5_3 C hH q329 dX5_send_70 ?_
  refine lv_bipush (v := 9) hx hb dX5_send_73 (by decide) ?_
  refine lv_iload_n hx hb dX5_send_75 rfl (lv_at hl 2 rfl) ?_
  refine lv_i2b (v := x2.toInt8.toInt32) hx hb dX5_send_76 rfl ?_
  refine s36 C hH hS hw.1 dX5_send_77 (fun σ7 e7 H locs hH hS => ?_)
  have hw := hw.2 σ7 e7
  refine lv_aload_n hx hb dX5_send_78 rfl (lv_at hl 0 rfl) ?_
  refine g5_3 C hH q329 dX5_send_79 ?_
  refine lv_bipush (v := 10) hx hb dX5_send_82 (by decide) ?_
  refine lv_iconst (v := 0) hx hb dX5_send_84 (by decide) ?_
  refine kc_v (rn_s (As := [.ref (adr G a1 36 0), .int 10, .int 0]) (rest := []) C hH hS (m19_putTwo l G a1 τ σ7 36 0 10 0 (by decide) _ hw) (va_cwS 3 hts (lw_S q1001 q794 q176 q795) rfl rfl rfl kX19_putTwo.2 ⟨Nat.le_of_ble_eq_true rfl, Nat.le_of_ble_eq_true rfl⟩) rfl hl.1 rfl (Nat.le_of_ble_eq_true rfl) dX5_send_85 ⟨Nat.le_of_ble_eq_true rfl, Nat.le_of_ble_eq_true rfl⟩) hS (fun σ8 H locs hw hH hS => ?_)
  refine lv_aload_n hx hb dX5_send_88 rfl (lv_at hl 0 rfl) ?_
  refine g5_3 C hH q329 dX5_send_89 ?_
  refine lv_bipush (v := 12) hx hb dX5_send_92 (by decide) ?_
  refine lv_aload_n hx hb dX5_send_94 rfl (lv_at hl 0 rfl) ?_
  refine g5_1 C hH q327 dX5_send_95 ?_
  refine kc_v (rn_s (As := [.ref (adr G a1 36 0), .int 12, .int (σ8 5 0 1)]) (rest := []) C hH hS (m19_putFour l G a1 τ σ8 36 0 12 (σ8 5 0 1) (by decide) _ hw) (va_cwS 3 hts (lw_S q1002 q791 q176 q792) rfl rfl rfl kX19_putFour.2 ⟨Nat.le_of_ble_eq_true rfl, Nat.le_of_ble_eq_true rfl⟩) rfl hl.1 rfl (Nat.le_of_ble_eq_true rfl) dX5_send_98 ⟨Nat.le_of_ble_eq_true rfl, Nat.le_of_ble_eq_true rfl⟩) hS (fun σ9 H locs hw hH hS => ?_)
  refine lv_aload_n hx hb dX5_send_101 rfl (lv_at hl 0 rfl) ?_
  refine g5_3 C hH q329 dX5_send_102 ?_
  refine lv_bipush (v := 16) hx hb dX5_send_105 (by decide) ?_
  refine lv_iload_n hx hb dX5_send_107 rfl (lv_at hl 1 rfl) ?_
  refine kc_v (rn_s (As := [.ref (adr G a1 36 0), .int 16, .int x1]) (rest := []) C hH hS (m19_putFour l G a1 τ σ9 36 0 16 x1 (by decide) _ hw) (va_cwS 3 hts (lw_S q1002 q791 q176 q792) rfl rfl rfl kX19_putFour.2 ⟨Nat.le_of_ble_eq_true rfl, Nat.le_of_ble_eq_true rfl⟩) rfl hl.1 rfl (Nat.le_of_ble_eq_true rfl) dX5_send_108 ⟨Nat.le_of_ble_eq_true rfl, Nat.le_of_ble_eq_true rfl⟩) hS (fun σ10 H locs hw hH hS => ?_)
  refine lv_aload_n hx hb dX5_send_111 rfl (lv_at hl 0 rfl) ?_
  refine g5_3 C hH q329 dX5_send_112 ?_
  refine lv_bipush (v := 10) hx hb dX5_send_115 (by decide) ?_
  refine lv_iconst (v := 0) hx hb dX5_send_117 (by decide) ?_
  refine lv_aload_n hx hb dX5_send_118 rfl (lv_at hl 0 rfl) ?_
  refine g5_3 C hH q329 dX5_send_119 ?_
  refine lv_iconst (v := 0) hx hb dX5_send_122 (by decide) ?_
  refine lv_bipush (v := 20) hx hb dX5_send_123 (by decide) ?_
  refine kc_ip (rn_sp (As := [.int 0, .ref (adr G a1 36 0), .int 0, .int 20]) (rest := [.int 10, .ref (adr G a1 36 0)]) C hH hS (m19_added l G a1 τ σ10 H 0 36 0 0 20 (by decide) _ hw) (va_cwS 4 hts (lw_S q1003 q990 q176 q991) rfl rfl rfl kX19_added.2 ⟨Nat.le_of_ble_eq_true rfl, Nat.le_of_ble_eq_true rfl⟩) rfl hl.1 rfl (Nat.le_of_ble_eq_true rfl) dX5_send_125 ⟨Nat.le_of_ble_eq_true rfl, Nat.le_of_ble_eq_true rfl⟩) hS (fun r11 locs hw hS => ?_)
  refine kc_ip (rn_sp (As := [.int r11]) (rest := [.int 10, .ref (adr G a1 36 0)]) C hH hS (m19_folded l G a1 τ σ10 H r11 _ hw) (va_cwS 1 hts (lw_S q1004 q993 q176 q994) rfl rfl rfl kX19_folded.2 ⟨Nat.le_of_ble_eq_true rfl, Nat.le_of_ble_eq_true rfl⟩) rfl hl.1 rfl (Nat.le_of_ble_eq_true rfl) dX5_send_128 ⟨Nat.le_of_ble_eq_true rfl, Nat.le_of_ble_eq_true rfl⟩) hS (fun r12 locs hw hS => ?_)
  refine kc_v (rn_s (As := [.ref (adr G a1 36 0), .int 10, .int r12]) (rest := []) C hH hS (m19_putTwo l G a1 τ σ10 36 0 10 r12 (by decide) _ hw) (va_cwS 3 hts (lw_S q1001 q794 q176 q795) rfl rfl rfl kX19_putTwo.2 ⟨Nat.le_of_ble_eq_true rfl, Nat.le_of_ble_eq_true rfl⟩) rfl hl.1 rfl (Nat.le_of_ble_eq_true rfl) dX5_send_131 ⟨Nat.le_of_ble_eq_true rfl, Nat.le_of_ble_eq_true rfl⟩) hS (fun σ13 H locs hw hH hS => ?_)
  refine lv_aload_n hx hb dX5_send_134 rfl (lv_at hl 0 rfl) ?_
  refine g5_0 C hH q326 dX5_send_135 ?_
  refine lv_iload_n hx hb dX5_send_138 rfl (lv_at hl 1 rfl) ?_
  refine lv_aload_n hx hb dX5_send_139 rfl (lv_at hl 0 rfl) ?_
  refine g5_3 C hH q329 dX5_send_140 ?_
  refine lv_bipush (v := 20) hx hb dX5_send_143 (by decide) ?_
  refine lv_iload_n hx hb dX5_send_145 rfl (lv_at hl 3 rfl) ?_
  refine lv_iadd hx hb dX5_send_146 ?_
  refine kc_v (rn_v (As := [.int x1, .ref (adr G a1 36 0), .int (20 + x3)]) (rest := []) C hH hS (by decide) rfl (by decide) (m3_send l G a1 τ σ13 x1 36 0 (20 + x3) (by decide) _ hw) (cwV 3 hts (lw_V q1005 q1006 q1007 q160 q1008) rfl rfl rfl kX3_send ⟨Nat.le_of_ble_eq_true rfl, Nat.le_of_ble_eq_true rfl⟩) rfl hl.1 rfl (Nat.le_of_ble_eq_true rfl) dX5_send_147 ⟨Nat.le_of_ble_eq_true rfl, Nat.le_of_ble_eq_true rfl⟩) hS (fun σ14 H locs hw hH hS => ?_)
  exact rt_v C hH hS hw dX5_send_150
/-! WebHostModel.askAgain(LWebHostModel$Packet;)V -/
abbrev cX14_askAgain : ByteArray := prog_17_method_27_code
def yX14_askAgain : MethodName := ⟨RX14, "askAgain", "(LWebHostModel$Packet;)V"⟩
theorem dX14_askAgain_0 : decode cX14_askAgain 0 = .ok (.aload_n 1, 1) := by decide +kernel
theorem dX14_askAgain_1 : decode cX14_askAgain 1 = .ok (.getfield 233, 3) := by decide +kernel
theorem dX14_askAgain_4 : decode cX14_askAgain 4 = .ok (.iconst 3, 1) := by decide +kernel
theorem dX14_askAgain_5 : decode cX14_askAgain 5 = .ok (.if_icmp .ne 11, 3) := by decide +kernel
theorem dX14_askAgain_8 : decode cX14_askAgain 8 = .ok (.aload_n 1, 1) := by decide +kernel
theorem dX14_askAgain_9 : decode cX14_askAgain 9 = .ok (.iconst 0, 1) := by decide +kernel
theorem dX14_askAgain_10 : decode cX14_askAgain 10 = .ok (.putfield 158, 3) := by decide +kernel
theorem dX14_askAgain_13 : decode cX14_askAgain 13 = .ok (.goto 21, 3) := by decide +kernel
theorem dX14_askAgain_16 : decode cX14_askAgain 16 = .ok (.aload_n 1, 1) := by decide +kernel
theorem dX14_askAgain_17 : decode cX14_askAgain 17 = .ok (.dup, 1) := by decide +kernel
theorem dX14_askAgain_18 : decode cX14_askAgain 18 = .ok (.getfield 233, 3) := by decide +kernel
theorem dX14_askAgain_21 : decode cX14_askAgain 21 = .ok (.iconst 1, 1) := by decide +kernel
theorem dX14_askAgain_22 : decode cX14_askAgain 22 = .ok (.iadd, 1) := by decide +kernel
theorem dX14_askAgain_23 : decode cX14_askAgain 23 = .ok (.putfield 233, 3) := by decide +kernel
theorem dX14_askAgain_26 : decode cX14_askAgain 26 = .ok (.aload_n 0, 1) := by decide +kernel
theorem dX14_askAgain_27 : decode cX14_askAgain 27 = .ok (.aload_n 1, 1) := by decide +kernel
theorem dX14_askAgain_28 : decode cX14_askAgain 28 = .ok (.getfield 182, 3) := by decide +kernel
theorem dX14_askAgain_31 : decode cX14_askAgain 31 = .ok (.invokevirtual 237, 3) := by decide +kernel
theorem dX14_askAgain_34 : decode cX14_askAgain 34 = .ok (.return_, 1) := by decide +kernel
def rmX14_askAgain : Room := { frames := 4, cells := 0, slots := 0, locals := 98 }
theorem kX14_askAgain : yX14_askAgain.cls = "WebHostModel" ∧ yX14_askAgain.cls ≠ "java/lang/invoke/MethodHandle" ∧ yX14_askAgain.cls ≠ "java/lang/invoke/VarHandle" ∧ (parseMethodDescriptor yX14_askAgain.desc).map (fun d => d.parameters.length) = some 1 := by decide +kernel
def w14_askAgain (σ : St) (o1 : Nat) (Q : St → Prop) : Prop := (¬ (σ 17 o1 4) = 3 → (∀ σ1, σ1 = up3 σ 17 o1 4 ((σ 17 o1 4) + 1) → (w14_ask σ1 (σ1 17 o1 1) (fun σ2 => (Q σ2))))) ∧ ((σ 17 o1 4) = 3 → (∀ σ3, σ3 = up3 σ 17 o1 0 0 → (Q σ3)))
set_option maxHeartbeats 4000000 in
theorem m14_askAgain (l : Launch) (G : Gh) (a1 : Nat → Nat → Nat) (τ : St) (σ : St) (o1 : Nat) (ho1 : o1 < 8) (Q : St → Prop) (hw : w14_askAgain σ o1 Q) : Met l yX14_askAgain (ws_ yX14_askAgain cX14_askAgain 2 none) rmX14_askAgain (PcS G a1 (cmb τ σ) [.ref (ga G 14 0), .ref (ga G 17 o1)]) (QVs G a1 (fun u => cmb τ u) Q) 0 0 (gA G) := by
  refine met_w (by decide) (Nat.le_of_ble_eq_true rfl) ?_
  intro p e s m below meth c ls C hH hS hl
  have C : Cx p e s m _ meth c cX14_askAgain 2 none "WebHostModel" G := C
  have hl : lv_has ls 2 [(0, .ref (ga G 14 0)), (1, .ref (ga G 17 o1))] := hl
  have hx := C.1
  have hb := C.2.1
  have hown := C.2.2.2.2.2.1
  have hts := C.2.2.2.2.2.2.1
  obtain ⟨locs, hlocs⟩ : ∃ z : List Loc, z = [] := ⟨_, rfl⟩
  obtain ⟨H, hHe⟩ : ∃ z : Heap, z = s.heap := ⟨_, rfl⟩
  have hH : Hd G a1 (cmb τ σ) H := by rw [hHe]; exact hH
  have hS : va_S (gA G) s.heap H locs := by rw [hHe, hlocs]; exact hS
  refine W.heap0 hHe.symm hlocs.symm ?_
  refine lv_aload_n hx hb dX14_askAgain_0 rfl (lv_at hl 1 rfl) ?_
  refine g17_4 C hH ho1 q1886 dX14_askAgain_1 ?_
  refine lv_iconst (v := 3) hx hb dX14_askAgain_4 (by decide) ?_
  refine lv_icmp_ne (tgt := 16) hx hb dX14_askAgain_5 (by decide) (fun h => ?_) (fun h => ?_)
  · have hw := hw.1 h
    refine lv_aload_n hx hb dX14_askAgain_16 rfl (lv_at hl 1 rfl) ?_
    refine lv_dup hx hb dX14_askAgain_17 rfl ?_
    refine g17_4 C hH ho1 q1886 dX14_askAgain_18 ?_
    refine lv_iconst (v := 1) hx hb dX14_askAgain_21 (by decide) ?_
    refine lv_iadd hx hb dX14_askAgain_22 ?_
    refine p17_4 C hH hS ho1 q1886 dX14_askAgain_23 (fun σ1 e1 H locs hH hS => ?_)
    have hw := hw σ1 e1
    refine lv_aload_n hx hb dX14_askAgain_26 rfl (lv_at hl 0 rfl) ?_
    refine lv_aload_n hx hb dX14_askAgain_27 rfl (lv_at hl 1 rfl) ?_
    refine g17_1 C hH ho1 q1883 dX14_askAgain_28 ?_
    refine kc_v (rn_v (As := [.int (σ1 17 o1 1)]) (rest := []) C hH hS (by decide) rfl (by decide) (m14_ask l G a1 τ σ1 (σ1 17 o1 1) _ hw) (cwV 1 hts (lw_V q2209 q2211 qs82 q171 q2212) rfl rfl rfl kX14_ask ⟨Nat.le_of_ble_eq_true rfl, Nat.le_of_ble_eq_true rfl⟩) rfl hl.1 rfl (Nat.le_of_ble_eq_true rfl) dX14_askAgain_31 ⟨Nat.le_of_ble_eq_true rfl, Nat.le_of_ble_eq_true rfl⟩) hS (fun σ2 H locs hw hH hS => ?_)
    exact rt_v C hH hS hw dX14_askAgain_34
  have hw := hw.2 h
  refine lv_aload_n hx hb dX14_askAgain_8 rfl (lv_at hl 1 rfl) ?_
  refine lv_iconst (v := 0) hx hb dX14_askAgain_9 (by decide) ?_
  refine p17_0 C hH hS ho1 (Or.inl rfl) q1882 dX14_askAgain_10 (fun σ3 e3 H locs hH hS => ?_)
  have hw := hw σ3 e3
  refine lv_goto (tgt := 34) hx hb dX14_askAgain_13 (by decide) ?_
  exact rt_v C hH hS hw dX14_askAgain_34
/-! WebHostModel.ipOut(III)V -/
abbrev cX14_ipOut : ByteArray := prog_17_method_26_code
def yX14_ipOut : MethodName := ⟨RX14, "ipOut", "(III)V"⟩
theorem dX14_ipOut_0 : decode cX14_ipOut 0 = .ok (.aload_n 0, 1) := by decide +kernel
theorem dX14_ipOut_1 : decode cX14_ipOut 1 = .ok (.aload_n 0, 1) := by decide +kernel
theorem dX14_ipOut_2 : decode cX14_ipOut 2 = .ok (.getfield 140, 3) := by decide +kernel
theorem dX14_ipOut_5 : decode cX14_ipOut 5 = .ok (.iconst 1, 1) := by decide +kernel
theorem dX14_ipOut_6 : decode cX14_ipOut 6 = .ok (.iadd, 1) := by decide +kernel
theorem dX14_ipOut_7 : decode cX14_ipOut 7 = .ok (.ldc 14, 2) := by decide +kernel
theorem dX14_ipOut_9 : decode cX14_ipOut 9 = .ok (.iand, 1) := by decide +kernel
theorem dX14_ipOut_10 : decode cX14_ipOut 10 = .ok (.putfield 140, 3) := by decide +kernel
theorem dX14_ipOut_13 : decode cX14_ipOut 13 = .ok (.aload_n 0, 1) := by decide +kernel
theorem dX14_ipOut_14 : decode cX14_ipOut 14 = .ok (.bipush 14, 2) := by decide +kernel
theorem dX14_ipOut_16 : decode cX14_ipOut 16 = .ok (.iconst 2, 1) := by decide +kernel
theorem dX14_ipOut_17 : decode cX14_ipOut 17 = .ok (.sipush 17664, 3) := by decide +kernel
theorem dX14_ipOut_20 : decode cX14_ipOut 20 = .ok (.invokevirtual 160, 3) := by decide +kernel
theorem dX14_ipOut_23 : decode cX14_ipOut 23 = .ok (.aload_n 0, 1) := by decide +kernel
theorem dX14_ipOut_24 : decode cX14_ipOut 24 = .ok (.bipush 16, 2) := by decide +kernel
theorem dX14_ipOut_26 : decode cX14_ipOut 26 = .ok (.iconst 2, 1) := by decide +kernel
theorem dX14_ipOut_27 : decode cX14_ipOut 27 = .ok (.bipush 20, 2) := by decide +kernel
theorem dX14_ipOut_29 : decode cX14_ipOut 29 = .ok (.iload_n 3, 1) := by decide +kernel
theorem dX14_ipOut_30 : decode cX14_ipOut 30 = .ok (.iadd, 1) := by decide +kernel
theorem dX14_ipOut_31 : decode cX14_ipOut 31 = .ok (.invokevirtual 160, 3) := by decide +kernel
theorem dX14_ipOut_34 : decode cX14_ipOut 34 = .ok (.aload_n 0, 1) := by decide +kernel
theorem dX14_ipOut_35 : decode cX14_ipOut 35 = .ok (.bipush 18, 2) := by decide +kernel
theorem dX14_ipOut_37 : decode cX14_ipOut 37 = .ok (.iconst 2, 1) := by decide +kernel
theorem dX14_ipOut_38 : decode cX14_ipOut 38 = .ok (.aload_n 0, 1) := by decide +kernel
theorem dX14_ipOut_39 : decode cX14_ipOut 39 = .ok (.getfield 140, 3) := by decide +kernel
theorem dX14_ipOut_42 : decode cX14_ipOut 42 = .ok (.invokevirtual 160, 3) := by decide +kernel
theorem dX14_ipOut_45 : decode cX14_ipOut 45 = .ok (.aload_n 0, 1) := by decide +kernel
theorem dX14_ipOut_46 : decode cX14_ipOut 46 = .ok (.bipush 20, 2) := by decide +kernel
theorem dX14_ipOut_48 : decode cX14_ipOut 48 = .ok (.iconst 2, 1) := by decide +kernel
theorem dX14_ipOut_49 : decode cX14_ipOut 49 = .ok (.sipush 16384, 3) := by decide +kernel
theorem dX14_ipOut_52 : decode cX14_ipOut 52 = .ok (.invokevirtual 160, 3) := by decide +kernel
theorem dX14_ipOut_55 : decode cX14_ipOut 55 = .ok (.aload_n 0, 1) := by decide +kernel
theorem dX14_ipOut_56 : decode cX14_ipOut 56 = .ok (.bipush 22, 2) := by decide +kernel
theorem dX14_ipOut_58 : decode cX14_ipOut 58 = .ok (.iconst 2, 1) := by decide +kernel
theorem dX14_ipOut_59 : decode cX14_ipOut 59 = .ok (.sipush 16384, 3) := by decide +kernel
theorem dX14_ipOut_62 : decode cX14_ipOut 62 = .ok (.iload_n 2, 1) := by decide +kernel
theorem dX14_ipOut_63 : decode cX14_ipOut 63 = .ok (.ior, 1) := by decide +kernel
theorem dX14_ipOut_64 : decode cX14_ipOut 64 = .ok (.invokevirtual 160, 3) := by decide +kernel
theorem dX14_ipOut_67 : decode cX14_ipOut 67 = .ok (.aload_n 0, 1) := by decide +kernel
theorem dX14_ipOut_68 : decode cX14_ipOut 68 = .ok (.bipush 24, 2) := by decide +kernel
theorem dX14_ipOut_70 : decode cX14_ipOut 70 = .ok (.iconst 2, 1) := by decide +kernel
theorem dX14_ipOut_71 : decode cX14_ipOut 71 = .ok (.iconst 0, 1) := by decide +kernel
theorem dX14_ipOut_72 : decode cX14_ipOut 72 = .ok (.invokevirtual 160, 3) := by decide +kernel
theorem dX14_ipOut_75 : decode cX14_ipOut 75 = .ok (.aload_n 0, 1) := by decide +kernel
theorem dX14_ipOut_76 : decode cX14_ipOut 76 = .ok (.bipush 26, 2) := by decide +kernel
theorem dX14_ipOut_78 : decode cX14_ipOut 78 = .ok (.iconst 4, 1) := by decide +kernel
theorem dX14_ipOut_79 : decode cX14_ipOut 79 = .ok (.aload_n 0, 1) := by decide +kernel
theorem dX14_ipOut_80 : decode cX14_ipOut 80 = .ok (.getfield 119, 3) := by decide +kernel
theorem dX14_ipOut_83 : decode cX14_ipOut 83 = .ok (.invokevirtual 160, 3) := by decide +kernel
theorem dX14_ipOut_86 : decode cX14_ipOut 86 = .ok (.aload_n 0, 1) := by decide +kernel
theorem dX14_ipOut_87 : decode cX14_ipOut 87 = .ok (.bipush 30, 2) := by decide +kernel
theorem dX14_ipOut_89 : decode cX14_ipOut 89 = .ok (.iconst 4, 1) := by decide +kernel
theorem dX14_ipOut_90 : decode cX14_ipOut 90 = .ok (.iload_n 1, 1) := by decide +kernel
theorem dX14_ipOut_91 : decode cX14_ipOut 91 = .ok (.invokevirtual 160, 3) := by decide +kernel
theorem dX14_ipOut_94 : decode cX14_ipOut 94 = .ok (.aload_n 0, 1) := by decide +kernel
theorem dX14_ipOut_95 : decode cX14_ipOut 95 = .ok (.bipush 24, 2) := by decide +kernel
theorem dX14_ipOut_97 : decode cX14_ipOut 97 = .ok (.iconst 2, 1) := by decide +kernel
theorem dX14_ipOut_98 : decode cX14_ipOut 98 = .ok (.aload_n 0, 1) := by decide +kernel
theorem dX14_ipOut_99 : decode cX14_ipOut 99 = .ok (.getfield 34, 3) := by decide +kernel
theorem dX14_ipOut_102 : decode cX14_ipOut 102 = .ok (.bipush 14, 2) := by decide +kernel
theorem dX14_ipOut_104 : decode cX14_ipOut 104 = .ok (.bipush 20, 2) := by decide +kernel
theorem dX14_ipOut_106 : decode cX14_ipOut 106 = .ok (.lconst 0, 1) := by decide +kernel
theorem dX14_ipOut_107 : decode cX14_ipOut 107 = .ok (.invokestatic 216, 3) := by decide +kernel
theorem dX14_ipOut_110 : decode cX14_ipOut 110 = .ok (.invokestatic 220, 3) := by decide +kernel
theorem dX14_ipOut_113 : decode cX14_ipOut 113 = .ok (.invokevirtual 160, 3) := by decide +kernel
theorem dX14_ipOut_116 : decode cX14_ipOut 116 = .ok (.aload_n 0, 1) := by decide +kernel
theorem dX14_ipOut_117 : decode cX14_ipOut 117 = .ok (.iload_n 1, 1) := by decide +kernel
theorem dX14_ipOut_118 : decode cX14_ipOut 118 = .ok (.invokevirtual 224, 3) := by decide +kernel
theorem dX14_ipOut_121 : decode cX14_ipOut 121 = .ok (.aload_n 0, 1) := by decide +kernel
theorem dX14_ipOut_122 : decode cX14_ipOut 122 = .ok (.aload_n 0, 1) := by decide +kernel
theorem dX14_ipOut_123 : decode cX14_ipOut 123 = .ok (.getfield 119, 3) := by decide +kernel
theorem dX14_ipOut_126 : decode cX14_ipOut 126 = .ok (.invokevirtual 224, 3) := by decide +kernel
theorem dX14_ipOut_129 : decode cX14_ipOut 129 = .ok (.if_icmp .ne 7, 3) := by decide +kernel
theorem dX14_ipOut_132 : decode cX14_ipOut 132 = .ok (.iload_n 1, 1) := by decide +kernel
theorem dX14_ipOut_133 : decode cX14_ipOut 133 = .ok (.goto 7, 3) := by decide +kernel
theorem dX14_ipOut_136 : decode cX14_ipOut 136 = .ok (.aload_n 0, 1) := by decide +kernel
theorem dX14_ipOut_137 : decode cX14_ipOut 137 = .ok (.getfield 122, 3) := by decide +kernel
theorem dX14_ipOut_140 : decode cX14_ipOut 140 = .ok (.istore 4, 2) := by decide +kernel
theorem dX14_ipOut_142 : decode cX14_ipOut 142 = .ok (.aload_n 0, 1) := by decide +kernel
theorem dX14_ipOut_143 : decode cX14_ipOut 143 = .ok (.iload 4, 2) := by decide +kernel
theorem dX14_ipOut_145 : decode cX14_ipOut 145 = .ok (.invokevirtual 227, 3) := by decide +kernel
theorem dX14_ipOut_148 : decode cX14_ipOut 148 = .ok (.astore 5, 2) := by decide +kernel
theorem dX14_ipOut_150 : decode cX14_ipOut 150 = .ok (.aload 5, 2) := by decide +kernel
theorem dX14_ipOut_152 : decode cX14_ipOut 152 = .ok (.ifnull 25, 3) := by decide +kernel
theorem dX14_ipOut_155 : decode cX14_ipOut 155 = .ok (.aload_n 0, 1) := by decide +kernel
theorem dX14_ipOut_156 : decode cX14_ipOut 156 = .ok (.aload 5, 2) := by decide +kernel
theorem dX14_ipOut_158 : decode cX14_ipOut 158 = .ok (.getfield 185, 3) := by decide +kernel
theorem dX14_ipOut_161 : decode cX14_ipOut 161 = .ok (.aload 5, 2) := by decide +kernel
theorem dX14_ipOut_163 : decode cX14_ipOut 163 = .ok (.getfield 186, 3) := by decide +kernel
theorem dX14_ipOut_166 : decode cX14_ipOut 166 = .ok (.sipush 2048, 3) := by decide +kernel
theorem dX14_ipOut_169 : decode cX14_ipOut 169 = .ok (.bipush 20, 2) := by decide +kernel
theorem dX14_ipOut_171 : decode cX14_ipOut 171 = .ok (.iload_n 3, 1) := by decide +kernel
theorem dX14_ipOut_172 : decode cX14_ipOut 172 = .ok (.iadd, 1) := by decide +kernel
theorem dX14_ipOut_173 : decode cX14_ipOut 173 = .ok (.invokevirtual 197, 3) := by decide +kernel
theorem dX14_ipOut_176 : decode cX14_ipOut 176 = .ok (.return_, 1) := by decide +kernel
theorem dX14_ipOut_177 : decode cX14_ipOut 177 = .ok (.aload_n 0, 1) := by decide +kernel
theorem dX14_ipOut_178 : decode cX14_ipOut 178 = .ok (.iload 4, 2) := by decide +kernel
theorem dX14_ipOut_180 : decode cX14_ipOut 180 = .ok (.invokevirtual 187, 3) := by decide +kernel
theorem dX14_ipOut_183 : decode cX14_ipOut 183 = .ok (.astore 6, 2) := by decide +kernel
theorem dX14_ipOut_185 : decode cX14_ipOut 185 = .ok (.aload 6, 2) := by decide +kernel
theorem dX14_ipOut_187 : decode cX14_ipOut 187 = .ok (.ifnonnull 7, 3) := by decide +kernel
theorem dX14_ipOut_190 : decode cX14_ipOut 190 = .ok (.iconst 1, 1) := by decide +kernel
theorem dX14_ipOut_191 : decode cX14_ipOut 191 = .ok (.goto 4, 3) := by decide +kernel
theorem dX14_ipOut_194 : decode cX14_ipOut 194 = .ok (.iconst 0, 1) := by decide +kernel
theorem dX14_ipOut_195 : decode cX14_ipOut 195 = .ok (.istore 7, 2) := by decide +kernel
theorem dX14_ipOut_197 : decode cX14_ipOut 197 = .ok (.iconst 0, 1) := by decide +kernel
theorem dX14_ipOut_198 : decode cX14_ipOut 198 = .ok (.istore 8, 2) := by decide +kernel
theorem dX14_ipOut_200 : decode cX14_ipOut 200 = .ok (.iload 8, 2) := by decide +kernel
theorem dX14_ipOut_202 : decode cX14_ipOut 202 = .ok (.bipush 8, 2) := by decide +kernel
theorem dX14_ipOut_204 : decode cX14_ipOut 204 = .ok (.if_icmp .ge 36, 3) := by decide +kernel
theorem dX14_ipOut_207 : decode cX14_ipOut 207 = .ok (.aload 6, 2) := by decide +kernel
theorem dX14_ipOut_209 : decode cX14_ipOut 209 = .ok (.ifnonnull 31, 3) := by decide +kernel
theorem dX14_ipOut_212 : decode cX14_ipOut 212 = .ok (.aload_n 0, 1) := by decide +kernel
theorem dX14_ipOut_213 : decode cX14_ipOut 213 = .ok (.getfield 55, 3) := by decide +kernel
theorem dX14_ipOut_216 : decode cX14_ipOut 216 = .ok (.iload 8, 2) := by decide +kernel
theorem dX14_ipOut_218 : decode cX14_ipOut 218 = .ok (.aaload, 1) := by decide +kernel
theorem dX14_ipOut_219 : decode cX14_ipOut 219 = .ok (.getfield 158, 3) := by decide +kernel
theorem dX14_ipOut_222 : decode cX14_ipOut 222 = .ok (.ifCond .ne 12, 3) := by decide +kernel
theorem dX14_ipOut_225 : decode cX14_ipOut 225 = .ok (.aload_n 0, 1) := by decide +kernel
theorem dX14_ipOut_226 : decode cX14_ipOut 226 = .ok (.getfield 55, 3) := by decide +kernel
theorem dX14_ipOut_229 : decode cX14_ipOut 229 = .ok (.iload 8, 2) := by decide +kernel
theorem dX14_ipOut_231 : decode cX14_ipOut 231 = .ok (.aaload, 1) := by decide +kernel
theorem dX14_ipOut_232 : decode cX14_ipOut 232 = .ok (.astore 6, 2) := by decide +kernel
theorem dX14_ipOut_234 : decode cX14_ipOut 234 = .ok (.iinc 8 1, 3) := by decide +kernel
theorem dX14_ipOut_237 : decode cX14_ipOut 237 = .ok (.goto (-37), 3) := by decide +kernel
theorem dX14_ipOut_240 : decode cX14_ipOut 240 = .ok (.aload 6, 2) := by decide +kernel
theorem dX14_ipOut_242 : decode cX14_ipOut 242 = .ok (.ifnonnull 4, 3) := by decide +kernel
theorem dX14_ipOut_245 : decode cX14_ipOut 245 = .ok (.return_, 1) := by decide +kernel
theorem dX14_ipOut_246 : decode cX14_ipOut 246 = .ok (.aload 6, 2) := by decide +kernel
theorem dX14_ipOut_248 : decode cX14_ipOut 248 = .ok (.iconst 1, 1) := by decide +kernel
theorem dX14_ipOut_249 : decode cX14_ipOut 249 = .ok (.putfield 158, 3) := by decide +kernel
theorem dX14_ipOut_252 : decode cX14_ipOut 252 = .ok (.aload 6, 2) := by decide +kernel
theorem dX14_ipOut_254 : decode cX14_ipOut 254 = .ok (.iload 4, 2) := by decide +kernel
theorem dX14_ipOut_256 : decode cX14_ipOut 256 = .ok (.putfield 182, 3) := by decide +kernel
theorem dX14_ipOut_259 : decode cX14_ipOut 259 = .ok (.aload 6, 2) := by decide +kernel
theorem dX14_ipOut_261 : decode cX14_ipOut 261 = .ok (.bipush 20, 2) := by decide +kernel
theorem dX14_ipOut_263 : decode cX14_ipOut 263 = .ok (.iload_n 3, 1) := by decide +kernel
theorem dX14_ipOut_264 : decode cX14_ipOut 264 = .ok (.iadd, 1) := by decide +kernel
theorem dX14_ipOut_265 : decode cX14_ipOut 265 = .ok (.putfield 191, 3) := by decide +kernel
theorem dX14_ipOut_268 : decode cX14_ipOut 268 = .ok (.iconst 0, 1) := by decide +kernel
theorem dX14_ipOut_269 : decode cX14_ipOut 269 = .ok (.istore 8, 2) := by decide +kernel
theorem dX14_ipOut_271 : decode cX14_ipOut 271 = .ok (.iload 8, 2) := by decide +kernel
theorem dX14_ipOut_273 : decode cX14_ipOut 273 = .ok (.aload 6, 2) := by decide +kernel
theorem dX14_ipOut_275 : decode cX14_ipOut 275 = .ok (.getfield 191, 3) := by decide +kernel
theorem dX14_ipOut_278 : decode cX14_ipOut 278 = .ok (.if_icmp .ge 27, 3) := by decide +kernel
theorem dX14_ipOut_281 : decode cX14_ipOut 281 = .ok (.aload 6, 2) := by decide +kernel
theorem dX14_ipOut_283 : decode cX14_ipOut 283 = .ok (.getfield 194, 3) := by decide +kernel
theorem dX14_ipOut_286 : decode cX14_ipOut 286 = .ok (.iload 8, 2) := by decide +kernel
theorem dX14_ipOut_288 : decode cX14_ipOut 288 = .ok (.aload_n 0, 1) := by decide +kernel
theorem dX14_ipOut_289 : decode cX14_ipOut 289 = .ok (.getfield 34, 3) := by decide +kernel
theorem dX14_ipOut_292 : decode cX14_ipOut 292 = .ok (.bipush 14, 2) := by decide +kernel
theorem dX14_ipOut_294 : decode cX14_ipOut 294 = .ok (.iload 8, 2) := by decide +kernel
theorem dX14_ipOut_296 : decode cX14_ipOut 296 = .ok (.iadd, 1) := by decide +kernel
theorem dX14_ipOut_297 : decode cX14_ipOut 297 = .ok (.baload, 1) := by decide +kernel
theorem dX14_ipOut_298 : decode cX14_ipOut 298 = .ok (.bastore, 1) := by decide +kernel
theorem dX14_ipOut_299 : decode cX14_ipOut 299 = .ok (.iinc 8 1, 3) := by decide +kernel
theorem dX14_ipOut_302 : decode cX14_ipOut 302 = .ok (.goto (-31), 3) := by decide +kernel
theorem dX14_ipOut_305 : decode cX14_ipOut 305 = .ok (.iload 7, 2) := by decide +kernel
theorem dX14_ipOut_307 : decode cX14_ipOut 307 = .ok (.ifCond .ne 4, 3) := by decide +kernel
theorem dX14_ipOut_310 : decode cX14_ipOut 310 = .ok (.return_, 1) := by decide +kernel
theorem dX14_ipOut_311 : decode cX14_ipOut 311 = .ok (.aload 6, 2) := by decide +kernel
theorem dX14_ipOut_313 : decode cX14_ipOut 313 = .ok (.aload_n 0, 1) := by decide +kernel
theorem dX14_ipOut_314 : decode cX14_ipOut 314 = .ok (.getfield 134, 3) := by decide +kernel
theorem dX14_ipOut_317 : decode cX14_ipOut 317 = .ok (.putfield 230, 3) := by decide +kernel
theorem dX14_ipOut_320 : decode cX14_ipOut 320 = .ok (.aload 6, 2) := by decide +kernel
theorem dX14_ipOut_322 : decode cX14_ipOut 322 = .ok (.iconst 1, 1) := by decide +kernel
theorem dX14_ipOut_323 : decode cX14_ipOut 323 = .ok (.putfield 233, 3) := by decide +kernel
theorem dX14_ipOut_326 : decode cX14_ipOut 326 = .ok (.aload_n 0, 1) := by decide +kernel
theorem dX14_ipOut_327 : decode cX14_ipOut 327 = .ok (.dup, 1) := by decide +kernel
theorem dX14_ipOut_328 : decode cX14_ipOut 328 = .ok (.getfield 149, 3) := by decide +kernel
theorem dX14_ipOut_331 : decode cX14_ipOut 331 = .ok (.iconst 1, 1) := by decide +kernel
theorem dX14_ipOut_332 : decode cX14_ipOut 332 = .ok (.iadd, 1) := by decide +kernel
theorem dX14_ipOut_333 : decode cX14_ipOut 333 = .ok (.putfield 149, 3) := by decide +kernel
theorem dX14_ipOut_336 : decode cX14_ipOut 336 = .ok (.aload 6, 2) := by decide +kernel
theorem dX14_ipOut_338 : decode cX14_ipOut 338 = .ok (.aload_n 0, 1) := by decide +kernel
theorem dX14_ipOut_339 : decode cX14_ipOut 339 = .ok (.getfield 149, 3) := by decide +kernel
theorem dX14_ipOut_342 : decode cX14_ipOut 342 = .ok (.putfield 236, 3) := by decide +kernel
theorem dX14_ipOut_345 : decode cX14_ipOut 345 = .ok (.aload_n 0, 1) := by decide +kernel
theorem dX14_ipOut_346 : decode cX14_ipOut 346 = .ok (.iload 4, 2) := by decide +kernel
theorem dX14_ipOut_348 : decode cX14_ipOut 348 = .ok (.invokevirtual 237, 3) := by decide +kernel
theorem dX14_ipOut_351 : decode cX14_ipOut 351 = .ok (.return_, 1) := by decide +kernel
def rmX14_ipOut : Room := { frames := 4, cells := 0, slots := 0, locals := 98 }
theorem kX14_ipOut : yX14_ipOut.cls = "WebHostModel" ∧ yX14_ipOut.cls ≠ "java/lang/invoke/MethodHandle" ∧ yX14_ipOut.cls ≠ "java/lang/invoke/VarHandle" ∧ (parseMethodDescriptor yX14_ipOut.desc).map (fun d => d.parameters.length) = some 3 := by decide +kernel
def w14_ipOut_L200 (σ : St) (x3 : Int32) (x4 : Int32) (x7 : Int32) (Q : St → Prop) (K240 : Option Nat → Prop) : Nat → Option Nat → Int32 → Prop
  | 0, _, _ => False
  | n + 1, p6, x8 => (8 ≤ x8 → K240 p6) ∧ (¬ 8 ≤ x8 → ((p6 = none → (vp_in x8 8 ∧ (bo (σ 17 x8.toNatClampNeg 0) → ((¬ (σ 17 x8.toNatClampNeg 0) = 0 → (w14_ipOut_L200 σ x3 x4 x7 Q K240 n none (x8 + 1))) ∧ ((σ 17 x8.toNatClampNeg 0) = 0 → (vp_in x8 8 ∧ (w14_ipOut_L200 σ x3 x4 x7 Q K240 n (some x8.toNatClampNeg) (x8 + 1)))))))) ∧ (∀ i19, p6 = some i19 → (i19 < 8 ∧ (K240 (some i19))))))
set_option maxHeartbeats 4000000 in
theorem k14_ipOut_L200 {p : Program} {l : Launch} {e : Env} {s : State} {m : MethodId} {args : Array Value} {below : List Frame} {meth : Method} {c : Code} {G : Gh} {a1 : Nat → Nat → Nat} {τ : St} {Q : St → Prop} {K240 : Option Nat → Prop} (C : Cx p e s m args meth c cX14_ipOut 9 none "WebHostModel" G) (σ : St) (x3 : Int32) (x4 : Int32) (x7 : Int32) :
    ∀ (n : Nat) (p6 : Option Nat) (x8 : Int32), w14_ipOut_L200 σ x3 x4 x7 Q K240 n p6 x8 → ∀ (H : Heap) (locs : List Loc) (ls : Array Slot), Hd G a1 (cmb τ σ) H → va_S (gA G) s.heap H locs → lv_has ls 9 [(0, .ref (ga G 14 0)), (3, .int x3), (4, .int x4), (6, va_re (ga G 17) p6), (7, .int x7), (8, .int x8)] → (∀ (p6 : Option Nat), K240 p6 → ∀ (H : Heap) (locs : List Loc) (ls : Array Slot), Hd G a1 (cmb τ σ) H → va_S (gA G) s.heap H locs → lv_has ls 9 [(0, .ref (ga G 14 0)), (3, .int x3), (4, .int x4), (6, va_re (ga G 17) p6), (7, .int x7)] → W p l e rmX14_ipOut s m args below meth c H locs 0 0 (MQ below (QVs G a1 (fun u => cmb τ u) Q) args s 0 0 (gA G)) (F0 m 240 ls [])) → W p l e rmX14_ipOut s m args below meth c H locs 0 0 (MQ below (QVs G a1 (fun u => cmb τ u) Q) args s 0 0 (gA G)) (F0 m 200 ls []) := by
  have hx := C.1
  have hb := C.2.1
  have hown := C.2.2.2.2.2.1
  have hts := C.2.2.2.2.2.2.1
  intro n
  induction n with
  | zero =>
    intro p6 x8 hw
    exact False.elim hw
  | succ n ih =>
    intro p6 x8 hw H locs ls hH hS hl hK240
    refine lv_iload hx hb dX14_ipOut_200 (lv_at hl 5 rfl) ?_
    refine lv_bipush (v := 8) hx hb dX14_ipOut_202 (by decide) ?_
    refine lv_icmp_ge (tgt := 240) hx hb dX14_ipOut_204 (by decide) (fun h => ?_) (fun h => ?_)
    · have hw := hw.1 h
      exact hK240 p6 hw H locs ls hH hS (lv_sub hl [0, 1, 2, 3, 4] rfl)
    have hw := hw.2 h
    refine lv_aloadV hx hb dX14_ipOut_207 (va_re_or _ _) (lv_at hl 3 rfl) ?_
    rcases p6 with _ | i19
    · have hw := hw.1 rfl
      have hl : lv_has ls 9 [(0, .ref (ga G 14 0)), (3, .int x3), (4, .int x4), (6, .null), (7, .int x7), (8, .int x8)] := hl
      refine lv_ifnonnullN hx hb dX14_ipOut_209 ?_
      refine lv_aload_n hx hb dX14_ipOut_212 rfl (lv_at hl 0 rfl) ?_
      refine g14_27 C hH q1967 dX14_ipOut_213 ?_
      refine lv_iload hx hb dX14_ipOut_216 (lv_at hl 5 rfl) ?_
      have hq20 := vp_lt hw.1
      refine l62 C hH hw.1 dX14_ipOut_218 ?_
      have hw := hw.2
      refine g17_0 C hH hq20 q1882 dX14_ipOut_219 (fun hz => ?_)
      have hw := hw hz
      refine lv_if_ne (tgt := 234) hx hb dX14_ipOut_222 (by decide) (fun h => ?_) (fun h => ?_)
      · have hw := hw.1 h
        refine lv_iinc (v := x8 + 1) (lv' := [(8, .int (x8 + 1)), (0, .ref (ga G 14 0)), (3, .int x3), (4, .int x4), (6, .null), (7, .int x7)]) hx hb dX14_ipOut_234 hl (k := 5) rfl rfl (by decide) rfl (fun ls hl => ?_)
        refine lv_goto (tgt := 200) hx hb dX14_ipOut_237 (by decide) ?_
        exact ih none (x8 + 1) hw H locs ls hH hS (lv_sub hl [1, 2, 3, 4, 5, 0] rfl) hK240
      have hw := hw.2 h
      refine lv_aload_n hx hb dX14_ipOut_225 rfl (lv_at hl 0 rfl) ?_
      refine g14_27 C hH q1967 dX14_ipOut_226 ?_
      refine lv_iload hx hb dX14_ipOut_229 (lv_at hl 5 rfl) ?_
      have hq21 := vp_lt hw.1
      refine l62 C hH hw.1 dX14_ipOut_231 ?_
      have hw := hw.2
      refine lv_astore (lv' := [(6, .ref (ga G 17 x8.toNatClampNeg)), (0, .ref (ga G 14 0)), (3, .int x3), (4, .int x4), (7, .int x7), (8, .int x8)]) hx hb dX14_ipOut_232 hl (by decide) rfl (fun ls hl => ?_)
      refine lv_iinc (v := x8 + 1) (lv' := [(8, .int (x8 + 1)), (6, .ref (ga G 17 x8.toNatClampNeg)), (0, .ref (ga G 14 0)), (3, .int x3), (4, .int x4), (7, .int x7)]) hx hb dX14_ipOut_234 hl (k := 5) rfl rfl (by decide) rfl (fun ls hl => ?_)
      refine lv_goto (tgt := 200) hx hb dX14_ipOut_237 (by decide) ?_
      exact ih (some x8.toNatClampNeg) (x8 + 1) hw H locs ls hH hS (lv_sub hl [2, 3, 4, 1, 5, 0] rfl) hK240
    obtain ⟨hq19, hw⟩ := hw.2 i19 rfl
    have hl : lv_has ls 9 [(0, .ref (ga G 14 0)), (3, .int x3), (4, .int x4), (6, .ref (ga G 17 i19)), (7, .int x7), (8, .int x8)] := hl
    refine lv_ifnonnull (tgt := 240) hx hb dX14_ipOut_209 (by decide) ?_
    exact hK240 (some i19) hw H locs ls hH hS (lv_sub hl [0, 1, 2, 3, 4] rfl)
def w14_ipOut_L271 (x4 : Int32) (o6 : Nat) (x7 : Int32) (Q : St → Prop) (K305 : St → Prop) : Nat → St → Int32 → Prop
  | 0, _, _ => False
  | n + 1, σ, x8 => ((σ 17 o6 2) ≤ x8 → K305 σ) ∧ (¬ (σ 17 o6 2) ≤ x8 → (vp_in (14 + x8) 1514 ∧ (by8 (σ 57 0 (14 + x8).toNatClampNeg) → (vp_in x8 1500 ∧ (∀ σ28, σ28 = up3 σ 68 o6 x8.toNatClampNeg (σ 57 0 (14 + x8).toNatClampNeg).toInt8.toInt32 → (w14_ipOut_L271 x4 o6 x7 Q K305 n σ28 (x8 + 1)))))))
set_option maxHeartbeats 4000000 in
theorem k14_ipOut_L271 {p : Program} {l : Launch} {e : Env} {s : State} {m : MethodId} {args : Array Value} {below : List Frame} {meth : Method} {c : Code} {G : Gh} {a1 : Nat → Nat → Nat} {τ : St} {Q : St → Prop} {K305 : St → Prop} (C : Cx p e s m args meth c cX14_ipOut 9 none "WebHostModel" G) (x4 : Int32) (o6 : Nat) (x7 : Int32) (ho6 : o6 < 8) :
    ∀ (n : Nat) (σ : St) (x8 : Int32), w14_ipOut_L271 x4 o6 x7 Q K305 n σ x8 → ∀ (H : Heap) (locs : List Loc) (ls : Array Slot), Hd G a1 (cmb τ σ) H → va_S (gA G) s.heap H locs → lv_has ls 9 [(0, .ref (ga G 14 0)), (4, .int x4), (6, .ref (ga G 17 o6)), (7, .int x7), (8, .int x8)] → (∀ (σ : St) , K305 σ → ∀ (H : Heap) (locs : List Loc) (ls : Array Slot), Hd G a1 (cmb τ σ) H → va_S (gA G) s.heap H locs → lv_has ls 9 [(0, .ref (ga G 14 0)), (4, .int x4), (6, .ref (ga G 17 o6)), (7, .int x7)] → W p l e rmX14_ipOut s m args below meth c H locs 0 0 (MQ below (QVs G a1 (fun u => cmb τ u) Q) args s 0 0 (gA G)) (F0 m 305 ls [])) → W p l e rmX14_ipOut s m args below meth c H locs 0 0 (MQ below (QVs G a1 (fun u => cmb τ u) Q) args s 0 0 (gA G)) (F0 m 271 ls []) := by
  have hx := C.1
  have hb := C.2.1
  have hown := C.2.2.2.2.2.1
  have hts := C.2.2.2.2.2.2.1
  intro n
  induction n with
  | zero =>
    intro σ x8 hw
    exact False.elim hw
  | succ n ih =>
    intro σ x8 hw H locs ls hH hS hl hK305
    refine lv_iload hx hb dX14_ipOut_271 (lv_at hl 4 rfl) ?_
    refine lv_aload hx hb dX14_ipOut_273 (lv_at hl 2 rfl) ?_
    refine g17_2 C hH ho6 q1884 dX14_ipOut_275 ?_
    refine lv_icmp_ge (tgt := 305) hx hb dX14_ipOut_278 (by decide) (fun h => ?_) (fun h => ?_)
    · have hw := hw.1 h
      exact hK305 σ hw H locs ls hH hS (lv_sub hl [0, 1, 2, 3] rfl)
    have hw := hw.2 h
    refine lv_aload hx hb dX14_ipOut_281 (lv_at hl 2 rfl) ?_
    refine g17_6 C hH ho6 q1889 dX14_ipOut_283 ?_
    refine lv_iload hx hb dX14_ipOut_286 (lv_at hl 4 rfl) ?_
    refine lv_aload_n hx hb dX14_ipOut_288 rfl (lv_at hl 0 rfl) ?_
    refine g14_19 C hH q1959 dX14_ipOut_289 ?_
    refine lv_bipush (v := 14) hx hb dX14_ipOut_292 (by decide) ?_
    refine lv_iload hx hb dX14_ipOut_294 (lv_at hl 4 rfl) ?_
    refine lv_iadd hx hb dX14_ipOut_296 ?_
    refine l57 C hH hw.1 dX14_ipOut_297 (fun hz => ?_)
    have hw := hw.2 hz
    refine s68 C hH hS ho6 hw.1 dX14_ipOut_298 (fun σ28 e28 H locs hH hS => ?_)
    have hw := hw.2 σ28 e28
    refine lv_iinc (v := x8 + 1) (lv' := [(8, .int (x8 + 1)), (0, .ref (ga G 14 0)), (4, .int x4), (6, .ref (ga G 17 o6)), (7, .int x7)]) hx hb dX14_ipOut_299 hl (k := 4) rfl rfl (by decide) rfl (fun ls hl => ?_)
    refine lv_goto (tgt := 271) hx hb dX14_ipOut_302 (by decide) ?_
    exact ih σ28 (x8 + 1) hw H locs ls hH hS (lv_sub hl [1, 2, 3, 4, 0] rfl) hK305
def w14_ipOut_J240 (σ : St) (x3 : Int32) (x4 : Int32) (p6 : Option Nat) (x7 : Int32) (Q : St → Prop) : Prop := (p6 = none → Q σ) ∧ (∀ i24, p6 = some i24 → (i24 < 8 ∧ (∀ σ25, σ25 = up3 σ 17 i24 0 1 → (∀ σ26, σ26 = up3 σ25 17 i24 1 x4 → (∀ σ27, σ27 = up3 σ26 17 i24 2 (20 + x3) → (∃ z29, w14_ipOut_L271 x4 i24 x7 Q (fun σ30 => (¬ x7 = 0 → (∀ σ31, σ31 = up3 σ30 17 i24 3 (σ30 14 0 10) → (∀ σ32, σ32 = up3 σ31 17 i24 4 1 → (∀ σ33, σ33 = up3 σ32 14 0 25 ((σ32 14 0 25) + 1) → (∀ σ34, σ34 = up3 σ33 17 i24 5 (σ33 14 0 25) → (w14_ask σ34 x4 (fun σ35 => (Q σ35)))))))) ∧ (x7 = 0 → Q σ30)) z29 σ27 0))))))
set_option maxHeartbeats 4000000 in
theorem k14_ipOut_J240 {p : Program} {l : Launch} {e : Env} {s : State} {m : MethodId} {args : Array Value} {below : List Frame} {meth : Method} {c : Code} {G : Gh} {a1 : Nat → Nat → Nat} {τ : St} {Q : St → Prop} (C : Cx p e s m args meth c cX14_ipOut 9 none "WebHostModel" G) (σ : St) (x3 : Int32) (x4 : Int32) (p6 : Option Nat) (x7 : Int32) (hw : w14_ipOut_J240 σ x3 x4 p6 x7 Q) (H : Heap) (locs : List Loc) (ls : Array Slot) (hH : Hd G a1 (cmb τ σ) H) (hS : va_S (gA G) s.heap H locs) (hl : lv_has ls 9 [(0, .ref (ga G 14 0)), (3, .int x3), (4, .int x4), (6, va_re (ga G 17) p6), (7, .int x7)]) : W p l e rmX14_ipOut s m args below meth c H locs 0 0 (MQ below (QVs G a1 (fun u => cmb τ u) Q) args s 0 0 (gA G)) (F0 m 240 ls []) := by
  have hx := C.1
  have hb := C.2.1
  have hown := C.2.2.2.2.2.1
  have hts := C.2.2.2.2.2.2.1
  refine lv_aloadV hx hb dX14_ipOut_240 (va_re_or _ _) (lv_at hl 3 rfl) ?_
  rcases p6 with _ | i24
  · have hw := hw.1 rfl
    have hl : lv_has ls 9 [(0, .ref (ga G 14 0)), (3, .int x3), (4, .int x4), (6, .null), (7, .int x7)] := hl
    refine lv_ifnonnullN hx hb dX14_ipOut_242 ?_
    exact rt_v C hH hS hw dX14_ipOut_245
  obtain ⟨hq24, hw⟩ := hw.2 i24 rfl
  have hl : lv_has ls 9 [(0, .ref (ga G 14 0)), (3, .int x3), (4, .int x4), (6, .ref (ga G 17 i24)), (7, .int x7)] := hl
  refine lv_ifnonnull (tgt := 246) hx hb dX14_ipOut_242 (by decide) ?_
  refine lv_aload hx hb dX14_ipOut_246 (lv_at hl 3 rfl) ?_
  refine lv_iconst (v := 1) hx hb dX14_ipOut_248 (by decide) ?_
  refine p17_0 C hH hS hq24 (Or.inr rfl) q1882 dX14_ipOut_249 (fun σ25 e25 H locs hH hS => ?_)
  have hw := hw σ25 e25
  refine lv_aload hx hb dX14_ipOut_252 (lv_at hl 3 rfl) ?_
  refine lv_iload hx hb dX14_ipOut_254 (lv_at hl 2 rfl) ?_
  refine p17_1 C hH hS hq24 q1883 dX14_ipOut_256 (fun σ26 e26 H locs hH hS => ?_)
  have hw := hw σ26 e26
  refine lv_aload hx hb dX14_ipOut_259 (lv_at hl 3 rfl) ?_
  refine lv_bipush (v := 20) hx hb dX14_ipOut_261 (by decide) ?_
  refine lv_iload_n hx hb dX14_ipOut_263 rfl (lv_at hl 1 rfl) ?_
  refine lv_iadd hx hb dX14_ipOut_264 ?_
  refine p17_2 C hH hS hq24 q1884 dX14_ipOut_265 (fun σ27 e27 H locs hH hS => ?_)
  have hw := hw σ27 e27
  refine lv_iconst (v := 0) hx hb dX14_ipOut_268 (by decide) ?_
  refine lv_istore (lv' := [(8, .int 0), (0, .ref (ga G 14 0)), (3, .int x3), (4, .int x4), (6, .ref (ga G 17 i24)), (7, .int x7)]) hx hb dX14_ipOut_269 hl (by decide) rfl (fun ls hl => ?_)
  obtain ⟨n29, hw⟩ := hw
  refine k14_ipOut_L271 C x4 i24 x7 hq24 n29 σ27 0 hw H locs ls hH hS (lv_sub hl [1, 3, 4, 5, 0] rfl) (fun σ30 hw H locs ls hH hS hl => ?_)
  refine lv_iload hx hb dX14_ipOut_305 (lv_at hl 3 rfl) ?_
  refine lv_if_ne (tgt := 311) hx hb dX14_ipOut_307 (by decide) (fun h => ?_) (fun h => ?_)
  · have hw := hw.1 h
    refine lv_aload hx hb dX14_ipOut_311 (lv_at hl 2 rfl) ?_
    refine lv_aload_n hx hb dX14_ipOut_313 rfl (lv_at hl 0 rfl) ?_
    refine g14_10 C hH q1950 dX14_ipOut_314 ?_
    refine p17_3 C hH hS hq24 q1885 dX14_ipOut_317 (fun σ31 e31 H locs hH hS => ?_)
    have hw := hw σ31 e31
    refine lv_aload hx hb dX14_ipOut_320 (lv_at hl 2 rfl) ?_
    refine lv_iconst (v := 1) hx hb dX14_ipOut_322 (by decide) ?_
    refine p17_4 C hH hS hq24 q1886 dX14_ipOut_323 (fun σ32 e32 H locs hH hS => ?_)
    have hw := hw σ32 e32
    refine lv_aload_n hx hb dX14_ipOut_326 rfl (lv_at hl 0 rfl) ?_
    refine lv_dup hx hb dX14_ipOut_327 rfl ?_
    refine g14_25 C hH q1965 dX14_ipOut_328 ?_
    refine lv_iconst (v := 1) hx hb dX14_ipOut_331 (by decide) ?_
    refine lv_iadd hx hb dX14_ipOut_332 ?_
    refine p14_25 C hH hS q1965 dX14_ipOut_333 (fun σ33 e33 H locs hH hS => ?_)
    have hw := hw σ33 e33
    refine lv_aload hx hb dX14_ipOut_336 (lv_at hl 2 rfl) ?_
    refine lv_aload_n hx hb dX14_ipOut_338 rfl (lv_at hl 0 rfl) ?_
    refine g14_25 C hH q1965 dX14_ipOut_339 ?_
    refine p17_5 C hH hS hq24 q1887 dX14_ipOut_342 (fun σ34 e34 H locs hH hS => ?_)
    have hw := hw σ34 e34
    refine lv_aload_n hx hb dX14_ipOut_345 rfl (lv_at hl 0 rfl) ?_
    refine lv_iload hx hb dX14_ipOut_346 (lv_at hl 1 rfl) ?_
    refine kc_v (rn_v (As := [.int x4]) (rest := []) C hH hS (by decide) rfl (by decide) (m14_ask l G a1 τ σ34 x4 _ hw) (cwV 1 hts (lw_V q2209 q2211 qs82 q171 q2212) rfl rfl rfl kX14_ask ⟨Nat.le_of_ble_eq_true rfl, Nat.le_of_ble_eq_true rfl⟩) rfl hl.1 rfl (Nat.le_of_ble_eq_true rfl) dX14_ipOut_348 ⟨Nat.le_of_ble_eq_true rfl, Nat.le_of_ble_eq_true rfl⟩) hS (fun σ35 H locs hw hH hS => ?_)
    exact rt_v C hH hS hw dX14_ipOut_351
  have hw := hw.2 h
  exact rt_v C hH hS hw dX14_ipOut_310
def w14_ipOut_J140 (σ : St) (x3 : Int32) (xs0 : Int32) (Q : St → Prop) : Prop := w14_counting σ xs0 (fun p15 => ((p15 = none → (w14_packet σ xs0 (fun p17 => ((p17 = none → (∃ z22, w14_ipOut_L200 σ x3 xs0 1 Q (fun p6_23 => w14_ipOut_J240 σ x3 xs0 p6_23 1 Q) z22 none 0)) ∧ (∀ i18, p17 = some i18 → (i18 < 8 ∧ (∃ z36, w14_ipOut_L200 σ x3 xs0 0 Q (fun p6_37 => w14_ipOut_J240 σ x3 xs0 p6_37 0 Q) z36 (some i18) 0))))))) ∧ (∀ i16, p15 = some i16 → (i16 < 16 ∧ (w14_send σ (σ 16 i16 2) (σ 16 i16 3) 2048 (20 + x3) (fun σ38 => (Q σ38)))))))
set_option maxHeartbeats 4000000 in
theorem k14_ipOut_J140 {p : Program} {l : Launch} {e : Env} {s : State} {m : MethodId} {args : Array Value} {below : List Frame} {meth : Method} {c : Code} {G : Gh} {a1 : Nat → Nat → Nat} {τ : St} {Q : St → Prop} (C : Cx p e s m args meth c cX14_ipOut 9 none "WebHostModel" G) (σ : St) (x3 : Int32) (xs0 : Int32) (hw : w14_ipOut_J140 σ x3 xs0 Q) (H : Heap) (locs : List Loc) (ls : Array Slot) (hH : Hd G a1 (cmb τ σ) H) (hS : va_S (gA G) s.heap H locs) (hl : lv_has ls 9 [(0, .ref (ga G 14 0)), (3, .int x3)]) : W p l e rmX14_ipOut s m args below meth c H locs 0 0 (MQ below (QVs G a1 (fun u => cmb τ u) Q) args s 0 0 (gA G)) (F0 m 140 ls [.int xs0]) := by
  have hx := C.1
  have hb := C.2.1
  have hown := C.2.2.2.2.2.1
  have hts := C.2.2.2.2.2.2.1
  refine lv_istore (lv' := [(4, .int xs0), (0, .ref (ga G 14 0)), (3, .int x3)]) hx hb dX14_ipOut_140 hl (by decide) rfl (fun ls hl => ?_)
  refine lv_aload_n hx hb dX14_ipOut_142 rfl (lv_at hl 1 rfl) ?_
  refine lv_iload hx hb dX14_ipOut_143 (lv_at hl 0 rfl) ?_
  refine kc_ep (rn_vp (As := [.int xs0]) (rest := []) C hH hS (by decide) rfl (by decide) (m14_counting l G a1 τ σ H xs0 _ hw) (cwV 1 hts (lw_V q2264 q2266 qs91 q171 q2267) rfl rfl rfl kX14_counting ⟨Nat.le_of_ble_eq_true rfl, Nat.le_of_ble_eq_true rfl⟩) rfl hl.1 rfl (Nat.le_of_ble_eq_true rfl) dX14_ipOut_145 ⟨Nat.le_of_ble_eq_true rfl, Nat.le_of_ble_eq_true rfl⟩) hS (fun p15 locs hw hS => ?_)
  refine lv_astoreV (lv' := [(5, va_re (ga G 16) p15), (4, .int xs0), (0, .ref (ga G 14 0)), (3, .int x3)]) hx hb dX14_ipOut_148 (va_re_or _ _) hl (by decide) rfl (fun ls hl => ?_)
  refine lv_aloadV hx hb dX14_ipOut_150 (va_re_or _ _) (lv_at hl 0 rfl) ?_
  rcases p15 with _ | i16
  · have hw := hw.1 rfl
    have hl : lv_has ls 9 [(5, .null), (4, .int xs0), (0, .ref (ga G 14 0)), (3, .int x3)] := hl
    refine lv_ifnullN (tgt := 177) hx hb dX14_ipOut_152 (by decide) ?_
    refine lv_aload_n hx hb dX14_ipOut_177 rfl (lv_at hl 2 rfl) ?_
    refine lv_iload hx hb dX14_ipOut_178 (lv_at hl 1 rfl) ?_
    refine kc_ep (rn_vp (As := [.int xs0]) (rest := []) C hH hS (by decide) rfl (by decide) (m14_packet l G a1 τ σ H xs0 _ hw) (cwV 1 hts (lw_V q2273 q2275 qs93 q171 q2276) rfl rfl rfl kX14_packet ⟨Nat.le_of_ble_eq_true rfl, Nat.le_of_ble_eq_true rfl⟩) rfl hl.1 rfl (Nat.le_of_ble_eq_true rfl) dX14_ipOut_180 ⟨Nat.le_of_ble_eq_true rfl, Nat.le_of_ble_eq_true rfl⟩) hS (fun p17 locs hw hS => ?_)
    refine lv_astoreV (lv' := [(6, va_re (ga G 17) p17), (5, .null), (4, .int xs0), (0, .ref (ga G 14 0)), (3, .int x3)]) hx hb dX14_ipOut_183 (va_re_or _ _) hl (by decide) rfl (fun ls hl => ?_)
    refine lv_aloadV hx hb dX14_ipOut_185 (va_re_or _ _) (lv_at hl 0 rfl) ?_
    rcases p17 with _ | i18
    · have hw := hw.1 rfl
      have hl : lv_has ls 9 [(6, .null), (5, .null), (4, .int xs0), (0, .ref (ga G 14 0)), (3, .int x3)] := hl
      refine lv_ifnonnullN hx hb dX14_ipOut_187 ?_
      refine lv_iconst (v := 1) hx hb dX14_ipOut_190 (by decide) ?_
      refine lv_goto (tgt := 195) hx hb dX14_ipOut_191 (by decide) ?_
      refine lv_istore (lv' := [(7, .int 1), (6, .null), (5, .null), (4, .int xs0), (0, .ref (ga G 14 0)), (3, .int x3)]) hx hb dX14_ipOut_195 hl (by decide) rfl (fun ls hl => ?_)
      refine lv_iconst (v := 0) hx hb dX14_ipOut_197 (by decide) ?_
      refine lv_istore (lv' := [(8, .int 0), (7, .int 1), (6, .null), (5, .null), (4, .int xs0), (0, .ref (ga G 14 0)), (3, .int x3)]) hx hb dX14_ipOut_198 hl (by decide) rfl (fun ls hl => ?_)
      obtain ⟨n22, hw⟩ := hw
      refine k14_ipOut_L200 C σ x3 xs0 1 n22 none 0 hw H locs ls hH hS (lv_sub hl [5, 6, 4, 2, 1, 0] rfl) (fun p6_23 hw H locs ls hH hS hl => ?_)
      exact k14_ipOut_J240 C σ x3 xs0 p6_23 1 hw H locs ls hH hS (lv_sub hl [0, 1, 2, 3, 4] rfl)
    obtain ⟨hq18, hw⟩ := hw.2 i18 rfl
    have hl : lv_has ls 9 [(6, .ref (ga G 17 i18)), (5, .null), (4, .int xs0), (0, .ref (ga G 14 0)), (3, .int x3)] := hl
    refine lv_ifnonnull (tgt := 194) hx hb dX14_ipOut_187 (by decide) ?_
    refine lv_iconst (v := 0) hx hb dX14_ipOut_194 (by decide) ?_
    refine lv_istore (lv' := [(7, .int 0), (6, .ref (ga G 17 i18)), (5, .null), (4, .int xs0), (0, .ref (ga G 14 0)), (3, .int x3)]) hx hb dX14_ipOut_195 hl (by decide) rfl (fun ls hl => ?_)
    refine lv_iconst (v := 0) hx hb dX14_ipOut_197 (by decide) ?_
    refine lv_istore (lv' := [(8, .int 0), (7, .int 0), (6, .ref (ga G 17 i18)), (5, .null), (4, .int xs0), (0, .ref (ga G 14 0)), (3, .int x3)]) hx hb dX14_ipOut_198 hl (by decide) rfl (fun ls hl => ?_)
    obtain ⟨n36, hw⟩ := hw
    refine k14_ipOut_L200 C σ x3 xs0 0 n36 (some i18) 0 hw H locs ls hH hS (lv_sub hl [5, 6, 4, 2, 1, 0] rfl) (fun p6_37 hw H locs ls hH hS hl => ?_)
    exact k14_ipOut_J240 C σ x3 xs0 p6_37 0 hw H locs ls hH hS (lv_sub hl [0, 1, 2, 3, 4] rfl)
  obtain ⟨hq16, hw⟩ := hw.2 i16 rfl
  have hl : lv_has ls 9 [(5, .ref (ga G 16 i16)), (4, .int xs0), (0, .ref (ga G 14 0)), (3, .int x3)] := hl
  refine lv_ifnull hx hb dX14_ipOut_152 ?_
  refine lv_aload_n hx hb dX14_ipOut_155 rfl (lv_at hl 2 rfl) ?_
  refine lv_aload hx hb dX14_ipOut_156 (lv_at hl 0 rfl) ?_
  refine g16_2 C hH hq16 q1863 dX14_ipOut_158 ?_
  refine lv_aload hx hb dX14_ipOut_161 (lv_at hl 0 rfl) ?_
  refine g16_3 C hH hq16 q1864 dX14_ipOut_163 ?_
  refine lv_sipush (v := 2048) hx hb dX14_ipOut_166 (by decide) ?_
  refine lv_bipush (v := 20) hx hb dX14_ipOut_169 (by decide) ?_
  refine lv_iload_n hx hb dX14_ipOut_171 rfl (lv_at hl 3 rfl) ?_
  refine lv_iadd hx hb dX14_ipOut_172 ?_
  refine kc_v (rn_v (As := [.int (σ 16 i16 2), .int (σ 16 i16 3), .int 2048, .int (20 + x3)]) (rest := []) C hH hS (by decide) rfl (by decide) (m14_send l G a1 τ σ (σ 16 i16 2) (σ 16 i16 3) 2048 (20 + x3) _ hw) (cwV 4 hts (lw_V q2222 q2224 qs85 q171 q2225) rfl rfl rfl kX14_send ⟨Nat.le_of_ble_eq_true rfl, Nat.le_of_ble_eq_true rfl⟩) rfl hl.1 rfl (Nat.le_of_ble_eq_true rfl) dX14_ipOut_173 ⟨Nat.le_of_ble_eq_true rfl, Nat.le_of_ble_eq_true rfl⟩) hS (fun σ38 H locs hw hH hS => ?_)
  exact rt_v C hH hS hw dX14_ipOut_176
def w14_ipOut (σ : St) (x1 : Int32) (x2 : Int32) (x3 : Int32) (Q : St → Prop) : Prop := ∀ σ1, σ1 = up3 σ 14 0 24 (((σ 14 0 24) + 1) &&& 65535) → (w14_put σ1 14 2 17664 (fun σ2 => (w14_put σ2 16 2 (20 + x3) (fun σ3 => (w14_put σ3 18 2 (σ3 14 0 24) (fun σ4 => (w14_put σ4 20 2 16384 (fun σ5 => (w14_put σ5 22 2 (16384 ||| x2) (fun σ6 => (w14_put σ6 24 2 0 (fun σ7 => (w14_put σ7 26 4 (σ7 14 0 5) (fun σ8 => (w14_put σ8 30 4 x1 (fun σ9 => (w14_added σ9 57 0 14 20 0 (fun r10 => (w14_sixteen σ9 r10 (fun r11 => (w14_put σ9 24 2 r11 (fun σ12 => (w14_net σ12 x1 (fun r13 => (w14_net σ12 (σ12 14 0 5) (fun r14 => ((¬ r13 = r14 → (w14_ipOut_J140 σ12 x3 (σ12 14 0 7) Q)) ∧ (r13 = r14 → w14_ipOut_J140 σ12 x3 x1 Q))))))))))))))))))))))))))))
set_option maxHeartbeats 4000000 in
theorem m14_ipOut (l : Launch) (G : Gh) (a1 : Nat → Nat → Nat) (τ : St) (σ : St) (x1 : Int32) (x2 : Int32) (x3 : Int32) (Q : St → Prop) (hw : w14_ipOut σ x1 x2 x3 Q) : Met l yX14_ipOut (ws_ yX14_ipOut cX14_ipOut 9 none) rmX14_ipOut (PcS G a1 (cmb τ σ) [.ref (ga G 14 0), .int x1, .int x2, .int x3]) (QVs G a1 (fun u => cmb τ u) Q) 0 0 (gA G) := by
  refine met_w (by decide) (Nat.le_of_ble_eq_true rfl) ?_
  intro p e s m below meth c ls C hH hS hl
  have C : Cx p e s m _ meth c cX14_ipOut 9 none "WebHostModel" G := C
  have hl : lv_has ls 9 [(0, .ref (ga G 14 0)), (1, .int x1), (2, .int x2), (3, .int x3)] := hl
  have hx := C.1
  have hb := C.2.1
  have hown := C.2.2.2.2.2.1
  have hts := C.2.2.2.2.2.2.1
  obtain ⟨locs, hlocs⟩ : ∃ z : List Loc, z = [] := ⟨_, rfl⟩
  obtain ⟨H, hHe⟩ : ∃ z : Heap, z = s.heap := ⟨_, rfl⟩
  have hH : Hd G a1 (cmb τ σ) H := by rw [hHe]; exact hH
  have hS : va_S (gA G) s.heap H locs := by rw [hHe, hlocs]; exact hS
  refine W.heap0 hHe.symm hlocs.symm ?_
  refine lv_aload_n hx hb dX14_ipOut_0 rfl (lv_at hl 0 rfl) ?_
  refine lv_aload_n hx hb dX14_ipOut_1 rfl (lv_at hl 0 rfl) ?_
  refine g14_24 C hH q1964 dX14_ipOut_2 ?_
  refine lv_iconst (v := 1) hx hb dX14_ipOut_5 (by decide) ?_
  refine lv_iadd hx hb dX14_ipOut_6 ?_
  refine lv_ldc (v := 65535) hx hb hown (hts _ q1692) dX14_ipOut_7 ?_
  refine lv_iand hx hb dX14_ipOut_9 ?_
  refine p14_24 C hH hS q1964 dX14_ipOut_10 (fun σ1 e1 H locs hH hS => ?_)
  have hw := hw σ1 e1
  refine lv_aload_n hx hb dX14_ipOut_13 rfl (lv_at hl 0 rfl) ?_
  refine lv_bipush (v := 14) hx hb dX14_ipOut_14 (by decide) ?_
  refine lv_iconst (v := 2) hx hb dX14_ipOut_16 (by decide) ?_
  refine lv_sipush (v := 17664) hx hb dX14_ipOut_17 (by decide) ?_
  refine kc_v (rn_v (As := [.int 14, .int 2, .int 17664]) (rest := []) C hH hS (by decide) rfl (by decide) (m14_put l G a1 τ σ1 14 2 17664 _ hw) (cwV 3 hts (lw_V q2218 q2220 qs84 q171 q2221) rfl rfl rfl kX14_put ⟨Nat.le_of_ble_eq_true rfl, Nat.le_of_ble_eq_true rfl⟩) rfl hl.1 rfl (Nat.le_of_ble_eq_true rfl) dX14_ipOut_20 ⟨Nat.le_of_ble_eq_true rfl, Nat.le_of_ble_eq_true rfl⟩) hS (fun σ2 H locs hw hH hS => ?_)
  refine lv_aload_n hx hb dX14_ipOut_23 rfl (lv_at hl 0 rfl) ?_
  refine lv_bipush (v := 16) hx hb dX14_ipOut_24 (by decide) ?_
  refine lv_iconst (v := 2) hx hb dX14_ipOut_26 (by decide) ?_
  refine lv_bipush (v := 20) hx hb dX14_ipOut_27 (by decide) ?_
  refine lv_iload_n hx hb dX14_ipOut_29 rfl (lv_at hl 3 rfl) ?_
  refine lv_iadd hx hb dX14_ipOut_30 ?_
  refine kc_v (rn_v (As := [.int 16, .int 2, .int (20 + x3)]) (rest := []) C hH hS (by decide) rfl (by decide) (m14_put l G a1 τ σ2 16 2 (20 + x3) _ hw) (cwV 3 hts (lw_V q2218 q2220 qs84 q171 q2221) rfl rfl rfl kX14_put ⟨Nat.le_of_ble_eq_true rfl, Nat.le_of_ble_eq_true rfl⟩) rfl hl.1 rfl (Nat.le_of_ble_eq_true rfl) dX14_ipOut_31 ⟨Nat.le_of_ble_eq_true rfl, Nat.le_of_ble_eq_true rfl⟩) hS (fun σ3 H locs hw hH hS => ?_)
  refine lv_aload_n hx hb dX14_ipOut_34 rfl (lv_at hl 0 rfl) ?_
  refine lv_bipush (v := 18) hx hb dX14_ipOut_35 (by decide) ?_
  refine lv_iconst (v := 2) hx hb dX14_ipOut_37 (by decide) ?_
  refine lv_aload_n hx hb dX14_ipOut_38 rfl (lv_at hl 0 rfl) ?_
  refine g14_24 C hH q1964 dX14_ipOut_39 ?_
  refine kc_v (rn_v (As := [.int 18, .int 2, .int (σ3 14 0 24)]) (rest := []) C hH hS (by decide) rfl (by decide) (m14_put l G a1 τ σ3 18 2 (σ3 14 0 24) _ hw) (cwV 3 hts (lw_V q2218 q2220 qs84 q171 q2221) rfl rfl rfl kX14_put ⟨Nat.le_of_ble_eq_true rfl, Nat.le_of_ble_eq_true rfl⟩) rfl hl.1 rfl (Nat.le_of_ble_eq_true rfl) dX14_ipOut_42 ⟨Nat.le_of_ble_eq_true rfl, Nat.le_of_ble_eq_true rfl⟩) hS (fun σ4 H locs hw hH hS => ?_)
  refine lv_aload_n hx hb dX14_ipOut_45 rfl (lv_at hl 0 rfl) ?_
  refine lv_bipush (v := 20) hx hb dX14_ipOut_46 (by decide) ?_
  refine lv_iconst (v := 2) hx hb dX14_ipOut_48 (by decide) ?_
  refine lv_sipush (v := 16384) hx hb dX14_ipOut_49 (by decide) ?_
  refine kc_v (rn_v (As := [.int 20, .int 2, .int 16384]) (rest := []) C hH hS (by decide) rfl (by decide) (m14_put l G a1 τ σ4 20 2 16384 _ hw) (cwV 3 hts (lw_V q2218 q2220 qs84 q171 q2221) rfl rfl rfl kX14_put ⟨Nat.le_of_ble_eq_true rfl, Nat.le_of_ble_eq_true rfl⟩) rfl hl.1 rfl (Nat.le_of_ble_eq_true rfl) dX14_ipOut_52 ⟨Nat.le_of_ble_eq_true rfl, Nat.le_of_ble_eq_true rfl⟩) hS (fun σ5 H locs hw hH hS => ?_)
  refine lv_aload_n hx hb dX14_ipOut_55 rfl (lv_at hl 0 rfl) ?_
  refine lv_bipush (v := 22) hx hb dX14_ipOut_56 (by decide) ?_
  refine lv_iconst (v := 2) hx hb dX14_ipOut_58 (by decide) ?_
  refine lv_sipush (v := 16384) hx hb dX14_ipOut_59 (by decide) ?_
  refine lv_iload_n hx hb dX14_ipOut_62 rfl (lv_at hl 2 rfl) ?_
  refine lv_ior hx hb dX14_ipOut_63 ?_
  refine kc_v (rn_v (As := [.int 22, .int 2, .int (16384 ||| x2)]) (rest := []) C hH hS (by decide) rfl (by decide) (m14_put l G a1 τ σ5 22 2 (16384 ||| x2) _ hw) (cwV 3 hts (lw_V q2218 q2220 qs84 q171 q2221) rfl rfl rfl kX14_put ⟨Nat.le_of_ble_eq_true rfl, Nat.le_of_ble_eq_true rfl⟩) rfl hl.1 rfl (Nat.le_of_ble_eq_true rfl) dX14_ipOut_64 ⟨Nat.le_of_ble_eq_true rfl, Nat.le_of_ble_eq_true rfl⟩) hS (fun σ6 H locs hw hH hS => ?_)
  refine lv_aload_n hx hb dX14_ipOut_67 rfl (lv_at hl 0 rfl) ?_
  refine lv_bipush (v := 24) hx hb dX14_ipOut_68 (by decide) ?_
  refine lv_iconst (v := 2) hx hb dX14_ipOut_70 (by decide) ?_
  refine lv_iconst (v := 0) hx hb dX14_ipOut_71 (by decide) ?_
  refine kc_v (rn_v (As := [.int 24, .int 2, .int 0]) (rest := []) C hH hS (by decide) rfl (by decide) (m14_put l G a1 τ σ6 24 2 0 _ hw) (cwV 3 hts (lw_V q2218 q2220 qs84 q171 q2221) rfl rfl rfl kX14_put ⟨Nat.le_of_ble_eq_true rfl, Nat.le_of_ble_eq_true rfl⟩) rfl hl.1 rfl (Nat.le_of_ble_eq_true rfl) dX14_ipOut_72 ⟨Nat.le_of_ble_eq_true rfl, Nat.le_of_ble_eq_true rfl⟩) hS (fun σ7 H locs hw hH hS => ?_)
  refine lv_aload_n hx hb dX14_ipOut_75 rfl (lv_at hl 0 rfl) ?_
  refine lv_bipush (v := 26) hx hb dX14_ipOut_76 (by decide) ?_
  refine lv_iconst (v := 4) hx hb dX14_ipOut_78 (by decide) ?_
  refine lv_aload_n hx hb dX14_ipOut_79 rfl (lv_at hl 0 rfl) ?_
  refine g14_5 C hH q1945 dX14_ipOut_80 ?_
  refine kc_v (rn_v (As := [.int 26, .int 4, .int (σ7 14 0 5)]) (rest := []) C hH hS (by decide) rfl (by decide) (m14_put l G a1 τ σ7 26 4 (σ7 14 0 5) _ hw) (cwV 3 hts (lw_V q2218 q2220 qs84 q171 q2221) rfl rfl rfl kX14_put ⟨Nat.le_of_ble_eq_true rfl, Nat.le_of_ble_eq_true rfl⟩) rfl hl.1 rfl (Nat.le_of_ble_eq_true rfl) dX14_ipOut_83 ⟨Nat.le_of_ble_eq_true rfl, Nat.le_of_ble_eq_true rfl⟩) hS (fun σ8 H locs hw hH hS => ?_)
  refine lv_aload_n hx hb dX14_ipOut_86 rfl (lv_at hl 0 rfl) ?_
  refine lv_bipush (v := 30) hx hb dX14_ipOut_87 (by decide) ?_
  refine lv_iconst (v := 4) hx hb dX14_ipOut_89 (by decide) ?_
  refine lv_iload_n hx hb dX14_ipOut_90 rfl (lv_at hl 1 rfl) ?_
  refine kc_v (rn_v (As := [.int 30, .int 4, .int x1]) (rest := []) C hH hS (by decide) rfl (by decide) (m14_put l G a1 τ σ8 30 4 x1 _ hw) (cwV 3 hts (lw_V q2218 q2220 qs84 q171 q2221) rfl rfl rfl kX14_put ⟨Nat.le_of_ble_eq_true rfl, Nat.le_of_ble_eq_true rfl⟩) rfl hl.1 rfl (Nat.le_of_ble_eq_true rfl) dX14_ipOut_91 ⟨Nat.le_of_ble_eq_true rfl, Nat.le_of_ble_eq_true rfl⟩) hS (fun σ9 H locs hw hH hS => ?_)
  refine lv_aload_n hx hb dX14_ipOut_94 rfl (lv_at hl 0 rfl) ?_
  refine lv_bipush (v := 24) hx hb dX14_ipOut_95 (by decide) ?_
  refine lv_iconst (v := 2) hx hb dX14_ipOut_97 (by decide) ?_
  refine lv_aload_n hx hb dX14_ipOut_98 rfl (lv_at hl 0 rfl) ?_
  refine g14_19 C hH q1959 dX14_ipOut_99 ?_
  refine lv_bipush (v := 14) hx hb dX14_ipOut_102 (by decide) ?_
  refine lv_bipush (v := 20) hx hb dX14_ipOut_104 (by decide) ?_
  refine lv_lconst (v := 0) hx hb dX14_ipOut_106 (by decide) ?_
  refine kc_jp (rn_sp (As := [.ref (adr G a1 57 0), .int 14, .int 20, .long 0]) (rest := [.int 2, .int 24, .ref (ga G 14 0)]) C hH hS (m14_added l G a1 τ σ9 H 57 0 14 20 0 (by decide) _ hw) (va_cwS 4 hts (lw_S q2249 q2250 q171 q2251) rfl rfl rfl kX14_added.2 ⟨Nat.le_of_ble_eq_true rfl, Nat.le_of_ble_eq_true rfl⟩) rfl hl.1 rfl (Nat.le_of_ble_eq_true rfl) dX14_ipOut_107 ⟨Nat.le_of_ble_eq_true rfl, Nat.le_of_ble_eq_true rfl⟩) hS (fun r10 locs hw hS => ?_)
  refine kc_ip (rn_sp (As := [.long r10]) (rest := [.int 2, .int 24, .ref (ga G 14 0)]) C hH hS (m14_sixteen l G a1 τ σ9 H r10 _ hw) (va_cwS 1 hts (lw_S q2252 q2253 q171 q2254) rfl rfl rfl kX14_sixteen.2 ⟨Nat.le_of_ble_eq_true rfl, Nat.le_of_ble_eq_true rfl⟩) rfl hl.1 rfl (Nat.le_of_ble_eq_true rfl) dX14_ipOut_110 ⟨Nat.le_of_ble_eq_true rfl, Nat.le_of_ble_eq_true rfl⟩) hS (fun r11 locs hw hS => ?_)
  refine kc_v (rn_v (As := [.int 24, .int 2, .int r11]) (rest := []) C hH hS (by decide) rfl (by decide) (m14_put l G a1 τ σ9 24 2 r11 _ hw) (cwV 3 hts (lw_V q2218 q2220 qs84 q171 q2221) rfl rfl rfl kX14_put ⟨Nat.le_of_ble_eq_true rfl, Nat.le_of_ble_eq_true rfl⟩) rfl hl.1 rfl (Nat.le_of_ble_eq_true rfl) dX14_ipOut_113 ⟨Nat.le_of_ble_eq_true rfl, Nat.le_of_ble_eq_true rfl⟩) hS (fun σ12 H locs hw hH hS => ?_)
  refine lv_aload_n hx hb dX14_ipOut_116 rfl (lv_at hl 0 rfl) ?_
  refine lv_iload_n hx hb dX14_ipOut_117 rfl (lv_at hl 1 rfl) ?_
  refine kc_ip (rn_vp (As := [.int x1]) (rest := []) C hH hS (by decide) rfl (by decide) (m14_net l G a1 τ σ12 H x1 _ hw) (cwV 1 hts (lw_V q2260 q2262 qs90 q171 q2263) rfl rfl rfl kX14_net ⟨Nat.le_of_ble_eq_true rfl, Nat.le_of_ble_eq_true rfl⟩) rfl hl.1 rfl (Nat.le_of_ble_eq_true rfl) dX14_ipOut_118 ⟨Nat.le_of_ble_eq_true rfl, Nat.le_of_ble_eq_true rfl⟩) hS (fun r13 locs hw hS => ?_)
  refine lv_aload_n hx hb dX14_ipOut_121 rfl (lv_at hl 0 rfl) ?_
  refine lv_aload_n hx hb dX14_ipOut_122 rfl (lv_at hl 0 rfl) ?_
  refine g14_5 C hH q1945 dX14_ipOut_123 ?_
  refine kc_ip (rn_vp (As := [.int (σ12 14 0 5)]) (rest := [.int r13]) C hH hS (by decide) rfl (by decide) (m14_net l G a1 τ σ12 H (σ12 14 0 5) _ hw) (cwV 1 hts (lw_V q2260 q2262 qs90 q171 q2263) rfl rfl rfl kX14_net ⟨Nat.le_of_ble_eq_true rfl, Nat.le_of_ble_eq_true rfl⟩) rfl hl.1 rfl (Nat.le_of_ble_eq_true rfl) dX14_ipOut_126 ⟨Nat.le_of_ble_eq_true rfl, Nat.le_of_ble_eq_true rfl⟩) hS (fun r14 locs hw hS => ?_)
  refine lv_icmp_ne (tgt := 136) hx hb dX14_ipOut_129 (by decide) (fun h => ?_) (fun h => ?_)
  · have hw := hw.1 h
    refine lv_aload_n hx hb dX14_ipOut_136 rfl (lv_at hl 0 rfl) ?_
    refine g14_7 C hH q1947 dX14_ipOut_137 ?_
    exact k14_ipOut_J140 C σ12 x3 (σ12 14 0 7) hw H locs ls hH hS (lv_sub hl [0, 3] rfl)
  have hw := hw.2 h
  refine lv_iload_n hx hb dX14_ipOut_132 rfl (lv_at hl 1 rfl) ?_
  refine lv_goto (tgt := 140) hx hb dX14_ipOut_133 (by decide) ?_
  exact k14_ipOut_J140 C σ12 x3 x1 hw H locs ls hH hS (lv_sub hl [0, 3] rfl)
