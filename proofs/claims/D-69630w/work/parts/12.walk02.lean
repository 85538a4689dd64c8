/-! walks -/
set_option maxRecDepth 100000
/-! WebHost$Requests.isRequestLine(I)Z -/
abbrev cX9_isRequestLine : ByteArray := prog_11_method_10_code
def yX9_isRequestLine : MethodName := ⟨RX9, "isRequestLine", "(I)Z"⟩
theorem dX9_isRequestLine_0 : decode cX9_isRequestLine 0 = .ok (.iconst 0, 1) := by decide +kernel
theorem dX9_isRequestLine_1 : decode cX9_isRequestLine 1 = .ok (.istore_n 2, 1) := by decide +kernel
theorem dX9_isRequestLine_2 : decode cX9_isRequestLine 2 = .ok (.iload_n 2, 1) := by decide +kernel
theorem dX9_isRequestLine_3 : decode cX9_isRequestLine 3 = .ok (.iload_n 1, 1) := by decide +kernel
theorem dX9_isRequestLine_4 : decode cX9_isRequestLine 4 = .ok (.if_icmp .ge 25, 3) := by decide +kernel
theorem dX9_isRequestLine_7 : decode cX9_isRequestLine 7 = .ok (.aload_n 0, 1) := by decide +kernel
theorem dX9_isRequestLine_8 : decode cX9_isRequestLine 8 = .ok (.getfield 9, 3) := by decide +kernel
theorem dX9_isRequestLine_11 : decode cX9_isRequestLine 11 = .ok (.iload_n 2, 1) := by decide +kernel
theorem dX9_isRequestLine_12 : decode cX9_isRequestLine 12 = .ok (.baload, 1) := by decide +kernel
theorem dX9_isRequestLine_13 : decode cX9_isRequestLine 13 = .ok (.bipush 65, 2) := by decide +kernel
theorem dX9_isRequestLine_15 : decode cX9_isRequestLine 15 = .ok (.bipush 90, 2) := by decide +kernel
theorem dX9_isRequestLine_17 : decode cX9_isRequestLine 17 = .ok (.invokestatic 60, 3) := by decide +kernel
theorem dX9_isRequestLine_20 : decode cX9_isRequestLine 20 = .ok (.ifCond .eq 9, 3) := by decide +kernel
theorem dX9_isRequestLine_23 : decode cX9_isRequestLine 23 = .ok (.iinc 2 1, 3) := by decide +kernel
theorem dX9_isRequestLine_26 : decode cX9_isRequestLine 26 = .ok (.goto (-24), 3) := by decide +kernel
theorem dX9_isRequestLine_29 : decode cX9_isRequestLine 29 = .ok (.aload_n 0, 1) := by decide +kernel
theorem dX9_isRequestLine_30 : decode cX9_isRequestLine 30 = .ok (.iload_n 2, 1) := by decide +kernel
theorem dX9_isRequestLine_31 : decode cX9_isRequestLine 31 = .ok (.putfield 78, 3) := by decide +kernel
theorem dX9_isRequestLine_34 : decode cX9_isRequestLine 34 = .ok (.iload_n 2, 1) := by decide +kernel
theorem dX9_isRequestLine_35 : decode cX9_isRequestLine 35 = .ok (.ifCond .eq 25, 3) := by decide +kernel
theorem dX9_isRequestLine_38 : decode cX9_isRequestLine 38 = .ok (.iload_n 2, 1) := by decide +kernel
theorem dX9_isRequestLine_39 : decode cX9_isRequestLine 39 = .ok (.bipush 16, 2) := by decide +kernel
theorem dX9_isRequestLine_41 : decode cX9_isRequestLine 41 = .ok (.if_icmp .gt 19, 3) := by decide +kernel
theorem dX9_isRequestLine_44 : decode cX9_isRequestLine 44 = .ok (.iload_n 2, 1) := by decide +kernel
theorem dX9_isRequestLine_45 : decode cX9_isRequestLine 45 = .ok (.iload_n 1, 1) := by decide +kernel
theorem dX9_isRequestLine_46 : decode cX9_isRequestLine 46 = .ok (.if_icmp .ge 14, 3) := by decide +kernel
theorem dX9_isRequestLine_49 : decode cX9_isRequestLine 49 = .ok (.aload_n 0, 1) := by decide +kernel
theorem dX9_isRequestLine_50 : decode cX9_isRequestLine 50 = .ok (.getfield 9, 3) := by decide +kernel
theorem dX9_isRequestLine_53 : decode cX9_isRequestLine 53 = .ok (.iload_n 2, 1) := by decide +kernel
theorem dX9_isRequestLine_54 : decode cX9_isRequestLine 54 = .ok (.baload, 1) := by decide +kernel
theorem dX9_isRequestLine_55 : decode cX9_isRequestLine 55 = .ok (.bipush 32, 2) := by decide +kernel
theorem dX9_isRequestLine_57 : decode cX9_isRequestLine 57 = .ok (.if_icmp .eq 5, 3) := by decide +kernel
theorem dX9_isRequestLine_60 : decode cX9_isRequestLine 60 = .ok (.iconst 0, 1) := by decide +kernel
theorem dX9_isRequestLine_61 : decode cX9_isRequestLine 61 = .ok (.ireturn, 1) := by decide +kernel
theorem dX9_isRequestLine_62 : decode cX9_isRequestLine 62 = .ok (.iinc 2 1, 3) := by decide +kernel
theorem dX9_isRequestLine_65 : decode cX9_isRequestLine 65 = .ok (.iload_n 2, 1) := by decide +kernel
theorem dX9_isRequestLine_66 : decode cX9_isRequestLine 66 = .ok (.iload_n 1, 1) := by decide +kernel
theorem dX9_isRequestLine_67 : decode cX9_isRequestLine 67 = .ok (.if_icmp .ge 14, 3) := by decide +kernel
theorem dX9_isRequestLine_70 : decode cX9_isRequestLine 70 = .ok (.aload_n 0, 1) := by decide +kernel
theorem dX9_isRequestLine_71 : decode cX9_isRequestLine 71 = .ok (.getfield 9, 3) := by decide +kernel
theorem dX9_isRequestLine_74 : decode cX9_isRequestLine 74 = .ok (.iload_n 2, 1) := by decide +kernel
theorem dX9_isRequestLine_75 : decode cX9_isRequestLine 75 = .ok (.baload, 1) := by decide +kernel
theorem dX9_isRequestLine_76 : decode cX9_isRequestLine 76 = .ok (.bipush 47, 2) := by decide +kernel
theorem dX9_isRequestLine_78 : decode cX9_isRequestLine 78 = .ok (.if_icmp .eq 5, 3) := by decide +kernel
theorem dX9_isRequestLine_81 : decode cX9_isRequestLine 81 = .ok (.iconst 0, 1) := by decide +kernel
theorem dX9_isRequestLine_82 : decode cX9_isRequestLine 82 = .ok (.ireturn, 1) := by decide +kernel
theorem dX9_isRequestLine_83 : decode cX9_isRequestLine 83 = .ok (.iload_n 2, 1) := by decide +kernel
theorem dX9_isRequestLine_84 : decode cX9_isRequestLine 84 = .ok (.iload_n 1, 1) := by decide +kernel
theorem dX9_isRequestLine_85 : decode cX9_isRequestLine 85 = .ok (.if_icmp .ge 25, 3) := by decide +kernel
theorem dX9_isRequestLine_88 : decode cX9_isRequestLine 88 = .ok (.aload_n 0, 1) := by decide +kernel
theorem dX9_isRequestLine_89 : decode cX9_isRequestLine 89 = .ok (.getfield 9, 3) := by decide +kernel
theorem dX9_isRequestLine_92 : decode cX9_isRequestLine 92 = .ok (.iload_n 2, 1) := by decide +kernel
theorem dX9_isRequestLine_93 : decode cX9_isRequestLine 93 = .ok (.baload, 1) := by decide +kernel
theorem dX9_isRequestLine_94 : decode cX9_isRequestLine 94 = .ok (.bipush 33, 2) := by decide +kernel
theorem dX9_isRequestLine_96 : decode cX9_isRequestLine 96 = .ok (.bipush 126, 2) := by decide +kernel
theorem dX9_isRequestLine_98 : decode cX9_isRequestLine 98 = .ok (.invokestatic 60, 3) := by decide +kernel
theorem dX9_isRequestLine_101 : decode cX9_isRequestLine 101 = .ok (.ifCond .eq 9, 3) := by decide +kernel
theorem dX9_isRequestLine_104 : decode cX9_isRequestLine 104 = .ok (.iinc 2 1, 3) := by decide +kernel
theorem dX9_isRequestLine_107 : decode cX9_isRequestLine 107 = .ok (.goto (-24), 3) := by decide +kernel
theorem dX9_isRequestLine_110 : decode cX9_isRequestLine 110 = .ok (.aload_n 0, 1) := by decide +kernel
theorem dX9_isRequestLine_111 : decode cX9_isRequestLine 111 = .ok (.iload_n 2, 1) := by decide +kernel
theorem dX9_isRequestLine_112 : decode cX9_isRequestLine 112 = .ok (.putfield 81, 3) := by decide +kernel
theorem dX9_isRequestLine_115 : decode cX9_isRequestLine 115 = .ok (.iload_n 2, 1) := by decide +kernel
theorem dX9_isRequestLine_116 : decode cX9_isRequestLine 116 = .ok (.iload_n 1, 1) := by decide +kernel
theorem dX9_isRequestLine_117 : decode cX9_isRequestLine 117 = .ok (.if_icmp .ge 14, 3) := by decide +kernel
theorem dX9_isRequestLine_120 : decode cX9_isRequestLine 120 = .ok (.aload_n 0, 1) := by decide +kernel
theorem dX9_isRequestLine_121 : decode cX9_isRequestLine 121 = .ok (.getfield 9, 3) := by decide +kernel
theorem dX9_isRequestLine_124 : decode cX9_isRequestLine 124 = .ok (.iload_n 2, 1) := by decide +kernel
theorem dX9_isRequestLine_125 : decode cX9_isRequestLine 125 = .ok (.baload, 1) := by decide +kernel
theorem dX9_isRequestLine_126 : decode cX9_isRequestLine 126 = .ok (.bipush 32, 2) := by decide +kernel
theorem dX9_isRequestLine_128 : decode cX9_isRequestLine 128 = .ok (.if_icmp .eq 5, 3) := by decide +kernel
theorem dX9_isRequestLine_131 : decode cX9_isRequestLine 131 = .ok (.iconst 0, 1) := by decide +kernel
theorem dX9_isRequestLine_132 : decode cX9_isRequestLine 132 = .ok (.ireturn, 1) := by decide +kernel
theorem dX9_isRequestLine_133 : decode cX9_isRequestLine 133 = .ok (.aload_n 0, 1) := by decide +kernel
theorem dX9_isRequestLine_134 : decode cX9_isRequestLine 134 = .ok (.aload_n 0, 1) := by decide +kernel
theorem dX9_isRequestLine_135 : decode cX9_isRequestLine 135 = .ok (.iload_n 2, 1) := by decide +kernel
theorem dX9_isRequestLine_136 : decode cX9_isRequestLine 136 = .ok (.iconst 1, 1) := by decide +kernel
theorem dX9_isRequestLine_137 : decode cX9_isRequestLine 137 = .ok (.iadd, 1) := by decide +kernel
theorem dX9_isRequestLine_138 : decode cX9_isRequestLine 138 = .ok (.iload_n 1, 1) := by decide +kernel
theorem dX9_isRequestLine_139 : decode cX9_isRequestLine 139 = .ok (.ldc 84, 2) := by decide +kernel
theorem dX9_isRequestLine_141 : decode cX9_isRequestLine 141 = .ok (.invokevirtual 86, 3) := by decide +kernel
theorem dX9_isRequestLine_144 : decode cX9_isRequestLine 144 = .ok (.putfield 90, 3) := by decide +kernel
theorem dX9_isRequestLine_147 : decode cX9_isRequestLine 147 = .ok (.aload_n 0, 1) := by decide +kernel
theorem dX9_isRequestLine_148 : decode cX9_isRequestLine 148 = .ok (.getfield 90, 3) := by decide +kernel
theorem dX9_isRequestLine_151 : decode cX9_isRequestLine 151 = .ok (.ifCond .ne 16, 3) := by decide +kernel
theorem dX9_isRequestLine_154 : decode cX9_isRequestLine 154 = .ok (.aload_n 0, 1) := by decide +kernel
theorem dX9_isRequestLine_155 : decode cX9_isRequestLine 155 = .ok (.iload_n 2, 1) := by decide +kernel
theorem dX9_isRequestLine_156 : decode cX9_isRequestLine 156 = .ok (.iconst 1, 1) := by decide +kernel
theorem dX9_isRequestLine_157 : decode cX9_isRequestLine 157 = .ok (.iadd, 1) := by decide +kernel
theorem dX9_isRequestLine_158 : decode cX9_isRequestLine 158 = .ok (.iload_n 1, 1) := by decide +kernel
theorem dX9_isRequestLine_159 : decode cX9_isRequestLine 159 = .ok (.ldc 93, 2) := by decide +kernel
theorem dX9_isRequestLine_161 : decode cX9_isRequestLine 161 = .ok (.invokevirtual 86, 3) := by decide +kernel
theorem dX9_isRequestLine_164 : decode cX9_isRequestLine 164 = .ok (.ifCond .eq 7, 3) := by decide +kernel
theorem dX9_isRequestLine_167 : decode cX9_isRequestLine 167 = .ok (.iconst 1, 1) := by decide +kernel
theorem dX9_isRequestLine_168 : decode cX9_isRequestLine 168 = .ok (.goto 4, 3) := by decide +kernel
theorem dX9_isRequestLine_171 : decode cX9_isRequestLine 171 = .ok (.iconst 0, 1) := by decide +kernel
theorem dX9_isRequestLine_172 : decode cX9_isRequestLine 172 = .ok (.ireturn, 1) := by decide +kernel
def rmX9_isRequestLine : Room := { frames := 5, cells := 0, slots := 0, locals := 109 }
theorem kX9_isRequestLine : yX9_isRequestLine.cls = "WebHost$Requests" ∧ yX9_isRequestLine.cls ≠ "java/lang/invoke/MethodHandle" ∧ yX9_isRequestLine.cls ≠ "java/lang/invoke/VarHandle" ∧ (parseMethodDescriptor yX9_isRequestLine.desc).map (fun d => d.parameters.length) = some 1 := by decide +kernel
def w9_isRequestLine_L2 (σ : St) (x1 : Int32) (Q : Int32 → St → Prop) (K29 : Int32 → Prop) : Nat → Int32 → Prop
  | 0, _ => False
  | n + 1, x2 => (x1 ≤ x2 → K29 x2) ∧ (¬ x1 ≤ x2 → (vp_in x2 4096 ∧ (by8 (σ 40 0 x2.toNatClampNeg) → (w9_isIn σ (σ 40 0 x2.toNatClampNeg) 65 90 (fun r1 => ((r1 = 0 → K29 x2) ∧ (¬ r1 = 0 → (w9_isRequestLine_L2 σ x1 Q K29 n (x2 + 1)))))))))
set_option maxHeartbeats 4000000 in
theorem k9_isRequestLine_L2 {p : Program} {l : Launch} {e : Env} {s : State} {m : MethodId} {args : Array Value} {below : List Frame} {meth : Method} {c : Code} {G : Gh} {a1 : Nat → Nat → Nat} {τ : St} {Q : Int32 → St → Prop} {K29 : Int32 → Prop} (C : Cx p e s m args meth c cX9_isRequestLine 3 (some .boolean) "WebHost$Requests" G) (σ : St) (x1 : Int32) :
    ∀ (n : Nat) (x2 : Int32), w9_isRequestLine_L2 σ x1 Q K29 n x2 → ∀ (H : Heap) (locs : List Loc) (ls : Array Slot), Hd G a1 (cmb σ τ) H → va_S (gA G) s.heap H locs → lv_has ls 3 [(0, .ref (ga G 9 0)), (1, .int x1), (2, .int x2)] → (∀ (x2 : Int32), K29 x2 → ∀ (H : Heap) (locs : List Loc) (ls : Array Slot), Hd G a1 (cmb σ τ) H → va_S (gA G) s.heap H locs → lv_has ls 3 [(0, .ref (ga G 9 0)), (1, .int x1), (2, .int x2)] → W p l e rmX9_isRequestLine s m args below meth c H locs 0 0 (MQ below (QIs G a1 (fun u => cmb u τ) Q) args s 0 0 (gA G)) (F0 m 29 ls [])) → W p l e rmX9_isRequestLine s m args below meth c H locs 0 0 (MQ below (QIs G a1 (fun u => cmb u τ) Q) args s 0 0 (gA G)) (F0 m 2 ls []) := by
  have hx := C.1
  have hb := C.2.1
  have hown := C.2.2.2.2.2.1
  have hts := C.2.2.2.2.2.2.1
  intro n
  induction n with
  | zero =>
    intro x2 hw
    exact False.elim hw
  | succ n ih =>
    intro x2 hw H locs ls hH hS hl hK29
    refine lv_iload_n hx hb dX9_isRequestLine_2 rfl (lv_at hl 2 rfl) ?_
    refine lv_iload_n hx hb dX9_isRequestLine_3 rfl (lv_at hl 1 rfl) ?_
    refine lv_icmp_ge (tgt := 29) hx hb dX9_isRequestLine_4 (by decide) (fun h => ?_) (fun h => ?_)
    · have hw := hw.1 h
      exact hK29 x2 hw H locs ls hH hS (lv_sub hl [0, 1, 2] rfl)
    have hw := hw.2 h
    refine lv_aload_n hx hb dX9_isRequestLine_7 rfl (lv_at hl 0 rfl) ?_
    refine g9_1 C hH q449 dX9_isRequestLine_8 ?_
    refine lv_iload_n hx hb dX9_isRequestLine_11 rfl (lv_at hl 2 rfl) ?_
    refine l40 C hH hw.1 dX9_isRequestLine_12 (fun hz => ?_)
    have hw := hw.2 hz
    refine lv_bipush (v := 65) hx hb dX9_isRequestLine_13 (by decide) ?_
    refine lv_bipush (v := 90) hx hb dX9_isRequestLine_15 (by decide) ?_
    refine kc_ip (rn_sp (As := [.int (σ 40 0 x2.toNatClampNeg), .int 65, .int 90]) (rest := []) C hH hS (m9_isIn l G a1 τ σ H (σ 40 0 x2.toNatClampNeg) 65 90 _ hw) (va_cwS 3 hts (lw_S q1365 q1366 q166 q1367) rfl rfl rfl kX9_isIn.2 ⟨Nat.le_of_ble_eq_true rfl, Nat.le_of_ble_eq_true rfl⟩) rfl hl.1 rfl (Nat.le_of_ble_eq_true rfl) dX9_isRequestLine_17 ⟨Nat.le_of_ble_eq_true rfl, Nat.le_of_ble_eq_true rfl⟩) hS (fun r1 locs hw hS => ?_)
    refine lv_if_eq (tgt := 29) hx hb dX9_isRequestLine_20 (by decide) (fun h => ?_) (fun h => ?_)
    · have hw := hw.1 h
      exact hK29 x2 hw H locs ls hH hS (lv_sub hl [0, 1, 2] rfl)
    have hw := hw.2 h
    refine lv_iinc (v := x2 + 1) (lv' := [(2, .int (x2 + 1)), (0, .ref (ga G 9 0)), (1, .int x1)]) hx hb dX9_isRequestLine_23 hl (k := 2) rfl rfl (by decide) rfl (fun ls hl => ?_)
    refine lv_goto (tgt := 2) hx hb dX9_isRequestLine_26 (by decide) ?_
    exact ih (x2 + 1) hw H locs ls hH hS (lv_sub hl [1, 2, 0] rfl) hK29
def w9_isRequestLine_L83 (σ : St) (x1 : Int32) (Q : Int32 → St → Prop) (K110 : Int32 → Prop) : Nat → Int32 → Prop
  | 0, _ => False
  | n + 1, x2 => (x1 ≤ x2 → K110 x2) ∧ (¬ x1 ≤ x2 → (vp_in x2 4096 ∧ (by8 (σ 40 0 x2.toNatClampNeg) → (w9_isIn σ (σ 40 0 x2.toNatClampNeg) 33 126 (fun r5 => ((r5 = 0 → K110 x2) ∧ (¬ r5 = 0 → (w9_isRequestLine_L83 σ x1 Q K110 n (x2 + 1)))))))))
set_option maxHeartbeats 4000000 in
theorem k9_isRequestLine_L83 {p : Program} {l : Launch} {e : Env} {s : State} {m : MethodId} {args : Array Value} {below : List Frame} {meth : Method} {c : Code} {G : Gh} {a1 : Nat → Nat → Nat} {τ : St} {Q : Int32 → St → Prop} {K110 : Int32 → Prop} (C : Cx p e s m args meth c cX9_isRequestLine 3 (some .boolean) "WebHost$Requests" G) (σ : St) (x1 : Int32) :
    ∀ (n : Nat) (x2 : Int32), w9_isRequestLine_L83 σ x1 Q K110 n x2 → ∀ (H : Heap) (locs : List Loc) (ls : Array Slot), Hd G a1 (cmb σ τ) H → va_S (gA G) s.heap H locs → lv_has ls 3 [(0, .ref (ga G 9 0)), (1, .int x1), (2, .int x2)] → (∀ (x2 : Int32), K110 x2 → ∀ (H : Heap) (locs : List Loc) (ls : Array Slot), Hd G a1 (cmb σ τ) H → va_S (gA G) s.heap H locs → lv_has ls 3 [(0, .ref (ga G 9 0)), (1, .int x1), (2, .int x2)] → W p l e rmX9_isRequestLine s m args below meth c H locs 0 0 (MQ below (QIs G a1 (fun u => cmb u τ) Q) args s 0 0 (gA G)) (F0 m 110 ls [])) → W p l e rmX9_isRequestLine s m args below meth c H locs 0 0 (MQ below (QIs G a1 (fun u => cmb u τ) Q) args s 0 0 (gA G)) (F0 m 83 ls []) := by
  have hx := C.1
  have hb := C.2.1
  have hown := C.2.2.2.2.2.1
  have hts := C.2.2.2.2.2.2.1
  intro n
  induction n with
  | zero =>
    intro x2 hw
    exact False.elim hw
  | succ n ih =>
    intro x2 hw H locs ls hH hS hl hK110
    refine lv_iload_n hx hb dX9_isRequestLine_83 rfl (lv_at hl 2 rfl) ?_
    refine lv_iload_n hx hb dX9_isRequestLine_84 rfl (lv_at hl 1 rfl) ?_
    refine lv_icmp_ge (tgt := 110) hx hb dX9_isRequestLine_85 (by decide) (fun h => ?_) (fun h => ?_)
    · have hw := hw.1 h
      exact hK110 x2 hw H locs ls hH hS (lv_sub hl [0, 1, 2] rfl)
    have hw := hw.2 h
    refine lv_aload_n hx hb dX9_isRequestLine_88 rfl (lv_at hl 0 rfl) ?_
    refine g9_1 C hH q449 dX9_isRequestLine_89 ?_
    refine lv_iload_n hx hb dX9_isRequestLine_92 rfl (lv_at hl 2 rfl) ?_
    refine l40 C hH hw.1 dX9_isRequestLine_93 (fun hz => ?_)
    have hw := hw.2 hz
    refine lv_bipush (v := 33) hx hb dX9_isRequestLine_94 (by decide) ?_
    refine lv_bipush (v := 126) hx hb dX9_isRequestLine_96 (by decide) ?_
    refine kc_ip (rn_sp (As := [.int (σ 40 0 x2.toNatClampNeg), .int 33, .int 126]) (rest := []) C hH hS (m9_isIn l G a1 τ σ H (σ 40 0 x2.toNatClampNeg) 33 126 _ hw) (va_cwS 3 hts (lw_S q1365 q1366 q166 q1367) rfl rfl rfl kX9_isIn.2 ⟨Nat.le_of_ble_eq_true rfl, Nat.le_of_ble_eq_true rfl⟩) rfl hl.1 rfl (Nat.le_of_ble_eq_true rfl) dX9_isRequestLine_98 ⟨Nat.le_of_ble_eq_true rfl, Nat.le_of_ble_eq_true rfl⟩) hS (fun r5 locs hw hS => ?_)
    refine lv_if_eq (tgt := 110) hx hb dX9_isRequestLine_101 (by decide) (fun h => ?_) (fun h => ?_)
    · have hw := hw.1 h
      exact hK110 x2 hw H locs ls hH hS (lv_sub hl [0, 1, 2] rfl)
    have hw := hw.2 h
    refine lv_iinc (v := x2 + 1) (lv' := [(2, .int (x2 + 1)), (0, .ref (ga G 9 0)), (1, .int x1)]) hx hb dX9_isRequestLine_104 hl (k := 2) rfl rfl (by decide) rfl (fun ls hl => ?_)
    refine lv_goto (tgt := 83) hx hb dX9_isRequestLine_107 (by decide) ?_
    exact ih (x2 + 1) hw H locs ls hH hS (lv_sub hl [1, 2, 0] rfl) hK110
def w9_isRequestLine_J110 (σ : St) (x1 : Int32) (x2 : Int32) (Q : Int32 → St → Prop) : Prop := ∀ σ8, σ8 = up3 σ 9 0 4 x2 → ((x1 ≤ x2 → Q 0 σ8) ∧ (¬ x1 ≤ x2 → (vp_in x2 4096 ∧ (by8 (σ8 40 0 x2.toNatClampNeg) → (((σ8 40 0 x2.toNatClampNeg) = 32 → (w9_isExactly σ8 (x2 + 1) x1 2 (fun r9 => (bo r9 ∧ (∀ σ10, σ10 = up3 σ8 9 0 6 r9 → (bo (σ10 9 0 6) → ((¬ (σ10 9 0 6) = 0 → Q 1 σ10) ∧ ((σ10 9 0 6) = 0 → (w9_isExactly σ10 (x2 + 1) x1 3 (fun r11 => ((r11 = 0 → Q 0 σ10) ∧ (¬ r11 = 0 → Q 1 σ10)))))))))))) ∧ (¬ (σ8 40 0 x2.toNatClampNeg) = 32 → Q 0 σ8))))))
set_option maxHeartbeats 4000000 in
theorem k9_isRequestLine_J110 {p : Program} {l : Launch} {e : Env} {s : State} {m : MethodId} {args : Array Value} {below : List Frame} {meth : Method} {c : Code} {G : Gh} {a1 : Nat → Nat → Nat} {τ : St} {Q : Int32 → St → Prop} (C : Cx p e s m args meth c cX9_isRequestLine 3 (some .boolean) "WebHost$Requests" G) (σ : St) (x1 : Int32) (x2 : Int32) (hw : w9_isRequestLine_J110 σ x1 x2 Q) (H : Heap) (locs : List Loc) (ls : Array Slot) (hH : Hd G a1 (cmb σ τ) H) (hS : va_S (gA G) s.heap H locs) (hl : lv_has ls 3 [(0, .ref (ga G 9 0)), (1, .int x1), (2, .int x2)]) : W p l e rmX9_isRequestLine s m args below meth c H locs 0 0 (MQ below (QIs G a1 (fun u => cmb u τ) Q) args s 0 0 (gA G)) (F0 m 110 ls []) := by
  have hx := C.1
  have hb := C.2.1
  have hown := C.2.2.2.2.2.1
  have hts := C.2.2.2.2.2.2.1
  refine lv_aload_n hx hb dX9_isRequestLine_110 rfl (lv_at hl 0 rfl) ?_
  refine lv_iload_n hx hb dX9_isRequestLine_111 rfl (lv_at hl 2 rfl) ?_
  refine p9_4 C hH hS q452 dX9_isRequestLine_112 (fun σ8 e8 H locs hH hS => ?_)
  have hw := hw σ8 e8
  refine lv_iload_n hx hb dX9_isRequestLine_115 rfl (lv_at hl 2 rfl) ?_
  refine lv_iload_n hx hb dX9_isRequestLine_116 rfl (lv_at hl 1 rfl) ?_
  refine lv_icmp_ge (tgt := 131) hx hb dX9_isRequestLine_117 (by decide) (fun h => ?_) (fun h => ?_)
  · have hw := hw.1 h
    refine lv_iconst (v := 0) hx hb dX9_isRequestLine_131 (by decide) ?_
    exact rt_i C rfl hH hS hw dX9_isRequestLine_132
  have hw := hw.2 h
  refine lv_aload_n hx hb dX9_isRequestLine_120 rfl (lv_at hl 0 rfl) ?_
  refine g9_1 C hH q449 dX9_isRequestLine_121 ?_
  refine lv_iload_n hx hb dX9_isRequestLine_124 rfl (lv_at hl 2 rfl) ?_
  refine l40 C hH hw.1 dX9_isRequestLine_125 (fun hz => ?_)
  have hw := hw.2 hz
  refine lv_bipush (v := 32) hx hb dX9_isRequestLine_126 (by decide) ?_
  refine lv_icmp_eq (tgt := 133) hx hb dX9_isRequestLine_128 (by decide) (fun h => ?_) (fun h => ?_)
  · have hw := hw.1 h
    refine lv_aload_n hx hb dX9_isRequestLine_133 rfl (lv_at hl 0 rfl) ?_
    refine lv_aload_n hx hb dX9_isRequestLine_134 rfl (lv_at hl 0 rfl) ?_
    refine lv_iload_n hx hb dX9_isRequestLine_135 rfl (lv_at hl 2 rfl) ?_
    refine lv_iconst (v := 1) hx hb dX9_isRequestLine_136 (by decide) ?_
    refine lv_iadd hx hb dX9_isRequestLine_137 ?_
    refine lv_iload_n hx hb dX9_isRequestLine_138 rfl (lv_at hl 1 rfl) ?_
    refine str_ldc (n := 2) C st2 dX9_isRequestLine_139 ?_
    refine kc_ip (rn_vp (As := [.int (x2 + 1), .int x1, .ref (gs G 2)]) (rest := [.ref (ga G 9 0)]) C hH hS (by decide) rfl (by decide) (m9_isExactly l G a1 τ σ8 H (x2 + 1) x1 2 (by decide) _ hw) (cwV 3 hts (lw_V q1369 q1371 qs56 q166 q1372) rfl rfl rfl kX9_isExactly ⟨Nat.le_of_ble_eq_true rfl, Nat.le_of_ble_eq_true rfl⟩) rfl hl.1 rfl (Nat.le_of_ble_eq_true rfl) dX9_isRequestLine_141 ⟨Nat.le_of_ble_eq_true rfl, Nat.le_of_ble_eq_true rfl⟩) hS (fun r9 locs hw hS => ?_)
    refine p9_6 C hH hS hw.1 q454 dX9_isRequestLine_144 (fun σ10 e10 H locs hH hS => ?_)
    have hw := hw.2 σ10 e10
    refine lv_aload_n hx hb dX9_isRequestLine_147 rfl (lv_at hl 0 rfl) ?_
    refine g9_6 C hH q454 dX9_isRequestLine_148 (fun hz => ?_)
    have hw := hw hz
    refine lv_if_ne (tgt := 167) hx hb dX9_isRequestLine_151 (by decide) (fun h => ?_) (fun h => ?_)
    · have hw := hw.1 h
      refine lv_iconst (v := 1) hx hb dX9_isRequestLine_167 (by decide) ?_
      refine lv_goto (tgt := 172) hx hb dX9_isRequestLine_168 (by decide) ?_
      exact rt_i C rfl hH hS hw dX9_isRequestLine_172
    have hw := hw.2 h
    refine lv_aload_n hx hb dX9_isRequestLine_154 rfl (lv_at hl 0 rfl) ?_
    refine lv_iload_n hx hb dX9_isRequestLine_155 rfl (lv_at hl 2 rfl) ?_
    refine lv_iconst (v := 1) hx hb dX9_isRequestLine_156 (by decide) ?_
    refine lv_iadd hx hb dX9_isRequestLine_157 ?_
    refine lv_iload_n hx hb dX9_isRequestLine_158 rfl (lv_at hl 1 rfl) ?_
    refine str_ldc (n := 3) C st3 dX9_isRequestLine_159 ?_
    refine kc_ip (rn_vp (As := [.int (x2 + 1), .int x1, .ref (gs G 3)]) (rest := []) C hH hS (by decide) rfl (by decide) (m9_isExactly l G a1 τ σ10 H (x2 + 1) x1 3 (by decide) _ hw) (cwV 3 hts (lw_V q1369 q1371 qs56 q166 q1372) rfl rfl rfl kX9_isExactly ⟨Nat.le_of_ble_eq_true rfl, Nat.le_of_ble_eq_true rfl⟩) rfl hl.1 rfl (Nat.le_of_ble_eq_true rfl) dX9_isRequestLine_161 ⟨Nat.le_of_ble_eq_true rfl, Nat.le_of_ble_eq_true rfl⟩) hS (fun r11 locs hw hS => ?_)
    refine lv_if_eq (tgt := 171) hx hb dX9_isRequestLine_164 (by decide) (fun h => ?_) (fun h => ?_)
    · have hw := hw.1 h
      refine lv_iconst (v := 0) hx hb dX9_isRequestLine_171 (by decide) ?_
      exact rt_i C rfl hH hS hw dX9_isRequestLine_172
    have hw := hw.2 h
    refine lv_iconst (v := 1) hx hb dX9_isRequestLine_167 (by decide) ?_
    refine lv_goto (tgt := 172) hx hb dX9_isRequestLine_168 (by decide) ?_
    exact rt_i C rfl hH hS hw dX9_isRequestLine_172
  have hw := hw.2 h
  refine lv_iconst (v := 0) hx hb dX9_isRequestLine_131 (by decide) ?_
  exact rt_i C rfl hH hS hw dX9_isRequestLine_132
def w9_isRequestLine_J29 (σ : St) (x1 : Int32) (x2 : Int32) (Q : Int32 → St → Prop) : Prop := ∀ σ4, σ4 = up3 σ 9 0 3 x2 → ((x2 = 0 → Q 0 σ4) ∧ (¬ x2 = 0 → ((16 < x2 → Q 0 σ4) ∧ (¬ 16 < x2 → ((x1 ≤ x2 → Q 0 σ4) ∧ (¬ x1 ≤ x2 → (vp_in x2 4096 ∧ (by8 (σ4 40 0 x2.toNatClampNeg) → (((σ4 40 0 x2.toNatClampNeg) = 32 → ((x1 ≤ (x2 + 1) → Q 0 σ4) ∧ (¬ x1 ≤ (x2 + 1) → (vp_in (x2 + 1) 4096 ∧ (by8 (σ4 40 0 (x2 + 1).toNatClampNeg) → (((σ4 40 0 (x2 + 1).toNatClampNeg) = 47 → (∃ z6, w9_isRequestLine_L83 σ4 x1 Q (fun x2_7 => w9_isRequestLine_J110 σ4 x1 x2_7 Q) z6 (x2 + 1))) ∧ (¬ (σ4 40 0 (x2 + 1).toNatClampNeg) = 47 → Q 0 σ4))))))) ∧ (¬ (σ4 40 0 x2.toNatClampNeg) = 32 → Q 0 σ4))))))))))
set_option maxHeartbeats 4000000 in
theorem k9_isRequestLine_J29 {p : Program} {l : Launch} {e : Env} {s : State} {m : MethodId} {args : Array Value} {below : List Frame} {meth : Method} {c : Code} {G : Gh} {a1 : Nat → Nat → Nat} {τ : St} {Q : Int32 → St → Prop} (C : Cx p e s m args meth c cX9_isRequestLine 3 (some .boolean) "WebHost$Requests" G) (σ : St) (x1 : Int32) (x2 : Int32) (hw : w9_isRequestLine_J29 σ x1 x2 Q) (H : Heap) (locs : List Loc) (ls : Array Slot) (hH : Hd G a1 (cmb σ τ) H) (hS : va_S (gA G) s.heap H locs) (hl : lv_has ls 3 [(0, .ref (ga G 9 0)), (1, .int x1), (2, .int x2)]) : W p l e rmX9_isRequestLine s m args below meth c H locs 0 0 (MQ below (QIs G a1 (fun u => cmb u τ) Q) args s 0 0 (gA G)) (F0 m 29 ls []) := by
  have hx := C.1
  have hb := C.2.1
  have hown := C.2.2.2.2.2.1
  have hts := C.2.2.2.2.2.2.1
  refine lv_aload_n hx hb dX9_isRequestLine_29 rfl (lv_at hl 0 rfl) ?_
  refine lv_iload_n hx hb dX9_isRequestLine_30 rfl (lv_at hl 2 rfl) ?_
  refine p9_3 C hH hS q451 dX9_isRequestLine_31 (fun σ4 e4 H locs hH hS => ?_)
  have hw := hw σ4 e4
  refine lv_iload_n hx hb dX9_isRequestLine_34 rfl (lv_at hl 2 rfl) ?_
  refine lv_if_eq (tgt := 60) hx hb dX9_isRequestLine_35 (by decide) (fun h => ?_) (fun h => ?_)
  · have hw := hw.1 h
    refine lv_iconst (v := 0) hx hb dX9_isRequestLine_60 (by decide) ?_
    exact rt_i C rfl hH hS hw dX9_isRequestLine_61
  have hw := hw.2 h
  refine lv_iload_n hx hb dX9_isRequestLine_38 rfl (lv_at hl 2 rfl) ?_
  refine lv_bipush (v := 16) hx hb dX9_isRequestLine_39 (by decide) ?_
  refine lv_icmp_gt (tgt := 60) hx hb dX9_isRequestLine_41 (by decide) (fun h => ?_) (fun h => ?_)
  · have hw := hw.1 h
    refine lv_iconst (v := 0) hx hb dX9_isRequestLine_60 (by decide) ?_
    exact rt_i C rfl hH hS hw dX9_isRequestLine_61
  have hw := hw.2 h
  refine lv_iload_n hx hb dX9_isRequestLine_44 rfl (lv_at hl 2 rfl) ?_
  refine lv_iload_n hx hb dX9_isRequestLine_45 rfl (lv_at hl 1 rfl) ?_
  refine lv_icmp_ge (tgt := 60) hx hb dX9_isRequestLine_46 (by decide) (fun h => ?_) (fun h => ?_)
  · have hw := hw.1 h
    refine lv_iconst (v := 0) hx hb dX9_isRequestLine_60 (by decide) ?_
    exact rt_i C rfl hH hS hw dX9_isRequestLine_61
  have hw := hw.2 h
  refine lv_aload_n hx hb dX9_isRequestLine_49 rfl (lv_at hl 0 rfl) ?_
  refine g9_1 C hH q449 dX9_isRequestLine_50 ?_
  refine lv_iload_n hx hb dX9_isRequestLine_53 rfl (lv_at hl 2 rfl) ?_
  refine l40 C hH hw.1 dX9_isRequestLine_54 (fun hz => ?_)
  have hw := hw.2 hz
  refine lv_bipush (v := 32) hx hb dX9_isRequestLine_55 (by decide) ?_
  refine lv_icmp_eq (tgt := 62) hx hb dX9_isRequestLine_57 (by decide) (fun h => ?_) (fun h => ?_)
  · have hw := hw.1 h
    refine lv_iinc (v := x2 + 1) (lv' := [(2, .int (x2 + 1)), (0, .ref (ga G 9 0)), (1, .int x1)]) hx hb dX9_isRequestLine_62 hl (k := 2) rfl rfl (by decide) rfl (fun ls hl => ?_)
    refine lv_iload_n hx hb dX9_isRequestLine_65 rfl (lv_at hl 0 rfl) ?_
    refine lv_iload_n hx hb dX9_isRequestLine_66 rfl (lv_at hl 2 rfl) ?_
    refine lv_icmp_ge (tgt := 81) hx hb dX9_isRequestLine_67 (by decide) (fun h => ?_) (fun h => ?_)
    · have hw := hw.1 h
      refine lv_iconst (v := 0) hx hb dX9_isRequestLine_81 (by decide) ?_
      exact rt_i C rfl hH hS hw dX9_isRequestLine_82
    have hw := hw.2 h
    refine lv_aload_n hx hb dX9_isRequestLine_70 rfl (lv_at hl 1 rfl) ?_
    refine g9_1 C hH q449 dX9_isRequestLine_71 ?_
    refine lv_iload_n hx hb dX9_isRequestLine_74 rfl (lv_at hl 0 rfl) ?_
    refine l40 C hH hw.1 dX9_isRequestLine_75 (fun hz => ?_)
    have hw := hw.2 hz
    refine lv_bipush (v := 47) hx hb dX9_isRequestLine_76 (by decide) ?_
    refine lv_icmp_eq (tgt := 83) hx hb dX9_isRequestLine_78 (by decide) (fun h => ?_) (fun h => ?_)
    · have hw := hw.1 h
      obtain ⟨n6, hw⟩ := hw
      refine k9_isRequestLine_L83 C σ4 x1 n6 (x2 + 1) hw H locs ls hH hS (lv_sub hl [1, 2, 0] rfl) (fun x2_7 hw H locs ls hH hS hl => ?_)
      exact k9_isRequestLine_J110 C σ4 x1 x2_7 hw H locs ls hH hS (lv_sub hl [0, 1, 2] rfl)
    have hw := hw.2 h
    refine lv_iconst (v := 0) hx hb dX9_isRequestLine_81 (by decide) ?_
    exact rt_i C rfl hH hS hw dX9_isRequestLine_82
  have hw := hw.2 h
  refine lv_iconst (v := 0) hx hb dX9_isRequestLine_60 (by decide) ?_
  exact rt_i C rfl hH hS hw dX9_isRequestLine_61
def w9_isRequestLine (σ : St) (x1 : Int32) (Q : Int32 → St → Prop) : Prop := ∃ z2, w9_isRequestLine_L2 σ x1 Q (fun x2_3 => w9_isRequestLine_J29 σ x1 x2_3 Q) z2 0
set_option maxHeartbeats 4000000 in
theorem m9_isRequestLine (l : Launch) (G : Gh) (a1 : Nat → Nat → Nat) (τ : St) (σ : St) (x1 : Int32) (Q : Int32 → St → Prop) (hw : w9_isRequestLine σ x1 Q) : Met l yX9_isRequestLine (ws_ yX9_isRequestLine cX9_isRequestLine 3 (some .boolean)) rmX9_isRequestLine (PcS G a1 (cmb σ τ) [.ref (ga G 9 0), .int x1]) (QIs G a1 (fun u => cmb u τ) Q) 0 0 (gA G) := by
  refine met_w (by decide) (Nat.le_of_ble_eq_true rfl) ?_
  intro p e s m below meth c ls C hH hS hl
  have C : Cx p e s m _ meth c cX9_isRequestLine 3 (some .boolean) "WebHost$Requests" G := C
  have hl : lv_has ls 3 [(0, .ref (ga G 9 0)), (1, .int x1)] := hl
  have hx := C.1
  have hb := C.2.1
  have hown := C.2.2.2.2.2.1
  have hts := C.2.2.2.2.2.2.1
  obtain ⟨locs, hlocs⟩ : ∃ z : List Loc, z = [] := ⟨_, rfl⟩
  obtain ⟨H, hHe⟩ : ∃ z : Heap, z = s.heap := ⟨_, rfl⟩
  have hH : Hd G a1 (cmb σ τ) H := by rw [hHe]; exact hH
  have hS : va_S (gA G) s.heap H locs := by rw [hHe, hlocs]; exact hS
  refine W.heap0 hHe.symm hlocs.symm ?_
  refine lv_iconst (v := 0) hx hb dX9_isRequestLine_0 (by decide) ?_
  refine lv_istore_n (lv' := [(2, .int 0), (0, .ref (ga G 9 0)), (1, .int x1)]) hx hb dX9_isRequestLine_1 rfl hl (by decide) rfl (fun ls hl => ?_)
  obtain ⟨n2, hw⟩ := hw
  refine k9_isRequestLine_L2 C σ x1 n2 0 hw H locs ls hH hS (lv_sub hl [1, 2, 0] rfl) (fun x2_3 hw H locs ls hH hS hl => ?_)
  exact k9_isRequestLine_J29 C σ x1 x2_3 hw H locs ls hH hS (lv_sub hl [0, 1, 2] rfl)
/-! WebHost$Requests.kind(I)Ljava/lang/String; -/
abbrev cX9_kind : ByteArray := prog_11_method_31_code
def yX9_kind : MethodName := ⟨RX9, "kind", "(I)Ljava/lang/String;"⟩
theorem dX9_kind_0 : decode cX9_kind 0 = .ok (.aload_n 0, 1) := by decide +kernel
theorem dX9_kind_1 : decode cX9_kind 1 = .ok (.getfield 18, 3) := by decide +kernel
theorem dX9_kind_4 : decode cX9_kind 4 = .ok (.iload_n 1, 1) := by decide +kernel
theorem dX9_kind_5 : decode cX9_kind 5 = .ok (.ldc_w 304, 3) := by decide +kernel
theorem dX9_kind_8 : decode cX9_kind 8 = .ok (.invokevirtual 306, 3) := by decide +kernel
theorem dX9_kind_11 : decode cX9_kind 11 = .ok (.ifCond .eq 7, 3) := by decide +kernel
theorem dX9_kind_14 : decode cX9_kind 14 = .ok (.ldc_w 310, 3) := by decide +kernel
theorem dX9_kind_17 : decode cX9_kind 17 = .ok (.areturn, 1) := by decide +kernel
theorem dX9_kind_18 : decode cX9_kind 18 = .ok (.aload_n 0, 1) := by decide +kernel
theorem dX9_kind_19 : decode cX9_kind 19 = .ok (.getfield 18, 3) := by decide +kernel
theorem dX9_kind_22 : decode cX9_kind 22 = .ok (.iload_n 1, 1) := by decide +kernel
theorem dX9_kind_23 : decode cX9_kind 23 = .ok (.ldc_w 312, 3) := by decide +kernel
theorem dX9_kind_26 : decode cX9_kind 26 = .ok (.invokevirtual 306, 3) := by decide +kernel
theorem dX9_kind_29 : decode cX9_kind 29 = .ok (.ifCond .eq 7, 3) := by decide +kernel
theorem dX9_kind_32 : decode cX9_kind 32 = .ok (.ldc_w 314, 3) := by decide +kernel
theorem dX9_kind_35 : decode cX9_kind 35 = .ok (.areturn, 1) := by decide +kernel
theorem dX9_kind_36 : decode cX9_kind 36 = .ok (.aload_n 0, 1) := by decide +kernel
theorem dX9_kind_37 : decode cX9_kind 37 = .ok (.getfield 18, 3) := by decide +kernel
theorem dX9_kind_40 : decode cX9_kind 40 = .ok (.iload_n 1, 1) := by decide +kernel
theorem dX9_kind_41 : decode cX9_kind 41 = .ok (.ldc_w 316, 3) := by decide +kernel
theorem dX9_kind_44 : decode cX9_kind 44 = .ok (.invokevirtual 306, 3) := by decide +kernel
theorem dX9_kind_47 : decode cX9_kind 47 = .ok (.ifCond .eq 7, 3) := by decide +kernel
theorem dX9_kind_50 : decode cX9_kind 50 = .ok (.ldc_w 318, 3) := by decide +kernel
theorem dX9_kind_53 : decode cX9_kind 53 = .ok (.areturn, 1) := by decide +kernel
theorem dX9_kind_54 : decode cX9_kind 54 = .ok (.aload_n 0, 1) := by decide +kernel
theorem dX9_kind_55 : decode cX9_kind 55 = .ok (.getfield 18, 3) := by decide +kernel
theorem dX9_kind_58 : decode cX9_kind 58 = .ok (.iload_n 1, 1) := by decide +kernel
theorem dX9_kind_59 : decode cX9_kind 59 = .ok (.ldc_w 320, 3) := by decide +kernel
theorem dX9_kind_62 : decode cX9_kind 62 = .ok (.invokevirtual 306, 3) := by decide +kernel
theorem dX9_kind_65 : decode cX9_kind 65 = .ok (.ifCond .eq 7, 3) := by decide +kernel
theorem dX9_kind_68 : decode cX9_kind 68 = .ok (.ldc_w 322, 3) := by decide +kernel
theorem dX9_kind_71 : decode cX9_kind 71 = .ok (.areturn, 1) := by decide +kernel
theorem dX9_kind_72 : decode cX9_kind 72 = .ok (.aload_n 0, 1) := by decide +kernel
theorem dX9_kind_73 : decode cX9_kind 73 = .ok (.getfield 18, 3) := by decide +kernel
theorem dX9_kind_76 : decode cX9_kind 76 = .ok (.iload_n 1, 1) := by decide +kernel
theorem dX9_kind_77 : decode cX9_kind 77 = .ok (.ldc_w 324, 3) := by decide +kernel
theorem dX9_kind_80 : decode cX9_kind 80 = .ok (.invokevirtual 306, 3) := by decide +kernel
theorem dX9_kind_83 : decode cX9_kind 83 = .ok (.ifCond .eq 9, 3) := by decide +kernel
theorem dX9_kind_86 : decode cX9_kind 86 = .ok (.ldc_w 326, 3) := by decide +kernel
theorem dX9_kind_89 : decode cX9_kind 89 = .ok (.goto 6, 3) := by decide +kernel
theorem dX9_kind_92 : decode cX9_kind 92 = .ok (.ldc_w 328, 3) := by decide +kernel
theorem dX9_kind_95 : decode cX9_kind 95 = .ok (.areturn, 1) := by decide +kernel
def rmX9_kind : Room := { frames := 5, cells := 0, slots := 0, locals := 109 }
theorem kX9_kind : yX9_kind.cls = "WebHost$Requests" ∧ yX9_kind.cls ≠ "java/lang/invoke/MethodHandle" ∧ yX9_kind.cls ≠ "java/lang/invoke/VarHandle" ∧ (parseMethodDescriptor yX9_kind.desc).map (fun d => d.parameters.length) = some 1 := by decide +kernel
def w9_kind (σ : St) (x1 : Int32) (Q : Nat → Prop) : Prop := w1_endsWith σ x1 31 (fun r1 => ((r1 = 0 → (w1_endsWith σ x1 33 (fun r2 => ((r2 = 0 → (w1_endsWith σ x1 35 (fun r3 => ((r3 = 0 → (w1_endsWith σ x1 37 (fun r4 => ((r4 = 0 → (w1_endsWith σ x1 39 (fun r5 => ((r5 = 0 → Q 41) ∧ (¬ r5 = 0 → Q 40))))) ∧ (¬ r4 = 0 → Q 38))))) ∧ (¬ r3 = 0 → Q 36))))) ∧ (¬ r2 = 0 → Q 34))))) ∧ (¬ r1 = 0 → Q 32)))
set_option maxHeartbeats 4000000 in
theorem m9_kind (l : Launch) (G : Gh) (a1 : Nat → Nat → Nat) (τ : St) (σ : St) (H : Heap) (x1 : Int32) (Q : Nat → Prop) (hw : w9_kind σ x1 Q) : Met l yX9_kind (ws_ yX9_kind cX9_kind 2 (some (.object "java/lang/String"))) rmX9_kind (PcP G a1 (cmb σ τ) H [.ref (ga G 9 0), .int x1]) (QTp G H Q) 0 0 (gA G) := by
  refine met_p (by decide) (Nat.le_of_ble_eq_true rfl) ?_
  intro p e s m below meth c ls hHe C hH hS hl
  have C : Cx p e s m _ meth c cX9_kind 2 (some (.object "java/lang/String")) "WebHost$Requests" G := C
  have hl : lv_has ls 2 [(0, .ref (ga G 9 0)), (1, .int x1)] := hl
  have hx := C.1
  have hb := C.2.1
  have hown := C.2.2.2.2.2.1
  have hts := C.2.2.2.2.2.2.1
  obtain ⟨locs, hlocs⟩ : ∃ z : List Loc, z = [] := ⟨_, rfl⟩
  rw [← hlocs] at hS ⊢
  refine lv_aload_n hx hb dX9_kind_0 rfl (lv_at hl 0 rfl) ?_
  refine g9_0 C hH q448 dX9_kind_1 ?_
  refine lv_iload_n hx hb dX9_kind_4 rfl (lv_at hl 1 rfl) ?_
  refine str_ldcw (n := 31) C st31 dX9_kind_5 ?_
  refine kc_ip (rn_vp (As := [.int x1, .ref (gs G 31)]) (rest := []) C hH hS (by decide) rfl (by decide) (m1_endsWith l G a1 τ σ H x1 31 (by decide) _ hw) (cwV 2 hts (lw_V q1547 q1548 q1549 q158 q1550) rfl rfl rfl kX1_endsWith ⟨Nat.le_of_ble_eq_true rfl, Nat.le_of_ble_eq_true rfl⟩) rfl hl.1 rfl (Nat.le_of_ble_eq_true rfl) dX9_kind_8 ⟨Nat.le_of_ble_eq_true rfl, Nat.le_of_ble_eq_true rfl⟩) hS (fun r1 locs hw hS => ?_)
  refine lv_if_eq (tgt := 18) hx hb dX9_kind_11 (by decide) (fun h => ?_) (fun h => ?_)
  · have hw := hw.1 h
    refine lv_aload_n hx hb dX9_kind_18 rfl (lv_at hl 0 rfl) ?_
    refine g9_0 C hH q448 dX9_kind_19 ?_
    refine lv_iload_n hx hb dX9_kind_22 rfl (lv_at hl 1 rfl) ?_
    refine str_ldcw (n := 33) C st33 dX9_kind_23 ?_
    refine kc_ip (rn_vp (As := [.int x1, .ref (gs G 33)]) (rest := []) C hH hS (by decide) rfl (by decide) (m1_endsWith l G a1 τ σ H x1 33 (by decide) _ hw) (cwV 2 hts (lw_V q1547 q1548 q1549 q158 q1550) rfl rfl rfl kX1_endsWith ⟨Nat.le_of_ble_eq_true rfl, Nat.le_of_ble_eq_true rfl⟩) rfl hl.1 rfl (Nat.le_of_ble_eq_true rfl) dX9_kind_26 ⟨Nat.le_of_ble_eq_true rfl, Nat.le_of_ble_eq_true rfl⟩) hS (fun r2 locs hw hS => ?_)
    refine lv_if_eq (tgt := 36) hx hb dX9_kind_29 (by decide) (fun h => ?_) (fun h => ?_)
    · have hw := hw.1 h
      refine lv_aload_n hx hb dX9_kind_36 rfl (lv_at hl 0 rfl) ?_
      refine g9_0 C hH q448 dX9_kind_37 ?_
      refine lv_iload_n hx hb dX9_kind_40 rfl (lv_at hl 1 rfl) ?_
      refine str_ldcw (n := 35) C st35 dX9_kind_41 ?_
      refine kc_ip (rn_vp (As := [.int x1, .ref (gs G 35)]) (rest := []) C hH hS (by decide) rfl (by decide) (m1_endsWith l G a1 τ σ H x1 35 (by decide) _ hw) (cwV 2 hts (lw_V q1547 q1548 q1549 q158 q1550) rfl rfl rfl kX1_endsWith ⟨Nat.le_of_ble_eq_true rfl, Nat.le_of_ble_eq_true rfl⟩) rfl hl.1 rfl (Nat.le_of_ble_eq_true rfl) dX9_kind_44 ⟨Nat.le_of_ble_eq_true rfl, Nat.le_of_ble_eq_true rfl⟩) hS (fun r3 locs hw hS => ?_)
      refine lv_if_eq (tgt := 54) hx hb dX9_kind_47 (by decide) (fun h => ?_) (fun h => ?_)
      · have hw := hw.1 h
        refine lv_aload_n hx hb dX9_kind_54 rfl (lv_at hl 0 rfl) ?_
        refine g9_0 C hH q448 dX9_kind_55 ?_
        refine lv_iload_n hx hb dX9_kind_58 rfl (lv_at hl 1 rfl) ?_
        refine str_ldcw (n := 37) C st37 dX9_kind_59 ?_
        refine kc_ip (rn_vp (As := [.int x1, .ref (gs G 37)]) (rest := []) C hH hS (by decide) rfl (by decide) (m1_endsWith l G a1 τ σ H x1 37 (by decide) _ hw) (cwV 2 hts (lw_V q1547 q1548 q1549 q158 q1550) rfl rfl rfl kX1_endsWith ⟨Nat.le_of_ble_eq_true rfl, Nat.le_of_ble_eq_true rfl⟩) rfl hl.1 rfl (Nat.le_of_ble_eq_true rfl) dX9_kind_62 ⟨Nat.le_of_ble_eq_true rfl, Nat.le_of_ble_eq_true rfl⟩) hS (fun r4 locs hw hS => ?_)
        refine lv_if_eq (tgt := 72) hx hb dX9_kind_65 (by decide) (fun h => ?_) (fun h => ?_)
        · have hw := hw.1 h
          refine lv_aload_n hx hb dX9_kind_72 rfl (lv_at hl 0 rfl) ?_
          refine g9_0 C hH q448 dX9_kind_73 ?_
          refine lv_iload_n hx hb dX9_kind_76 rfl (lv_at hl 1 rfl) ?_
          refine str_ldcw (n := 39) C st39 dX9_kind_77 ?_
          refine kc_ip (rn_vp (As := [.int x1, .ref (gs G 39)]) (rest := []) C hH hS (by decide) rfl (by decide) (m1_endsWith l G a1 τ σ H x1 39 (by decide) _ hw) (cwV 2 hts (lw_V q1547 q1548 q1549 q158 q1550) rfl rfl rfl kX1_endsWith ⟨Nat.le_of_ble_eq_true rfl, Nat.le_of_ble_eq_true rfl⟩) rfl hl.1 rfl (Nat.le_of_ble_eq_true rfl) dX9_kind_80 ⟨Nat.le_of_ble_eq_true rfl, Nat.le_of_ble_eq_true rfl⟩) hS (fun r5 locs hw hS => ?_)
          refine lv_if_eq (tgt := 92) hx hb dX9_kind_83 (by decide) (fun h => ?_) (fun h => ?_)
          · have hw := hw.1 h
            refine str_ldcw (n := 41) C st41 dX9_kind_92 ?_
            exact rt_tp 41 C hS hw dX9_kind_95
          have hw := hw.2 h
          refine str_ldcw (n := 40) C st40 dX9_kind_86 ?_
          refine lv_goto (tgt := 95) hx hb dX9_kind_89 (by decide) ?_
          exact rt_tp 40 C hS hw dX9_kind_95
        have hw := hw.2 h
        refine str_ldcw (n := 38) C st38 dX9_kind_68 ?_
        exact rt_tp 38 C hS hw dX9_kind_71
      have hw := hw.2 h
      refine str_ldcw (n := 36) C st36 dX9_kind_50 ?_
      exact rt_tp 36 C hS hw dX9_kind_53
    have hw := hw.2 h
    refine str_ldcw (n := 34) C st34 dX9_kind_32 ?_
    exact rt_tp 34 C hS hw dX9_kind_35
  have hw := hw.2 h
  refine str_ldcw (n := 32) C st32 dX9_kind_14 ?_
  exact rt_tp 32 C hS hw dX9_kind_17
/-! WebHost$Requests.words(II)V -/
abbrev cX9_words : ByteArray := prog_11_method_16_code
def yX9_words : MethodName := ⟨RX9, "words", "(II)V"⟩
theorem dX9_words_0 : decode cX9_words 0 = .ok (.iload_n 1, 1) := by decide +kernel
theorem dX9_words_1 : decode cX9_words 1 = .ok (.istore_n 3, 1) := by decide +kernel
theorem dX9_words_2 : decode cX9_words 2 = .ok (.iload_n 3, 1) := by decide +kernel
theorem dX9_words_3 : decode cX9_words 3 = .ok (.iload_n 2, 1) := by decide +kernel
theorem dX9_words_4 : decode cX9_words 4 = .ok (.if_icmp .ge 102, 3) := by decide +kernel
theorem dX9_words_7 : decode cX9_words 7 = .ok (.iload_n 3, 1) := by decide +kernel
theorem dX9_words_8 : decode cX9_words 8 = .ok (.istore 4, 2) := by decide +kernel
theorem dX9_words_10 : decode cX9_words 10 = .ok (.iload_n 3, 1) := by decide +kernel
theorem dX9_words_11 : decode cX9_words 11 = .ok (.iload_n 2, 1) := by decide +kernel
theorem dX9_words_12 : decode cX9_words 12 = .ok (.if_icmp .ge 32, 3) := by decide +kernel
theorem dX9_words_15 : decode cX9_words 15 = .ok (.aload_n 0, 1) := by decide +kernel
theorem dX9_words_16 : decode cX9_words 16 = .ok (.getfield 9, 3) := by decide +kernel
theorem dX9_words_19 : decode cX9_words 19 = .ok (.iload_n 3, 1) := by decide +kernel
theorem dX9_words_20 : decode cX9_words 20 = .ok (.baload, 1) := by decide +kernel
theorem dX9_words_21 : decode cX9_words 21 = .ok (.bipush 44, 2) := by decide +kernel
theorem dX9_words_23 : decode cX9_words 23 = .ok (.if_icmp .eq 21, 3) := by decide +kernel
theorem dX9_words_26 : decode cX9_words 26 = .ok (.aload_n 0, 1) := by decide +kernel
theorem dX9_words_27 : decode cX9_words 27 = .ok (.getfield 9, 3) := by decide +kernel
theorem dX9_words_30 : decode cX9_words 30 = .ok (.iload_n 3, 1) := by decide +kernel
theorem dX9_words_31 : decode cX9_words 31 = .ok (.baload, 1) := by decide +kernel
theorem dX9_words_32 : decode cX9_words 32 = .ok (.invokestatic 104, 3) := by decide +kernel
theorem dX9_words_35 : decode cX9_words 35 = .ok (.ifCond .ne 9, 3) := by decide +kernel
theorem dX9_words_38 : decode cX9_words 38 = .ok (.iinc 3 1, 3) := by decide +kernel
theorem dX9_words_41 : decode cX9_words 41 = .ok (.goto (-31), 3) := by decide +kernel
theorem dX9_words_44 : decode cX9_words 44 = .ok (.aload_n 0, 1) := by decide +kernel
theorem dX9_words_45 : decode cX9_words 45 = .ok (.aload_n 0, 1) := by decide +kernel
theorem dX9_words_46 : decode cX9_words 46 = .ok (.getfield 153, 3) := by decide +kernel
theorem dX9_words_49 : decode cX9_words 49 = .ok (.ifCond .ne 15, 3) := by decide +kernel
theorem dX9_words_52 : decode cX9_words 52 = .ok (.aload_n 0, 1) := by decide +kernel
theorem dX9_words_53 : decode cX9_words 53 = .ok (.iload 4, 2) := by decide +kernel
theorem dX9_words_55 : decode cX9_words 55 = .ok (.iload_n 3, 1) := by decide +kernel
theorem dX9_words_56 : decode cX9_words 56 = .ok (.ldc 156, 2) := by decide +kernel
theorem dX9_words_58 : decode cX9_words 58 = .ok (.invokevirtual 112, 3) := by decide +kernel
theorem dX9_words_61 : decode cX9_words 61 = .ok (.ifCond .eq 7, 3) := by decide +kernel
theorem dX9_words_64 : decode cX9_words 64 = .ok (.iconst 1, 1) := by decide +kernel
theorem dX9_words_65 : decode cX9_words 65 = .ok (.goto 4, 3) := by decide +kernel
theorem dX9_words_68 : decode cX9_words 68 = .ok (.iconst 0, 1) := by decide +kernel
theorem dX9_words_69 : decode cX9_words 69 = .ok (.putfield 153, 3) := by decide +kernel
theorem dX9_words_72 : decode cX9_words 72 = .ok (.aload_n 0, 1) := by decide +kernel
theorem dX9_words_73 : decode cX9_words 73 = .ok (.aload_n 0, 1) := by decide +kernel
theorem dX9_words_74 : decode cX9_words 74 = .ok (.getfield 158, 3) := by decide +kernel
theorem dX9_words_77 : decode cX9_words 77 = .ok (.ifCond .ne 15, 3) := by decide +kernel
theorem dX9_words_80 : decode cX9_words 80 = .ok (.aload_n 0, 1) := by decide +kernel
theorem dX9_words_81 : decode cX9_words 81 = .ok (.iload 4, 2) := by decide +kernel
theorem dX9_words_83 : decode cX9_words 83 = .ok (.iload_n 3, 1) := by decide +kernel
theorem dX9_words_84 : decode cX9_words 84 = .ok (.ldc 161, 2) := by decide +kernel
theorem dX9_words_86 : decode cX9_words 86 = .ok (.invokevirtual 112, 3) := by decide +kernel
theorem dX9_words_89 : decode cX9_words 89 = .ok (.ifCond .eq 7, 3) := by decide +kernel
theorem dX9_words_92 : decode cX9_words 92 = .ok (.iconst 1, 1) := by decide +kernel
theorem dX9_words_93 : decode cX9_words 93 = .ok (.goto 4, 3) := by decide +kernel
theorem dX9_words_96 : decode cX9_words 96 = .ok (.iconst 0, 1) := by decide +kernel
theorem dX9_words_97 : decode cX9_words 97 = .ok (.putfield 158, 3) := by decide +kernel
theorem dX9_words_100 : decode cX9_words 100 = .ok (.iinc 3 1, 3) := by decide +kernel
theorem dX9_words_103 : decode cX9_words 103 = .ok (.goto (-101), 3) := by decide +kernel
theorem dX9_words_106 : decode cX9_words 106 = .ok (.return_, 1) := by decide +kernel
def rmX9_words : Room := { frames := 5, cells := 0, slots := 0, locals := 109 }
theorem kX9_words : yX9_words.cls = "WebHost$Requests" ∧ yX9_words.cls ≠ "java/lang/invoke/MethodHandle" ∧ yX9_words.cls ≠ "java/lang/invoke/VarHandle" ∧ (parseMethodDescriptor yX9_words.desc).map (fun d => d.parameters.length) = some 2 := by decide +kernel
def w9_words_L10 (σ : St) (x2 : Int32) (x4 : Int32) (Q : St → Prop) (K44 : Int32 → Prop) : Nat → Int32 → Prop
  | 0, _ => False
  | n + 1, x3 => (x2 ≤ x3 → K44 x3) ∧ (¬ x2 ≤ x3 → (vp_in x3 4096 ∧ (by8 (σ 40 0 x3.toNatClampNeg) → (((σ 40 0 x3.toNatClampNeg) = 44 → K44 x3) ∧ (¬ (σ 40 0 x3.toNatClampNeg) = 44 → (vp_in x3 4096 ∧ (by8 (σ 40 0 x3.toNatClampNeg) → (w9_isBlank σ (σ 40 0 x3.toNatClampNeg) (fun r1 => ((¬ r1 = 0 → K44 x3) ∧ (r1 = 0 → (w9_words_L10 σ x2 x4 Q K44 n (x3 + 1)))))))))))))
set_option maxHeartbeats 4000000 in
theorem k9_words_L10 {p : Program} {l : Launch} {e : Env} {s : State} {m : MethodId} {args : Array Value} {below : List Frame} {meth : Method} {c : Code} {G : Gh} {a1 : Nat → Nat → Nat} {τ : St} {Q : St → Prop} {K44 : Int32 → Prop} (C : Cx p e s m args meth c cX9_words 5 none "WebHost$Requests" G) (σ : St) (x2 : Int32) (x4 : Int32) :
    ∀ (n : Nat) (x3 : Int32), w9_words_L10 σ x2 x4 Q K44 n x3 → ∀ (H : Heap) (locs : List Loc) (ls : Array Slot), Hd G a1 (cmb σ τ) H → va_S (gA G) s.heap H locs → lv_has ls 5 [(0, .ref (ga G 9 0)), (2, .int x2), (3, .int x3), (4, .int x4)] → (∀ (x3 : Int32), K44 x3 → ∀ (H : Heap) (locs : List Loc) (ls : Array Slot), Hd G a1 (cmb σ τ) H → va_S (gA G) s.heap H locs → lv_has ls 5 [(0, .ref (ga G 9 0)), (2, .int x2), (3, .int x3), (4, .int x4)] → W p l e rmX9_words s m args below meth c H locs 0 0 (MQ below (QVs G a1 (fun u => cmb u τ) Q) args s 0 0 (gA G)) (F0 m 44 ls [])) → W p l e rmX9_words s m args below meth c H locs 0 0 (MQ below (QVs G a1 (fun u => cmb u τ) Q) args s 0 0 (gA G)) (F0 m 10 ls []) := by
  have hx := C.1
  have hb := C.2.1
  have hown := C.2.2.2.2.2.1
  have hts := C.2.2.2.2.2.2.1
  intro n
  induction n with
  | zero =>
    intro x3 hw
    exact False.elim hw
  | succ n ih =>
    intro x3 hw H locs ls hH hS hl hK44
    refine lv_iload_n hx hb dX9_words_10 rfl (lv_at hl 2 rfl) ?_
    refine lv_iload_n hx hb dX9_words_11 rfl (lv_at hl 1 rfl) ?_
    refine lv_icmp_ge (tgt := 44) hx hb dX9_words_12 (by decide) (fun h => ?_) (fun h => ?_)
    · have hw := hw.1 h
      exact hK44 x3 hw H locs ls hH hS (lv_sub hl [0, 1, 2, 3] rfl)
    have hw := hw.2 h
    refine lv_aload_n hx hb dX9_words_15 rfl (lv_at hl 0 rfl) ?_
    refine g9_1 C hH q449 dX9_words_16 ?_
    refine lv_iload_n hx hb dX9_words_19 rfl (lv_at hl 2 rfl) ?_
    refine l40 C hH hw.1 dX9_words_20 (fun hz => ?_)
    have hw := hw.2 hz
    refine lv_bipush (v := 44) hx hb dX9_words_21 (by decide) ?_
    refine lv_icmp_eq (tgt := 44) hx hb dX9_words_23 (by decide) (fun h => ?_) (fun h => ?_)
    · have hw := hw.1 h
      exact hK44 x3 hw H locs ls hH hS (lv_sub hl [0, 1, 2, 3] rfl)
    have hw := hw.2 h
    refine lv_aload_n hx hb dX9_words_26 rfl (lv_at hl 0 rfl) ?_
    refine g9_1 C hH q449 dX9_words_27 ?_
    refine lv_iload_n hx hb dX9_words_30 rfl (lv_at hl 2 rfl) ?_
    refine l40 C hH hw.1 dX9_words_31 (fun hz => ?_)
    have hw := hw.2 hz
    refine kc_ip (rn_sp (As := [.int (σ 40 0 x3.toNatClampNeg)]) (rest := []) C hH hS (m9_isBlank l G a1 τ σ H (σ 40 0 x3.toNatClampNeg) _ hw) (va_cwS 1 hts (lw_S q1448 q1449 q166 q1450) rfl rfl rfl kX9_isBlank.2 ⟨Nat.le_of_ble_eq_true rfl, Nat.le_of_ble_eq_true rfl⟩) rfl hl.1 rfl (Nat.le_of_ble_eq_true rfl) dX9_words_32 ⟨Nat.le_of_ble_eq_true rfl, Nat.le_of_ble_eq_true rfl⟩) hS (fun r1 locs hw hS => ?_)
    refine lv_if_ne (tgt := 44) hx hb dX9_words_35 (by decide) (fun h => ?_) (fun h => ?_)
    · have hw := hw.1 h
      exact hK44 x3 hw H locs ls hH hS (lv_sub hl [0, 1, 2, 3] rfl)
    have hw := hw.2 h
    refine lv_iinc (v := x3 + 1) (lv' := [(3, .int (x3 + 1)), (0, .ref (ga G 9 0)), (2, .int x2), (4, .int x4)]) hx hb dX9_words_38 hl (k := 2) rfl rfl (by decide) rfl (fun ls hl => ?_)
    refine lv_goto (tgt := 10) hx hb dX9_words_41 (by decide) ?_
    exact ih (x3 + 1) hw H locs ls hH hS (lv_sub hl [1, 2, 0, 3] rfl) hK44
def w9_words_J69 (σ : St) (x2 : Int32) (x3 : Int32) (x4 : Int32) (xs0 : Int32) (Q : St → Prop) (K2 : St → Int32 → Prop) : Prop := bo xs0 ∧ (∀ σ4, σ4 = up3 σ 9 0 15 xs0 → (bo (σ4 9 0 16) → ((¬ (σ4 9 0 16) = 0 → (∀ σ5, σ5 = up3 σ4 9 0 16 1 → (K2 σ5 (x3 + 1)))) ∧ ((σ4 9 0 16) = 0 → (w9_is σ4 x4 x3 11 (fun r6 => ((r6 = 0 → (∀ σ7, σ7 = up3 σ4 9 0 16 0 → (K2 σ7 (x3 + 1)))) ∧ (¬ r6 = 0 → (∀ σ8, σ8 = up3 σ4 9 0 16 1 → (K2 σ8 (x3 + 1)))))))))))
set_option maxHeartbeats 4000000 in
theorem k9_words_J69 {p : Program} {l : Launch} {e : Env} {s : State} {m : MethodId} {args : Array Value} {below : List Frame} {meth : Method} {c : Code} {G : Gh} {a1 : Nat → Nat → Nat} {τ : St} {Q : St → Prop} {K2 : St → Int32 → Prop} (C : Cx p e s m args meth c cX9_words 5 none "WebHost$Requests" G) (σ : St) (x2 : Int32) (x3 : Int32) (x4 : Int32) (xs0 : Int32) (hw : w9_words_J69 σ x2 x3 x4 xs0 Q K2) (H : Heap) (locs : List Loc) (ls : Array Slot) (hH : Hd G a1 (cmb σ τ) H) (hS : va_S (gA G) s.heap H locs) (hl : lv_has ls 5 [(0, .ref (ga G 9 0)), (2, .int x2), (3, .int x3), (4, .int x4)]) (hK2 : ∀ (σ : St) (x3 : Int32), K2 σ x3 → ∀ (H : Heap) (locs : List Loc) (ls : Array Slot), Hd G a1 (cmb σ τ) H → va_S (gA G) s.heap H locs → lv_has ls 5 [(0, .ref (ga G 9 0)), (2, .int x2), (3, .int x3)] → W p l e rmX9_words s m args below meth c H locs 0 0 (MQ below (QVs G a1 (fun u => cmb u τ) Q) args s 0 0 (gA G)) (F0 m 2 ls [])) : W p l e rmX9_words s m args below meth c H locs 0 0 (MQ below (QVs G a1 (fun u => cmb u τ) Q) args s 0 0 (gA G)) (F0 m 69 ls [.int xs0, .ref (ga G 9 0)]) := by
  have hx := C.1
  have hb := C.2.1
  have hown := C.2.2.2.2.2.1
  have hts := C.2.2.2.2.2.2.1
  refine p9_15 C hH hS hw.1 q463 dX9_words_69 (fun σ4 e4 H locs hH hS => ?_)
  have hw := hw.2 σ4 e4
  refine lv_aload_n hx hb dX9_words_72 rfl (lv_at hl 0 rfl) ?_
  refine lv_aload_n hx hb dX9_words_73 rfl (lv_at hl 0 rfl) ?_
  refine g9_16 C hH q464 dX9_words_74 (fun hz => ?_)
  have hw := hw hz
  refine lv_if_ne (tgt := 92) hx hb dX9_words_77 (by decide) (fun h => ?_) (fun h => ?_)
  · have hw := hw.1 h
    refine lv_iconst (v := 1) hx hb dX9_words_92 (by decide) ?_
    refine lv_goto (tgt := 97) hx hb dX9_words_93 (by decide) ?_
    refine p9_16 C hH hS (Or.inr rfl) q464 dX9_words_97 (fun σ5 e5 H locs hH hS => ?_)
    have hw := hw σ5 e5
    refine lv_iinc (v := x3 + 1) (lv' := [(3, .int (x3 + 1)), (0, .ref (ga G 9 0)), (2, .int x2), (4, .int x4)]) hx hb dX9_words_100 hl (k := 2) rfl rfl (by decide) rfl (fun ls hl => ?_)
    refine lv_goto (tgt := 2) hx hb dX9_words_103 (by decide) ?_
    exact hK2 σ5 (x3 + 1) hw H locs ls hH hS (lv_sub hl [1, 2, 0] rfl)
  have hw := hw.2 h
  refine lv_aload_n hx hb dX9_words_80 rfl (lv_at hl 0 rfl) ?_
  refine lv_iload hx hb dX9_words_81 (lv_at hl 3 rfl) ?_
  refine lv_iload_n hx hb dX9_words_83 rfl (lv_at hl 2 rfl) ?_
  refine str_ldc (n := 11) C st11 dX9_words_84 ?_
  refine kc_ip (rn_vp (As := [.int x4, .int x3, .ref (gs G 11)]) (rest := [.ref (ga G 9 0)]) C hH hS (by decide) rfl (by decide) (m9_is l G a1 τ σ4 H x4 x3 11 (by decide) _ hw) (cwV 3 hts (lw_V q1456 q1458 qs61 q166 q1459) rfl rfl rfl kX9_is ⟨Nat.le_of_ble_eq_true rfl, Nat.le_of_ble_eq_true rfl⟩) rfl hl.1 rfl (Nat.le_of_ble_eq_true rfl) dX9_words_86 ⟨Nat.le_of_ble_eq_true rfl, Nat.le_of_ble_eq_true rfl⟩) hS (fun r6 locs hw hS => ?_)
  refine lv_if_eq (tgt := 96) hx hb dX9_words_89 (by decide) (fun h => ?_) (fun h => ?_)
  · have hw := hw.1 h
    refine lv_iconst (v := 0) hx hb dX9_words_96 (by decide) ?_
    refine p9_16 C hH hS (Or.inl rfl) q464 dX9_words_97 (fun σ7 e7 H locs hH hS => ?_)
    have hw := hw σ7 e7
    refine lv_iinc (v := x3 + 1) (lv' := [(3, .int (x3 + 1)), (0, .ref (ga G 9 0)), (2, .int x2), (4, .int x4)]) hx hb dX9_words_100 hl (k := 2) rfl rfl (by decide) rfl (fun ls hl => ?_)
    refine lv_goto (tgt := 2) hx hb dX9_words_103 (by decide) ?_
    exact hK2 σ7 (x3 + 1) hw H locs ls hH hS (lv_sub hl [1, 2, 0] rfl)
  have hw := hw.2 h
  refine lv_iconst (v := 1) hx hb dX9_words_92 (by decide) ?_
  refine lv_goto (tgt := 97) hx hb dX9_words_93 (by decide) ?_
  refine p9_16 C hH hS (Or.inr rfl) q464 dX9_words_97 (fun σ8 e8 H locs hH hS => ?_)
  have hw := hw σ8 e8
  refine lv_iinc (v := x3 + 1) (lv' := [(3, .int (x3 + 1)), (0, .ref (ga G 9 0)), (2, .int x2), (4, .int x4)]) hx hb dX9_words_100 hl (k := 2) rfl rfl (by decide) rfl (fun ls hl => ?_)
  refine lv_goto (tgt := 2) hx hb dX9_words_103 (by decide) ?_
  exact hK2 σ8 (x3 + 1) hw H locs ls hH hS (lv_sub hl [1, 2, 0] rfl)
def w9_words_J44 (σ : St) (x2 : Int32) (x3 : Int32) (x4 : Int32) (Q : St → Prop) (K2 : St → Int32 → Prop) : Prop := bo (σ 9 0 15) → ((¬ (σ 9 0 15) = 0 → w9_words_J69 σ x2 x3 x4 1 Q K2) ∧ ((σ 9 0 15) = 0 → (w9_is σ x4 x3 10 (fun r9 => ((r9 = 0 → w9_words_J69 σ x2 x3 x4 0 Q K2) ∧ (¬ r9 = 0 → w9_words_J69 σ x2 x3 x4 1 Q K2))))))
set_option maxHeartbeats 4000000 in
theorem k9_words_J44 {p : Program} {l : Launch} {e : Env} {s : State} {m : MethodId} {args : Array Value} {below : List Frame} {meth : Method} {c : Code} {G : Gh} {a1 : Nat → Nat → Nat} {τ : St} {Q : St → Prop} {K2 : St → Int32 → Prop} (C : Cx p e s m args meth c cX9_words 5 none "WebHost$Requests" G) (σ : St) (x2 : Int32) (x3 : Int32) (x4 : Int32) (hw : w9_words_J44 σ x2 x3 x4 Q K2) (H : Heap) (locs : List Loc) (ls : Array Slot) (hH : Hd G a1 (cmb σ τ) H) (hS : va_S (gA G) s.heap H locs) (hl : lv_has ls 5 [(0, .ref (ga G 9 0)), (2, .int x2), (3, .int x3), (4, .int x4)]) (hK2 : ∀ (σ : St) (x3 : Int32), K2 σ x3 → ∀ (H : Heap) (locs : List Loc) (ls : Array Slot), Hd G a1 (cmb σ τ) H → va_S (gA G) s.heap H locs → lv_has ls 5 [(0, .ref (ga G 9 0)), (2, .int x2), (3, .int x3)] → W p l e rmX9_words s m args below meth c H locs 0 0 (MQ below (QVs G a1 (fun u => cmb u τ) Q) args s 0 0 (gA G)) (F0 m 2 ls [])) : W p l e rmX9_words s m args below meth c H locs 0 0 (MQ below (QVs G a1 (fun u => cmb u τ) Q) args s 0 0 (gA G)) (F0 m 44 ls []) := by
  have hx := C.1
  have hb := C.2.1
  have hown := C.2.2.2.2.2.1
  have hts := C.2.2.2.2.2.2.1
  refine lv_aload_n hx hb dX9_words_44 rfl (lv_at hl 0 rfl) ?_
  refine lv_aload_n hx hb dX9_words_45 rfl (lv_at hl 0 rfl) ?_
  refine g9_15 C hH q463 dX9_words_46 (fun hz => ?_)
  have hw := hw hz
  refine lv_if_ne (tgt := 64) hx hb dX9_words_49 (by decide) (fun h => ?_) (fun h => ?_)
  · have hw := hw.1 h
    refine lv_iconst (v := 1) hx hb dX9_words_64 (by decide) ?_
    refine lv_goto (tgt := 69) hx hb dX9_words_65 (by decide) ?_
    exact k9_words_J69 C σ x2 x3 x4 1 hw H locs ls hH hS (lv_sub hl [0, 1, 2, 3] rfl) hK2
  have hw := hw.2 h
  refine lv_aload_n hx hb dX9_words_52 rfl (lv_at hl 0 rfl) ?_
  refine lv_iload hx hb dX9_words_53 (lv_at hl 3 rfl) ?_
  refine lv_iload_n hx hb dX9_words_55 rfl (lv_at hl 2 rfl) ?_
  refine str_ldc (n := 10) C st10 dX9_words_56 ?_
  refine kc_ip (rn_vp (As := [.int x4, .int x3, .ref (gs G 10)]) (rest := [.ref (ga G 9 0)]) C hH hS (by decide) rfl (by decide) (m9_is l G a1 τ σ H x4 x3 10 (by decide) _ hw) (cwV 3 hts (lw_V q1456 q1458 qs61 q166 q1459) rfl rfl rfl kX9_is ⟨Nat.le_of_ble_eq_true rfl, Nat.le_of_ble_eq_true rfl⟩) rfl hl.1 rfl (Nat.le_of_ble_eq_true rfl) dX9_words_58 ⟨Nat.le_of_ble_eq_true rfl, Nat.le_of_ble_eq_true rfl⟩) hS (fun r9 locs hw hS => ?_)
  refine lv_if_eq (tgt := 68) hx hb dX9_words_61 (by decide) (fun h => ?_) (fun h => ?_)
  · have hw := hw.1 h
    refine lv_iconst (v := 0) hx hb dX9_words_68 (by decide) ?_
    exact k9_words_J69 C σ x2 x3 x4 0 hw H locs ls hH hS (lv_sub hl [0, 1, 2, 3] rfl) hK2
  have hw := hw.2 h
  refine lv_iconst (v := 1) hx hb dX9_words_64 (by decide) ?_
  refine lv_goto (tgt := 69) hx hb dX9_words_65 (by decide) ?_
  exact k9_words_J69 C σ x2 x3 x4 1 hw H locs ls hH hS (lv_sub hl [0, 1, 2, 3] rfl) hK2
def w9_words_L2 (x2 : Int32) (Q : St → Prop) (K106 : St → Prop) : Nat → St → Int32 → Prop
  | 0, _, _ => False
  | n + 1, σ, x3 => (x2 ≤ x3 → K106 σ) ∧ (¬ x2 ≤ x3 → (∃ z2, w9_words_L10 σ x2 x3 Q (fun x3_3 => w9_words_J44 σ x2 x3_3 x3 Q (fun σz x3z => w9_words_L2 x2 Q K106 n σz x3z)) z2 x3))
set_option maxHeartbeats 4000000 in
theorem k9_words_L2 {p : Program} {l : Launch} {e : Env} {s : State} {m : MethodId} {args : Array Value} {below : List Frame} {meth : Method} {c : Code} {G : Gh} {a1 : Nat → Nat → Nat} {τ : St} {Q : St → Prop} {K106 : St → Prop} (C : Cx p e s m args meth c cX9_words 5 none "WebHost$Requests" G) (x2 : Int32) :
    ∀ (n : Nat) (σ : St) (x3 : Int32), w9_words_L2 x2 Q K106 n σ x3 → ∀ (H : Heap) (locs : List Loc) (ls : Array Slot), Hd G a1 (cmb σ τ) H → va_S (gA G) s.heap H locs → lv_has ls 5 [(0, .ref (ga G 9 0)), (2, .int x2), (3, .int x3)] → (∀ (σ : St) , K106 σ → ∀ (H : Heap) (locs : List Loc) (ls : Array Slot), Hd G a1 (cmb σ τ) H → va_S (gA G) s.heap H locs → lv_has ls 5 [] → W p l e rmX9_words s m args below meth c H locs 0 0 (MQ below (QVs G a1 (fun u => cmb u τ) Q) args s 0 0 (gA G)) (F0 m 106 ls [])) → W p l e rmX9_words s m args below meth c H locs 0 0 (MQ below (QVs G a1 (fun u => cmb u τ) Q) args s 0 0 (gA G)) (F0 m 2 ls []) := by
  have hx := C.1
  have hb := C.2.1
  have hown := C.2.2.2.2.2.1
  have hts := C.2.2.2.2.2.2.1
  intro n
  induction n with
  | zero =>
    intro σ x3 hw
    exact False.elim hw
  | succ n ih =>
    intro σ x3 hw H locs ls hH hS hl hK106
    refine lv_iload_n hx hb dX9_words_2 rfl (lv_at hl 2 rfl) ?_
    refine lv_iload_n hx hb dX9_words_3 rfl (lv_at hl 1 rfl) ?_
    refine lv_icmp_ge (tgt := 106) hx hb dX9_words_4 (by decide) (fun h => ?_) (fun h => ?_)
    · have hw := hw.1 h
      exact hK106 σ hw H locs ls hH hS (lv_sub hl [] rfl)
    have hw := hw.2 h
    refine lv_iload_n hx hb dX9_words_7 rfl (lv_at hl 2 rfl) ?_
    refine lv_istore (lv' := [(4, .int x3), (0, .ref (ga G 9 0)), (2, .int x2), (3, .int x3)]) hx hb dX9_words_8 hl (by decide) rfl (fun ls hl => ?_)
    obtain ⟨n2, hw⟩ := hw
    refine k9_words_L10 C σ x2 x3 n2 x3 hw H locs ls hH hS (lv_sub hl [1, 2, 3, 0] rfl) (fun x3_3 hw H locs ls hH hS hl => ?_)
    exact k9_words_J44 C σ x2 x3_3 x3 hw H locs ls hH hS (lv_sub hl [0, 1, 2, 3] rfl) (fun σz x3z hw H locs ls hH hS hl => ih σz x3z hw H locs ls hH hS hl hK106)
def w9_words (σ : St) (x1 : Int32) (x2 : Int32) (Q : St → Prop) : Prop := ∃ z10, w9_words_L2 x2 Q (fun σ11 => Q σ11) z10 σ x1
set_option maxHeartbeats 4000000 in
theorem m9_words (l : Launch) (G : Gh) (a1 : Nat → Nat → Nat) (τ : St) (σ : St) (x1 : Int32) (x2 : Int32) (Q : St → Prop) (hw : w9_words σ x1 x2 Q) : Met l yX9_words (ws_ yX9_words cX9_words 5 none) rmX9_words (PcS G a1 (cmb σ τ) [.ref (ga G 9 0), .int x1, .int x2]) (QVs G a1 (fun u => cmb u τ) Q) 0 0 (gA G) := by
  refine met_w (by decide) (Nat.le_of_ble_eq_true rfl) ?_
  intro p e s m below meth c ls C hH hS hl
  have C : Cx p e s m _ meth c cX9_words 5 none "WebHost$Requests" G := C
  have hl : lv_has ls 5 [(0, .ref (ga G 9 0)), (1, .int x1), (2, .int x2)] := hl
  have hx := C.1
  have hb := C.2.1
  have hown := C.2.2.2.2.2.1
  have hts := C.2.2.2.2.2.2.1
  obtain ⟨locs, hlocs⟩ : ∃ z : List Loc, z = [] := ⟨_, rfl⟩
  obtain ⟨H, hHe⟩ : ∃ z : Heap, z = s.heap := ⟨_, rfl⟩
  have hH : Hd G a1 (cmb σ τ) H := by rw [hHe]; exact hH
  have hS : va_S (gA G) s.heap H locs := by rw [hHe, hlocs]; exact hS
  refine W.heap0 hHe.symm hlocs.symm ?_
  refine lv_iload_n hx hb dX9_words_0 rfl (lv_at hl 1 rfl) ?_
  refine lv_istore_n (lv' := [(3, .int x1), (0, .ref (ga G 9 0)), (1, .int x1), (2, .int x2)]) hx hb dX9_words_1 rfl hl (by decide) rfl (fun ls hl => ?_)
  obtain ⟨n10, hw⟩ := hw
  refine k9_words_L2 C x2 n10 σ x1 hw H locs ls hH hS (lv_sub hl [1, 3, 0] rfl) (fun σ11 hw H locs ls hH hS hl => ?_)
  exact rt_v C hH hS hw dX9_words_106
/-! WebHost$Answer.line(Ljava/lang/String;)V -/
abbrev cX13_line : ByteArray := prog_2_method_5_code
def yX13_line : MethodName := ⟨RX13, "line", "(Ljava/lang/String;)V"⟩
theorem dX13_line_0 : decode cX13_line 0 = .ok (.aload_n 0, 1) := by decide +kernel
theorem dX13_line_1 : decode cX13_line 1 = .ok (.aload_n 1, 1) := by decide +kernel
theorem dX13_line_2 : decode cX13_line 2 = .ok (.invokevirtual 33, 3) := by decide +kernel
theorem dX13_line_5 : decode cX13_line 5 = .ok (.aload_n 0, 1) := by decide +kernel
theorem dX13_line_6 : decode cX13_line 6 = .ok (.bipush 13, 2) := by decide +kernel
theorem dX13_line_8 : decode cX13_line 8 = .ok (.invokevirtual 29, 3) := by decide +kernel
theorem dX13_line_11 : decode cX13_line 11 = .ok (.aload_n 0, 1) := by decide +kernel
theorem dX13_line_12 : decode cX13_line 12 = .ok (.bipush 10, 2) := by decide +kernel
theorem dX13_line_14 : decode cX13_line 14 = .ok (.invokevirtual 29, 3) := by decide +kernel
theorem dX13_line_17 : decode cX13_line 17 = .ok (.return_, 1) := by decide +kernel
def rmX13_line : Room := { frames := 5, cells := 0, slots := 0, locals := 107 }
theorem kX13_line : yX13_line.cls = "WebHost$Answer" ∧ yX13_line.cls ≠ "java/lang/invoke/MethodHandle" ∧ yX13_line.cls ≠ "java/lang/invoke/VarHandle" ∧ (parseMethodDescriptor yX13_line.desc).map (fun d => d.parameters.length) = some 1 := by decide +kernel
def w13_line (σ : St) (o0 : Nat) (t1 : Nat) (Q : St → Prop) : Prop := w13_say σ o0 t1 (fun σ1 => (w13_put σ1 o0 13 (fun σ2 => (w13_put σ2 o0 10 (fun σ3 => (Q σ3))))))
set_option maxHeartbeats 4000000 in
theorem m13_line (l : Launch) (G : Gh) (a1 : Nat → Nat → Nat) (τ : St) (σ : St) (o0 : Nat) (t1 : Nat) (ho0 : o0 < 16) (ht1 : t1 < nS) (Q : St → Prop) (hw : w13_line σ o0 t1 Q) : Met l yX13_line (ws_ yX13_line cX13_line 2 none) rmX13_line (PcS G a1 (cmb σ τ) [.ref (ga G 13 o0), .ref (gs G t1)]) (QVs G a1 (fun u => cmb u τ) Q) 0 0 (gA G) := by
  refine met_w (by decide) (Nat.le_of_ble_eq_true rfl) ?_
  intro p e s m below meth c ls C hH hS hl
  have C : Cx p e s m _ meth c cX13_line 2 none "WebHost$Answer" G := C
  have hl : lv_has ls 2 [(0, .ref (ga G 13 o0)), (1, .ref (gs G t1))] := hl
  have hx := C.1
  have hb := C.2.1
  have hown := C.2.2.2.2.2.1
  have hts := C.2.2.2.2.2.2.1
  obtain ⟨locs, hlocs⟩ : ∃ z : List Loc, z = [] := ⟨_, rfl⟩
  obtain ⟨H, hHe⟩ : ∃ z : Heap, z = s.heap := ⟨_, rfl⟩
  have hH : Hd G a1 (cmb σ τ) H := by rw [hHe]; exact hH
  have hS : va_S (gA G) s.heap H locs := by rw [hHe, hlocs]; exact hS
  refine W.heap0 hHe.symm hlocs.symm ?_
  refine lv_aload_n hx hb dX13_line_0 rfl (lv_at hl 0 rfl) ?_
  refine lv_aload_n hx hb dX13_line_1 rfl (lv_at hl 1 rfl) ?_
  refine kc_v (rn_v (As := [.ref (gs G t1)]) (rest := []) C hH hS (by decide) rfl ho0 (m13_say l G a1 τ σ o0 t1 ho0 ht1 _ hw) (cwV 1 hts (lw_V q1333 q1269 q1270 q170 q1271) rfl rfl rfl kX13_say ⟨Nat.le_of_ble_eq_true rfl, Nat.le_of_ble_eq_true rfl⟩) rfl hl.1 rfl (Nat.le_of_ble_eq_true rfl) dX13_line_2 ⟨Nat.le_of_ble_eq_true rfl, Nat.le_of_ble_eq_true rfl⟩) hS (fun σ1 H locs hw hH hS => ?_)
  refine lv_aload_n hx hb dX13_line_5 rfl (lv_at hl 0 rfl) ?_
  refine lv_bipush (v := 13) hx hb dX13_line_6 (by decide) ?_
  refine kc_v (rn_v (As := [.int 13]) (rest := []) C hH hS (by decide) rfl ho0 (m13_put l G a1 τ σ1 o0 13 ho0 _ hw) (cwV 1 hts (lw_V q1320 q1321 q1322 q170 q1323) rfl rfl rfl kX13_put ⟨Nat.le_of_ble_eq_true rfl, Nat.le_of_ble_eq_true rfl⟩) rfl hl.1 rfl (Nat.le_of_ble_eq_true rfl) dX13_line_8 ⟨Nat.le_of_ble_eq_true rfl, Nat.le_of_ble_eq_true rfl⟩) hS (fun σ2 H locs hw hH hS => ?_)
  refine lv_aload_n hx hb dX13_line_11 rfl (lv_at hl 0 rfl) ?_
  refine lv_bipush (v := 10) hx hb dX13_line_12 (by decide) ?_
  refine kc_v (rn_v (As := [.int 10]) (rest := []) C hH hS (by decide) rfl ho0 (m13_put l G a1 τ σ2 o0 10 ho0 _ hw) (cwV 1 hts (lw_V q1320 q1321 q1322 q170 q1323) rfl rfl rfl kX13_put ⟨Nat.le_of_ble_eq_true rfl, Nat.le_of_ble_eq_true rfl⟩) rfl hl.1 rfl (Nat.le_of_ble_eq_true rfl) dX13_line_14 ⟨Nat.le_of_ble_eq_true rfl, Nat.le_of_ble_eq_true rfl⟩) hS (fun σ3 H locs hw hH hS => ?_)
  exact rt_v C hH hS hw dX13_line_17
/-! WebHostModel.fits(I)Z -/
abbrev cX14_fits : ByteArray := prog_17_method_100_code
def yX14_fits : MethodName := ⟨RX14, "fits", "(I)Z"⟩
theorem dX14_fits_0 : decode cX14_fits 0 = .ok (.aload_n 0, 1) := by decide +kernel
theorem dX14_fits_1 : decode cX14_fits 1 = .ok (.aload_n 0, 1) := by decide +kernel
theorem dX14_fits_2 : decode cX14_fits 2 = .ok (.getfield 756, 3) := by decide +kernel
theorem dX14_fits_5 : decode cX14_fits 5 = .ok (.aload_n 0, 1) := by decide +kernel
theorem dX14_fits_6 : decode cX14_fits 6 = .ok (.getfield 759, 3) := by decide +kernel
theorem dX14_fits_9 : decode cX14_fits 9 = .ok (.ldc_w 784, 3) := by decide +kernel
theorem dX14_fits_12 : decode cX14_fits 12 = .ok (.invokevirtual 698, 3) := by decide +kernel
theorem dX14_fits_15 : decode cX14_fits 15 = .ok (.ifCond .eq 5, 3) := by decide +kernel
theorem dX14_fits_18 : decode cX14_fits 18 = .ok (.iconst 1, 1) := by decide +kernel
theorem dX14_fits_19 : decode cX14_fits 19 = .ok (.ireturn, 1) := by decide +kernel
theorem dX14_fits_20 : decode cX14_fits 20 = .ok (.aload_n 0, 1) := by decide +kernel
theorem dX14_fits_21 : decode cX14_fits 21 = .ok (.getfield 759, 3) := by decide +kernel
theorem dX14_fits_24 : decode cX14_fits 24 = .ok (.aload_n 0, 1) := by decide +kernel
theorem dX14_fits_25 : decode cX14_fits 25 = .ok (.getfield 756, 3) := by decide +kernel
theorem dX14_fits_28 : decode cX14_fits 28 = .ok (.isub, 1) := by decide +kernel
theorem dX14_fits_29 : decode cX14_fits 29 = .ok (.bipush 10, 2) := by decide +kernel
theorem dX14_fits_31 : decode cX14_fits 31 = .ok (.if_icmp .ne 33, 3) := by decide +kernel
theorem dX14_fits_34 : decode cX14_fits 34 = .ok (.aload_n 0, 1) := by decide +kernel
theorem dX14_fits_35 : decode cX14_fits 35 = .ok (.getfield 74, 3) := by decide +kernel
theorem dX14_fits_38 : decode cX14_fits 38 = .ok (.aload_n 0, 1) := by decide +kernel
theorem dX14_fits_39 : decode cX14_fits 39 = .ok (.getfield 756, 3) := by decide +kernel
theorem dX14_fits_42 : decode cX14_fits 42 = .ok (.baload, 1) := by decide +kernel
theorem dX14_fits_43 : decode cX14_fits 43 = .ok (.bipush 34, 2) := by decide +kernel
theorem dX14_fits_45 : decode cX14_fits 45 = .ok (.if_icmp .ne 19, 3) := by decide +kernel
theorem dX14_fits_48 : decode cX14_fits 48 = .ok (.aload_n 0, 1) := by decide +kernel
theorem dX14_fits_49 : decode cX14_fits 49 = .ok (.getfield 74, 3) := by decide +kernel
theorem dX14_fits_52 : decode cX14_fits 52 = .ok (.aload_n 0, 1) := by decide +kernel
theorem dX14_fits_53 : decode cX14_fits 53 = .ok (.getfield 759, 3) := by decide +kernel
theorem dX14_fits_56 : decode cX14_fits 56 = .ok (.iconst 1, 1) := by decide +kernel
theorem dX14_fits_57 : decode cX14_fits 57 = .ok (.isub, 1) := by decide +kernel
theorem dX14_fits_58 : decode cX14_fits 58 = .ok (.baload, 1) := by decide +kernel
theorem dX14_fits_59 : decode cX14_fits 59 = .ok (.bipush 34, 2) := by decide +kernel
theorem dX14_fits_61 : decode cX14_fits 61 = .ok (.if_icmp .eq 5, 3) := by decide +kernel
theorem dX14_fits_64 : decode cX14_fits 64 = .ok (.iconst 0, 1) := by decide +kernel
theorem dX14_fits_65 : decode cX14_fits 65 = .ok (.ireturn, 1) := by decide +kernel
theorem dX14_fits_66 : decode cX14_fits 66 = .ok (.iconst 0, 1) := by decide +kernel
theorem dX14_fits_67 : decode cX14_fits 67 = .ok (.istore_n 2, 1) := by decide +kernel
theorem dX14_fits_68 : decode cX14_fits 68 = .ok (.iload_n 2, 1) := by decide +kernel
theorem dX14_fits_69 : decode cX14_fits 69 = .ok (.bipush 8, 2) := by decide +kernel
theorem dX14_fits_71 : decode cX14_fits 71 = .ok (.if_icmp .ge 36, 3) := by decide +kernel
theorem dX14_fits_74 : decode cX14_fits 74 = .ok (.aload_n 0, 1) := by decide +kernel
theorem dX14_fits_75 : decode cX14_fits 75 = .ok (.aload_n 0, 1) := by decide +kernel
theorem dX14_fits_76 : decode cX14_fits 76 = .ok (.getfield 756, 3) := by decide +kernel
theorem dX14_fits_79 : decode cX14_fits 79 = .ok (.iconst 1, 1) := by decide +kernel
theorem dX14_fits_80 : decode cX14_fits 80 = .ok (.iadd, 1) := by decide +kernel
theorem dX14_fits_81 : decode cX14_fits 81 = .ok (.iload_n 2, 1) := by decide +kernel
theorem dX14_fits_82 : decode cX14_fits 82 = .ok (.iadd, 1) := by decide +kernel
theorem dX14_fits_83 : decode cX14_fits 83 = .ok (.invokevirtual 693, 3) := by decide +kernel
theorem dX14_fits_86 : decode cX14_fits 86 = .ok (.aload_n 0, 1) := by decide +kernel
theorem dX14_fits_87 : decode cX14_fits 87 = .ok (.getfield 28, 3) := by decide +kernel
theorem dX14_fits_90 : decode cX14_fits 90 = .ok (.iload_n 1, 1) := by decide +kernel
theorem dX14_fits_91 : decode cX14_fits 91 = .ok (.iaload, 1) := by decide +kernel
theorem dX14_fits_92 : decode cX14_fits 92 = .ok (.iload_n 2, 1) := by decide +kernel
theorem dX14_fits_93 : decode cX14_fits 93 = .ok (.invokestatic 786, 3) := by decide +kernel
theorem dX14_fits_96 : decode cX14_fits 96 = .ok (.if_icmp .eq 5, 3) := by decide +kernel
theorem dX14_fits_99 : decode cX14_fits 99 = .ok (.iconst 0, 1) := by decide +kernel
theorem dX14_fits_100 : decode cX14_fits 100 = .ok (.ireturn, 1) := by decide +kernel
theorem dX14_fits_101 : decode cX14_fits 101 = .ok (.iinc 2 1, 3) := by decide +kernel
theorem dX14_fits_104 : decode cX14_fits 104 = .ok (.goto (-36), 3) := by decide +kernel
theorem dX14_fits_107 : decode cX14_fits 107 = .ok (.iconst 1, 1) := by decide +kernel
theorem dX14_fits_108 : decode cX14_fits 108 = .ok (.ireturn, 1) := by decide +kernel
def rmX14_fits : Room := { frames := 5, cells := 0, slots := 0, locals := 109 }
theorem kX14_fits : yX14_fits.cls = "WebHostModel" ∧ yX14_fits.cls ≠ "java/lang/invoke/MethodHandle" ∧ yX14_fits.cls ≠ "java/lang/invoke/VarHandle" ∧ (parseMethodDescriptor yX14_fits.desc).map (fun d => d.parameters.length) = some 1 := by decide +kernel
def w14_fits_L68 (σ : St) (x1 : Int32) (Q : Int32 → Prop) (K99 : Prop) (K107 : Prop) : Nat → Int32 → Prop
  | 0, _ => False
  | n + 1, x2 => (8 ≤ x2 → K107) ∧ (¬ 8 ≤ x2 → (w14_headAt σ (((σ 14 0 61) + 1) + x2) (fun r2 => (vp_in x1 64 ∧ (w14_hexDigit σ (σ 55 0 x1.toNatClampNeg) x2 (fun r3 => ((r2 = r3 → (w14_fits_L68 σ x1 Q K99 K107 n (x2 + 1))) ∧ (¬ r2 = r3 → K99))))))))
set_option maxHeartbeats 4000000 in
theorem k14_fits_L68 {p : Program} {l : Launch} {e : Env} {s : State} {m : MethodId} {args : Array Value} {below : List Frame} {meth : Method} {c : Code} {G : Gh} {a1 : Nat → Nat → Nat} {τ : St} {H : Heap} {Q : Int32 → Prop} {K99 : Prop} {K107 : Prop} (C : Cx p e s m args meth c cX14_fits 3 (some .boolean) "WebHostModel" G) (σ : St) (x1 : Int32) (hH : Hd G a1 (cmb τ σ) H) :
    ∀ (n : Nat) (x2 : Int32), w14_fits_L68 σ x1 Q K99 K107 n x2 → ∀ (locs : List Loc) (ls : Array Slot), va_S (gA G) s.heap H locs → lv_has ls 3 [(0, .ref (ga G 14 0)), (1, .int x1), (2, .int x2)] → (K99 → ∀ (locs : List Loc) (ls : Array Slot), va_S (gA G) s.heap H locs → lv_has ls 3 [] → W p l e rmX14_fits s m args below meth c H locs 0 0 (MQ below (QIp G H Q) args s 0 0 (gA G)) (F0 m 99 ls [])) → (K107 → ∀ (locs : List Loc) (ls : Array Slot), va_S (gA G) s.heap H locs → lv_has ls 3 [] → W p l e rmX14_fits s m args below meth c H locs 0 0 (MQ below (QIp G H Q) args s 0 0 (gA G)) (F0 m 107 ls [])) → W p l e rmX14_fits s m args below meth c H locs 0 0 (MQ below (QIp G H Q) args s 0 0 (gA G)) (F0 m 68 ls []) := by
  have hx := C.1
  have hb := C.2.1
  have hown := C.2.2.2.2.2.1
  have hts := C.2.2.2.2.2.2.1
  intro n
  induction n with
  | zero =>
    intro x2 hw
    exact False.elim hw
  | succ n ih =>
    intro x2 hw locs ls hS hl hK99 hK107
    refine lv_iload_n hx hb dX14_fits_68 rfl (lv_at hl 2 rfl) ?_
    refine lv_bipush (v := 8) hx hb dX14_fits_69 (by decide) ?_
    refine lv_icmp_ge (tgt := 107) hx hb dX14_fits_71 (by decide) (fun h => ?_) (fun h => ?_)
    · have hw := hw.1 h
      exact hK107 hw locs ls hS (lv_sub hl [] rfl)
    have hw := hw.2 h
    refine lv_aload_n hx hb dX14_fits_74 rfl (lv_at hl 0 rfl) ?_
    refine lv_aload_n hx hb dX14_fits_75 rfl (lv_at hl 0 rfl) ?_
    refine g14_61 C hH q2001 dX14_fits_76 ?_
    refine lv_iconst (v := 1) hx hb dX14_fits_79 (by decide) ?_
    refine lv_iadd hx hb dX14_fits_80 ?_
    refine lv_iload_n hx hb dX14_fits_81 rfl (lv_at hl 2 rfl) ?_
    refine lv_iadd hx hb dX14_fits_82 ?_
    refine kc_ip (rn_vp (As := [.int (((σ 14 0 61) + 1) + x2)]) (rest := []) C hH hS (by decide) rfl (by decide) (m14_headAt l G a1 τ σ H (((σ 14 0 61) + 1) + x2) _ hw) (cwV 1 hts (lw_V q2475 q2477 qs136 q171 q2478) rfl rfl rfl kX14_headAt ⟨Nat.le_of_ble_eq_true rfl, Nat.le_of_ble_eq_true rfl⟩) rfl hl.1 rfl (Nat.le_of_ble_eq_true rfl) dX14_fits_83 ⟨Nat.le_of_ble_eq_true rfl, Nat.le_of_ble_eq_true rfl⟩) hS (fun r2 locs hw hS => ?_)
    refine lv_aload_n hx hb dX14_fits_86 rfl (lv_at hl 0 rfl) ?_
    refine g14_16 C hH q1956 dX14_fits_87 ?_
    refine lv_iload_n hx hb dX14_fits_90 rfl (lv_at hl 1 rfl) ?_
    refine l55 C hH hw.1 dX14_fits_91 ?_
    have hw := hw.2
    refine lv_iload_n hx hb dX14_fits_92 rfl (lv_at hl 2 rfl) ?_
    refine kc_ip (rn_sp (As := [.int (σ 55 0 x1.toNatClampNeg), .int x2]) (rest := [.int r2]) C hH hS (m14_hexDigit l G a1 τ σ H (σ 55 0 x1.toNatClampNeg) x2 _ hw) (va_cwS 2 hts (lw_S q2546 q2547 q171 q2548) rfl rfl rfl kX14_hexDigit.2 ⟨Nat.le_of_ble_eq_true rfl, Nat.le_of_ble_eq_true rfl⟩) rfl hl.1 rfl (Nat.le_of_ble_eq_true rfl) dX14_fits_93 ⟨Nat.le_of_ble_eq_true rfl, Nat.le_of_ble_eq_true rfl⟩) hS (fun r3 locs hw hS => ?_)
    refine lv_icmp_eq (tgt := 101) hx hb dX14_fits_96 (by decide) (fun h => ?_) (fun h => ?_)
    · have hw := hw.1 h
      refine lv_iinc (v := x2 + 1) (lv' := [(2, .int (x2 + 1)), (0, .ref (ga G 14 0)), (1, .int x1)]) hx hb dX14_fits_101 hl (k := 2) rfl rfl (by decide) rfl (fun ls hl => ?_)
      refine lv_goto (tgt := 68) hx hb dX14_fits_104 (by decide) ?_
      exact ih (x2 + 1) hw locs ls hS (lv_sub hl [1, 2, 0] rfl) hK99 hK107
    have hw := hw.2 h
    exact hK99 hw locs ls hS (lv_sub hl [] rfl)
def w14_fits (σ : St) (x1 : Int32) (Q : Int32 → Prop) : Prop := w14_says σ (σ 14 0 61) (σ 14 0 62) 56 (fun r1 => ((r1 = 0 → ((¬ ((σ 14 0 62) - (σ 14 0 61)) = 10 → Q 0) ∧ (((σ 14 0 62) - (σ 14 0 61)) = 10 → (vp_in (σ 14 0 61) 4096 ∧ (by8 (σ 66 0 (σ 14 0 61).toNatClampNeg) → ((¬ (σ 66 0 (σ 14 0 61).toNatClampNeg) = 34 → Q 0) ∧ ((σ 66 0 (σ 14 0 61).toNatClampNeg) = 34 → (vp_in ((σ 14 0 62) - 1) 4096 ∧ (by8 (σ 66 0 ((σ 14 0 62) - 1).toNatClampNeg) → (((σ 66 0 ((σ 14 0 62) - 1).toNatClampNeg) = 34 → (∃ z4, w14_fits_L68 σ x1 Q (Q 0) (Q 1) z4 0)) ∧ (¬ (σ 66 0 ((σ 14 0 62) - 1).toNatClampNeg) = 34 → Q 0))))))))))) ∧ (¬ r1 = 0 → Q 1)))
set_option maxHeartbeats 4000000 in
theorem m14_fits (l : Launch) (G : Gh) (a1 : Nat → Nat → Nat) (τ : St) (σ : St) (H : Heap) (x1 : Int32) (Q : Int32 → Prop) (hw : w14_fits σ x1 Q) : Met l yX14_fits (ws_ yX14_fits cX14_fits 3 (some .boolean)) rmX14_fits (PcP G a1 (cmb τ σ) H [.ref (ga G 14 0), .int x1]) (QIp G H Q) 0 0 (gA G) := by
  refine met_p (by decide) (Nat.le_of_ble_eq_true rfl) ?_
  intro p e s m below meth c ls hHe C hH hS hl
  have C : Cx p e s m _ meth c cX14_fits 3 (some .boolean) "WebHostModel" G := C
  have hl : lv_has ls 3 [(0, .ref (ga G 14 0)), (1, .int x1)] := hl
  have hx := C.1
  have hb := C.2.1
  have hown := C.2.2.2.2.2.1
  have hts := C.2.2.2.2.2.2.1
  obtain ⟨locs, hlocs⟩ : ∃ z : List Loc, z = [] := ⟨_, rfl⟩
  rw [← hlocs] at hS ⊢
  refine lv_aload_n hx hb dX14_fits_0 rfl (lv_at hl 0 rfl) ?_
  refine lv_aload_n hx hb dX14_fits_1 rfl (lv_at hl 0 rfl) ?_
  refine g14_61 C hH q2001 dX14_fits_2 ?_
  refine lv_aload_n hx hb dX14_fits_5 rfl (lv_at hl 0 rfl) ?_
  refine g14_62 C hH q2002 dX14_fits_6 ?_
  refine str_ldcw (n := 56) C st56 dX14_fits_9 ?_
  refine kc_ip (rn_vp (As := [.int (σ 14 0 61), .int (σ 14 0 62), .ref (gs G 56)]) (rest := []) C hH hS (by decide) rfl (by decide) (m14_says l G a1 τ σ H (σ 14 0 61) (σ 14 0 62) 56 (by decide) _ hw) (cwV 3 hts (lw_V q2480 q2482 qs137 q171 q2483) rfl rfl rfl kX14_says ⟨Nat.le_of_ble_eq_true rfl, Nat.le_of_ble_eq_true rfl⟩) rfl hl.1 rfl (Nat.le_of_ble_eq_true rfl) dX14_fits_12 ⟨Nat.le_of_ble_eq_true rfl, Nat.le_of_ble_eq_true rfl⟩) hS (fun r1 locs hw hS => ?_)
  refine lv_if_eq (tgt := 20) hx hb dX14_fits_15 (by decide) (fun h => ?_) (fun h => ?_)
  · have hw := hw.1 h
    refine lv_aload_n hx hb dX14_fits_20 rfl (lv_at hl 0 rfl) ?_
    refine g14_62 C hH q2002 dX14_fits_21 ?_
    refine lv_aload_n hx hb dX14_fits_24 rfl (lv_at hl 0 rfl) ?_
    refine g14_61 C hH q2001 dX14_fits_25 ?_
    refine lv_isub hx hb dX14_fits_28 ?_
    refine lv_bipush (v := 10) hx hb dX14_fits_29 (by decide) ?_
    refine lv_icmp_ne (tgt := 64) hx hb dX14_fits_31 (by decide) (fun h => ?_) (fun h => ?_)
    · have hw := hw.1 h
      refine lv_iconst (v := 0) hx hb dX14_fits_64 (by decide) ?_
      exact rt_ip C rfl hS hw dX14_fits_65
    have hw := hw.2 h
    refine lv_aload_n hx hb dX14_fits_34 rfl (lv_at hl 0 rfl) ?_
    refine g14_41 C hH q1981 dX14_fits_35 ?_
    refine lv_aload_n hx hb dX14_fits_38 rfl (lv_at hl 0 rfl) ?_
    refine g14_61 C hH q2001 dX14_fits_39 ?_
    refine l66 C hH hw.1 dX14_fits_42 (fun hz => ?_)
    have hw := hw.2 hz
    refine lv_bipush (v := 34) hx hb dX14_fits_43 (by decide) ?_
    refine lv_icmp_ne (tgt := 64) hx hb dX14_fits_45 (by decide) (fun h => ?_) (fun h => ?_)
    · have hw := hw.1 h
      refine lv_iconst (v := 0) hx hb dX14_fits_64 (by decide) ?_
      exact rt_ip C rfl hS hw dX14_fits_65
    have hw := hw.2 h
    refine lv_aload_n hx hb dX14_fits_48 rfl (lv_at hl 0 rfl) ?_
    refine g14_41 C hH q1981 dX14_fits_49 ?_
    refine lv_aload_n hx hb dX14_fits_52 rfl (lv_at hl 0 rfl) ?_
    refine g14_62 C hH q2002 dX14_fits_53 ?_
    refine lv_iconst (v := 1) hx hb dX14_fits_56 (by decide) ?_
    refine lv_isub hx hb dX14_fits_57 ?_
    refine l66 C hH hw.1 dX14_fits_58 (fun hz => ?_)
    have hw := hw.2 hz
    refine lv_bipush (v := 34) hx hb dX14_fits_59 (by decide) ?_
    refine lv_icmp_eq (tgt := 66) hx hb dX14_fits_61 (by decide) (fun h => ?_) (fun h => ?_)
    · have hw := hw.1 h
      refine lv_iconst (v := 0) hx hb dX14_fits_66 (by decide) ?_
      refine lv_istore_n (lv' := [(2, .int 0), (0, .ref (ga G 14 0)), (1, .int x1)]) hx hb dX14_fits_67 rfl hl (by decide) rfl (fun ls hl => ?_)
      obtain ⟨n4, hw⟩ := hw
      refine k14_fits_L68 C σ x1 hH n4 0 hw locs ls hS (lv_sub hl [1, 2, 0] rfl) (fun hw locs ls hS hl => ?_) (fun hw locs ls hS hl => ?_)
      · refine lv_iconst (v := 0) hx hb dX14_fits_99 (by decide) ?_
        exact rt_ip C rfl hS hw dX14_fits_100
      refine lv_iconst (v := 1) hx hb dX14_fits_107 (by decide) ?_
      exact rt_ip C rfl hS hw dX14_fits_108
    have hw := hw.2 h
    refine lv_iconst (v := 0) hx hb dX14_fits_64 (by decide) ?_
    exact rt_ip C rfl hS hw dX14_fits_65
  have hw := hw.2 h
  refine lv_iconst (v := 1) hx hb dX14_fits_18 (by decide) ?_
  exact rt_ip C rfl hS hw dX14_fits_19
/-! WebHostModel.requestLine(II)Z -/
abbrev cX14_requestLine : ByteArray := prog_17_method_85_code
def yX14_requestLine : MethodName := ⟨RX14, "requestLine", "(II)Z"⟩
theorem dX14_requestLine_0 : decode cX14_requestLine 0 = .ok (.iconst (-1), 1) := by decide +kernel
theorem dX14_requestLine_1 : decode cX14_requestLine 1 = .ok (.istore_n 3, 1) := by decide +kernel
theorem dX14_requestLine_2 : decode cX14_requestLine 2 = .ok (.iconst (-1), 1) := by decide +kernel
theorem dX14_requestLine_3 : decode cX14_requestLine 3 = .ok (.istore 4, 2) := by decide +kernel
theorem dX14_requestLine_5 : decode cX14_requestLine 5 = .ok (.iconst 0, 1) := by decide +kernel
theorem dX14_requestLine_6 : decode cX14_requestLine 6 = .ok (.istore 5, 2) := by decide +kernel
theorem dX14_requestLine_8 : decode cX14_requestLine 8 = .ok (.iload_n 1, 1) := by decide +kernel
theorem dX14_requestLine_9 : decode cX14_requestLine 9 = .ok (.istore 6, 2) := by decide +kernel
theorem dX14_requestLine_11 : decode cX14_requestLine 11 = .ok (.iload 6, 2) := by decide +kernel
theorem dX14_requestLine_13 : decode cX14_requestLine 13 = .ok (.iload_n 2, 1) := by decide +kernel
theorem dX14_requestLine_14 : decode cX14_requestLine 14 = .ok (.if_icmp .ge 43, 3) := by decide +kernel
theorem dX14_requestLine_17 : decode cX14_requestLine 17 = .ok (.aload_n 0, 1) := by decide +kernel
theorem dX14_requestLine_18 : decode cX14_requestLine 18 = .ok (.getfield 74, 3) := by decide +kernel
theorem dX14_requestLine_21 : decode cX14_requestLine 21 = .ok (.iload 6, 2) := by decide +kernel
theorem dX14_requestLine_23 : decode cX14_requestLine 23 = .ok (.baload, 1) := by decide +kernel
theorem dX14_requestLine_24 : decode cX14_requestLine 24 = .ok (.bipush 32, 2) := by decide +kernel
theorem dX14_requestLine_26 : decode cX14_requestLine 26 = .ok (.if_icmp .ne 25, 3) := by decide +kernel
theorem dX14_requestLine_29 : decode cX14_requestLine 29 = .ok (.iinc 5 1, 3) := by decide +kernel
theorem dX14_requestLine_32 : decode cX14_requestLine 32 = .ok (.iload 5, 2) := by decide +kernel
theorem dX14_requestLine_34 : decode cX14_requestLine 34 = .ok (.iconst 1, 1) := by decide +kernel
theorem dX14_requestLine_35 : decode cX14_requestLine 35 = .ok (.if_icmp .ne 6, 3) := by decide +kernel
theorem dX14_requestLine_38 : decode cX14_requestLine 38 = .ok (.iload 6, 2) := by decide +kernel
theorem dX14_requestLine_40 : decode cX14_requestLine 40 = .ok (.istore_n 3, 1) := by decide +kernel
theorem dX14_requestLine_41 : decode cX14_requestLine 41 = .ok (.iload 5, 2) := by decide +kernel
theorem dX14_requestLine_43 : decode cX14_requestLine 43 = .ok (.iconst 2, 1) := by decide +kernel
theorem dX14_requestLine_44 : decode cX14_requestLine 44 = .ok (.if_icmp .ne 7, 3) := by decide +kernel
theorem dX14_requestLine_47 : decode cX14_requestLine 47 = .ok (.iload 6, 2) := by decide +kernel
theorem dX14_requestLine_49 : decode cX14_requestLine 49 = .ok (.istore 4, 2) := by decide +kernel
theorem dX14_requestLine_51 : decode cX14_requestLine 51 = .ok (.iinc 6 1, 3) := by decide +kernel
theorem dX14_requestLine_54 : decode cX14_requestLine 54 = .ok (.goto (-43), 3) := by decide +kernel
theorem dX14_requestLine_57 : decode cX14_requestLine 57 = .ok (.iload 5, 2) := by decide +kernel
theorem dX14_requestLine_59 : decode cX14_requestLine 59 = .ok (.iconst 2, 1) := by decide +kernel
theorem dX14_requestLine_60 : decode cX14_requestLine 60 = .ok (.if_icmp .ne 48, 3) := by decide +kernel
theorem dX14_requestLine_63 : decode cX14_requestLine 63 = .ok (.iload_n 3, 1) := by decide +kernel
theorem dX14_requestLine_64 : decode cX14_requestLine 64 = .ok (.iload_n 1, 1) := by decide +kernel
theorem dX14_requestLine_65 : decode cX14_requestLine 65 = .ok (.isub, 1) := by decide +kernel
theorem dX14_requestLine_66 : decode cX14_requestLine 66 = .ok (.iconst 1, 1) := by decide +kernel
theorem dX14_requestLine_67 : decode cX14_requestLine 67 = .ok (.if_icmp .lt 41, 3) := by decide +kernel
theorem dX14_requestLine_70 : decode cX14_requestLine 70 = .ok (.iload_n 3, 1) := by decide +kernel
theorem dX14_requestLine_71 : decode cX14_requestLine 71 = .ok (.iload_n 1, 1) := by decide +kernel
theorem dX14_requestLine_72 : decode cX14_requestLine 72 = .ok (.isub, 1) := by decide +kernel
theorem dX14_requestLine_73 : decode cX14_requestLine 73 = .ok (.bipush 16, 2) := by decide +kernel
theorem dX14_requestLine_75 : decode cX14_requestLine 75 = .ok (.if_icmp .gt 33, 3) := by decide +kernel
theorem dX14_requestLine_78 : decode cX14_requestLine 78 = .ok (.iload 4, 2) := by decide +kernel
theorem dX14_requestLine_80 : decode cX14_requestLine 80 = .ok (.iload_n 3, 1) := by decide +kernel
theorem dX14_requestLine_81 : decode cX14_requestLine 81 = .ok (.iconst 1, 1) := by decide +kernel
theorem dX14_requestLine_82 : decode cX14_requestLine 82 = .ok (.iadd, 1) := by decide +kernel
theorem dX14_requestLine_83 : decode cX14_requestLine 83 = .ok (.if_icmp .eq 25, 3) := by decide +kernel
theorem dX14_requestLine_86 : decode cX14_requestLine 86 = .ok (.aload_n 0, 1) := by decide +kernel
theorem dX14_requestLine_87 : decode cX14_requestLine 87 = .ok (.getfield 74, 3) := by decide +kernel
theorem dX14_requestLine_90 : decode cX14_requestLine 90 = .ok (.iload_n 3, 1) := by decide +kernel
theorem dX14_requestLine_91 : decode cX14_requestLine 91 = .ok (.iconst 1, 1) := by decide +kernel
theorem dX14_requestLine_92 : decode cX14_requestLine 92 = .ok (.iadd, 1) := by decide +kernel
theorem dX14_requestLine_93 : decode cX14_requestLine 93 = .ok (.baload, 1) := by decide +kernel
theorem dX14_requestLine_94 : decode cX14_requestLine 94 = .ok (.bipush 47, 2) := by decide +kernel
theorem dX14_requestLine_96 : decode cX14_requestLine 96 = .ok (.if_icmp .ne 12, 3) := by decide +kernel
theorem dX14_requestLine_99 : decode cX14_requestLine 99 = .ok (.iload_n 2, 1) := by decide +kernel
theorem dX14_requestLine_100 : decode cX14_requestLine 100 = .ok (.iload 4, 2) := by decide +kernel
theorem dX14_requestLine_102 : decode cX14_requestLine 102 = .ok (.isub, 1) := by decide +kernel
theorem dX14_requestLine_103 : decode cX14_requestLine 103 = .ok (.bipush 9, 2) := by decide +kernel
theorem dX14_requestLine_105 : decode cX14_requestLine 105 = .ok (.if_icmp .eq 5, 3) := by decide +kernel
theorem dX14_requestLine_108 : decode cX14_requestLine 108 = .ok (.iconst 0, 1) := by decide +kernel
theorem dX14_requestLine_109 : decode cX14_requestLine 109 = .ok (.ireturn, 1) := by decide +kernel
theorem dX14_requestLine_110 : decode cX14_requestLine 110 = .ok (.iload_n 1, 1) := by decide +kernel
theorem dX14_requestLine_111 : decode cX14_requestLine 111 = .ok (.istore 6, 2) := by decide +kernel
theorem dX14_requestLine_113 : decode cX14_requestLine 113 = .ok (.iload 6, 2) := by decide +kernel
theorem dX14_requestLine_115 : decode cX14_requestLine 115 = .ok (.iload_n 3, 1) := by decide +kernel
theorem dX14_requestLine_116 : decode cX14_requestLine 116 = .ok (.if_icmp .ge 33, 3) := by decide +kernel
theorem dX14_requestLine_119 : decode cX14_requestLine 119 = .ok (.aload_n 0, 1) := by decide +kernel
theorem dX14_requestLine_120 : decode cX14_requestLine 120 = .ok (.iload 6, 2) := by decide +kernel
theorem dX14_requestLine_122 : decode cX14_requestLine 122 = .ok (.invokevirtual 693, 3) := by decide +kernel
theorem dX14_requestLine_125 : decode cX14_requestLine 125 = .ok (.bipush 65, 2) := by decide +kernel
theorem dX14_requestLine_127 : decode cX14_requestLine 127 = .ok (.if_icmp .lt 14, 3) := by decide +kernel
theorem dX14_requestLine_130 : decode cX14_requestLine 130 = .ok (.aload_n 0, 1) := by decide +kernel
theorem dX14_requestLine_131 : decode cX14_requestLine 131 = .ok (.iload 6, 2) := by decide +kernel
theorem dX14_requestLine_133 : decode cX14_requestLine 133 = .ok (.invokevirtual 693, 3) := by decide +kernel
theorem dX14_requestLine_136 : decode cX14_requestLine 136 = .ok (.bipush 90, 2) := by decide +kernel
theorem dX14_requestLine_138 : decode cX14_requestLine 138 = .ok (.if_icmp .le 5, 3) := by decide +kernel
theorem dX14_requestLine_141 : decode cX14_requestLine 141 = .ok (.iconst 0, 1) := by decide +kernel
theorem dX14_requestLine_142 : decode cX14_requestLine 142 = .ok (.ireturn, 1) := by decide +kernel
theorem dX14_requestLine_143 : decode cX14_requestLine 143 = .ok (.iinc 6 1, 3) := by decide +kernel
theorem dX14_requestLine_146 : decode cX14_requestLine 146 = .ok (.goto (-33), 3) := by decide +kernel
theorem dX14_requestLine_149 : decode cX14_requestLine 149 = .ok (.iload_n 3, 1) := by decide +kernel
theorem dX14_requestLine_150 : decode cX14_requestLine 150 = .ok (.iconst 1, 1) := by decide +kernel
theorem dX14_requestLine_151 : decode cX14_requestLine 151 = .ok (.iadd, 1) := by decide +kernel
theorem dX14_requestLine_152 : decode cX14_requestLine 152 = .ok (.istore 6, 2) := by decide +kernel
theorem dX14_requestLine_154 : decode cX14_requestLine 154 = .ok (.iload 6, 2) := by decide +kernel
theorem dX14_requestLine_156 : decode cX14_requestLine 156 = .ok (.iload 4, 2) := by decide +kernel
theorem dX14_requestLine_158 : decode cX14_requestLine 158 = .ok (.if_icmp .ge 33, 3) := by decide +kernel
theorem dX14_requestLine_161 : decode cX14_requestLine 161 = .ok (.aload_n 0, 1) := by decide +kernel
theorem dX14_requestLine_162 : decode cX14_requestLine 162 = .ok (.iload 6, 2) := by decide +kernel
theorem dX14_requestLine_164 : decode cX14_requestLine 164 = .ok (.invokevirtual 693, 3) := by decide +kernel
theorem dX14_requestLine_167 : decode cX14_requestLine 167 = .ok (.bipush 33, 2) := by decide +kernel
theorem dX14_requestLine_169 : decode cX14_requestLine 169 = .ok (.if_icmp .lt 14, 3) := by decide +kernel
theorem dX14_requestLine_172 : decode cX14_requestLine 172 = .ok (.aload_n 0, 1) := by decide +kernel
theorem dX14_requestLine_173 : decode cX14_requestLine 173 = .ok (.iload 6, 2) := by decide +kernel
theorem dX14_requestLine_175 : decode cX14_requestLine 175 = .ok (.invokevirtual 693, 3) := by decide +kernel
theorem dX14_requestLine_178 : decode cX14_requestLine 178 = .ok (.bipush 126, 2) := by decide +kernel
theorem dX14_requestLine_180 : decode cX14_requestLine 180 = .ok (.if_icmp .le 5, 3) := by decide +kernel
theorem dX14_requestLine_183 : decode cX14_requestLine 183 = .ok (.iconst 0, 1) := by decide +kernel
theorem dX14_requestLine_184 : decode cX14_requestLine 184 = .ok (.ireturn, 1) := by decide +kernel
theorem dX14_requestLine_185 : decode cX14_requestLine 185 = .ok (.iinc 6 1, 3) := by decide +kernel
theorem dX14_requestLine_188 : decode cX14_requestLine 188 = .ok (.goto (-34), 3) := by decide +kernel
theorem dX14_requestLine_191 : decode cX14_requestLine 191 = .ok (.aload_n 0, 1) := by decide +kernel
theorem dX14_requestLine_192 : decode cX14_requestLine 192 = .ok (.iload 4, 2) := by decide +kernel
theorem dX14_requestLine_194 : decode cX14_requestLine 194 = .ok (.iconst 1, 1) := by decide +kernel
theorem dX14_requestLine_195 : decode cX14_requestLine 195 = .ok (.iadd, 1) := by decide +kernel
theorem dX14_requestLine_196 : decode cX14_requestLine 196 = .ok (.iload_n 2, 1) := by decide +kernel
theorem dX14_requestLine_197 : decode cX14_requestLine 197 = .ok (.ldc_w 696, 3) := by decide +kernel
theorem dX14_requestLine_200 : decode cX14_requestLine 200 = .ok (.invokevirtual 698, 3) := by decide +kernel
theorem dX14_requestLine_203 : decode cX14_requestLine 203 = .ok (.ifCond .ne 20, 3) := by decide +kernel
theorem dX14_requestLine_206 : decode cX14_requestLine 206 = .ok (.aload_n 0, 1) := by decide +kernel
theorem dX14_requestLine_207 : decode cX14_requestLine 207 = .ok (.iload 4, 2) := by decide +kernel
theorem dX14_requestLine_209 : decode cX14_requestLine 209 = .ok (.iconst 1, 1) := by decide +kernel
theorem dX14_requestLine_210 : decode cX14_requestLine 210 = .ok (.iadd, 1) := by decide +kernel
theorem dX14_requestLine_211 : decode cX14_requestLine 211 = .ok (.iload_n 2, 1) := by decide +kernel
theorem dX14_requestLine_212 : decode cX14_requestLine 212 = .ok (.ldc_w 702, 3) := by decide +kernel
theorem dX14_requestLine_215 : decode cX14_requestLine 215 = .ok (.invokevirtual 698, 3) := by decide +kernel
theorem dX14_requestLine_218 : decode cX14_requestLine 218 = .ok (.ifCond .ne 5, 3) := by decide +kernel
theorem dX14_requestLine_221 : decode cX14_requestLine 221 = .ok (.iconst 0, 1) := by decide +kernel
theorem dX14_requestLine_222 : decode cX14_requestLine 222 = .ok (.ireturn, 1) := by decide +kernel
theorem dX14_requestLine_223 : decode cX14_requestLine 223 = .ok (.aload_n 0, 1) := by decide +kernel
theorem dX14_requestLine_224 : decode cX14_requestLine 224 = .ok (.aload_n 0, 1) := by decide +kernel
theorem dX14_requestLine_225 : decode cX14_requestLine 225 = .ok (.getfield 74, 3) := by decide +kernel
theorem dX14_requestLine_228 : decode cX14_requestLine 228 = .ok (.iload_n 2, 1) := by decide +kernel
theorem dX14_requestLine_229 : decode cX14_requestLine 229 = .ok (.iconst 1, 1) := by decide +kernel
theorem dX14_requestLine_230 : decode cX14_requestLine 230 = .ok (.isub, 1) := by decide +kernel
theorem dX14_requestLine_231 : decode cX14_requestLine 231 = .ok (.baload, 1) := by decide +kernel
theorem dX14_requestLine_232 : decode cX14_requestLine 232 = .ok (.bipush 48, 2) := by decide +kernel
theorem dX14_requestLine_234 : decode cX14_requestLine 234 = .ok (.if_icmp .ne 7, 3) := by decide +kernel
theorem dX14_requestLine_237 : decode cX14_requestLine 237 = .ok (.iconst 1, 1) := by decide +kernel
theorem dX14_requestLine_238 : decode cX14_requestLine 238 = .ok (.goto 4, 3) := by decide +kernel
theorem dX14_requestLine_241 : decode cX14_requestLine 241 = .ok (.iconst 0, 1) := by decide +kernel
theorem dX14_requestLine_242 : decode cX14_requestLine 242 = .ok (.putfield 645, 3) := by decide +kernel
theorem dX14_requestLine_245 : decode cX14_requestLine 245 = .ok (.aload_n 0, 1) := by decide +kernel
theorem dX14_requestLine_246 : decode cX14_requestLine 246 = .ok (.aload_n 0, 1) := by decide +kernel
theorem dX14_requestLine_247 : decode cX14_requestLine 247 = .ok (.iload_n 1, 1) := by decide +kernel
theorem dX14_requestLine_248 : decode cX14_requestLine 248 = .ok (.iload_n 3, 1) := by decide +kernel
theorem dX14_requestLine_249 : decode cX14_requestLine 249 = .ok (.ldc_w 704, 3) := by decide +kernel
theorem dX14_requestLine_252 : decode cX14_requestLine 252 = .ok (.invokevirtual 698, 3) := by decide +kernel
theorem dX14_requestLine_255 : decode cX14_requestLine 255 = .ok (.putfield 634, 3) := by decide +kernel
theorem dX14_requestLine_258 : decode cX14_requestLine 258 = .ok (.aload_n 0, 1) := by decide +kernel
theorem dX14_requestLine_259 : decode cX14_requestLine 259 = .ok (.aload_n 0, 1) := by decide +kernel
theorem dX14_requestLine_260 : decode cX14_requestLine 260 = .ok (.getfield 634, 3) := by decide +kernel
theorem dX14_requestLine_263 : decode cX14_requestLine 263 = .ok (.ifCond .ne 19, 3) := by decide +kernel
theorem dX14_requestLine_266 : decode cX14_requestLine 266 = .ok (.aload_n 0, 1) := by decide +kernel
theorem dX14_requestLine_267 : decode cX14_requestLine 267 = .ok (.iload_n 1, 1) := by decide +kernel
theorem dX14_requestLine_268 : decode cX14_requestLine 268 = .ok (.iload_n 3, 1) := by decide +kernel
theorem dX14_requestLine_269 : decode cX14_requestLine 269 = .ok (.ldc_w 706, 3) := by decide +kernel
theorem dX14_requestLine_272 : decode cX14_requestLine 272 = .ok (.invokevirtual 698, 3) := by decide +kernel
theorem dX14_requestLine_275 : decode cX14_requestLine 275 = .ok (.ifCond .ne 7, 3) := by decide +kernel
theorem dX14_requestLine_278 : decode cX14_requestLine 278 = .ok (.iconst 1, 1) := by decide +kernel
theorem dX14_requestLine_279 : decode cX14_requestLine 279 = .ok (.goto 4, 3) := by decide +kernel
theorem dX14_requestLine_282 : decode cX14_requestLine 282 = .ok (.iconst 0, 1) := by decide +kernel
theorem dX14_requestLine_283 : decode cX14_requestLine 283 = .ok (.putfield 708, 3) := by decide +kernel
theorem dX14_requestLine_286 : decode cX14_requestLine 286 = .ok (.aload_n 0, 1) := by decide +kernel
theorem dX14_requestLine_287 : decode cX14_requestLine 287 = .ok (.iload_n 3, 1) := by decide +kernel
theorem dX14_requestLine_288 : decode cX14_requestLine 288 = .ok (.iconst 1, 1) := by decide +kernel
theorem dX14_requestLine_289 : decode cX14_requestLine 289 = .ok (.iadd, 1) := by decide +kernel
theorem dX14_requestLine_290 : decode cX14_requestLine 290 = .ok (.putfield 711, 3) := by decide +kernel
theorem dX14_requestLine_293 : decode cX14_requestLine 293 = .ok (.aload_n 0, 1) := by decide +kernel
theorem dX14_requestLine_294 : decode cX14_requestLine 294 = .ok (.iload 4, 2) := by decide +kernel
theorem dX14_requestLine_296 : decode cX14_requestLine 296 = .ok (.putfield 714, 3) := by decide +kernel
theorem dX14_requestLine_299 : decode cX14_requestLine 299 = .ok (.iconst 1, 1) := by decide +kernel
theorem dX14_requestLine_300 : decode cX14_requestLine 300 = .ok (.ireturn, 1) := by decide +kernel
def rmX14_requestLine : Room := { frames := 5, cells := 0, slots := 0, locals := 109 }
theorem kX14_requestLine : yX14_requestLine.cls = "WebHostModel" ∧ yX14_requestLine.cls ≠ "java/lang/invoke/MethodHandle" ∧ yX14_requestLine.cls ≠ "java/lang/invoke/VarHandle" ∧ (parseMethodDescriptor yX14_requestLine.desc).map (fun d => d.parameters.length) = some 2 := by decide +kernel
def w14_requestLine_L11 (σ : St) (x1 : Int32) (x2 : Int32) (Q : Int32 → St → Prop) (K57 : Int32 → Int32 → Int32 → Prop) : Nat → Int32 → Int32 → Int32 → Int32 → Prop
  | 0, _, _, _, _ => False
  | n + 1, x3, x4, x5, x6 => (x2 ≤ x6 → K57 x3 x4 x5) ∧ (¬ x2 ≤ x6 → (vp_in x6 4096 ∧ (by8 (σ 66 0 x6.toNatClampNeg) → ((¬ (σ 66 0 x6.toNatClampNeg) = 32 → (w14_requestLine_L11 σ x1 x2 Q K57 n x3 x4 x5 (x6 + 1))) ∧ ((σ 66 0 x6.toNatClampNeg) = 32 → ((¬ (x5 + 1) = 1 → ((¬ (x5 + 1) = 2 → (w14_requestLine_L11 σ x1 x2 Q K57 n x3 x4 (x5 + 1) (x6 + 1))) ∧ ((x5 + 1) = 2 → (w14_requestLine_L11 σ x1 x2 Q K57 n x3 x6 (x5 + 1) (x6 + 1))))) ∧ ((x5 + 1) = 1 → ((¬ (x5 + 1) = 2 → (w14_requestLine_L11 σ x1 x2 Q K57 n x6 x4 (x5 + 1) (x6 + 1))) ∧ ((x5 + 1) = 2 → (w14_requestLine_L11 σ x1 x2 Q K57 n x6 x6 (x5 + 1) (x6 + 1)))))))))))
set_option maxHeartbeats 4000000 in
theorem k14_requestLine_L11 {p : Program} {l : Launch} {e : Env} {s : State} {m : MethodId} {args : Array Value} {below : List Frame} {meth : Method} {c : Code} {G : Gh} {a1 : Nat → Nat → Nat} {τ : St} {Q : Int32 → St → Prop} {K57 : Int32 → Int32 → Int32 → Prop} (C : Cx p e s m args meth c cX14_requestLine 7 (some .boolean) "WebHostModel" G) (σ : St) (x1 : Int32) (x2 : Int32) :
    ∀ (n : Nat) (x3 : Int32) (x4 : Int32) (x5 : Int32) (x6 : Int32), w14_requestLine_L11 σ x1 x2 Q K57 n x3 x4 x5 x6 → ∀ (H : Heap) (locs : List Loc) (ls : Array Slot), Hd G a1 (cmb τ σ) H → va_S (gA G) s.heap H locs → lv_has ls 7 [(0, .ref (ga G 14 0)), (1, .int x1), (2, .int x2), (3, .int x3), (4, .int x4), (5, .int x5), (6, .int x6)] → (∀ (x3 : Int32) (x4 : Int32) (x5 : Int32), K57 x3 x4 x5 → ∀ (H : Heap) (locs : List Loc) (ls : Array Slot), Hd G a1 (cmb τ σ) H → va_S (gA G) s.heap H locs → lv_has ls 7 [(0, .ref (ga G 14 0)), (1, .int x1), (2, .int x2), (3, .int x3), (4, .int x4), (5, .int x5)] → W p l e rmX14_requestLine s m args below meth c H locs 0 0 (MQ below (QIs G a1 (fun u => cmb τ u) Q) args s 0 0 (gA G)) (F0 m 57 ls [])) → W p l e rmX14_requestLine s m args below meth c H locs 0 0 (MQ below (QIs G a1 (fun u => cmb τ u) Q) args s 0 0 (gA G)) (F0 m 11 ls []) := by
  have hx := C.1
  have hb := C.2.1
  have hown := C.2.2.2.2.2.1
  have hts := C.2.2.2.2.2.2.1
  intro n
  induction n with
  | zero =>
    intro x3 x4 x5 x6 hw
    exact False.elim hw
  | succ n ih =>
    intro x3 x4 x5 x6 hw H locs ls hH hS hl hK57
    refine lv_iload hx hb dX14_requestLine_11 (lv_at hl 6 rfl) ?_
    refine lv_iload_n hx hb dX14_requestLine_13 rfl (lv_at hl 2 rfl) ?_
    refine lv_icmp_ge (tgt := 57) hx hb dX14_requestLine_14 (by decide) (fun h => ?_) (fun h => ?_)
    · have hw := hw.1 h
      exact hK57 x3 x4 x5 hw H locs ls hH hS (lv_sub hl [0, 1, 2, 3, 4, 5] rfl)
    have hw := hw.2 h
    refine lv_aload_n hx hb dX14_requestLine_17 rfl (lv_at hl 0 rfl) ?_
    refine g14_41 C hH q1981 dX14_requestLine_18 ?_
    refine lv_iload hx hb dX14_requestLine_21 (lv_at hl 6 rfl) ?_
    refine l66 C hH hw.1 dX14_requestLine_23 (fun hz => ?_)
    have hw := hw.2 hz
    refine lv_bipush (v := 32) hx hb dX14_requestLine_24 (by decide) ?_
    refine lv_icmp_ne (tgt := 51) hx hb dX14_requestLine_26 (by decide) (fun h => ?_) (fun h => ?_)
    · have hw := hw.1 h
      refine lv_iinc (v := x6 + 1) (lv' := [(6, .int (x6 + 1)), (0, .ref (ga G 14 0)), (1, .int x1), (2, .int x2), (3, .int x3), (4, .int x4), (5, .int x5)]) hx hb dX14_requestLine_51 hl (k := 6) rfl rfl (by decide) rfl (fun ls hl => ?_)
      refine lv_goto (tgt := 11) hx hb dX14_requestLine_54 (by decide) ?_
      exact ih x3 x4 x5 (x6 + 1) hw H locs ls hH hS (lv_sub hl [1, 2, 3, 4, 5, 6, 0] rfl) hK57
    have hw := hw.2 h
    refine lv_iinc (v := x5 + 1) (lv' := [(5, .int (x5 + 1)), (0, .ref (ga G 14 0)), (1, .int x1), (2, .int x2), (3, .int x3), (4, .int x4), (6, .int x6)]) hx hb dX14_requestLine_29 hl (k := 5) rfl rfl (by decide) rfl (fun ls hl => ?_)
    refine lv_iload hx hb dX14_requestLine_32 (lv_at hl 0 rfl) ?_
    refine lv_iconst (v := 1) hx hb dX14_requestLine_34 (by decide) ?_
    refine lv_icmp_ne (tgt := 41) hx hb dX14_requestLine_35 (by decide) (fun h => ?_) (fun h => ?_)
    · have hw := hw.1 h
      refine lv_iload hx hb dX14_requestLine_41 (lv_at hl 0 rfl) ?_
      refine lv_iconst (v := 2) hx hb dX14_requestLine_43 (by decide) ?_
      refine lv_icmp_ne (tgt := 51) hx hb dX14_requestLine_44 (by decide) (fun h => ?_) (fun h => ?_)
      · have hw := hw.1 h
        refine lv_iinc (v := x6 + 1) (lv' := [(6, .int (x6 + 1)), (5, .int (x5 + 1)), (0, .ref (ga G 14 0)), (1, .int x1), (2, .int x2), (3, .int x3), (4, .int x4)]) hx hb dX14_requestLine_51 hl (k := 6) rfl rfl (by decide) rfl (fun ls hl => ?_)
        refine lv_goto (tgt := 11) hx hb dX14_requestLine_54 (by decide) ?_
        exact ih x3 x4 (x5 + 1) (x6 + 1) hw H locs ls hH hS (lv_sub hl [2, 3, 4, 5, 6, 1, 0] rfl) hK57
      have hw := hw.2 h
      refine lv_iload hx hb dX14_requestLine_47 (lv_at hl 6 rfl) ?_
      refine lv_istore (lv' := [(4, .int x6), (5, .int (x5 + 1)), (0, .ref (ga G 14 0)), (1, .int x1), (2, .int x2), (3, .int x3), (6, .int x6)]) hx hb dX14_requestLine_49 hl (by decide) rfl (fun ls hl => ?_)
      refine lv_iinc (v := x6 + 1) (lv' := [(6, .int (x6 + 1)), (4, .int x6), (5, .int (x5 + 1)), (0, .ref (ga G 14 0)), (1, .int x1), (2, .int x2), (3, .int x3)]) hx hb dX14_requestLine_51 hl (k := 6) rfl rfl (by decide) rfl (fun ls hl => ?_)
      refine lv_goto (tgt := 11) hx hb dX14_requestLine_54 (by decide) ?_
      exact ih x3 x6 (x5 + 1) (x6 + 1) hw H locs ls hH hS (lv_sub hl [3, 4, 5, 6, 1, 2, 0] rfl) hK57
    have hw := hw.2 h
    refine lv_iload hx hb dX14_requestLine_38 (lv_at hl 6 rfl) ?_
    refine lv_istore_n (lv' := [(3, .int x6), (5, .int (x5 + 1)), (0, .ref (ga G 14 0)), (1, .int x1), (2, .int x2), (4, .int x4), (6, .int x6)]) hx hb dX14_requestLine_40 rfl hl (by decide) rfl (fun ls hl => ?_)
    refine lv_iload hx hb dX14_requestLine_41 (lv_at hl 1 rfl) ?_
    refine lv_iconst (v := 2) hx hb dX14_requestLine_43 (by decide) ?_
    refine lv_icmp_ne (tgt := 51) hx hb dX14_requestLine_44 (by decide) (fun h => ?_) (fun h => ?_)
    · have hw := hw.1 h
      refine lv_iinc (v := x6 + 1) (lv' := [(6, .int (x6 + 1)), (3, .int x6), (5, .int (x5 + 1)), (0, .ref (ga G 14 0)), (1, .int x1), (2, .int x2), (4, .int x4)]) hx hb dX14_requestLine_51 hl (k := 6) rfl rfl (by decide) rfl (fun ls hl => ?_)
      refine lv_goto (tgt := 11) hx hb dX14_requestLine_54 (by decide) ?_
      exact ih x6 x4 (x5 + 1) (x6 + 1) hw H locs ls hH hS (lv_sub hl [3, 4, 5, 1, 6, 2, 0] rfl) hK57
    have hw := hw.2 h
    refine lv_iload hx hb dX14_requestLine_47 (lv_at hl 6 rfl) ?_
    refine lv_istore (lv' := [(4, .int x6), (3, .int x6), (5, .int (x5 + 1)), (0, .ref (ga G 14 0)), (1, .int x1), (2, .int x2), (6, .int x6)]) hx hb dX14_requestLine_49 hl (by decide) rfl (fun ls hl => ?_)
    refine lv_iinc (v := x6 + 1) (lv' := [(6, .int (x6 + 1)), (4, .int x6), (3, .int x6), (5, .int (x5 + 1)), (0, .ref (ga G 14 0)), (1, .int x1), (2, .int x2)]) hx hb dX14_requestLine_51 hl (k := 6) rfl rfl (by decide) rfl (fun ls hl => ?_)
    refine lv_goto (tgt := 11) hx hb dX14_requestLine_54 (by decide) ?_
    exact ih x6 x6 (x5 + 1) (x6 + 1) hw H locs ls hH hS (lv_sub hl [4, 5, 6, 2, 1, 3, 0] rfl) hK57
def w14_requestLine_L113 (σ : St) (x1 : Int32) (x2 : Int32) (x3 : Int32) (x4 : Int32) (Q : Int32 → St → Prop) (K141 : Prop) (K149 : Prop) : Nat → Int32 → Prop
  | 0, _ => False
  | n + 1, x6 => (x3 ≤ x6 → K149) ∧ (¬ x3 ≤ x6 → (w14_headAt σ x6 (fun r3 => ((r3 < 65 → K141) ∧ (¬ r3 < 65 → (w14_headAt σ x6 (fun r4 => ((r4 ≤ 90 → (w14_requestLine_L113 σ x1 x2 x3 x4 Q K141 K149 n (x6 + 1))) ∧ (¬ r4 ≤ 90 → K141)))))))))
set_option maxHeartbeats 4000000 in
theorem k14_requestLine_L113 {p : Program} {l : Launch} {e : Env} {s : State} {m : MethodId} {args : Array Value} {below : List Frame} {meth : Method} {c : Code} {G : Gh} {a1 : Nat → Nat → Nat} {τ : St} {Q : Int32 → St → Prop} {K141 : Prop} {K149 : Prop} (C : Cx p e s m args meth c cX14_requestLine 7 (some .boolean) "WebHostModel" G) (σ : St) (x1 : Int32) (x2 : Int32) (x3 : Int32) (x4 : Int32) :
    ∀ (n : Nat) (x6 : Int32), w14_requestLine_L113 σ x1 x2 x3 x4 Q K141 K149 n x6 → ∀ (H : Heap) (locs : List Loc) (ls : Array Slot), Hd G a1 (cmb τ σ) H → va_S (gA G) s.heap H locs → lv_has ls 7 [(0, .ref (ga G 14 0)), (1, .int x1), (2, .int x2), (3, .int x3), (4, .int x4), (6, .int x6)] → (K141 → ∀ (H : Heap) (locs : List Loc) (ls : Array Slot), Hd G a1 (cmb τ σ) H → va_S (gA G) s.heap H locs → lv_has ls 7 [] → W p l e rmX14_requestLine s m args below meth c H locs 0 0 (MQ below (QIs G a1 (fun u => cmb τ u) Q) args s 0 0 (gA G)) (F0 m 141 ls [])) → (K149 → ∀ (H : Heap) (locs : List Loc) (ls : Array Slot), Hd G a1 (cmb τ σ) H → va_S (gA G) s.heap H locs → lv_has ls 7 [(0, .ref (ga G 14 0)), (1, .int x1), (2, .int x2), (3, .int x3), (4, .int x4)] → W p l e rmX14_requestLine s m args below meth c H locs 0 0 (MQ below (QIs G a1 (fun u => cmb τ u) Q) args s 0 0 (gA G)) (F0 m 149 ls [])) → W p l e rmX14_requestLine s m args below meth c H locs 0 0 (MQ below (QIs G a1 (fun u => cmb τ u) Q) args s 0 0 (gA G)) (F0 m 113 ls []) := by
  have hx := C.1
  have hb := C.2.1
  have hown := C.2.2.2.2.2.1
  have hts := C.2.2.2.2.2.2.1
  intro n
  induction n with
  | zero =>
    intro x6 hw
    exact False.elim hw
  | succ n ih =>
    intro x6 hw H locs ls hH hS hl hK141 hK149
    refine lv_iload hx hb dX14_requestLine_113 (lv_at hl 5 rfl) ?_
    refine lv_iload_n hx hb dX14_requestLine_115 rfl (lv_at hl 3 rfl) ?_
    refine lv_icmp_ge (tgt := 149) hx hb dX14_requestLine_116 (by decide) (fun h => ?_) (fun h => ?_)
    · have hw := hw.1 h
      exact hK149 hw H locs ls hH hS (lv_sub hl [0, 1, 2, 3, 4] rfl)
    have hw := hw.2 h
    refine lv_aload_n hx hb dX14_requestLine_119 rfl (lv_at hl 0 rfl) ?_
    refine lv_iload hx hb dX14_requestLine_120 (lv_at hl 5 rfl) ?_
    refine kc_ip (rn_vp (As := [.int x6]) (rest := []) C hH hS (by decide) rfl (by decide) (m14_headAt l G a1 τ σ H x6 _ hw) (cwV 1 hts (lw_V q2475 q2477 qs136 q171 q2478) rfl rfl rfl kX14_headAt ⟨Nat.le_of_ble_eq_true rfl, Nat.le_of_ble_eq_true rfl⟩) rfl hl.1 rfl (Nat.le_of_ble_eq_true rfl) dX14_requestLine_122 ⟨Nat.le_of_ble_eq_true rfl, Nat.le_of_ble_eq_true rfl⟩) hS (fun r3 locs hw hS => ?_)
    refine lv_bipush (v := 65) hx hb dX14_requestLine_125 (by decide) ?_
    refine lv_icmp_lt (tgt := 141) hx hb dX14_requestLine_127 (by decide) (fun h => ?_) (fun h => ?_)
    · have hw := hw.1 h
      exact hK141 hw H locs ls hH hS (lv_sub hl [] rfl)
    have hw := hw.2 h
    refine lv_aload_n hx hb dX14_requestLine_130 rfl (lv_at hl 0 rfl) ?_
    refine lv_iload hx hb dX14_requestLine_131 (lv_at hl 5 rfl) ?_
    refine kc_ip (rn_vp (As := [.int x6]) (rest := []) C hH hS (by decide) rfl (by decide) (m14_headAt l G a1 τ σ H x6 _ hw) (cwV 1 hts (lw_V q2475 q2477 qs136 q171 q2478) rfl rfl rfl kX14_headAt ⟨Nat.le_of_ble_eq_true rfl, Nat.le_of_ble_eq_true rfl⟩) rfl hl.1 rfl (Nat.le_of_ble_eq_true rfl) dX14_requestLine_133 ⟨Nat.le_of_ble_eq_true rfl, Nat.le_of_ble_eq_true rfl⟩) hS (fun r4 locs hw hS => ?_)
    refine lv_bipush (v := 90) hx hb dX14_requestLine_136 (by decide) ?_
    refine lv_icmp_le (tgt := 143) hx hb dX14_requestLine_138 (by decide) (fun h => ?_) (fun h => ?_)
    · have hw := hw.1 h
      refine lv_iinc (v := x6 + 1) (lv' := [(6, .int (x6 + 1)), (0, .ref (ga G 14 0)), (1, .int x1), (2, .int x2), (3, .int x3), (4, .int x4)]) hx hb dX14_requestLine_143 hl (k := 5) rfl rfl (by decide) rfl (fun ls hl => ?_)
      refine lv_goto (tgt := 113) hx hb dX14_requestLine_146 (by decide) ?_
      exact ih (x6 + 1) hw H locs ls hH hS (lv_sub hl [1, 2, 3, 4, 5, 0] rfl) hK141 hK149
    have hw := hw.2 h
    exact hK141 hw H locs ls hH hS (lv_sub hl [] rfl)
def w14_requestLine_L154 (σ : St) (x1 : Int32) (x2 : Int32) (x3 : Int32) (x4 : Int32) (Q : Int32 → St → Prop) (K183 : Prop) (K191 : Prop) : Nat → Int32 → Prop
  | 0, _ => False
  | n + 1, x6 => (x4 ≤ x6 → K191) ∧ (¬ x4 ≤ x6 → (w14_headAt σ x6 (fun r8 => ((r8 < 33 → K183) ∧ (¬ r8 < 33 → (w14_headAt σ x6 (fun r9 => ((r9 ≤ 126 → (w14_requestLine_L154 σ x1 x2 x3 x4 Q K183 K191 n (x6 + 1))) ∧ (¬ r9 ≤ 126 → K183)))))))))
set_option maxHeartbeats 4000000 in
theorem k14_requestLine_L154 {p : Program} {l : Launch} {e : Env} {s : State} {m : MethodId} {args : Array Value} {below : List Frame} {meth : Method} {c : Code} {G : Gh} {a1 : Nat → Nat → Nat} {τ : St} {Q : Int32 → St → Prop} {K183 : Prop} {K191 : Prop} (C : Cx p e s m args meth c cX14_requestLine 7 (some .boolean) "WebHostModel" G) (σ : St) (x1 : Int32) (x2 : Int32) (x3 : Int32) (x4 : Int32) :
    ∀ (n : Nat) (x6 : Int32), w14_requestLine_L154 σ x1 x2 x3 x4 Q K183 K191 n x6 → ∀ (H : Heap) (locs : List Loc) (ls : Array Slot), Hd G a1 (cmb τ σ) H → va_S (gA G) s.heap H locs → lv_has ls 7 [(0, .ref (ga G 14 0)), (1, .int x1), (2, .int x2), (3, .int x3), (4, .int x4), (6, .int x6)] → (K183 → ∀ (H : Heap) (locs : List Loc) (ls : Array Slot), Hd G a1 (cmb τ σ) H → va_S (gA G) s.heap H locs → lv_has ls 7 [] → W p l e rmX14_requestLine s m args below meth c H locs 0 0 (MQ below (QIs G a1 (fun u => cmb τ u) Q) args s 0 0 (gA G)) (F0 m 183 ls [])) → (K191 → ∀ (H : Heap) (locs : List Loc) (ls : Array Slot), Hd G a1 (cmb τ σ) H → va_S (gA G) s.heap H locs → lv_has ls 7 [(0, .ref (ga G 14 0)), (1, .int x1), (2, .int x2), (3, .int x3), (4, .int x4)] → W p l e rmX14_requestLine s m args below meth c H locs 0 0 (MQ below (QIs G a1 (fun u => cmb τ u) Q) args s 0 0 (gA G)) (F0 m 191 ls [])) → W p l e rmX14_requestLine s m args below meth c H locs 0 0 (MQ below (QIs G a1 (fun u => cmb τ u) Q) args s 0 0 (gA G)) (F0 m 154 ls []) := by
  have hx := C.1
  have hb := C.2.1
  have hown := C.2.2.2.2.2.1
  have hts := C.2.2.2.2.2.2.1
  intro n
  induction n with
  | zero =>
    intro x6 hw
    exact False.elim hw
  | succ n ih =>
    intro x6 hw H locs ls hH hS hl hK183 hK191
    refine lv_iload hx hb dX14_requestLine_154 (lv_at hl 5 rfl) ?_
    refine lv_iload hx hb dX14_requestLine_156 (lv_at hl 4 rfl) ?_
    refine lv_icmp_ge (tgt := 191) hx hb dX14_requestLine_158 (by decide) (fun h => ?_) (fun h => ?_)
    · have hw := hw.1 h
      exact hK191 hw H locs ls hH hS (lv_sub hl [0, 1, 2, 3, 4] rfl)
    have hw := hw.2 h
    refine lv_aload_n hx hb dX14_requestLine_161 rfl (lv_at hl 0 rfl) ?_
    refine lv_iload hx hb dX14_requestLine_162 (lv_at hl 5 rfl) ?_
    refine kc_ip (rn_vp (As := [.int x6]) (rest := []) C hH hS (by decide) rfl (by decide) (m14_headAt l G a1 τ σ H x6 _ hw) (cwV 1 hts (lw_V q2475 q2477 qs136 q171 q2478) rfl rfl rfl kX14_headAt ⟨Nat.le_of_ble_eq_true rfl, Nat.le_of_ble_eq_true rfl⟩) rfl hl.1 rfl (Nat.le_of_ble_eq_true rfl) dX14_requestLine_164 ⟨Nat.le_of_ble_eq_true rfl, Nat.le_of_ble_eq_true rfl⟩) hS (fun r8 locs hw hS => ?_)
    refine lv_bipush (v := 33) hx hb dX14_requestLine_167 (by decide) ?_
    refine lv_icmp_lt (tgt := 183) hx hb dX14_requestLine_169 (by decide) (fun h => ?_) (fun h => ?_)
    · have hw := hw.1 h
      exact hK183 hw H locs ls hH hS (lv_sub hl [] rfl)
    have hw := hw.2 h
    refine lv_aload_n hx hb dX14_requestLine_172 rfl (lv_at hl 0 rfl) ?_
    refine lv_iload hx hb dX14_requestLine_173 (lv_at hl 5 rfl) ?_
    refine kc_ip (rn_vp (As := [.int x6]) (rest := []) C hH hS (by decide) rfl (by decide) (m14_headAt l G a1 τ σ H x6 _ hw) (cwV 1 hts (lw_V q2475 q2477 qs136 q171 q2478) rfl rfl rfl kX14_headAt ⟨Nat.le_of_ble_eq_true rfl, Nat.le_of_ble_eq_true rfl⟩) rfl hl.1 rfl (Nat.le_of_ble_eq_true rfl) dX14_requestLine_175 ⟨Nat.le_of_ble_eq_true rfl, Nat.le_of_ble_eq_true rfl⟩) hS (fun r9 locs hw hS => ?_)
    refine lv_bipush (v := 126) hx hb dX14_requestLine_178 (by decide) ?_
    refine lv_icmp_le (tgt := 185) hx hb dX14_requestLine_180 (by decide) (fun h => ?_) (fun h => ?_)
    · have hw := hw.1 h
      refine lv_iinc (v := x6 + 1) (lv' := [(6, .int (x6 + 1)), (0, .ref (ga G 14 0)), (1, .int x1), (2, .int x2), (3, .int x3), (4, .int x4)]) hx hb dX14_requestLine_185 hl (k := 5) rfl rfl (by decide) rfl (fun ls hl => ?_)
      refine lv_goto (tgt := 154) hx hb dX14_requestLine_188 (by decide) ?_
      exact ih (x6 + 1) hw H locs ls hH hS (lv_sub hl [1, 2, 3, 4, 5, 0] rfl) hK183 hK191
    have hw := hw.2 h
    exact hK183 hw H locs ls hH hS (lv_sub hl [] rfl)
def w14_requestLine_J242 (σ : St) (x1 : Int32) (x3 : Int32) (x4 : Int32) (xs0 : Int32) (Q : Int32 → St → Prop) : Prop := bo xs0 ∧ (∀ σ14, σ14 = up3 σ 14 0 45 xs0 → (w14_says σ14 x1 x3 46 (fun r15 => (bo r15 ∧ (∀ σ16, σ16 = up3 σ14 14 0 44 r15 → (bo (σ16 14 0 44) → ((¬ (σ16 14 0 44) = 0 → (∀ σ17, σ17 = up3 σ16 14 0 60 0 → (∀ σ18, σ18 = up3 σ17 14 0 56 (x3 + 1) → (∀ σ19, σ19 = up3 σ18 14 0 57 x4 → (Q 1 σ19))))) ∧ ((σ16 14 0 44) = 0 → (w14_says σ16 x1 x3 47 (fun r20 => ((¬ r20 = 0 → (∀ σ21, σ21 = up3 σ16 14 0 60 0 → (∀ σ22, σ22 = up3 σ21 14 0 56 (x3 + 1) → (∀ σ23, σ23 = up3 σ22 14 0 57 x4 → (Q 1 σ23))))) ∧ (r20 = 0 → (∀ σ24, σ24 = up3 σ16 14 0 60 1 → (∀ σ25, σ25 = up3 σ24 14 0 56 (x3 + 1) → (∀ σ26, σ26 = up3 σ25 14 0 57 x4 → (Q 1 σ26))))))))))))))))
set_option maxHeartbeats 4000000 in
theorem k14_requestLine_J242 {p : Program} {l : Launch} {e : Env} {s : State} {m : MethodId} {args : Array Value} {below : List Frame} {meth : Method} {c : Code} {G : Gh} {a1 : Nat → Nat → Nat} {τ : St} {Q : Int32 → St → Prop} (C : Cx p e s m args meth c cX14_requestLine 7 (some .boolean) "WebHostModel" G) (σ : St) (x1 : Int32) (x3 : Int32) (x4 : Int32) (xs0 : Int32) (hw : w14_requestLine_J242 σ x1 x3 x4 xs0 Q) (H : Heap) (locs : List Loc) (ls : Array Slot) (hH : Hd G a1 (cmb τ σ) H) (hS : va_S (gA G) s.heap H locs) (hl : lv_has ls 7 [(0, .ref (ga G 14 0)), (1, .int x1), (3, .int x3), (4, .int x4)]) : W p l e rmX14_requestLine s m args below meth c H locs 0 0 (MQ below (QIs G a1 (fun u => cmb τ u) Q) args s 0 0 (gA G)) (F0 m 242 ls [.int xs0, .ref (ga G 14 0)]) := by
  have hx := C.1
  have hb := C.2.1
  have hown := C.2.2.2.2.2.1
  have hts := C.2.2.2.2.2.2.1
  refine p14_45 C hH hS hw.1 q1985 dX14_requestLine_242 (fun σ14 e14 H locs hH hS => ?_)
  have hw := hw.2 σ14 e14
  refine lv_aload_n hx hb dX14_requestLine_245 rfl (lv_at hl 0 rfl) ?_
  refine lv_aload_n hx hb dX14_requestLine_246 rfl (lv_at hl 0 rfl) ?_
  refine lv_iload_n hx hb dX14_requestLine_247 rfl (lv_at hl 1 rfl) ?_
  refine lv_iload_n hx hb dX14_requestLine_248 rfl (lv_at hl 2 rfl) ?_
  refine str_ldcw (n := 46) C st46 dX14_requestLine_249 ?_
  refine kc_ip (rn_vp (As := [.int x1, .int x3, .ref (gs G 46)]) (rest := [.ref (ga G 14 0)]) C hH hS (by decide) rfl (by decide) (m14_says l G a1 τ σ14 H x1 x3 46 (by decide) _ hw) (cwV 3 hts (lw_V q2480 q2482 qs137 q171 q2483) rfl rfl rfl kX14_says ⟨Nat.le_of_ble_eq_true rfl, Nat.le_of_ble_eq_true rfl⟩) rfl hl.1 rfl (Nat.le_of_ble_eq_true rfl) dX14_requestLine_252 ⟨Nat.le_of_ble_eq_true rfl, Nat.le_of_ble_eq_true rfl⟩) hS (fun r15 locs hw hS => ?_)
  refine p14_44 C hH hS hw.1 q1984 dX14_requestLine_255 (fun σ16 e16 H locs hH hS => ?_)
  have hw := hw.2 σ16 e16
  refine lv_aload_n hx hb dX14_requestLine_258 rfl (lv_at hl 0 rfl) ?_
  refine lv_aload_n hx hb dX14_requestLine_259 rfl (lv_at hl 0 rfl) ?_
  refine g14_44 C hH q1984 dX14_requestLine_260 (fun hz => ?_)
  have hw := hw hz
  refine lv_if_ne (tgt := 282) hx hb dX14_requestLine_263 (by decide) (fun h => ?_) (fun h => ?_)
  · have hw := hw.1 h
    refine lv_iconst (v := 0) hx hb dX14_requestLine_282 (by decide) ?_
    refine p14_60 C hH hS (Or.inl rfl) q2000 dX14_requestLine_283 (fun σ17 e17 H locs hH hS => ?_)
    have hw := hw σ17 e17
    refine lv_aload_n hx hb dX14_requestLine_286 rfl (lv_at hl 0 rfl) ?_
    refine lv_iload_n hx hb dX14_requestLine_287 rfl (lv_at hl 2 rfl) ?_
    refine lv_iconst (v := 1) hx hb dX14_requestLine_288 (by decide) ?_
    refine lv_iadd hx hb dX14_requestLine_289 ?_
    refine p14_56 C hH hS q1996 dX14_requestLine_290 (fun σ18 e18 H locs hH hS => ?_)
    have hw := hw σ18 e18
    refine lv_aload_n hx hb dX14_requestLine_293 rfl (lv_at hl 0 rfl) ?_
    refine lv_iload hx hb dX14_requestLine_294 (lv_at hl 3 rfl) ?_
    refine p14_57 C hH hS q1997 dX14_requestLine_296 (fun σ19 e19 H locs hH hS => ?_)
    have hw := hw σ19 e19
    refine lv_iconst (v := 1) hx hb dX14_requestLine_299 (by decide) ?_
    exact rt_i C rfl hH hS hw dX14_requestLine_300
  have hw := hw.2 h
  refine lv_aload_n hx hb dX14_requestLine_266 rfl (lv_at hl 0 rfl) ?_
  refine lv_iload_n hx hb dX14_requestLine_267 rfl (lv_at hl 1 rfl) ?_
  refine lv_iload_n hx hb dX14_requestLine_268 rfl (lv_at hl 2 rfl) ?_
  refine str_ldcw (n := 47) C st47 dX14_requestLine_269 ?_
  refine kc_ip (rn_vp (As := [.int x1, .int x3, .ref (gs G 47)]) (rest := [.ref (ga G 14 0)]) C hH hS (by decide) rfl (by decide) (m14_says l G a1 τ σ16 H x1 x3 47 (by decide) _ hw) (cwV 3 hts (lw_V q2480 q2482 qs137 q171 q2483) rfl rfl rfl kX14_says ⟨Nat.le_of_ble_eq_true rfl, Nat.le_of_ble_eq_true rfl⟩) rfl hl.1 rfl (Nat.le_of_ble_eq_true rfl) dX14_requestLine_272 ⟨Nat.le_of_ble_eq_true rfl, Nat.le_of_ble_eq_true rfl⟩) hS (fun r20 locs hw hS => ?_)
  refine lv_if_ne (tgt := 282) hx hb dX14_requestLine_275 (by decide) (fun h => ?_) (fun h => ?_)
  · have hw := hw.1 h
    refine lv_iconst (v := 0) hx hb dX14_requestLine_282 (by decide) ?_
    refine p14_60 C hH hS (Or.inl rfl) q2000 dX14_requestLine_283 (fun σ21 e21 H locs hH hS => ?_)
    have hw := hw σ21 e21
    refine lv_aload_n hx hb dX14_requestLine_286 rfl (lv_at hl 0 rfl) ?_
    refine lv_iload_n hx hb dX14_requestLine_287 rfl (lv_at hl 2 rfl) ?_
    refine lv_iconst (v := 1) hx hb dX14_requestLine_288 (by decide) ?_
    refine lv_iadd hx hb dX14_requestLine_289 ?_
    refine p14_56 C hH hS q1996 dX14_requestLine_290 (fun σ22 e22 H locs hH hS => ?_)
    have hw := hw σ22 e22
    refine lv_aload_n hx hb dX14_requestLine_293 rfl (lv_at hl 0 rfl) ?_
    refine lv_iload hx hb dX14_requestLine_294 (lv_at hl 3 rfl) ?_
    refine p14_57 C hH hS q1997 dX14_requestLine_296 (fun σ23 e23 H locs hH hS => ?_)
    have hw := hw σ23 e23
    refine lv_iconst (v := 1) hx hb dX14_requestLine_299 (by decide) ?_
    exact rt_i C rfl hH hS hw dX14_requestLine_300
  have hw := hw.2 h
  refine lv_iconst (v := 1) hx hb dX14_requestLine_278 (by decide) ?_
  refine lv_goto (tgt := 283) hx hb dX14_requestLine_279 (by decide) ?_
  refine p14_60 C hH hS (Or.inr rfl) q2000 dX14_requestLine_283 (fun σ24 e24 H locs hH hS => ?_)
  have hw := hw σ24 e24
  refine lv_aload_n hx hb dX14_requestLine_286 rfl (lv_at hl 0 rfl) ?_
  refine lv_iload_n hx hb dX14_requestLine_287 rfl (lv_at hl 2 rfl) ?_
  refine lv_iconst (v := 1) hx hb dX14_requestLine_288 (by decide) ?_
  refine lv_iadd hx hb dX14_requestLine_289 ?_
  refine p14_56 C hH hS q1996 dX14_requestLine_290 (fun σ25 e25 H locs hH hS => ?_)
  have hw := hw σ25 e25
  refine lv_aload_n hx hb dX14_requestLine_293 rfl (lv_at hl 0 rfl) ?_
  refine lv_iload hx hb dX14_requestLine_294 (lv_at hl 3 rfl) ?_
  refine p14_57 C hH hS q1997 dX14_requestLine_296 (fun σ26 e26 H locs hH hS => ?_)
  have hw := hw σ26 e26
  refine lv_iconst (v := 1) hx hb dX14_requestLine_299 (by decide) ?_
  exact rt_i C rfl hH hS hw dX14_requestLine_300
def w14_requestLine (σ : St) (x1 : Int32) (x2 : Int32) (Q : Int32 → St → Prop) : Prop := ∃ z1, w14_requestLine_L11 σ x1 x2 Q (fun x3_2 x4_2 x5_2 => (¬ x5_2 = 2 → Q 0 σ) ∧ (x5_2 = 2 → (((x3_2 - x1) < 1 → Q 0 σ) ∧ (¬ (x3_2 - x1) < 1 → ((16 < (x3_2 - x1) → Q 0 σ) ∧ (¬ 16 < (x3_2 - x1) → ((x4_2 = (x3_2 + 1) → Q 0 σ) ∧ (¬ x4_2 = (x3_2 + 1) → (vp_in (x3_2 + 1) 4096 ∧ (by8 (σ 66 0 (x3_2 + 1).toNatClampNeg) → ((¬ (σ 66 0 (x3_2 + 1).toNatClampNeg) = 47 → Q 0 σ) ∧ ((σ 66 0 (x3_2 + 1).toNatClampNeg) = 47 → (((x2 - x4_2) = 9 → (∃ z5, w14_requestLine_L113 σ x1 x2 x3_2 x4_2 Q (Q 0 σ) (∃ z10, w14_requestLine_L154 σ x1 x2 x3_2 x4_2 Q (Q 0 σ) (w14_says σ (x4_2 + 1) x2 44 (fun r13 => ((¬ r13 = 0 → (vp_in (x2 - 1) 4096 ∧ (by8 (σ 66 0 (x2 - 1).toNatClampNeg) → ((¬ (σ 66 0 (x2 - 1).toNatClampNeg) = 48 → w14_requestLine_J242 σ x1 x3_2 x4_2 0 Q) ∧ ((σ 66 0 (x2 - 1).toNatClampNeg) = 48 → w14_requestLine_J242 σ x1 x3_2 x4_2 1 Q))))) ∧ (r13 = 0 → (w14_says σ (x4_2 + 1) x2 45 (fun r27 => ((¬ r27 = 0 → (vp_in (x2 - 1) 4096 ∧ (by8 (σ 66 0 (x2 - 1).toNatClampNeg) → ((¬ (σ 66 0 (x2 - 1).toNatClampNeg) = 48 → w14_requestLine_J242 σ x1 x3_2 x4_2 0 Q) ∧ ((σ 66 0 (x2 - 1).toNatClampNeg) = 48 → w14_requestLine_J242 σ x1 x3_2 x4_2 1 Q))))) ∧ (r27 = 0 → Q 0 σ)))))))) z10 (x3_2 + 1)) z5 x1)) ∧ (¬ (x2 - x4_2) = 9 → Q 0 σ)))))))))))))) z1 (-1) (-1) 0 x1
set_option maxHeartbeats 4000000 in
theorem m14_requestLine (l : Launch) (G : Gh) (a1 : Nat → Nat → Nat) (τ : St) (σ : St) (x1 : Int32) (x2 : Int32) (Q : Int32 → St → Prop) (hw : w14_requestLine σ x1 x2 Q) : Met l yX14_requestLine (ws_ yX14_requestLine cX14_requestLine 7 (some .boolean)) rmX14_requestLine (PcS G a1 (cmb τ σ) [.ref (ga G 14 0), .int x1, .int x2]) (QIs G a1 (fun u => cmb τ u) Q) 0 0 (gA G) := by
  refine met_w (by decide) (Nat.le_of_ble_eq_true rfl) ?_
  intro p e s m below meth c ls C hH hS hl
  have C : Cx p e s m _ meth c cX14_requestLine 7 (some .boolean) "WebHostModel" G := C
  have hl : lv_has ls 7 [(0, .ref (ga G 14 0)), (1, .int x1), (2, .int x2)] := hl
  have hx := C.1
  have hb := C.2.1
  have hown := C.2.2.2.2.2.1
  have hts := C.2.2.2.2.2.2.1
  obtain ⟨locs, hlocs⟩ : ∃ z : List Loc, z = [] := ⟨_, rfl⟩
  obtain ⟨H, hHe⟩ : ∃ z : Heap, z = s.heap := ⟨_, rfl⟩
  have hH : Hd G a1 (cmb τ σ) H := by rw [hHe]; exact hH
  have hS : va_S (gA G) s.heap H locs := by rw [hHe, hlocs]; exact hS
  refine W.heap0 hHe.symm hlocs.symm ?_
  refine lv_iconst (v := (-1)) hx hb dX14_requestLine_0 (by decide) ?_
  refine lv_istore_n (lv' := [(3, .int (-1)), (0, .ref (ga G 14 0)), (1, .int x1), (2, .int x2)]) hx hb dX14_requestLine_1 rfl hl (by decide) rfl (fun ls hl => ?_)
  refine lv_iconst (v := (-1)) hx hb dX14_requestLine_2 (by decide) ?_
  refine lv_istore (lv' := [(4, .int (-1)), (3, .int (-1)), (0, .ref (ga G 14 0)), (1, .int x1), (2, .int x2)]) hx hb dX14_requestLine_3 hl (by decide) rfl (fun ls hl => ?_)
  refine lv_iconst (v := 0) hx hb dX14_requestLine_5 (by decide) ?_
  refine lv_istore (lv' := [(5, .int 0), (4, .int (-1)), (3, .int (-1)), (0, .ref (ga G 14 0)), (1, .int x1), (2, .int x2)]) hx hb dX14_requestLine_6 hl (by decide) rfl (fun ls hl => ?_)
  refine lv_iload_n hx hb dX14_requestLine_8 rfl (lv_at hl 4 rfl) ?_
  refine lv_istore (lv' := [(6, .int x1), (5, .int 0), (4, .int (-1)), (3, .int (-1)), (0, .ref (ga G 14 0)), (1, .int x1), (2, .int x2)]) hx hb dX14_requestLine_9 hl (by decide) rfl (fun ls hl => ?_)
  obtain ⟨n1, hw⟩ := hw
  refine k14_requestLine_L11 C σ x1 x2 n1 (-1) (-1) 0 x1 hw H locs ls hH hS (lv_sub hl [4, 5, 6, 3, 2, 1, 0] rfl) (fun x3_2 x4_2 x5_2 hw H locs ls hH hS hl => ?_)
  refine lv_iload hx hb dX14_requestLine_57 (lv_at hl 5 rfl) ?_
  refine lv_iconst (v := 2) hx hb dX14_requestLine_59 (by decide) ?_
  refine lv_icmp_ne (tgt := 108) hx hb dX14_requestLine_60 (by decide) (fun h => ?_) (fun h => ?_)
  · have hw := hw.1 h
    refine lv_iconst (v := 0) hx hb dX14_requestLine_108 (by decide) ?_
    exact rt_i C rfl hH hS hw dX14_requestLine_109
  have hw := hw.2 h
  refine lv_iload_n hx hb dX14_requestLine_63 rfl (lv_at hl 3 rfl) ?_
  refine lv_iload_n hx hb dX14_requestLine_64 rfl (lv_at hl 1 rfl) ?_
  refine lv_isub hx hb dX14_requestLine_65 ?_
  refine lv_iconst (v := 1) hx hb dX14_requestLine_66 (by decide) ?_
  refine lv_icmp_lt (tgt := 108) hx hb dX14_requestLine_67 (by decide) (fun h => ?_) (fun h => ?_)
  · have hw := hw.1 h
    refine lv_iconst (v := 0) hx hb dX14_requestLine_108 (by decide) ?_
    exact rt_i C rfl hH hS hw dX14_requestLine_109
  have hw := hw.2 h
  refine lv_iload_n hx hb dX14_requestLine_70 rfl (lv_at hl 3 rfl) ?_
  refine lv_iload_n hx hb dX14_requestLine_71 rfl (lv_at hl 1 rfl) ?_
  refine lv_isub hx hb dX14_requestLine_72 ?_
  refine lv_bipush (v := 16) hx hb dX14_requestLine_73 (by decide) ?_
  refine lv_icmp_gt (tgt := 108) hx hb dX14_requestLine_75 (by decide) (fun h => ?_) (fun h => ?_)
  · have hw := hw.1 h
    refine lv_iconst (v := 0) hx hb dX14_requestLine_108 (by decide) ?_
    exact rt_i C rfl hH hS hw dX14_requestLine_109
  have hw := hw.2 h
  refine lv_iload hx hb dX14_requestLine_78 (lv_at hl 4 rfl) ?_
  refine lv_iload_n hx hb dX14_requestLine_80 rfl (lv_at hl 3 rfl) ?_
  refine lv_iconst (v := 1) hx hb dX14_requestLine_81 (by decide) ?_
  refine lv_iadd hx hb dX14_requestLine_82 ?_
  refine lv_icmp_eq (tgt := 108) hx hb dX14_requestLine_83 (by decide) (fun h => ?_) (fun h => ?_)
  · have hw := hw.1 h
    refine lv_iconst (v := 0) hx hb dX14_requestLine_108 (by decide) ?_
    exact rt_i C rfl hH hS hw dX14_requestLine_109
  have hw := hw.2 h
  refine lv_aload_n hx hb dX14_requestLine_86 rfl (lv_at hl 0 rfl) ?_
  refine g14_41 C hH q1981 dX14_requestLine_87 ?_
  refine lv_iload_n hx hb dX14_requestLine_90 rfl (lv_at hl 3 rfl) ?_
  refine lv_iconst (v := 1) hx hb dX14_requestLine_91 (by decide) ?_
  refine lv_iadd hx hb dX14_requestLine_92 ?_
  refine l66 C hH hw.1 dX14_requestLine_93 (fun hz => ?_)
  have hw := hw.2 hz
  refine lv_bipush (v := 47) hx hb dX14_requestLine_94 (by decide) ?_
  refine lv_icmp_ne (tgt := 108) hx hb dX14_requestLine_96 (by decide) (fun h => ?_) (fun h => ?_)
  · have hw := hw.1 h
    refine lv_iconst (v := 0) hx hb dX14_requestLine_108 (by decide) ?_
    exact rt_i C rfl hH hS hw dX14_requestLine_109
  have hw := hw.2 h
  refine lv_iload_n hx hb dX14_requestLine_99 rfl (lv_at hl 2 rfl) ?_
  refine lv_iload hx hb dX14_requestLine_100 (lv_at hl 4 rfl) ?_
  refine lv_isub hx hb dX14_requestLine_102 ?_
  refine lv_bipush (v := 9) hx hb dX14_requestLine_103 (by decide) ?_
  refine lv_icmp_eq (tgt := 110) hx hb dX14_requestLine_105 (by decide) (fun h => ?_) (fun h => ?_)
  · have hw := hw.1 h
    refine lv_iload_n hx hb dX14_requestLine_110 rfl (lv_at hl 1 rfl) ?_
    refine lv_istore (lv' := [(6, .int x1), (0, .ref (ga G 14 0)), (1, .int x1), (2, .int x2), (3, .int x3_2), (4, .int x4_2), (5, .int x5_2)]) hx hb dX14_requestLine_111 hl (by decide) rfl (fun ls hl => ?_)
    obtain ⟨n5, hw⟩ := hw
    refine k14_requestLine_L113 C σ x1 x2 x3_2 x4_2 n5 x1 hw H locs ls hH hS (lv_sub hl [1, 2, 3, 4, 5, 0] rfl) (fun hw H locs ls hH hS hl => ?_) (fun hw H locs ls hH hS hl => ?_)
    · refine lv_iconst (v := 0) hx hb dX14_requestLine_141 (by decide) ?_
      exact rt_i C rfl hH hS hw dX14_requestLine_142
    refine lv_iload_n hx hb dX14_requestLine_149 rfl (lv_at hl 3 rfl) ?_
    refine lv_iconst (v := 1) hx hb dX14_requestLine_150 (by decide) ?_
    refine lv_iadd hx hb dX14_requestLine_151 ?_
    refine lv_istore (lv' := [(6, .int (x3_2 + 1)), (0, .ref (ga G 14 0)), (1, .int x1), (2, .int x2), (3, .int x3_2), (4, .int x4_2)]) hx hb dX14_requestLine_152 hl (by decide) rfl (fun ls hl => ?_)
    obtain ⟨n10, hw⟩ := hw
    refine k14_requestLine_L154 C σ x1 x2 x3_2 x4_2 n10 (x3_2 + 1) hw H locs ls hH hS (lv_sub hl [1, 2, 3, 4, 5, 0] rfl) (fun hw H locs ls hH hS hl => ?_) (fun hw H locs ls hH hS hl => ?_)
    · refine lv_iconst (v := 0) hx hb dX14_requestLine_183 (by decide) ?_
      exact rt_i C rfl hH hS hw dX14_requestLine_184
    refine lv_aload_n hx hb dX14_requestLine_191 rfl (lv_at hl 0 rfl) ?_
    refine lv_iload hx hb dX14_requestLine_192 (lv_at hl 4 rfl) ?_
    refine lv_iconst (v := 1) hx hb dX14_requestLine_194 (by decide) ?_
    refine lv_iadd hx hb dX14_requestLine_195 ?_
    refine lv_iload_n hx hb dX14_requestLine_196 rfl (lv_at hl 2 rfl) ?_
    refine str_ldcw (n := 44) C st44 dX14_requestLine_197 ?_
    refine kc_ip (rn_vp (As := [.int (x4_2 + 1), .int x2, .ref (gs G 44)]) (rest := []) C hH hS (by decide) rfl (by decide) (m14_says l G a1 τ σ H (x4_2 + 1) x2 44 (by decide) _ hw) (cwV 3 hts (lw_V q2480 q2482 qs137 q171 q2483) rfl rfl rfl kX14_says ⟨Nat.le_of_ble_eq_true rfl, Nat.le_of_ble_eq_true rfl⟩) rfl hl.1 rfl (Nat.le_of_ble_eq_true rfl) dX14_requestLine_200 ⟨Nat.le_of_ble_eq_true rfl, Nat.le_of_ble_eq_true rfl⟩) hS (fun r13 locs hw hS => ?_)
    refine lv_if_ne (tgt := 223) hx hb dX14_requestLine_203 (by decide) (fun h => ?_) (fun h => ?_)
    · have hw := hw.1 h
      refine lv_aload_n hx hb dX14_requestLine_223 rfl (lv_at hl 0 rfl) ?_
      refine lv_aload_n hx hb dX14_requestLine_224 rfl (lv_at hl 0 rfl) ?_
      refine g14_41 C hH q1981 dX14_requestLine_225 ?_
      refine lv_iload_n hx hb dX14_requestLine_228 rfl (lv_at hl 2 rfl) ?_
      refine lv_iconst (v := 1) hx hb dX14_requestLine_229 (by decide) ?_
      refine lv_isub hx hb dX14_requestLine_230 ?_
      refine l66 C hH hw.1 dX14_requestLine_231 (fun hz => ?_)
      have hw := hw.2 hz
      refine lv_bipush (v := 48) hx hb dX14_requestLine_232 (by decide) ?_
      refine lv_icmp_ne (tgt := 241) hx hb dX14_requestLine_234 (by decide) (fun h => ?_) (fun h => ?_)
      · have hw := hw.1 h
        refine lv_iconst (v := 0) hx hb dX14_requestLine_241 (by decide) ?_
        exact k14_requestLine_J242 C σ x1 x3_2 x4_2 0 hw H locs ls hH hS (lv_sub hl [0, 1, 3, 4] rfl)
      have hw := hw.2 h
      refine lv_iconst (v := 1) hx hb dX14_requestLine_237 (by decide) ?_
      refine lv_goto (tgt := 242) hx hb dX14_requestLine_238 (by decide) ?_
      exact k14_requestLine_J242 C σ x1 x3_2 x4_2 1 hw H locs ls hH hS (lv_sub hl [0, 1, 3, 4] rfl)
    have hw := hw.2 h
    refine lv_aload_n hx hb dX14_requestLine_206 rfl (lv_at hl 0 rfl) ?_
    refine lv_iload hx hb dX14_requestLine_207 (lv_at hl 4 rfl) ?_
    refine lv_iconst (v := 1) hx hb dX14_requestLine_209 (by decide) ?_
    refine lv_iadd hx hb dX14_requestLine_210 ?_
    refine lv_iload_n hx hb dX14_requestLine_211 rfl (lv_at hl 2 rfl) ?_
    refine str_ldcw (n := 45) C st45 dX14_requestLine_212 ?_
    refine kc_ip (rn_vp (As := [.int (x4_2 + 1), .int x2, .ref (gs G 45)]) (rest := []) C hH hS (by decide) rfl (by decide) (m14_says l G a1 τ σ H (x4_2 + 1) x2 45 (by decide) _ hw) (cwV 3 hts (lw_V q2480 q2482 qs137 q171 q2483) rfl rfl rfl kX14_says ⟨Nat.le_of_ble_eq_true rfl, Nat.le_of_ble_eq_true rfl⟩) rfl hl.1 rfl (Nat.le_of_ble_eq_true rfl) dX14_requestLine_215 ⟨Nat.le_of_ble_eq_true rfl, Nat.le_of_ble_eq_true rfl⟩) hS (fun r27 locs hw hS => ?_)
    refine lv_if_ne (tgt := 223) hx hb dX14_requestLine_218 (by decide) (fun h => ?_) (fun h => ?_)
    · have hw := hw.1 h
      refine lv_aload_n hx hb dX14_requestLine_223 rfl (lv_at hl 0 rfl) ?_
      refine lv_aload_n hx hb dX14_requestLine_224 rfl (lv_at hl 0 rfl) ?_
      refine g14_41 C hH q1981 dX14_requestLine_225 ?_
      refine lv_iload_n hx hb dX14_requestLine_228 rfl (lv_at hl 2 rfl) ?_
      refine lv_iconst (v := 1) hx hb dX14_requestLine_229 (by decide) ?_
      refine lv_isub hx hb dX14_requestLine_230 ?_
      refine l66 C hH hw.1 dX14_requestLine_231 (fun hz => ?_)
      have hw := hw.2 hz
      refine lv_bipush (v := 48) hx hb dX14_requestLine_232 (by decide) ?_
      refine lv_icmp_ne (tgt := 241) hx hb dX14_requestLine_234 (by decide) (fun h => ?_) (fun h => ?_)
      · have hw := hw.1 h
        refine lv_iconst (v := 0) hx hb dX14_requestLine_241 (by decide) ?_
        exact k14_requestLine_J242 C σ x1 x3_2 x4_2 0 hw H locs ls hH hS (lv_sub hl [0, 1, 3, 4] rfl)
      have hw := hw.2 h
      refine lv_iconst (v := 1) hx hb dX14_requestLine_237 (by decide) ?_
      refine lv_goto (tgt := 242) hx hb dX14_requestLine_238 (by decide) ?_
      exact k14_requestLine_J242 C σ x1 x3_2 x4_2 1 hw H locs ls hH hS (lv_sub hl [0, 1, 3, 4] rfl)
    have hw := hw.2 h
    refine lv_iconst (v := 0) hx hb dX14_requestLine_221 (by decide) ?_
    exact rt_i C rfl hH hS hw dX14_requestLine_222
  have hw := hw.2 h
  refine lv_iconst (v := 0) hx hb dX14_requestLine_108 (by decide) ?_
  exact rt_i C rfl hH hS hw dX14_requestLine_109
/-! WebHostModel.type(I)Ljava/lang/String; -/
abbrev cX14_type : ByteArray := prog_17_method_107_code
def yX14_type : MethodName := ⟨RX14, "type", "(I)Ljava/lang/String;"⟩
theorem dX14_type_0 : decode cX14_type 0 = .ok (.iload_n 1, 1) := by decide +kernel
theorem dX14_type_1 : decode cX14_type 1 = .ok (.ifCond .lt 14, 3) := by decide +kernel
theorem dX14_type_4 : decode cX14_type 4 = .ok (.aload_n 0, 1) := by decide +kernel
theorem dX14_type_5 : decode cX14_type 5 = .ok (.iload_n 1, 1) := by decide +kernel
theorem dX14_type_6 : decode cX14_type 6 = .ok (.ldc_w 810, 3) := by decide +kernel
theorem dX14_type_9 : decode cX14_type 9 = .ok (.invokevirtual 812, 3) := by decide +kernel
theorem dX14_type_12 : decode cX14_type 12 = .ok (.ifCond .eq 7, 3) := by decide +kernel
theorem dX14_type_15 : decode cX14_type 15 = .ok (.ldc_w 816, 3) := by decide +kernel
theorem dX14_type_18 : decode cX14_type 18 = .ok (.areturn, 1) := by decide +kernel
theorem dX14_type_19 : decode cX14_type 19 = .ok (.aload_n 0, 1) := by decide +kernel
theorem dX14_type_20 : decode cX14_type 20 = .ok (.iload_n 1, 1) := by decide +kernel
theorem dX14_type_21 : decode cX14_type 21 = .ok (.ldc_w 818, 3) := by decide +kernel
theorem dX14_type_24 : decode cX14_type 24 = .ok (.invokevirtual 812, 3) := by decide +kernel
theorem dX14_type_27 : decode cX14_type 27 = .ok (.ifCond .eq 7, 3) := by decide +kernel
theorem dX14_type_30 : decode cX14_type 30 = .ok (.ldc_w 820, 3) := by decide +kernel
theorem dX14_type_33 : decode cX14_type 33 = .ok (.areturn, 1) := by decide +kernel
theorem dX14_type_34 : decode cX14_type 34 = .ok (.aload_n 0, 1) := by decide +kernel
theorem dX14_type_35 : decode cX14_type 35 = .ok (.iload_n 1, 1) := by decide +kernel
theorem dX14_type_36 : decode cX14_type 36 = .ok (.ldc_w 822, 3) := by decide +kernel
theorem dX14_type_39 : decode cX14_type 39 = .ok (.invokevirtual 812, 3) := by decide +kernel
theorem dX14_type_42 : decode cX14_type 42 = .ok (.ifCond .eq 7, 3) := by decide +kernel
theorem dX14_type_45 : decode cX14_type 45 = .ok (.ldc_w 824, 3) := by decide +kernel
theorem dX14_type_48 : decode cX14_type 48 = .ok (.areturn, 1) := by decide +kernel
theorem dX14_type_49 : decode cX14_type 49 = .ok (.aload_n 0, 1) := by decide +kernel
theorem dX14_type_50 : decode cX14_type 50 = .ok (.iload_n 1, 1) := by decide +kernel
theorem dX14_type_51 : decode cX14_type 51 = .ok (.ldc_w 826, 3) := by decide +kernel
theorem dX14_type_54 : decode cX14_type 54 = .ok (.invokevirtual 812, 3) := by decide +kernel
theorem dX14_type_57 : decode cX14_type 57 = .ok (.ifCond .eq 7, 3) := by decide +kernel
theorem dX14_type_60 : decode cX14_type 60 = .ok (.ldc_w 828, 3) := by decide +kernel
theorem dX14_type_63 : decode cX14_type 63 = .ok (.areturn, 1) := by decide +kernel
theorem dX14_type_64 : decode cX14_type 64 = .ok (.aload_n 0, 1) := by decide +kernel
theorem dX14_type_65 : decode cX14_type 65 = .ok (.iload_n 1, 1) := by decide +kernel
theorem dX14_type_66 : decode cX14_type 66 = .ok (.ldc_w 830, 3) := by decide +kernel
theorem dX14_type_69 : decode cX14_type 69 = .ok (.invokevirtual 812, 3) := by decide +kernel
theorem dX14_type_72 : decode cX14_type 72 = .ok (.ifCond .eq 9, 3) := by decide +kernel
theorem dX14_type_75 : decode cX14_type 75 = .ok (.ldc_w 832, 3) := by decide +kernel
theorem dX14_type_78 : decode cX14_type 78 = .ok (.goto 6, 3) := by decide +kernel
theorem dX14_type_81 : decode cX14_type 81 = .ok (.ldc_w 834, 3) := by decide +kernel
theorem dX14_type_84 : decode cX14_type 84 = .ok (.areturn, 1) := by decide +kernel
def rmX14_type : Room := { frames := 5, cells := 0, slots := 0, locals := 109 }
theorem kX14_type : yX14_type.cls = "WebHostModel" ∧ yX14_type.cls ≠ "java/lang/invoke/MethodHandle" ∧ yX14_type.cls ≠ "java/lang/invoke/VarHandle" ∧ (parseMethodDescriptor yX14_type.desc).map (fun d => d.parameters.length) = some 1 := by decide +kernel
def w14_type (σ : St) (x1 : Int32) (Q : Nat → Prop) : Prop := (x1 < 0 → Q 67) ∧ (¬ x1 < 0 → (w14_endsWith σ x1 66 (fun r1 => ((r1 = 0 → (w14_endsWith σ x1 68 (fun r2 => ((r2 = 0 → (w14_endsWith σ x1 70 (fun r3 => ((r3 = 0 → (w14_endsWith σ x1 72 (fun r4 => ((r4 = 0 → (w14_endsWith σ x1 74 (fun r5 => ((r5 = 0 → Q 76) ∧ (¬ r5 = 0 → Q 75))))) ∧ (¬ r4 = 0 → Q 73))))) ∧ (¬ r3 = 0 → Q 71))))) ∧ (¬ r2 = 0 → Q 69))))) ∧ (¬ r1 = 0 → Q 67)))))
set_option maxHeartbeats 4000000 in
theorem m14_type (l : Launch) (G : Gh) (a1 : Nat → Nat → Nat) (τ : St) (σ : St) (H : Heap) (x1 : Int32) (Q : Nat → Prop) (hw : w14_type σ x1 Q) : Met l yX14_type (ws_ yX14_type cX14_type 2 (some (.object "java/lang/String"))) rmX14_type (PcP G a1 (cmb τ σ) H [.ref (ga G 14 0), .int x1]) (QTp G H Q) 0 0 (gA G) := by
  refine met_p (by decide) (Nat.le_of_ble_eq_true rfl) ?_
  intro p e s m below meth c ls hHe C hH hS hl
  have C : Cx p e s m _ meth c cX14_type 2 (some (.object "java/lang/String")) "WebHostModel" G := C
  have hl : lv_has ls 2 [(0, .ref (ga G 14 0)), (1, .int x1)] := hl
  have hx := C.1
  have hb := C.2.1
  have hown := C.2.2.2.2.2.1
  have hts := C.2.2.2.2.2.2.1
  obtain ⟨locs, hlocs⟩ : ∃ z : List Loc, z = [] := ⟨_, rfl⟩
  rw [← hlocs] at hS ⊢
  refine lv_iload_n hx hb dX14_type_0 rfl (lv_at hl 1 rfl) ?_
  refine lv_if_lt (tgt := 15) hx hb dX14_type_1 (by decide) (fun h => ?_) (fun h => ?_)
  · have hw := hw.1 h
    refine str_ldcw (n := 67) C st67 dX14_type_15 ?_
    exact rt_tp 67 C hS hw dX14_type_18
  have hw := hw.2 h
  refine lv_aload_n hx hb dX14_type_4 rfl (lv_at hl 0 rfl) ?_
  refine lv_iload_n hx hb dX14_type_5 rfl (lv_at hl 1 rfl) ?_
  refine str_ldcw (n := 66) C st66 dX14_type_6 ?_
  refine kc_ip (rn_vp (As := [.int x1, .ref (gs G 66)]) (rest := []) C hH hS (by decide) rfl (by decide) (m14_endsWith l G a1 τ σ H x1 66 (by decide) _ hw) (cwV 2 hts (lw_V q2589 q2591 qs152 q171 q2592) rfl rfl rfl kX14_endsWith ⟨Nat.le_of_ble_eq_true rfl, Nat.le_of_ble_eq_true rfl⟩) rfl hl.1 rfl (Nat.le_of_ble_eq_true rfl) dX14_type_9 ⟨Nat.le_of_ble_eq_true rfl, Nat.le_of_ble_eq_true rfl⟩) hS (fun r1 locs hw hS => ?_)
  refine lv_if_eq (tgt := 19) hx hb dX14_type_12 (by decide) (fun h => ?_) (fun h => ?_)
  · have hw := hw.1 h
    refine lv_aload_n hx hb dX14_type_19 rfl (lv_at hl 0 rfl) ?_
    refine lv_iload_n hx hb dX14_type_20 rfl (lv_at hl 1 rfl) ?_
    refine str_ldcw (n := 68) C st68 dX14_type_21 ?_
    refine kc_ip (rn_vp (As := [.int x1, .ref (gs G 68)]) (rest := []) C hH hS (by decide) rfl (by decide) (m14_endsWith l G a1 τ σ H x1 68 (by decide) _ hw) (cwV 2 hts (lw_V q2589 q2591 qs152 q171 q2592) rfl rfl rfl kX14_endsWith ⟨Nat.le_of_ble_eq_true rfl, Nat.le_of_ble_eq_true rfl⟩) rfl hl.1 rfl (Nat.le_of_ble_eq_true rfl) dX14_type_24 ⟨Nat.le_of_ble_eq_true rfl, Nat.le_of_ble_eq_true rfl⟩) hS (fun r2 locs hw hS => ?_)
    refine lv_if_eq (tgt := 34) hx hb dX14_type_27 (by decide) (fun h => ?_) (fun h => ?_)
    · have hw := hw.1 h
      refine lv_aload_n hx hb dX14_type_34 rfl (lv_at hl 0 rfl) ?_
      refine lv_iload_n hx hb dX14_type_35 rfl (lv_at hl 1 rfl) ?_
      refine str_ldcw (n := 70) C st70 dX14_type_36 ?_
      refine kc_ip (rn_vp (As := [.int x1, .ref (gs G 70)]) (rest := []) C hH hS (by decide) rfl (by decide) (m14_endsWith l G a1 τ σ H x1 70 (by decide) _ hw) (cwV 2 hts (lw_V q2589 q2591 qs152 q171 q2592) rfl rfl rfl kX14_endsWith ⟨Nat.le_of_ble_eq_true rfl, Nat.le_of_ble_eq_true rfl⟩) rfl hl.1 rfl (Nat.le_of_ble_eq_true rfl) dX14_type_39 ⟨Nat.le_of_ble_eq_true rfl, Nat.le_of_ble_eq_true rfl⟩) hS (fun r3 locs hw hS => ?_)
      refine lv_if_eq (tgt := 49) hx hb dX14_type_42 (by decide) (fun h => ?_) (fun h => ?_)
      · have hw := hw.1 h
        refine lv_aload_n hx hb dX14_type_49 rfl (lv_at hl 0 rfl) ?_
        refine lv_iload_n hx hb dX14_type_50 rfl (lv_at hl 1 rfl) ?_
        refine str_ldcw (n := 72) C st72 dX14_type_51 ?_
        refine kc_ip (rn_vp (As := [.int x1, .ref (gs G 72)]) (rest := []) C hH hS (by decide) rfl (by decide) (m14_endsWith l G a1 τ σ H x1 72 (by decide) _ hw) (cwV 2 hts (lw_V q2589 q2591 qs152 q171 q2592) rfl rfl rfl kX14_endsWith ⟨Nat.le_of_ble_eq_true rfl, Nat.le_of_ble_eq_true rfl⟩) rfl hl.1 rfl (Nat.le_of_ble_eq_true rfl) dX14_type_54 ⟨Nat.le_of_ble_eq_true rfl, Nat.le_of_ble_eq_true rfl⟩) hS (fun r4 locs hw hS => ?_)
        refine lv_if_eq (tgt := 64) hx hb dX14_type_57 (by decide) (fun h => ?_) (fun h => ?_)
        · have hw := hw.1 h
          refine lv_aload_n hx hb dX14_type_64 rfl (lv_at hl 0 rfl) ?_
          refine lv_iload_n hx hb dX14_type_65 rfl (lv_at hl 1 rfl) ?_
          refine str_ldcw (n := 74) C st74 dX14_type_66 ?_
          refine kc_ip (rn_vp (As := [.int x1, .ref (gs G 74)]) (rest := []) C hH hS (by decide) rfl (by decide) (m14_endsWith l G a1 τ σ H x1 74 (by decide) _ hw) (cwV 2 hts (lw_V q2589 q2591 qs152 q171 q2592) rfl rfl rfl kX14_endsWith ⟨Nat.le_of_ble_eq_true rfl, Nat.le_of_ble_eq_true rfl⟩) rfl hl.1 rfl (Nat.le_of_ble_eq_true rfl) dX14_type_69 ⟨Nat.le_of_ble_eq_true rfl, Nat.le_of_ble_eq_true rfl⟩) hS (fun r5 locs hw hS => ?_)
          refine lv_if_eq (tgt := 81) hx hb dX14_type_72 (by decide) (fun h => ?_) (fun h => ?_)
          · have hw := hw.1 h
            refine str_ldcw (n := 76) C st76 dX14_type_81 ?_
            exact rt_tp 76 C hS hw dX14_type_84
          have hw := hw.2 h
          refine str_ldcw (n := 75) C st75 dX14_type_75 ?_
          refine lv_goto (tgt := 84) hx hb dX14_type_78 (by decide) ?_
          exact rt_tp 75 C hS hw dX14_type_84
        have hw := hw.2 h
        refine str_ldcw (n := 73) C st73 dX14_type_60 ?_
        exact rt_tp 73 C hS hw dX14_type_63
      have hw := hw.2 h
      refine str_ldcw (n := 71) C st71 dX14_type_45 ?_
      exact rt_tp 71 C hS hw dX14_type_48
    have hw := hw.2 h
    refine str_ldcw (n := 69) C st69 dX14_type_30 ?_
    exact rt_tp 69 C hS hw dX14_type_33
  have hw := hw.2 h
  refine str_ldcw (n := 67) C st67 dX14_type_15 ?_
  exact rt_tp 67 C hS hw dX14_type_18
/-! WebHostModel.words(II)V -/
abbrev cX14_words : ByteArray := prog_17_method_94_code
def yX14_words : MethodName := ⟨RX14, "words", "(II)V"⟩
theorem dX14_words_0 : decode cX14_words 0 = .ok (.iload_n 1, 1) := by decide +kernel
theorem dX14_words_1 : decode cX14_words 1 = .ok (.istore_n 3, 1) := by decide +kernel
theorem dX14_words_2 : decode cX14_words 2 = .ok (.iload_n 1, 1) := by decide +kernel
theorem dX14_words_3 : decode cX14_words 3 = .ok (.istore 4, 2) := by decide +kernel
theorem dX14_words_5 : decode cX14_words 5 = .ok (.iload 4, 2) := by decide +kernel
theorem dX14_words_7 : decode cX14_words 7 = .ok (.iload_n 2, 1) := by decide +kernel
theorem dX14_words_8 : decode cX14_words 8 = .ok (.if_icmp .gt 79, 3) := by decide +kernel
theorem dX14_words_11 : decode cX14_words 11 = .ok (.iload 4, 2) := by decide +kernel
theorem dX14_words_13 : decode cX14_words 13 = .ok (.iload_n 2, 1) := by decide +kernel
theorem dX14_words_14 : decode cX14_words 14 = .ok (.if_icmp .eq 26, 3) := by decide +kernel
theorem dX14_words_17 : decode cX14_words 17 = .ok (.aload_n 0, 1) := by decide +kernel
theorem dX14_words_18 : decode cX14_words 18 = .ok (.iload 4, 2) := by decide +kernel
theorem dX14_words_20 : decode cX14_words 20 = .ok (.invokevirtual 693, 3) := by decide +kernel
theorem dX14_words_23 : decode cX14_words 23 = .ok (.bipush 44, 2) := by decide +kernel
theorem dX14_words_25 : decode cX14_words 25 = .ok (.if_icmp .eq 15, 3) := by decide +kernel
theorem dX14_words_28 : decode cX14_words 28 = .ok (.aload_n 0, 1) := by decide +kernel
theorem dX14_words_29 : decode cX14_words 29 = .ok (.iload 4, 2) := by decide +kernel
theorem dX14_words_31 : decode cX14_words 31 = .ok (.invokevirtual 693, 3) := by decide +kernel
theorem dX14_words_34 : decode cX14_words 34 = .ok (.invokestatic 734, 3) := by decide +kernel
theorem dX14_words_37 : decode cX14_words 37 = .ok (.ifCond .eq 44, 3) := by decide +kernel
theorem dX14_words_40 : decode cX14_words 40 = .ok (.aload_n 0, 1) := by decide +kernel
theorem dX14_words_41 : decode cX14_words 41 = .ok (.iload_n 3, 1) := by decide +kernel
theorem dX14_words_42 : decode cX14_words 42 = .ok (.iload 4, 2) := by decide +kernel
theorem dX14_words_44 : decode cX14_words 44 = .ok (.ldc_w 763, 3) := by decide +kernel
theorem dX14_words_47 : decode cX14_words 47 = .ok (.invokevirtual 739, 3) := by decide +kernel
theorem dX14_words_50 : decode cX14_words 50 = .ok (.ifCond .eq 8, 3) := by decide +kernel
theorem dX14_words_53 : decode cX14_words 53 = .ok (.aload_n 0, 1) := by decide +kernel
theorem dX14_words_54 : decode cX14_words 54 = .ok (.iconst 1, 1) := by decide +kernel
theorem dX14_words_55 : decode cX14_words 55 = .ok (.putfield 648, 3) := by decide +kernel
theorem dX14_words_58 : decode cX14_words 58 = .ok (.aload_n 0, 1) := by decide +kernel
theorem dX14_words_59 : decode cX14_words 59 = .ok (.iload_n 3, 1) := by decide +kernel
theorem dX14_words_60 : decode cX14_words 60 = .ok (.iload 4, 2) := by decide +kernel
theorem dX14_words_62 : decode cX14_words 62 = .ok (.ldc_w 764, 3) := by decide +kernel
theorem dX14_words_65 : decode cX14_words 65 = .ok (.invokevirtual 739, 3) := by decide +kernel
theorem dX14_words_68 : decode cX14_words 68 = .ok (.ifCond .eq 8, 3) := by decide +kernel
theorem dX14_words_71 : decode cX14_words 71 = .ok (.aload_n 0, 1) := by decide +kernel
theorem dX14_words_72 : decode cX14_words 72 = .ok (.iconst 1, 1) := by decide +kernel
theorem dX14_words_73 : decode cX14_words 73 = .ok (.putfield 651, 3) := by decide +kernel
theorem dX14_words_76 : decode cX14_words 76 = .ok (.iload 4, 2) := by decide +kernel
theorem dX14_words_78 : decode cX14_words 78 = .ok (.iconst 1, 1) := by decide +kernel
theorem dX14_words_79 : decode cX14_words 79 = .ok (.iadd, 1) := by decide +kernel
theorem dX14_words_80 : decode cX14_words 80 = .ok (.istore_n 3, 1) := by decide +kernel
theorem dX14_words_81 : decode cX14_words 81 = .ok (.iinc 4 1, 3) := by decide +kernel
theorem dX14_words_84 : decode cX14_words 84 = .ok (.goto (-79), 3) := by decide +kernel
theorem dX14_words_87 : decode cX14_words 87 = .ok (.return_, 1) := by decide +kernel
def rmX14_words : Room := { frames := 5, cells := 0, slots := 0, locals := 109 }
theorem kX14_words : yX14_words.cls = "WebHostModel" ∧ yX14_words.cls ≠ "java/lang/invoke/MethodHandle" ∧ yX14_words.cls ≠ "java/lang/invoke/VarHandle" ∧ (parseMethodDescriptor yX14_words.desc).map (fun d => d.parameters.length) = some 2 := by decide +kernel
def w14_words_J58 (σ : St) (x2 : Int32) (x3 : Int32) (x4 : Int32) (Q : St → Prop) (K5 : St → Int32 → Int32 → Prop) : Prop := w14_saysSmall σ x3 x4 54 (fun r2 => ((r2 = 0 → (K5 σ (x4 + 1) (x4 + 1))) ∧ (¬ r2 = 0 → (∀ σ3, σ3 = up3 σ 14 0 47 1 → (K5 σ3 (x4 + 1) (x4 + 1))))))
set_option maxHeartbeats 4000000 in
theorem k14_words_J58 {p : Program} {l : Launch} {e : Env} {s : State} {m : MethodId} {args : Array Value} {below : List Frame} {meth : Method} {c : Code} {G : Gh} {a1 : Nat → Nat → Nat} {τ : St} {Q : St → Prop} {K5 : St → Int32 → Int32 → Prop} (C : Cx p e s m args meth c cX14_words 5 none "WebHostModel" G) (σ : St) (x2 : Int32) (x3 : Int32) (x4 : Int32) (hw : w14_words_J58 σ x2 x3 x4 Q K5) (H : Heap) (locs : List Loc) (ls : Array Slot) (hH : Hd G a1 (cmb τ σ) H) (hS : va_S (gA G) s.heap H locs) (hl : lv_has ls 5 [(0, .ref (ga G 14 0)), (2, .int x2), (3, .int x3), (4, .int x4)]) (hK5 : ∀ (σ : St) (x3 : Int32) (x4 : Int32), K5 σ x3 x4 → ∀ (H : Heap) (locs : List Loc) (ls : Array Slot), Hd G a1 (cmb τ σ) H → va_S (gA G) s.heap H locs → lv_has ls 5 [(0, .ref (ga G 14 0)), (2, .int x2), (3, .int x3), (4, .int x4)] → W p l e rmX14_words s m args below meth c H locs 0 0 (MQ below (QVs G a1 (fun u => cmb τ u) Q) args s 0 0 (gA G)) (F0 m 5 ls [])) : W p l e rmX14_words s m args below meth c H locs 0 0 (MQ below (QVs G a1 (fun u => cmb τ u) Q) args s 0 0 (gA G)) (F0 m 58 ls []) := by
  have hx := C.1
  have hb := C.2.1
  have hown := C.2.2.2.2.2.1
  have hts := C.2.2.2.2.2.2.1
  refine lv_aload_n hx hb dX14_words_58 rfl (lv_at hl 0 rfl) ?_
  refine lv_iload_n hx hb dX14_words_59 rfl (lv_at hl 2 rfl) ?_
  refine lv_iload hx hb dX14_words_60 (lv_at hl 3 rfl) ?_
  refine str_ldcw (n := 54) C st54 dX14_words_62 ?_
  refine kc_ip (rn_vp (As := [.int x3, .int x4, .ref (gs G 54)]) (rest := []) C hH hS (by decide) rfl (by decide) (m14_saysSmall l G a1 τ σ H x3 x4 54 (by decide) _ hw) (cwV 3 hts (lw_V q2506 q2508 qs139 q171 q2509) rfl rfl rfl kX14_saysSmall ⟨Nat.le_of_ble_eq_true rfl, Nat.le_of_ble_eq_true rfl⟩) rfl hl.1 rfl (Nat.le_of_ble_eq_true rfl) dX14_words_65 ⟨Nat.le_of_ble_eq_true rfl, Nat.le_of_ble_eq_true rfl⟩) hS (fun r2 locs hw hS => ?_)
  refine lv_if_eq (tgt := 76) hx hb dX14_words_68 (by decide) (fun h => ?_) (fun h => ?_)
  · have hw := hw.1 h
    refine lv_iload hx hb dX14_words_76 (lv_at hl 3 rfl) ?_
    refine lv_iconst (v := 1) hx hb dX14_words_78 (by decide) ?_
    refine lv_iadd hx hb dX14_words_79 ?_
    refine lv_istore_n (lv' := [(3, .int (x4 + 1)), (0, .ref (ga G 14 0)), (2, .int x2), (4, .int x4)]) hx hb dX14_words_80 rfl hl (by decide) rfl (fun ls hl => ?_)
    refine lv_iinc (v := x4 + 1) (lv' := [(4, .int (x4 + 1)), (3, .int (x4 + 1)), (0, .ref (ga G 14 0)), (2, .int x2)]) hx hb dX14_words_81 hl (k := 3) rfl rfl (by decide) rfl (fun ls hl => ?_)
    refine lv_goto (tgt := 5) hx hb dX14_words_84 (by decide) ?_
    exact hK5 σ (x4 + 1) (x4 + 1) hw H locs ls hH hS (lv_sub hl [2, 3, 1, 0] rfl)
  have hw := hw.2 h
  refine lv_aload_n hx hb dX14_words_71 rfl (lv_at hl 0 rfl) ?_
  refine lv_iconst (v := 1) hx hb dX14_words_72 (by decide) ?_
  refine p14_47 C hH hS (Or.inr rfl) q1987 dX14_words_73 (fun σ3 e3 H locs hH hS => ?_)
  have hw := hw σ3 e3
  refine lv_iload hx hb dX14_words_76 (lv_at hl 3 rfl) ?_
  refine lv_iconst (v := 1) hx hb dX14_words_78 (by decide) ?_
  refine lv_iadd hx hb dX14_words_79 ?_
  refine lv_istore_n (lv' := [(3, .int (x4 + 1)), (0, .ref (ga G 14 0)), (2, .int x2), (4, .int x4)]) hx hb dX14_words_80 rfl hl (by decide) rfl (fun ls hl => ?_)
  refine lv_iinc (v := x4 + 1) (lv' := [(4, .int (x4 + 1)), (3, .int (x4 + 1)), (0, .ref (ga G 14 0)), (2, .int x2)]) hx hb dX14_words_81 hl (k := 3) rfl rfl (by decide) rfl (fun ls hl => ?_)
  refine lv_goto (tgt := 5) hx hb dX14_words_84 (by decide) ?_
  exact hK5 σ3 (x4 + 1) (x4 + 1) hw H locs ls hH hS (lv_sub hl [2, 3, 1, 0] rfl)
def w14_words_L5 (x2 : Int32) (Q : St → Prop) (K87 : St → Prop) : Nat → St → Int32 → Int32 → Prop
  | 0, _, _, _ => False
  | n + 1, σ, x3, x4 => (x2 < x4 → K87 σ) ∧ (¬ x2 < x4 → ((x4 = x2 → (w14_saysSmall σ x3 x4 53 (fun r1 => ((r1 = 0 → (w14_words_J58 σ x2 x3 x4 Q (fun σz x3z x4z => w14_words_L5 x2 Q K87 n σz x3z x4z))) ∧ (¬ r1 = 0 → (∀ σ4, σ4 = up3 σ 14 0 46 1 → (w14_words_J58 σ4 x2 x3 x4 Q (fun σz x3z x4z => w14_words_L5 x2 Q K87 n σz x3z x4z)))))))) ∧ (¬ x4 = x2 → (w14_headAt σ x4 (fun r5 => ((r5 = 44 → (w14_saysSmall σ x3 x4 53 (fun r6 => ((r6 = 0 → (w14_words_J58 σ x2 x3 x4 Q (fun σz x3z x4z => w14_words_L5 x2 Q K87 n σz x3z x4z))) ∧ (¬ r6 = 0 → (∀ σ7, σ7 = up3 σ 14 0 46 1 → (w14_words_J58 σ7 x2 x3 x4 Q (fun σz x3z x4z => w14_words_L5 x2 Q K87 n σz x3z x4z)))))))) ∧ (¬ r5 = 44 → (w14_headAt σ x4 (fun r8 => (w14_isBlank σ r8 (fun r9 => ((r9 = 0 → (w14_words_L5 x2 Q K87 n σ x3 (x4 + 1))) ∧ (¬ r9 = 0 → (w14_saysSmall σ x3 x4 53 (fun r10 => ((r10 = 0 → (w14_words_J58 σ x2 x3 x4 Q (fun σz x3z x4z => w14_words_L5 x2 Q K87 n σz x3z x4z))) ∧ (¬ r10 = 0 → (∀ σ11, σ11 = up3 σ 14 0 46 1 → (w14_words_J58 σ11 x2 x3 x4 Q (fun σz x3z x4z => w14_words_L5 x2 Q K87 n σz x3z x4z))))))))))))))))))))
set_option maxHeartbeats 4000000 in
theorem k14_words_L5 {p : Program} {l : Launch} {e : Env} {s : State} {m : MethodId} {args : Array Value} {below : List Frame} {meth : Method} {c : Code} {G : Gh} {a1 : Nat → Nat → Nat} {τ : St} {Q : St → Prop} {K87 : St → Prop} (C : Cx p e s m args meth c cX14_words 5 none "WebHostModel" G) (x2 : Int32) :
    ∀ (n : Nat) (σ : St) (x3 : Int32) (x4 : Int32), w14_words_L5 x2 Q K87 n σ x3 x4 → ∀ (H : Heap) (locs : List Loc) (ls : Array Slot), Hd G a1 (cmb τ σ) H → va_S (gA G) s.heap H locs → lv_has ls 5 [(0, .ref (ga G 14 0)), (2, .int x2), (3, .int x3), (4, .int x4)] → (∀ (σ : St) , K87 σ → ∀ (H : Heap) (locs : List Loc) (ls : Array Slot), Hd G a1 (cmb τ σ) H → va_S (gA G) s.heap H locs → lv_has ls 5 [] → W p l e rmX14_words s m args below meth c H locs 0 0 (MQ below (QVs G a1 (fun u => cmb τ u) Q) args s 0 0 (gA G)) (F0 m 87 ls [])) → W p l e rmX14_words s m args below meth c H locs 0 0 (MQ below (QVs G a1 (fun u => cmb τ u) Q) args s 0 0 (gA G)) (F0 m 5 ls []) := by
  have hx := C.1
  have hb := C.2.1
  have hown := C.2.2.2.2.2.1
  have hts := C.2.2.2.2.2.2.1
  intro n
  induction n with
  | zero =>
    intro σ x3 x4 hw
    exact False.elim hw
  | succ n ih =>
    intro σ x3 x4 hw H locs ls hH hS hl hK87
    refine lv_iload hx hb dX14_words_5 (lv_at hl 3 rfl) ?_
    refine lv_iload_n hx hb dX14_words_7 rfl (lv_at hl 1 rfl) ?_
    refine lv_icmp_gt (tgt := 87) hx hb dX14_words_8 (by decide) (fun h => ?_) (fun h => ?_)
    · have hw := hw.1 h
      exact hK87 σ hw H locs ls hH hS (lv_sub hl [] rfl)
    have hw := hw.2 h
    refine lv_iload hx hb dX14_words_11 (lv_at hl 3 rfl) ?_
    refine lv_iload_n hx hb dX14_words_13 rfl (lv_at hl 1 rfl) ?_
    refine lv_icmp_eq (tgt := 40) hx hb dX14_words_14 (by decide) (fun h => ?_) (fun h => ?_)
    · have hw := hw.1 h
      refine lv_aload_n hx hb dX14_words_40 rfl (lv_at hl 0 rfl) ?_
      refine lv_iload_n hx hb dX14_words_41 rfl (lv_at hl 2 rfl) ?_
      refine lv_iload hx hb dX14_words_42 (lv_at hl 3 rfl) ?_
      refine str_ldcw (n := 53) C st53 dX14_words_44 ?_
      refine kc_ip (rn_vp (As := [.int x3, .int x4, .ref (gs G 53)]) (rest := []) C hH hS (by decide) rfl (by decide) (m14_saysSmall l G a1 τ σ H x3 x4 53 (by decide) _ hw) (cwV 3 hts (lw_V q2506 q2508 qs139 q171 q2509) rfl rfl rfl kX14_saysSmall ⟨Nat.le_of_ble_eq_true rfl, Nat.le_of_ble_eq_true rfl⟩) rfl hl.1 rfl (Nat.le_of_ble_eq_true rfl) dX14_words_47 ⟨Nat.le_of_ble_eq_true rfl, Nat.le_of_ble_eq_true rfl⟩) hS (fun r1 locs hw hS => ?_)
      refine lv_if_eq (tgt := 58) hx hb dX14_words_50 (by decide) (fun h => ?_) (fun h => ?_)
      · have hw := hw.1 h
        exact k14_words_J58 C σ x2 x3 x4 hw H locs ls hH hS (lv_sub hl [0, 1, 2, 3] rfl) (fun σz x3z x4z hw H locs ls hH hS hl => ih σz x3z x4z hw H locs ls hH hS hl hK87)
      have hw := hw.2 h
      refine lv_aload_n hx hb dX14_words_53 rfl (lv_at hl 0 rfl) ?_
      refine lv_iconst (v := 1) hx hb dX14_words_54 (by decide) ?_
      refine p14_46 C hH hS (Or.inr rfl) q1986 dX14_words_55 (fun σ4 e4 H locs hH hS => ?_)
      have hw := hw σ4 e4
      exact k14_words_J58 C σ4 x2 x3 x4 hw H locs ls hH hS (lv_sub hl [0, 1, 2, 3] rfl) (fun σz x3z x4z hw H locs ls hH hS hl => ih σz x3z x4z hw H locs ls hH hS hl hK87)
    have hw := hw.2 h
    refine lv_aload_n hx hb dX14_words_17 rfl (lv_at hl 0 rfl) ?_
    refine lv_iload hx hb dX14_words_18 (lv_at hl 3 rfl) ?_
    refine kc_ip (rn_vp (As := [.int x4]) (rest := []) C hH hS (by decide) rfl (by decide) (m14_headAt l G a1 τ σ H x4 _ hw) (cwV 1 hts (lw_V q2475 q2477 qs136 q171 q2478) rfl rfl rfl kX14_headAt ⟨Nat.le_of_ble_eq_true rfl, Nat.le_of_ble_eq_true rfl⟩) rfl hl.1 rfl (Nat.le_of_ble_eq_true rfl) dX14_words_20 ⟨Nat.le_of_ble_eq_true rfl, Nat.le_of_ble_eq_true rfl⟩) hS (fun r5 locs hw hS => ?_)
    refine lv_bipush (v := 44) hx hb dX14_words_23 (by decide) ?_
    refine lv_icmp_eq (tgt := 40) hx hb dX14_words_25 (by decide) (fun h => ?_) (fun h => ?_)
    · have hw := hw.1 h
      refine lv_aload_n hx hb dX14_words_40 rfl (lv_at hl 0 rfl) ?_
      refine lv_iload_n hx hb dX14_words_41 rfl (lv_at hl 2 rfl) ?_
      refine lv_iload hx hb dX14_words_42 (lv_at hl 3 rfl) ?_
      refine str_ldcw (n := 53) C st53 dX14_words_44 ?_
      refine kc_ip (rn_vp (As := [.int x3, .int x4, .ref (gs G 53)]) (rest := []) C hH hS (by decide) rfl (by decide) (m14_saysSmall l G a1 τ σ H x3 x4 53 (by decide) _ hw) (cwV 3 hts (lw_V q2506 q2508 qs139 q171 q2509) rfl rfl rfl kX14_saysSmall ⟨Nat.le_of_ble_eq_true rfl, Nat.le_of_ble_eq_true rfl⟩) rfl hl.1 rfl (Nat.le_of_ble_eq_true rfl) dX14_words_47 ⟨Nat.le_of_ble_eq_true rfl, Nat.le_of_ble_eq_true rfl⟩) hS (fun r6 locs hw hS => ?_)
      refine lv_if_eq (tgt := 58) hx hb dX14_words_50 (by decide) (fun h => ?_) (fun h => ?_)
      · have hw := hw.1 h
        exact k14_words_J58 C σ x2 x3 x4 hw H locs ls hH hS (lv_sub hl [0, 1, 2, 3] rfl) (fun σz x3z x4z hw H locs ls hH hS hl => ih σz x3z x4z hw H locs ls hH hS hl hK87)
      have hw := hw.2 h
      refine lv_aload_n hx hb dX14_words_53 rfl (lv_at hl 0 rfl) ?_
      refine lv_iconst (v := 1) hx hb dX14_words_54 (by decide) ?_
      refine p14_46 C hH hS (Or.inr rfl) q1986 dX14_words_55 (fun σ7 e7 H locs hH hS => ?_)
      have hw := hw σ7 e7
      exact k14_words_J58 C σ7 x2 x3 x4 hw H locs ls hH hS (lv_sub hl [0, 1, 2, 3] rfl) (fun σz x3z x4z hw H locs ls hH hS hl => ih σz x3z x4z hw H locs ls hH hS hl hK87)
    have hw := hw.2 h
    refine lv_aload_n hx hb dX14_words_28 rfl (lv_at hl 0 rfl) ?_
    refine lv_iload hx hb dX14_words_29 (lv_at hl 3 rfl) ?_
    refine kc_ip (rn_vp (As := [.int x4]) (rest := []) C hH hS (by decide) rfl (by decide) (m14_headAt l G a1 τ σ H x4 _ hw) (cwV 1 hts (lw_V q2475 q2477 qs136 q171 q2478) rfl rfl rfl kX14_headAt ⟨Nat.le_of_ble_eq_true rfl, Nat.le_of_ble_eq_true rfl⟩) rfl hl.1 rfl (Nat.le_of_ble_eq_true rfl) dX14_words_31 ⟨Nat.le_of_ble_eq_true rfl, Nat.le_of_ble_eq_true rfl⟩) hS (fun r8 locs hw hS => ?_)
    refine kc_ip (rn_sp (As := [.int r8]) (rest := []) C hH hS (m14_isBlank l G a1 τ σ H r8 _ hw) (va_cwS 1 hts (lw_S q2502 q2503 q171 q2504) rfl rfl rfl kX14_isBlank.2 ⟨Nat.le_of_ble_eq_true rfl, Nat.le_of_ble_eq_true rfl⟩) rfl hl.1 rfl (Nat.le_of_ble_eq_true rfl) dX14_words_34 ⟨Nat.le_of_ble_eq_true rfl, Nat.le_of_ble_eq_true rfl⟩) hS (fun r9 locs hw hS => ?_)
    refine lv_if_eq (tgt := 81) hx hb dX14_words_37 (by decide) (fun h => ?_) (fun h => ?_)
    · have hw := hw.1 h
      refine lv_iinc (v := x4 + 1) (lv' := [(4, .int (x4 + 1)), (0, .ref (ga G 14 0)), (2, .int x2), (3, .int x3)]) hx hb dX14_words_81 hl (k := 3) rfl rfl (by decide) rfl (fun ls hl => ?_)
      refine lv_goto (tgt := 5) hx hb dX14_words_84 (by decide) ?_
      exact ih σ x3 (x4 + 1) hw H locs ls hH hS (lv_sub hl [1, 2, 3, 0] rfl) hK87
    have hw := hw.2 h
    refine lv_aload_n hx hb dX14_words_40 rfl (lv_at hl 0 rfl) ?_
    refine lv_iload_n hx hb dX14_words_41 rfl (lv_at hl 2 rfl) ?_
    refine lv_iload hx hb dX14_words_42 (lv_at hl 3 rfl) ?_
    refine str_ldcw (n := 53) C st53 dX14_words_44 ?_
    refine kc_ip (rn_vp (As := [.int x3, .int x4, .ref (gs G 53)]) (rest := []) C hH hS (by decide) rfl (by decide) (m14_saysSmall l G a1 τ σ H x3 x4 53 (by decide) _ hw) (cwV 3 hts (lw_V q2506 q2508 qs139 q171 q2509) rfl rfl rfl kX14_saysSmall ⟨Nat.le_of_ble_eq_true rfl, Nat.le_of_ble_eq_true rfl⟩) rfl hl.1 rfl (Nat.le_of_ble_eq_true rfl) dX14_words_47 ⟨Nat.le_of_ble_eq_true rfl, Nat.le_of_ble_eq_true rfl⟩) hS (fun r10 locs hw hS => ?_)
    refine lv_if_eq (tgt := 58) hx hb dX14_words_50 (by decide) (fun h => ?_) (fun h => ?_)
    · have hw := hw.1 h
      exact k14_words_J58 C σ x2 x3 x4 hw H locs ls hH hS (lv_sub hl [0, 1, 2, 3] rfl) (fun σz x3z x4z hw H locs ls hH hS hl => ih σz x3z x4z hw H locs ls hH hS hl hK87)
    have hw := hw.2 h
    refine lv_aload_n hx hb dX14_words_53 rfl (lv_at hl 0 rfl) ?_
    refine lv_iconst (v := 1) hx hb dX14_words_54 (by decide) ?_
    refine p14_46 C hH hS (Or.inr rfl) q1986 dX14_words_55 (fun σ11 e11 H locs hH hS => ?_)
    have hw := hw σ11 e11
    exact k14_words_J58 C σ11 x2 x3 x4 hw H locs ls hH hS (lv_sub hl [0, 1, 2, 3] rfl) (fun σz x3z x4z hw H locs ls hH hS hl => ih σz x3z x4z hw H locs ls hH hS hl hK87)
def w14_words (σ : St) (x1 : Int32) (x2 : Int32) (Q : St → Prop) : Prop := ∃ z12, w14_words_L5 x2 Q (fun σ13 => Q σ13) z12 σ x1 x1
set_option maxHeartbeats 4000000 in
theorem m14_words (l : Launch) (G : Gh) (a1 : Nat → Nat → Nat) (τ : St) (σ : St) (x1 : Int32) (x2 : Int32) (Q : St → Prop) (hw : w14_words σ x1 x2 Q) : Met l yX14_words (ws_ yX14_words cX14_words 5 none) rmX14_words (PcS G a1 (cmb τ σ) [.ref (ga G 14 0), .int x1, .int x2]) (QVs G a1 (fun u => cmb τ u) Q) 0 0 (gA G) := by
  refine met_w (by decide) (Nat.le_of_ble_eq_true rfl) ?_
  intro p e s m below meth c ls C hH hS hl
  have C : Cx p e s m _ meth c cX14_words 5 none "WebHostModel" G := C
  have hl : lv_has ls 5 [(0, .ref (ga G 14 0)), (1, .int x1), (2, .int x2)] := hl
  have hx := C.1
  have hb := C.2.1
  have hown := C.2.2.2.2.2.1
  have hts := C.2.2.2.2.2.2.1
  obtain ⟨locs, hlocs⟩ : ∃ z : List Loc, z = [] := ⟨_, rfl⟩
  obtain ⟨H, hHe⟩ : ∃ z : Heap, z = s.heap := ⟨_, rfl⟩
  have hH : Hd G a1 (cmb τ σ) H := by rw [hHe]; exact hH
  have hS : va_S (gA G) s.heap H locs := by rw [hHe, hlocs]; exact hS
  refine W.heap0 hHe.symm hlocs.symm ?_
  refine lv_iload_n hx hb dX14_words_0 rfl (lv_at hl 1 rfl) ?_
  refine lv_istore_n (lv' := [(3, .int x1), (0, .ref (ga G 14 0)), (1, .int x1), (2, .int x2)]) hx hb dX14_words_1 rfl hl (by decide) rfl (fun ls hl => ?_)
  refine lv_iload_n hx hb dX14_words_2 rfl (lv_at hl 2 rfl) ?_
  refine lv_istore (lv' := [(4, .int x1), (3, .int x1), (0, .ref (ga G 14 0)), (1, .int x1), (2, .int x2)]) hx hb dX14_words_3 hl (by decide) rfl (fun ls hl => ?_)
  obtain ⟨n12, hw⟩ := hw
  refine k14_words_L5 C x2 n12 σ x1 x1 hw H locs ls hH hS (lv_sub hl [2, 4, 1, 0] rfl) (fun σ13 hw H locs ls hH hS hl => ?_)
  exact rt_v C hH hS hw dX14_words_87
/-! WebHost$Requests.begin(LWebHost$Answer;ILjava/lang/String;)V -/
abbrev cX9_begin : ByteArray := prog_11_method_25_code
def yX9_begin : MethodName := ⟨RX9, "begin", "(LWebHost$Answer;ILjava/lang/String;)V"⟩
theorem dX9_begin_0 : decode cX9_begin 0 = .ok (.aload_n 1, 1) := by decide +kernel
theorem dX9_begin_1 : decode cX9_begin 1 = .ok (.invokevirtual 255, 3) := by decide +kernel
theorem dX9_begin_4 : decode cX9_begin 4 = .ok (.aload_n 1, 1) := by decide +kernel
theorem dX9_begin_5 : decode cX9_begin 5 = .ok (.ldc_w 260, 3) := by decide +kernel
theorem dX9_begin_8 : decode cX9_begin 8 = .ok (.invokevirtual 262, 3) := by decide +kernel
theorem dX9_begin_11 : decode cX9_begin 11 = .ok (.aload_n 1, 1) := by decide +kernel
theorem dX9_begin_12 : decode cX9_begin 12 = .ok (.iload_n 2, 1) := by decide +kernel
theorem dX9_begin_13 : decode cX9_begin 13 = .ok (.invokevirtual 266, 3) := by decide +kernel
theorem dX9_begin_16 : decode cX9_begin 16 = .ok (.aload_n 1, 1) := by decide +kernel
theorem dX9_begin_17 : decode cX9_begin 17 = .ok (.bipush 32, 2) := by decide +kernel
theorem dX9_begin_19 : decode cX9_begin 19 = .ok (.invokevirtual 269, 3) := by decide +kernel
theorem dX9_begin_22 : decode cX9_begin 22 = .ok (.aload_n 1, 1) := by decide +kernel
theorem dX9_begin_23 : decode cX9_begin 23 = .ok (.aload_n 3, 1) := by decide +kernel
theorem dX9_begin_24 : decode cX9_begin 24 = .ok (.invokevirtual 272, 3) := by decide +kernel
theorem dX9_begin_27 : decode cX9_begin 27 = .ok (.return_, 1) := by decide +kernel
def rmX9_begin : Room := { frames := 6, cells := 1, slots := 66047, locals := 128 }
theorem kX9_begin : yX9_begin.cls = "WebHost$Requests" ∧ yX9_begin.cls ≠ "java/lang/invoke/MethodHandle" ∧ yX9_begin.cls ≠ "java/lang/invoke/VarHandle" ∧ (parseMethodDescriptor yX9_begin.desc).map (fun d => d.parameters.length) = some 3 := by decide +kernel
def w9_begin (σ : St) (o1 : Nat) (x2 : Int32) (t3 : Nat) (Q : St → Prop) : Prop := w13_clear σ o1 (fun σ1 => (w13_say σ1 o1 23 (fun σ2 => (w13_number σ2 o1 x2 (fun σ3 => (w13_put σ3 o1 32 (fun σ4 => (w13_line σ4 o1 t3 (fun σ5 => (Q σ5))))))))))
set_option maxHeartbeats 4000000 in
theorem m9_begin (l : Launch) (G : Gh) (a1 : Nat → Nat → Nat) (τ : St) (σ : St) (o1 : Nat) (x2 : Int32) (t3 : Nat) (ho1 : o1 < 16) (ht3 : t3 < nS) (Q : St → Prop) (hw : w9_begin σ o1 x2 t3 Q) : Met l yX9_begin (ws_ yX9_begin cX9_begin 4 none) rmX9_begin (PcS G a1 (cmb σ τ) [.ref (ga G 9 0), .ref (ga G 13 o1), .int x2, .ref (gs G t3)]) (QVa G (fun u => cmb u τ) Q) 1 66047 (gA G) := by
  refine met_w (by decide) (Nat.le_of_ble_eq_true rfl) ?_
  intro p e s m below meth c ls C hH hS hl
  have C : Cx p e s m _ meth c cX9_begin 4 none "WebHost$Requests" G := C
  have hl : lv_has ls 4 [(0, .ref (ga G 9 0)), (1, .ref (ga G 13 o1)), (2, .int x2), (3, .ref (gs G t3))] := hl
  have hx := C.1
  have hb := C.2.1
  have hown := C.2.2.2.2.2.1
  have hts := C.2.2.2.2.2.2.1
  obtain ⟨locs, hlocs⟩ : ∃ z : List Loc, z = [] := ⟨_, rfl⟩
  obtain ⟨H, hHe⟩ : ∃ z : Heap, z = s.heap := ⟨_, rfl⟩
  have hH : Hd G a1 (cmb σ τ) H := by rw [hHe]; exact hH
  have hS : va_S (gA G) s.heap H locs := by rw [hHe, hlocs]; exact hS
  refine W.heap0 hHe.symm hlocs.symm ?_
  refine lv_aload_n hx hb dX9_begin_0 rfl (lv_at hl 1 rfl) ?_
  refine kc_va (rn_v (As := []) (rest := []) C hH hS (by decide) rfl ho1 (m13_clear l G a1 τ σ o1 ho1 _ hw) (cwV 0 hts (lw_V q1262 q1263 q1264 q170 q1265) rfl rfl rfl kX13_clear ⟨Nat.le_of_ble_eq_true rfl, Nat.le_of_ble_eq_true rfl⟩) rfl hl.1 rfl (Nat.le_of_ble_eq_true rfl) dX9_begin_1 ⟨Nat.le_of_ble_eq_true rfl, Nat.le_of_ble_eq_true rfl⟩) hS (fun σ1 a1 H locs hw hH hS => ?_)
  refine W.cs (cells' := 1) (slots' := 66047) rfl rfl ?_
  refine lv_aload_n hx hb dX9_begin_4 rfl (lv_at hl 1 rfl) ?_
  refine str_ldcw (n := 23) C st23 dX9_begin_5 ?_
  refine kc_v (rn_v (As := [.ref (gs G 23)]) (rest := []) C hH hS (by decide) rfl ho1 (m13_say l G a1 τ σ1 o1 23 ho1 (by decide) _ hw) (cwV 1 hts (lw_V q1268 q1269 q1270 q170 q1271) rfl rfl rfl kX13_say ⟨Nat.le_of_ble_eq_true rfl, Nat.le_of_ble_eq_true rfl⟩) rfl hl.1 rfl (Nat.le_of_ble_eq_true rfl) dX9_begin_8 ⟨Nat.le_of_ble_eq_true rfl, Nat.le_of_ble_eq_true rfl⟩) hS (fun σ2 H locs hw hH hS => ?_)
  refine lv_aload_n hx hb dX9_begin_11 rfl (lv_at hl 1 rfl) ?_
  refine lv_iload_n hx hb dX9_begin_12 rfl (lv_at hl 2 rfl) ?_
  refine kc_v (rn_v (As := [.int x2]) (rest := []) C hH hS (by decide) rfl ho1 (m13_number l G a1 τ σ2 o1 x2 ho1 _ hw) (cwV 1 hts (lw_V q1324 q1325 q1326 q170 q1327) rfl rfl rfl kX13_number ⟨Nat.le_of_ble_eq_true rfl, Nat.le_of_ble_eq_true rfl⟩) rfl hl.1 rfl (Nat.le_of_ble_eq_true rfl) dX9_begin_13 ⟨Nat.le_of_ble_eq_true rfl, Nat.le_of_ble_eq_true rfl⟩) hS (fun σ3 H locs hw hH hS => ?_)
  refine lv_aload_n hx hb dX9_begin_16 rfl (lv_at hl 1 rfl) ?_
  refine lv_bipush (v := 32) hx hb dX9_begin_17 (by decide) ?_
  refine kc_v (rn_v (As := [.int 32]) (rest := []) C hH hS (by decide) rfl ho1 (m13_put l G a1 τ σ3 o1 32 ho1 _ hw) (cwV 1 hts (lw_V q1328 q1321 q1322 q170 q1323) rfl rfl rfl kX13_put ⟨Nat.le_of_ble_eq_true rfl, Nat.le_of_ble_eq_true rfl⟩) rfl hl.1 rfl (Nat.le_of_ble_eq_true rfl) dX9_begin_19 ⟨Nat.le_of_ble_eq_true rfl, Nat.le_of_ble_eq_true rfl⟩) hS (fun σ4 H locs hw hH hS => ?_)
  refine lv_aload_n hx hb dX9_begin_22 rfl (lv_at hl 1 rfl) ?_
  refine lv_aload_n hx hb dX9_begin_23 rfl (lv_at hl 3 rfl) ?_
  refine kc_v (rn_v (As := [.ref (gs G t3)]) (rest := []) C hH hS (by decide) rfl ho1 (m13_line l G a1 τ σ4 o1 t3 ho1 ht3 _ hw) (cwV 1 hts (lw_V q1329 q1330 q1331 q170 q1332) rfl rfl rfl kX13_line ⟨Nat.le_of_ble_eq_true rfl, Nat.le_of_ble_eq_true rfl⟩) rfl hl.1 rfl (Nat.le_of_ble_eq_true rfl) dX9_begin_24 ⟨Nat.le_of_ble_eq_true rfl, Nat.le_of_ble_eq_true rfl⟩) hS (fun σ5 H locs hw hH hS => ?_)
  exact rt_va C hH hS hw dX9_begin_27
/-! WebHost$Requests.finish(LWebHost$Answer;Z)V -/
abbrev cX9_finish : ByteArray := prog_11_method_26_code
def yX9_finish : MethodName := ⟨RX9, "finish", "(LWebHost$Answer;Z)V"⟩
theorem dX9_finish_0 : decode cX9_finish 0 = .ok (.iload_n 2, 1) := by decide +kernel
theorem dX9_finish_1 : decode cX9_finish 1 = .ok (.ifCond .eq 10, 3) := by decide +kernel
theorem dX9_finish_4 : decode cX9_finish 4 = .ok (.aload_n 1, 1) := by decide +kernel
theorem dX9_finish_5 : decode cX9_finish 5 = .ok (.ldc_w 275, 3) := by decide +kernel
theorem dX9_finish_8 : decode cX9_finish 8 = .ok (.invokevirtual 272, 3) := by decide +kernel
theorem dX9_finish_11 : decode cX9_finish 11 = .ok (.aload_n 1, 1) := by decide +kernel
theorem dX9_finish_12 : decode cX9_finish 12 = .ok (.ldc_w 277, 3) := by decide +kernel
theorem dX9_finish_15 : decode cX9_finish 15 = .ok (.invokevirtual 272, 3) := by decide +kernel
theorem dX9_finish_18 : decode cX9_finish 18 = .ok (.return_, 1) := by decide +kernel
def rmX9_finish : Room := { frames := 6, cells := 0, slots := 0, locals := 128 }
theorem kX9_finish : yX9_finish.cls = "WebHost$Requests" ∧ yX9_finish.cls ≠ "java/lang/invoke/MethodHandle" ∧ yX9_finish.cls ≠ "java/lang/invoke/VarHandle" ∧ (parseMethodDescriptor yX9_finish.desc).map (fun d => d.parameters.length) = some 2 := by decide +kernel
def w9_finish (σ : St) (o1 : Nat) (x2 : Int32) (Q : St → Prop) : Prop := (x2 = 0 → (w13_line σ o1 25 (fun σ1 => (Q σ1)))) ∧ (¬ x2 = 0 → (w13_line σ o1 24 (fun σ2 => (w13_line σ2 o1 25 (fun σ3 => (Q σ3))))))
set_option maxHeartbeats 4000000 in
theorem m9_finish (l : Launch) (G : Gh) (a1 : Nat → Nat → Nat) (τ : St) (σ : St) (o1 : Nat) (x2 : Int32) (ho1 : o1 < 16) (Q : St → Prop) (hw : w9_finish σ o1 x2 Q) : Met l yX9_finish (ws_ yX9_finish cX9_finish 3 none) rmX9_finish (PcS G a1 (cmb σ τ) [.ref (ga G 9 0), .ref (ga G 13 o1), .int x2]) (QVs G a1 (fun u => cmb u τ) Q) 0 0 (gA G) := by
  refine met_w (by decide) (Nat.le_of_ble_eq_true rfl) ?_
  intro p e s m below meth c ls C hH hS hl
  have C : Cx p e s m _ meth c cX9_finish 3 none "WebHost$Requests" G := C
  have hl : lv_has ls 3 [(0, .ref (ga G 9 0)), (1, .ref (ga G 13 o1)), (2, .int x2)] := hl
  have hx := C.1
  have hb := C.2.1
  have hown := C.2.2.2.2.2.1
  have hts := C.2.2.2.2.2.2.1
  obtain ⟨locs, hlocs⟩ : ∃ z : List Loc, z = [] := ⟨_, rfl⟩
  obtain ⟨H, hHe⟩ : ∃ z : Heap, z = s.heap := ⟨_, rfl⟩
  have hH : Hd G a1 (cmb σ τ) H := by rw [hHe]; exact hH
  have hS : va_S (gA G) s.heap H locs := by rw [hHe, hlocs]; exact hS
  refine W.heap0 hHe.symm hlocs.symm ?_
  refine lv_iload_n hx hb dX9_finish_0 rfl (lv_at hl 2 rfl) ?_
  refine lv_if_eq (tgt := 11) hx hb dX9_finish_1 (by decide) (fun h => ?_) (fun h => ?_)
  · have hw := hw.1 h
    refine lv_aload_n hx hb dX9_finish_11 rfl (lv_at hl 1 rfl) ?_
    refine str_ldcw (n := 25) C st25 dX9_finish_12 ?_
    refine kc_v (rn_v (As := [.ref (gs G 25)]) (rest := []) C hH hS (by decide) rfl ho1 (m13_line l G a1 τ σ o1 25 ho1 (by decide) _ hw) (cwV 1 hts (lw_V q1329 q1330 q1331 q170 q1332) rfl rfl rfl kX13_line ⟨Nat.le_of_ble_eq_true rfl, Nat.le_of_ble_eq_true rfl⟩) rfl hl.1 rfl (Nat.le_of_ble_eq_true rfl) dX9_finish_15 ⟨Nat.le_of_ble_eq_true rfl, Nat.le_of_ble_eq_true rfl⟩) hS (fun σ1 H locs hw hH hS => ?_)
    exact rt_v C hH hS hw dX9_finish_18
  have hw := hw.2 h
  refine lv_aload_n hx hb dX9_finish_4 rfl (lv_at hl 1 rfl) ?_
  refine str_ldcw (n := 24) C st24 dX9_finish_5 ?_
  refine kc_v (rn_v (As := [.ref (gs G 24)]) (rest := []) C hH hS (by decide) rfl ho1 (m13_line l G a1 τ σ o1 24 ho1 (by decide) _ hw) (cwV 1 hts (lw_V q1329 q1330 q1331 q170 q1332) rfl rfl rfl kX13_line ⟨Nat.le_of_ble_eq_true rfl, Nat.le_of_ble_eq_true rfl⟩) rfl hl.1 rfl (Nat.le_of_ble_eq_true rfl) dX9_finish_8 ⟨Nat.le_of_ble_eq_true rfl, Nat.le_of_ble_eq_true rfl⟩) hS (fun σ2 H locs hw hH hS => ?_)
  refine lv_aload_n hx hb dX9_finish_11 rfl (lv_at hl 1 rfl) ?_
  refine str_ldcw (n := 25) C st25 dX9_finish_12 ?_
  refine kc_v (rn_v (As := [.ref (gs G 25)]) (rest := []) C hH hS (by decide) rfl ho1 (m13_line l G a1 τ σ2 o1 25 ho1 (by decide) _ hw) (cwV 1 hts (lw_V q1329 q1330 q1331 q170 q1332) rfl rfl rfl kX13_line ⟨Nat.le_of_ble_eq_true rfl, Nat.le_of_ble_eq_true rfl⟩) rfl hl.1 rfl (Nat.le_of_ble_eq_true rfl) dX9_finish_15 ⟨Nat.le_of_ble_eq_true rfl, Nat.le_of_ble_eq_true rfl⟩) hS (fun σ3 H locs hw hH hS => ?_)
  exact rt_v C hH hS hw dX9_finish_18
/-! WebHost$Requests.length(LWebHost$Answer;I)V -/
abbrev cX9_length : ByteArray := prog_11_method_27_code
def yX9_length : MethodName := ⟨RX9, "length", "(LWebHost$Answer;I)V"⟩
theorem dX9_length_0 : decode cX9_length 0 = .ok (.aload_n 1, 1) := by decide +kernel
theorem dX9_length_1 : decode cX9_length 1 = .ok (.ldc_w 279, 3) := by decide +kernel
theorem dX9_length_4 : decode cX9_length 4 = .ok (.invokevirtual 262, 3) := by decide +kernel
theorem dX9_length_7 : decode cX9_length 7 = .ok (.aload_n 1, 1) := by decide +kernel
theorem dX9_length_8 : decode cX9_length 8 = .ok (.iload_n 2, 1) := by decide +kernel
theorem dX9_length_9 : decode cX9_length 9 = .ok (.invokevirtual 266, 3) := by decide +kernel
theorem dX9_length_12 : decode cX9_length 12 = .ok (.aload_n 1, 1) := by decide +kernel
theorem dX9_length_13 : decode cX9_length 13 = .ok (.ldc_w 277, 3) := by decide +kernel
theorem dX9_length_16 : decode cX9_length 16 = .ok (.invokevirtual 272, 3) := by decide +kernel
theorem dX9_length_19 : decode cX9_length 19 = .ok (.return_, 1) := by decide +kernel
def rmX9_length : Room := { frames := 6, cells := 0, slots := 0, locals := 128 }
theorem kX9_length : yX9_length.cls = "WebHost$Requests" ∧ yX9_length.cls ≠ "java/lang/invoke/MethodHandle" ∧ yX9_length.cls ≠ "java/lang/invoke/VarHandle" ∧ (parseMethodDescriptor yX9_length.desc).map (fun d => d.parameters.length) = some 2 := by decide +kernel
def w9_length (σ : St) (o1 : Nat) (x2 : Int32) (Q : St → Prop) : Prop := w13_say σ o1 26 (fun σ1 => (w13_number σ1 o1 x2 (fun σ2 => (w13_line σ2 o1 25 (fun σ3 => (Q σ3))))))
set_option maxHeartbeats 4000000 in
theorem m9_length (l : Launch) (G : Gh) (a1 : Nat → Nat → Nat) (τ : St) (σ : St) (o1 : Nat) (x2 : Int32) (ho1 : o1 < 16) (Q : St → Prop) (hw : w9_length σ o1 x2 Q) : Met l yX9_length (ws_ yX9_length cX9_length 3 none) rmX9_length (PcS G a1 (cmb σ τ) [.ref (ga G 9 0), .ref (ga G 13 o1), .int x2]) (QVs G a1 (fun u => cmb u τ) Q) 0 0 (gA G) := by
  refine met_w (by decide) (Nat.le_of_ble_eq_true rfl) ?_
  intro p e s m below meth c ls C hH hS hl
  have C : Cx p e s m _ meth c cX9_length 3 none "WebHost$Requests" G := C
  have hl : lv_has ls 3 [(0, .ref (ga G 9 0)), (1, .ref (ga G 13 o1)), (2, .int x2)] := hl
  have hx := C.1
  have hb := C.2.1
  have hown := C.2.2.2.2.2.1
  have hts := C.2.2.2.2.2.2.1
  obtain ⟨locs, hlocs⟩ : ∃ z : List Loc, z = [] := ⟨_, rfl⟩
  obtain ⟨H, hHe⟩ : ∃ z : Heap, z = s.heap := ⟨_, rfl⟩
  have hH : Hd G a1 (cmb σ τ) H := by rw [hHe]; exact hH
  have hS : va_S (gA G) s.heap H locs := by rw [hHe, hlocs]; exact hS
  refine W.heap0 hHe.symm hlocs.symm ?_
  refine lv_aload_n hx hb dX9_length_0 rfl (lv_at hl 1 rfl) ?_
  refine str_ldcw (n := 26) C st26 dX9_length_1 ?_
  refine kc_v (rn_v (As := [.ref (gs G 26)]) (rest := []) C hH hS (by decide) rfl ho1 (m13_say l G a1 τ σ o1 26 ho1 (by decide) _ hw) (cwV 1 hts (lw_V q1268 q1269 q1270 q170 q1271) rfl rfl rfl kX13_say ⟨Nat.le_of_ble_eq_true rfl, Nat.le_of_ble_eq_true rfl⟩) rfl hl.1 rfl (Nat.le_of_ble_eq_true rfl) dX9_length_4 ⟨Nat.le_of_ble_eq_true rfl, Nat.le_of_ble_eq_true rfl⟩) hS (fun σ1 H locs hw hH hS => ?_)
  refine lv_aload_n hx hb dX9_length_7 rfl (lv_at hl 1 rfl) ?_
  refine lv_iload_n hx hb dX9_length_8 rfl (lv_at hl 2 rfl) ?_
  refine kc_v (rn_v (As := [.int x2]) (rest := []) C hH hS (by decide) rfl ho1 (m13_number l G a1 τ σ1 o1 x2 ho1 _ hw) (cwV 1 hts (lw_V q1324 q1325 q1326 q170 q1327) rfl rfl rfl kX13_number ⟨Nat.le_of_ble_eq_true rfl, Nat.le_of_ble_eq_true rfl⟩) rfl hl.1 rfl (Nat.le_of_ble_eq_true rfl) dX9_length_9 ⟨Nat.le_of_ble_eq_true rfl, Nat.le_of_ble_eq_true rfl⟩) hS (fun σ2 H locs hw hH hS => ?_)
  refine lv_aload_n hx hb dX9_length_12 rfl (lv_at hl 1 rfl) ?_
  refine str_ldcw (n := 25) C st25 dX9_length_13 ?_
  refine kc_v (rn_v (As := [.ref (gs G 25)]) (rest := []) C hH hS (by decide) rfl ho1 (m13_line l G a1 τ σ2 o1 25 ho1 (by decide) _ hw) (cwV 1 hts (lw_V q1329 q1330 q1331 q170 q1332) rfl rfl rfl kX13_line ⟨Nat.le_of_ble_eq_true rfl, Nat.le_of_ble_eq_true rfl⟩) rfl hl.1 rfl (Nat.le_of_ble_eq_true rfl) dX9_length_16 ⟨Nat.le_of_ble_eq_true rfl, Nat.le_of_ble_eq_true rfl⟩) hS (fun σ3 H locs hw hH hS => ?_)
  exact rt_v C hH hS hw dX9_length_19
/-! WebHost$Requests.mark(LWebHost$Answer;I)V -/
abbrev cX9_mark : ByteArray := prog_11_method_29_code
def yX9_mark : MethodName := ⟨RX9, "mark", "(LWebHost$Answer;I)V"⟩
theorem dX9_mark_0 : decode cX9_mark 0 = .ok (.aload_n 1, 1) := by decide +kernel
theorem dX9_mark_1 : decode cX9_mark 1 = .ok (.ldc_w 296, 3) := by decide +kernel
theorem dX9_mark_4 : decode cX9_mark 4 = .ok (.invokevirtual 262, 3) := by decide +kernel
theorem dX9_mark_7 : decode cX9_mark 7 = .ok (.aload_n 1, 1) := by decide +kernel
theorem dX9_mark_8 : decode cX9_mark 8 = .ok (.aload_n 0, 1) := by decide +kernel
theorem dX9_mark_9 : decode cX9_mark 9 = .ok (.getfield 18, 3) := by decide +kernel
theorem dX9_mark_12 : decode cX9_mark 12 = .ok (.iload_n 2, 1) := by decide +kernel
theorem dX9_mark_13 : decode cX9_mark 13 = .ok (.invokevirtual 250, 3) := by decide +kernel
theorem dX9_mark_16 : decode cX9_mark 16 = .ok (.invokevirtual 298, 3) := by decide +kernel
theorem dX9_mark_19 : decode cX9_mark 19 = .ok (.aload_n 1, 1) := by decide +kernel
theorem dX9_mark_20 : decode cX9_mark 20 = .ok (.ldc_w 277, 3) := by decide +kernel
theorem dX9_mark_23 : decode cX9_mark 23 = .ok (.invokevirtual 272, 3) := by decide +kernel
theorem dX9_mark_26 : decode cX9_mark 26 = .ok (.return_, 1) := by decide +kernel
def rmX9_mark : Room := { frames := 6, cells := 0, slots := 0, locals := 128 }
theorem kX9_mark : yX9_mark.cls = "WebHost$Requests" ∧ yX9_mark.cls ≠ "java/lang/invoke/MethodHandle" ∧ yX9_mark.cls ≠ "java/lang/invoke/VarHandle" ∧ (parseMethodDescriptor yX9_mark.desc).map (fun d => d.parameters.length) = some 2 := by decide +kernel
def w9_mark (σ : St) (o1 : Nat) (x2 : Int32) (Q : St → Prop) : Prop := w13_say σ o1 29 (fun σ1 => (w1_mark σ1 x2 (fun r2 => (w13_mark σ1 o1 r2 (fun σ3 => (w13_line σ3 o1 25 (fun σ4 => (Q σ4))))))))
set_option maxHeartbeats 4000000 in
theorem m9_mark (l : Launch) (G : Gh) (a1 : Nat → Nat → Nat) (τ : St) (σ : St) (o1 : Nat) (x2 : Int32) (ho1 : o1 < 16) (Q : St → Prop) (hw : w9_mark σ o1 x2 Q) : Met l yX9_mark (ws_ yX9_mark cX9_mark 3 none) rmX9_mark (PcS G a1 (cmb σ τ) [.ref (ga G 9 0), .ref (ga G 13 o1), .int x2]) (QVs G a1 (fun u => cmb u τ) Q) 0 0 (gA G) := by
  refine met_w (by decide) (Nat.le_of_ble_eq_true rfl) ?_
  intro p e s m below meth c ls C hH hS hl
  have C : Cx p e s m _ meth c cX9_mark 3 none "WebHost$Requests" G := C
  have hl : lv_has ls 3 [(0, .ref (ga G 9 0)), (1, .ref (ga G 13 o1)), (2, .int x2)] := hl
  have hx := C.1
  have hb := C.2.1
  have hown := C.2.2.2.2.2.1
  have hts := C.2.2.2.2.2.2.1
  obtain ⟨locs, hlocs⟩ : ∃ z : List Loc, z = [] := ⟨_, rfl⟩
  obtain ⟨H, hHe⟩ : ∃ z : Heap, z = s.heap := ⟨_, rfl⟩
  have hH : Hd G a1 (cmb σ τ) H := by rw [hHe]; exact hH
  have hS : va_S (gA G) s.heap H locs := by rw [hHe, hlocs]; exact hS
  refine W.heap0 hHe.symm hlocs.symm ?_
  refine lv_aload_n hx hb dX9_mark_0 rfl (lv_at hl 1 rfl) ?_
  refine str_ldcw (n := 29) C st29 dX9_mark_1 ?_
  refine kc_v (rn_v (As := [.ref (gs G 29)]) (rest := []) C hH hS (by decide) rfl ho1 (m13_say l G a1 τ σ o1 29 ho1 (by decide) _ hw) (cwV 1 hts (lw_V q1268 q1269 q1270 q170 q1271) rfl rfl rfl kX13_say ⟨Nat.le_of_ble_eq_true rfl, Nat.le_of_ble_eq_true rfl⟩) rfl hl.1 rfl (Nat.le_of_ble_eq_true rfl) dX9_mark_4 ⟨Nat.le_of_ble_eq_true rfl, Nat.le_of_ble_eq_true rfl⟩) hS (fun σ1 H locs hw hH hS => ?_)
  refine lv_aload_n hx hb dX9_mark_7 rfl (lv_at hl 1 rfl) ?_
  refine lv_aload_n hx hb dX9_mark_8 rfl (lv_at hl 0 rfl) ?_
  refine g9_0 C hH q448 dX9_mark_9 ?_
  refine lv_iload_n hx hb dX9_mark_12 rfl (lv_at hl 2 rfl) ?_
  refine kc_ip (rn_vp (As := [.int x2]) (rest := [.ref (ga G 13 o1)]) C hH hS (by decide) rfl (by decide) (m1_mark l G a1 τ σ1 H x2 _ hw) (cwV 1 hts (lw_V q1518 q1509 q1510 q158 q1511) rfl rfl rfl kX1_mark ⟨Nat.le_of_ble_eq_true rfl, Nat.le_of_ble_eq_true rfl⟩) rfl hl.1 rfl (Nat.le_of_ble_eq_true rfl) dX9_mark_13 ⟨Nat.le_of_ble_eq_true rfl, Nat.le_of_ble_eq_true rfl⟩) hS (fun r2 locs hw hS => ?_)
  refine kc_v (rn_v (As := [.int r2]) (rest := []) C hH hS (by decide) rfl ho1 (m13_mark l G a1 τ σ1 o1 r2 ho1 _ hw) (cwV 1 hts (lw_V q1530 q1531 q1532 q170 q1533) rfl rfl rfl kX13_mark ⟨Nat.le_of_ble_eq_true rfl, Nat.le_of_ble_eq_true rfl⟩) rfl hl.1 rfl (Nat.le_of_ble_eq_true rfl) dX9_mark_16 ⟨Nat.le_of_ble_eq_true rfl, Nat.le_of_ble_eq_true rfl⟩) hS (fun σ3 H locs hw hH hS => ?_)
  refine lv_aload_n hx hb dX9_mark_19 rfl (lv_at hl 1 rfl) ?_
  refine str_ldcw (n := 25) C st25 dX9_mark_20 ?_
  refine kc_v (rn_v (As := [.ref (gs G 25)]) (rest := []) C hH hS (by decide) rfl ho1 (m13_line l G a1 τ σ3 o1 25 ho1 (by decide) _ hw) (cwV 1 hts (lw_V q1329 q1330 q1331 q170 q1332) rfl rfl rfl kX13_line ⟨Nat.le_of_ble_eq_true rfl, Nat.le_of_ble_eq_true rfl⟩) rfl hl.1 rfl (Nat.le_of_ble_eq_true rfl) dX9_mark_23 ⟨Nat.le_of_ble_eq_true rfl, Nat.le_of_ble_eq_true rfl⟩) hS (fun σ4 H locs hw hH hS => ?_)
  exact rt_v C hH hS hw dX9_mark_26
/-! WebHost$Requests.take(IIII)V -/
abbrev cX9_take : ByteArray := prog_11_method_14_code
def yX9_take : MethodName := ⟨RX9, "take", "(IIII)V"⟩
theorem dX9_take_0 : decode cX9_take 0 = .ok (.aload_n 0, 1) := by decide +kernel
theorem dX9_take_1 : decode cX9_take 1 = .ok (.iload_n 1, 1) := by decide +kernel
theorem dX9_take_2 : decode cX9_take 2 = .ok (.iload_n 2, 1) := by decide +kernel
theorem dX9_take_3 : decode cX9_take 3 = .ok (.ldc 110, 2) := by decide +kernel
theorem dX9_take_5 : decode cX9_take 5 = .ok (.invokevirtual 112, 3) := by decide +kernel
theorem dX9_take_8 : decode cX9_take 8 = .ok (.ifCond .eq 16, 3) := by decide +kernel
theorem dX9_take_11 : decode cX9_take 11 = .ok (.aload_n 0, 1) := by decide +kernel
theorem dX9_take_12 : decode cX9_take 12 = .ok (.dup, 1) := by decide +kernel
theorem dX9_take_13 : decode cX9_take 13 = .ok (.getfield 115, 3) := by decide +kernel
theorem dX9_take_16 : decode cX9_take 16 = .ok (.iconst 1, 1) := by decide +kernel
theorem dX9_take_17 : decode cX9_take 17 = .ok (.iadd, 1) := by decide +kernel
theorem dX9_take_18 : decode cX9_take 18 = .ok (.putfield 115, 3) := by decide +kernel
theorem dX9_take_21 : decode cX9_take 21 = .ok (.goto 96, 3) := by decide +kernel
theorem dX9_take_24 : decode cX9_take 24 = .ok (.aload_n 0, 1) := by decide +kernel
theorem dX9_take_25 : decode cX9_take 25 = .ok (.iload_n 1, 1) := by decide +kernel
theorem dX9_take_26 : decode cX9_take 26 = .ok (.iload_n 2, 1) := by decide +kernel
theorem dX9_take_27 : decode cX9_take 27 = .ok (.ldc 118, 2) := by decide +kernel
theorem dX9_take_29 : decode cX9_take 29 = .ok (.invokevirtual 112, 3) := by decide +kernel
theorem dX9_take_32 : decode cX9_take 32 = .ok (.ifCond .eq 11, 3) := by decide +kernel
theorem dX9_take_35 : decode cX9_take 35 = .ok (.aload_n 0, 1) := by decide +kernel
theorem dX9_take_36 : decode cX9_take 36 = .ok (.iconst 1, 1) := by decide +kernel
theorem dX9_take_37 : decode cX9_take 37 = .ok (.putfield 120, 3) := by decide +kernel
theorem dX9_take_40 : decode cX9_take 40 = .ok (.goto 77, 3) := by decide +kernel
theorem dX9_take_43 : decode cX9_take 43 = .ok (.aload_n 0, 1) := by decide +kernel
theorem dX9_take_44 : decode cX9_take 44 = .ok (.iload_n 1, 1) := by decide +kernel
theorem dX9_take_45 : decode cX9_take 45 = .ok (.iload_n 2, 1) := by decide +kernel
theorem dX9_take_46 : decode cX9_take 46 = .ok (.ldc 123, 2) := by decide +kernel
theorem dX9_take_48 : decode cX9_take 48 = .ok (.invokevirtual 112, 3) := by decide +kernel
theorem dX9_take_51 : decode cX9_take 51 = .ok (.ifCond .eq 13, 3) := by decide +kernel
theorem dX9_take_54 : decode cX9_take 54 = .ok (.aload_n 0, 1) := by decide +kernel
theorem dX9_take_55 : decode cX9_take 55 = .ok (.iload_n 3, 1) := by decide +kernel
theorem dX9_take_56 : decode cX9_take 56 = .ok (.iload 4, 2) := by decide +kernel
theorem dX9_take_58 : decode cX9_take 58 = .ok (.invokevirtual 125, 3) := by decide +kernel
theorem dX9_take_61 : decode cX9_take 61 = .ok (.goto 56, 3) := by decide +kernel
theorem dX9_take_64 : decode cX9_take 64 = .ok (.aload_n 0, 1) := by decide +kernel
theorem dX9_take_65 : decode cX9_take 65 = .ok (.iload_n 1, 1) := by decide +kernel
theorem dX9_take_66 : decode cX9_take 66 = .ok (.iload_n 2, 1) := by decide +kernel
theorem dX9_take_67 : decode cX9_take 67 = .ok (.ldc 128, 2) := by decide +kernel
theorem dX9_take_69 : decode cX9_take 69 = .ok (.invokevirtual 112, 3) := by decide +kernel
theorem dX9_take_72 : decode cX9_take 72 = .ok (.ifCond .eq 13, 3) := by decide +kernel
theorem dX9_take_75 : decode cX9_take 75 = .ok (.aload_n 0, 1) := by decide +kernel
theorem dX9_take_76 : decode cX9_take 76 = .ok (.iload_n 3, 1) := by decide +kernel
theorem dX9_take_77 : decode cX9_take 77 = .ok (.iload 4, 2) := by decide +kernel
theorem dX9_take_79 : decode cX9_take 79 = .ok (.invokevirtual 130, 3) := by decide +kernel
theorem dX9_take_82 : decode cX9_take 82 = .ok (.goto 35, 3) := by decide +kernel
theorem dX9_take_85 : decode cX9_take 85 = .ok (.aload_n 0, 1) := by decide +kernel
theorem dX9_take_86 : decode cX9_take 86 = .ok (.iload_n 1, 1) := by decide +kernel
theorem dX9_take_87 : decode cX9_take 87 = .ok (.iload_n 2, 1) := by decide +kernel
theorem dX9_take_88 : decode cX9_take 88 = .ok (.ldc 133, 2) := by decide +kernel
theorem dX9_take_90 : decode cX9_take 90 = .ok (.invokevirtual 112, 3) := by decide +kernel
theorem dX9_take_93 : decode cX9_take 93 = .ok (.ifCond .eq 24, 3) := by decide +kernel
theorem dX9_take_96 : decode cX9_take 96 = .ok (.aload_n 0, 1) := by decide +kernel
theorem dX9_take_97 : decode cX9_take 97 = .ok (.dup, 1) := by decide +kernel
theorem dX9_take_98 : decode cX9_take 98 = .ok (.getfield 135, 3) := by decide +kernel
theorem dX9_take_101 : decode cX9_take 101 = .ok (.iconst 1, 1) := by decide +kernel
theorem dX9_take_102 : decode cX9_take 102 = .ok (.iadd, 1) := by decide +kernel
theorem dX9_take_103 : decode cX9_take 103 = .ok (.putfield 135, 3) := by decide +kernel
theorem dX9_take_106 : decode cX9_take 106 = .ok (.aload_n 0, 1) := by decide +kernel
theorem dX9_take_107 : decode cX9_take 107 = .ok (.iload_n 3, 1) := by decide +kernel
theorem dX9_take_108 : decode cX9_take 108 = .ok (.putfield 138, 3) := by decide +kernel
theorem dX9_take_111 : decode cX9_take 111 = .ok (.aload_n 0, 1) := by decide +kernel
theorem dX9_take_112 : decode cX9_take 112 = .ok (.iload 4, 2) := by decide +kernel
theorem dX9_take_114 : decode cX9_take 114 = .ok (.putfield 141, 3) := by decide +kernel
theorem dX9_take_117 : decode cX9_take 117 = .ok (.return_, 1) := by decide +kernel
def rmX9_take : Room := { frames := 6, cells := 0, slots := 0, locals := 133 }
theorem kX9_take : yX9_take.cls = "WebHost$Requests" ∧ yX9_take.cls ≠ "java/lang/invoke/MethodHandle" ∧ yX9_take.cls ≠ "java/lang/invoke/VarHandle" ∧ (parseMethodDescriptor yX9_take.desc).map (fun d => d.parameters.length) = some 4 := by decide +kernel
def w9_take (σ : St) (x1 : Int32) (x2 : Int32) (x3 : Int32) (x4 : Int32) (Q : St → Prop) : Prop := w9_is σ x1 x2 5 (fun r1 => ((r1 = 0 → (w9_is σ x1 x2 6 (fun r2 => ((r2 = 0 → (w9_is σ x1 x2 7 (fun r3 => ((r3 = 0 → (w9_is σ x1 x2 8 (fun r4 => ((r4 = 0 → (w9_is σ x1 x2 9 (fun r5 => ((r5 = 0 → Q σ) ∧ (¬ r5 = 0 → (∀ σ6, σ6 = up3 σ 9 0 10 ((σ 9 0 10) + 1) → (∀ σ7, σ7 = up3 σ6 9 0 11 x3 → (∀ σ8, σ8 = up3 σ7 9 0 12 x4 → (Q σ8))))))))) ∧ (¬ r4 = 0 → (w9_words σ x3 x4 (fun σ9 => (Q σ9)))))))) ∧ (¬ r3 = 0 → (w9_length_2 σ x3 x4 (fun σ10 => (Q σ10)))))))) ∧ (¬ r2 = 0 → (∀ σ11, σ11 = up3 σ 9 0 14 1 → (Q σ11))))))) ∧ (¬ r1 = 0 → (∀ σ12, σ12 = up3 σ 9 0 7 ((σ 9 0 7) + 1) → (Q σ12)))))
set_option maxHeartbeats 4000000 in
theorem m9_take (l : Launch) (G : Gh) (a1 : Nat → Nat → Nat) (τ : St) (σ : St) (x1 : Int32) (x2 : Int32) (x3 : Int32) (x4 : Int32) (Q : St → Prop) (hw : w9_take σ x1 x2 x3 x4 Q) : Met l yX9_take (ws_ yX9_take cX9_take 5 none) rmX9_take (PcS G a1 (cmb σ τ) [.ref (ga G 9 0), .int x1, .int x2, .int x3, .int x4]) (QVs G a1 (fun u => cmb u τ) Q) 0 0 (gA G) := by
  refine met_w (by decide) (Nat.le_of_ble_eq_true rfl) ?_
  intro p e s m below meth c ls C hH hS hl
  have C : Cx p e s m _ meth c cX9_take 5 none "WebHost$Requests" G := C
  have hl : lv_has ls 5 [(0, .ref (ga G 9 0)), (1, .int x1), (2, .int x2), (3, .int x3), (4, .int x4)] := hl
  have hx := C.1
  have hb := C.2.1
  have hown := C.2.2.2.2.2.1
  have hts := C.2.2.2.2.2.2.1
  obtain ⟨locs, hlocs⟩ : ∃ z : List Loc, z = [] := ⟨_, rfl⟩
  obtain ⟨H, hHe⟩ : ∃ z : Heap, z = s.heap := ⟨_, rfl⟩
  have hH : Hd G a1 (cmb σ τ) H := by rw [hHe]; exact hH
  have hS : va_S (gA G) s.heap H locs := by rw [hHe, hlocs]; exact hS
  refine W.heap0 hHe.symm hlocs.symm ?_
  refine lv_aload_n hx hb dX9_take_0 rfl (lv_at hl 0 rfl) ?_
  refine lv_iload_n hx hb dX9_take_1 rfl (lv_at hl 1 rfl) ?_
  refine lv_iload_n hx hb dX9_take_2 rfl (lv_at hl 2 rfl) ?_
  refine str_ldc (n := 5) C st5 dX9_take_3 ?_
  refine kc_ip (rn_vp (As := [.int x1, .int x2, .ref (gs G 5)]) (rest := []) C hH hS (by decide) rfl (by decide) (m9_is l G a1 τ σ H x1 x2 5 (by decide) _ hw) (cwV 3 hts (lw_V q1456 q1458 qs61 q166 q1459) rfl rfl rfl kX9_is ⟨Nat.le_of_ble_eq_true rfl, Nat.le_of_ble_eq_true rfl⟩) rfl hl.1 rfl (Nat.le_of_ble_eq_true rfl) dX9_take_5 ⟨Nat.le_of_ble_eq_true rfl, Nat.le_of_ble_eq_true rfl⟩) hS (fun r1 locs hw hS => ?_)
  refine lv_if_eq (tgt := 24) hx hb dX9_take_8 (by decide) (fun h => ?_) (fun h => ?_)
  · have hw := hw.1 h
    refine lv_aload_n hx hb dX9_take_24 rfl (lv_at hl 0 rfl) ?_
    refine lv_iload_n hx hb dX9_take_25 rfl (lv_at hl 1 rfl) ?_
    refine lv_iload_n hx hb dX9_take_26 rfl (lv_at hl 2 rfl) ?_
    refine str_ldc (n := 6) C st6 dX9_take_27 ?_
    refine kc_ip (rn_vp (As := [.int x1, .int x2, .ref (gs G 6)]) (rest := []) C hH hS (by decide) rfl (by decide) (m9_is l G a1 τ σ H x1 x2 6 (by decide) _ hw) (cwV 3 hts (lw_V q1456 q1458 qs61 q166 q1459) rfl rfl rfl kX9_is ⟨Nat.le_of_ble_eq_true rfl, Nat.le_of_ble_eq_true rfl⟩) rfl hl.1 rfl (Nat.le_of_ble_eq_true rfl) dX9_take_29 ⟨Nat.le_of_ble_eq_true rfl, Nat.le_of_ble_eq_true rfl⟩) hS (fun r2 locs hw hS => ?_)
    refine lv_if_eq (tgt := 43) hx hb dX9_take_32 (by decide) (fun h => ?_) (fun h => ?_)
    · have hw := hw.1 h
      refine lv_aload_n hx hb dX9_take_43 rfl (lv_at hl 0 rfl) ?_
      refine lv_iload_n hx hb dX9_take_44 rfl (lv_at hl 1 rfl) ?_
      refine lv_iload_n hx hb dX9_take_45 rfl (lv_at hl 2 rfl) ?_
      refine str_ldc (n := 7) C st7 dX9_take_46 ?_
      refine kc_ip (rn_vp (As := [.int x1, .int x2, .ref (gs G 7)]) (rest := []) C hH hS (by decide) rfl (by decide) (m9_is l G a1 τ σ H x1 x2 7 (by decide) _ hw) (cwV 3 hts (lw_V q1456 q1458 qs61 q166 q1459) rfl rfl rfl kX9_is ⟨Nat.le_of_ble_eq_true rfl, Nat.le_of_ble_eq_true rfl⟩) rfl hl.1 rfl (Nat.le_of_ble_eq_true rfl) dX9_take_48 ⟨Nat.le_of_ble_eq_true rfl, Nat.le_of_ble_eq_true rfl⟩) hS (fun r3 locs hw hS => ?_)
      refine lv_if_eq (tgt := 64) hx hb dX9_take_51 (by decide) (fun h => ?_) (fun h => ?_)
      · have hw := hw.1 h
        refine lv_aload_n hx hb dX9_take_64 rfl (lv_at hl 0 rfl) ?_
        refine lv_iload_n hx hb dX9_take_65 rfl (lv_at hl 1 rfl) ?_
        refine lv_iload_n hx hb dX9_take_66 rfl (lv_at hl 2 rfl) ?_
        refine str_ldc (n := 8) C st8 dX9_take_67 ?_
        refine kc_ip (rn_vp (As := [.int x1, .int x2, .ref (gs G 8)]) (rest := []) C hH hS (by decide) rfl (by decide) (m9_is l G a1 τ σ H x1 x2 8 (by decide) _ hw) (cwV 3 hts (lw_V q1456 q1458 qs61 q166 q1459) rfl rfl rfl kX9_is ⟨Nat.le_of_ble_eq_true rfl, Nat.le_of_ble_eq_true rfl⟩) rfl hl.1 rfl (Nat.le_of_ble_eq_true rfl) dX9_take_69 ⟨Nat.le_of_ble_eq_true rfl, Nat.le_of_ble_eq_true rfl⟩) hS (fun r4 locs hw hS => ?_)
        refine lv_if_eq (tgt := 85) hx hb dX9_take_72 (by decide) (fun h => ?_) (fun h => ?_)
        · have hw := hw.1 h
          refine lv_aload_n hx hb dX9_take_85 rfl (lv_at hl 0 rfl) ?_
          refine lv_iload_n hx hb dX9_take_86 rfl (lv_at hl 1 rfl) ?_
          refine lv_iload_n hx hb dX9_take_87 rfl (lv_at hl 2 rfl) ?_
          refine str_ldc (n := 9) C st9 dX9_take_88 ?_
          refine kc_ip (rn_vp (As := [.int x1, .int x2, .ref (gs G 9)]) (rest := []) C hH hS (by decide) rfl (by decide) (m9_is l G a1 τ σ H x1 x2 9 (by decide) _ hw) (cwV 3 hts (lw_V q1456 q1458 qs61 q166 q1459) rfl rfl rfl kX9_is ⟨Nat.le_of_ble_eq_true rfl, Nat.le_of_ble_eq_true rfl⟩) rfl hl.1 rfl (Nat.le_of_ble_eq_true rfl) dX9_take_90 ⟨Nat.le_of_ble_eq_true rfl, Nat.le_of_ble_eq_true rfl⟩) hS (fun r5 locs hw hS => ?_)
          refine lv_if_eq (tgt := 117) hx hb dX9_take_93 (by decide) (fun h => ?_) (fun h => ?_)
          · have hw := hw.1 h
            exact rt_v C hH hS hw dX9_take_117
          have hw := hw.2 h
          refine lv_aload_n hx hb dX9_take_96 rfl (lv_at hl 0 rfl) ?_
          refine lv_dup hx hb dX9_take_97 rfl ?_
          refine g9_10 C hH q458 dX9_take_98 ?_
          refine lv_iconst (v := 1) hx hb dX9_take_101 (by decide) ?_
          refine lv_iadd hx hb dX9_take_102 ?_
          refine p9_10 C hH hS q458 dX9_take_103 (fun σ6 e6 H locs hH hS => ?_)
          have hw := hw σ6 e6
          refine lv_aload_n hx hb dX9_take_106 rfl (lv_at hl 0 rfl) ?_
          refine lv_iload_n hx hb dX9_take_107 rfl (lv_at hl 3 rfl) ?_
          refine p9_11 C hH hS q459 dX9_take_108 (fun σ7 e7 H locs hH hS => ?_)
          have hw := hw σ7 e7
          refine lv_aload_n hx hb dX9_take_111 rfl (lv_at hl 0 rfl) ?_
          refine lv_iload hx hb dX9_take_112 (lv_at hl 4 rfl) ?_
          refine p9_12 C hH hS q460 dX9_take_114 (fun σ8 e8 H locs hH hS => ?_)
          have hw := hw σ8 e8
          exact rt_v C hH hS hw dX9_take_117
        have hw := hw.2 h
        refine lv_aload_n hx hb dX9_take_75 rfl (lv_at hl 0 rfl) ?_
        refine lv_iload_n hx hb dX9_take_76 rfl (lv_at hl 3 rfl) ?_
        refine lv_iload hx hb dX9_take_77 (lv_at hl 4 rfl) ?_
        refine kc_v (rn_v (As := [.int x3, .int x4]) (rest := []) C hH hS (by decide) rfl (by decide) (m9_words l G a1 τ σ x3 x4 _ hw) (cwV 2 hts (lw_V q1470 q1472 qs63 q166 q1473) rfl rfl rfl kX9_words ⟨Nat.le_of_ble_eq_true rfl, Nat.le_of_ble_eq_true rfl⟩) rfl hl.1 rfl (Nat.le_of_ble_eq_true rfl) dX9_take_79 ⟨Nat.le_of_ble_eq_true rfl, Nat.le_of_ble_eq_true rfl⟩) hS (fun σ9 H locs hw hH hS => ?_)
        refine lv_goto (tgt := 117) hx hb dX9_take_82 (by decide) ?_
        exact rt_v C hH hS hw dX9_take_117
      have hw := hw.2 h
      refine lv_aload_n hx hb dX9_take_54 rfl (lv_at hl 0 rfl) ?_
      refine lv_iload_n hx hb dX9_take_55 rfl (lv_at hl 3 rfl) ?_
      refine lv_iload hx hb dX9_take_56 (lv_at hl 4 rfl) ?_
      refine kc_v (rn_v (As := [.int x3, .int x4]) (rest := []) C hH hS (by decide) rfl (by decide) (m9_length_2 l G a1 τ σ x3 x4 _ hw) (cwV 2 hts (lw_V q1465 q1467 qs62 q166 q1468) rfl rfl rfl kX9_length_2 ⟨Nat.le_of_ble_eq_true rfl, Nat.le_of_ble_eq_true rfl⟩) rfl hl.1 rfl (Nat.le_of_ble_eq_true rfl) dX9_take_58 ⟨Nat.le_of_ble_eq_true rfl, Nat.le_of_ble_eq_true rfl⟩) hS (fun σ10 H locs hw hH hS => ?_)
      refine lv_goto (tgt := 117) hx hb dX9_take_61 (by decide) ?_
      exact rt_v C hH hS hw dX9_take_117
    have hw := hw.2 h
    refine lv_aload_n hx hb dX9_take_35 rfl (lv_at hl 0 rfl) ?_
    refine lv_iconst (v := 1) hx hb dX9_take_36 (by decide) ?_
    refine p9_14 C hH hS (Or.inr rfl) q462 dX9_take_37 (fun σ11 e11 H locs hH hS => ?_)
    have hw := hw σ11 e11
    refine lv_goto (tgt := 117) hx hb dX9_take_40 (by decide) ?_
    exact rt_v C hH hS hw dX9_take_117
  have hw := hw.2 h
  refine lv_aload_n hx hb dX9_take_11 rfl (lv_at hl 0 rfl) ?_
  refine lv_dup hx hb dX9_take_12 rfl ?_
  refine g9_7 C hH q455 dX9_take_13 ?_
  refine lv_iconst (v := 1) hx hb dX9_take_16 (by decide) ?_
  refine lv_iadd hx hb dX9_take_17 ?_
  refine p9_7 C hH hS q455 dX9_take_18 (fun σ12 e12 H locs hH hS => ?_)
  have hw := hw σ12 e12
  refine lv_goto (tgt := 117) hx hb dX9_take_21 (by decide) ?_
  exact rt_v C hH hS hw dX9_take_117
/-! WebHostModel.chosen()I -/
abbrev cX14_chosen : ByteArray := prog_17_method_95_code
def yX14_chosen : MethodName := ⟨RX14, "chosen", "()I"⟩
theorem dX14_chosen_0 : decode cX14_chosen 0 = .ok (.aload_n 0, 1) := by decide +kernel
theorem dX14_chosen_1 : decode cX14_chosen 1 = .ok (.getfield 654, 3) := by decide +kernel
theorem dX14_chosen_4 : decode cX14_chosen 4 = .ok (.iconst 1, 1) := by decide +kernel
theorem dX14_chosen_5 : decode cX14_chosen 5 = .ok (.if_icmp .gt 17, 3) := by decide +kernel
theorem dX14_chosen_8 : decode cX14_chosen 8 = .ok (.aload_n 0, 1) := by decide +kernel
theorem dX14_chosen_9 : decode cX14_chosen 9 = .ok (.getfield 645, 3) := by decide +kernel
theorem dX14_chosen_12 : decode cX14_chosen 12 = .ok (.ifCond .ne 20, 3) := by decide +kernel
theorem dX14_chosen_15 : decode cX14_chosen 15 = .ok (.aload_n 0, 1) := by decide +kernel
theorem dX14_chosen_16 : decode cX14_chosen 16 = .ok (.getfield 654, 3) := by decide +kernel
theorem dX14_chosen_19 : decode cX14_chosen 19 = .ok (.ifCond .ne 13, 3) := by decide +kernel
theorem dX14_chosen_22 : decode cX14_chosen 22 = .ok (.aload_n 0, 1) := by decide +kernel
theorem dX14_chosen_23 : decode cX14_chosen 23 = .ok (.sipush 400, 3) := by decide +kernel
theorem dX14_chosen_26 : decode cX14_chosen 26 = .ok (.putfield 637, 3) := by decide +kernel
theorem dX14_chosen_29 : decode cX14_chosen 29 = .ok (.goto 93, 3) := by decide +kernel
theorem dX14_chosen_32 : decode cX14_chosen 32 = .ok (.aload_n 0, 1) := by decide +kernel
theorem dX14_chosen_33 : decode cX14_chosen 33 = .ok (.getfield 672, 3) := by decide +kernel
theorem dX14_chosen_36 : decode cX14_chosen 36 = .ok (.ifCond .eq 13, 3) := by decide +kernel
theorem dX14_chosen_39 : decode cX14_chosen 39 = .ok (.aload_n 0, 1) := by decide +kernel
theorem dX14_chosen_40 : decode cX14_chosen 40 = .ok (.sipush 501, 3) := by decide +kernel
theorem dX14_chosen_43 : decode cX14_chosen 43 = .ok (.putfield 637, 3) := by decide +kernel
theorem dX14_chosen_46 : decode cX14_chosen 46 = .ok (.goto 76, 3) := by decide +kernel
theorem dX14_chosen_49 : decode cX14_chosen 49 = .ok (.aload_n 0, 1) := by decide +kernel
theorem dX14_chosen_50 : decode cX14_chosen 50 = .ok (.getfield 657, 3) := by decide +kernel
theorem dX14_chosen_53 : decode cX14_chosen 53 = .ok (.iconst 1, 1) := by decide +kernel
theorem dX14_chosen_54 : decode cX14_chosen 54 = .ok (.if_icmp .gt 10, 3) := by decide +kernel
theorem dX14_chosen_57 : decode cX14_chosen 57 = .ok (.aload_n 0, 1) := by decide +kernel
theorem dX14_chosen_58 : decode cX14_chosen 58 = .ok (.getfield 666, 3) := by decide +kernel
theorem dX14_chosen_61 : decode cX14_chosen 61 = .ok (.ifCond .eq 13, 3) := by decide +kernel
theorem dX14_chosen_64 : decode cX14_chosen 64 = .ok (.aload_n 0, 1) := by decide +kernel
theorem dX14_chosen_65 : decode cX14_chosen 65 = .ok (.sipush 400, 3) := by decide +kernel
theorem dX14_chosen_68 : decode cX14_chosen 68 = .ok (.putfield 637, 3) := by decide +kernel
theorem dX14_chosen_71 : decode cX14_chosen 71 = .ok (.goto 51, 3) := by decide +kernel
theorem dX14_chosen_74 : decode cX14_chosen 74 = .ok (.aload_n 0, 1) := by decide +kernel
theorem dX14_chosen_75 : decode cX14_chosen 75 = .ok (.getfield 669, 3) := by decide +kernel
theorem dX14_chosen_78 : decode cX14_chosen 78 = .ok (.ifCond .eq 13, 3) := by decide +kernel
theorem dX14_chosen_81 : decode cX14_chosen 81 = .ok (.aload_n 0, 1) := by decide +kernel
theorem dX14_chosen_82 : decode cX14_chosen 82 = .ok (.sipush 413, 3) := by decide +kernel
theorem dX14_chosen_85 : decode cX14_chosen 85 = .ok (.putfield 637, 3) := by decide +kernel
theorem dX14_chosen_88 : decode cX14_chosen 88 = .ok (.goto 34, 3) := by decide +kernel
theorem dX14_chosen_91 : decode cX14_chosen 91 = .ok (.aload_n 0, 1) := by decide +kernel
theorem dX14_chosen_92 : decode cX14_chosen 92 = .ok (.getfield 708, 3) := by decide +kernel
theorem dX14_chosen_95 : decode cX14_chosen 95 = .ok (.ifCond .eq 13, 3) := by decide +kernel
theorem dX14_chosen_98 : decode cX14_chosen 98 = .ok (.aload_n 0, 1) := by decide +kernel
theorem dX14_chosen_99 : decode cX14_chosen 99 = .ok (.sipush 405, 3) := by decide +kernel
theorem dX14_chosen_102 : decode cX14_chosen 102 = .ok (.putfield 637, 3) := by decide +kernel
theorem dX14_chosen_105 : decode cX14_chosen 105 = .ok (.goto 17, 3) := by decide +kernel
theorem dX14_chosen_108 : decode cX14_chosen 108 = .ok (.aload_n 0, 1) := by decide +kernel
theorem dX14_chosen_109 : decode cX14_chosen 109 = .ok (.invokevirtual 766, 3) := by decide +kernel
theorem dX14_chosen_112 : decode cX14_chosen 112 = .ok (.ifCond .ne 10, 3) := by decide +kernel
theorem dX14_chosen_115 : decode cX14_chosen 115 = .ok (.aload_n 0, 1) := by decide +kernel
theorem dX14_chosen_116 : decode cX14_chosen 116 = .ok (.sipush 400, 3) := by decide +kernel
theorem dX14_chosen_119 : decode cX14_chosen 119 = .ok (.putfield 637, 3) := by decide +kernel
theorem dX14_chosen_122 : decode cX14_chosen 122 = .ok (.aload_n 0, 1) := by decide +kernel
theorem dX14_chosen_123 : decode cX14_chosen 123 = .ok (.getfield 637, 3) := by decide +kernel
theorem dX14_chosen_126 : decode cX14_chosen 126 = .ok (.ifCond .eq 5, 3) := by decide +kernel
theorem dX14_chosen_129 : decode cX14_chosen 129 = .ok (.iconst (-1), 1) := by decide +kernel
theorem dX14_chosen_130 : decode cX14_chosen 130 = .ok (.ireturn, 1) := by decide +kernel
theorem dX14_chosen_131 : decode cX14_chosen 131 = .ok (.aload_n 0, 1) := by decide +kernel
theorem dX14_chosen_132 : decode cX14_chosen 132 = .ok (.invokevirtual 770, 3) := by decide +kernel
theorem dX14_chosen_135 : decode cX14_chosen 135 = .ok (.istore_n 1, 1) := by decide +kernel
theorem dX14_chosen_136 : decode cX14_chosen 136 = .ok (.iload_n 1, 1) := by decide +kernel
theorem dX14_chosen_137 : decode cX14_chosen 137 = .ok (.ifCond .ge 13, 3) := by decide +kernel
theorem dX14_chosen_140 : decode cX14_chosen 140 = .ok (.aload_n 0, 1) := by decide +kernel
theorem dX14_chosen_141 : decode cX14_chosen 141 = .ok (.sipush 404, 3) := by decide +kernel
theorem dX14_chosen_144 : decode cX14_chosen 144 = .ok (.putfield 637, 3) := by decide +kernel
theorem dX14_chosen_147 : decode cX14_chosen 147 = .ok (.goto 74, 3) := by decide +kernel
theorem dX14_chosen_150 : decode cX14_chosen 150 = .ok (.aload_n 0, 1) := by decide +kernel
theorem dX14_chosen_151 : decode cX14_chosen 151 = .ok (.aload_n 0, 1) := by decide +kernel
theorem dX14_chosen_152 : decode cX14_chosen 152 = .ok (.getfield 21, 3) := by decide +kernel
theorem dX14_chosen_155 : decode cX14_chosen 155 = .ok (.iload_n 1, 1) := by decide +kernel
theorem dX14_chosen_156 : decode cX14_chosen 156 = .ok (.iaload, 1) := by decide +kernel
theorem dX14_chosen_157 : decode cX14_chosen 157 = .ok (.aload_n 0, 1) := by decide +kernel
theorem dX14_chosen_158 : decode cX14_chosen 158 = .ok (.getfield 21, 3) := by decide +kernel
theorem dX14_chosen_161 : decode cX14_chosen 161 = .ok (.iload_n 1, 1) := by decide +kernel
theorem dX14_chosen_162 : decode cX14_chosen 162 = .ok (.iaload, 1) := by decide +kernel
theorem dX14_chosen_163 : decode cX14_chosen 163 = .ok (.aload_n 0, 1) := by decide +kernel
theorem dX14_chosen_164 : decode cX14_chosen 164 = .ok (.getfield 25, 3) := by decide +kernel
theorem dX14_chosen_167 : decode cX14_chosen 167 = .ok (.iload_n 1, 1) := by decide +kernel
theorem dX14_chosen_168 : decode cX14_chosen 168 = .ok (.iaload, 1) := by decide +kernel
theorem dX14_chosen_169 : decode cX14_chosen 169 = .ok (.iadd, 1) := by decide +kernel
theorem dX14_chosen_170 : decode cX14_chosen 170 = .ok (.invokevirtual 100, 3) := by decide +kernel
theorem dX14_chosen_173 : decode cX14_chosen 173 = .ok (.aload_n 0, 1) := by decide +kernel
theorem dX14_chosen_174 : decode cX14_chosen 174 = .ok (.getfield 28, 3) := by decide +kernel
theorem dX14_chosen_177 : decode cX14_chosen 177 = .ok (.iload_n 1, 1) := by decide +kernel
theorem dX14_chosen_178 : decode cX14_chosen 178 = .ok (.iaload, 1) := by decide +kernel
theorem dX14_chosen_179 : decode cX14_chosen 179 = .ok (.if_icmp .eq 13, 3) := by decide +kernel
theorem dX14_chosen_182 : decode cX14_chosen 182 = .ok (.aload_n 0, 1) := by decide +kernel
theorem dX14_chosen_183 : decode cX14_chosen 183 = .ok (.sipush 500, 3) := by decide +kernel
theorem dX14_chosen_186 : decode cX14_chosen 186 = .ok (.putfield 637, 3) := by decide +kernel
theorem dX14_chosen_189 : decode cX14_chosen 189 = .ok (.goto 32, 3) := by decide +kernel
theorem dX14_chosen_192 : decode cX14_chosen 192 = .ok (.aload_n 0, 1) := by decide +kernel
theorem dX14_chosen_193 : decode cX14_chosen 193 = .ok (.aload_n 0, 1) := by decide +kernel
theorem dX14_chosen_194 : decode cX14_chosen 194 = .ok (.getfield 660, 3) := by decide +kernel
theorem dX14_chosen_197 : decode cX14_chosen 197 = .ok (.iconst 1, 1) := by decide +kernel
theorem dX14_chosen_198 : decode cX14_chosen 198 = .ok (.if_icmp .ne 17, 3) := by decide +kernel
theorem dX14_chosen_201 : decode cX14_chosen 201 = .ok (.aload_n 0, 1) := by decide +kernel
theorem dX14_chosen_202 : decode cX14_chosen 202 = .ok (.iload_n 1, 1) := by decide +kernel
theorem dX14_chosen_203 : decode cX14_chosen 203 = .ok (.invokevirtual 773, 3) := by decide +kernel
theorem dX14_chosen_206 : decode cX14_chosen 206 = .ok (.ifCond .eq 9, 3) := by decide +kernel
theorem dX14_chosen_209 : decode cX14_chosen 209 = .ok (.sipush 304, 3) := by decide +kernel
theorem dX14_chosen_212 : decode cX14_chosen 212 = .ok (.goto 6, 3) := by decide +kernel
theorem dX14_chosen_215 : decode cX14_chosen 215 = .ok (.sipush 200, 3) := by decide +kernel
theorem dX14_chosen_218 : decode cX14_chosen 218 = .ok (.putfield 637, 3) := by decide +kernel
theorem dX14_chosen_221 : decode cX14_chosen 221 = .ok (.aload_n 0, 1) := by decide +kernel
theorem dX14_chosen_222 : decode cX14_chosen 222 = .ok (.getfield 637, 3) := by decide +kernel
theorem dX14_chosen_225 : decode cX14_chosen 225 = .ok (.sipush 200, 3) := by decide +kernel
theorem dX14_chosen_228 : decode cX14_chosen 228 = .ok (.if_icmp .eq 13, 3) := by decide +kernel
theorem dX14_chosen_231 : decode cX14_chosen 231 = .ok (.aload_n 0, 1) := by decide +kernel
theorem dX14_chosen_232 : decode cX14_chosen 232 = .ok (.getfield 637, 3) := by decide +kernel
theorem dX14_chosen_235 : decode cX14_chosen 235 = .ok (.sipush 304, 3) := by decide +kernel
theorem dX14_chosen_238 : decode cX14_chosen 238 = .ok (.if_icmp .ne 7, 3) := by decide +kernel
theorem dX14_chosen_241 : decode cX14_chosen 241 = .ok (.iload_n 1, 1) := by decide +kernel
theorem dX14_chosen_242 : decode cX14_chosen 242 = .ok (.goto 4, 3) := by decide +kernel
theorem dX14_chosen_245 : decode cX14_chosen 245 = .ok (.iconst (-1), 1) := by decide +kernel
theorem dX14_chosen_246 : decode cX14_chosen 246 = .ok (.ireturn, 1) := by decide +kernel
def rmX14_chosen : Room := { frames := 6, cells := 0, slots := 0, locals := 131 }
theorem kX14_chosen : yX14_chosen.cls = "WebHostModel" ∧ yX14_chosen.cls ≠ "java/lang/invoke/MethodHandle" ∧ yX14_chosen.cls ≠ "java/lang/invoke/VarHandle" ∧ (parseMethodDescriptor yX14_chosen.desc).map (fun d => d.parameters.length) = some 0 := by decide +kernel
def w14_chosen_J221 (σ : St) (x1 : Int32) (Q : Int32 → St → Prop) : Prop := ((σ 14 0 43) = 200 → Q x1 σ) ∧ (¬ (σ 14 0 43) = 200 → ((¬ (σ 14 0 43) = 304 → (Q (-1) σ)) ∧ ((σ 14 0 43) = 304 → Q x1 σ)))
set_option maxHeartbeats 4000000 in
theorem k14_chosen_J221 {p : Program} {l : Launch} {e : Env} {s : State} {m : MethodId} {args : Array Value} {below : List Frame} {meth : Method} {c : Code} {G : Gh} {a1 : Nat → Nat → Nat} {τ : St} {Q : Int32 → St → Prop} (C : Cx p e s m args meth c cX14_chosen 2 (some .int) "WebHostModel" G) (σ : St) (x1 : Int32) (hw : w14_chosen_J221 σ x1 Q) (H : Heap) (locs : List Loc) (ls : Array Slot) (hH : Hd G a1 (cmb τ σ) H) (hS : va_S (gA G) s.heap H locs) (hl : lv_has ls 2 [(0, .ref (ga G 14 0)), (1, .int x1)]) : W p l e rmX14_chosen s m args below meth c H locs 0 0 (MQ below (QIs G a1 (fun u => cmb τ u) Q) args s 0 0 (gA G)) (F0 m 221 ls []) := by
  have hx := C.1
  have hb := C.2.1
  have hown := C.2.2.2.2.2.1
  have hts := C.2.2.2.2.2.2.1
  refine lv_aload_n hx hb dX14_chosen_221 rfl (lv_at hl 0 rfl) ?_
  refine g14_43 C hH q1983 dX14_chosen_222 ?_
  refine lv_sipush (v := 200) hx hb dX14_chosen_225 (by decide) ?_
  refine lv_icmp_eq (tgt := 241) hx hb dX14_chosen_228 (by decide) (fun h => ?_) (fun h => ?_)
  · have hw := hw.1 h
    refine lv_iload_n hx hb dX14_chosen_241 rfl (lv_at hl 1 rfl) ?_
    refine lv_goto (tgt := 246) hx hb dX14_chosen_242 (by decide) ?_
    exact rt_i C rfl hH hS hw dX14_chosen_246
  have hw := hw.2 h
  refine lv_aload_n hx hb dX14_chosen_231 rfl (lv_at hl 0 rfl) ?_
  refine g14_43 C hH q1983 dX14_chosen_232 ?_
  refine lv_sipush (v := 304) hx hb dX14_chosen_235 (by decide) ?_
  refine lv_icmp_ne (tgt := 245) hx hb dX14_chosen_238 (by decide) (fun h => ?_) (fun h => ?_)
  · have hw := hw.1 h
    refine lv_iconst (v := (-1)) hx hb dX14_chosen_245 (by decide) ?_
    exact rt_i C rfl hH hS hw dX14_chosen_246
  have hw := hw.2 h
  refine lv_iload_n hx hb dX14_chosen_241 rfl (lv_at hl 1 rfl) ?_
  refine lv_goto (tgt := 246) hx hb dX14_chosen_242 (by decide) ?_
  exact rt_i C rfl hH hS hw dX14_chosen_246
def w14_chosen_J122 (σ : St) (Q : Int32 → St → Prop) : Prop := ((σ 14 0 43) = 0 → (w14_found σ (fun r2 => ((0 ≤ r2 → (vp_in r2 64 ∧ (vp_in r2 64 ∧ (vp_in r2 64 ∧ (w14_check σ (σ 53 0 r2.toNatClampNeg) ((σ 53 0 r2.toNatClampNeg) + (σ 54 0 r2.toNatClampNeg)) (fun r3 => (vp_in r2 64 ∧ ((r3 = (σ 55 0 r2.toNatClampNeg) → ((¬ (σ 14 0 50) = 1 → (∀ σ4, σ4 = up3 σ 14 0 43 200 → (w14_chosen_J221 σ4 r2 Q))) ∧ ((σ 14 0 50) = 1 → (w14_fits σ r2 (fun r5 => ((r5 = 0 → (∀ σ6, σ6 = up3 σ 14 0 43 200 → (w14_chosen_J221 σ6 r2 Q))) ∧ (¬ r5 = 0 → (∀ σ7, σ7 = up3 σ 14 0 43 304 → (w14_chosen_J221 σ7 r2 Q))))))))) ∧ (¬ r3 = (σ 55 0 r2.toNatClampNeg) → (∀ σ8, σ8 = up3 σ 14 0 43 500 → (w14_chosen_J221 σ8 r2 Q))))))))))) ∧ (¬ 0 ≤ r2 → (∀ σ9, σ9 = up3 σ 14 0 43 404 → (w14_chosen_J221 σ9 r2 Q))))))) ∧ (¬ (σ 14 0 43) = 0 → (Q (-1) σ))
set_option maxHeartbeats 4000000 in
theorem k14_chosen_J122 {p : Program} {l : Launch} {e : Env} {s : State} {m : MethodId} {args : Array Value} {below : List Frame} {meth : Method} {c : Code} {G : Gh} {a1 : Nat → Nat → Nat} {τ : St} {Q : Int32 → St → Prop} (C : Cx p e s m args meth c cX14_chosen 2 (some .int) "WebHostModel" G) (σ : St) (hw : w14_chosen_J122 σ Q) (H : Heap) (locs : List Loc) (ls : Array Slot) (hH : Hd G a1 (cmb τ σ) H) (hS : va_S (gA G) s.heap H locs) (hl : lv_has ls 2 [(0, .ref (ga G 14 0))]) : W p l e rmX14_chosen s m args below meth c H locs 0 0 (MQ below (QIs G a1 (fun u => cmb τ u) Q) args s 0 0 (gA G)) (F0 m 122 ls []) := by
  have hx := C.1
  have hb := C.2.1
  have hown := C.2.2.2.2.2.1
  have hts := C.2.2.2.2.2.2.1
  refine lv_aload_n hx hb dX14_chosen_122 rfl (lv_at hl 0 rfl) ?_
  refine g14_43 C hH q1983 dX14_chosen_123 ?_
  refine lv_if_eq (tgt := 131) hx hb dX14_chosen_126 (by decide) (fun h => ?_) (fun h => ?_)
  · have hw := hw.1 h
    refine lv_aload_n hx hb dX14_chosen_131 rfl (lv_at hl 0 rfl) ?_
    refine kc_ip (rn_vp (As := []) (rest := []) C hH hS (by decide) rfl (by decide) (m14_found l G a1 τ σ H _ hw) (cwV 0 hts (lw_V q2537 q2539 qs144 q171 q2540) rfl rfl rfl kX14_found ⟨Nat.le_of_ble_eq_true rfl, Nat.le_of_ble_eq_true rfl⟩) rfl hl.1 rfl (Nat.le_of_ble_eq_true rfl) dX14_chosen_132 ⟨Nat.le_of_ble_eq_true rfl, Nat.le_of_ble_eq_true rfl⟩) hS (fun r2 locs hw hS => ?_)
    refine lv_istore_n (lv' := [(1, .int r2), (0, .ref (ga G 14 0))]) hx hb dX14_chosen_135 rfl hl (by decide) rfl (fun ls hl => ?_)
    refine lv_iload_n hx hb dX14_chosen_136 rfl (lv_at hl 0 rfl) ?_
    refine lv_if_ge (tgt := 150) hx hb dX14_chosen_137 (by decide) (fun h => ?_) (fun h => ?_)
    · have hw := hw.1 h
      refine lv_aload_n hx hb dX14_chosen_150 rfl (lv_at hl 1 rfl) ?_
      refine lv_aload_n hx hb dX14_chosen_151 rfl (lv_at hl 1 rfl) ?_
      refine g14_14 C hH q1954 dX14_chosen_152 ?_
      refine lv_iload_n hx hb dX14_chosen_155 rfl (lv_at hl 0 rfl) ?_
      refine l53 C hH hw.1 dX14_chosen_156 ?_
      have hw := hw.2
      refine lv_aload_n hx hb dX14_chosen_157 rfl (lv_at hl 1 rfl) ?_
      refine g14_14 C hH q1954 dX14_chosen_158 ?_
      refine lv_iload_n hx hb dX14_chosen_161 rfl (lv_at hl 0 rfl) ?_
      refine l53 C hH hw.1 dX14_chosen_162 ?_
      have hw := hw.2
      refine lv_aload_n hx hb dX14_chosen_163 rfl (lv_at hl 1 rfl) ?_
      refine g14_15 C hH q1955 dX14_chosen_164 ?_
      refine lv_iload_n hx hb dX14_chosen_167 rfl (lv_at hl 0 rfl) ?_
      refine l54 C hH hw.1 dX14_chosen_168 ?_
      have hw := hw.2
      refine lv_iadd hx hb dX14_chosen_169 ?_
      refine kc_ip (rn_vp (As := [.int (σ 53 0 r2.toNatClampNeg), .int ((σ 53 0 r2.toNatClampNeg) + (σ 54 0 r2.toNatClampNeg))]) (rest := []) C hH hS (by decide) rfl (by decide) (m14_check l G a1 τ σ H (σ 53 0 r2.toNatClampNeg) ((σ 53 0 r2.toNatClampNeg) + (σ 54 0 r2.toNatClampNeg)) _ hw) (cwV 2 hts (lw_V q2157 q2159 qs77 q171 q2160) rfl rfl rfl kX14_check ⟨Nat.le_of_ble_eq_true rfl, Nat.le_of_ble_eq_true rfl⟩) rfl hl.1 rfl (Nat.le_of_ble_eq_true rfl) dX14_chosen_170 ⟨Nat.le_of_ble_eq_true rfl, Nat.le_of_ble_eq_true rfl⟩) hS (fun r3 locs hw hS => ?_)
      refine lv_aload_n hx hb dX14_chosen_173 rfl (lv_at hl 1 rfl) ?_
      refine g14_16 C hH q1956 dX14_chosen_174 ?_
      refine lv_iload_n hx hb dX14_chosen_177 rfl (lv_at hl 0 rfl) ?_
      refine l55 C hH hw.1 dX14_chosen_178 ?_
      have hw := hw.2
      refine lv_icmp_eq (tgt := 192) hx hb dX14_chosen_179 (by decide) (fun h => ?_) (fun h => ?_)
      · have hw := hw.1 h
        refine lv_aload_n hx hb dX14_chosen_192 rfl (lv_at hl 1 rfl) ?_
        refine lv_aload_n hx hb dX14_chosen_193 rfl (lv_at hl 1 rfl) ?_
        refine g14_50 C hH q1990 dX14_chosen_194 ?_
        refine lv_iconst (v := 1) hx hb dX14_chosen_197 (by decide) ?_
        refine lv_icmp_ne (tgt := 215) hx hb dX14_chosen_198 (by decide) (fun h => ?_) (fun h => ?_)
        · have hw := hw.1 h
          refine lv_sipush (v := 200) hx hb dX14_chosen_215 (by decide) ?_
          refine p14_43 C hH hS q1983 dX14_chosen_218 (fun σ4 e4 H locs hH hS => ?_)
          have hw := hw σ4 e4
          exact k14_chosen_J221 C σ4 r2 hw H locs ls hH hS (lv_sub hl [1, 0] rfl)
        have hw := hw.2 h
        refine lv_aload_n hx hb dX14_chosen_201 rfl (lv_at hl 1 rfl) ?_
        refine lv_iload_n hx hb dX14_chosen_202 rfl (lv_at hl 0 rfl) ?_
        refine kc_ip (rn_vp (As := [.int r2]) (rest := [.ref (ga G 14 0)]) C hH hS (by decide) rfl (by decide) (m14_fits l G a1 τ σ H r2 _ hw) (cwV 1 hts (lw_V q2541 q2543 qs145 q171 q2544) rfl rfl rfl kX14_fits ⟨Nat.le_of_ble_eq_true rfl, Nat.le_of_ble_eq_true rfl⟩) rfl hl.1 rfl (Nat.le_of_ble_eq_true rfl) dX14_chosen_203 ⟨Nat.le_of_ble_eq_true rfl, Nat.le_of_ble_eq_true rfl⟩) hS (fun r5 locs hw hS => ?_)
        refine lv_if_eq (tgt := 215) hx hb dX14_chosen_206 (by decide) (fun h => ?_) (fun h => ?_)
        · have hw := hw.1 h
          refine lv_sipush (v := 200) hx hb dX14_chosen_215 (by decide) ?_
          refine p14_43 C hH hS q1983 dX14_chosen_218 (fun σ6 e6 H locs hH hS => ?_)
          have hw := hw σ6 e6
          exact k14_chosen_J221 C σ6 r2 hw H locs ls hH hS (lv_sub hl [1, 0] rfl)
        have hw := hw.2 h
        refine lv_sipush (v := 304) hx hb dX14_chosen_209 (by decide) ?_
        refine lv_goto (tgt := 218) hx hb dX14_chosen_212 (by decide) ?_
        refine p14_43 C hH hS q1983 dX14_chosen_218 (fun σ7 e7 H locs hH hS => ?_)
        have hw := hw σ7 e7
        exact k14_chosen_J221 C σ7 r2 hw H locs ls hH hS (lv_sub hl [1, 0] rfl)
      have hw := hw.2 h
      refine lv_aload_n hx hb dX14_chosen_182 rfl (lv_at hl 1 rfl) ?_
      refine lv_sipush (v := 500) hx hb dX14_chosen_183 (by decide) ?_
      refine p14_43 C hH hS q1983 dX14_chosen_186 (fun σ8 e8 H locs hH hS => ?_)
      have hw := hw σ8 e8
      refine lv_goto (tgt := 221) hx hb dX14_chosen_189 (by decide) ?_
      exact k14_chosen_J221 C σ8 r2 hw H locs ls hH hS (lv_sub hl [1, 0] rfl)
    have hw := hw.2 h
    refine lv_aload_n hx hb dX14_chosen_140 rfl (lv_at hl 1 rfl) ?_
    refine lv_sipush (v := 404) hx hb dX14_chosen_141 (by decide) ?_
    refine p14_43 C hH hS q1983 dX14_chosen_144 (fun σ9 e9 H locs hH hS => ?_)
    have hw := hw σ9 e9
    refine lv_goto (tgt := 221) hx hb dX14_chosen_147 (by decide) ?_
    exact k14_chosen_J221 C σ9 r2 hw H locs ls hH hS (lv_sub hl [1, 0] rfl)
  have hw := hw.2 h
  refine lv_iconst (v := (-1)) hx hb dX14_chosen_129 (by decide) ?_
  exact rt_i C rfl hH hS hw dX14_chosen_130
def w14_chosen_J32 (σ : St) (Q : Int32 → St → Prop) : Prop := bo (σ 14 0 54) → (((σ 14 0 54) = 0 → ((1 < (σ 14 0 49) → (∀ σ10, σ10 = up3 σ 14 0 43 400 → (w14_chosen_J122 σ10 Q))) ∧ (¬ 1 < (σ 14 0 49) → (bo (σ 14 0 52) → (((σ 14 0 52) = 0 → (bo (σ 14 0 53) → (((σ 14 0 53) = 0 → (bo (σ 14 0 60) → (((σ 14 0 60) = 0 → (w14_unfolded σ (fun r11 σ11 => ((¬ r11 = 0 → w14_chosen_J122 σ11 Q) ∧ (r11 = 0 → (∀ σ12, σ12 = up3 σ11 14 0 43 400 → (w14_chosen_J122 σ12 Q))))))) ∧ (¬ (σ 14 0 60) = 0 → (∀ σ13, σ13 = up3 σ 14 0 43 405 → (w14_chosen_J122 σ13 Q)))))) ∧ (¬ (σ 14 0 53) = 0 → (∀ σ14, σ14 = up3 σ 14 0 43 413 → (w14_chosen_J122 σ14 Q)))))) ∧ (¬ (σ 14 0 52) = 0 → (∀ σ15, σ15 = up3 σ 14 0 43 400 → (w14_chosen_J122 σ15 Q)))))))) ∧ (¬ (σ 14 0 54) = 0 → (∀ σ16, σ16 = up3 σ 14 0 43 501 → (w14_chosen_J122 σ16 Q))))
set_option maxHeartbeats 4000000 in
theorem k14_chosen_J32 {p : Program} {l : Launch} {e : Env} {s : State} {m : MethodId} {args : Array Value} {below : List Frame} {meth : Method} {c : Code} {G : Gh} {a1 : Nat → Nat → Nat} {τ : St} {Q : Int32 → St → Prop} (C : Cx p e s m args meth c cX14_chosen 2 (some .int) "WebHostModel" G) (σ : St) (hw : w14_chosen_J32 σ Q) (H : Heap) (locs : List Loc) (ls : Array Slot) (hH : Hd G a1 (cmb τ σ) H) (hS : va_S (gA G) s.heap H locs) (hl : lv_has ls 2 [(0, .ref (ga G 14 0))]) : W p l e rmX14_chosen s m args below meth c H locs 0 0 (MQ below (QIs G a1 (fun u => cmb τ u) Q) args s 0 0 (gA G)) (F0 m 32 ls []) := by
  have hx := C.1
  have hb := C.2.1
  have hown := C.2.2.2.2.2.1
  have hts := C.2.2.2.2.2.2.1
  refine lv_aload_n hx hb dX14_chosen_32 rfl (lv_at hl 0 rfl) ?_
  refine g14_54 C hH q1994 dX14_chosen_33 (fun hz => ?_)
  have hw := hw hz
  refine lv_if_eq (tgt := 49) hx hb dX14_chosen_36 (by decide) (fun h => ?_) (fun h => ?_)
  · have hw := hw.1 h
    refine lv_aload_n hx hb dX14_chosen_49 rfl (lv_at hl 0 rfl) ?_
    refine g14_49 C hH q1989 dX14_chosen_50 ?_
    refine lv_iconst (v := 1) hx hb dX14_chosen_53 (by decide) ?_
    refine lv_icmp_gt (tgt := 64) hx hb dX14_chosen_54 (by decide) (fun h => ?_) (fun h => ?_)
    · have hw := hw.1 h
      refine lv_aload_n hx hb dX14_chosen_64 rfl (lv_at hl 0 rfl) ?_
      refine lv_sipush (v := 400) hx hb dX14_chosen_65 (by decide) ?_
      refine p14_43 C hH hS q1983 dX14_chosen_68 (fun σ10 e10 H locs hH hS => ?_)
      have hw := hw σ10 e10
      refine lv_goto (tgt := 122) hx hb dX14_chosen_71 (by decide) ?_
      exact k14_chosen_J122 C σ10 hw H locs ls hH hS (lv_sub hl [0] rfl)
    have hw := hw.2 h
    refine lv_aload_n hx hb dX14_chosen_57 rfl (lv_at hl 0 rfl) ?_
    refine g14_52 C hH q1992 dX14_chosen_58 (fun hz => ?_)
    have hw := hw hz
    refine lv_if_eq (tgt := 74) hx hb dX14_chosen_61 (by decide) (fun h => ?_) (fun h => ?_)
    · have hw := hw.1 h
      refine lv_aload_n hx hb dX14_chosen_74 rfl (lv_at hl 0 rfl) ?_
      refine g14_53 C hH q1993 dX14_chosen_75 (fun hz => ?_)
      have hw := hw hz
      refine lv_if_eq (tgt := 91) hx hb dX14_chosen_78 (by decide) (fun h => ?_) (fun h => ?_)
      · have hw := hw.1 h
        refine lv_aload_n hx hb dX14_chosen_91 rfl (lv_at hl 0 rfl) ?_
        refine g14_60 C hH q2000 dX14_chosen_92 (fun hz => ?_)
        have hw := hw hz
        refine lv_if_eq (tgt := 108) hx hb dX14_chosen_95 (by decide) (fun h => ?_) (fun h => ?_)
        · have hw := hw.1 h
          refine lv_aload_n hx hb dX14_chosen_108 rfl (lv_at hl 0 rfl) ?_
          refine kc_i (rn_v (As := []) (rest := []) C hH hS (by decide) rfl (by decide) (m14_unfolded l G a1 τ σ _ hw) (cwV 0 hts (lw_V q2529 q2531 qs143 q171 q2532) rfl rfl rfl kX14_unfolded ⟨Nat.le_of_ble_eq_true rfl, Nat.le_of_ble_eq_true rfl⟩) rfl hl.1 rfl (Nat.le_of_ble_eq_true rfl) dX14_chosen_109 ⟨Nat.le_of_ble_eq_true rfl, Nat.le_of_ble_eq_true rfl⟩) hS (fun r11 σ11 H locs hw hH hS => ?_)
          refine lv_if_ne (tgt := 122) hx hb dX14_chosen_112 (by decide) (fun h => ?_) (fun h => ?_)
          · have hw := hw.1 h
            exact k14_chosen_J122 C σ11 hw H locs ls hH hS (lv_sub hl [0] rfl)
          have hw := hw.2 h
          refine lv_aload_n hx hb dX14_chosen_115 rfl (lv_at hl 0 rfl) ?_
          refine lv_sipush (v := 400) hx hb dX14_chosen_116 (by decide) ?_
          refine p14_43 C hH hS q1983 dX14_chosen_119 (fun σ12 e12 H locs hH hS => ?_)
          have hw := hw σ12 e12
          exact k14_chosen_J122 C σ12 hw H locs ls hH hS (lv_sub hl [0] rfl)
        have hw := hw.2 h
        refine lv_aload_n hx hb dX14_chosen_98 rfl (lv_at hl 0 rfl) ?_
        refine lv_sipush (v := 405) hx hb dX14_chosen_99 (by decide) ?_
        refine p14_43 C hH hS q1983 dX14_chosen_102 (fun σ13 e13 H locs hH hS => ?_)
        have hw := hw σ13 e13
        refine lv_goto (tgt := 122) hx hb dX14_chosen_105 (by decide) ?_
        exact k14_chosen_J122 C σ13 hw H locs ls hH hS (lv_sub hl [0] rfl)
      have hw := hw.2 h
      refine lv_aload_n hx hb dX14_chosen_81 rfl (lv_at hl 0 rfl) ?_
      refine lv_sipush (v := 413) hx hb dX14_chosen_82 (by decide) ?_
      refine p14_43 C hH hS q1983 dX14_chosen_85 (fun σ14 e14 H locs hH hS => ?_)
      have hw := hw σ14 e14
      refine lv_goto (tgt := 122) hx hb dX14_chosen_88 (by decide) ?_
      exact k14_chosen_J122 C σ14 hw H locs ls hH hS (lv_sub hl [0] rfl)
    have hw := hw.2 h
    refine lv_aload_n hx hb dX14_chosen_64 rfl (lv_at hl 0 rfl) ?_
    refine lv_sipush (v := 400) hx hb dX14_chosen_65 (by decide) ?_
    refine p14_43 C hH hS q1983 dX14_chosen_68 (fun σ15 e15 H locs hH hS => ?_)
    have hw := hw σ15 e15
    refine lv_goto (tgt := 122) hx hb dX14_chosen_71 (by decide) ?_
    exact k14_chosen_J122 C σ15 hw H locs ls hH hS (lv_sub hl [0] rfl)
  have hw := hw.2 h
  refine lv_aload_n hx hb dX14_chosen_39 rfl (lv_at hl 0 rfl) ?_
  refine lv_sipush (v := 501) hx hb dX14_chosen_40 (by decide) ?_
  refine p14_43 C hH hS q1983 dX14_chosen_43 (fun σ16 e16 H locs hH hS => ?_)
  have hw := hw σ16 e16
  refine lv_goto (tgt := 122) hx hb dX14_chosen_46 (by decide) ?_
  exact k14_chosen_J122 C σ16 hw H locs ls hH hS (lv_sub hl [0] rfl)
def w14_chosen (σ : St) (Q : Int32 → St → Prop) : Prop := (1 < (σ 14 0 48) → (∀ σ1, σ1 = up3 σ 14 0 43 400 → (w14_chosen_J122 σ1 Q))) ∧ (¬ 1 < (σ 14 0 48) → (bo (σ 14 0 45) → ((¬ (σ 14 0 45) = 0 → w14_chosen_J32 σ Q) ∧ ((σ 14 0 45) = 0 → ((¬ (σ 14 0 48) = 0 → w14_chosen_J32 σ Q) ∧ ((σ 14 0 48) = 0 → (∀ σ17, σ17 = up3 σ 14 0 43 400 → (w14_chosen_J122 σ17 Q))))))))
set_option maxHeartbeats 4000000 in
theorem m14_chosen (l : Launch) (G : Gh) (a1 : Nat → Nat → Nat) (τ : St) (σ : St) (Q : Int32 → St → Prop) (hw : w14_chosen σ Q) : Met l yX14_chosen (ws_ yX14_chosen cX14_chosen 2 (some .int)) rmX14_chosen (PcS G a1 (cmb τ σ) [.ref (ga G 14 0)]) (QIs G a1 (fun u => cmb τ u) Q) 0 0 (gA G) := by
  refine met_w (by decide) (Nat.le_of_ble_eq_true rfl) ?_
  intro p e s m below meth c ls C hH hS hl
  have C : Cx p e s m _ meth c cX14_chosen 2 (some .int) "WebHostModel" G := C
  have hl : lv_has ls 2 [(0, .ref (ga G 14 0))] := hl
  have hx := C.1
  have hb := C.2.1
  have hown := C.2.2.2.2.2.1
  have hts := C.2.2.2.2.2.2.1
  obtain ⟨locs, hlocs⟩ : ∃ z : List Loc, z = [] := ⟨_, rfl⟩
  obtain ⟨H, hHe⟩ : ∃ z : Heap, z = s.heap := ⟨_, rfl⟩
  have hH : Hd G a1 (cmb τ σ) H := by rw [hHe]; exact hH
  have hS : va_S (gA G) s.heap H locs := by rw [hHe, hlocs]; exact hS
  refine W.heap0 hHe.symm hlocs.symm ?_
  refine lv_aload_n hx hb dX14_chosen_0 rfl (lv_at hl 0 rfl) ?_
  refine g14_48 C hH q1988 dX14_chosen_1 ?_
  refine lv_iconst (v := 1) hx hb dX14_chosen_4 (by decide) ?_
  refine lv_icmp_gt (tgt := 22) hx hb dX14_chosen_5 (by decide) (fun h => ?_) (fun h => ?_)
  · have hw := hw.1 h
    refine lv_aload_n hx hb dX14_chosen_22 rfl (lv_at hl 0 rfl) ?_
    refine lv_sipush (v := 400) hx hb dX14_chosen_23 (by decide) ?_
    refine p14_43 C hH hS q1983 dX14_chosen_26 (fun σ1 e1 H locs hH hS => ?_)
    have hw := hw σ1 e1
    refine lv_goto (tgt := 122) hx hb dX14_chosen_29 (by decide) ?_
    exact k14_chosen_J122 C σ1 hw H locs ls hH hS (lv_sub hl [0] rfl)
  have hw := hw.2 h
  refine lv_aload_n hx hb dX14_chosen_8 rfl (lv_at hl 0 rfl) ?_
  refine g14_45 C hH q1985 dX14_chosen_9 (fun hz => ?_)
  have hw := hw hz
  refine lv_if_ne (tgt := 32) hx hb dX14_chosen_12 (by decide) (fun h => ?_) (fun h => ?_)
  · have hw := hw.1 h
    exact k14_chosen_J32 C σ hw H locs ls hH hS (lv_sub hl [0] rfl)
  have hw := hw.2 h
  refine lv_aload_n hx hb dX14_chosen_15 rfl (lv_at hl 0 rfl) ?_
  refine g14_48 C hH q1988 dX14_chosen_16 ?_
  refine lv_if_ne (tgt := 32) hx hb dX14_chosen_19 (by decide) (fun h => ?_) (fun h => ?_)
  · have hw := hw.1 h
    exact k14_chosen_J32 C σ hw H locs ls hH hS (lv_sub hl [0] rfl)
  have hw := hw.2 h
  refine lv_aload_n hx hb dX14_chosen_22 rfl (lv_at hl 0 rfl) ?_
  refine lv_sipush (v := 400) hx hb dX14_chosen_23 (by decide) ?_
  refine p14_43 C hH hS q1983 dX14_chosen_26 (fun σ17 e17 H locs hH hS => ?_)
  have hw := hw σ17 e17
  refine lv_goto (tgt := 122) hx hb dX14_chosen_29 (by decide) ?_
  exact k14_chosen_J122 C σ17 hw H locs ls hH hS (lv_sub hl [0] rfl)
