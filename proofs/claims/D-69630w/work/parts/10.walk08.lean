/-! walks -/
set_option maxRecDepth 100000
/-! WebHost.boot(IIIII)I -/
abbrev cX0_boot : ByteArray := prog_1_method_5_code
def yX0_boot : MethodName := ⟨RX0, "boot", "(IIIII)I"⟩
theorem dX0_boot_0 : decode cX0_boot 0 = .ok (.iload_n 2, 1) := by decide +kernel
theorem dX0_boot_1 : decode cX0_boot 1 = .ok (.bipush 8, 2) := by decide +kernel
theorem dX0_boot_3 : decode cX0_boot 3 = .ok (.if_icmp .lt 16, 3) := by decide +kernel
theorem dX0_boot_6 : decode cX0_boot 6 = .ok (.iload_n 2, 1) := by decide +kernel
theorem dX0_boot_7 : decode cX0_boot 7 = .ok (.bipush 30, 2) := by decide +kernel
theorem dX0_boot_9 : decode cX0_boot 9 = .ok (.if_icmp .gt 10, 3) := by decide +kernel
theorem dX0_boot_12 : decode cX0_boot 12 = .ok (.iload_n 1, 1) := by decide +kernel
theorem dX0_boot_13 : decode cX0_boot 13 = .ok (.invokestatic 109, 3) := by decide +kernel
theorem dX0_boot_16 : decode cX0_boot 16 = .ok (.ifCond .ne 5, 3) := by decide +kernel
theorem dX0_boot_19 : decode cX0_boot 19 = .ok (.iconst (-1), 1) := by decide +kernel
theorem dX0_boot_20 : decode cX0_boot 20 = .ok (.ireturn, 1) := by decide +kernel
theorem dX0_boot_21 : decode cX0_boot 21 = .ok (.iconst (-1), 1) := by decide +kernel
theorem dX0_boot_22 : decode cX0_boot 22 = .ok (.bipush 32, 2) := by decide +kernel
theorem dX0_boot_24 : decode cX0_boot 24 = .ok (.iload_n 2, 1) := by decide +kernel
theorem dX0_boot_25 : decode cX0_boot 25 = .ok (.isub, 1) := by decide +kernel
theorem dX0_boot_26 : decode cX0_boot 26 = .ok (.ishl, 1) := by decide +kernel
theorem dX0_boot_27 : decode cX0_boot 27 = .ok (.istore 6, 2) := by decide +kernel
theorem dX0_boot_29 : decode cX0_boot 29 = .ok (.iload_n 3, 1) := by decide +kernel
theorem dX0_boot_30 : decode cX0_boot 30 = .ok (.iload 6, 2) := by decide +kernel
theorem dX0_boot_32 : decode cX0_boot 32 = .ok (.iand, 1) := by decide +kernel
theorem dX0_boot_33 : decode cX0_boot 33 = .ok (.iload_n 1, 1) := by decide +kernel
theorem dX0_boot_34 : decode cX0_boot 34 = .ok (.iload 6, 2) := by decide +kernel
theorem dX0_boot_36 : decode cX0_boot 36 = .ok (.iand, 1) := by decide +kernel
theorem dX0_boot_37 : decode cX0_boot 37 = .ok (.if_icmp .ne 19, 3) := by decide +kernel
theorem dX0_boot_40 : decode cX0_boot 40 = .ok (.iload_n 3, 1) := by decide +kernel
theorem dX0_boot_41 : decode cX0_boot 41 = .ok (.iload_n 1, 1) := by decide +kernel
theorem dX0_boot_42 : decode cX0_boot 42 = .ok (.if_icmp .eq 14, 3) := by decide +kernel
theorem dX0_boot_45 : decode cX0_boot 45 = .ok (.iload 4, 2) := by decide +kernel
theorem dX0_boot_47 : decode cX0_boot 47 = .ok (.bipush 8, 2) := by decide +kernel
theorem dX0_boot_49 : decode cX0_boot 49 = .ok (.ishr, 1) := by decide +kernel
theorem dX0_boot_50 : decode cX0_boot 50 = .ok (.iconst 1, 1) := by decide +kernel
theorem dX0_boot_51 : decode cX0_boot 51 = .ok (.iand, 1) := by decide +kernel
theorem dX0_boot_52 : decode cX0_boot 52 = .ok (.iconst 1, 1) := by decide +kernel
theorem dX0_boot_53 : decode cX0_boot 53 = .ok (.if_icmp .ne 6, 3) := by decide +kernel
theorem dX0_boot_56 : decode cX0_boot 56 = .ok (.bipush (-2), 2) := by decide +kernel
theorem dX0_boot_58 : decode cX0_boot 58 = .ok (.ireturn, 1) := by decide +kernel
theorem dX0_boot_59 : decode cX0_boot 59 = .ok (.aload_n 0, 1) := by decide +kernel
theorem dX0_boot_60 : decode cX0_boot 60 = .ok (.getfield 17, 3) := by decide +kernel
theorem dX0_boot_63 : decode cX0_boot 63 = .ok (.invokevirtual 113, 3) := by decide +kernel
theorem dX0_boot_66 : decode cX0_boot 66 = .ok (.istore 7, 2) := by decide +kernel
theorem dX0_boot_68 : decode cX0_boot 68 = .ok (.iload 7, 2) := by decide +kernel
theorem dX0_boot_70 : decode cX0_boot 70 = .ok (.ifCond .ge 6, 3) := by decide +kernel
theorem dX0_boot_73 : decode cX0_boot 73 = .ok (.bipush (-3), 2) := by decide +kernel
theorem dX0_boot_75 : decode cX0_boot 75 = .ok (.ireturn, 1) := by decide +kernel
theorem dX0_boot_76 : decode cX0_boot 76 = .ok (.aload_n 0, 1) := by decide +kernel
theorem dX0_boot_77 : decode cX0_boot 77 = .ok (.iload_n 1, 1) := by decide +kernel
theorem dX0_boot_78 : decode cX0_boot 78 = .ok (.putfield 117, 3) := by decide +kernel
theorem dX0_boot_81 : decode cX0_boot 81 = .ok (.aload_n 0, 1) := by decide +kernel
theorem dX0_boot_82 : decode cX0_boot 82 = .ok (.getfield 24, 3) := by decide +kernel
theorem dX0_boot_85 : decode cX0_boot 85 = .ok (.iload 4, 2) := by decide +kernel
theorem dX0_boot_87 : decode cX0_boot 87 = .ok (.iload 5, 2) := by decide +kernel
theorem dX0_boot_89 : decode cX0_boot 89 = .ok (.invokevirtual 120, 3) := by decide +kernel
theorem dX0_boot_92 : decode cX0_boot 92 = .ok (.aload_n 0, 1) := by decide +kernel
theorem dX0_boot_93 : decode cX0_boot 93 = .ok (.getfield 33, 3) := by decide +kernel
theorem dX0_boot_96 : decode cX0_boot 96 = .ok (.aload_n 0, 1) := by decide +kernel
theorem dX0_boot_97 : decode cX0_boot 97 = .ok (.getfield 117, 3) := by decide +kernel
theorem dX0_boot_100 : decode cX0_boot 100 = .ok (.iload_n 2, 1) := by decide +kernel
theorem dX0_boot_101 : decode cX0_boot 101 = .ok (.iload_n 3, 1) := by decide +kernel
theorem dX0_boot_102 : decode cX0_boot 102 = .ok (.invokevirtual 124, 3) := by decide +kernel
theorem dX0_boot_105 : decode cX0_boot 105 = .ok (.aload_n 0, 1) := by decide +kernel
theorem dX0_boot_106 : decode cX0_boot 106 = .ok (.getfield 42, 3) := by decide +kernel
theorem dX0_boot_109 : decode cX0_boot 109 = .ok (.aload_n 0, 1) := by decide +kernel
theorem dX0_boot_110 : decode cX0_boot 110 = .ok (.getfield 117, 3) := by decide +kernel
theorem dX0_boot_113 : decode cX0_boot 113 = .ok (.invokevirtual 127, 3) := by decide +kernel
theorem dX0_boot_116 : decode cX0_boot 116 = .ok (.aload_n 0, 1) := by decide +kernel
theorem dX0_boot_117 : decode cX0_boot 117 = .ok (.getfield 49, 3) := by decide +kernel
theorem dX0_boot_120 : decode cX0_boot 120 = .ok (.invokevirtual 130, 3) := by decide +kernel
theorem dX0_boot_123 : decode cX0_boot 123 = .ok (.aload_n 0, 1) := by decide +kernel
theorem dX0_boot_124 : decode cX0_boot 124 = .ok (.getfield 58, 3) := by decide +kernel
theorem dX0_boot_127 : decode cX0_boot 127 = .ok (.aload_n 0, 1) := by decide +kernel
theorem dX0_boot_128 : decode cX0_boot 128 = .ok (.getfield 117, 3) := by decide +kernel
theorem dX0_boot_131 : decode cX0_boot 131 = .ok (.invokevirtual 132, 3) := by decide +kernel
theorem dX0_boot_134 : decode cX0_boot 134 = .ok (.iconst 0, 1) := by decide +kernel
theorem dX0_boot_135 : decode cX0_boot 135 = .ok (.istore 8, 2) := by decide +kernel
theorem dX0_boot_137 : decode cX0_boot 137 = .ok (.iload 8, 2) := by decide +kernel
theorem dX0_boot_139 : decode cX0_boot 139 = .ok (.bipush 16, 2) := by decide +kernel
theorem dX0_boot_141 : decode cX0_boot 141 = .ok (.if_icmp .ge 19, 3) := by decide +kernel
theorem dX0_boot_144 : decode cX0_boot 144 = .ok (.aload_n 0, 1) := by decide +kernel
theorem dX0_boot_145 : decode cX0_boot 145 = .ok (.getfield 73, 3) := by decide +kernel
theorem dX0_boot_148 : decode cX0_boot 148 = .ok (.iload 8, 2) := by decide +kernel
theorem dX0_boot_150 : decode cX0_boot 150 = .ok (.aaload, 1) := by decide +kernel
theorem dX0_boot_151 : decode cX0_boot 151 = .ok (.invokevirtual 133, 3) := by decide +kernel
theorem dX0_boot_154 : decode cX0_boot 154 = .ok (.iinc 8 1, 3) := by decide +kernel
theorem dX0_boot_157 : decode cX0_boot 157 = .ok (.goto (-20), 3) := by decide +kernel
theorem dX0_boot_160 : decode cX0_boot 160 = .ok (.aload_n 0, 1) := by decide +kernel
theorem dX0_boot_161 : decode cX0_boot 161 = .ok (.iconst 0, 1) := by decide +kernel
theorem dX0_boot_162 : decode cX0_boot 162 = .ok (.putfield 136, 3) := by decide +kernel
theorem dX0_boot_165 : decode cX0_boot 165 = .ok (.aload_n 0, 1) := by decide +kernel
theorem dX0_boot_166 : decode cX0_boot 166 = .ok (.iconst 1, 1) := by decide +kernel
theorem dX0_boot_167 : decode cX0_boot 167 = .ok (.putfield 105, 3) := by decide +kernel
theorem dX0_boot_170 : decode cX0_boot 170 = .ok (.iload 7, 2) := by decide +kernel
theorem dX0_boot_172 : decode cX0_boot 172 = .ok (.ireturn, 1) := by decide +kernel
def rmX0_boot : Room := { frames := 5, cells := 0, slots := 0, locals := 117 }
theorem kX0_boot : yX0_boot.cls = "WebHost" ∧ yX0_boot.cls ≠ "java/lang/invoke/MethodHandle" ∧ yX0_boot.cls ≠ "java/lang/invoke/VarHandle" ∧ (parseMethodDescriptor yX0_boot.desc).map (fun d => d.parameters.length) = some 5 := by decide +kernel
def w0_boot_L137 (x7 : Int32) (Q : Int32 → St → Prop) (K160 : St → Prop) : Nat → St → Int32 → Prop
  | 0, _, _ => False
  | n + 1, σ, x8 => (16 ≤ x8 → K160 σ) ∧ (¬ 16 ≤ x8 → (vp_in x8 16 ∧ (w11_gone σ x8.toNatClampNeg (fun σ10 => (w0_boot_L137 x7 Q K160 n σ10 (x8 + 1))))))
set_option maxHeartbeats 4000000 in
theorem k0_boot_L137 {p : Program} {l : Launch} {e : Env} {s : State} {m : MethodId} {args : Array Value} {below : List Frame} {meth : Method} {c : Code} {G : Gh} {a1 : Nat → Nat → Nat} {τ : St} {Q : Int32 → St → Prop} {K160 : St → Prop} (C : Cx p e s m args meth c cX0_boot 9 (some .int) "WebHost" G) (x7 : Int32) :
    ∀ (n : Nat) (σ : St) (x8 : Int32), w0_boot_L137 x7 Q K160 n σ x8 → ∀ (H : Heap) (locs : List Loc) (ls : Array Slot), Hd G a1 (cmb σ τ) H → va_S (gA G) s.heap H locs → lv_has ls 9 [(0, .ref (ga G 0 0)), (7, .int x7), (8, .int x8)] → (∀ (σ : St) , K160 σ → ∀ (H : Heap) (locs : List Loc) (ls : Array Slot), Hd G a1 (cmb σ τ) H → va_S (gA G) s.heap H locs → lv_has ls 9 [(0, .ref (ga G 0 0)), (7, .int x7)] → W p l e rmX0_boot s m args below meth c H locs 0 0 (MQ below (QIs G a1 (fun u => cmb u τ) Q) args s 0 0 (gA G)) (F0 m 160 ls [])) → W p l e rmX0_boot s m args below meth c H locs 0 0 (MQ below (QIs G a1 (fun u => cmb u τ) Q) args s 0 0 (gA G)) (F0 m 137 ls []) := by
  have hx := C.1
  have hb := C.2.1
  have hown := C.2.2.2.2.2.1
  have hts := C.2.2.2.2.2.2.1
  intro n
  induction n with
  | zero =>
    intro σ x8 hw
    exact False.elim hw
  | succ n ih =>
    intro σ x8 hw H locs ls hH hS hl hK160
    refine lv_iload hx hb dX0_boot_137 (lv_at hl 2 rfl) ?_
    refine lv_bipush (v := 16) hx hb dX0_boot_139 (by decide) ?_
    refine lv_icmp_ge (tgt := 160) hx hb dX0_boot_141 (by decide) (fun h => ?_) (fun h => ?_)
    · have hw := hw.1 h
      exact hK160 σ hw H locs ls hH hS (lv_sub hl [0, 1] rfl)
    have hw := hw.2 h
    refine lv_aload_n hx hb dX0_boot_144 rfl (lv_at hl 0 rfl) ?_
    refine g0_9 C hH q752 dX0_boot_145 ?_
    refine lv_iload hx hb dX0_boot_148 (lv_at hl 2 rfl) ?_
    have hq9 := vp_lt hw.1
    refine l45 C hH hw.1 dX0_boot_150 ?_
    have hw := hw.2
    refine kc_v (rn_vN (As := []) (rest := []) C hH hS (by decide) rfl hq9 (m11_gone l G a1 τ σ x8.toNatClampNeg hq9 _ hw) ⟨va_cnB 0 hts (lw_meth q886) rfl rfl rfl (C.2.2.2.2.2.2.2.1.2.1 _ nest_0_133) (hts _ q168) kX11_gone.2 ⟨Nat.le_of_ble_eq_true rfl, Nat.le_of_ble_eq_true rfl⟩, hts _ q885, hts _ qs5⟩ rfl hl.1 rfl (Nat.le_of_ble_eq_true rfl) dX0_boot_151 ⟨Nat.le_of_ble_eq_true rfl, Nat.le_of_ble_eq_true rfl⟩) hS (fun σ10 H locs hw hH hS => ?_)
    refine lv_iinc (v := x8 + 1) (lv' := [(8, .int (x8 + 1)), (0, .ref (ga G 0 0)), (7, .int x7)]) hx hb dX0_boot_154 hl (k := 2) rfl rfl (by decide) rfl (fun ls hl => ?_)
    refine lv_goto (tgt := 137) hx hb dX0_boot_157 (by decide) ?_
    exact ih σ10 (x8 + 1) hw H locs ls hH hS (lv_sub hl [1, 2, 0] rfl) hK160
def w0_boot (σ : St) (x1 : Int32) (x2 : Int32) (x3 : Int32) (x4 : Int32) (x5 : Int32) (Q : Int32 → St → Prop) : Prop := (x2 < 8 → (Q (-1) σ)) ∧ (¬ x2 < 8 → ((30 < x2 → (Q (-1) σ)) ∧ (¬ 30 < x2 → (w19_isUsual σ x1 (fun r1 => ((¬ r1 = 0 → ((¬ (x3 &&& ((-1) <<< ((32 - x2) &&& 31))) = (x1 &&& ((-1) <<< ((32 - x2) &&& 31))) → (Q (-2) σ)) ∧ ((x3 &&& ((-1) <<< ((32 - x2) &&& 31))) = (x1 &&& ((-1) <<< ((32 - x2) &&& 31))) → ((x3 = x1 → (Q (-2) σ)) ∧ (¬ x3 = x1 → ((¬ ((x4 >>> ((8 : Int32) &&& 31)) &&& 1) = 1 → (w1_open σ (fun r2 σ2 => ((0 ≤ r2 → (∀ σ3, σ3 = up3 σ2 0 0 12 x1 → (w2_begin σ3 x4 x5 (fun σ4 => (w3_begin σ4 (σ4 0 0 12) x2 x3 (fun σ5 => (w5_begin σ5 (σ5 0 0 12) (fun σ6 => (w6_begin σ6 (fun σ7 => (w8_begin σ7 (σ7 0 0 12) (fun σ8 => (∃ z11, w0_boot_L137 r2 Q (fun σ12 => ∀ σ13, σ13 = up3 σ12 0 0 13 0 → (∀ σ14, σ14 = up3 σ13 0 0 11 1 → (Q r2 σ14))) z11 σ8 0))))))))))))) ∧ (¬ 0 ≤ r2 → (Q (-3) σ2)))))) ∧ (((x4 >>> ((8 : Int32) &&& 31)) &&& 1) = 1 → (Q (-2) σ)))))))) ∧ (r1 = 0 → (Q (-1) σ))))))))
set_option maxHeartbeats 4000000 in
theorem m0_boot (l : Launch) (G : Gh) (a1 : Nat → Nat → Nat) (τ : St) (σ : St) (x1 : Int32) (x2 : Int32) (x3 : Int32) (x4 : Int32) (x5 : Int32) (Q : Int32 → St → Prop) (hw : w0_boot σ x1 x2 x3 x4 x5 Q) : Met l yX0_boot (ws_ yX0_boot cX0_boot 9 (some .int)) rmX0_boot (PcS G a1 (cmb σ τ) [.ref (ga G 0 0), .int x1, .int x2, .int x3, .int x4, .int x5]) (QIs G a1 (fun u => cmb u τ) Q) 0 0 (gA G) := by
  refine met_w (by decide) (Nat.le_of_ble_eq_true rfl) ?_
  intro p e s m below meth c ls C hH hS hl
  have C : Cx p e s m _ meth c cX0_boot 9 (some .int) "WebHost" G := C
  have hl : lv_has ls 9 [(0, .ref (ga G 0 0)), (1, .int x1), (2, .int x2), (3, .int x3), (4, .int x4), (5, .int x5)] := hl
  have hx := C.1
  have hb := C.2.1
  have hown := C.2.2.2.2.2.1
  have hts := C.2.2.2.2.2.2.1
  obtain ⟨locs, hlocs⟩ : ∃ z : List Loc, z = [] := ⟨_, rfl⟩
  obtain ⟨H, hHe⟩ : ∃ z : Heap, z = s.heap := ⟨_, rfl⟩
  have hH : Hd G a1 (cmb σ τ) H := by rw [hHe]; exact hH
  have hS : va_S (gA G) s.heap H locs := by rw [hHe, hlocs]; exact hS
  refine W.heap0 hHe.symm hlocs.symm ?_
  refine lv_iload_n hx hb dX0_boot_0 rfl (lv_at hl 2 rfl) ?_
  refine lv_bipush (v := 8) hx hb dX0_boot_1 (by decide) ?_
  refine lv_icmp_lt (tgt := 19) hx hb dX0_boot_3 (by decide) (fun h => ?_) (fun h => ?_)
  · have hw := hw.1 h
    refine lv_iconst (v := (-1)) hx hb dX0_boot_19 (by decide) ?_
    exact rt_i C rfl hH hS hw dX0_boot_20
  have hw := hw.2 h
  refine lv_iload_n hx hb dX0_boot_6 rfl (lv_at hl 2 rfl) ?_
  refine lv_bipush (v := 30) hx hb dX0_boot_7 (by decide) ?_
  refine lv_icmp_gt (tgt := 19) hx hb dX0_boot_9 (by decide) (fun h => ?_) (fun h => ?_)
  · have hw := hw.1 h
    refine lv_iconst (v := (-1)) hx hb dX0_boot_19 (by decide) ?_
    exact rt_i C rfl hH hS hw dX0_boot_20
  have hw := hw.2 h
  refine lv_iload_n hx hb dX0_boot_12 rfl (lv_at hl 1 rfl) ?_
  refine kc_ip (rn_sp (As := [.int x1]) (rest := []) C hH hS (m19_isUsual l G a1 τ σ H x1 _ hw) (va_cwS 1 hts (lw_S q812 q813 q176 q814) rfl rfl rfl kX19_isUsual.2 ⟨Nat.le_of_ble_eq_true rfl, Nat.le_of_ble_eq_true rfl⟩) rfl hl.1 rfl (Nat.le_of_ble_eq_true rfl) dX0_boot_13 ⟨Nat.le_of_ble_eq_true rfl, Nat.le_of_ble_eq_true rfl⟩) hS (fun r1 locs hw hS => ?_)
  refine lv_if_ne (tgt := 21) hx hb dX0_boot_16 (by decide) (fun h => ?_) (fun h => ?_)
  · have hw := hw.1 h
    refine lv_iconst (v := (-1)) hx hb dX0_boot_21 (by decide) ?_
    refine lv_bipush (v := 32) hx hb dX0_boot_22 (by decide) ?_
    refine lv_iload_n hx hb dX0_boot_24 rfl (lv_at hl 2 rfl) ?_
    refine lv_isub hx hb dX0_boot_25 ?_
    refine lv_ishl hx hb dX0_boot_26 ?_
    refine lv_istore (lv' := [(6, .int ((-1) <<< ((32 - x2) &&& 31))), (0, .ref (ga G 0 0)), (1, .int x1), (2, .int x2), (3, .int x3), (4, .int x4), (5, .int x5)]) hx hb dX0_boot_27 hl (by decide) rfl (fun ls hl => ?_)
    refine lv_iload_n hx hb dX0_boot_29 rfl (lv_at hl 4 rfl) ?_
    refine lv_iload hx hb dX0_boot_30 (lv_at hl 0 rfl) ?_
    refine lv_iand hx hb dX0_boot_32 ?_
    refine lv_iload_n hx hb dX0_boot_33 rfl (lv_at hl 2 rfl) ?_
    refine lv_iload hx hb dX0_boot_34 (lv_at hl 0 rfl) ?_
    refine lv_iand hx hb dX0_boot_36 ?_
    refine lv_icmp_ne (tgt := 56) hx hb dX0_boot_37 (by decide) (fun h => ?_) (fun h => ?_)
    · have hw := hw.1 h
      refine lv_bipush (v := (-2)) hx hb dX0_boot_56 (by decide) ?_
      exact rt_i C rfl hH hS hw dX0_boot_58
    have hw := hw.2 h
    refine lv_iload_n hx hb dX0_boot_40 rfl (lv_at hl 4 rfl) ?_
    refine lv_iload_n hx hb dX0_boot_41 rfl (lv_at hl 2 rfl) ?_
    refine lv_icmp_eq (tgt := 56) hx hb dX0_boot_42 (by decide) (fun h => ?_) (fun h => ?_)
    · have hw := hw.1 h
      refine lv_bipush (v := (-2)) hx hb dX0_boot_56 (by decide) ?_
      exact rt_i C rfl hH hS hw dX0_boot_58
    have hw := hw.2 h
    refine lv_iload hx hb dX0_boot_45 (lv_at hl 5 rfl) ?_
    refine lv_bipush (v := 8) hx hb dX0_boot_47 (by decide) ?_
    refine lv_ishr hx hb dX0_boot_49 ?_
    refine lv_iconst (v := 1) hx hb dX0_boot_50 (by decide) ?_
    refine lv_iand hx hb dX0_boot_51 ?_
    refine lv_iconst (v := 1) hx hb dX0_boot_52 (by decide) ?_
    refine lv_icmp_ne (tgt := 59) hx hb dX0_boot_53 (by decide) (fun h => ?_) (fun h => ?_)
    · have hw := hw.1 h
      refine lv_aload_n hx hb dX0_boot_59 rfl (lv_at hl 1 rfl) ?_
      refine g0_2 C hH q745 dX0_boot_60 ?_
      refine kc_i (rn_v (As := []) (rest := []) C hH hS (by decide) rfl (by decide) (m1_open l G a1 τ σ _ hw) (cwV 0 hts (lw_V q815 q816 q817 q158 q818) rfl rfl rfl kX1_open ⟨Nat.le_of_ble_eq_true rfl, Nat.le_of_ble_eq_true rfl⟩) rfl hl.1 rfl (Nat.le_of_ble_eq_true rfl) dX0_boot_63 ⟨Nat.le_of_ble_eq_true rfl, Nat.le_of_ble_eq_true rfl⟩) hS (fun r2 σ2 H locs hw hH hS => ?_)
      refine lv_istore (lv' := [(7, .int r2), (6, .int ((-1) <<< ((32 - x2) &&& 31))), (0, .ref (ga G 0 0)), (1, .int x1), (2, .int x2), (3, .int x3), (4, .int x4), (5, .int x5)]) hx hb dX0_boot_66 hl (by decide) rfl (fun ls hl => ?_)
      refine lv_iload hx hb dX0_boot_68 (lv_at hl 0 rfl) ?_
      refine lv_if_ge (tgt := 76) hx hb dX0_boot_70 (by decide) (fun h => ?_) (fun h => ?_)
      · have hw := hw.1 h
        refine lv_aload_n hx hb dX0_boot_76 rfl (lv_at hl 2 rfl) ?_
        refine lv_iload_n hx hb dX0_boot_77 rfl (lv_at hl 3 rfl) ?_
        refine p0_12 C hH hS q755 dX0_boot_78 (fun σ3 e3 H locs hH hS => ?_)
        have hw := hw σ3 e3
        refine lv_aload_n hx hb dX0_boot_81 rfl (lv_at hl 2 rfl) ?_
        refine g0_3 C hH q746 dX0_boot_82 ?_
        refine lv_iload hx hb dX0_boot_85 (lv_at hl 6 rfl) ?_
        refine lv_iload hx hb dX0_boot_87 (lv_at hl 7 rfl) ?_
        refine kc_v (rn_v (As := [.int x4, .int x5]) (rest := []) C hH hS (by decide) rfl (by decide) (m2_begin l G a1 τ σ3 x4 x5 _ hw) (cwV 2 hts (lw_V q861 q862 q863 q159 q864) rfl rfl rfl kX2_begin ⟨Nat.le_of_ble_eq_true rfl, Nat.le_of_ble_eq_true rfl⟩) rfl hl.1 rfl (Nat.le_of_ble_eq_true rfl) dX0_boot_89 ⟨Nat.le_of_ble_eq_true rfl, Nat.le_of_ble_eq_true rfl⟩) hS (fun σ4 H locs hw hH hS => ?_)
        refine lv_aload_n hx hb dX0_boot_92 rfl (lv_at hl 2 rfl) ?_
        refine g0_4 C hH q747 dX0_boot_93 ?_
        refine lv_aload_n hx hb dX0_boot_96 rfl (lv_at hl 2 rfl) ?_
        refine g0_12 C hH q755 dX0_boot_97 ?_
        refine lv_iload_n hx hb dX0_boot_100 rfl (lv_at hl 4 rfl) ?_
        refine lv_iload_n hx hb dX0_boot_101 rfl (lv_at hl 5 rfl) ?_
        refine kc_v (rn_v (As := [.int (σ4 0 0 12), .int x2, .int x3]) (rest := []) C hH hS (by decide) rfl (by decide) (m3_begin l G a1 τ σ4 (σ4 0 0 12) x2 x3 _ hw) (cwV 3 hts (lw_V q867 q868 q869 q160 q870) rfl rfl rfl kX3_begin ⟨Nat.le_of_ble_eq_true rfl, Nat.le_of_ble_eq_true rfl⟩) rfl hl.1 rfl (Nat.le_of_ble_eq_true rfl) dX0_boot_102 ⟨Nat.le_of_ble_eq_true rfl, Nat.le_of_ble_eq_true rfl⟩) hS (fun σ5 H locs hw hH hS => ?_)
        refine lv_aload_n hx hb dX0_boot_105 rfl (lv_at hl 2 rfl) ?_
        refine g0_5 C hH q748 dX0_boot_106 ?_
        refine lv_aload_n hx hb dX0_boot_109 rfl (lv_at hl 2 rfl) ?_
        refine g0_12 C hH q755 dX0_boot_110 ?_
        refine kc_v (rn_v (As := [.int (σ5 0 0 12)]) (rest := []) C hH hS (by decide) rfl (by decide) (m5_begin l G a1 τ σ5 (σ5 0 0 12) _ hw) (cwV 1 hts (lw_V q871 q872 q873 q162 q874) rfl rfl rfl kX5_begin ⟨Nat.le_of_ble_eq_true rfl, Nat.le_of_ble_eq_true rfl⟩) rfl hl.1 rfl (Nat.le_of_ble_eq_true rfl) dX0_boot_113 ⟨Nat.le_of_ble_eq_true rfl, Nat.le_of_ble_eq_true rfl⟩) hS (fun σ6 H locs hw hH hS => ?_)
        refine lv_aload_n hx hb dX0_boot_116 rfl (lv_at hl 2 rfl) ?_
        refine g0_6 C hH q749 dX0_boot_117 ?_
        refine kc_v (rn_v (As := []) (rest := []) C hH hS (by decide) rfl (by decide) (m6_begin l G a1 τ σ6 _ hw) (cwV 0 hts (lw_V q875 q876 q877 q163 q878) rfl rfl rfl kX6_begin ⟨Nat.le_of_ble_eq_true rfl, Nat.le_of_ble_eq_true rfl⟩) rfl hl.1 rfl (Nat.le_of_ble_eq_true rfl) dX0_boot_120 ⟨Nat.le_of_ble_eq_true rfl, Nat.le_of_ble_eq_true rfl⟩) hS (fun σ7 H locs hw hH hS => ?_)
        refine lv_aload_n hx hb dX0_boot_123 rfl (lv_at hl 2 rfl) ?_
        refine g0_7 C hH q750 dX0_boot_124 ?_
        refine lv_aload_n hx hb dX0_boot_127 rfl (lv_at hl 2 rfl) ?_
        refine g0_12 C hH q755 dX0_boot_128 ?_
        refine kc_v (rn_v (As := [.int (σ7 0 0 12)]) (rest := []) C hH hS (by decide) rfl (by decide) (m8_begin l G a1 τ σ7 (σ7 0 0 12) _ hw) (cwV 1 hts (lw_V q879 q880 q881 q165 q882) rfl rfl rfl kX8_begin ⟨Nat.le_of_ble_eq_true rfl, Nat.le_of_ble_eq_true rfl⟩) rfl hl.1 rfl (Nat.le_of_ble_eq_true rfl) dX0_boot_131 ⟨Nat.le_of_ble_eq_true rfl, Nat.le_of_ble_eq_true rfl⟩) hS (fun σ8 H locs hw hH hS => ?_)
        refine lv_iconst (v := 0) hx hb dX0_boot_134 (by decide) ?_
        refine lv_istore (lv' := [(8, .int 0), (7, .int r2), (6, .int ((-1) <<< ((32 - x2) &&& 31))), (0, .ref (ga G 0 0)), (1, .int x1), (2, .int x2), (3, .int x3), (4, .int x4), (5, .int x5)]) hx hb dX0_boot_135 hl (by decide) rfl (fun ls hl => ?_)
        obtain ⟨n11, hw⟩ := hw
        refine k0_boot_L137 C r2 n11 σ8 0 hw H locs ls hH hS (lv_sub hl [3, 1, 0] rfl) (fun σ12 hw H locs ls hH hS hl => ?_)
        refine lv_aload_n hx hb dX0_boot_160 rfl (lv_at hl 0 rfl) ?_
        refine lv_iconst (v := 0) hx hb dX0_boot_161 (by decide) ?_
        refine p0_13 C hH hS q756 dX0_boot_162 (fun σ13 e13 H locs hH hS => ?_)
        have hw := hw σ13 e13
        refine lv_aload_n hx hb dX0_boot_165 rfl (lv_at hl 0 rfl) ?_
        refine lv_iconst (v := 1) hx hb dX0_boot_166 (by decide) ?_
        refine p0_11 C hH hS (Or.inr rfl) q754 dX0_boot_167 (fun σ14 e14 H locs hH hS => ?_)
        have hw := hw σ14 e14
        refine lv_iload hx hb dX0_boot_170 (lv_at hl 1 rfl) ?_
        exact rt_i C rfl hH hS hw dX0_boot_172
      have hw := hw.2 h
      refine lv_bipush (v := (-3)) hx hb dX0_boot_73 (by decide) ?_
      exact rt_i C rfl hH hS hw dX0_boot_75
    have hw := hw.2 h
    refine lv_bipush (v := (-2)) hx hb dX0_boot_56 (by decide) ?_
    exact rt_i C rfl hH hS hw dX0_boot_58
  have hw := hw.2 h
  refine lv_iconst (v := (-1)) hx hb dX0_boot_19 (by decide) ?_
  exact rt_i C rfl hH hS hw dX0_boot_20
/-! WebHost.echo([BIII)V -/
abbrev cX0_echo : ByteArray := prog_1_method_15_code
def yX0_echo : MethodName := ⟨RX0, "echo", "([BIII)V"⟩
theorem dX0_echo_0 : decode cX0_echo 0 = .ok (.iload_n 3, 1) := by decide +kernel
theorem dX0_echo_1 : decode cX0_echo 1 = .ok (.bipush 8, 2) := by decide +kernel
theorem dX0_echo_3 : decode cX0_echo 3 = .ok (.if_icmp .lt 39, 3) := by decide +kernel
theorem dX0_echo_6 : decode cX0_echo 6 = .ok (.iload_n 3, 1) := by decide +kernel
theorem dX0_echo_7 : decode cX0_echo 7 = .ok (.sipush 1480, 3) := by decide +kernel
theorem dX0_echo_10 : decode cX0_echo 10 = .ok (.if_icmp .gt 32, 3) := by decide +kernel
theorem dX0_echo_13 : decode cX0_echo 13 = .ok (.aload_n 1, 1) := by decide +kernel
theorem dX0_echo_14 : decode cX0_echo 14 = .ok (.iload_n 2, 1) := by decide +kernel
theorem dX0_echo_15 : decode cX0_echo 15 = .ok (.baload, 1) := by decide +kernel
theorem dX0_echo_16 : decode cX0_echo 16 = .ok (.bipush 8, 2) := by decide +kernel
theorem dX0_echo_18 : decode cX0_echo 18 = .ok (.if_icmp .ne 24, 3) := by decide +kernel
theorem dX0_echo_21 : decode cX0_echo 21 = .ok (.aload_n 1, 1) := by decide +kernel
theorem dX0_echo_22 : decode cX0_echo 22 = .ok (.iload_n 2, 1) := by decide +kernel
theorem dX0_echo_23 : decode cX0_echo 23 = .ok (.iconst 1, 1) := by decide +kernel
theorem dX0_echo_24 : decode cX0_echo 24 = .ok (.iadd, 1) := by decide +kernel
theorem dX0_echo_25 : decode cX0_echo 25 = .ok (.baload, 1) := by decide +kernel
theorem dX0_echo_26 : decode cX0_echo 26 = .ok (.ifCond .ne 16, 3) := by decide +kernel
theorem dX0_echo_29 : decode cX0_echo 29 = .ok (.iconst 0, 1) := by decide +kernel
theorem dX0_echo_30 : decode cX0_echo 30 = .ok (.aload_n 1, 1) := by decide +kernel
theorem dX0_echo_31 : decode cX0_echo 31 = .ok (.iload_n 2, 1) := by decide +kernel
theorem dX0_echo_32 : decode cX0_echo 32 = .ok (.iload_n 3, 1) := by decide +kernel
theorem dX0_echo_33 : decode cX0_echo 33 = .ok (.invokestatic 201, 3) := by decide +kernel
theorem dX0_echo_36 : decode cX0_echo 36 = .ok (.invokestatic 205, 3) := by decide +kernel
theorem dX0_echo_39 : decode cX0_echo 39 = .ok (.ifCond .eq 4, 3) := by decide +kernel
theorem dX0_echo_42 : decode cX0_echo 42 = .ok (.return_, 1) := by decide +kernel
theorem dX0_echo_43 : decode cX0_echo 43 = .ok (.aload_n 0, 1) := by decide +kernel
theorem dX0_echo_44 : decode cX0_echo 44 = .ok (.getfield 42, 3) := by decide +kernel
theorem dX0_echo_47 : decode cX0_echo 47 = .ok (.getfield 235, 3) := by decide +kernel
theorem dX0_echo_50 : decode cX0_echo 50 = .ok (.astore 5, 2) := by decide +kernel
theorem dX0_echo_52 : decode cX0_echo 52 = .ok (.aload_n 1, 1) := by decide +kernel
theorem dX0_echo_53 : decode cX0_echo 53 = .ok (.iload_n 2, 1) := by decide +kernel
theorem dX0_echo_54 : decode cX0_echo 54 = .ok (.aload 5, 2) := by decide +kernel
theorem dX0_echo_56 : decode cX0_echo 56 = .ok (.bipush 20, 2) := by decide +kernel
theorem dX0_echo_58 : decode cX0_echo 58 = .ok (.iload_n 3, 1) := by decide +kernel
theorem dX0_echo_59 : decode cX0_echo 59 = .ok (.invokestatic 101, 3) := by decide +kernel
theorem dX0_echo_62 : decode cX0_echo 62 = .ok (.aload 5, 2) := by decide +kernel
theorem dX0_echo_64 : decode cX0_echo 64 = .ok (.bipush 20, 2) := by decide +kernel
theorem dX0_echo_66 : decode cX0_echo 66 = .ok (.iconst 0, 1) := by decide +kernel
theorem dX0_echo_67 : decode cX0_echo 67 = .ok (.bastore, 1) := by decide +kernel
theorem dX0_echo_68 : decode cX0_echo 68 = .ok (.aload 5, 2) := by decide +kernel
theorem dX0_echo_70 : decode cX0_echo 70 = .ok (.bipush 22, 2) := by decide +kernel
theorem dX0_echo_72 : decode cX0_echo 72 = .ok (.iconst 0, 1) := by decide +kernel
theorem dX0_echo_73 : decode cX0_echo 73 = .ok (.invokestatic 237, 3) := by decide +kernel
theorem dX0_echo_76 : decode cX0_echo 76 = .ok (.aload 5, 2) := by decide +kernel
theorem dX0_echo_78 : decode cX0_echo 78 = .ok (.bipush 22, 2) := by decide +kernel
theorem dX0_echo_80 : decode cX0_echo 80 = .ok (.iconst 0, 1) := by decide +kernel
theorem dX0_echo_81 : decode cX0_echo 81 = .ok (.aload 5, 2) := by decide +kernel
theorem dX0_echo_83 : decode cX0_echo 83 = .ok (.bipush 20, 2) := by decide +kernel
theorem dX0_echo_85 : decode cX0_echo 85 = .ok (.iload_n 3, 1) := by decide +kernel
theorem dX0_echo_86 : decode cX0_echo 86 = .ok (.invokestatic 201, 3) := by decide +kernel
theorem dX0_echo_89 : decode cX0_echo 89 = .ok (.invokestatic 205, 3) := by decide +kernel
theorem dX0_echo_92 : decode cX0_echo 92 = .ok (.invokestatic 237, 3) := by decide +kernel
theorem dX0_echo_95 : decode cX0_echo 95 = .ok (.aload_n 0, 1) := by decide +kernel
theorem dX0_echo_96 : decode cX0_echo 96 = .ok (.getfield 42, 3) := by decide +kernel
theorem dX0_echo_99 : decode cX0_echo 99 = .ok (.iload 4, 2) := by decide +kernel
theorem dX0_echo_101 : decode cX0_echo 101 = .ok (.iconst 1, 1) := by decide +kernel
theorem dX0_echo_102 : decode cX0_echo 102 = .ok (.iload_n 3, 1) := by decide +kernel
theorem dX0_echo_103 : decode cX0_echo 103 = .ok (.invokevirtual 240, 3) := by decide +kernel
theorem dX0_echo_106 : decode cX0_echo 106 = .ok (.return_, 1) := by decide +kernel
def rmX0_echo : Room := { frames := 5, cells := 0, slots := 0, locals := 127 }
theorem kX0_echo : yX0_echo.cls = "WebHost" ∧ yX0_echo.cls ≠ "java/lang/invoke/MethodHandle" ∧ yX0_echo.cls ≠ "java/lang/invoke/VarHandle" ∧ (parseMethodDescriptor yX0_echo.desc).map (fun d => d.parameters.length) = some 4 := by decide +kernel
def w0_echo (σ : St) (k1 : Nat) (i1 : Nat) (x2 : Int32) (x3 : Int32) (x4 : Int32) (Q : St → Prop) : Prop := (x3 < 8 → Q σ) ∧ (¬ x3 < 8 → ((1480 < x3 → Q σ) ∧ (¬ 1480 < x3 → (vp_in x2 (alen σ k1 i1) ∧ (by8 (σ k1 i1 x2.toNatClampNeg) → ((¬ (σ k1 i1 x2.toNatClampNeg) = 8 → Q σ) ∧ ((σ k1 i1 x2.toNatClampNeg) = 8 → (vp_in (x2 + 1) (alen σ k1 i1) ∧ (by8 (σ k1 i1 (x2 + 1).toNatClampNeg) → ((¬ (σ k1 i1 (x2 + 1).toNatClampNeg) = 0 → Q σ) ∧ ((σ k1 i1 (x2 + 1).toNatClampNeg) = 0 → (w19_added σ 0 k1 i1 x2 x3 (fun r1 => (w19_folded σ r1 (fun r2 => ((r2 = 0 → (w19_copy σ k1 i1 x2 36 0 20 x3 (fun σ3 => (vp_in 20 1500 ∧ (∀ σ4, σ4 = up3 σ3 36 0 (20 : Int32).toNatClampNeg (0 : Int32).toInt8.toInt32 → (w19_putTwo σ4 36 0 22 0 (fun σ5 => (w19_added σ5 0 36 0 20 x3 (fun r6 => (w19_folded σ5 r6 (fun r7 => (w19_putTwo σ5 36 0 22 r7 (fun σ8 => (w5_send σ8 x4 1 x3 (fun σ9 => (Q σ9)))))))))))))))) ∧ (¬ r2 = 0 → Q σ)))))))))))))))))
set_option maxHeartbeats 4000000 in
theorem m0_echo (l : Launch) (G : Gh) (a1 : Nat → Nat → Nat) (τ : St) (σ : St) (k1 : Nat) (i1 : Nat) (x2 : Int32) (x3 : Int32) (x4 : Int32) (hk1 : abc k1 i1 = true) (Q : St → Prop) (hw : w0_echo σ k1 i1 x2 x3 x4 Q) : Met l yX0_echo (ws_ yX0_echo cX0_echo 6 none) rmX0_echo (PcS G a1 (cmb σ τ) [.ref (ga G 0 0), .ref (adr G a1 k1 i1), .int x2, .int x3, .int x4]) (QVs G a1 (fun u => cmb u τ) Q) 0 0 (gA G) := by
  refine met_w (by decide) (Nat.le_of_ble_eq_true rfl) ?_
  intro p e s m below meth c ls C hH hS hl
  have C : Cx p e s m _ meth c cX0_echo 6 none "WebHost" G := C
  have hl : lv_has ls 6 [(0, .ref (ga G 0 0)), (1, .ref (adr G a1 k1 i1)), (2, .int x2), (3, .int x3), (4, .int x4)] := hl
  have hx := C.1
  have hb := C.2.1
  have hown := C.2.2.2.2.2.1
  have hts := C.2.2.2.2.2.2.1
  obtain ⟨locs, hlocs⟩ : ∃ z : List Loc, z = [] := ⟨_, rfl⟩
  obtain ⟨H, hHe⟩ : ∃ z : Heap, z = s.heap := ⟨_, rfl⟩
  have hH : Hd G a1 (cmb σ τ) H := by rw [hHe]; exact hH
  have hS : va_S (gA G) s.heap H locs := by rw [hHe, hlocs]; exact hS
  refine W.heap0 hHe.symm hlocs.symm ?_
  refine lv_iload_n hx hb dX0_echo_0 rfl (lv_at hl 3 rfl) ?_
  refine lv_bipush (v := 8) hx hb dX0_echo_1 (by decide) ?_
  refine lv_icmp_lt (tgt := 42) hx hb dX0_echo_3 (by decide) (fun h => ?_) (fun h => ?_)
  · have hw := hw.1 h
    exact rt_v C hH hS hw dX0_echo_42
  have hw := hw.2 h
  refine lv_iload_n hx hb dX0_echo_6 rfl (lv_at hl 3 rfl) ?_
  refine lv_sipush (v := 1480) hx hb dX0_echo_7 (by decide) ?_
  refine lv_icmp_gt (tgt := 42) hx hb dX0_echo_10 (by decide) (fun h => ?_) (fun h => ?_)
  · have hw := hw.1 h
    exact rt_v C hH hS hw dX0_echo_42
  have hw := hw.2 h
  refine lv_aload_n hx hb dX0_echo_13 rfl (lv_at hl 1 rfl) ?_
  refine lv_iload_n hx hb dX0_echo_14 rfl (lv_at hl 2 rfl) ?_
  refine lb_c C hH hk1 rfl hw.1 dX0_echo_15 (fun hz => ?_)
  have hw := hw.2 hz
  refine lv_bipush (v := 8) hx hb dX0_echo_16 (by decide) ?_
  refine lv_icmp_ne (tgt := 42) hx hb dX0_echo_18 (by decide) (fun h => ?_) (fun h => ?_)
  · have hw := hw.1 h
    exact rt_v C hH hS hw dX0_echo_42
  have hw := hw.2 h
  refine lv_aload_n hx hb dX0_echo_21 rfl (lv_at hl 1 rfl) ?_
  refine lv_iload_n hx hb dX0_echo_22 rfl (lv_at hl 2 rfl) ?_
  refine lv_iconst (v := 1) hx hb dX0_echo_23 (by decide) ?_
  refine lv_iadd hx hb dX0_echo_24 ?_
  refine lb_c C hH hk1 rfl hw.1 dX0_echo_25 (fun hz => ?_)
  have hw := hw.2 hz
  refine lv_if_ne (tgt := 42) hx hb dX0_echo_26 (by decide) (fun h => ?_) (fun h => ?_)
  · have hw := hw.1 h
    exact rt_v C hH hS hw dX0_echo_42
  have hw := hw.2 h
  refine lv_iconst (v := 0) hx hb dX0_echo_29 (by decide) ?_
  refine lv_aload_n hx hb dX0_echo_30 rfl (lv_at hl 1 rfl) ?_
  refine lv_iload_n hx hb dX0_echo_31 rfl (lv_at hl 2 rfl) ?_
  refine lv_iload_n hx hb dX0_echo_32 rfl (lv_at hl 3 rfl) ?_
  refine kc_ip (rn_sp (As := [.int 0, .ref (adr G a1 k1 i1), .int x2, .int x3]) (rest := []) C hH hS (m19_added l G a1 τ σ H 0 k1 i1 x2 x3 hk1 _ hw) (va_cwS 4 hts (lw_S q1100 q990 q176 q991) rfl rfl rfl kX19_added.2 ⟨Nat.le_of_ble_eq_true rfl, Nat.le_of_ble_eq_true rfl⟩) rfl hl.1 rfl (Nat.le_of_ble_eq_true rfl) dX0_echo_33 ⟨Nat.le_of_ble_eq_true rfl, Nat.le_of_ble_eq_true rfl⟩) hS (fun r1 locs hw hS => ?_)
  refine kc_ip (rn_sp (As := [.int r1]) (rest := []) C hH hS (m19_folded l G a1 τ σ H r1 _ hw) (va_cwS 1 hts (lw_S q1101 q993 q176 q994) rfl rfl rfl kX19_folded.2 ⟨Nat.le_of_ble_eq_true rfl, Nat.le_of_ble_eq_true rfl⟩) rfl hl.1 rfl (Nat.le_of_ble_eq_true rfl) dX0_echo_36 ⟨Nat.le_of_ble_eq_true rfl, Nat.le_of_ble_eq_true rfl⟩) hS (fun r2 locs hw hS => ?_)
  refine lv_if_eq (tgt := 43) hx hb dX0_echo_39 (by decide) (fun h => ?_) (fun h => ?_)
  · have hw := hw.1 h
    refine lv_aload_n hx hb dX0_echo_43 rfl (lv_at hl 0 rfl) ?_
    refine g0_5 C hH q748 dX0_echo_44 ?_
    refine g5_3 C hH q331 dX0_echo_47 ?_
    refine lv_astore (lv' := [(5, .ref (adr G a1 36 0)), (0, .ref (ga G 0 0)), (1, .ref (adr G a1 k1 i1)), (2, .int x2), (3, .int x3), (4, .int x4)]) hx hb dX0_echo_50 hl (by decide) rfl (fun ls hl => ?_)
    refine lv_aload_n hx hb dX0_echo_52 rfl (lv_at hl 2 rfl) ?_
    refine lv_iload_n hx hb dX0_echo_53 rfl (lv_at hl 3 rfl) ?_
    refine lv_aload hx hb dX0_echo_54 (lv_at hl 0 rfl) ?_
    refine lv_bipush (v := 20) hx hb dX0_echo_56 (by decide) ?_
    refine lv_iload_n hx hb dX0_echo_58 rfl (lv_at hl 4 rfl) ?_
    refine kc_v (rn_s (As := [.ref (adr G a1 k1 i1), .int x2, .ref (adr G a1 36 0), .int 20, .int x3]) (rest := []) C hH hS (m19_copy l G a1 τ σ k1 i1 x2 36 0 20 x3 hk1 (by decide) _ hw) (va_cwS 5 hts (lw_S q805 q806 q176 q807) rfl rfl rfl kX19_copy.2 ⟨Nat.le_of_ble_eq_true rfl, Nat.le_of_ble_eq_true rfl⟩) rfl hl.1 rfl (Nat.le_of_ble_eq_true rfl) dX0_echo_59 ⟨Nat.le_of_ble_eq_true rfl, Nat.le_of_ble_eq_true rfl⟩) hS (fun σ3 H locs hw hH hS => ?_)
    refine lv_aload hx hb dX0_echo_62 (lv_at hl 0 rfl) ?_
    refine lv_bipush (v := 20) hx hb dX0_echo_64 (by decide) ?_
    refine lv_iconst (v := 0) hx hb dX0_echo_66 (by decide) ?_
    refine s36 C hH hS hw.1 dX0_echo_67 (fun σ4 e4 H locs hH hS => ?_)
    have hw := hw.2 σ4 e4
    refine lv_aload hx hb dX0_echo_68 (lv_at hl 0 rfl) ?_
    refine lv_bipush (v := 22) hx hb dX0_echo_70 (by decide) ?_
    refine lv_iconst (v := 0) hx hb dX0_echo_72 (by decide) ?_
    refine kc_v (rn_s (As := [.ref (adr G a1 36 0), .int 22, .int 0]) (rest := []) C hH hS (m19_putTwo l G a1 τ σ4 36 0 22 0 (by decide) _ hw) (va_cwS 3 hts (lw_S q1111 q794 q176 q795) rfl rfl rfl kX19_putTwo.2 ⟨Nat.le_of_ble_eq_true rfl, Nat.le_of_ble_eq_true rfl⟩) rfl hl.1 rfl (Nat.le_of_ble_eq_true rfl) dX0_echo_73 ⟨Nat.le_of_ble_eq_true rfl, Nat.le_of_ble_eq_true rfl⟩) hS (fun σ5 H locs hw hH hS => ?_)
    refine lv_aload hx hb dX0_echo_76 (lv_at hl 0 rfl) ?_
    refine lv_bipush (v := 22) hx hb dX0_echo_78 (by decide) ?_
    refine lv_iconst (v := 0) hx hb dX0_echo_80 (by decide) ?_
    refine lv_aload hx hb dX0_echo_81 (lv_at hl 0 rfl) ?_
    refine lv_bipush (v := 20) hx hb dX0_echo_83 (by decide) ?_
    refine lv_iload_n hx hb dX0_echo_85 rfl (lv_at hl 4 rfl) ?_
    refine kc_ip (rn_sp (As := [.int 0, .ref (adr G a1 36 0), .int 20, .int x3]) (rest := [.int 22, .ref (adr G a1 36 0)]) C hH hS (m19_added l G a1 τ σ5 H 0 36 0 20 x3 (by decide) _ hw) (va_cwS 4 hts (lw_S q1100 q990 q176 q991) rfl rfl rfl kX19_added.2 ⟨Nat.le_of_ble_eq_true rfl, Nat.le_of_ble_eq_true rfl⟩) rfl hl.1 rfl (Nat.le_of_ble_eq_true rfl) dX0_echo_86 ⟨Nat.le_of_ble_eq_true rfl, Nat.le_of_ble_eq_true rfl⟩) hS (fun r6 locs hw hS => ?_)
    refine kc_ip (rn_sp (As := [.int r6]) (rest := [.int 22, .ref (adr G a1 36 0)]) C hH hS (m19_folded l G a1 τ σ5 H r6 _ hw) (va_cwS 1 hts (lw_S q1101 q993 q176 q994) rfl rfl rfl kX19_folded.2 ⟨Nat.le_of_ble_eq_true rfl, Nat.le_of_ble_eq_true rfl⟩) rfl hl.1 rfl (Nat.le_of_ble_eq_true rfl) dX0_echo_89 ⟨Nat.le_of_ble_eq_true rfl, Nat.le_of_ble_eq_true rfl⟩) hS (fun r7 locs hw hS => ?_)
    refine kc_v (rn_s (As := [.ref (adr G a1 36 0), .int 22, .int r7]) (rest := []) C hH hS (m19_putTwo l G a1 τ σ5 36 0 22 r7 (by decide) _ hw) (va_cwS 3 hts (lw_S q1111 q794 q176 q795) rfl rfl rfl kX19_putTwo.2 ⟨Nat.le_of_ble_eq_true rfl, Nat.le_of_ble_eq_true rfl⟩) rfl hl.1 rfl (Nat.le_of_ble_eq_true rfl) dX0_echo_92 ⟨Nat.le_of_ble_eq_true rfl, Nat.le_of_ble_eq_true rfl⟩) hS (fun σ8 H locs hw hH hS => ?_)
    refine lv_aload_n hx hb dX0_echo_95 rfl (lv_at hl 1 rfl) ?_
    refine g0_5 C hH q748 dX0_echo_96 ?_
    refine lv_iload hx hb dX0_echo_99 (lv_at hl 5 rfl) ?_
    refine lv_iconst (v := 1) hx hb dX0_echo_101 (by decide) ?_
    refine lv_iload_n hx hb dX0_echo_102 rfl (lv_at hl 4 rfl) ?_
    refine kc_v (rn_v (As := [.int x4, .int 1, .int x3]) (rest := []) C hH hS (by decide) rfl (by decide) (m5_send l G a1 τ σ8 x4 1 x3 _ hw) (cwV 3 hts (lw_V q1112 q997 q998 q162 q999) rfl rfl rfl kX5_send ⟨Nat.le_of_ble_eq_true rfl, Nat.le_of_ble_eq_true rfl⟩) rfl hl.1 rfl (Nat.le_of_ble_eq_true rfl) dX0_echo_103 ⟨Nat.le_of_ble_eq_true rfl, Nat.le_of_ble_eq_true rfl⟩) hS (fun σ9 H locs hw hH hS => ?_)
    exact rt_v C hH hS hw dX0_echo_106
  have hw := hw.2 h
  exact rt_v C hH hS hw dX0_echo_42
/-! WebHost$Wire.send(IIIIIII[BII)V -/
abbrev cX8_send : ByteArray := prog_15_method_4_code
def yX8_send : MethodName := ⟨RX8, "send", "(IIIIIII[BII)V"⟩
theorem dX8_send_0 : decode cX8_send 0 = .ok (.aload_n 0, 1) := by decide +kernel
theorem dX8_send_1 : decode cX8_send 1 = .ok (.getfield 9, 3) := by decide +kernel
theorem dX8_send_4 : decode cX8_send 4 = .ok (.getfield 46, 3) := by decide +kernel
theorem dX8_send_7 : decode cX8_send 7 = .ok (.astore 11, 2) := by decide +kernel
theorem dX8_send_9 : decode cX8_send 9 = .ok (.iload 6, 2) := by decide +kernel
theorem dX8_send_11 : decode cX8_send 11 = .ok (.iconst 2, 1) := by decide +kernel
theorem dX8_send_12 : decode cX8_send 12 = .ok (.iand, 1) := by decide +kernel
theorem dX8_send_13 : decode cX8_send 13 = .ok (.ifCond .eq 8, 3) := by decide +kernel
theorem dX8_send_16 : decode cX8_send 16 = .ok (.bipush 24, 2) := by decide +kernel
theorem dX8_send_18 : decode cX8_send 18 = .ok (.goto 5, 3) := by decide +kernel
theorem dX8_send_21 : decode cX8_send 21 = .ok (.bipush 20, 2) := by decide +kernel
theorem dX8_send_23 : decode cX8_send 23 = .ok (.istore 12, 2) := by decide +kernel
theorem dX8_send_25 : decode cX8_send 25 = .ok (.aload 11, 2) := by decide +kernel
theorem dX8_send_27 : decode cX8_send 27 = .ok (.bipush 20, 2) := by decide +kernel
theorem dX8_send_29 : decode cX8_send 29 = .ok (.iload_n 3, 1) := by decide +kernel
theorem dX8_send_30 : decode cX8_send 30 = .ok (.invokestatic 52, 3) := by decide +kernel
theorem dX8_send_33 : decode cX8_send 33 = .ok (.aload 11, 2) := by decide +kernel
theorem dX8_send_35 : decode cX8_send 35 = .ok (.bipush 22, 2) := by decide +kernel
theorem dX8_send_37 : decode cX8_send 37 = .ok (.iload_n 2, 1) := by decide +kernel
theorem dX8_send_38 : decode cX8_send 38 = .ok (.invokestatic 52, 3) := by decide +kernel
theorem dX8_send_41 : decode cX8_send 41 = .ok (.aload 11, 2) := by decide +kernel
theorem dX8_send_43 : decode cX8_send 43 = .ok (.bipush 24, 2) := by decide +kernel
theorem dX8_send_45 : decode cX8_send 45 = .ok (.iload 4, 2) := by decide +kernel
theorem dX8_send_47 : decode cX8_send 47 = .ok (.invokestatic 58, 3) := by decide +kernel
theorem dX8_send_50 : decode cX8_send 50 = .ok (.aload 11, 2) := by decide +kernel
theorem dX8_send_52 : decode cX8_send 52 = .ok (.bipush 28, 2) := by decide +kernel
theorem dX8_send_54 : decode cX8_send 54 = .ok (.iload 5, 2) := by decide +kernel
theorem dX8_send_56 : decode cX8_send 56 = .ok (.invokestatic 58, 3) := by decide +kernel
theorem dX8_send_59 : decode cX8_send 59 = .ok (.aload 11, 2) := by decide +kernel
theorem dX8_send_61 : decode cX8_send 61 = .ok (.bipush 32, 2) := by decide +kernel
theorem dX8_send_63 : decode cX8_send 63 = .ok (.iload 12, 2) := by decide +kernel
theorem dX8_send_65 : decode cX8_send 65 = .ok (.iconst 4, 1) := by decide +kernel
theorem dX8_send_66 : decode cX8_send 66 = .ok (.idiv, 1) := by decide +kernel
theorem dX8_send_67 : decode cX8_send 67 = .ok (.iconst 4, 1) := by decide +kernel
theorem dX8_send_68 : decode cX8_send 68 = .ok (.ishl, 1) := by decide +kernel
theorem dX8_send_69 : decode cX8_send 69 = .ok (.i2b, 1) := by decide +kernel
theorem dX8_send_70 : decode cX8_send 70 = .ok (.bastore, 1) := by decide +kernel
theorem dX8_send_71 : decode cX8_send 71 = .ok (.aload 11, 2) := by decide +kernel
theorem dX8_send_73 : decode cX8_send 73 = .ok (.bipush 33, 2) := by decide +kernel
theorem dX8_send_75 : decode cX8_send 75 = .ok (.iload 6, 2) := by decide +kernel
theorem dX8_send_77 : decode cX8_send 77 = .ok (.i2b, 1) := by decide +kernel
theorem dX8_send_78 : decode cX8_send 78 = .ok (.bastore, 1) := by decide +kernel
theorem dX8_send_79 : decode cX8_send 79 = .ok (.aload 11, 2) := by decide +kernel
theorem dX8_send_81 : decode cX8_send 81 = .ok (.bipush 34, 2) := by decide +kernel
theorem dX8_send_83 : decode cX8_send 83 = .ok (.iload 7, 2) := by decide +kernel
theorem dX8_send_85 : decode cX8_send 85 = .ok (.invokestatic 52, 3) := by decide +kernel
theorem dX8_send_88 : decode cX8_send 88 = .ok (.aload 11, 2) := by decide +kernel
theorem dX8_send_90 : decode cX8_send 90 = .ok (.bipush 36, 2) := by decide +kernel
theorem dX8_send_92 : decode cX8_send 92 = .ok (.iconst 0, 1) := by decide +kernel
theorem dX8_send_93 : decode cX8_send 93 = .ok (.invokestatic 58, 3) := by decide +kernel
theorem dX8_send_96 : decode cX8_send 96 = .ok (.iload 12, 2) := by decide +kernel
theorem dX8_send_98 : decode cX8_send 98 = .ok (.bipush 24, 2) := by decide +kernel
theorem dX8_send_100 : decode cX8_send 100 = .ok (.if_icmp .ne 12, 3) := by decide +kernel
theorem dX8_send_103 : decode cX8_send 103 = .ok (.aload 11, 2) := by decide +kernel
theorem dX8_send_105 : decode cX8_send 105 = .ok (.bipush 40, 2) := by decide +kernel
theorem dX8_send_107 : decode cX8_send 107 = .ok (.ldc 61, 2) := by decide +kernel
theorem dX8_send_109 : decode cX8_send 109 = .ok (.invokestatic 58, 3) := by decide +kernel
theorem dX8_send_112 : decode cX8_send 112 = .ok (.iload 10, 2) := by decide +kernel
theorem dX8_send_114 : decode cX8_send 114 = .ok (.ifCond .le 19, 3) := by decide +kernel
theorem dX8_send_117 : decode cX8_send 117 = .ok (.aload 8, 2) := by decide +kernel
theorem dX8_send_119 : decode cX8_send 119 = .ok (.iload 9, 2) := by decide +kernel
theorem dX8_send_121 : decode cX8_send 121 = .ok (.aload 11, 2) := by decide +kernel
theorem dX8_send_123 : decode cX8_send 123 = .ok (.bipush 20, 2) := by decide +kernel
theorem dX8_send_125 : decode cX8_send 125 = .ok (.iload 12, 2) := by decide +kernel
theorem dX8_send_127 : decode cX8_send 127 = .ok (.iadd, 1) := by decide +kernel
theorem dX8_send_128 : decode cX8_send 128 = .ok (.iload 10, 2) := by decide +kernel
theorem dX8_send_130 : decode cX8_send 130 = .ok (.invokestatic 62, 3) := by decide +kernel
theorem dX8_send_133 : decode cX8_send 133 = .ok (.iload 12, 2) := by decide +kernel
theorem dX8_send_135 : decode cX8_send 135 = .ok (.iload 10, 2) := by decide +kernel
theorem dX8_send_137 : decode cX8_send 137 = .ok (.iadd, 1) := by decide +kernel
theorem dX8_send_138 : decode cX8_send 138 = .ok (.istore 13, 2) := by decide +kernel
theorem dX8_send_140 : decode cX8_send 140 = .ok (.aload_n 0, 1) := by decide +kernel
theorem dX8_send_141 : decode cX8_send 141 = .ok (.getfield 19, 3) := by decide +kernel
theorem dX8_send_144 : decode cX8_send 144 = .ok (.bipush 16, 2) := by decide +kernel
theorem dX8_send_146 : decode cX8_send 146 = .ok (.iushr, 1) := by decide +kernel
theorem dX8_send_147 : decode cX8_send 147 = .ok (.aload_n 0, 1) := by decide +kernel
theorem dX8_send_148 : decode cX8_send 148 = .ok (.getfield 19, 3) := by decide +kernel
theorem dX8_send_151 : decode cX8_send 151 = .ok (.ldc 66, 2) := by decide +kernel
theorem dX8_send_153 : decode cX8_send 153 = .ok (.iand, 1) := by decide +kernel
theorem dX8_send_154 : decode cX8_send 154 = .ok (.iadd, 1) := by decide +kernel
theorem dX8_send_155 : decode cX8_send 155 = .ok (.iload_n 1, 1) := by decide +kernel
theorem dX8_send_156 : decode cX8_send 156 = .ok (.bipush 16, 2) := by decide +kernel
theorem dX8_send_158 : decode cX8_send 158 = .ok (.iushr, 1) := by decide +kernel
theorem dX8_send_159 : decode cX8_send 159 = .ok (.iadd, 1) := by decide +kernel
theorem dX8_send_160 : decode cX8_send 160 = .ok (.iload_n 1, 1) := by decide +kernel
theorem dX8_send_161 : decode cX8_send 161 = .ok (.ldc 66, 2) := by decide +kernel
theorem dX8_send_163 : decode cX8_send 163 = .ok (.iand, 1) := by decide +kernel
theorem dX8_send_164 : decode cX8_send 164 = .ok (.iadd, 1) := by decide +kernel
theorem dX8_send_165 : decode cX8_send 165 = .ok (.bipush 6, 2) := by decide +kernel
theorem dX8_send_167 : decode cX8_send 167 = .ok (.iadd, 1) := by decide +kernel
theorem dX8_send_168 : decode cX8_send 168 = .ok (.iload 13, 2) := by decide +kernel
theorem dX8_send_170 : decode cX8_send 170 = .ok (.iadd, 1) := by decide +kernel
theorem dX8_send_171 : decode cX8_send 171 = .ok (.istore 14, 2) := by decide +kernel
theorem dX8_send_173 : decode cX8_send 173 = .ok (.aload 11, 2) := by decide +kernel
theorem dX8_send_175 : decode cX8_send 175 = .ok (.bipush 36, 2) := by decide +kernel
theorem dX8_send_177 : decode cX8_send 177 = .ok (.iload 14, 2) := by decide +kernel
theorem dX8_send_179 : decode cX8_send 179 = .ok (.aload 11, 2) := by decide +kernel
theorem dX8_send_181 : decode cX8_send 181 = .ok (.bipush 20, 2) := by decide +kernel
theorem dX8_send_183 : decode cX8_send 183 = .ok (.iload 13, 2) := by decide +kernel
theorem dX8_send_185 : decode cX8_send 185 = .ok (.invokestatic 67, 3) := by decide +kernel
theorem dX8_send_188 : decode cX8_send 188 = .ok (.invokestatic 71, 3) := by decide +kernel
theorem dX8_send_191 : decode cX8_send 191 = .ok (.invokestatic 52, 3) := by decide +kernel
theorem dX8_send_194 : decode cX8_send 194 = .ok (.aload_n 0, 1) := by decide +kernel
theorem dX8_send_195 : decode cX8_send 195 = .ok (.getfield 9, 3) := by decide +kernel
theorem dX8_send_198 : decode cX8_send 198 = .ok (.iload_n 1, 1) := by decide +kernel
theorem dX8_send_199 : decode cX8_send 199 = .ok (.bipush 6, 2) := by decide +kernel
theorem dX8_send_201 : decode cX8_send 201 = .ok (.iload 13, 2) := by decide +kernel
theorem dX8_send_203 : decode cX8_send 203 = .ok (.invokevirtual 75, 3) := by decide +kernel
theorem dX8_send_206 : decode cX8_send 206 = .ok (.return_, 1) := by decide +kernel
def rmX8_send : Room := { frames := 5, cells := 0, slots := 0, locals := 127 }
theorem kX8_send : yX8_send.cls = "WebHost$Wire" ∧ yX8_send.cls ≠ "java/lang/invoke/MethodHandle" ∧ yX8_send.cls ≠ "java/lang/invoke/VarHandle" ∧ (parseMethodDescriptor yX8_send.desc).map (fun d => d.parameters.length) = some 10 := by decide +kernel
def w8_send_J133 (σ : St) (x1 : Int32) (x10 : Int32) (x12 : Int32) (Q : St → Prop) : Prop := w19_added σ ((((((ushr (σ 8 0 2) 16) + ((σ 8 0 2) &&& 65535)) + (ushr x1 16)) + (x1 &&& 65535)) + 6) + (x12 + x10)) 36 0 20 (x12 + x10) (fun r9 => (w19_folded σ r9 (fun r10 => (w19_putTwo σ 36 0 36 r10 (fun σ11 => (w5_send σ11 x1 6 (x12 + x10) (fun σ12 => (Q σ12))))))))
set_option maxHeartbeats 4000000 in
theorem k8_send_J133 {p : Program} {l : Launch} {e : Env} {s : State} {m : MethodId} {args : Array Value} {below : List Frame} {meth : Method} {c : Code} {G : Gh} {a1 : Nat → Nat → Nat} {τ : St} {Q : St → Prop} (C : Cx p e s m args meth c cX8_send 15 none "WebHost$Wire" G) (σ : St) (x1 : Int32) (x10 : Int32) (x12 : Int32) (hw : w8_send_J133 σ x1 x10 x12 Q) (H : Heap) (locs : List Loc) (ls : Array Slot) (hH : Hd G a1 (cmb σ τ) H) (hS : va_S (gA G) s.heap H locs) (hl : lv_has ls 15 [(0, .ref (ga G 8 0)), (1, .int x1), (10, .int x10), (11, .ref (adr G a1 36 0)), (12, .int x12)]) : W p l e rmX8_send s m args below meth c H locs 0 0 (MQ below (QVs G a1 (fun u => cmb u τ) Q) args s 0 0 (gA G)) (F0 m 133 ls []) := by
  have hx := C.1
  have hb := C.2.1
  have hown := C.2.2.2.2.2.1
  have hts := C.2.2.2.2.2.2.1
  refine lv_iload hx hb dX8_send_133 (lv_at hl 4 rfl) ?_
  refine lv_iload hx hb dX8_send_135 (lv_at hl 2 rfl) ?_
  refine lv_iadd hx hb dX8_send_137 ?_
  refine lv_istore (lv' := [(13, .int (x12 + x10)), (0, .ref (ga G 8 0)), (1, .int x1), (10, .int x10), (11, .ref (adr G a1 36 0)), (12, .int x12)]) hx hb dX8_send_138 hl (by decide) rfl (fun ls hl => ?_)
  refine lv_aload_n hx hb dX8_send_140 rfl (lv_at hl 1 rfl) ?_
  refine g8_2 C hH q405 dX8_send_141 ?_
  refine lv_bipush (v := 16) hx hb dX8_send_144 (by decide) ?_
  refine lv_iushr (v := ushr (σ 8 0 2) 16) hx hb dX8_send_146 rfl ?_
  refine lv_aload_n hx hb dX8_send_147 rfl (lv_at hl 1 rfl) ?_
  refine g8_2 C hH q405 dX8_send_148 ?_
  refine lv_ldc (v := 65535) hx hb hown (hts _ q988) dX8_send_151 ?_
  refine lv_iand hx hb dX8_send_153 ?_
  refine lv_iadd hx hb dX8_send_154 ?_
  refine lv_iload_n hx hb dX8_send_155 rfl (lv_at hl 2 rfl) ?_
  refine lv_bipush (v := 16) hx hb dX8_send_156 (by decide) ?_
  refine lv_iushr (v := ushr x1 16) hx hb dX8_send_158 rfl ?_
  refine lv_iadd hx hb dX8_send_159 ?_
  refine lv_iload_n hx hb dX8_send_160 rfl (lv_at hl 2 rfl) ?_
  refine lv_ldc (v := 65535) hx hb hown (hts _ q988) dX8_send_161 ?_
  refine lv_iand hx hb dX8_send_163 ?_
  refine lv_iadd hx hb dX8_send_164 ?_
  refine lv_bipush (v := 6) hx hb dX8_send_165 (by decide) ?_
  refine lv_iadd hx hb dX8_send_167 ?_
  refine lv_iload hx hb dX8_send_168 (lv_at hl 0 rfl) ?_
  refine lv_iadd hx hb dX8_send_170 ?_
  refine lv_istore (lv' := [(14, .int ((((((ushr (σ 8 0 2) 16) + ((σ 8 0 2) &&& 65535)) + (ushr x1 16)) + (x1 &&& 65535)) + 6) + (x12 + x10))), (13, .int (x12 + x10)), (0, .ref (ga G 8 0)), (1, .int x1), (10, .int x10), (11, .ref (adr G a1 36 0)), (12, .int x12)]) hx hb dX8_send_171 hl (by decide) rfl (fun ls hl => ?_)
  refine lv_aload hx hb dX8_send_173 (lv_at hl 5 rfl) ?_
  refine lv_bipush (v := 36) hx hb dX8_send_175 (by decide) ?_
  refine lv_iload hx hb dX8_send_177 (lv_at hl 0 rfl) ?_
  refine lv_aload hx hb dX8_send_179 (lv_at hl 5 rfl) ?_
  refine lv_bipush (v := 20) hx hb dX8_send_181 (by decide) ?_
  refine lv_iload hx hb dX8_send_183 (lv_at hl 1 rfl) ?_
  refine kc_ip (rn_sp (As := [.int ((((((ushr (σ 8 0 2) 16) + ((σ 8 0 2) &&& 65535)) + (ushr x1 16)) + (x1 &&& 65535)) + 6) + (x12 + x10)), .ref (adr G a1 36 0), .int 20, .int (x12 + x10)]) (rest := [.int 36, .ref (adr G a1 36 0)]) C hH hS (m19_added l G a1 τ σ H ((((((ushr (σ 8 0 2) 16) + ((σ 8 0 2) &&& 65535)) + (ushr x1 16)) + (x1 &&& 65535)) + 6) + (x12 + x10)) 36 0 20 (x12 + x10) (by decide) _ hw) (va_cwS 4 hts (lw_S q989 q990 q176 q991) rfl rfl rfl kX19_added.2 ⟨Nat.le_of_ble_eq_true rfl, Nat.le_of_ble_eq_true rfl⟩) rfl hl.1 rfl (Nat.le_of_ble_eq_true rfl) dX8_send_185 ⟨Nat.le_of_ble_eq_true rfl, Nat.le_of_ble_eq_true rfl⟩) hS (fun r9 locs hw hS => ?_)
  refine kc_ip (rn_sp (As := [.int r9]) (rest := [.int 36, .ref (adr G a1 36 0)]) C hH hS (m19_folded l G a1 τ σ H r9 _ hw) (va_cwS 1 hts (lw_S q992 q993 q176 q994) rfl rfl rfl kX19_folded.2 ⟨Nat.le_of_ble_eq_true rfl, Nat.le_of_ble_eq_true rfl⟩) rfl hl.1 rfl (Nat.le_of_ble_eq_true rfl) dX8_send_188 ⟨Nat.le_of_ble_eq_true rfl, Nat.le_of_ble_eq_true rfl⟩) hS (fun r10 locs hw hS => ?_)
  refine kc_v (rn_s (As := [.ref (adr G a1 36 0), .int 36, .int r10]) (rest := []) C hH hS (m19_putTwo l G a1 τ σ 36 0 36 r10 (by decide) _ hw) (va_cwS 3 hts (lw_S q984 q794 q176 q795) rfl rfl rfl kX19_putTwo.2 ⟨Nat.le_of_ble_eq_true rfl, Nat.le_of_ble_eq_true rfl⟩) rfl hl.1 rfl (Nat.le_of_ble_eq_true rfl) dX8_send_191 ⟨Nat.le_of_ble_eq_true rfl, Nat.le_of_ble_eq_true rfl⟩) hS (fun σ11 H locs hw hH hS => ?_)
  refine lv_aload_n hx hb dX8_send_194 rfl (lv_at hl 2 rfl) ?_
  refine g8_0 C hH q403 dX8_send_195 ?_
  refine lv_iload_n hx hb dX8_send_198 rfl (lv_at hl 3 rfl) ?_
  refine lv_bipush (v := 6) hx hb dX8_send_199 (by decide) ?_
  refine lv_iload hx hb dX8_send_201 (lv_at hl 1 rfl) ?_
  refine kc_v (rn_v (As := [.int x1, .int 6, .int (x12 + x10)]) (rest := []) C hH hS (by decide) rfl (by decide) (m5_send l G a1 τ σ11 x1 6 (x12 + x10) _ hw) (cwV 3 hts (lw_V q996 q997 q998 q162 q999) rfl rfl rfl kX5_send ⟨Nat.le_of_ble_eq_true rfl, Nat.le_of_ble_eq_true rfl⟩) rfl hl.1 rfl (Nat.le_of_ble_eq_true rfl) dX8_send_203 ⟨Nat.le_of_ble_eq_true rfl, Nat.le_of_ble_eq_true rfl⟩) hS (fun σ12 H locs hw hH hS => ?_)
  exact rt_v C hH hS hw dX8_send_206
def w8_send_J112 (σ : St) (x1 : Int32) (k8 : Nat) (i8 : Nat) (x9 : Int32) (x10 : Int32) (x12 : Int32) (Q : St → Prop) : Prop := (x10 ≤ 0 → w8_send_J133 σ x1 x10 x12 Q) ∧ (¬ x10 ≤ 0 → (abc k8 i8 = true ∧ (w19_copy σ k8 i8 x9 36 0 (20 + x12) x10 (fun σ14 => (w8_send_J133 σ14 x1 x10 x12 Q)))))
set_option maxHeartbeats 4000000 in
theorem k8_send_J112 {p : Program} {l : Launch} {e : Env} {s : State} {m : MethodId} {args : Array Value} {below : List Frame} {meth : Method} {c : Code} {G : Gh} {a1 : Nat → Nat → Nat} {τ : St} {Q : St → Prop} (C : Cx p e s m args meth c cX8_send 15 none "WebHost$Wire" G) (σ : St) (x1 : Int32) (k8 : Nat) (i8 : Nat) (x9 : Int32) (x10 : Int32) (x12 : Int32) (hw : w8_send_J112 σ x1 k8 i8 x9 x10 x12 Q) (H : Heap) (locs : List Loc) (ls : Array Slot) (hH : Hd G a1 (cmb σ τ) H) (hS : va_S (gA G) s.heap H locs) (hl : lv_has ls 15 [(0, .ref (ga G 8 0)), (1, .int x1), (8, nav G a1 k8 i8), (9, .int x9), (10, .int x10), (11, .ref (adr G a1 36 0)), (12, .int x12)]) : W p l e rmX8_send s m args below meth c H locs 0 0 (MQ below (QVs G a1 (fun u => cmb u τ) Q) args s 0 0 (gA G)) (F0 m 112 ls []) := by
  have hx := C.1
  have hb := C.2.1
  have hown := C.2.2.2.2.2.1
  have hts := C.2.2.2.2.2.2.1
  refine lv_iload hx hb dX8_send_112 (lv_at hl 4 rfl) ?_
  refine lv_if_le (tgt := 133) hx hb dX8_send_114 (by decide) (fun h => ?_) (fun h => ?_)
  · have hw := hw.1 h
    exact k8_send_J133 C σ x1 x10 x12 hw H locs ls hH hS (lv_sub hl [0, 1, 4, 5, 6] rfl)
  have hw := hw.2 h
  refine lv_aloadV hx hb dX8_send_117 (nav_or _ _ _ _) (lv_at hl 2 rfl) ?_
  refine lv_iload hx hb dX8_send_119 (lv_at hl 3 rfl) ?_
  refine lv_aload hx hb dX8_send_121 (lv_at hl 5 rfl) ?_
  refine lv_bipush (v := 20) hx hb dX8_send_123 (by decide) ?_
  refine lv_iload hx hb dX8_send_125 (lv_at hl 6 rfl) ?_
  refine lv_iadd hx hb dX8_send_127 ?_
  refine lv_iload hx hb dX8_send_128 (lv_at hl 4 rfl) ?_
  obtain ⟨hq13, hw⟩ := hw
  rw [nav_ok hq13]
  refine kc_v (rn_s (As := [.ref (adr G a1 k8 i8), .int x9, .ref (adr G a1 36 0), .int (20 + x12), .int x10]) (rest := []) C hH hS (m19_copy l G a1 τ σ k8 i8 x9 36 0 (20 + x12) x10 hq13 (by decide) _ hw) (va_cwS 5 hts (lw_S q987 q806 q176 q807) rfl rfl rfl kX19_copy.2 ⟨Nat.le_of_ble_eq_true rfl, Nat.le_of_ble_eq_true rfl⟩) rfl hl.1 rfl (Nat.le_of_ble_eq_true rfl) dX8_send_130 ⟨Nat.le_of_ble_eq_true rfl, Nat.le_of_ble_eq_true rfl⟩) hS (fun σ14 H locs hw hH hS => ?_)
  exact k8_send_J133 C σ14 x1 x10 x12 hw H locs ls hH hS (lv_sub hl [0, 1, 4, 5, 6] rfl)
def w8_send_J23 (σ : St) (x1 : Int32) (x2 : Int32) (x3 : Int32) (x4 : Int32) (x5 : Int32) (x6 : Int32) (x7 : Int32) (k8 : Nat) (i8 : Nat) (x9 : Int32) (x10 : Int32) (xs0 : Int32) (Q : St → Prop) : Prop := w19_putTwo σ 36 0 20 x3 (fun σ1 => (w19_putTwo σ1 36 0 22 x2 (fun σ2 => (w19_putFour σ2 36 0 24 x4 (fun σ3 => (w19_putFour σ3 36 0 28 x5 (fun σ4 => (vp_in 32 1500 ∧ (∀ σ5, σ5 = up3 σ4 36 0 (32 : Int32).toNatClampNeg (((xs0 / 4) <<< ((4 : Int32) &&& 31)).toInt8.toInt32).toInt8.toInt32 → (vp_in 33 1500 ∧ (∀ σ6, σ6 = up3 σ5 36 0 (33 : Int32).toNatClampNeg x6.toInt8.toInt32.toInt8.toInt32 → (w19_putTwo σ6 36 0 34 x7 (fun σ7 => (w19_putFour σ7 36 0 36 0 (fun σ8 => ((¬ xs0 = 24 → w8_send_J112 σ8 x1 k8 i8 x9 x10 xs0 Q) ∧ (xs0 = 24 → (w19_putFour σ8 36 0 40 33818036 (fun σ15 => (w8_send_J112 σ15 x1 k8 i8 x9 x10 xs0 Q))))))))))))))))))))
set_option maxHeartbeats 4000000 in
theorem k8_send_J23 {p : Program} {l : Launch} {e : Env} {s : State} {m : MethodId} {args : Array Value} {below : List Frame} {meth : Method} {c : Code} {G : Gh} {a1 : Nat → Nat → Nat} {τ : St} {Q : St → Prop} (C : Cx p e s m args meth c cX8_send 15 none "WebHost$Wire" G) (σ : St) (x1 : Int32) (x2 : Int32) (x3 : Int32) (x4 : Int32) (x5 : Int32) (x6 : Int32) (x7 : Int32) (k8 : Nat) (i8 : Nat) (x9 : Int32) (x10 : Int32) (xs0 : Int32) (hw : w8_send_J23 σ x1 x2 x3 x4 x5 x6 x7 k8 i8 x9 x10 xs0 Q) (H : Heap) (locs : List Loc) (ls : Array Slot) (hH : Hd G a1 (cmb σ τ) H) (hS : va_S (gA G) s.heap H locs) (hl : lv_has ls 15 [(0, .ref (ga G 8 0)), (1, .int x1), (2, .int x2), (3, .int x3), (4, .int x4), (5, .int x5), (6, .int x6), (7, .int x7), (8, nav G a1 k8 i8), (9, .int x9), (10, .int x10), (11, .ref (adr G a1 36 0))]) : W p l e rmX8_send s m args below meth c H locs 0 0 (MQ below (QVs G a1 (fun u => cmb u τ) Q) args s 0 0 (gA G)) (F0 m 23 ls [.int xs0]) := by
  have hx := C.1
  have hb := C.2.1
  have hown := C.2.2.2.2.2.1
  have hts := C.2.2.2.2.2.2.1
  refine lv_istore (lv' := [(12, .int xs0), (0, .ref (ga G 8 0)), (1, .int x1), (2, .int x2), (3, .int x3), (4, .int x4), (5, .int x5), (6, .int x6), (7, .int x7), (8, nav G a1 k8 i8), (9, .int x9), (10, .int x10), (11, .ref (adr G a1 36 0))]) hx hb dX8_send_23 hl (by decide) rfl (fun ls hl => ?_)
  refine lv_aload hx hb dX8_send_25 (lv_at hl 12 rfl) ?_
  refine lv_bipush (v := 20) hx hb dX8_send_27 (by decide) ?_
  refine lv_iload_n hx hb dX8_send_29 rfl (lv_at hl 4 rfl) ?_
  refine kc_v (rn_s (As := [.ref (adr G a1 36 0), .int 20, .int x3]) (rest := []) C hH hS (m19_putTwo l G a1 τ σ 36 0 20 x3 (by decide) _ hw) (va_cwS 3 hts (lw_S q984 q794 q176 q795) rfl rfl rfl kX19_putTwo.2 ⟨Nat.le_of_ble_eq_true rfl, Nat.le_of_ble_eq_true rfl⟩) rfl hl.1 rfl (Nat.le_of_ble_eq_true rfl) dX8_send_30 ⟨Nat.le_of_ble_eq_true rfl, Nat.le_of_ble_eq_true rfl⟩) hS (fun σ1 H locs hw hH hS => ?_)
  refine lv_aload hx hb dX8_send_33 (lv_at hl 12 rfl) ?_
  refine lv_bipush (v := 22) hx hb dX8_send_35 (by decide) ?_
  refine lv_iload_n hx hb dX8_send_37 rfl (lv_at hl 3 rfl) ?_
  refine kc_v (rn_s (As := [.ref (adr G a1 36 0), .int 22, .int x2]) (rest := []) C hH hS (m19_putTwo l G a1 τ σ1 36 0 22 x2 (by decide) _ hw) (va_cwS 3 hts (lw_S q984 q794 q176 q795) rfl rfl rfl kX19_putTwo.2 ⟨Nat.le_of_ble_eq_true rfl, Nat.le_of_ble_eq_true rfl⟩) rfl hl.1 rfl (Nat.le_of_ble_eq_true rfl) dX8_send_38 ⟨Nat.le_of_ble_eq_true rfl, Nat.le_of_ble_eq_true rfl⟩) hS (fun σ2 H locs hw hH hS => ?_)
  refine lv_aload hx hb dX8_send_41 (lv_at hl 12 rfl) ?_
  refine lv_bipush (v := 24) hx hb dX8_send_43 (by decide) ?_
  refine lv_iload hx hb dX8_send_45 (lv_at hl 5 rfl) ?_
  refine kc_v (rn_s (As := [.ref (adr G a1 36 0), .int 24, .int x4]) (rest := []) C hH hS (m19_putFour l G a1 τ σ2 36 0 24 x4 (by decide) _ hw) (va_cwS 3 hts (lw_S q985 q791 q176 q792) rfl rfl rfl kX19_putFour.2 ⟨Nat.le_of_ble_eq_true rfl, Nat.le_of_ble_eq_true rfl⟩) rfl hl.1 rfl (Nat.le_of_ble_eq_true rfl) dX8_send_47 ⟨Nat.le_of_ble_eq_true rfl, Nat.le_of_ble_eq_true rfl⟩) hS (fun σ3 H locs hw hH hS => ?_)
  refine lv_aload hx hb dX8_send_50 (lv_at hl 12 rfl) ?_
  refine lv_bipush (v := 28) hx hb dX8_send_52 (by decide) ?_
  refine lv_iload hx hb dX8_send_54 (lv_at hl 6 rfl) ?_
  refine kc_v (rn_s (As := [.ref (adr G a1 36 0), .int 28, .int x5]) (rest := []) C hH hS (m19_putFour l G a1 τ σ3 36 0 28 x5 (by decide) _ hw) (va_cwS 3 hts (lw_S q985 q791 q176 q792) rfl rfl rfl kX19_putFour.2 ⟨Nat.le_of_ble_eq_true rfl, Nat.le_of_ble_eq_true rfl⟩) rfl hl.1 rfl (Nat.le_of_ble_eq_true rfl) dX8_send_56 ⟨Nat.le_of_ble_eq_true rfl, Nat.le_of_ble_eq_true rfl⟩) hS (fun σ4 H locs hw hH hS => ?_)
  refine lv_aload hx hb dX8_send_59 (lv_at hl 12 rfl) ?_
  refine lv_bipush (v := 32) hx hb dX8_send_61 (by decide) ?_
  refine lv_iload hx hb dX8_send_63 (lv_at hl 0 rfl) ?_
  refine lv_iconst (v := 4) hx hb dX8_send_65 (by decide) ?_
  refine lv_idiv hx hb dX8_send_66 (by decide) ?_
  refine lv_iconst (v := 4) hx hb dX8_send_67 (by decide) ?_
  refine lv_ishl hx hb dX8_send_68 ?_
  refine lv_i2b (v := ((xs0 / 4) <<< ((4 : Int32) &&& 31)).toInt8.toInt32) hx hb dX8_send_69 rfl ?_
  refine s36 C hH hS hw.1 dX8_send_70 (fun σ5 e5 H locs hH hS => ?_)
  have hw := hw.2 σ5 e5
  refine lv_aload hx hb dX8_send_71 (lv_at hl 12 rfl) ?_
  refine lv_bipush (v := 33) hx hb dX8_send_73 (by decide) ?_
  refine lv_iload hx hb dX8_send_75 (lv_at hl 7 rfl) ?_
  refine lv_i2b (v := x6.toInt8.toInt32) hx hb dX8_send_77 rfl ?_
  refine s36 C hH hS hw.1 dX8_send_78 (fun σ6 e6 H locs hH hS => ?_)
  have hw := hw.2 σ6 e6
  refine lv_aload hx hb dX8_send_79 (lv_at hl 12 rfl) ?_
  refine lv_bipush (v := 34) hx hb dX8_send_81 (by decide) ?_
  refine lv_iload hx hb dX8_send_83 (lv_at hl 8 rfl) ?_
  refine kc_v (rn_s (As := [.ref (adr G a1 36 0), .int 34, .int x7]) (rest := []) C hH hS (m19_putTwo l G a1 τ σ6 36 0 34 x7 (by decide) _ hw) (va_cwS 3 hts (lw_S q984 q794 q176 q795) rfl rfl rfl kX19_putTwo.2 ⟨Nat.le_of_ble_eq_true rfl, Nat.le_of_ble_eq_true rfl⟩) rfl hl.1 rfl (Nat.le_of_ble_eq_true rfl) dX8_send_85 ⟨Nat.le_of_ble_eq_true rfl, Nat.le_of_ble_eq_true rfl⟩) hS (fun σ7 H locs hw hH hS => ?_)
  refine lv_aload hx hb dX8_send_88 (lv_at hl 12 rfl) ?_
  refine lv_bipush (v := 36) hx hb dX8_send_90 (by decide) ?_
  refine lv_iconst (v := 0) hx hb dX8_send_92 (by decide) ?_
  refine kc_v (rn_s (As := [.ref (adr G a1 36 0), .int 36, .int 0]) (rest := []) C hH hS (m19_putFour l G a1 τ σ7 36 0 36 0 (by decide) _ hw) (va_cwS 3 hts (lw_S q985 q791 q176 q792) rfl rfl rfl kX19_putFour.2 ⟨Nat.le_of_ble_eq_true rfl, Nat.le_of_ble_eq_true rfl⟩) rfl hl.1 rfl (Nat.le_of_ble_eq_true rfl) dX8_send_93 ⟨Nat.le_of_ble_eq_true rfl, Nat.le_of_ble_eq_true rfl⟩) hS (fun σ8 H locs hw hH hS => ?_)
  refine lv_iload hx hb dX8_send_96 (lv_at hl 0 rfl) ?_
  refine lv_bipush (v := 24) hx hb dX8_send_98 (by decide) ?_
  refine lv_icmp_ne (tgt := 112) hx hb dX8_send_100 (by decide) (fun h => ?_) (fun h => ?_)
  · have hw := hw.1 h
    exact k8_send_J112 C σ8 x1 k8 i8 x9 x10 xs0 hw H locs ls hH hS (lv_sub hl [1, 2, 9, 10, 11, 12, 0] rfl)
  have hw := hw.2 h
  refine lv_aload hx hb dX8_send_103 (lv_at hl 12 rfl) ?_
  refine lv_bipush (v := 40) hx hb dX8_send_105 (by decide) ?_
  refine lv_ldc (v := 33818036) hx hb hown (hts _ q986) dX8_send_107 ?_
  refine kc_v (rn_s (As := [.ref (adr G a1 36 0), .int 40, .int 33818036]) (rest := []) C hH hS (m19_putFour l G a1 τ σ8 36 0 40 33818036 (by decide) _ hw) (va_cwS 3 hts (lw_S q985 q791 q176 q792) rfl rfl rfl kX19_putFour.2 ⟨Nat.le_of_ble_eq_true rfl, Nat.le_of_ble_eq_true rfl⟩) rfl hl.1 rfl (Nat.le_of_ble_eq_true rfl) dX8_send_109 ⟨Nat.le_of_ble_eq_true rfl, Nat.le_of_ble_eq_true rfl⟩) hS (fun σ15 H locs hw hH hS => ?_)
  exact k8_send_J112 C σ15 x1 k8 i8 x9 x10 xs0 hw H locs ls hH hS (lv_sub hl [1, 2, 9, 10, 11, 12, 0] rfl)
def w8_send (σ : St) (x1 : Int32) (x2 : Int32) (x3 : Int32) (x4 : Int32) (x5 : Int32) (x6 : Int32) (x7 : Int32) (k8 : Nat) (i8 : Nat) (x9 : Int32) (x10 : Int32) (Q : St → Prop) : Prop := ((x6 &&& 2) = 0 → w8_send_J23 σ x1 x2 x3 x4 x5 x6 x7 k8 i8 x9 x10 20 Q) ∧ (¬ (x6 &&& 2) = 0 → w8_send_J23 σ x1 x2 x3 x4 x5 x6 x7 k8 i8 x9 x10 24 Q)
set_option maxHeartbeats 4000000 in
theorem m8_send (l : Launch) (G : Gh) (a1 : Nat → Nat → Nat) (τ : St) (σ : St) (x1 : Int32) (x2 : Int32) (x3 : Int32) (x4 : Int32) (x5 : Int32) (x6 : Int32) (x7 : Int32) (k8 : Nat) (i8 : Nat) (x9 : Int32) (x10 : Int32) (Q : St → Prop) (hw : w8_send σ x1 x2 x3 x4 x5 x6 x7 k8 i8 x9 x10 Q) : Met l yX8_send (ws_ yX8_send cX8_send 15 none) rmX8_send (PcS G a1 (cmb σ τ) [.ref (ga G 8 0), .int x1, .int x2, .int x3, .int x4, .int x5, .int x6, .int x7, nav G a1 k8 i8, .int x9, .int x10]) (QVs G a1 (fun u => cmb u τ) Q) 0 0 (gA G) := by
  refine met_w (by decide) (by simp [lg_sl, nav_cat, cat_i, cat_r]) ?_
  intro p e s m below meth c ls C hH hS hl
  have C : Cx p e s m _ meth c cX8_send 15 none "WebHost$Wire" G := C
  have hl : lv_has ls 15 [(0, .ref (ga G 8 0)), (1, .int x1), (2, .int x2), (3, .int x3), (4, .int x4), (5, .int x5), (6, .int x6), (7, .int x7), (8, nav G a1 k8 i8), (9, .int x9), (10, .int x10)] := by simpa [lv_args, nav_cat, cat_i, cat_r] using hl
  have hx := C.1
  have hb := C.2.1
  have hown := C.2.2.2.2.2.1
  have hts := C.2.2.2.2.2.2.1
  obtain ⟨locs, hlocs⟩ : ∃ z : List Loc, z = [] := ⟨_, rfl⟩
  obtain ⟨H, hHe⟩ : ∃ z : Heap, z = s.heap := ⟨_, rfl⟩
  have hH : Hd G a1 (cmb σ τ) H := by rw [hHe]; exact hH
  have hS : va_S (gA G) s.heap H locs := by rw [hHe, hlocs]; exact hS
  refine W.heap0 hHe.symm hlocs.symm ?_
  refine lv_aload_n hx hb dX8_send_0 rfl (lv_at hl 0 rfl) ?_
  refine g8_0 C hH q403 dX8_send_1 ?_
  refine g5_3 C hH q330 dX8_send_4 ?_
  refine lv_astore (lv' := [(11, .ref (adr G a1 36 0)), (0, .ref (ga G 8 0)), (1, .int x1), (2, .int x2), (3, .int x3), (4, .int x4), (5, .int x5), (6, .int x6), (7, .int x7), (8, nav G a1 k8 i8), (9, .int x9), (10, .int x10)]) hx hb dX8_send_7 hl (by decide) rfl (fun ls hl => ?_)
  refine lv_iload hx hb dX8_send_9 (lv_at hl 7 rfl) ?_
  refine lv_iconst (v := 2) hx hb dX8_send_11 (by decide) ?_
  refine lv_iand hx hb dX8_send_12 ?_
  refine lv_if_eq (tgt := 21) hx hb dX8_send_13 (by decide) (fun h => ?_) (fun h => ?_)
  · have hw := hw.1 h
    refine lv_bipush (v := 20) hx hb dX8_send_21 (by decide) ?_
    exact k8_send_J23 C σ x1 x2 x3 x4 x5 x6 x7 k8 i8 x9 x10 20 hw H locs ls hH hS (lv_sub hl [1, 2, 3, 4, 5, 6, 7, 8, 9, 10, 11, 0] rfl)
  have hw := hw.2 h
  refine lv_bipush (v := 24) hx hb dX8_send_16 (by decide) ?_
  refine lv_goto (tgt := 23) hx hb dX8_send_18 (by decide) ?_
  exact k8_send_J23 C σ x1 x2 x3 x4 x5 x6 x7 k8 i8 x9 x10 24 hw H locs ls hH hS (lv_sub hl [1, 2, 3, 4, 5, 6, 7, 8, 9, 10, 11, 0] rfl)
/-! WebHostModel.echo(I)V -/
abbrev cX14_echo : ByteArray := prog_17_method_31_code
def yX14_echo : MethodName := ⟨RX14, "echo", "(I)V"⟩
theorem dX14_echo_0 : decode cX14_echo 0 = .ok (.iload_n 1, 1) := by decide +kernel
theorem dX14_echo_1 : decode cX14_echo 1 = .ok (.bipush 8, 2) := by decide +kernel
theorem dX14_echo_3 : decode cX14_echo 3 = .ok (.if_icmp .lt 46, 3) := by decide +kernel
theorem dX14_echo_6 : decode cX14_echo 6 = .ok (.iload_n 1, 1) := by decide +kernel
theorem dX14_echo_7 : decode cX14_echo 7 = .ok (.sipush 1480, 3) := by decide +kernel
theorem dX14_echo_10 : decode cX14_echo 10 = .ok (.if_icmp .gt 39, 3) := by decide +kernel
theorem dX14_echo_13 : decode cX14_echo 13 = .ok (.aload_n 0, 1) := by decide +kernel
theorem dX14_echo_14 : decode cX14_echo 14 = .ok (.getfield 65, 3) := by decide +kernel
theorem dX14_echo_17 : decode cX14_echo 17 = .ok (.iconst 0, 1) := by decide +kernel
theorem dX14_echo_18 : decode cX14_echo 18 = .ok (.iload_n 1, 1) := by decide +kernel
theorem dX14_echo_19 : decode cX14_echo 19 = .ok (.lconst 0, 1) := by decide +kernel
theorem dX14_echo_20 : decode cX14_echo 20 = .ok (.invokestatic 216, 3) := by decide +kernel
theorem dX14_echo_23 : decode cX14_echo 23 = .ok (.invokestatic 220, 3) := by decide +kernel
theorem dX14_echo_26 : decode cX14_echo 26 = .ok (.ifCond .ne 23, 3) := by decide +kernel
theorem dX14_echo_29 : decode cX14_echo 29 = .ok (.aload_n 0, 1) := by decide +kernel
theorem dX14_echo_30 : decode cX14_echo 30 = .ok (.getfield 65, 3) := by decide +kernel
theorem dX14_echo_33 : decode cX14_echo 33 = .ok (.iconst 0, 1) := by decide +kernel
theorem dX14_echo_34 : decode cX14_echo 34 = .ok (.baload, 1) := by decide +kernel
theorem dX14_echo_35 : decode cX14_echo 35 = .ok (.bipush 8, 2) := by decide +kernel
theorem dX14_echo_37 : decode cX14_echo 37 = .ok (.if_icmp .ne 12, 3) := by decide +kernel
theorem dX14_echo_40 : decode cX14_echo 40 = .ok (.aload_n 0, 1) := by decide +kernel
theorem dX14_echo_41 : decode cX14_echo 41 = .ok (.getfield 65, 3) := by decide +kernel
theorem dX14_echo_44 : decode cX14_echo 44 = .ok (.iconst 1, 1) := by decide +kernel
theorem dX14_echo_45 : decode cX14_echo 45 = .ok (.baload, 1) := by decide +kernel
theorem dX14_echo_46 : decode cX14_echo 46 = .ok (.ifCond .eq 4, 3) := by decide +kernel
theorem dX14_echo_49 : decode cX14_echo 49 = .ok (.return_, 1) := by decide +kernel
theorem dX14_echo_50 : decode cX14_echo 50 = .ok (.iconst 0, 1) := by decide +kernel
theorem dX14_echo_51 : decode cX14_echo 51 = .ok (.istore_n 2, 1) := by decide +kernel
theorem dX14_echo_52 : decode cX14_echo 52 = .ok (.iload_n 2, 1) := by decide +kernel
theorem dX14_echo_53 : decode cX14_echo 53 = .ok (.iload_n 1, 1) := by decide +kernel
theorem dX14_echo_54 : decode cX14_echo 54 = .ok (.if_icmp .ge 24, 3) := by decide +kernel
theorem dX14_echo_57 : decode cX14_echo 57 = .ok (.aload_n 0, 1) := by decide +kernel
theorem dX14_echo_58 : decode cX14_echo 58 = .ok (.getfield 34, 3) := by decide +kernel
theorem dX14_echo_61 : decode cX14_echo 61 = .ok (.bipush 34, 2) := by decide +kernel
theorem dX14_echo_63 : decode cX14_echo 63 = .ok (.iload_n 2, 1) := by decide +kernel
theorem dX14_echo_64 : decode cX14_echo 64 = .ok (.iadd, 1) := by decide +kernel
theorem dX14_echo_65 : decode cX14_echo 65 = .ok (.aload_n 0, 1) := by decide +kernel
theorem dX14_echo_66 : decode cX14_echo 66 = .ok (.getfield 65, 3) := by decide +kernel
theorem dX14_echo_69 : decode cX14_echo 69 = .ok (.iload_n 2, 1) := by decide +kernel
theorem dX14_echo_70 : decode cX14_echo 70 = .ok (.baload, 1) := by decide +kernel
theorem dX14_echo_71 : decode cX14_echo 71 = .ok (.bastore, 1) := by decide +kernel
theorem dX14_echo_72 : decode cX14_echo 72 = .ok (.iinc 2 1, 3) := by decide +kernel
theorem dX14_echo_75 : decode cX14_echo 75 = .ok (.goto (-23), 3) := by decide +kernel
theorem dX14_echo_78 : decode cX14_echo 78 = .ok (.aload_n 0, 1) := by decide +kernel
theorem dX14_echo_79 : decode cX14_echo 79 = .ok (.bipush 34, 2) := by decide +kernel
theorem dX14_echo_81 : decode cX14_echo 81 = .ok (.iconst 1, 1) := by decide +kernel
theorem dX14_echo_82 : decode cX14_echo 82 = .ok (.iconst 0, 1) := by decide +kernel
theorem dX14_echo_83 : decode cX14_echo 83 = .ok (.invokevirtual 160, 3) := by decide +kernel
theorem dX14_echo_86 : decode cX14_echo 86 = .ok (.aload_n 0, 1) := by decide +kernel
theorem dX14_echo_87 : decode cX14_echo 87 = .ok (.bipush 36, 2) := by decide +kernel
theorem dX14_echo_89 : decode cX14_echo 89 = .ok (.iconst 2, 1) := by decide +kernel
theorem dX14_echo_90 : decode cX14_echo 90 = .ok (.iconst 0, 1) := by decide +kernel
theorem dX14_echo_91 : decode cX14_echo 91 = .ok (.invokevirtual 160, 3) := by decide +kernel
theorem dX14_echo_94 : decode cX14_echo 94 = .ok (.aload_n 0, 1) := by decide +kernel
theorem dX14_echo_95 : decode cX14_echo 95 = .ok (.bipush 36, 2) := by decide +kernel
theorem dX14_echo_97 : decode cX14_echo 97 = .ok (.iconst 2, 1) := by decide +kernel
theorem dX14_echo_98 : decode cX14_echo 98 = .ok (.aload_n 0, 1) := by decide +kernel
theorem dX14_echo_99 : decode cX14_echo 99 = .ok (.getfield 34, 3) := by decide +kernel
theorem dX14_echo_102 : decode cX14_echo 102 = .ok (.bipush 34, 2) := by decide +kernel
theorem dX14_echo_104 : decode cX14_echo 104 = .ok (.iload_n 1, 1) := by decide +kernel
theorem dX14_echo_105 : decode cX14_echo 105 = .ok (.lconst 0, 1) := by decide +kernel
theorem dX14_echo_106 : decode cX14_echo 106 = .ok (.invokestatic 216, 3) := by decide +kernel
theorem dX14_echo_109 : decode cX14_echo 109 = .ok (.invokestatic 220, 3) := by decide +kernel
theorem dX14_echo_112 : decode cX14_echo 112 = .ok (.invokevirtual 160, 3) := by decide +kernel
theorem dX14_echo_115 : decode cX14_echo 115 = .ok (.aload_n 0, 1) := by decide +kernel
theorem dX14_echo_116 : decode cX14_echo 116 = .ok (.aload_n 0, 1) := by decide +kernel
theorem dX14_echo_117 : decode cX14_echo 117 = .ok (.getfield 240, 3) := by decide +kernel
theorem dX14_echo_120 : decode cX14_echo 120 = .ok (.iconst 1, 1) := by decide +kernel
theorem dX14_echo_121 : decode cX14_echo 121 = .ok (.iload_n 1, 1) := by decide +kernel
theorem dX14_echo_122 : decode cX14_echo 122 = .ok (.invokevirtual 274, 3) := by decide +kernel
theorem dX14_echo_125 : decode cX14_echo 125 = .ok (.return_, 1) := by decide +kernel
def rmX14_echo : Room := { frames := 5, cells := 0, slots := 0, locals := 126 }
theorem kX14_echo : yX14_echo.cls = "WebHostModel" ∧ yX14_echo.cls ≠ "java/lang/invoke/MethodHandle" ∧ yX14_echo.cls ≠ "java/lang/invoke/VarHandle" ∧ (parseMethodDescriptor yX14_echo.desc).map (fun d => d.parameters.length) = some 1 := by decide +kernel
def w14_echo_L52 (x1 : Int32) (Q : St → Prop) (K78 : St → Prop) : Nat → St → Int32 → Prop
  | 0, _, _ => False
  | n + 1, σ, x2 => (x1 ≤ x2 → K78 σ) ∧ (¬ x1 ≤ x2 → (vp_in x2 4096 ∧ (by8 (σ 64 0 x2.toNatClampNeg) → (vp_in (34 + x2) 1514 ∧ (∀ σ3, σ3 = up3 σ 57 0 (34 + x2).toNatClampNeg (σ 64 0 x2.toNatClampNeg).toInt8.toInt32 → (w14_echo_L52 x1 Q K78 n σ3 (x2 + 1)))))))
set_option maxHeartbeats 4000000 in
theorem k14_echo_L52 {p : Program} {l : Launch} {e : Env} {s : State} {m : MethodId} {args : Array Value} {below : List Frame} {meth : Method} {c : Code} {G : Gh} {a1 : Nat → Nat → Nat} {τ : St} {Q : St → Prop} {K78 : St → Prop} (C : Cx p e s m args meth c cX14_echo 3 none "WebHostModel" G) (x1 : Int32) :
    ∀ (n : Nat) (σ : St) (x2 : Int32), w14_echo_L52 x1 Q K78 n σ x2 → ∀ (H : Heap) (locs : List Loc) (ls : Array Slot), Hd G a1 (cmb τ σ) H → va_S (gA G) s.heap H locs → lv_has ls 3 [(0, .ref (ga G 14 0)), (1, .int x1), (2, .int x2)] → (∀ (σ : St) , K78 σ → ∀ (H : Heap) (locs : List Loc) (ls : Array Slot), Hd G a1 (cmb τ σ) H → va_S (gA G) s.heap H locs → lv_has ls 3 [(0, .ref (ga G 14 0)), (1, .int x1)] → W p l e rmX14_echo s m args below meth c H locs 0 0 (MQ below (QVs G a1 (fun u => cmb τ u) Q) args s 0 0 (gA G)) (F0 m 78 ls [])) → W p l e rmX14_echo s m args below meth c H locs 0 0 (MQ below (QVs G a1 (fun u => cmb τ u) Q) args s 0 0 (gA G)) (F0 m 52 ls []) := by
  have hx := C.1
  have hb := C.2.1
  have hown := C.2.2.2.2.2.1
  have hts := C.2.2.2.2.2.2.1
  intro n
  induction n with
  | zero =>
    intro σ x2 hw
    exact False.elim hw
  | succ n ih =>
    intro σ x2 hw H locs ls hH hS hl hK78
    refine lv_iload_n hx hb dX14_echo_52 rfl (lv_at hl 2 rfl) ?_
    refine lv_iload_n hx hb dX14_echo_53 rfl (lv_at hl 1 rfl) ?_
    refine lv_icmp_ge (tgt := 78) hx hb dX14_echo_54 (by decide) (fun h => ?_) (fun h => ?_)
    · have hw := hw.1 h
      exact hK78 σ hw H locs ls hH hS (lv_sub hl [0, 1] rfl)
    have hw := hw.2 h
    refine lv_aload_n hx hb dX14_echo_57 rfl (lv_at hl 0 rfl) ?_
    refine g14_19 C hH q1959 dX14_echo_58 ?_
    refine lv_bipush (v := 34) hx hb dX14_echo_61 (by decide) ?_
    refine lv_iload_n hx hb dX14_echo_63 rfl (lv_at hl 2 rfl) ?_
    refine lv_iadd hx hb dX14_echo_64 ?_
    refine lv_aload_n hx hb dX14_echo_65 rfl (lv_at hl 0 rfl) ?_
    refine g14_29 C hH q1969 dX14_echo_66 ?_
    refine lv_iload_n hx hb dX14_echo_69 rfl (lv_at hl 2 rfl) ?_
    refine l64 C hH hw.1 dX14_echo_70 (fun hz => ?_)
    have hw := hw.2 hz
    refine s57 C hH hS hw.1 dX14_echo_71 (fun σ3 e3 H locs hH hS => ?_)
    have hw := hw.2 σ3 e3
    refine lv_iinc (v := x2 + 1) (lv' := [(2, .int (x2 + 1)), (0, .ref (ga G 14 0)), (1, .int x1)]) hx hb dX14_echo_72 hl (k := 2) rfl rfl (by decide) rfl (fun ls hl => ?_)
    refine lv_goto (tgt := 52) hx hb dX14_echo_75 (by decide) ?_
    exact ih σ3 (x2 + 1) hw H locs ls hH hS (lv_sub hl [1, 2, 0] rfl) hK78
def w14_echo (σ : St) (x1 : Int32) (Q : St → Prop) : Prop := (x1 < 8 → Q σ) ∧ (¬ x1 < 8 → ((1480 < x1 → Q σ) ∧ (¬ 1480 < x1 → (w14_added σ 64 0 0 x1 0 (fun r1 => (w14_sixteen σ r1 (fun r2 => ((¬ r2 = 0 → Q σ) ∧ (r2 = 0 → (vp_in 0 4096 ∧ (by8 (σ 64 0 (0 : Int32).toNatClampNeg) → ((¬ (σ 64 0 (0 : Int32).toNatClampNeg) = 8 → Q σ) ∧ ((σ 64 0 (0 : Int32).toNatClampNeg) = 8 → (vp_in 1 4096 ∧ (by8 (σ 64 0 (1 : Int32).toNatClampNeg) → (((σ 64 0 (1 : Int32).toNatClampNeg) = 0 → (∃ z4, w14_echo_L52 x1 Q (fun σ5 => w14_put σ5 34 1 0 (fun σ6 => (w14_put σ6 36 2 0 (fun σ7 => (w14_added σ7 57 0 34 x1 0 (fun r8 => (w14_sixteen σ7 r8 (fun r9 => (w14_put σ7 36 2 r9 (fun σ10 => (w14_ipOut σ10 (σ10 14 0 30) 1 x1 (fun σ11 => (Q σ11))))))))))))) z4 σ 0)) ∧ (¬ (σ 64 0 (1 : Int32).toNatClampNeg) = 0 → Q σ)))))))))))))))))
set_option maxHeartbeats 4000000 in
theorem m14_echo (l : Launch) (G : Gh) (a1 : Nat → Nat → Nat) (τ : St) (σ : St) (x1 : Int32) (Q : St → Prop) (hw : w14_echo σ x1 Q) : Met l yX14_echo (ws_ yX14_echo cX14_echo 3 none) rmX14_echo (PcS G a1 (cmb τ σ) [.ref (ga G 14 0), .int x1]) (QVs G a1 (fun u => cmb τ u) Q) 0 0 (gA G) := by
  refine met_w (by decide) (Nat.le_of_ble_eq_true rfl) ?_
  intro p e s m below meth c ls C hH hS hl
  have C : Cx p e s m _ meth c cX14_echo 3 none "WebHostModel" G := C
  have hl : lv_has ls 3 [(0, .ref (ga G 14 0)), (1, .int x1)] := hl
  have hx := C.1
  have hb := C.2.1
  have hown := C.2.2.2.2.2.1
  have hts := C.2.2.2.2.2.2.1
  obtain ⟨locs, hlocs⟩ : ∃ z : List Loc, z = [] := ⟨_, rfl⟩
  obtain ⟨H, hHe⟩ : ∃ z : Heap, z = s.heap := ⟨_, rfl⟩
  have hH : Hd G a1 (cmb τ σ) H := by rw [hHe]; exact hH
  have hS : va_S (gA G) s.heap H locs := by rw [hHe, hlocs]; exact hS
  refine W.heap0 hHe.symm hlocs.symm ?_
  refine lv_iload_n hx hb dX14_echo_0 rfl (lv_at hl 1 rfl) ?_
  refine lv_bipush (v := 8) hx hb dX14_echo_1 (by decide) ?_
  refine lv_icmp_lt (tgt := 49) hx hb dX14_echo_3 (by decide) (fun h => ?_) (fun h => ?_)
  · have hw := hw.1 h
    exact rt_v C hH hS hw dX14_echo_49
  have hw := hw.2 h
  refine lv_iload_n hx hb dX14_echo_6 rfl (lv_at hl 1 rfl) ?_
  refine lv_sipush (v := 1480) hx hb dX14_echo_7 (by decide) ?_
  refine lv_icmp_gt (tgt := 49) hx hb dX14_echo_10 (by decide) (fun h => ?_) (fun h => ?_)
  · have hw := hw.1 h
    exact rt_v C hH hS hw dX14_echo_49
  have hw := hw.2 h
  refine lv_aload_n hx hb dX14_echo_13 rfl (lv_at hl 0 rfl) ?_
  refine g14_29 C hH q1969 dX14_echo_14 ?_
  refine lv_iconst (v := 0) hx hb dX14_echo_17 (by decide) ?_
  refine lv_iload_n hx hb dX14_echo_18 rfl (lv_at hl 1 rfl) ?_
  refine lv_lconst (v := 0) hx hb dX14_echo_19 (by decide) ?_
  refine kc_jp (rn_sp (As := [.ref (adr G a1 64 0), .int 0, .int x1, .long 0]) (rest := []) C hH hS (m14_added l G a1 τ σ H 64 0 0 x1 0 (by decide) _ hw) (va_cwS 4 hts (lw_S q2249 q2250 q171 q2251) rfl rfl rfl kX14_added.2 ⟨Nat.le_of_ble_eq_true rfl, Nat.le_of_ble_eq_true rfl⟩) rfl hl.1 rfl (Nat.le_of_ble_eq_true rfl) dX14_echo_20 ⟨Nat.le_of_ble_eq_true rfl, Nat.le_of_ble_eq_true rfl⟩) hS (fun r1 locs hw hS => ?_)
  refine kc_ip (rn_sp (As := [.long r1]) (rest := []) C hH hS (m14_sixteen l G a1 τ σ H r1 _ hw) (va_cwS 1 hts (lw_S q2252 q2253 q171 q2254) rfl rfl rfl kX14_sixteen.2 ⟨Nat.le_of_ble_eq_true rfl, Nat.le_of_ble_eq_true rfl⟩) rfl hl.1 rfl (Nat.le_of_ble_eq_true rfl) dX14_echo_23 ⟨Nat.le_of_ble_eq_true rfl, Nat.le_of_ble_eq_true rfl⟩) hS (fun r2 locs hw hS => ?_)
  refine lv_if_ne (tgt := 49) hx hb dX14_echo_26 (by decide) (fun h => ?_) (fun h => ?_)
  · have hw := hw.1 h
    exact rt_v C hH hS hw dX14_echo_49
  have hw := hw.2 h
  refine lv_aload_n hx hb dX14_echo_29 rfl (lv_at hl 0 rfl) ?_
  refine g14_29 C hH q1969 dX14_echo_30 ?_
  refine lv_iconst (v := 0) hx hb dX14_echo_33 (by decide) ?_
  refine l64 C hH hw.1 dX14_echo_34 (fun hz => ?_)
  have hw := hw.2 hz
  refine lv_bipush (v := 8) hx hb dX14_echo_35 (by decide) ?_
  refine lv_icmp_ne (tgt := 49) hx hb dX14_echo_37 (by decide) (fun h => ?_) (fun h => ?_)
  · have hw := hw.1 h
    exact rt_v C hH hS hw dX14_echo_49
  have hw := hw.2 h
  refine lv_aload_n hx hb dX14_echo_40 rfl (lv_at hl 0 rfl) ?_
  refine g14_29 C hH q1969 dX14_echo_41 ?_
  refine lv_iconst (v := 1) hx hb dX14_echo_44 (by decide) ?_
  refine l64 C hH hw.1 dX14_echo_45 (fun hz => ?_)
  have hw := hw.2 hz
  refine lv_if_eq (tgt := 50) hx hb dX14_echo_46 (by decide) (fun h => ?_) (fun h => ?_)
  · have hw := hw.1 h
    refine lv_iconst (v := 0) hx hb dX14_echo_50 (by decide) ?_
    refine lv_istore_n (lv' := [(2, .int 0), (0, .ref (ga G 14 0)), (1, .int x1)]) hx hb dX14_echo_51 rfl hl (by decide) rfl (fun ls hl => ?_)
    obtain ⟨n4, hw⟩ := hw
    refine k14_echo_L52 C x1 n4 σ 0 hw H locs ls hH hS (lv_sub hl [1, 2, 0] rfl) (fun σ5 hw H locs ls hH hS hl => ?_)
    refine lv_aload_n hx hb dX14_echo_78 rfl (lv_at hl 0 rfl) ?_
    refine lv_bipush (v := 34) hx hb dX14_echo_79 (by decide) ?_
    refine lv_iconst (v := 1) hx hb dX14_echo_81 (by decide) ?_
    refine lv_iconst (v := 0) hx hb dX14_echo_82 (by decide) ?_
    refine kc_v (rn_v (As := [.int 34, .int 1, .int 0]) (rest := []) C hH hS (by decide) rfl (by decide) (m14_put l G a1 τ σ5 34 1 0 _ hw) (cwV 3 hts (lw_V q2218 q2220 qs84 q171 q2221) rfl rfl rfl kX14_put ⟨Nat.le_of_ble_eq_true rfl, Nat.le_of_ble_eq_true rfl⟩) rfl hl.1 rfl (Nat.le_of_ble_eq_true rfl) dX14_echo_83 ⟨Nat.le_of_ble_eq_true rfl, Nat.le_of_ble_eq_true rfl⟩) hS (fun σ6 H locs hw hH hS => ?_)
    refine lv_aload_n hx hb dX14_echo_86 rfl (lv_at hl 0 rfl) ?_
    refine lv_bipush (v := 36) hx hb dX14_echo_87 (by decide) ?_
    refine lv_iconst (v := 2) hx hb dX14_echo_89 (by decide) ?_
    refine lv_iconst (v := 0) hx hb dX14_echo_90 (by decide) ?_
    refine kc_v (rn_v (As := [.int 36, .int 2, .int 0]) (rest := []) C hH hS (by decide) rfl (by decide) (m14_put l G a1 τ σ6 36 2 0 _ hw) (cwV 3 hts (lw_V q2218 q2220 qs84 q171 q2221) rfl rfl rfl kX14_put ⟨Nat.le_of_ble_eq_true rfl, Nat.le_of_ble_eq_true rfl⟩) rfl hl.1 rfl (Nat.le_of_ble_eq_true rfl) dX14_echo_91 ⟨Nat.le_of_ble_eq_true rfl, Nat.le_of_ble_eq_true rfl⟩) hS (fun σ7 H locs hw hH hS => ?_)
    refine lv_aload_n hx hb dX14_echo_94 rfl (lv_at hl 0 rfl) ?_
    refine lv_bipush (v := 36) hx hb dX14_echo_95 (by decide) ?_
    refine lv_iconst (v := 2) hx hb dX14_echo_97 (by decide) ?_
    refine lv_aload_n hx hb dX14_echo_98 rfl (lv_at hl 0 rfl) ?_
    refine g14_19 C hH q1959 dX14_echo_99 ?_
    refine lv_bipush (v := 34) hx hb dX14_echo_102 (by decide) ?_
    refine lv_iload_n hx hb dX14_echo_104 rfl (lv_at hl 1 rfl) ?_
    refine lv_lconst (v := 0) hx hb dX14_echo_105 (by decide) ?_
    refine kc_jp (rn_sp (As := [.ref (adr G a1 57 0), .int 34, .int x1, .long 0]) (rest := [.int 2, .int 36, .ref (ga G 14 0)]) C hH hS (m14_added l G a1 τ σ7 H 57 0 34 x1 0 (by decide) _ hw) (va_cwS 4 hts (lw_S q2249 q2250 q171 q2251) rfl rfl rfl kX14_added.2 ⟨Nat.le_of_ble_eq_true rfl, Nat.le_of_ble_eq_true rfl⟩) rfl hl.1 rfl (Nat.le_of_ble_eq_true rfl) dX14_echo_106 ⟨Nat.le_of_ble_eq_true rfl, Nat.le_of_ble_eq_true rfl⟩) hS (fun r8 locs hw hS => ?_)
    refine kc_ip (rn_sp (As := [.long r8]) (rest := [.int 2, .int 36, .ref (ga G 14 0)]) C hH hS (m14_sixteen l G a1 τ σ7 H r8 _ hw) (va_cwS 1 hts (lw_S q2252 q2253 q171 q2254) rfl rfl rfl kX14_sixteen.2 ⟨Nat.le_of_ble_eq_true rfl, Nat.le_of_ble_eq_true rfl⟩) rfl hl.1 rfl (Nat.le_of_ble_eq_true rfl) dX14_echo_109 ⟨Nat.le_of_ble_eq_true rfl, Nat.le_of_ble_eq_true rfl⟩) hS (fun r9 locs hw hS => ?_)
    refine kc_v (rn_v (As := [.int 36, .int 2, .int r9]) (rest := []) C hH hS (by decide) rfl (by decide) (m14_put l G a1 τ σ7 36 2 r9 _ hw) (cwV 3 hts (lw_V q2218 q2220 qs84 q171 q2221) rfl rfl rfl kX14_put ⟨Nat.le_of_ble_eq_true rfl, Nat.le_of_ble_eq_true rfl⟩) rfl hl.1 rfl (Nat.le_of_ble_eq_true rfl) dX14_echo_112 ⟨Nat.le_of_ble_eq_true rfl, Nat.le_of_ble_eq_true rfl⟩) hS (fun σ10 H locs hw hH hS => ?_)
    refine lv_aload_n hx hb dX14_echo_115 rfl (lv_at hl 0 rfl) ?_
    refine lv_aload_n hx hb dX14_echo_116 rfl (lv_at hl 0 rfl) ?_
    refine g14_30 C hH q1970 dX14_echo_117 ?_
    refine lv_iconst (v := 1) hx hb dX14_echo_120 (by decide) ?_
    refine lv_iload_n hx hb dX14_echo_121 rfl (lv_at hl 1 rfl) ?_
    refine kc_v (rn_v (As := [.int (σ10 14 0 30), .int 1, .int x1]) (rest := []) C hH hS (by decide) rfl (by decide) (m14_ipOut l G a1 τ σ10 (σ10 14 0 30) 1 x1 _ hw) (cwV 3 hts (lw_V q2256 q2258 qs89 q171 q2259) rfl rfl rfl kX14_ipOut ⟨Nat.le_of_ble_eq_true rfl, Nat.le_of_ble_eq_true rfl⟩) rfl hl.1 rfl (Nat.le_of_ble_eq_true rfl) dX14_echo_122 ⟨Nat.le_of_ble_eq_true rfl, Nat.le_of_ble_eq_true rfl⟩) hS (fun σ11 H locs hw hH hS => ?_)
    exact rt_v C hH hS hw dX14_echo_125
  have hw := hw.2 h
  exact rt_v C hH hS hw dX14_echo_49
/-! WebHostModel.segmentOut(IIIIIIIII)V -/
abbrev cX14_segmentOut : ByteArray := prog_17_method_40_code
def yX14_segmentOut : MethodName := ⟨RX14, "segmentOut", "(IIIIIIIII)V"⟩
theorem dX14_segmentOut_0 : decode cX14_segmentOut 0 = .ok (.aload_n 0, 1) := by decide +kernel
theorem dX14_segmentOut_1 : decode cX14_segmentOut 1 = .ok (.bipush 34, 2) := by decide +kernel
theorem dX14_segmentOut_3 : decode cX14_segmentOut 3 = .ok (.iconst 2, 1) := by decide +kernel
theorem dX14_segmentOut_4 : decode cX14_segmentOut 4 = .ok (.iload_n 2, 1) := by decide +kernel
theorem dX14_segmentOut_5 : decode cX14_segmentOut 5 = .ok (.invokevirtual 160, 3) := by decide +kernel
theorem dX14_segmentOut_8 : decode cX14_segmentOut 8 = .ok (.aload_n 0, 1) := by decide +kernel
theorem dX14_segmentOut_9 : decode cX14_segmentOut 9 = .ok (.bipush 36, 2) := by decide +kernel
theorem dX14_segmentOut_11 : decode cX14_segmentOut 11 = .ok (.iconst 2, 1) := by decide +kernel
theorem dX14_segmentOut_12 : decode cX14_segmentOut 12 = .ok (.iload_n 3, 1) := by decide +kernel
theorem dX14_segmentOut_13 : decode cX14_segmentOut 13 = .ok (.invokevirtual 160, 3) := by decide +kernel
theorem dX14_segmentOut_16 : decode cX14_segmentOut 16 = .ok (.aload_n 0, 1) := by decide +kernel
theorem dX14_segmentOut_17 : decode cX14_segmentOut 17 = .ok (.bipush 38, 2) := by decide +kernel
theorem dX14_segmentOut_19 : decode cX14_segmentOut 19 = .ok (.iconst 4, 1) := by decide +kernel
theorem dX14_segmentOut_20 : decode cX14_segmentOut 20 = .ok (.iload 4, 2) := by decide +kernel
theorem dX14_segmentOut_22 : decode cX14_segmentOut 22 = .ok (.invokevirtual 160, 3) := by decide +kernel
theorem dX14_segmentOut_25 : decode cX14_segmentOut 25 = .ok (.aload_n 0, 1) := by decide +kernel
theorem dX14_segmentOut_26 : decode cX14_segmentOut 26 = .ok (.bipush 42, 2) := by decide +kernel
theorem dX14_segmentOut_28 : decode cX14_segmentOut 28 = .ok (.iconst 4, 1) := by decide +kernel
theorem dX14_segmentOut_29 : decode cX14_segmentOut 29 = .ok (.iload 5, 2) := by decide +kernel
theorem dX14_segmentOut_31 : decode cX14_segmentOut 31 = .ok (.invokevirtual 160, 3) := by decide +kernel
theorem dX14_segmentOut_34 : decode cX14_segmentOut 34 = .ok (.aload_n 0, 1) := by decide +kernel
theorem dX14_segmentOut_35 : decode cX14_segmentOut 35 = .ok (.bipush 46, 2) := by decide +kernel
theorem dX14_segmentOut_37 : decode cX14_segmentOut 37 = .ok (.iconst 1, 1) := by decide +kernel
theorem dX14_segmentOut_38 : decode cX14_segmentOut 38 = .ok (.bipush 20, 2) := by decide +kernel
theorem dX14_segmentOut_40 : decode cX14_segmentOut 40 = .ok (.iload 8, 2) := by decide +kernel
theorem dX14_segmentOut_42 : decode cX14_segmentOut 42 = .ok (.iadd, 1) := by decide +kernel
theorem dX14_segmentOut_43 : decode cX14_segmentOut 43 = .ok (.iconst 4, 1) := by decide +kernel
theorem dX14_segmentOut_44 : decode cX14_segmentOut 44 = .ok (.idiv, 1) := by decide +kernel
theorem dX14_segmentOut_45 : decode cX14_segmentOut 45 = .ok (.iconst 4, 1) := by decide +kernel
theorem dX14_segmentOut_46 : decode cX14_segmentOut 46 = .ok (.ishl, 1) := by decide +kernel
theorem dX14_segmentOut_47 : decode cX14_segmentOut 47 = .ok (.invokevirtual 160, 3) := by decide +kernel
theorem dX14_segmentOut_50 : decode cX14_segmentOut 50 = .ok (.aload_n 0, 1) := by decide +kernel
theorem dX14_segmentOut_51 : decode cX14_segmentOut 51 = .ok (.bipush 47, 2) := by decide +kernel
theorem dX14_segmentOut_53 : decode cX14_segmentOut 53 = .ok (.iconst 1, 1) := by decide +kernel
theorem dX14_segmentOut_54 : decode cX14_segmentOut 54 = .ok (.iload 6, 2) := by decide +kernel
theorem dX14_segmentOut_56 : decode cX14_segmentOut 56 = .ok (.invokevirtual 160, 3) := by decide +kernel
theorem dX14_segmentOut_59 : decode cX14_segmentOut 59 = .ok (.aload_n 0, 1) := by decide +kernel
theorem dX14_segmentOut_60 : decode cX14_segmentOut 60 = .ok (.bipush 48, 2) := by decide +kernel
theorem dX14_segmentOut_62 : decode cX14_segmentOut 62 = .ok (.iconst 2, 1) := by decide +kernel
theorem dX14_segmentOut_63 : decode cX14_segmentOut 63 = .ok (.iload 7, 2) := by decide +kernel
theorem dX14_segmentOut_65 : decode cX14_segmentOut 65 = .ok (.invokevirtual 160, 3) := by decide +kernel
theorem dX14_segmentOut_68 : decode cX14_segmentOut 68 = .ok (.aload_n 0, 1) := by decide +kernel
theorem dX14_segmentOut_69 : decode cX14_segmentOut 69 = .ok (.bipush 50, 2) := by decide +kernel
theorem dX14_segmentOut_71 : decode cX14_segmentOut 71 = .ok (.iconst 4, 1) := by decide +kernel
theorem dX14_segmentOut_72 : decode cX14_segmentOut 72 = .ok (.iconst 0, 1) := by decide +kernel
theorem dX14_segmentOut_73 : decode cX14_segmentOut 73 = .ok (.invokevirtual 160, 3) := by decide +kernel
theorem dX14_segmentOut_76 : decode cX14_segmentOut 76 = .ok (.iload 8, 2) := by decide +kernel
theorem dX14_segmentOut_78 : decode cX14_segmentOut 78 = .ok (.ifCond .le 13, 3) := by decide +kernel
theorem dX14_segmentOut_81 : decode cX14_segmentOut 81 = .ok (.aload_n 0, 1) := by decide +kernel
theorem dX14_segmentOut_82 : decode cX14_segmentOut 82 = .ok (.bipush 54, 2) := by decide +kernel
theorem dX14_segmentOut_84 : decode cX14_segmentOut 84 = .ok (.iconst 4, 1) := by decide +kernel
theorem dX14_segmentOut_85 : decode cX14_segmentOut 85 = .ok (.ldc_w 328, 3) := by decide +kernel
theorem dX14_segmentOut_88 : decode cX14_segmentOut 88 = .ok (.invokevirtual 160, 3) := by decide +kernel
theorem dX14_segmentOut_91 : decode cX14_segmentOut 91 = .ok (.bipush 20, 2) := by decide +kernel
theorem dX14_segmentOut_93 : decode cX14_segmentOut 93 = .ok (.iload 8, 2) := by decide +kernel
theorem dX14_segmentOut_95 : decode cX14_segmentOut 95 = .ok (.iadd, 1) := by decide +kernel
theorem dX14_segmentOut_96 : decode cX14_segmentOut 96 = .ok (.iload 9, 2) := by decide +kernel
theorem dX14_segmentOut_98 : decode cX14_segmentOut 98 = .ok (.iadd, 1) := by decide +kernel
theorem dX14_segmentOut_99 : decode cX14_segmentOut 99 = .ok (.istore 10, 2) := by decide +kernel
theorem dX14_segmentOut_101 : decode cX14_segmentOut 101 = .ok (.aload_n 0, 1) := by decide +kernel
theorem dX14_segmentOut_102 : decode cX14_segmentOut 102 = .ok (.bipush 50, 2) := by decide +kernel
theorem dX14_segmentOut_104 : decode cX14_segmentOut 104 = .ok (.iconst 2, 1) := by decide +kernel
theorem dX14_segmentOut_105 : decode cX14_segmentOut 105 = .ok (.aload_n 0, 1) := by decide +kernel
theorem dX14_segmentOut_106 : decode cX14_segmentOut 106 = .ok (.getfield 34, 3) := by decide +kernel
theorem dX14_segmentOut_109 : decode cX14_segmentOut 109 = .ok (.bipush 34, 2) := by decide +kernel
theorem dX14_segmentOut_111 : decode cX14_segmentOut 111 = .ok (.iload 10, 2) := by decide +kernel
theorem dX14_segmentOut_113 : decode cX14_segmentOut 113 = .ok (.aload_n 0, 1) := by decide +kernel
theorem dX14_segmentOut_114 : decode cX14_segmentOut 114 = .ok (.aload_n 0, 1) := by decide +kernel
theorem dX14_segmentOut_115 : decode cX14_segmentOut 115 = .ok (.getfield 119, 3) := by decide +kernel
theorem dX14_segmentOut_118 : decode cX14_segmentOut 118 = .ok (.iload_n 1, 1) := by decide +kernel
theorem dX14_segmentOut_119 : decode cX14_segmentOut 119 = .ok (.iload 10, 2) := by decide +kernel
theorem dX14_segmentOut_121 : decode cX14_segmentOut 121 = .ok (.invokevirtual 285, 3) := by decide +kernel
theorem dX14_segmentOut_124 : decode cX14_segmentOut 124 = .ok (.invokestatic 216, 3) := by decide +kernel
theorem dX14_segmentOut_127 : decode cX14_segmentOut 127 = .ok (.invokestatic 220, 3) := by decide +kernel
theorem dX14_segmentOut_130 : decode cX14_segmentOut 130 = .ok (.invokevirtual 160, 3) := by decide +kernel
theorem dX14_segmentOut_133 : decode cX14_segmentOut 133 = .ok (.aload_n 0, 1) := by decide +kernel
theorem dX14_segmentOut_134 : decode cX14_segmentOut 134 = .ok (.iload_n 1, 1) := by decide +kernel
theorem dX14_segmentOut_135 : decode cX14_segmentOut 135 = .ok (.bipush 6, 2) := by decide +kernel
theorem dX14_segmentOut_137 : decode cX14_segmentOut 137 = .ok (.iload 10, 2) := by decide +kernel
theorem dX14_segmentOut_139 : decode cX14_segmentOut 139 = .ok (.invokevirtual 274, 3) := by decide +kernel
theorem dX14_segmentOut_142 : decode cX14_segmentOut 142 = .ok (.return_, 1) := by decide +kernel
def rmX14_segmentOut : Room := { frames := 5, cells := 0, slots := 0, locals := 126 }
theorem kX14_segmentOut : yX14_segmentOut.cls = "WebHostModel" ∧ yX14_segmentOut.cls ≠ "java/lang/invoke/MethodHandle" ∧ yX14_segmentOut.cls ≠ "java/lang/invoke/VarHandle" ∧ (parseMethodDescriptor yX14_segmentOut.desc).map (fun d => d.parameters.length) = some 9 := by decide +kernel
def w14_segmentOut_J91 (σ : St) (x1 : Int32) (x8 : Int32) (x9 : Int32) (Q : St → Prop) : Prop := w14_pseudo σ (σ 14 0 5) x1 ((20 + x8) + x9) (fun r9 => (w14_added σ 57 0 34 ((20 + x8) + x9) r9 (fun r10 => (w14_sixteen σ r10 (fun r11 => (w14_put σ 50 2 r11 (fun σ12 => (w14_ipOut σ12 x1 6 ((20 + x8) + x9) (fun σ13 => (Q σ13))))))))))
set_option maxHeartbeats 4000000 in
theorem k14_segmentOut_J91 {p : Program} {l : Launch} {e : Env} {s : State} {m : MethodId} {args : Array Value} {below : List Frame} {meth : Method} {c : Code} {G : Gh} {a1 : Nat → Nat → Nat} {τ : St} {Q : St → Prop} (C : Cx p e s m args meth c cX14_segmentOut 11 none "WebHostModel" G) (σ : St) (x1 : Int32) (x8 : Int32) (x9 : Int32) (hw : w14_segmentOut_J91 σ x1 x8 x9 Q) (H : Heap) (locs : List Loc) (ls : Array Slot) (hH : Hd G a1 (cmb τ σ) H) (hS : va_S (gA G) s.heap H locs) (hl : lv_has ls 11 [(0, .ref (ga G 14 0)), (1, .int x1), (8, .int x8), (9, .int x9)]) : W p l e rmX14_segmentOut s m args below meth c H locs 0 0 (MQ below (QVs G a1 (fun u => cmb τ u) Q) args s 0 0 (gA G)) (F0 m 91 ls []) := by
  have hx := C.1
  have hb := C.2.1
  have hown := C.2.2.2.2.2.1
  have hts := C.2.2.2.2.2.2.1
  refine lv_bipush (v := 20) hx hb dX14_segmentOut_91 (by decide) ?_
  refine lv_iload hx hb dX14_segmentOut_93 (lv_at hl 2 rfl) ?_
  refine lv_iadd hx hb dX14_segmentOut_95 ?_
  refine lv_iload hx hb dX14_segmentOut_96 (lv_at hl 3 rfl) ?_
  refine lv_iadd hx hb dX14_segmentOut_98 ?_
  refine lv_istore (lv' := [(10, .int ((20 + x8) + x9)), (0, .ref (ga G 14 0)), (1, .int x1), (8, .int x8), (9, .int x9)]) hx hb dX14_segmentOut_99 hl (by decide) rfl (fun ls hl => ?_)
  refine lv_aload_n hx hb dX14_segmentOut_101 rfl (lv_at hl 1 rfl) ?_
  refine lv_bipush (v := 50) hx hb dX14_segmentOut_102 (by decide) ?_
  refine lv_iconst (v := 2) hx hb dX14_segmentOut_104 (by decide) ?_
  refine lv_aload_n hx hb dX14_segmentOut_105 rfl (lv_at hl 1 rfl) ?_
  refine g14_19 C hH q1959 dX14_segmentOut_106 ?_
  refine lv_bipush (v := 34) hx hb dX14_segmentOut_109 (by decide) ?_
  refine lv_iload hx hb dX14_segmentOut_111 (lv_at hl 0 rfl) ?_
  refine lv_aload_n hx hb dX14_segmentOut_113 rfl (lv_at hl 1 rfl) ?_
  refine lv_aload_n hx hb dX14_segmentOut_114 rfl (lv_at hl 1 rfl) ?_
  refine g14_5 C hH q1945 dX14_segmentOut_115 ?_
  refine lv_iload_n hx hb dX14_segmentOut_118 rfl (lv_at hl 2 rfl) ?_
  refine lv_iload hx hb dX14_segmentOut_119 (lv_at hl 0 rfl) ?_
  refine kc_jp (rn_vp (As := [.int (σ 14 0 5), .int x1, .int ((20 + x8) + x9)]) (rest := [.int ((20 + x8) + x9), .int 34, .ref (adr G a1 57 0), .int 2, .int 50, .ref (ga G 14 0)]) C hH hS (by decide) rfl (by decide) (m14_pseudo l G a1 τ σ H (σ 14 0 5) x1 ((20 + x8) + x9) _ hw) (cwV 3 hts (lw_V q2244 q2246 qs88 q171 q2247) rfl rfl rfl kX14_pseudo ⟨Nat.le_of_ble_eq_true rfl, Nat.le_of_ble_eq_true rfl⟩) rfl hl.1 rfl (Nat.le_of_ble_eq_true rfl) dX14_segmentOut_121 ⟨Nat.le_of_ble_eq_true rfl, Nat.le_of_ble_eq_true rfl⟩) hS (fun r9 locs hw hS => ?_)
  refine kc_jp (rn_sp (As := [.ref (adr G a1 57 0), .int 34, .int ((20 + x8) + x9), .long r9]) (rest := [.int 2, .int 50, .ref (ga G 14 0)]) C hH hS (m14_added l G a1 τ σ H 57 0 34 ((20 + x8) + x9) r9 (by decide) _ hw) (va_cwS 4 hts (lw_S q2249 q2250 q171 q2251) rfl rfl rfl kX14_added.2 ⟨Nat.le_of_ble_eq_true rfl, Nat.le_of_ble_eq_true rfl⟩) rfl hl.1 rfl (Nat.le_of_ble_eq_true rfl) dX14_segmentOut_124 ⟨Nat.le_of_ble_eq_true rfl, Nat.le_of_ble_eq_true rfl⟩) hS (fun r10 locs hw hS => ?_)
  refine kc_ip (rn_sp (As := [.long r10]) (rest := [.int 2, .int 50, .ref (ga G 14 0)]) C hH hS (m14_sixteen l G a1 τ σ H r10 _ hw) (va_cwS 1 hts (lw_S q2252 q2253 q171 q2254) rfl rfl rfl kX14_sixteen.2 ⟨Nat.le_of_ble_eq_true rfl, Nat.le_of_ble_eq_true rfl⟩) rfl hl.1 rfl (Nat.le_of_ble_eq_true rfl) dX14_segmentOut_127 ⟨Nat.le_of_ble_eq_true rfl, Nat.le_of_ble_eq_true rfl⟩) hS (fun r11 locs hw hS => ?_)
  refine kc_v (rn_v (As := [.int 50, .int 2, .int r11]) (rest := []) C hH hS (by decide) rfl (by decide) (m14_put l G a1 τ σ 50 2 r11 _ hw) (cwV 3 hts (lw_V q2218 q2220 qs84 q171 q2221) rfl rfl rfl kX14_put ⟨Nat.le_of_ble_eq_true rfl, Nat.le_of_ble_eq_true rfl⟩) rfl hl.1 rfl (Nat.le_of_ble_eq_true rfl) dX14_segmentOut_130 ⟨Nat.le_of_ble_eq_true rfl, Nat.le_of_ble_eq_true rfl⟩) hS (fun σ12 H locs hw hH hS => ?_)
  refine lv_aload_n hx hb dX14_segmentOut_133 rfl (lv_at hl 1 rfl) ?_
  refine lv_iload_n hx hb dX14_segmentOut_134 rfl (lv_at hl 2 rfl) ?_
  refine lv_bipush (v := 6) hx hb dX14_segmentOut_135 (by decide) ?_
  refine lv_iload hx hb dX14_segmentOut_137 (lv_at hl 0 rfl) ?_
  refine kc_v (rn_v (As := [.int x1, .int 6, .int ((20 + x8) + x9)]) (rest := []) C hH hS (by decide) rfl (by decide) (m14_ipOut l G a1 τ σ12 x1 6 ((20 + x8) + x9) _ hw) (cwV 3 hts (lw_V q2256 q2258 qs89 q171 q2259) rfl rfl rfl kX14_ipOut ⟨Nat.le_of_ble_eq_true rfl, Nat.le_of_ble_eq_true rfl⟩) rfl hl.1 rfl (Nat.le_of_ble_eq_true rfl) dX14_segmentOut_139 ⟨Nat.le_of_ble_eq_true rfl, Nat.le_of_ble_eq_true rfl⟩) hS (fun σ13 H locs hw hH hS => ?_)
  exact rt_v C hH hS hw dX14_segmentOut_142
def w14_segmentOut (σ : St) (x1 : Int32) (x2 : Int32) (x3 : Int32) (x4 : Int32) (x5 : Int32) (x6 : Int32) (x7 : Int32) (x8 : Int32) (x9 : Int32) (Q : St → Prop) : Prop := w14_put σ 34 2 x2 (fun σ1 => (w14_put σ1 36 2 x3 (fun σ2 => (w14_put σ2 38 4 x4 (fun σ3 => (w14_put σ3 42 4 x5 (fun σ4 => (w14_put σ4 46 1 (((20 + x8) / 4) <<< ((4 : Int32) &&& 31)) (fun σ5 => (w14_put σ5 47 1 x6 (fun σ6 => (w14_put σ6 48 2 x7 (fun σ7 => (w14_put σ7 50 4 0 (fun σ8 => ((x8 ≤ 0 → w14_segmentOut_J91 σ8 x1 x8 x9 Q) ∧ (¬ x8 ≤ 0 → (w14_put σ8 54 4 33818036 (fun σ14 => (w14_segmentOut_J91 σ14 x1 x8 x9 Q))))))))))))))))))))
set_option maxHeartbeats 4000000 in
theorem m14_segmentOut (l : Launch) (G : Gh) (a1 : Nat → Nat → Nat) (τ : St) (σ : St) (x1 : Int32) (x2 : Int32) (x3 : Int32) (x4 : Int32) (x5 : Int32) (x6 : Int32) (x7 : Int32) (x8 : Int32) (x9 : Int32) (Q : St → Prop) (hw : w14_segmentOut σ x1 x2 x3 x4 x5 x6 x7 x8 x9 Q) : Met l yX14_segmentOut (ws_ yX14_segmentOut cX14_segmentOut 11 none) rmX14_segmentOut (PcS G a1 (cmb τ σ) [.ref (ga G 14 0), .int x1, .int x2, .int x3, .int x4, .int x5, .int x6, .int x7, .int x8, .int x9]) (QVs G a1 (fun u => cmb τ u) Q) 0 0 (gA G) := by
  refine met_w (by decide) (Nat.le_of_ble_eq_true rfl) ?_
  intro p e s m below meth c ls C hH hS hl
  have C : Cx p e s m _ meth c cX14_segmentOut 11 none "WebHostModel" G := C
  have hl : lv_has ls 11 [(0, .ref (ga G 14 0)), (1, .int x1), (2, .int x2), (3, .int x3), (4, .int x4), (5, .int x5), (6, .int x6), (7, .int x7), (8, .int x8), (9, .int x9)] := hl
  have hx := C.1
  have hb := C.2.1
  have hown := C.2.2.2.2.2.1
  have hts := C.2.2.2.2.2.2.1
  obtain ⟨locs, hlocs⟩ : ∃ z : List Loc, z = [] := ⟨_, rfl⟩
  obtain ⟨H, hHe⟩ : ∃ z : Heap, z = s.heap := ⟨_, rfl⟩
  have hH : Hd G a1 (cmb τ σ) H := by rw [hHe]; exact hH
  have hS : va_S (gA G) s.heap H locs := by rw [hHe, hlocs]; exact hS
  refine W.heap0 hHe.symm hlocs.symm ?_
  refine lv_aload_n hx hb dX14_segmentOut_0 rfl (lv_at hl 0 rfl) ?_
  refine lv_bipush (v := 34) hx hb dX14_segmentOut_1 (by decide) ?_
  refine lv_iconst (v := 2) hx hb dX14_segmentOut_3 (by decide) ?_
  refine lv_iload_n hx hb dX14_segmentOut_4 rfl (lv_at hl 2 rfl) ?_
  refine kc_v (rn_v (As := [.int 34, .int 2, .int x2]) (rest := []) C hH hS (by decide) rfl (by decide) (m14_put l G a1 τ σ 34 2 x2 _ hw) (cwV 3 hts (lw_V q2218 q2220 qs84 q171 q2221) rfl rfl rfl kX14_put ⟨Nat.le_of_ble_eq_true rfl, Nat.le_of_ble_eq_true rfl⟩) rfl hl.1 rfl (Nat.le_of_ble_eq_true rfl) dX14_segmentOut_5 ⟨Nat.le_of_ble_eq_true rfl, Nat.le_of_ble_eq_true rfl⟩) hS (fun σ1 H locs hw hH hS => ?_)
  refine lv_aload_n hx hb dX14_segmentOut_8 rfl (lv_at hl 0 rfl) ?_
  refine lv_bipush (v := 36) hx hb dX14_segmentOut_9 (by decide) ?_
  refine lv_iconst (v := 2) hx hb dX14_segmentOut_11 (by decide) ?_
  refine lv_iload_n hx hb dX14_segmentOut_12 rfl (lv_at hl 3 rfl) ?_
  refine kc_v (rn_v (As := [.int 36, .int 2, .int x3]) (rest := []) C hH hS (by decide) rfl (by decide) (m14_put l G a1 τ σ1 36 2 x3 _ hw) (cwV 3 hts (lw_V q2218 q2220 qs84 q171 q2221) rfl rfl rfl kX14_put ⟨Nat.le_of_ble_eq_true rfl, Nat.le_of_ble_eq_true rfl⟩) rfl hl.1 rfl (Nat.le_of_ble_eq_true rfl) dX14_segmentOut_13 ⟨Nat.le_of_ble_eq_true rfl, Nat.le_of_ble_eq_true rfl⟩) hS (fun σ2 H locs hw hH hS => ?_)
  refine lv_aload_n hx hb dX14_segmentOut_16 rfl (lv_at hl 0 rfl) ?_
  refine lv_bipush (v := 38) hx hb dX14_segmentOut_17 (by decide) ?_
  refine lv_iconst (v := 4) hx hb dX14_segmentOut_19 (by decide) ?_
  refine lv_iload hx hb dX14_segmentOut_20 (lv_at hl 4 rfl) ?_
  refine kc_v (rn_v (As := [.int 38, .int 4, .int x4]) (rest := []) C hH hS (by decide) rfl (by decide) (m14_put l G a1 τ σ2 38 4 x4 _ hw) (cwV 3 hts (lw_V q2218 q2220 qs84 q171 q2221) rfl rfl rfl kX14_put ⟨Nat.le_of_ble_eq_true rfl, Nat.le_of_ble_eq_true rfl⟩) rfl hl.1 rfl (Nat.le_of_ble_eq_true rfl) dX14_segmentOut_22 ⟨Nat.le_of_ble_eq_true rfl, Nat.le_of_ble_eq_true rfl⟩) hS (fun σ3 H locs hw hH hS => ?_)
  refine lv_aload_n hx hb dX14_segmentOut_25 rfl (lv_at hl 0 rfl) ?_
  refine lv_bipush (v := 42) hx hb dX14_segmentOut_26 (by decide) ?_
  refine lv_iconst (v := 4) hx hb dX14_segmentOut_28 (by decide) ?_
  refine lv_iload hx hb dX14_segmentOut_29 (lv_at hl 5 rfl) ?_
  refine kc_v (rn_v (As := [.int 42, .int 4, .int x5]) (rest := []) C hH hS (by decide) rfl (by decide) (m14_put l G a1 τ σ3 42 4 x5 _ hw) (cwV 3 hts (lw_V q2218 q2220 qs84 q171 q2221) rfl rfl rfl kX14_put ⟨Nat.le_of_ble_eq_true rfl, Nat.le_of_ble_eq_true rfl⟩) rfl hl.1 rfl (Nat.le_of_ble_eq_true rfl) dX14_segmentOut_31 ⟨Nat.le_of_ble_eq_true rfl, Nat.le_of_ble_eq_true rfl⟩) hS (fun σ4 H locs hw hH hS => ?_)
  refine lv_aload_n hx hb dX14_segmentOut_34 rfl (lv_at hl 0 rfl) ?_
  refine lv_bipush (v := 46) hx hb dX14_segmentOut_35 (by decide) ?_
  refine lv_iconst (v := 1) hx hb dX14_segmentOut_37 (by decide) ?_
  refine lv_bipush (v := 20) hx hb dX14_segmentOut_38 (by decide) ?_
  refine lv_iload hx hb dX14_segmentOut_40 (lv_at hl 8 rfl) ?_
  refine lv_iadd hx hb dX14_segmentOut_42 ?_
  refine lv_iconst (v := 4) hx hb dX14_segmentOut_43 (by decide) ?_
  refine lv_idiv hx hb dX14_segmentOut_44 (by decide) ?_
  refine lv_iconst (v := 4) hx hb dX14_segmentOut_45 (by decide) ?_
  refine lv_ishl hx hb dX14_segmentOut_46 ?_
  refine kc_v (rn_v (As := [.int 46, .int 1, .int (((20 + x8) / 4) <<< ((4 : Int32) &&& 31))]) (rest := []) C hH hS (by decide) rfl (by decide) (m14_put l G a1 τ σ4 46 1 (((20 + x8) / 4) <<< ((4 : Int32) &&& 31)) _ hw) (cwV 3 hts (lw_V q2218 q2220 qs84 q171 q2221) rfl rfl rfl kX14_put ⟨Nat.le_of_ble_eq_true rfl, Nat.le_of_ble_eq_true rfl⟩) rfl hl.1 rfl (Nat.le_of_ble_eq_true rfl) dX14_segmentOut_47 ⟨Nat.le_of_ble_eq_true rfl, Nat.le_of_ble_eq_true rfl⟩) hS (fun σ5 H locs hw hH hS => ?_)
  refine lv_aload_n hx hb dX14_segmentOut_50 rfl (lv_at hl 0 rfl) ?_
  refine lv_bipush (v := 47) hx hb dX14_segmentOut_51 (by decide) ?_
  refine lv_iconst (v := 1) hx hb dX14_segmentOut_53 (by decide) ?_
  refine lv_iload hx hb dX14_segmentOut_54 (lv_at hl 6 rfl) ?_
  refine kc_v (rn_v (As := [.int 47, .int 1, .int x6]) (rest := []) C hH hS (by decide) rfl (by decide) (m14_put l G a1 τ σ5 47 1 x6 _ hw) (cwV 3 hts (lw_V q2218 q2220 qs84 q171 q2221) rfl rfl rfl kX14_put ⟨Nat.le_of_ble_eq_true rfl, Nat.le_of_ble_eq_true rfl⟩) rfl hl.1 rfl (Nat.le_of_ble_eq_true rfl) dX14_segmentOut_56 ⟨Nat.le_of_ble_eq_true rfl, Nat.le_of_ble_eq_true rfl⟩) hS (fun σ6 H locs hw hH hS => ?_)
  refine lv_aload_n hx hb dX14_segmentOut_59 rfl (lv_at hl 0 rfl) ?_
  refine lv_bipush (v := 48) hx hb dX14_segmentOut_60 (by decide) ?_
  refine lv_iconst (v := 2) hx hb dX14_segmentOut_62 (by decide) ?_
  refine lv_iload hx hb dX14_segmentOut_63 (lv_at hl 7 rfl) ?_
  refine kc_v (rn_v (As := [.int 48, .int 2, .int x7]) (rest := []) C hH hS (by decide) rfl (by decide) (m14_put l G a1 τ σ6 48 2 x7 _ hw) (cwV 3 hts (lw_V q2218 q2220 qs84 q171 q2221) rfl rfl rfl kX14_put ⟨Nat.le_of_ble_eq_true rfl, Nat.le_of_ble_eq_true rfl⟩) rfl hl.1 rfl (Nat.le_of_ble_eq_true rfl) dX14_segmentOut_65 ⟨Nat.le_of_ble_eq_true rfl, Nat.le_of_ble_eq_true rfl⟩) hS (fun σ7 H locs hw hH hS => ?_)
  refine lv_aload_n hx hb dX14_segmentOut_68 rfl (lv_at hl 0 rfl) ?_
  refine lv_bipush (v := 50) hx hb dX14_segmentOut_69 (by decide) ?_
  refine lv_iconst (v := 4) hx hb dX14_segmentOut_71 (by decide) ?_
  refine lv_iconst (v := 0) hx hb dX14_segmentOut_72 (by decide) ?_
  refine kc_v (rn_v (As := [.int 50, .int 4, .int 0]) (rest := []) C hH hS (by decide) rfl (by decide) (m14_put l G a1 τ σ7 50 4 0 _ hw) (cwV 3 hts (lw_V q2218 q2220 qs84 q171 q2221) rfl rfl rfl kX14_put ⟨Nat.le_of_ble_eq_true rfl, Nat.le_of_ble_eq_true rfl⟩) rfl hl.1 rfl (Nat.le_of_ble_eq_true rfl) dX14_segmentOut_73 ⟨Nat.le_of_ble_eq_true rfl, Nat.le_of_ble_eq_true rfl⟩) hS (fun σ8 H locs hw hH hS => ?_)
  refine lv_iload hx hb dX14_segmentOut_76 (lv_at hl 8 rfl) ?_
  refine lv_if_le (tgt := 91) hx hb dX14_segmentOut_78 (by decide) (fun h => ?_) (fun h => ?_)
  · have hw := hw.1 h
    exact k14_segmentOut_J91 C σ8 x1 x8 x9 hw H locs ls hH hS (lv_sub hl [0, 1, 8, 9] rfl)
  have hw := hw.2 h
  refine lv_aload_n hx hb dX14_segmentOut_81 rfl (lv_at hl 0 rfl) ?_
  refine lv_bipush (v := 54) hx hb dX14_segmentOut_82 (by decide) ?_
  refine lv_iconst (v := 4) hx hb dX14_segmentOut_84 (by decide) ?_
  refine lv_ldcw (v := 33818036) hx hb hown (hts _ q2243) dX14_segmentOut_85 ?_
  refine kc_v (rn_v (As := [.int 54, .int 4, .int 33818036]) (rest := []) C hH hS (by decide) rfl (by decide) (m14_put l G a1 τ σ8 54 4 33818036 _ hw) (cwV 3 hts (lw_V q2218 q2220 qs84 q171 q2221) rfl rfl rfl kX14_put ⟨Nat.le_of_ble_eq_true rfl, Nat.le_of_ble_eq_true rfl⟩) rfl hl.1 rfl (Nat.le_of_ble_eq_true rfl) dX14_segmentOut_88 ⟨Nat.le_of_ble_eq_true rfl, Nat.le_of_ble_eq_true rfl⟩) hS (fun σ14 H locs hw hH hS => ?_)
  exact k14_segmentOut_J91 C σ14 x1 x8 x9 hw H locs ls hH hS (lv_sub hl [0, 1, 8, 9] rfl)
/-! WebHost$Wire.reset(LWebHost$Segment;)V -/
abbrev cX8_reset : ByteArray := prog_15_method_5_code
def yX8_reset : MethodName := ⟨RX8, "reset", "(LWebHost$Segment;)V"⟩
theorem dX8_reset_0 : decode cX8_reset 0 = .ok (.aload_n 0, 1) := by decide +kernel
theorem dX8_reset_1 : decode cX8_reset 1 = .ok (.dup, 1) := by decide +kernel
theorem dX8_reset_2 : decode cX8_reset 2 = .ok (.getfield 23, 3) := by decide +kernel
theorem dX8_reset_5 : decode cX8_reset 5 = .ok (.iconst 1, 1) := by decide +kernel
theorem dX8_reset_6 : decode cX8_reset 6 = .ok (.iadd, 1) := by decide +kernel
theorem dX8_reset_7 : decode cX8_reset 7 = .ok (.putfield 23, 3) := by decide +kernel
theorem dX8_reset_10 : decode cX8_reset 10 = .ok (.aload_n 1, 1) := by decide +kernel
theorem dX8_reset_11 : decode cX8_reset 11 = .ok (.bipush 16, 2) := by decide +kernel
theorem dX8_reset_13 : decode cX8_reset 13 = .ok (.invokevirtual 79, 3) := by decide +kernel
theorem dX8_reset_16 : decode cX8_reset 16 = .ok (.ifCond .eq 32, 3) := by decide +kernel
theorem dX8_reset_19 : decode cX8_reset 19 = .ok (.aload_n 0, 1) := by decide +kernel
theorem dX8_reset_20 : decode cX8_reset 20 = .ok (.aload_n 1, 1) := by decide +kernel
theorem dX8_reset_21 : decode cX8_reset 21 = .ok (.getfield 85, 3) := by decide +kernel
theorem dX8_reset_24 : decode cX8_reset 24 = .ok (.aload_n 1, 1) := by decide +kernel
theorem dX8_reset_25 : decode cX8_reset 25 = .ok (.getfield 88, 3) := by decide +kernel
theorem dX8_reset_28 : decode cX8_reset 28 = .ok (.aload_n 1, 1) := by decide +kernel
theorem dX8_reset_29 : decode cX8_reset 29 = .ok (.getfield 91, 3) := by decide +kernel
theorem dX8_reset_32 : decode cX8_reset 32 = .ok (.aload_n 1, 1) := by decide +kernel
theorem dX8_reset_33 : decode cX8_reset 33 = .ok (.getfield 94, 3) := by decide +kernel
theorem dX8_reset_36 : decode cX8_reset 36 = .ok (.iconst 0, 1) := by decide +kernel
theorem dX8_reset_37 : decode cX8_reset 37 = .ok (.iconst 4, 1) := by decide +kernel
theorem dX8_reset_38 : decode cX8_reset 38 = .ok (.iconst 0, 1) := by decide +kernel
theorem dX8_reset_39 : decode cX8_reset 39 = .ok (.aconst_null, 1) := by decide +kernel
theorem dX8_reset_40 : decode cX8_reset 40 = .ok (.iconst 0, 1) := by decide +kernel
theorem dX8_reset_41 : decode cX8_reset 41 = .ok (.iconst 0, 1) := by decide +kernel
theorem dX8_reset_42 : decode cX8_reset 42 = .ok (.invokevirtual 97, 3) := by decide +kernel
theorem dX8_reset_45 : decode cX8_reset 45 = .ok (.goto 35, 3) := by decide +kernel
theorem dX8_reset_48 : decode cX8_reset 48 = .ok (.aload_n 0, 1) := by decide +kernel
theorem dX8_reset_49 : decode cX8_reset 49 = .ok (.aload_n 1, 1) := by decide +kernel
theorem dX8_reset_50 : decode cX8_reset 50 = .ok (.getfield 85, 3) := by decide +kernel
theorem dX8_reset_53 : decode cX8_reset 53 = .ok (.aload_n 1, 1) := by decide +kernel
theorem dX8_reset_54 : decode cX8_reset 54 = .ok (.getfield 88, 3) := by decide +kernel
theorem dX8_reset_57 : decode cX8_reset 57 = .ok (.aload_n 1, 1) := by decide +kernel
theorem dX8_reset_58 : decode cX8_reset 58 = .ok (.getfield 91, 3) := by decide +kernel
theorem dX8_reset_61 : decode cX8_reset 61 = .ok (.iconst 0, 1) := by decide +kernel
theorem dX8_reset_62 : decode cX8_reset 62 = .ok (.aload_n 1, 1) := by decide +kernel
theorem dX8_reset_63 : decode cX8_reset 63 = .ok (.getfield 100, 3) := by decide +kernel
theorem dX8_reset_66 : decode cX8_reset 66 = .ok (.aload_n 1, 1) := by decide +kernel
theorem dX8_reset_67 : decode cX8_reset 67 = .ok (.invokevirtual 103, 3) := by decide +kernel
theorem dX8_reset_70 : decode cX8_reset 70 = .ok (.iadd, 1) := by decide +kernel
theorem dX8_reset_71 : decode cX8_reset 71 = .ok (.bipush 20, 2) := by decide +kernel
theorem dX8_reset_73 : decode cX8_reset 73 = .ok (.iconst 0, 1) := by decide +kernel
theorem dX8_reset_74 : decode cX8_reset 74 = .ok (.aconst_null, 1) := by decide +kernel
theorem dX8_reset_75 : decode cX8_reset 75 = .ok (.iconst 0, 1) := by decide +kernel
theorem dX8_reset_76 : decode cX8_reset 76 = .ok (.iconst 0, 1) := by decide +kernel
theorem dX8_reset_77 : decode cX8_reset 77 = .ok (.invokevirtual 97, 3) := by decide +kernel
theorem dX8_reset_80 : decode cX8_reset 80 = .ok (.return_, 1) := by decide +kernel
def rmX8_reset : Room := { frames := 6, cells := 0, slots := 0, locals := 161 }
theorem kX8_reset : yX8_reset.cls = "WebHost$Wire" ∧ yX8_reset.cls ≠ "java/lang/invoke/MethodHandle" ∧ yX8_reset.cls ≠ "java/lang/invoke/VarHandle" ∧ (parseMethodDescriptor yX8_reset.desc).map (fun d => d.parameters.length) = some 1 := by decide +kernel
def w8_reset (σ : St) (Q : St → Prop) : Prop := ∀ σ1, σ1 = up3 σ 8 0 3 ((σ 8 0 3) + 1) → (w10_has σ1 16 (fun r2 => ((r2 = 0 → (w10_span σ1 (fun r3 => (w8_send σ1 (σ1 10 0 0) (σ1 10 0 1) (σ1 10 0 2) 0 ((σ1 10 0 3) + r3) 20 0 0 0 0 0 (fun σ4 => (Q σ4)))))) ∧ (¬ r2 = 0 → (w8_send σ1 (σ1 10 0 0) (σ1 10 0 1) (σ1 10 0 2) (σ1 10 0 4) 0 4 0 0 0 0 0 (fun σ5 => (Q σ5)))))))
set_option maxHeartbeats 4000000 in
theorem m8_reset (l : Launch) (G : Gh) (a1 : Nat → Nat → Nat) (τ : St) (σ : St) (Q : St → Prop) (hw : w8_reset σ Q) : Met l yX8_reset (ws_ yX8_reset cX8_reset 2 none) rmX8_reset (PcS G a1 (cmb σ τ) [.ref (ga G 8 0), .ref (ga G 10 0)]) (QVs G a1 (fun u => cmb u τ) Q) 0 0 (gA G) := by
  refine met_w (by decide) (Nat.le_of_ble_eq_true rfl) ?_
  intro p e s m below meth c ls C hH hS hl
  have C : Cx p e s m _ meth c cX8_reset 2 none "WebHost$Wire" G := C
  have hl : lv_has ls 2 [(0, .ref (ga G 8 0)), (1, .ref (ga G 10 0))] := hl
  have hx := C.1
  have hb := C.2.1
  have hown := C.2.2.2.2.2.1
  have hts := C.2.2.2.2.2.2.1
  obtain ⟨locs, hlocs⟩ : ∃ z : List Loc, z = [] := ⟨_, rfl⟩
  obtain ⟨H, hHe⟩ : ∃ z : Heap, z = s.heap := ⟨_, rfl⟩
  have hH : Hd G a1 (cmb σ τ) H := by rw [hHe]; exact hH
  have hS : va_S (gA G) s.heap H locs := by rw [hHe, hlocs]; exact hS
  refine W.heap0 hHe.symm hlocs.symm ?_
  refine lv_aload_n hx hb dX8_reset_0 rfl (lv_at hl 0 rfl) ?_
  refine lv_dup hx hb dX8_reset_1 rfl ?_
  refine g8_3 C hH q406 dX8_reset_2 ?_
  refine lv_iconst (v := 1) hx hb dX8_reset_5 (by decide) ?_
  refine lv_iadd hx hb dX8_reset_6 ?_
  refine p8_3 C hH hS q406 dX8_reset_7 (fun σ1 e1 H locs hH hS => ?_)
  have hw := hw σ1 e1
  refine lv_aload_n hx hb dX8_reset_10 rfl (lv_at hl 1 rfl) ?_
  refine lv_bipush (v := 16) hx hb dX8_reset_11 (by decide) ?_
  refine kc_ip (rn_vp (As := [.int 16]) (rest := []) C hH hS (by decide) rfl (by decide) (m10_has l G a1 τ σ1 H 16 _ hw) (cwV 1 hts (lw_V q1169 q1149 q1150 q167 q1151) rfl rfl rfl kX10_has ⟨Nat.le_of_ble_eq_true rfl, Nat.le_of_ble_eq_true rfl⟩) rfl hl.1 rfl (Nat.le_of_ble_eq_true rfl) dX8_reset_13 ⟨Nat.le_of_ble_eq_true rfl, Nat.le_of_ble_eq_true rfl⟩) hS (fun r2 locs hw hS => ?_)
  refine lv_if_eq (tgt := 48) hx hb dX8_reset_16 (by decide) (fun h => ?_) (fun h => ?_)
  · have hw := hw.1 h
    refine lv_aload_n hx hb dX8_reset_48 rfl (lv_at hl 0 rfl) ?_
    refine lv_aload_n hx hb dX8_reset_49 rfl (lv_at hl 1 rfl) ?_
    refine g10_0 C hH q514 dX8_reset_50 ?_
    refine lv_aload_n hx hb dX8_reset_53 rfl (lv_at hl 1 rfl) ?_
    refine g10_1 C hH q518 dX8_reset_54 ?_
    refine lv_aload_n hx hb dX8_reset_57 rfl (lv_at hl 1 rfl) ?_
    refine g10_2 C hH q522 dX8_reset_58 ?_
    refine lv_iconst (v := 0) hx hb dX8_reset_61 (by decide) ?_
    refine lv_aload_n hx hb dX8_reset_62 rfl (lv_at hl 1 rfl) ?_
    refine g10_3 C hH q526 dX8_reset_63 ?_
    refine lv_aload_n hx hb dX8_reset_66 rfl (lv_at hl 1 rfl) ?_
    refine kc_ip (rn_vp (As := []) (rest := [.int (σ1 10 0 3), .int 0, .int (σ1 10 0 2), .int (σ1 10 0 1), .int (σ1 10 0 0), .ref (ga G 8 0)]) C hH hS (by decide) rfl (by decide) (m10_span l G a1 τ σ1 H _ hw) (cwV 0 hts (lw_V q1171 q1145 q1146 q167 q1147) rfl rfl rfl kX10_span ⟨Nat.le_of_ble_eq_true rfl, Nat.le_of_ble_eq_true rfl⟩) rfl hl.1 rfl (Nat.le_of_ble_eq_true rfl) dX8_reset_67 ⟨Nat.le_of_ble_eq_true rfl, Nat.le_of_ble_eq_true rfl⟩) hS (fun r3 locs hw hS => ?_)
    refine lv_iadd hx hb dX8_reset_70 ?_
    refine lv_bipush (v := 20) hx hb dX8_reset_71 (by decide) ?_
    refine lv_iconst (v := 0) hx hb dX8_reset_73 (by decide) ?_
    refine lv_null hx hb dX8_reset_74 ?_
    refine lv_iconst (v := 0) hx hb dX8_reset_75 (by decide) ?_
    refine lv_iconst (v := 0) hx hb dX8_reset_76 (by decide) ?_
    refine kc_v (rn_v (As := [.int (σ1 10 0 0), .int (σ1 10 0 1), .int (σ1 10 0 2), .int 0, .int ((σ1 10 0 3) + r3), .int 20, .int 0, nav G a1 0 0, .int 0, .int 0]) (rest := []) C hH hS (by decide) rfl (by decide) (m8_send l G a1 τ σ1 (σ1 10 0 0) (σ1 10 0 1) (σ1 10 0 2) 0 ((σ1 10 0 3) + r3) 20 0 0 0 0 0 _ hw) (cwV 10 hts (lw_V q1170 q981 q982 q165 q983) rfl rfl rfl kX8_send ⟨Nat.le_of_ble_eq_true rfl, Nat.le_of_ble_eq_true rfl⟩) rfl hl.1 rfl (Nat.le_of_ble_eq_true rfl) dX8_reset_77 ⟨Nat.le_of_ble_eq_true rfl, Nat.le_of_ble_eq_true rfl⟩) hS (fun σ4 H locs hw hH hS => ?_)
    exact rt_v C hH hS hw dX8_reset_80
  have hw := hw.2 h
  refine lv_aload_n hx hb dX8_reset_19 rfl (lv_at hl 0 rfl) ?_
  refine lv_aload_n hx hb dX8_reset_20 rfl (lv_at hl 1 rfl) ?_
  refine g10_0 C hH q514 dX8_reset_21 ?_
  refine lv_aload_n hx hb dX8_reset_24 rfl (lv_at hl 1 rfl) ?_
  refine g10_1 C hH q518 dX8_reset_25 ?_
  refine lv_aload_n hx hb dX8_reset_28 rfl (lv_at hl 1 rfl) ?_
  refine g10_2 C hH q522 dX8_reset_29 ?_
  refine lv_aload_n hx hb dX8_reset_32 rfl (lv_at hl 1 rfl) ?_
  refine g10_4 C hH q528 dX8_reset_33 ?_
  refine lv_iconst (v := 0) hx hb dX8_reset_36 (by decide) ?_
  refine lv_iconst (v := 4) hx hb dX8_reset_37 (by decide) ?_
  refine lv_iconst (v := 0) hx hb dX8_reset_38 (by decide) ?_
  refine lv_null hx hb dX8_reset_39 ?_
  refine lv_iconst (v := 0) hx hb dX8_reset_40 (by decide) ?_
  refine lv_iconst (v := 0) hx hb dX8_reset_41 (by decide) ?_
  refine kc_v (rn_v (As := [.int (σ1 10 0 0), .int (σ1 10 0 1), .int (σ1 10 0 2), .int (σ1 10 0 4), .int 0, .int 4, .int 0, nav G a1 0 0, .int 0, .int 0]) (rest := []) C hH hS (by decide) rfl (by decide) (m8_send l G a1 τ σ1 (σ1 10 0 0) (σ1 10 0 1) (σ1 10 0 2) (σ1 10 0 4) 0 4 0 0 0 0 0 _ hw) (cwV 10 hts (lw_V q1170 q981 q982 q165 q983) rfl rfl rfl kX8_send ⟨Nat.le_of_ble_eq_true rfl, Nat.le_of_ble_eq_true rfl⟩) rfl hl.1 rfl (Nat.le_of_ble_eq_true rfl) dX8_reset_42 ⟨Nat.le_of_ble_eq_true rfl, Nat.le_of_ble_eq_true rfl⟩) hS (fun σ5 H locs hw hH hS => ?_)
  refine lv_goto (tgt := 80) hx hb dX8_reset_45 (by decide) ?_
  exact rt_v C hH hS hw dX8_reset_80
/-! WebHost$Connection.segment(II[BII)V -/
abbrev cX11_segment : ByteArray := prog_3_method_3_code
def yX11_segment : MethodName := ⟨RX11, "segment", "(II[BII)V"⟩
theorem dX11_segment_0 : decode cX11_segment 0 = .ok (.aload_n 0, 1) := by decide +kernel
theorem dX11_segment_1 : decode cX11_segment 1 = .ok (.aload_n 0, 1) := by decide +kernel
theorem dX11_segment_2 : decode cX11_segment 2 = .ok (.getfield 12, 3) := by decide +kernel
theorem dX11_segment_5 : decode cX11_segment 5 = .ok (.invokevirtual 37, 3) := by decide +kernel
theorem dX11_segment_8 : decode cX11_segment 8 = .ok (.putfield 41, 3) := by decide +kernel
theorem dX11_segment_11 : decode cX11_segment 11 = .ok (.aload_n 0, 1) := by decide +kernel
theorem dX11_segment_12 : decode cX11_segment 12 = .ok (.getfield 25, 3) := by decide +kernel
theorem dX11_segment_15 : decode cX11_segment 15 = .ok (.aload_n 0, 1) := by decide +kernel
theorem dX11_segment_16 : decode cX11_segment 16 = .ok (.getfield 44, 3) := by decide +kernel
theorem dX11_segment_19 : decode cX11_segment 19 = .ok (.aload_n 0, 1) := by decide +kernel
theorem dX11_segment_20 : decode cX11_segment 20 = .ok (.getfield 47, 3) := by decide +kernel
theorem dX11_segment_23 : decode cX11_segment 23 = .ok (.bipush 80, 2) := by decide +kernel
theorem dX11_segment_25 : decode cX11_segment 25 = .ok (.iload_n 1, 1) := by decide +kernel
theorem dX11_segment_26 : decode cX11_segment 26 = .ok (.iload_n 2, 1) := by decide +kernel
theorem dX11_segment_27 : decode cX11_segment 27 = .ok (.bipush 16, 2) := by decide +kernel
theorem dX11_segment_29 : decode cX11_segment 29 = .ok (.iand, 1) := by decide +kernel
theorem dX11_segment_30 : decode cX11_segment 30 = .ok (.ifCond .eq 10, 3) := by decide +kernel
theorem dX11_segment_33 : decode cX11_segment 33 = .ok (.aload_n 0, 1) := by decide +kernel
theorem dX11_segment_34 : decode cX11_segment 34 = .ok (.getfield 33, 3) := by decide +kernel
theorem dX11_segment_37 : decode cX11_segment 37 = .ok (.goto 4, 3) := by decide +kernel
theorem dX11_segment_40 : decode cX11_segment 40 = .ok (.iconst 0, 1) := by decide +kernel
theorem dX11_segment_41 : decode cX11_segment 41 = .ok (.iload_n 2, 1) := by decide +kernel
theorem dX11_segment_42 : decode cX11_segment 42 = .ok (.aload_n 0, 1) := by decide +kernel
theorem dX11_segment_43 : decode cX11_segment 43 = .ok (.getfield 41, 3) := by decide +kernel
theorem dX11_segment_46 : decode cX11_segment 46 = .ok (.aload_n 3, 1) := by decide +kernel
theorem dX11_segment_47 : decode cX11_segment 47 = .ok (.iload 4, 2) := by decide +kernel
theorem dX11_segment_49 : decode cX11_segment 49 = .ok (.iload 5, 2) := by decide +kernel
theorem dX11_segment_51 : decode cX11_segment 51 = .ok (.invokevirtual 50, 3) := by decide +kernel
theorem dX11_segment_54 : decode cX11_segment 54 = .ok (.iload_n 2, 1) := by decide +kernel
theorem dX11_segment_55 : decode cX11_segment 55 = .ok (.bipush 16, 2) := by decide +kernel
theorem dX11_segment_57 : decode cX11_segment 57 = .ok (.iand, 1) := by decide +kernel
theorem dX11_segment_58 : decode cX11_segment 58 = .ok (.ifCond .eq 8, 3) := by decide +kernel
theorem dX11_segment_61 : decode cX11_segment 61 = .ok (.aload_n 0, 1) := by decide +kernel
theorem dX11_segment_62 : decode cX11_segment 62 = .ok (.iconst 0, 1) := by decide +kernel
theorem dX11_segment_63 : decode cX11_segment 63 = .ok (.putfield 56, 3) := by decide +kernel
theorem dX11_segment_66 : decode cX11_segment 66 = .ok (.return_, 1) := by decide +kernel
def rmX11_segment : Room := { frames := 6, cells := 0, slots := 0, locals := 161 }
theorem kX11_segment : yX11_segment.cls = "WebHost$Connection" ∧ yX11_segment.cls ≠ "java/lang/invoke/MethodHandle" ∧ yX11_segment.cls ≠ "java/lang/invoke/VarHandle" ∧ (parseMethodDescriptor yX11_segment.desc).map (fun d => d.parameters.length) = some 5 := by decide +kernel
def w11_segment_J41 (σ : St) (o0 : Nat) (x2 : Int32) (k3 : Nat) (i3 : Nat) (x4 : Int32) (x5 : Int32) (xs0 : Int32) (xs1 : Int32) (xs2 : Int32) (xs3 : Int32) (xs4 : Int32) (Q : St → Prop) : Prop := w8_send σ xs4 xs3 xs2 xs1 xs0 x2 (σ 11 o0 21) k3 i3 x4 x5 (fun σ3 => (((x2 &&& 16) = 0 → Q σ3) ∧ (¬ (x2 &&& 16) = 0 → (∀ σ4, σ4 = up3 σ3 11 o0 22 0 → (Q σ4)))))
set_option maxHeartbeats 4000000 in
theorem k11_segment_J41 {p : Program} {l : Launch} {e : Env} {s : State} {m : MethodId} {args : Array Value} {below : List Frame} {meth : Method} {c : Code} {G : Gh} {a1 : Nat → Nat → Nat} {τ : St} {Q : St → Prop} (C : Cx p e s m args meth c cX11_segment 6 none "WebHost$Connection" G) (σ : St) (o0 : Nat) (x2 : Int32) (k3 : Nat) (i3 : Nat) (x4 : Int32) (x5 : Int32) (xs0 : Int32) (xs1 : Int32) (xs2 : Int32) (xs3 : Int32) (xs4 : Int32) (ho0 : o0 < 16) (hw : w11_segment_J41 σ o0 x2 k3 i3 x4 x5 xs0 xs1 xs2 xs3 xs4 Q) (H : Heap) (locs : List Loc) (ls : Array Slot) (hH : Hd G a1 (cmb σ τ) H) (hS : va_S (gA G) s.heap H locs) (hl : lv_has ls 6 [(0, .ref (ga G 11 o0)), (2, .int x2), (3, nav G a1 k3 i3), (4, .int x4), (5, .int x5)]) : W p l e rmX11_segment s m args below meth c H locs 0 0 (MQ below (QVs G a1 (fun u => cmb u τ) Q) args s 0 0 (gA G)) (F0 m 41 ls [.int xs0, .int xs1, .int xs2, .int xs3, .int xs4, .ref (ga G 8 0)]) := by
  have hx := C.1
  have hb := C.2.1
  have hown := C.2.2.2.2.2.1
  have hts := C.2.2.2.2.2.2.1
  refine lv_iload_n hx hb dX11_segment_41 rfl (lv_at hl 1 rfl) ?_
  refine lv_aload_n hx hb dX11_segment_42 rfl (lv_at hl 0 rfl) ?_
  refine g11_21 C hH ho0 q643 dX11_segment_43 ?_
  refine lv_aload_nV hx hb dX11_segment_46 rfl (nav_or _ _ _ _) (lv_at hl 2 rfl) ?_
  refine lv_iload hx hb dX11_segment_47 (lv_at hl 3 rfl) ?_
  refine lv_iload hx hb dX11_segment_49 (lv_at hl 4 rfl) ?_
  refine kc_v (rn_v (As := [.int xs4, .int xs3, .int xs2, .int xs1, .int xs0, .int x2, .int (σ 11 o0 21), nav G a1 k3 i3, .int x4, .int x5]) (rest := []) C hH hS (by decide) rfl (by decide) (m8_send l G a1 τ σ xs4 xs3 xs2 xs1 xs0 x2 (σ 11 o0 21) k3 i3 x4 x5 _ hw) (cwV 10 hts (lw_V q980 q981 q982 q165 q983) rfl rfl rfl kX8_send ⟨Nat.le_of_ble_eq_true rfl, Nat.le_of_ble_eq_true rfl⟩) rfl hl.1 rfl (Nat.le_of_ble_eq_true rfl) dX11_segment_51 ⟨Nat.le_of_ble_eq_true rfl, Nat.le_of_ble_eq_true rfl⟩) hS (fun σ3 H locs hw hH hS => ?_)
  refine lv_iload_n hx hb dX11_segment_54 rfl (lv_at hl 1 rfl) ?_
  refine lv_bipush (v := 16) hx hb dX11_segment_55 (by decide) ?_
  refine lv_iand hx hb dX11_segment_57 ?_
  refine lv_if_eq (tgt := 66) hx hb dX11_segment_58 (by decide) (fun h => ?_) (fun h => ?_)
  · have hw := hw.1 h
    exact rt_v C hH hS hw dX11_segment_66
  have hw := hw.2 h
  refine lv_aload_n hx hb dX11_segment_61 rfl (lv_at hl 0 rfl) ?_
  refine lv_iconst (v := 0) hx hb dX11_segment_62 (by decide) ?_
  refine p11_22 C hH hS ho0 (Or.inl rfl) q644 dX11_segment_63 (fun σ4 e4 H locs hH hS => ?_)
  have hw := hw σ4 e4
  exact rt_v C hH hS hw dX11_segment_66
def w11_segment (σ : St) (o0 : Nat) (x1 : Int32) (x2 : Int32) (k3 : Nat) (i3 : Nat) (x4 : Int32) (x5 : Int32) (Q : St → Prop) : Prop := w12_window σ o0 (fun r1 => (∀ σ2, σ2 = up3 σ 11 o0 21 r1 → (((x2 &&& 16) = 0 → (w11_segment_J41 σ2 o0 x2 k3 i3 x4 x5 0 x1 80 (σ2 11 o0 4) (σ2 11 o0 3) Q)) ∧ (¬ (x2 &&& 16) = 0 → (w11_segment_J41 σ2 o0 x2 k3 i3 x4 x5 (σ2 11 o0 6) x1 80 (σ2 11 o0 4) (σ2 11 o0 3) Q)))))
set_option maxHeartbeats 4000000 in
theorem m11_segment (l : Launch) (G : Gh) (a1 : Nat → Nat → Nat) (τ : St) (σ : St) (o0 : Nat) (x1 : Int32) (x2 : Int32) (k3 : Nat) (i3 : Nat) (x4 : Int32) (x5 : Int32) (ho0 : o0 < 16) (Q : St → Prop) (hw : w11_segment σ o0 x1 x2 k3 i3 x4 x5 Q) : Met l yX11_segment (ws_ yX11_segment cX11_segment 6 none) rmX11_segment (PcS G a1 (cmb σ τ) [.ref (ga G 11 o0), .int x1, .int x2, nav G a1 k3 i3, .int x4, .int x5]) (QVs G a1 (fun u => cmb u τ) Q) 0 0 (gA G) := by
  refine met_w (by decide) (by simp [lg_sl, nav_cat, cat_i, cat_r]) ?_
  intro p e s m below meth c ls C hH hS hl
  have C : Cx p e s m _ meth c cX11_segment 6 none "WebHost$Connection" G := C
  have hl : lv_has ls 6 [(0, .ref (ga G 11 o0)), (1, .int x1), (2, .int x2), (3, nav G a1 k3 i3), (4, .int x4), (5, .int x5)] := by simpa [lv_args, nav_cat, cat_i, cat_r] using hl
  have hx := C.1
  have hb := C.2.1
  have hown := C.2.2.2.2.2.1
  have hts := C.2.2.2.2.2.2.1
  obtain ⟨locs, hlocs⟩ : ∃ z : List Loc, z = [] := ⟨_, rfl⟩
  obtain ⟨H, hHe⟩ : ∃ z : Heap, z = s.heap := ⟨_, rfl⟩
  have hH : Hd G a1 (cmb σ τ) H := by rw [hHe]; exact hH
  have hS : va_S (gA G) s.heap H locs := by rw [hHe, hlocs]; exact hS
  refine W.heap0 hHe.symm hlocs.symm ?_
  refine lv_aload_n hx hb dX11_segment_0 rfl (lv_at hl 0 rfl) ?_
  refine lv_aload_n hx hb dX11_segment_1 rfl (lv_at hl 0 rfl) ?_
  refine g11_20 C hH ho0 q641 dX11_segment_2 ?_
  refine kc_ip (rn_vp (As := []) (rest := [.ref (ga G 11 o0)]) C hH hS (by decide) rfl ho0 (m12_window l G a1 τ σ H o0 ho0 _ hw) (cwV 0 hts (lw_V q976 q977 q978 q169 q979) rfl rfl rfl kX12_window ⟨Nat.le_of_ble_eq_true rfl, Nat.le_of_ble_eq_true rfl⟩) rfl hl.1 rfl (Nat.le_of_ble_eq_true rfl) dX11_segment_5 ⟨Nat.le_of_ble_eq_true rfl, Nat.le_of_ble_eq_true rfl⟩) hS (fun r1 locs hw hS => ?_)
  refine p11_21 C hH hS ho0 q643 dX11_segment_8 (fun σ2 e2 H locs hH hS => ?_)
  have hw := hw σ2 e2
  refine lv_aload_n hx hb dX11_segment_11 rfl (lv_at hl 0 rfl) ?_
  refine g11_0 C hH ho0 q608 dX11_segment_12 ?_
  refine lv_aload_n hx hb dX11_segment_15 rfl (lv_at hl 0 rfl) ?_
  refine g11_3 C hH ho0 q612 dX11_segment_16 ?_
  refine lv_aload_n hx hb dX11_segment_19 rfl (lv_at hl 0 rfl) ?_
  refine g11_4 C hH ho0 q614 dX11_segment_20 ?_
  refine lv_bipush (v := 80) hx hb dX11_segment_23 (by decide) ?_
  refine lv_iload_n hx hb dX11_segment_25 rfl (lv_at hl 1 rfl) ?_
  refine lv_iload_n hx hb dX11_segment_26 rfl (lv_at hl 2 rfl) ?_
  refine lv_bipush (v := 16) hx hb dX11_segment_27 (by decide) ?_
  refine lv_iand hx hb dX11_segment_29 ?_
  refine lv_if_eq (tgt := 40) hx hb dX11_segment_30 (by decide) (fun h => ?_) (fun h => ?_)
  · have hw := hw.1 h
    refine lv_iconst (v := 0) hx hb dX11_segment_40 (by decide) ?_
    exact k11_segment_J41 C σ2 o0 x2 k3 i3 x4 x5 0 x1 80 (σ2 11 o0 4) (σ2 11 o0 3) ho0 hw H locs ls hH hS (lv_sub hl [0, 2, 3, 4, 5] rfl)
  have hw := hw.2 h
  refine lv_aload_n hx hb dX11_segment_33 rfl (lv_at hl 0 rfl) ?_
  refine g11_6 C hH ho0 q617 dX11_segment_34 ?_
  refine lv_goto (tgt := 41) hx hb dX11_segment_37 (by decide) ?_
  exact k11_segment_J41 C σ2 o0 x2 k3 i3 x4 x5 (σ2 11 o0 6) x1 80 (σ2 11 o0 4) (σ2 11 o0 3) ho0 hw H locs ls hH hS (lv_sub hl [0, 2, 3, 4, 5] rfl)
/-! WebHostModel.acknowledge(LWebHostModel$Connection;)V -/
abbrev cX14_acknowledge : ByteArray := prog_17_method_43_code
def yX14_acknowledge : MethodName := ⟨RX14, "acknowledge", "(LWebHostModel$Connection;)V"⟩
theorem dX14_acknowledge_0 : decode cX14_acknowledge 0 = .ok (.aload_n 0, 1) := by decide +kernel
theorem dX14_acknowledge_1 : decode cX14_acknowledge 1 = .ok (.aload_n 1, 1) := by decide +kernel
theorem dX14_acknowledge_2 : decode cX14_acknowledge 2 = .ok (.getfield 314, 3) := by decide +kernel
theorem dX14_acknowledge_5 : decode cX14_acknowledge 5 = .ok (.bipush 80, 2) := by decide +kernel
theorem dX14_acknowledge_7 : decode cX14_acknowledge 7 = .ok (.aload_n 1, 1) := by decide +kernel
theorem dX14_acknowledge_8 : decode cX14_acknowledge 8 = .ok (.getfield 315, 3) := by decide +kernel
theorem dX14_acknowledge_11 : decode cX14_acknowledge 11 = .ok (.aload_n 1, 1) := by decide +kernel
theorem dX14_acknowledge_12 : decode cX14_acknowledge 12 = .ok (.getfield 345, 3) := by decide +kernel
theorem dX14_acknowledge_15 : decode cX14_acknowledge 15 = .ok (.aload_n 1, 1) := by decide +kernel
theorem dX14_acknowledge_16 : decode cX14_acknowledge 16 = .ok (.getfield 348, 3) := by decide +kernel
theorem dX14_acknowledge_19 : decode cX14_acknowledge 19 = .ok (.bipush 16, 2) := by decide +kernel
theorem dX14_acknowledge_21 : decode cX14_acknowledge 21 = .ok (.aload_n 1, 1) := by decide +kernel
theorem dX14_acknowledge_22 : decode cX14_acknowledge 22 = .ok (.invokevirtual 339, 3) := by decide +kernel
theorem dX14_acknowledge_25 : decode cX14_acknowledge 25 = .ok (.iconst 0, 1) := by decide +kernel
theorem dX14_acknowledge_26 : decode cX14_acknowledge 26 = .ok (.iconst 0, 1) := by decide +kernel
theorem dX14_acknowledge_27 : decode cX14_acknowledge 27 = .ok (.invokevirtual 329, 3) := by decide +kernel
theorem dX14_acknowledge_30 : decode cX14_acknowledge 30 = .ok (.aload_n 0, 1) := by decide +kernel
theorem dX14_acknowledge_31 : decode cX14_acknowledge 31 = .ok (.aload_n 1, 1) := by decide +kernel
theorem dX14_acknowledge_32 : decode cX14_acknowledge 32 = .ok (.invokevirtual 351, 3) := by decide +kernel
theorem dX14_acknowledge_35 : decode cX14_acknowledge 35 = .ok (.return_, 1) := by decide +kernel
def rmX14_acknowledge : Room := { frames := 6, cells := 0, slots := 0, locals := 156 }
theorem kX14_acknowledge : yX14_acknowledge.cls = "WebHostModel" ∧ yX14_acknowledge.cls ≠ "java/lang/invoke/MethodHandle" ∧ yX14_acknowledge.cls ≠ "java/lang/invoke/VarHandle" ∧ (parseMethodDescriptor yX14_acknowledge.desc).map (fun d => d.parameters.length) = some 1 := by decide +kernel
def w14_acknowledge (σ : St) (o1 : Nat) (Q : St → Prop) : Prop := w15_open σ o1 (fun r1 => (w14_segmentOut σ (σ 15 o1 1) 80 (σ 15 o1 2) (σ 15 o1 5) (σ 15 o1 36) 16 r1 0 0 (fun σ2 => (w14_pays σ2 o1 (fun σ3 => (Q σ3))))))
set_option maxHeartbeats 4000000 in
theorem m14_acknowledge (l : Launch) (G : Gh) (a1 : Nat → Nat → Nat) (τ : St) (σ : St) (o1 : Nat) (ho1 : o1 < 16) (Q : St → Prop) (hw : w14_acknowledge σ o1 Q) : Met l yX14_acknowledge (ws_ yX14_acknowledge cX14_acknowledge 2 none) rmX14_acknowledge (PcS G a1 (cmb τ σ) [.ref (ga G 14 0), .ref (ga G 15 o1)]) (QVs G a1 (fun u => cmb τ u) Q) 0 0 (gA G) := by
  refine met_w (by decide) (Nat.le_of_ble_eq_true rfl) ?_
  intro p e s m below meth c ls C hH hS hl
  have C : Cx p e s m _ meth c cX14_acknowledge 2 none "WebHostModel" G := C
  have hl : lv_has ls 2 [(0, .ref (ga G 14 0)), (1, .ref (ga G 15 o1))] := hl
  have hx := C.1
  have hb := C.2.1
  have hown := C.2.2.2.2.2.1
  have hts := C.2.2.2.2.2.2.1
  obtain ⟨locs, hlocs⟩ : ∃ z : List Loc, z = [] := ⟨_, rfl⟩
  obtain ⟨H, hHe⟩ : ∃ z : Heap, z = s.heap := ⟨_, rfl⟩
  have hH : Hd G a1 (cmb τ σ) H := by rw [hHe]; exact hH
  have hS : va_S (gA G) s.heap H locs := by rw [hHe, hlocs]; exact hS
  refine W.heap0 hHe.symm hlocs.symm ?_
  refine lv_aload_n hx hb dX14_acknowledge_0 rfl (lv_at hl 0 rfl) ?_
  refine lv_aload_n hx hb dX14_acknowledge_1 rfl (lv_at hl 1 rfl) ?_
  refine g15_1 C hH ho1 q1708 dX14_acknowledge_2 ?_
  refine lv_bipush (v := 80) hx hb dX14_acknowledge_5 (by decide) ?_
  refine lv_aload_n hx hb dX14_acknowledge_7 rfl (lv_at hl 1 rfl) ?_
  refine g15_2 C hH ho1 q1709 dX14_acknowledge_8 ?_
  refine lv_aload_n hx hb dX14_acknowledge_11 rfl (lv_at hl 1 rfl) ?_
  refine g15_5 C hH ho1 q1712 dX14_acknowledge_12 ?_
  refine lv_aload_n hx hb dX14_acknowledge_15 rfl (lv_at hl 1 rfl) ?_
  refine g15_36 C hH ho1 q1752 dX14_acknowledge_16 ?_
  refine lv_bipush (v := 16) hx hb dX14_acknowledge_19 (by decide) ?_
  refine lv_aload_n hx hb dX14_acknowledge_21 rfl (lv_at hl 1 rfl) ?_
  refine kc_ip (rn_vp (As := []) (rest := [.int 16, .int (σ 15 o1 36), .int (σ 15 o1 5), .int (σ 15 o1 2), .int 80, .int (σ 15 o1 1), .ref (ga G 14 0)]) C hH hS (by decide) rfl ho1 (m15_open l G a1 τ σ H o1 ho1 _ hw) (cwV 0 hts (lw_V q2231 q2232 q2233 q172 q2234) rfl rfl rfl kX15_open ⟨Nat.le_of_ble_eq_true rfl, Nat.le_of_ble_eq_true rfl⟩) rfl hl.1 rfl (Nat.le_of_ble_eq_true rfl) dX14_acknowledge_22 ⟨Nat.le_of_ble_eq_true rfl, Nat.le_of_ble_eq_true rfl⟩) hS (fun r1 locs hw hS => ?_)
  refine lv_iconst (v := 0) hx hb dX14_acknowledge_25 (by decide) ?_
  refine lv_iconst (v := 0) hx hb dX14_acknowledge_26 (by decide) ?_
  refine kc_v (rn_v (As := [.int (σ 15 o1 1), .int 80, .int (σ 15 o1 2), .int (σ 15 o1 5), .int (σ 15 o1 36), .int 16, .int r1, .int 0, .int 0]) (rest := []) C hH hS (by decide) rfl (by decide) (m14_segmentOut l G a1 τ σ (σ 15 o1 1) 80 (σ 15 o1 2) (σ 15 o1 5) (σ 15 o1 36) 16 r1 0 0 _ hw) (cwV 9 hts (lw_V q2239 q2241 qs87 q171 q2242) rfl rfl rfl kX14_segmentOut ⟨Nat.le_of_ble_eq_true rfl, Nat.le_of_ble_eq_true rfl⟩) rfl hl.1 rfl (Nat.le_of_ble_eq_true rfl) dX14_acknowledge_27 ⟨Nat.le_of_ble_eq_true rfl, Nat.le_of_ble_eq_true rfl⟩) hS (fun σ2 H locs hw hH hS => ?_)
  refine lv_aload_n hx hb dX14_acknowledge_30 rfl (lv_at hl 0 rfl) ?_
  refine lv_aload_n hx hb dX14_acknowledge_31 rfl (lv_at hl 1 rfl) ?_
  refine kc_v (rn_v (As := [.ref (ga G 15 o1)]) (rest := []) C hH hS (by decide) rfl (by decide) (m14_pays l G a1 τ σ2 o1 ho1 _ hw) (cwV 1 hts (lw_V q2286 q2288 qs96 q171 q2289) rfl rfl rfl kX14_pays ⟨Nat.le_of_ble_eq_true rfl, Nat.le_of_ble_eq_true rfl⟩) rfl hl.1 rfl (Nat.le_of_ble_eq_true rfl) dX14_acknowledge_32 ⟨Nat.le_of_ble_eq_true rfl, Nat.le_of_ble_eq_true rfl⟩) hS (fun σ3 H locs hw hH hS => ?_)
  exact rt_v C hH hS hw dX14_acknowledge_35
/-! WebHostModel.dataOut(LWebHostModel$Connection;IIZ)V -/
abbrev cX14_dataOut : ByteArray := prog_17_method_48_code
def yX14_dataOut : MethodName := ⟨RX14, "dataOut", "(LWebHostModel$Connection;IIZ)V"⟩
theorem dX14_dataOut_0 : decode cX14_dataOut 0 = .ok (.iconst 0, 1) := by decide +kernel
theorem dX14_dataOut_1 : decode cX14_dataOut 1 = .ok (.istore 5, 2) := by decide +kernel
theorem dX14_dataOut_3 : decode cX14_dataOut 3 = .ok (.iload 5, 2) := by decide +kernel
theorem dX14_dataOut_5 : decode cX14_dataOut 5 = .ok (.iload_n 3, 1) := by decide +kernel
theorem dX14_dataOut_6 : decode cX14_dataOut 6 = .ok (.if_icmp .ge 28, 3) := by decide +kernel
theorem dX14_dataOut_9 : decode cX14_dataOut 9 = .ok (.aload_n 0, 1) := by decide +kernel
theorem dX14_dataOut_10 : decode cX14_dataOut 10 = .ok (.getfield 34, 3) := by decide +kernel
theorem dX14_dataOut_13 : decode cX14_dataOut 13 = .ok (.bipush 54, 2) := by decide +kernel
theorem dX14_dataOut_15 : decode cX14_dataOut 15 = .ok (.iload 5, 2) := by decide +kernel
theorem dX14_dataOut_17 : decode cX14_dataOut 17 = .ok (.iadd, 1) := by decide +kernel
theorem dX14_dataOut_18 : decode cX14_dataOut 18 = .ok (.aload_n 0, 1) := by decide +kernel
theorem dX14_dataOut_19 : decode cX14_dataOut 19 = .ok (.aload_n 1, 1) := by decide +kernel
theorem dX14_dataOut_20 : decode cX14_dataOut 20 = .ok (.iload_n 2, 1) := by decide +kernel
theorem dX14_dataOut_21 : decode cX14_dataOut 21 = .ok (.iload 5, 2) := by decide +kernel
theorem dX14_dataOut_23 : decode cX14_dataOut 23 = .ok (.iadd, 1) := by decide +kernel
theorem dX14_dataOut_24 : decode cX14_dataOut 24 = .ok (.invokevirtual 398, 3) := by decide +kernel
theorem dX14_dataOut_27 : decode cX14_dataOut 27 = .ok (.bastore, 1) := by decide +kernel
theorem dX14_dataOut_28 : decode cX14_dataOut 28 = .ok (.iinc 5 1, 3) := by decide +kernel
theorem dX14_dataOut_31 : decode cX14_dataOut 31 = .ok (.goto (-28), 3) := by decide +kernel
theorem dX14_dataOut_34 : decode cX14_dataOut 34 = .ok (.bipush 16, 2) := by decide +kernel
theorem dX14_dataOut_36 : decode cX14_dataOut 36 = .ok (.iload_n 3, 1) := by decide +kernel
theorem dX14_dataOut_37 : decode cX14_dataOut 37 = .ok (.ifCond .le 18, 3) := by decide +kernel
theorem dX14_dataOut_40 : decode cX14_dataOut 40 = .ok (.iload_n 2, 1) := by decide +kernel
theorem dX14_dataOut_41 : decode cX14_dataOut 41 = .ok (.iload_n 3, 1) := by decide +kernel
theorem dX14_dataOut_42 : decode cX14_dataOut 42 = .ok (.iadd, 1) := by decide +kernel
theorem dX14_dataOut_43 : decode cX14_dataOut 43 = .ok (.aload_n 1, 1) := by decide +kernel
theorem dX14_dataOut_44 : decode cX14_dataOut 44 = .ok (.invokevirtual 402, 3) := by decide +kernel
theorem dX14_dataOut_47 : decode cX14_dataOut 47 = .ok (.if_icmp .ne 8, 3) := by decide +kernel
theorem dX14_dataOut_50 : decode cX14_dataOut 50 = .ok (.bipush 8, 2) := by decide +kernel
theorem dX14_dataOut_52 : decode cX14_dataOut 52 = .ok (.goto 4, 3) := by decide +kernel
theorem dX14_dataOut_55 : decode cX14_dataOut 55 = .ok (.iconst 0, 1) := by decide +kernel
theorem dX14_dataOut_56 : decode cX14_dataOut 56 = .ok (.ior, 1) := by decide +kernel
theorem dX14_dataOut_57 : decode cX14_dataOut 57 = .ok (.iload 4, 2) := by decide +kernel
theorem dX14_dataOut_59 : decode cX14_dataOut 59 = .ok (.ifCond .eq 7, 3) := by decide +kernel
theorem dX14_dataOut_62 : decode cX14_dataOut 62 = .ok (.iconst 1, 1) := by decide +kernel
theorem dX14_dataOut_63 : decode cX14_dataOut 63 = .ok (.goto 4, 3) := by decide +kernel
theorem dX14_dataOut_66 : decode cX14_dataOut 66 = .ok (.iconst 0, 1) := by decide +kernel
theorem dX14_dataOut_67 : decode cX14_dataOut 67 = .ok (.ior, 1) := by decide +kernel
theorem dX14_dataOut_68 : decode cX14_dataOut 68 = .ok (.istore 5, 2) := by decide +kernel
theorem dX14_dataOut_70 : decode cX14_dataOut 70 = .ok (.aload_n 1, 1) := by decide +kernel
theorem dX14_dataOut_71 : decode cX14_dataOut 71 = .ok (.getfield 152, 3) := by decide +kernel
theorem dX14_dataOut_74 : decode cX14_dataOut 74 = .ok (.iconst 1, 1) := by decide +kernel
theorem dX14_dataOut_75 : decode cX14_dataOut 75 = .ok (.if_icmp .eq 28, 3) := by decide +kernel
theorem dX14_dataOut_78 : decode cX14_dataOut 78 = .ok (.aload_n 1, 1) := by decide +kernel
theorem dX14_dataOut_79 : decode cX14_dataOut 79 = .ok (.getfield 152, 3) := by decide +kernel
theorem dX14_dataOut_82 : decode cX14_dataOut 82 = .ok (.bipush 6, 2) := by decide +kernel
theorem dX14_dataOut_84 : decode cX14_dataOut 84 = .ok (.if_icmp .eq 19, 3) := by decide +kernel
theorem dX14_dataOut_87 : decode cX14_dataOut 87 = .ok (.aload_n 1, 1) := by decide +kernel
theorem dX14_dataOut_88 : decode cX14_dataOut 88 = .ok (.getfield 152, 3) := by decide +kernel
theorem dX14_dataOut_91 : decode cX14_dataOut 91 = .ok (.iconst 4, 1) := by decide +kernel
theorem dX14_dataOut_92 : decode cX14_dataOut 92 = .ok (.if_icmp .eq 11, 3) := by decide +kernel
theorem dX14_dataOut_95 : decode cX14_dataOut 95 = .ok (.iload_n 3, 1) := by decide +kernel
theorem dX14_dataOut_96 : decode cX14_dataOut 96 = .ok (.aload_n 1, 1) := by decide +kernel
theorem dX14_dataOut_97 : decode cX14_dataOut 97 = .ok (.getfield 405, 3) := by decide +kernel
theorem dX14_dataOut_100 : decode cX14_dataOut 100 = .ok (.if_icmp .le 13, 3) := by decide +kernel
theorem dX14_dataOut_103 : decode cX14_dataOut 103 = .ok (.aload_n 0, 1) := by decide +kernel
theorem dX14_dataOut_104 : decode cX14_dataOut 104 = .ok (.dup, 1) := by decide +kernel
theorem dX14_dataOut_105 : decode cX14_dataOut 105 = .ok (.getfield 146, 3) := by decide +kernel
theorem dX14_dataOut_108 : decode cX14_dataOut 108 = .ok (.iconst 1, 1) := by decide +kernel
theorem dX14_dataOut_109 : decode cX14_dataOut 109 = .ok (.iadd, 1) := by decide +kernel
theorem dX14_dataOut_110 : decode cX14_dataOut 110 = .ok (.putfield 146, 3) := by decide +kernel
theorem dX14_dataOut_113 : decode cX14_dataOut 113 = .ok (.aload_n 0, 1) := by decide +kernel
theorem dX14_dataOut_114 : decode cX14_dataOut 114 = .ok (.aload_n 1, 1) := by decide +kernel
theorem dX14_dataOut_115 : decode cX14_dataOut 115 = .ok (.getfield 314, 3) := by decide +kernel
theorem dX14_dataOut_118 : decode cX14_dataOut 118 = .ok (.bipush 80, 2) := by decide +kernel
theorem dX14_dataOut_120 : decode cX14_dataOut 120 = .ok (.aload_n 1, 1) := by decide +kernel
theorem dX14_dataOut_121 : decode cX14_dataOut 121 = .ok (.getfield 315, 3) := by decide +kernel
theorem dX14_dataOut_124 : decode cX14_dataOut 124 = .ok (.iload_n 2, 1) := by decide +kernel
theorem dX14_dataOut_125 : decode cX14_dataOut 125 = .ok (.aload_n 1, 1) := by decide +kernel
theorem dX14_dataOut_126 : decode cX14_dataOut 126 = .ok (.getfield 348, 3) := by decide +kernel
theorem dX14_dataOut_129 : decode cX14_dataOut 129 = .ok (.iload 5, 2) := by decide +kernel
theorem dX14_dataOut_131 : decode cX14_dataOut 131 = .ok (.aload_n 1, 1) := by decide +kernel
theorem dX14_dataOut_132 : decode cX14_dataOut 132 = .ok (.invokevirtual 339, 3) := by decide +kernel
theorem dX14_dataOut_135 : decode cX14_dataOut 135 = .ok (.iconst 0, 1) := by decide +kernel
theorem dX14_dataOut_136 : decode cX14_dataOut 136 = .ok (.iload_n 3, 1) := by decide +kernel
theorem dX14_dataOut_137 : decode cX14_dataOut 137 = .ok (.invokevirtual 329, 3) := by decide +kernel
theorem dX14_dataOut_140 : decode cX14_dataOut 140 = .ok (.aload_n 0, 1) := by decide +kernel
theorem dX14_dataOut_141 : decode cX14_dataOut 141 = .ok (.aload_n 1, 1) := by decide +kernel
theorem dX14_dataOut_142 : decode cX14_dataOut 142 = .ok (.invokevirtual 351, 3) := by decide +kernel
theorem dX14_dataOut_145 : decode cX14_dataOut 145 = .ok (.aload_n 0, 1) := by decide +kernel
theorem dX14_dataOut_146 : decode cX14_dataOut 146 = .ok (.aload_n 1, 1) := by decide +kernel
theorem dX14_dataOut_147 : decode cX14_dataOut 147 = .ok (.iload_n 2, 1) := by decide +kernel
theorem dX14_dataOut_148 : decode cX14_dataOut 148 = .ok (.invokevirtual 357, 3) := by decide +kernel
theorem dX14_dataOut_151 : decode cX14_dataOut 151 = .ok (.iload 4, 2) := by decide +kernel
theorem dX14_dataOut_153 : decode cX14_dataOut 153 = .ok (.ifCond .eq 33, 3) := by decide +kernel
theorem dX14_dataOut_156 : decode cX14_dataOut 156 = .ok (.aload_n 1, 1) := by decide +kernel
theorem dX14_dataOut_157 : decode cX14_dataOut 157 = .ok (.getfield 408, 3) := by decide +kernel
theorem dX14_dataOut_160 : decode cX14_dataOut 160 = .ok (.ifCond .ne 26, 3) := by decide +kernel
theorem dX14_dataOut_163 : decode cX14_dataOut 163 = .ok (.aload_n 1, 1) := by decide +kernel
theorem dX14_dataOut_164 : decode cX14_dataOut 164 = .ok (.iconst 1, 1) := by decide +kernel
theorem dX14_dataOut_165 : decode cX14_dataOut 165 = .ok (.putfield 408, 3) := by decide +kernel
theorem dX14_dataOut_168 : decode cX14_dataOut 168 = .ok (.aload_n 1, 1) := by decide +kernel
theorem dX14_dataOut_169 : decode cX14_dataOut 169 = .ok (.aload_n 1, 1) := by decide +kernel
theorem dX14_dataOut_170 : decode cX14_dataOut 170 = .ok (.getfield 152, 3) := by decide +kernel
theorem dX14_dataOut_173 : decode cX14_dataOut 173 = .ok (.iconst 2, 1) := by decide +kernel
theorem dX14_dataOut_174 : decode cX14_dataOut 174 = .ok (.if_icmp .ne 7, 3) := by decide +kernel
theorem dX14_dataOut_177 : decode cX14_dataOut 177 = .ok (.iconst 3, 1) := by decide +kernel
theorem dX14_dataOut_178 : decode cX14_dataOut 178 = .ok (.goto 5, 3) := by decide +kernel
theorem dX14_dataOut_181 : decode cX14_dataOut 181 = .ok (.bipush 8, 2) := by decide +kernel
theorem dX14_dataOut_183 : decode cX14_dataOut 183 = .ok (.putfield 152, 3) := by decide +kernel
theorem dX14_dataOut_186 : decode cX14_dataOut 186 = .ok (.return_, 1) := by decide +kernel
def rmX14_dataOut : Room := { frames := 6, cells := 0, slots := 0, locals := 156 }
theorem kX14_dataOut : yX14_dataOut.cls = "WebHostModel" ∧ yX14_dataOut.cls ≠ "java/lang/invoke/MethodHandle" ∧ yX14_dataOut.cls ≠ "java/lang/invoke/VarHandle" ∧ (parseMethodDescriptor yX14_dataOut.desc).map (fun d => d.parameters.length) = some 4 := by decide +kernel
def w14_dataOut_L3 (o1 : Nat) (x2 : Int32) (x3 : Int32) (x4 : Int32) (Q : St → Prop) (K34 : St → Prop) : Nat → St → Int32 → Prop
  | 0, _, _ => False
  | n + 1, σ, x5 => (x3 ≤ x5 → K34 σ) ∧ (¬ x3 ≤ x5 → (w14_toSend σ o1 (x2 + x5) (fun r1 => (vp_in (54 + x5) 1514 ∧ (∀ σ2, σ2 = up3 σ 57 0 (54 + x5).toNatClampNeg r1.toInt8.toInt32 → (w14_dataOut_L3 o1 x2 x3 x4 Q K34 n σ2 (x5 + 1)))))))
set_option maxHeartbeats 4000000 in
theorem k14_dataOut_L3 {p : Program} {l : Launch} {e : Env} {s : State} {m : MethodId} {args : Array Value} {below : List Frame} {meth : Method} {c : Code} {G : Gh} {a1 : Nat → Nat → Nat} {τ : St} {Q : St → Prop} {K34 : St → Prop} (C : Cx p e s m args meth c cX14_dataOut 6 none "WebHostModel" G) (o1 : Nat) (x2 : Int32) (x3 : Int32) (x4 : Int32) (ho1 : o1 < 16) :
    ∀ (n : Nat) (σ : St) (x5 : Int32), w14_dataOut_L3 o1 x2 x3 x4 Q K34 n σ x5 → ∀ (H : Heap) (locs : List Loc) (ls : Array Slot), Hd G a1 (cmb τ σ) H → va_S (gA G) s.heap H locs → lv_has ls 6 [(0, .ref (ga G 14 0)), (1, .ref (ga G 15 o1)), (2, .int x2), (3, .int x3), (4, .int x4), (5, .int x5)] → (∀ (σ : St) , K34 σ → ∀ (H : Heap) (locs : List Loc) (ls : Array Slot), Hd G a1 (cmb τ σ) H → va_S (gA G) s.heap H locs → lv_has ls 6 [(0, .ref (ga G 14 0)), (1, .ref (ga G 15 o1)), (2, .int x2), (3, .int x3), (4, .int x4)] → W p l e rmX14_dataOut s m args below meth c H locs 0 0 (MQ below (QVs G a1 (fun u => cmb τ u) Q) args s 0 0 (gA G)) (F0 m 34 ls [])) → W p l e rmX14_dataOut s m args below meth c H locs 0 0 (MQ below (QVs G a1 (fun u => cmb τ u) Q) args s 0 0 (gA G)) (F0 m 3 ls []) := by
  have hx := C.1
  have hb := C.2.1
  have hown := C.2.2.2.2.2.1
  have hts := C.2.2.2.2.2.2.1
  intro n
  induction n with
  | zero =>
    intro σ x5 hw
    exact False.elim hw
  | succ n ih =>
    intro σ x5 hw H locs ls hH hS hl hK34
    refine lv_iload hx hb dX14_dataOut_3 (lv_at hl 5 rfl) ?_
    refine lv_iload_n hx hb dX14_dataOut_5 rfl (lv_at hl 3 rfl) ?_
    refine lv_icmp_ge (tgt := 34) hx hb dX14_dataOut_6 (by decide) (fun h => ?_) (fun h => ?_)
    · have hw := hw.1 h
      exact hK34 σ hw H locs ls hH hS (lv_sub hl [0, 1, 2, 3, 4] rfl)
    have hw := hw.2 h
    refine lv_aload_n hx hb dX14_dataOut_9 rfl (lv_at hl 0 rfl) ?_
    refine g14_19 C hH q1959 dX14_dataOut_10 ?_
    refine lv_bipush (v := 54) hx hb dX14_dataOut_13 (by decide) ?_
    refine lv_iload hx hb dX14_dataOut_15 (lv_at hl 5 rfl) ?_
    refine lv_iadd hx hb dX14_dataOut_17 ?_
    refine lv_aload_n hx hb dX14_dataOut_18 rfl (lv_at hl 0 rfl) ?_
    refine lv_aload_n hx hb dX14_dataOut_19 rfl (lv_at hl 1 rfl) ?_
    refine lv_iload_n hx hb dX14_dataOut_20 rfl (lv_at hl 2 rfl) ?_
    refine lv_iload hx hb dX14_dataOut_21 (lv_at hl 5 rfl) ?_
    refine lv_iadd hx hb dX14_dataOut_23 ?_
    refine kc_ip (rn_vp (As := [.ref (ga G 15 o1), .int (x2 + x5)]) (rest := [.int (54 + x5), .ref (adr G a1 57 0)]) C hH hS (by decide) rfl (by decide) (m14_toSend l G a1 τ σ H o1 (x2 + x5) ho1 _ hw) (cwV 2 hts (lw_V q2313 q2315 qs101 q171 q2316) rfl rfl rfl kX14_toSend ⟨Nat.le_of_ble_eq_true rfl, Nat.le_of_ble_eq_true rfl⟩) rfl hl.1 rfl (Nat.le_of_ble_eq_true rfl) dX14_dataOut_24 ⟨Nat.le_of_ble_eq_true rfl, Nat.le_of_ble_eq_true rfl⟩) hS (fun r1 locs hw hS => ?_)
    refine s57 C hH hS hw.1 dX14_dataOut_27 (fun σ2 e2 H locs hH hS => ?_)
    have hw := hw.2 σ2 e2
    refine lv_iinc (v := x5 + 1) (lv' := [(5, .int (x5 + 1)), (0, .ref (ga G 14 0)), (1, .ref (ga G 15 o1)), (2, .int x2), (3, .int x3), (4, .int x4)]) hx hb dX14_dataOut_28 hl (k := 5) rfl rfl (by decide) rfl (fun ls hl => ?_)
    refine lv_goto (tgt := 3) hx hb dX14_dataOut_31 (by decide) ?_
    exact ih σ2 (x5 + 1) hw H locs ls hH hS (lv_sub hl [1, 2, 3, 4, 5, 0] rfl) hK34
def w14_dataOut_J113 (σ : St) (o1 : Nat) (x2 : Int32) (x3 : Int32) (x4 : Int32) (x5 : Int32) (Q : St → Prop) : Prop := w15_open σ o1 (fun r6 => (w14_segmentOut σ (σ 15 o1 1) 80 (σ 15 o1 2) x2 (σ 15 o1 36) x5 r6 0 x3 (fun σ7 => (w14_pays σ7 o1 (fun σ8 => (w14_noted σ8 o1 x2 (fun σ9 => ((x4 = 0 → Q σ9) ∧ (¬ x4 = 0 → (bo (σ9 15 o1 31) → ((¬ (σ9 15 o1 31) = 0 → Q σ9) ∧ ((σ9 15 o1 31) = 0 → (∀ σ10, σ10 = up3 σ9 15 o1 31 1 → ((¬ (σ10 15 o1 0) = 2 → (∀ σ11, σ11 = up3 σ10 15 o1 0 8 → (Q σ11))) ∧ ((σ10 15 o1 0) = 2 → (∀ σ12, σ12 = up3 σ10 15 o1 0 3 → (Q σ12)))))))))))))))))
set_option maxHeartbeats 4000000 in
theorem k14_dataOut_J113 {p : Program} {l : Launch} {e : Env} {s : State} {m : MethodId} {args : Array Value} {below : List Frame} {meth : Method} {c : Code} {G : Gh} {a1 : Nat → Nat → Nat} {τ : St} {Q : St → Prop} (C : Cx p e s m args meth c cX14_dataOut 6 none "WebHostModel" G) (σ : St) (o1 : Nat) (x2 : Int32) (x3 : Int32) (x4 : Int32) (x5 : Int32) (ho1 : o1 < 16) (hw : w14_dataOut_J113 σ o1 x2 x3 x4 x5 Q) (H : Heap) (locs : List Loc) (ls : Array Slot) (hH : Hd G a1 (cmb τ σ) H) (hS : va_S (gA G) s.heap H locs) (hl : lv_has ls 6 [(0, .ref (ga G 14 0)), (1, .ref (ga G 15 o1)), (2, .int x2), (3, .int x3), (4, .int x4), (5, .int x5)]) : W p l e rmX14_dataOut s m args below meth c H locs 0 0 (MQ below (QVs G a1 (fun u => cmb τ u) Q) args s 0 0 (gA G)) (F0 m 113 ls []) := by
  have hx := C.1
  have hb := C.2.1
  have hown := C.2.2.2.2.2.1
  have hts := C.2.2.2.2.2.2.1
  refine lv_aload_n hx hb dX14_dataOut_113 rfl (lv_at hl 0 rfl) ?_
  refine lv_aload_n hx hb dX14_dataOut_114 rfl (lv_at hl 1 rfl) ?_
  refine g15_1 C hH ho1 q1708 dX14_dataOut_115 ?_
  refine lv_bipush (v := 80) hx hb dX14_dataOut_118 (by decide) ?_
  refine lv_aload_n hx hb dX14_dataOut_120 rfl (lv_at hl 1 rfl) ?_
  refine g15_2 C hH ho1 q1709 dX14_dataOut_121 ?_
  refine lv_iload_n hx hb dX14_dataOut_124 rfl (lv_at hl 2 rfl) ?_
  refine lv_aload_n hx hb dX14_dataOut_125 rfl (lv_at hl 1 rfl) ?_
  refine g15_36 C hH ho1 q1752 dX14_dataOut_126 ?_
  refine lv_iload hx hb dX14_dataOut_129 (lv_at hl 5 rfl) ?_
  refine lv_aload_n hx hb dX14_dataOut_131 rfl (lv_at hl 1 rfl) ?_
  refine kc_ip (rn_vp (As := []) (rest := [.int x5, .int (σ 15 o1 36), .int x2, .int (σ 15 o1 2), .int 80, .int (σ 15 o1 1), .ref (ga G 14 0)]) C hH hS (by decide) rfl ho1 (m15_open l G a1 τ σ H o1 ho1 _ hw) (cwV 0 hts (lw_V q2231 q2232 q2233 q172 q2234) rfl rfl rfl kX15_open ⟨Nat.le_of_ble_eq_true rfl, Nat.le_of_ble_eq_true rfl⟩) rfl hl.1 rfl (Nat.le_of_ble_eq_true rfl) dX14_dataOut_132 ⟨Nat.le_of_ble_eq_true rfl, Nat.le_of_ble_eq_true rfl⟩) hS (fun r6 locs hw hS => ?_)
  refine lv_iconst (v := 0) hx hb dX14_dataOut_135 (by decide) ?_
  refine lv_iload_n hx hb dX14_dataOut_136 rfl (lv_at hl 3 rfl) ?_
  refine kc_v (rn_v (As := [.int (σ 15 o1 1), .int 80, .int (σ 15 o1 2), .int x2, .int (σ 15 o1 36), .int x5, .int r6, .int 0, .int x3]) (rest := []) C hH hS (by decide) rfl (by decide) (m14_segmentOut l G a1 τ σ (σ 15 o1 1) 80 (σ 15 o1 2) x2 (σ 15 o1 36) x5 r6 0 x3 _ hw) (cwV 9 hts (lw_V q2239 q2241 qs87 q171 q2242) rfl rfl rfl kX14_segmentOut ⟨Nat.le_of_ble_eq_true rfl, Nat.le_of_ble_eq_true rfl⟩) rfl hl.1 rfl (Nat.le_of_ble_eq_true rfl) dX14_dataOut_137 ⟨Nat.le_of_ble_eq_true rfl, Nat.le_of_ble_eq_true rfl⟩) hS (fun σ7 H locs hw hH hS => ?_)
  refine lv_aload_n hx hb dX14_dataOut_140 rfl (lv_at hl 0 rfl) ?_
  refine lv_aload_n hx hb dX14_dataOut_141 rfl (lv_at hl 1 rfl) ?_
  refine kc_v (rn_v (As := [.ref (ga G 15 o1)]) (rest := []) C hH hS (by decide) rfl (by decide) (m14_pays l G a1 τ σ7 o1 ho1 _ hw) (cwV 1 hts (lw_V q2286 q2288 qs96 q171 q2289) rfl rfl rfl kX14_pays ⟨Nat.le_of_ble_eq_true rfl, Nat.le_of_ble_eq_true rfl⟩) rfl hl.1 rfl (Nat.le_of_ble_eq_true rfl) dX14_dataOut_142 ⟨Nat.le_of_ble_eq_true rfl, Nat.le_of_ble_eq_true rfl⟩) hS (fun σ8 H locs hw hH hS => ?_)
  refine lv_aload_n hx hb dX14_dataOut_145 rfl (lv_at hl 0 rfl) ?_
  refine lv_aload_n hx hb dX14_dataOut_146 rfl (lv_at hl 1 rfl) ?_
  refine lv_iload_n hx hb dX14_dataOut_147 rfl (lv_at hl 2 rfl) ?_
  refine kc_v (rn_v (As := [.ref (ga G 15 o1), .int x2]) (rest := []) C hH hS (by decide) rfl (by decide) (m14_noted l G a1 τ σ8 o1 x2 ho1 _ hw) (cwV 2 hts (lw_V q2290 q2292 qs97 q171 q2293) rfl rfl rfl kX14_noted ⟨Nat.le_of_ble_eq_true rfl, Nat.le_of_ble_eq_true rfl⟩) rfl hl.1 rfl (Nat.le_of_ble_eq_true rfl) dX14_dataOut_148 ⟨Nat.le_of_ble_eq_true rfl, Nat.le_of_ble_eq_true rfl⟩) hS (fun σ9 H locs hw hH hS => ?_)
  refine lv_iload hx hb dX14_dataOut_151 (lv_at hl 4 rfl) ?_
  refine lv_if_eq (tgt := 186) hx hb dX14_dataOut_153 (by decide) (fun h => ?_) (fun h => ?_)
  · have hw := hw.1 h
    exact rt_v C hH hS hw dX14_dataOut_186
  have hw := hw.2 h
  refine lv_aload_n hx hb dX14_dataOut_156 rfl (lv_at hl 1 rfl) ?_
  refine g15_31 C hH ho1 q1743 dX14_dataOut_157 (fun hz => ?_)
  have hw := hw hz
  refine lv_if_ne (tgt := 186) hx hb dX14_dataOut_160 (by decide) (fun h => ?_) (fun h => ?_)
  · have hw := hw.1 h
    exact rt_v C hH hS hw dX14_dataOut_186
  have hw := hw.2 h
  refine lv_aload_n hx hb dX14_dataOut_163 rfl (lv_at hl 1 rfl) ?_
  refine lv_iconst (v := 1) hx hb dX14_dataOut_164 (by decide) ?_
  refine p15_31 C hH hS ho1 (Or.inr rfl) q1743 dX14_dataOut_165 (fun σ10 e10 H locs hH hS => ?_)
  have hw := hw σ10 e10
  refine lv_aload_n hx hb dX14_dataOut_168 rfl (lv_at hl 1 rfl) ?_
  refine lv_aload_n hx hb dX14_dataOut_169 rfl (lv_at hl 1 rfl) ?_
  refine g15_0 C hH ho1 q1707 dX14_dataOut_170 ?_
  refine lv_iconst (v := 2) hx hb dX14_dataOut_173 (by decide) ?_
  refine lv_icmp_ne (tgt := 181) hx hb dX14_dataOut_174 (by decide) (fun h => ?_) (fun h => ?_)
  · have hw := hw.1 h
    refine lv_bipush (v := 8) hx hb dX14_dataOut_181 (by decide) ?_
    refine p15_0 C hH hS ho1 q1707 dX14_dataOut_183 (fun σ11 e11 H locs hH hS => ?_)
    have hw := hw σ11 e11
    exact rt_v C hH hS hw dX14_dataOut_186
  have hw := hw.2 h
  refine lv_iconst (v := 3) hx hb dX14_dataOut_177 (by decide) ?_
  refine lv_goto (tgt := 183) hx hb dX14_dataOut_178 (by decide) ?_
  refine p15_0 C hH hS ho1 q1707 dX14_dataOut_183 (fun σ12 e12 H locs hH hS => ?_)
  have hw := hw σ12 e12
  exact rt_v C hH hS hw dX14_dataOut_186
def w14_dataOut_J67 (σ : St) (o1 : Nat) (x2 : Int32) (x3 : Int32) (x4 : Int32) (xs0 : Int32) (xs1 : Int32) (Q : St → Prop) : Prop := ((σ 15 o1 0) = 1 → (∀ σ5, σ5 = up3 σ 14 0 18 ((σ 14 0 18) + 1) → (w14_dataOut_J113 σ5 o1 x2 x3 x4 (xs1 ||| xs0) Q))) ∧ (¬ (σ 15 o1 0) = 1 → (((σ 15 o1 0) = 6 → (∀ σ13, σ13 = up3 σ 14 0 18 ((σ 14 0 18) + 1) → (w14_dataOut_J113 σ13 o1 x2 x3 x4 (xs1 ||| xs0) Q))) ∧ (¬ (σ 15 o1 0) = 6 → (((σ 15 o1 0) = 4 → (∀ σ14, σ14 = up3 σ 14 0 18 ((σ 14 0 18) + 1) → (w14_dataOut_J113 σ14 o1 x2 x3 x4 (xs1 ||| xs0) Q))) ∧ (¬ (σ 15 o1 0) = 4 → ((x3 ≤ (σ 15 o1 10) → (w14_dataOut_J113 σ o1 x2 x3 x4 (xs1 ||| xs0) Q)) ∧ (¬ x3 ≤ (σ 15 o1 10) → (∀ σ15, σ15 = up3 σ 14 0 18 ((σ 14 0 18) + 1) → (w14_dataOut_J113 σ15 o1 x2 x3 x4 (xs1 ||| xs0) Q)))))))))
set_option maxHeartbeats 4000000 in
theorem k14_dataOut_J67 {p : Program} {l : Launch} {e : Env} {s : State} {m : MethodId} {args : Array Value} {below : List Frame} {meth : Method} {c : Code} {G : Gh} {a1 : Nat → Nat → Nat} {τ : St} {Q : St → Prop} (C : Cx p e s m args meth c cX14_dataOut 6 none "WebHostModel" G) (σ : St) (o1 : Nat) (x2 : Int32) (x3 : Int32) (x4 : Int32) (xs0 : Int32) (xs1 : Int32) (ho1 : o1 < 16) (hw : w14_dataOut_J67 σ o1 x2 x3 x4 xs0 xs1 Q) (H : Heap) (locs : List Loc) (ls : Array Slot) (hH : Hd G a1 (cmb τ σ) H) (hS : va_S (gA G) s.heap H locs) (hl : lv_has ls 6 [(0, .ref (ga G 14 0)), (1, .ref (ga G 15 o1)), (2, .int x2), (3, .int x3), (4, .int x4)]) : W p l e rmX14_dataOut s m args below meth c H locs 0 0 (MQ below (QVs G a1 (fun u => cmb τ u) Q) args s 0 0 (gA G)) (F0 m 67 ls [.int xs0, .int xs1]) := by
  have hx := C.1
  have hb := C.2.1
  have hown := C.2.2.2.2.2.1
  have hts := C.2.2.2.2.2.2.1
  refine lv_ior hx hb dX14_dataOut_67 ?_
  refine lv_istore (lv' := [(5, .int (xs1 ||| xs0)), (0, .ref (ga G 14 0)), (1, .ref (ga G 15 o1)), (2, .int x2), (3, .int x3), (4, .int x4)]) hx hb dX14_dataOut_68 hl (by decide) rfl (fun ls hl => ?_)
  refine lv_aload_n hx hb dX14_dataOut_70 rfl (lv_at hl 2 rfl) ?_
  refine g15_0 C hH ho1 q1707 dX14_dataOut_71 ?_
  refine lv_iconst (v := 1) hx hb dX14_dataOut_74 (by decide) ?_
  refine lv_icmp_eq (tgt := 103) hx hb dX14_dataOut_75 (by decide) (fun h => ?_) (fun h => ?_)
  · have hw := hw.1 h
    refine lv_aload_n hx hb dX14_dataOut_103 rfl (lv_at hl 1 rfl) ?_
    refine lv_dup hx hb dX14_dataOut_104 rfl ?_
    refine g14_18 C hH q1958 dX14_dataOut_105 ?_
    refine lv_iconst (v := 1) hx hb dX14_dataOut_108 (by decide) ?_
    refine lv_iadd hx hb dX14_dataOut_109 ?_
    refine p14_18 C hH hS q1958 dX14_dataOut_110 (fun σ5 e5 H locs hH hS => ?_)
    have hw := hw σ5 e5
    exact k14_dataOut_J113 C σ5 o1 x2 x3 x4 (xs1 ||| xs0) ho1 hw H locs ls hH hS (lv_sub hl [1, 2, 3, 4, 5, 0] rfl)
  have hw := hw.2 h
  refine lv_aload_n hx hb dX14_dataOut_78 rfl (lv_at hl 2 rfl) ?_
  refine g15_0 C hH ho1 q1707 dX14_dataOut_79 ?_
  refine lv_bipush (v := 6) hx hb dX14_dataOut_82 (by decide) ?_
  refine lv_icmp_eq (tgt := 103) hx hb dX14_dataOut_84 (by decide) (fun h => ?_) (fun h => ?_)
  · have hw := hw.1 h
    refine lv_aload_n hx hb dX14_dataOut_103 rfl (lv_at hl 1 rfl) ?_
    refine lv_dup hx hb dX14_dataOut_104 rfl ?_
    refine g14_18 C hH q1958 dX14_dataOut_105 ?_
    refine lv_iconst (v := 1) hx hb dX14_dataOut_108 (by decide) ?_
    refine lv_iadd hx hb dX14_dataOut_109 ?_
    refine p14_18 C hH hS q1958 dX14_dataOut_110 (fun σ13 e13 H locs hH hS => ?_)
    have hw := hw σ13 e13
    exact k14_dataOut_J113 C σ13 o1 x2 x3 x4 (xs1 ||| xs0) ho1 hw H locs ls hH hS (lv_sub hl [1, 2, 3, 4, 5, 0] rfl)
  have hw := hw.2 h
  refine lv_aload_n hx hb dX14_dataOut_87 rfl (lv_at hl 2 rfl) ?_
  refine g15_0 C hH ho1 q1707 dX14_dataOut_88 ?_
  refine lv_iconst (v := 4) hx hb dX14_dataOut_91 (by decide) ?_
  refine lv_icmp_eq (tgt := 103) hx hb dX14_dataOut_92 (by decide) (fun h => ?_) (fun h => ?_)
  · have hw := hw.1 h
    refine lv_aload_n hx hb dX14_dataOut_103 rfl (lv_at hl 1 rfl) ?_
    refine lv_dup hx hb dX14_dataOut_104 rfl ?_
    refine g14_18 C hH q1958 dX14_dataOut_105 ?_
    refine lv_iconst (v := 1) hx hb dX14_dataOut_108 (by decide) ?_
    refine lv_iadd hx hb dX14_dataOut_109 ?_
    refine p14_18 C hH hS q1958 dX14_dataOut_110 (fun σ14 e14 H locs hH hS => ?_)
    have hw := hw σ14 e14
    exact k14_dataOut_J113 C σ14 o1 x2 x3 x4 (xs1 ||| xs0) ho1 hw H locs ls hH hS (lv_sub hl [1, 2, 3, 4, 5, 0] rfl)
  have hw := hw.2 h
  refine lv_iload_n hx hb dX14_dataOut_95 rfl (lv_at hl 4 rfl) ?_
  refine lv_aload_n hx hb dX14_dataOut_96 rfl (lv_at hl 2 rfl) ?_
  refine g15_10 C hH ho1 q1717 dX14_dataOut_97 ?_
  refine lv_icmp_le (tgt := 113) hx hb dX14_dataOut_100 (by decide) (fun h => ?_) (fun h => ?_)
  · have hw := hw.1 h
    exact k14_dataOut_J113 C σ o1 x2 x3 x4 (xs1 ||| xs0) ho1 hw H locs ls hH hS (lv_sub hl [1, 2, 3, 4, 5, 0] rfl)
  have hw := hw.2 h
  refine lv_aload_n hx hb dX14_dataOut_103 rfl (lv_at hl 1 rfl) ?_
  refine lv_dup hx hb dX14_dataOut_104 rfl ?_
  refine g14_18 C hH q1958 dX14_dataOut_105 ?_
  refine lv_iconst (v := 1) hx hb dX14_dataOut_108 (by decide) ?_
  refine lv_iadd hx hb dX14_dataOut_109 ?_
  refine p14_18 C hH hS q1958 dX14_dataOut_110 (fun σ15 e15 H locs hH hS => ?_)
  have hw := hw σ15 e15
  exact k14_dataOut_J113 C σ15 o1 x2 x3 x4 (xs1 ||| xs0) ho1 hw H locs ls hH hS (lv_sub hl [1, 2, 3, 4, 5, 0] rfl)
def w14_dataOut (σ : St) (o1 : Nat) (x2 : Int32) (x3 : Int32) (x4 : Int32) (Q : St → Prop) : Prop := ∃ z3, w14_dataOut_L3 o1 x2 x3 x4 Q (fun σ4 => (x3 ≤ 0 → ((x4 = 0 → (w14_dataOut_J67 σ4 o1 x2 x3 x4 0 (16 ||| 0) Q)) ∧ (¬ x4 = 0 → (w14_dataOut_J67 σ4 o1 x2 x3 x4 1 (16 ||| 0) Q)))) ∧ (¬ x3 ≤ 0 → (w15_behind σ4 o1 (fun r16 => ((¬ (x2 + x3) = r16 → ((x4 = 0 → (w14_dataOut_J67 σ4 o1 x2 x3 x4 0 (16 ||| 0) Q)) ∧ (¬ x4 = 0 → (w14_dataOut_J67 σ4 o1 x2 x3 x4 1 (16 ||| 0) Q)))) ∧ ((x2 + x3) = r16 → ((x4 = 0 → (w14_dataOut_J67 σ4 o1 x2 x3 x4 0 (16 ||| 8) Q)) ∧ (¬ x4 = 0 → (w14_dataOut_J67 σ4 o1 x2 x3 x4 1 (16 ||| 8) Q))))))))) z3 σ 0
set_option maxHeartbeats 4000000 in
theorem m14_dataOut (l : Launch) (G : Gh) (a1 : Nat → Nat → Nat) (τ : St) (σ : St) (o1 : Nat) (x2 : Int32) (x3 : Int32) (x4 : Int32) (ho1 : o1 < 16) (Q : St → Prop) (hw : w14_dataOut σ o1 x2 x3 x4 Q) : Met l yX14_dataOut (ws_ yX14_dataOut cX14_dataOut 6 none) rmX14_dataOut (PcS G a1 (cmb τ σ) [.ref (ga G 14 0), .ref (ga G 15 o1), .int x2, .int x3, .int x4]) (QVs G a1 (fun u => cmb τ u) Q) 0 0 (gA G) := by
  refine met_w (by decide) (Nat.le_of_ble_eq_true rfl) ?_
  intro p e s m below meth c ls C hH hS hl
  have C : Cx p e s m _ meth c cX14_dataOut 6 none "WebHostModel" G := C
  have hl : lv_has ls 6 [(0, .ref (ga G 14 0)), (1, .ref (ga G 15 o1)), (2, .int x2), (3, .int x3), (4, .int x4)] := hl
  have hx := C.1
  have hb := C.2.1
  have hown := C.2.2.2.2.2.1
  have hts := C.2.2.2.2.2.2.1
  obtain ⟨locs, hlocs⟩ : ∃ z : List Loc, z = [] := ⟨_, rfl⟩
  obtain ⟨H, hHe⟩ : ∃ z : Heap, z = s.heap := ⟨_, rfl⟩
  have hH : Hd G a1 (cmb τ σ) H := by rw [hHe]; exact hH
  have hS : va_S (gA G) s.heap H locs := by rw [hHe, hlocs]; exact hS
  refine W.heap0 hHe.symm hlocs.symm ?_
  refine lv_iconst (v := 0) hx hb dX14_dataOut_0 (by decide) ?_
  refine lv_istore (lv' := [(5, .int 0), (0, .ref (ga G 14 0)), (1, .ref (ga G 15 o1)), (2, .int x2), (3, .int x3), (4, .int x4)]) hx hb dX14_dataOut_1 hl (by decide) rfl (fun ls hl => ?_)
  obtain ⟨n3, hw⟩ := hw
  refine k14_dataOut_L3 C o1 x2 x3 x4 ho1 n3 σ 0 hw H locs ls hH hS (lv_sub hl [1, 2, 3, 4, 5, 0] rfl) (fun σ4 hw H locs ls hH hS hl => ?_)
  refine lv_bipush (v := 16) hx hb dX14_dataOut_34 (by decide) ?_
  refine lv_iload_n hx hb dX14_dataOut_36 rfl (lv_at hl 3 rfl) ?_
  refine lv_if_le (tgt := 55) hx hb dX14_dataOut_37 (by decide) (fun h => ?_) (fun h => ?_)
  · have hw := hw.1 h
    refine lv_iconst (v := 0) hx hb dX14_dataOut_55 (by decide) ?_
    refine lv_ior hx hb dX14_dataOut_56 ?_
    refine lv_iload hx hb dX14_dataOut_57 (lv_at hl 4 rfl) ?_
    refine lv_if_eq (tgt := 66) hx hb dX14_dataOut_59 (by decide) (fun h => ?_) (fun h => ?_)
    · have hw := hw.1 h
      refine lv_iconst (v := 0) hx hb dX14_dataOut_66 (by decide) ?_
      exact k14_dataOut_J67 C σ4 o1 x2 x3 x4 0 (16 ||| 0) ho1 hw H locs ls hH hS (lv_sub hl [0, 1, 2, 3, 4] rfl)
    have hw := hw.2 h
    refine lv_iconst (v := 1) hx hb dX14_dataOut_62 (by decide) ?_
    refine lv_goto (tgt := 67) hx hb dX14_dataOut_63 (by decide) ?_
    exact k14_dataOut_J67 C σ4 o1 x2 x3 x4 1 (16 ||| 0) ho1 hw H locs ls hH hS (lv_sub hl [0, 1, 2, 3, 4] rfl)
  have hw := hw.2 h
  refine lv_iload_n hx hb dX14_dataOut_40 rfl (lv_at hl 2 rfl) ?_
  refine lv_iload_n hx hb dX14_dataOut_41 rfl (lv_at hl 3 rfl) ?_
  refine lv_iadd hx hb dX14_dataOut_42 ?_
  refine lv_aload_n hx hb dX14_dataOut_43 rfl (lv_at hl 1 rfl) ?_
  refine kc_ip (rn_vp (As := []) (rest := [.int (x2 + x3), .int 16]) C hH hS (by decide) rfl ho1 (m15_behind l G a1 τ σ4 H o1 ho1 _ hw) (cwV 0 hts (lw_V q2308 q2198 q2199 q172 q2200) rfl rfl rfl kX15_behind ⟨Nat.le_of_ble_eq_true rfl, Nat.le_of_ble_eq_true rfl⟩) rfl hl.1 rfl (Nat.le_of_ble_eq_true rfl) dX14_dataOut_44 ⟨Nat.le_of_ble_eq_true rfl, Nat.le_of_ble_eq_true rfl⟩) hS (fun r16 locs hw hS => ?_)
  refine lv_icmp_ne (tgt := 55) hx hb dX14_dataOut_47 (by decide) (fun h => ?_) (fun h => ?_)
  · have hw := hw.1 h
    refine lv_iconst (v := 0) hx hb dX14_dataOut_55 (by decide) ?_
    refine lv_ior hx hb dX14_dataOut_56 ?_
    refine lv_iload hx hb dX14_dataOut_57 (lv_at hl 4 rfl) ?_
    refine lv_if_eq (tgt := 66) hx hb dX14_dataOut_59 (by decide) (fun h => ?_) (fun h => ?_)
    · have hw := hw.1 h
      refine lv_iconst (v := 0) hx hb dX14_dataOut_66 (by decide) ?_
      exact k14_dataOut_J67 C σ4 o1 x2 x3 x4 0 (16 ||| 0) ho1 hw H locs ls hH hS (lv_sub hl [0, 1, 2, 3, 4] rfl)
    have hw := hw.2 h
    refine lv_iconst (v := 1) hx hb dX14_dataOut_62 (by decide) ?_
    refine lv_goto (tgt := 67) hx hb dX14_dataOut_63 (by decide) ?_
    exact k14_dataOut_J67 C σ4 o1 x2 x3 x4 1 (16 ||| 0) ho1 hw H locs ls hH hS (lv_sub hl [0, 1, 2, 3, 4] rfl)
  have hw := hw.2 h
  refine lv_bipush (v := 8) hx hb dX14_dataOut_50 (by decide) ?_
  refine lv_goto (tgt := 56) hx hb dX14_dataOut_52 (by decide) ?_
  refine lv_ior hx hb dX14_dataOut_56 ?_
  refine lv_iload hx hb dX14_dataOut_57 (lv_at hl 4 rfl) ?_
  refine lv_if_eq (tgt := 66) hx hb dX14_dataOut_59 (by decide) (fun h => ?_) (fun h => ?_)
  · have hw := hw.1 h
    refine lv_iconst (v := 0) hx hb dX14_dataOut_66 (by decide) ?_
    exact k14_dataOut_J67 C σ4 o1 x2 x3 x4 0 (16 ||| 8) ho1 hw H locs ls hH hS (lv_sub hl [0, 1, 2, 3, 4] rfl)
  have hw := hw.2 h
  refine lv_iconst (v := 1) hx hb dX14_dataOut_62 (by decide) ?_
  refine lv_goto (tgt := 67) hx hb dX14_dataOut_63 (by decide) ?_
  exact k14_dataOut_J67 C σ4 o1 x2 x3 x4 1 (16 ||| 8) ho1 hw H locs ls hH hS (lv_sub hl [0, 1, 2, 3, 4] rfl)
/-! WebHostModel.reset()V -/
abbrev cX14_reset : ByteArray := prog_17_method_41_code
def yX14_reset : MethodName := ⟨RX14, "reset", "()V"⟩
theorem dX14_reset_0 : decode cX14_reset 0 = .ok (.aload_n 0, 1) := by decide +kernel
theorem dX14_reset_1 : decode cX14_reset 1 = .ok (.getfield 31, 3) := by decide +kernel
theorem dX14_reset_4 : decode cX14_reset 4 = .ok (.iconst 2, 1) := by decide +kernel
theorem dX14_reset_5 : decode cX14_reset 5 = .ok (.dup2, 1) := by decide +kernel
theorem dX14_reset_6 : decode cX14_reset 6 = .ok (.iaload, 1) := by decide +kernel
theorem dX14_reset_7 : decode cX14_reset 7 = .ok (.iconst 1, 1) := by decide +kernel
theorem dX14_reset_8 : decode cX14_reset 8 = .ok (.iadd, 1) := by decide +kernel
theorem dX14_reset_9 : decode cX14_reset 9 = .ok (.iastore, 1) := by decide +kernel
theorem dX14_reset_10 : decode cX14_reset 10 = .ok (.aload_n 0, 1) := by decide +kernel
theorem dX14_reset_11 : decode cX14_reset 11 = .ok (.bipush 16, 2) := by decide +kernel
theorem dX14_reset_13 : decode cX14_reset 13 = .ok (.invokevirtual 325, 3) := by decide +kernel
theorem dX14_reset_16 : decode cX14_reset 16 = .ok (.ifCond .eq 31, 3) := by decide +kernel
theorem dX14_reset_19 : decode cX14_reset 19 = .ok (.aload_n 0, 1) := by decide +kernel
theorem dX14_reset_20 : decode cX14_reset 20 = .ok (.aload_n 0, 1) := by decide +kernel
theorem dX14_reset_21 : decode cX14_reset 21 = .ok (.getfield 240, 3) := by decide +kernel
theorem dX14_reset_24 : decode cX14_reset 24 = .ok (.aload_n 0, 1) := by decide +kernel
theorem dX14_reset_25 : decode cX14_reset 25 = .ok (.getfield 292, 3) := by decide +kernel
theorem dX14_reset_28 : decode cX14_reset 28 = .ok (.aload_n 0, 1) := by decide +kernel
theorem dX14_reset_29 : decode cX14_reset 29 = .ok (.getfield 289, 3) := by decide +kernel
theorem dX14_reset_32 : decode cX14_reset 32 = .ok (.aload_n 0, 1) := by decide +kernel
theorem dX14_reset_33 : decode cX14_reset 33 = .ok (.getfield 299, 3) := by decide +kernel
theorem dX14_reset_36 : decode cX14_reset 36 = .ok (.iconst 0, 1) := by decide +kernel
theorem dX14_reset_37 : decode cX14_reset 37 = .ok (.iconst 4, 1) := by decide +kernel
theorem dX14_reset_38 : decode cX14_reset 38 = .ok (.iconst 0, 1) := by decide +kernel
theorem dX14_reset_39 : decode cX14_reset 39 = .ok (.iconst 0, 1) := by decide +kernel
theorem dX14_reset_40 : decode cX14_reset 40 = .ok (.iconst 0, 1) := by decide +kernel
theorem dX14_reset_41 : decode cX14_reset 41 = .ok (.invokevirtual 329, 3) := by decide +kernel
theorem dX14_reset_44 : decode cX14_reset 44 = .ok (.goto 34, 3) := by decide +kernel
theorem dX14_reset_47 : decode cX14_reset 47 = .ok (.aload_n 0, 1) := by decide +kernel
theorem dX14_reset_48 : decode cX14_reset 48 = .ok (.aload_n 0, 1) := by decide +kernel
theorem dX14_reset_49 : decode cX14_reset 49 = .ok (.getfield 240, 3) := by decide +kernel
theorem dX14_reset_52 : decode cX14_reset 52 = .ok (.aload_n 0, 1) := by decide +kernel
theorem dX14_reset_53 : decode cX14_reset 53 = .ok (.getfield 292, 3) := by decide +kernel
theorem dX14_reset_56 : decode cX14_reset 56 = .ok (.aload_n 0, 1) := by decide +kernel
theorem dX14_reset_57 : decode cX14_reset 57 = .ok (.getfield 289, 3) := by decide +kernel
theorem dX14_reset_60 : decode cX14_reset 60 = .ok (.iconst 0, 1) := by decide +kernel
theorem dX14_reset_61 : decode cX14_reset 61 = .ok (.aload_n 0, 1) := by decide +kernel
theorem dX14_reset_62 : decode cX14_reset 62 = .ok (.getfield 298, 3) := by decide +kernel
theorem dX14_reset_65 : decode cX14_reset 65 = .ok (.aload_n 0, 1) := by decide +kernel
theorem dX14_reset_66 : decode cX14_reset 66 = .ok (.invokevirtual 333, 3) := by decide +kernel
theorem dX14_reset_69 : decode cX14_reset 69 = .ok (.iadd, 1) := by decide +kernel
theorem dX14_reset_70 : decode cX14_reset 70 = .ok (.bipush 20, 2) := by decide +kernel
theorem dX14_reset_72 : decode cX14_reset 72 = .ok (.iconst 0, 1) := by decide +kernel
theorem dX14_reset_73 : decode cX14_reset 73 = .ok (.iconst 0, 1) := by decide +kernel
theorem dX14_reset_74 : decode cX14_reset 74 = .ok (.iconst 0, 1) := by decide +kernel
theorem dX14_reset_75 : decode cX14_reset 75 = .ok (.invokevirtual 329, 3) := by decide +kernel
theorem dX14_reset_78 : decode cX14_reset 78 = .ok (.return_, 1) := by decide +kernel
def rmX14_reset : Room := { frames := 6, cells := 0, slots := 0, locals := 156 }
theorem kX14_reset : yX14_reset.cls = "WebHostModel" ∧ yX14_reset.cls ≠ "java/lang/invoke/MethodHandle" ∧ yX14_reset.cls ≠ "java/lang/invoke/VarHandle" ∧ (parseMethodDescriptor yX14_reset.desc).map (fun d => d.parameters.length) = some 0 := by decide +kernel
def w14_reset (σ : St) (Q : St → Prop) : Prop := vp_in 2 8 ∧ (vp_in 2 8 ∧ (∀ σ1, σ1 = up3 σ 56 0 (2 : Int32).toNatClampNeg ((σ 56 0 (2 : Int32).toNatClampNeg) + 1) → (w14_is σ1 16 (fun r2 => ((r2 = 0 → (w14_extent σ1 (fun r3 => (w14_segmentOut σ1 (σ1 14 0 30) (σ1 14 0 33) (σ1 14 0 32) 0 ((σ1 14 0 34) + r3) 20 0 0 0 (fun σ4 => (Q σ4)))))) ∧ (¬ r2 = 0 → (w14_segmentOut σ1 (σ1 14 0 30) (σ1 14 0 33) (σ1 14 0 32) (σ1 14 0 35) 0 4 0 0 0 (fun σ5 => (Q σ5)))))))))
set_option maxHeartbeats 4000000 in
theorem m14_reset (l : Launch) (G : Gh) (a1 : Nat → Nat → Nat) (τ : St) (σ : St) (Q : St → Prop) (hw : w14_reset σ Q) : Met l yX14_reset (ws_ yX14_reset cX14_reset 1 none) rmX14_reset (PcS G a1 (cmb τ σ) [.ref (ga G 14 0)]) (QVs G a1 (fun u => cmb τ u) Q) 0 0 (gA G) := by
  refine met_w (by decide) (Nat.le_of_ble_eq_true rfl) ?_
  intro p e s m below meth c ls C hH hS hl
  have C : Cx p e s m _ meth c cX14_reset 1 none "WebHostModel" G := C
  have hl : lv_has ls 1 [(0, .ref (ga G 14 0))] := hl
  have hx := C.1
  have hb := C.2.1
  have hown := C.2.2.2.2.2.1
  have hts := C.2.2.2.2.2.2.1
  obtain ⟨locs, hlocs⟩ : ∃ z : List Loc, z = [] := ⟨_, rfl⟩
  obtain ⟨H, hHe⟩ : ∃ z : Heap, z = s.heap := ⟨_, rfl⟩
  have hH : Hd G a1 (cmb τ σ) H := by rw [hHe]; exact hH
  have hS : va_S (gA G) s.heap H locs := by rw [hHe, hlocs]; exact hS
  refine W.heap0 hHe.symm hlocs.symm ?_
  refine lv_aload_n hx hb dX14_reset_0 rfl (lv_at hl 0 rfl) ?_
  refine g14_17 C hH q1957 dX14_reset_1 ?_
  refine lv_iconst (v := 2) hx hb dX14_reset_4 (by decide) ?_
  refine lv_dup2_11 hx hb dX14_reset_5 rfl rfl ?_
  refine l56 C hH hw.1 dX14_reset_6 ?_
  have hw := hw.2
  refine lv_iconst (v := 1) hx hb dX14_reset_7 (by decide) ?_
  refine lv_iadd hx hb dX14_reset_8 ?_
  refine s56 C hH hS hw.1 dX14_reset_9 (fun σ1 e1 H locs hH hS => ?_)
  have hw := hw.2 σ1 e1
  refine lv_aload_n hx hb dX14_reset_10 rfl (lv_at hl 0 rfl) ?_
  refine lv_bipush (v := 16) hx hb dX14_reset_11 (by decide) ?_
  refine kc_ip (rn_vp (As := [.int 16]) (rest := []) C hH hS (by decide) rfl (by decide) (m14_is l G a1 τ σ1 H 16 _ hw) (cwV 1 hts (lw_V q2373 q2375 qs116 q171 q2376) rfl rfl rfl kX14_is ⟨Nat.le_of_ble_eq_true rfl, Nat.le_of_ble_eq_true rfl⟩) rfl hl.1 rfl (Nat.le_of_ble_eq_true rfl) dX14_reset_13 ⟨Nat.le_of_ble_eq_true rfl, Nat.le_of_ble_eq_true rfl⟩) hS (fun r2 locs hw hS => ?_)
  refine lv_if_eq (tgt := 47) hx hb dX14_reset_16 (by decide) (fun h => ?_) (fun h => ?_)
  · have hw := hw.1 h
    refine lv_aload_n hx hb dX14_reset_47 rfl (lv_at hl 0 rfl) ?_
    refine lv_aload_n hx hb dX14_reset_48 rfl (lv_at hl 0 rfl) ?_
    refine g14_30 C hH q1970 dX14_reset_49 ?_
    refine lv_aload_n hx hb dX14_reset_52 rfl (lv_at hl 0 rfl) ?_
    refine g14_33 C hH q1973 dX14_reset_53 ?_
    refine lv_aload_n hx hb dX14_reset_56 rfl (lv_at hl 0 rfl) ?_
    refine g14_32 C hH q1972 dX14_reset_57 ?_
    refine lv_iconst (v := 0) hx hb dX14_reset_60 (by decide) ?_
    refine lv_aload_n hx hb dX14_reset_61 rfl (lv_at hl 0 rfl) ?_
    refine g14_34 C hH q1974 dX14_reset_62 ?_
    refine lv_aload_n hx hb dX14_reset_65 rfl (lv_at hl 0 rfl) ?_
    refine kc_ip (rn_vp (As := []) (rest := [.int (σ1 14 0 34), .int 0, .int (σ1 14 0 32), .int (σ1 14 0 33), .int (σ1 14 0 30), .ref (ga G 14 0)]) C hH hS (by decide) rfl (by decide) (m14_extent l G a1 τ σ1 H _ hw) (cwV 0 hts (lw_V q2381 q2383 qs118 q171 q2384) rfl rfl rfl kX14_extent ⟨Nat.le_of_ble_eq_true rfl, Nat.le_of_ble_eq_true rfl⟩) rfl hl.1 rfl (Nat.le_of_ble_eq_true rfl) dX14_reset_66 ⟨Nat.le_of_ble_eq_true rfl, Nat.le_of_ble_eq_true rfl⟩) hS (fun r3 locs hw hS => ?_)
    refine lv_iadd hx hb dX14_reset_69 ?_
    refine lv_bipush (v := 20) hx hb dX14_reset_70 (by decide) ?_
    refine lv_iconst (v := 0) hx hb dX14_reset_72 (by decide) ?_
    refine lv_iconst (v := 0) hx hb dX14_reset_73 (by decide) ?_
    refine lv_iconst (v := 0) hx hb dX14_reset_74 (by decide) ?_
    refine kc_v (rn_v (As := [.int (σ1 14 0 30), .int (σ1 14 0 33), .int (σ1 14 0 32), .int 0, .int ((σ1 14 0 34) + r3), .int 20, .int 0, .int 0, .int 0]) (rest := []) C hH hS (by decide) rfl (by decide) (m14_segmentOut l G a1 τ σ1 (σ1 14 0 30) (σ1 14 0 33) (σ1 14 0 32) 0 ((σ1 14 0 34) + r3) 20 0 0 0 _ hw) (cwV 9 hts (lw_V q2239 q2241 qs87 q171 q2242) rfl rfl rfl kX14_segmentOut ⟨Nat.le_of_ble_eq_true rfl, Nat.le_of_ble_eq_true rfl⟩) rfl hl.1 rfl (Nat.le_of_ble_eq_true rfl) dX14_reset_75 ⟨Nat.le_of_ble_eq_true rfl, Nat.le_of_ble_eq_true rfl⟩) hS (fun σ4 H locs hw hH hS => ?_)
    exact rt_v C hH hS hw dX14_reset_78
  have hw := hw.2 h
  refine lv_aload_n hx hb dX14_reset_19 rfl (lv_at hl 0 rfl) ?_
  refine lv_aload_n hx hb dX14_reset_20 rfl (lv_at hl 0 rfl) ?_
  refine g14_30 C hH q1970 dX14_reset_21 ?_
  refine lv_aload_n hx hb dX14_reset_24 rfl (lv_at hl 0 rfl) ?_
  refine g14_33 C hH q1973 dX14_reset_25 ?_
  refine lv_aload_n hx hb dX14_reset_28 rfl (lv_at hl 0 rfl) ?_
  refine g14_32 C hH q1972 dX14_reset_29 ?_
  refine lv_aload_n hx hb dX14_reset_32 rfl (lv_at hl 0 rfl) ?_
  refine g14_35 C hH q1975 dX14_reset_33 ?_
  refine lv_iconst (v := 0) hx hb dX14_reset_36 (by decide) ?_
  refine lv_iconst (v := 4) hx hb dX14_reset_37 (by decide) ?_
  refine lv_iconst (v := 0) hx hb dX14_reset_38 (by decide) ?_
  refine lv_iconst (v := 0) hx hb dX14_reset_39 (by decide) ?_
  refine lv_iconst (v := 0) hx hb dX14_reset_40 (by decide) ?_
  refine kc_v (rn_v (As := [.int (σ1 14 0 30), .int (σ1 14 0 33), .int (σ1 14 0 32), .int (σ1 14 0 35), .int 0, .int 4, .int 0, .int 0, .int 0]) (rest := []) C hH hS (by decide) rfl (by decide) (m14_segmentOut l G a1 τ σ1 (σ1 14 0 30) (σ1 14 0 33) (σ1 14 0 32) (σ1 14 0 35) 0 4 0 0 0 _ hw) (cwV 9 hts (lw_V q2239 q2241 qs87 q171 q2242) rfl rfl rfl kX14_segmentOut ⟨Nat.le_of_ble_eq_true rfl, Nat.le_of_ble_eq_true rfl⟩) rfl hl.1 rfl (Nat.le_of_ble_eq_true rfl) dX14_reset_41 ⟨Nat.le_of_ble_eq_true rfl, Nat.le_of_ble_eq_true rfl⟩) hS (fun σ5 H locs hw hH hS => ?_)
  refine lv_goto (tgt := 78) hx hb dX14_reset_44 (by decide) ?_
  exact rt_v C hH hS hw dX14_reset_78
/-! WebHostModel.synAck(LWebHostModel$Connection;)V -/
abbrev cX14_synAck : ByteArray := prog_17_method_44_code
def yX14_synAck : MethodName := ⟨RX14, "synAck", "(LWebHostModel$Connection;)V"⟩
theorem dX14_synAck_0 : decode cX14_synAck 0 = .ok (.aload_n 0, 1) := by decide +kernel
theorem dX14_synAck_1 : decode cX14_synAck 1 = .ok (.aload_n 1, 1) := by decide +kernel
theorem dX14_synAck_2 : decode cX14_synAck 2 = .ok (.getfield 314, 3) := by decide +kernel
theorem dX14_synAck_5 : decode cX14_synAck 5 = .ok (.bipush 80, 2) := by decide +kernel
theorem dX14_synAck_7 : decode cX14_synAck 7 = .ok (.aload_n 1, 1) := by decide +kernel
theorem dX14_synAck_8 : decode cX14_synAck 8 = .ok (.getfield 315, 3) := by decide +kernel
theorem dX14_synAck_11 : decode cX14_synAck 11 = .ok (.aload_n 1, 1) := by decide +kernel
theorem dX14_synAck_12 : decode cX14_synAck 12 = .ok (.getfield 354, 3) := by decide +kernel
theorem dX14_synAck_15 : decode cX14_synAck 15 = .ok (.aload_n 1, 1) := by decide +kernel
theorem dX14_synAck_16 : decode cX14_synAck 16 = .ok (.getfield 348, 3) := by decide +kernel
theorem dX14_synAck_19 : decode cX14_synAck 19 = .ok (.bipush 18, 2) := by decide +kernel
theorem dX14_synAck_21 : decode cX14_synAck 21 = .ok (.aload_n 1, 1) := by decide +kernel
theorem dX14_synAck_22 : decode cX14_synAck 22 = .ok (.invokevirtual 339, 3) := by decide +kernel
theorem dX14_synAck_25 : decode cX14_synAck 25 = .ok (.iconst 4, 1) := by decide +kernel
theorem dX14_synAck_26 : decode cX14_synAck 26 = .ok (.iconst 0, 1) := by decide +kernel
theorem dX14_synAck_27 : decode cX14_synAck 27 = .ok (.invokevirtual 329, 3) := by decide +kernel
theorem dX14_synAck_30 : decode cX14_synAck 30 = .ok (.aload_n 0, 1) := by decide +kernel
theorem dX14_synAck_31 : decode cX14_synAck 31 = .ok (.aload_n 1, 1) := by decide +kernel
theorem dX14_synAck_32 : decode cX14_synAck 32 = .ok (.invokevirtual 351, 3) := by decide +kernel
theorem dX14_synAck_35 : decode cX14_synAck 35 = .ok (.aload_n 0, 1) := by decide +kernel
theorem dX14_synAck_36 : decode cX14_synAck 36 = .ok (.aload_n 1, 1) := by decide +kernel
theorem dX14_synAck_37 : decode cX14_synAck 37 = .ok (.aload_n 1, 1) := by decide +kernel
theorem dX14_synAck_38 : decode cX14_synAck 38 = .ok (.getfield 354, 3) := by decide +kernel
theorem dX14_synAck_41 : decode cX14_synAck 41 = .ok (.invokevirtual 357, 3) := by decide +kernel
theorem dX14_synAck_44 : decode cX14_synAck 44 = .ok (.aload_n 1, 1) := by decide +kernel
theorem dX14_synAck_45 : decode cX14_synAck 45 = .ok (.aload_n 1, 1) := by decide +kernel
theorem dX14_synAck_46 : decode cX14_synAck 46 = .ok (.getfield 354, 3) := by decide +kernel
theorem dX14_synAck_49 : decode cX14_synAck 49 = .ok (.iconst 1, 1) := by decide +kernel
theorem dX14_synAck_50 : decode cX14_synAck 50 = .ok (.iadd, 1) := by decide +kernel
theorem dX14_synAck_51 : decode cX14_synAck 51 = .ok (.putfield 345, 3) := by decide +kernel
theorem dX14_synAck_54 : decode cX14_synAck 54 = .ok (.aload_n 1, 1) := by decide +kernel
theorem dX14_synAck_55 : decode cX14_synAck 55 = .ok (.getfield 361, 3) := by decide +kernel
theorem dX14_synAck_58 : decode cX14_synAck 58 = .ok (.aload_n 1, 1) := by decide +kernel
theorem dX14_synAck_59 : decode cX14_synAck 59 = .ok (.getfield 345, 3) := by decide +kernel
theorem dX14_synAck_62 : decode cX14_synAck 62 = .ok (.invokestatic 363, 3) := by decide +kernel
theorem dX14_synAck_65 : decode cX14_synAck 65 = .ok (.ifCond .eq 11, 3) := by decide +kernel
theorem dX14_synAck_68 : decode cX14_synAck 68 = .ok (.aload_n 1, 1) := by decide +kernel
theorem dX14_synAck_69 : decode cX14_synAck 69 = .ok (.aload_n 1, 1) := by decide +kernel
theorem dX14_synAck_70 : decode cX14_synAck 70 = .ok (.getfield 345, 3) := by decide +kernel
theorem dX14_synAck_73 : decode cX14_synAck 73 = .ok (.putfield 361, 3) := by decide +kernel
theorem dX14_synAck_76 : decode cX14_synAck 76 = .ok (.return_, 1) := by decide +kernel
def rmX14_synAck : Room := { frames := 6, cells := 0, slots := 0, locals := 156 }
theorem kX14_synAck : yX14_synAck.cls = "WebHostModel" ∧ yX14_synAck.cls ≠ "java/lang/invoke/MethodHandle" ∧ yX14_synAck.cls ≠ "java/lang/invoke/VarHandle" ∧ (parseMethodDescriptor yX14_synAck.desc).map (fun d => d.parameters.length) = some 1 := by decide +kernel
def w14_synAck (σ : St) (o1 : Nat) (Q : St → Prop) : Prop := w15_open σ o1 (fun r1 => (w14_segmentOut σ (σ 15 o1 1) 80 (σ 15 o1 2) (σ 15 o1 3) (σ 15 o1 36) 18 r1 4 0 (fun σ2 => (w14_pays σ2 o1 (fun σ3 => (w14_noted σ3 o1 (σ3 15 o1 3) (fun σ4 => (∀ σ5, σ5 = up3 σ4 15 o1 5 ((σ4 15 o1 3) + 1) → (w14_before σ5 (σ5 15 o1 6) (σ5 15 o1 5) (fun r6 => ((r6 = 0 → Q σ5) ∧ (¬ r6 = 0 → (∀ σ7, σ7 = up3 σ5 15 o1 6 (σ5 15 o1 5) → (Q σ7))))))))))))))
set_option maxHeartbeats 4000000 in
theorem m14_synAck (l : Launch) (G : Gh) (a1 : Nat → Nat → Nat) (τ : St) (σ : St) (o1 : Nat) (ho1 : o1 < 16) (Q : St → Prop) (hw : w14_synAck σ o1 Q) : Met l yX14_synAck (ws_ yX14_synAck cX14_synAck 2 none) rmX14_synAck (PcS G a1 (cmb τ σ) [.ref (ga G 14 0), .ref (ga G 15 o1)]) (QVs G a1 (fun u => cmb τ u) Q) 0 0 (gA G) := by
  refine met_w (by decide) (Nat.le_of_ble_eq_true rfl) ?_
  intro p e s m below meth c ls C hH hS hl
  have C : Cx p e s m _ meth c cX14_synAck 2 none "WebHostModel" G := C
  have hl : lv_has ls 2 [(0, .ref (ga G 14 0)), (1, .ref (ga G 15 o1))] := hl
  have hx := C.1
  have hb := C.2.1
  have hown := C.2.2.2.2.2.1
  have hts := C.2.2.2.2.2.2.1
  obtain ⟨locs, hlocs⟩ : ∃ z : List Loc, z = [] := ⟨_, rfl⟩
  obtain ⟨H, hHe⟩ : ∃ z : Heap, z = s.heap := ⟨_, rfl⟩
  have hH : Hd G a1 (cmb τ σ) H := by rw [hHe]; exact hH
  have hS : va_S (gA G) s.heap H locs := by rw [hHe, hlocs]; exact hS
  refine W.heap0 hHe.symm hlocs.symm ?_
  refine lv_aload_n hx hb dX14_synAck_0 rfl (lv_at hl 0 rfl) ?_
  refine lv_aload_n hx hb dX14_synAck_1 rfl (lv_at hl 1 rfl) ?_
  refine g15_1 C hH ho1 q1708 dX14_synAck_2 ?_
  refine lv_bipush (v := 80) hx hb dX14_synAck_5 (by decide) ?_
  refine lv_aload_n hx hb dX14_synAck_7 rfl (lv_at hl 1 rfl) ?_
  refine g15_2 C hH ho1 q1709 dX14_synAck_8 ?_
  refine lv_aload_n hx hb dX14_synAck_11 rfl (lv_at hl 1 rfl) ?_
  refine g15_3 C hH ho1 q1710 dX14_synAck_12 ?_
  refine lv_aload_n hx hb dX14_synAck_15 rfl (lv_at hl 1 rfl) ?_
  refine g15_36 C hH ho1 q1752 dX14_synAck_16 ?_
  refine lv_bipush (v := 18) hx hb dX14_synAck_19 (by decide) ?_
  refine lv_aload_n hx hb dX14_synAck_21 rfl (lv_at hl 1 rfl) ?_
  refine kc_ip (rn_vp (As := []) (rest := [.int 18, .int (σ 15 o1 36), .int (σ 15 o1 3), .int (σ 15 o1 2), .int 80, .int (σ 15 o1 1), .ref (ga G 14 0)]) C hH hS (by decide) rfl ho1 (m15_open l G a1 τ σ H o1 ho1 _ hw) (cwV 0 hts (lw_V q2231 q2232 q2233 q172 q2234) rfl rfl rfl kX15_open ⟨Nat.le_of_ble_eq_true rfl, Nat.le_of_ble_eq_true rfl⟩) rfl hl.1 rfl (Nat.le_of_ble_eq_true rfl) dX14_synAck_22 ⟨Nat.le_of_ble_eq_true rfl, Nat.le_of_ble_eq_true rfl⟩) hS (fun r1 locs hw hS => ?_)
  refine lv_iconst (v := 4) hx hb dX14_synAck_25 (by decide) ?_
  refine lv_iconst (v := 0) hx hb dX14_synAck_26 (by decide) ?_
  refine kc_v (rn_v (As := [.int (σ 15 o1 1), .int 80, .int (σ 15 o1 2), .int (σ 15 o1 3), .int (σ 15 o1 36), .int 18, .int r1, .int 4, .int 0]) (rest := []) C hH hS (by decide) rfl (by decide) (m14_segmentOut l G a1 τ σ (σ 15 o1 1) 80 (σ 15 o1 2) (σ 15 o1 3) (σ 15 o1 36) 18 r1 4 0 _ hw) (cwV 9 hts (lw_V q2239 q2241 qs87 q171 q2242) rfl rfl rfl kX14_segmentOut ⟨Nat.le_of_ble_eq_true rfl, Nat.le_of_ble_eq_true rfl⟩) rfl hl.1 rfl (Nat.le_of_ble_eq_true rfl) dX14_synAck_27 ⟨Nat.le_of_ble_eq_true rfl, Nat.le_of_ble_eq_true rfl⟩) hS (fun σ2 H locs hw hH hS => ?_)
  refine lv_aload_n hx hb dX14_synAck_30 rfl (lv_at hl 0 rfl) ?_
  refine lv_aload_n hx hb dX14_synAck_31 rfl (lv_at hl 1 rfl) ?_
  refine kc_v (rn_v (As := [.ref (ga G 15 o1)]) (rest := []) C hH hS (by decide) rfl (by decide) (m14_pays l G a1 τ σ2 o1 ho1 _ hw) (cwV 1 hts (lw_V q2286 q2288 qs96 q171 q2289) rfl rfl rfl kX14_pays ⟨Nat.le_of_ble_eq_true rfl, Nat.le_of_ble_eq_true rfl⟩) rfl hl.1 rfl (Nat.le_of_ble_eq_true rfl) dX14_synAck_32 ⟨Nat.le_of_ble_eq_true rfl, Nat.le_of_ble_eq_true rfl⟩) hS (fun σ3 H locs hw hH hS => ?_)
  refine lv_aload_n hx hb dX14_synAck_35 rfl (lv_at hl 0 rfl) ?_
  refine lv_aload_n hx hb dX14_synAck_36 rfl (lv_at hl 1 rfl) ?_
  refine lv_aload_n hx hb dX14_synAck_37 rfl (lv_at hl 1 rfl) ?_
  refine g15_3 C hH ho1 q1710 dX14_synAck_38 ?_
  refine kc_v (rn_v (As := [.ref (ga G 15 o1), .int (σ3 15 o1 3)]) (rest := []) C hH hS (by decide) rfl (by decide) (m14_noted l G a1 τ σ3 o1 (σ3 15 o1 3) ho1 _ hw) (cwV 2 hts (lw_V q2290 q2292 qs97 q171 q2293) rfl rfl rfl kX14_noted ⟨Nat.le_of_ble_eq_true rfl, Nat.le_of_ble_eq_true rfl⟩) rfl hl.1 rfl (Nat.le_of_ble_eq_true rfl) dX14_synAck_41 ⟨Nat.le_of_ble_eq_true rfl, Nat.le_of_ble_eq_true rfl⟩) hS (fun σ4 H locs hw hH hS => ?_)
  refine lv_aload_n hx hb dX14_synAck_44 rfl (lv_at hl 1 rfl) ?_
  refine lv_aload_n hx hb dX14_synAck_45 rfl (lv_at hl 1 rfl) ?_
  refine g15_3 C hH ho1 q1710 dX14_synAck_46 ?_
  refine lv_iconst (v := 1) hx hb dX14_synAck_49 (by decide) ?_
  refine lv_iadd hx hb dX14_synAck_50 ?_
  refine p15_5 C hH hS ho1 q1712 dX14_synAck_51 (fun σ5 e5 H locs hH hS => ?_)
  have hw := hw σ5 e5
  refine lv_aload_n hx hb dX14_synAck_54 rfl (lv_at hl 1 rfl) ?_
  refine g15_6 C hH ho1 q1713 dX14_synAck_55 ?_
  refine lv_aload_n hx hb dX14_synAck_58 rfl (lv_at hl 1 rfl) ?_
  refine g15_5 C hH ho1 q1712 dX14_synAck_59 ?_
  refine kc_ip (rn_sp (As := [.int (σ5 15 o1 6), .int (σ5 15 o1 5)]) (rest := []) C hH hS (m14_before l G a1 τ σ5 H (σ5 15 o1 6) (σ5 15 o1 5) _ hw) (va_cwS 2 hts (lw_S q2294 q2295 q171 q2296) rfl rfl rfl kX14_before.2 ⟨Nat.le_of_ble_eq_true rfl, Nat.le_of_ble_eq_true rfl⟩) rfl hl.1 rfl (Nat.le_of_ble_eq_true rfl) dX14_synAck_62 ⟨Nat.le_of_ble_eq_true rfl, Nat.le_of_ble_eq_true rfl⟩) hS (fun r6 locs hw hS => ?_)
  refine lv_if_eq (tgt := 76) hx hb dX14_synAck_65 (by decide) (fun h => ?_) (fun h => ?_)
  · have hw := hw.1 h
    exact rt_v C hH hS hw dX14_synAck_76
  have hw := hw.2 h
  refine lv_aload_n hx hb dX14_synAck_68 rfl (lv_at hl 1 rfl) ?_
  refine lv_aload_n hx hb dX14_synAck_69 rfl (lv_at hl 1 rfl) ?_
  refine g15_5 C hH ho1 q1712 dX14_synAck_70 ?_
  refine p15_6 C hH hS ho1 q1713 dX14_synAck_73 (fun σ7 e7 H locs hH hS => ?_)
  have hw := hw σ7 e7
  exact rt_v C hH hS hw dX14_synAck_76
/-! WebHost$Connection.acknowledge()V -/
abbrev cX11_acknowledge : ByteArray := prog_3_method_4_code
def yX11_acknowledge : MethodName := ⟨RX11, "acknowledge", "()V"⟩
theorem dX11_acknowledge_0 : decode cX11_acknowledge 0 = .ok (.aload_n 0, 1) := by decide +kernel
theorem dX11_acknowledge_1 : decode cX11_acknowledge 1 = .ok (.aload_n 0, 1) := by decide +kernel
theorem dX11_acknowledge_2 : decode cX11_acknowledge 2 = .ok (.getfield 60, 3) := by decide +kernel
theorem dX11_acknowledge_5 : decode cX11_acknowledge 5 = .ok (.bipush 16, 2) := by decide +kernel
theorem dX11_acknowledge_7 : decode cX11_acknowledge 7 = .ok (.aconst_null, 1) := by decide +kernel
theorem dX11_acknowledge_8 : decode cX11_acknowledge 8 = .ok (.iconst 0, 1) := by decide +kernel
theorem dX11_acknowledge_9 : decode cX11_acknowledge 9 = .ok (.iconst 0, 1) := by decide +kernel
theorem dX11_acknowledge_10 : decode cX11_acknowledge 10 = .ok (.invokevirtual 63, 3) := by decide +kernel
theorem dX11_acknowledge_13 : decode cX11_acknowledge 13 = .ok (.return_, 1) := by decide +kernel
def rmX11_acknowledge : Room := { frames := 7, cells := 0, slots := 0, locals := 186 }
theorem kX11_acknowledge : yX11_acknowledge.cls = "WebHost$Connection" ∧ yX11_acknowledge.cls ≠ "java/lang/invoke/MethodHandle" ∧ yX11_acknowledge.cls ≠ "java/lang/invoke/VarHandle" ∧ (parseMethodDescriptor yX11_acknowledge.desc).map (fun d => d.parameters.length) = some 0 := by decide +kernel
def w11_acknowledge (σ : St) (o0 : Nat) (Q : St → Prop) : Prop := w11_segment σ o0 (σ 11 o0 10) 16 0 0 0 0 (fun σ1 => (Q σ1))
set_option maxHeartbeats 4000000 in
theorem m11_acknowledge (l : Launch) (G : Gh) (a1 : Nat → Nat → Nat) (τ : St) (σ : St) (o0 : Nat) (ho0 : o0 < 16) (Q : St → Prop) (hw : w11_acknowledge σ o0 Q) : Met l yX11_acknowledge (ws_ yX11_acknowledge cX11_acknowledge 1 none) rmX11_acknowledge (PcS G a1 (cmb σ τ) [.ref (ga G 11 o0)]) (QVs G a1 (fun u => cmb u τ) Q) 0 0 (gA G) := by
  refine met_w (by decide) (Nat.le_of_ble_eq_true rfl) ?_
  intro p e s m below meth c ls C hH hS hl
  have C : Cx p e s m _ meth c cX11_acknowledge 1 none "WebHost$Connection" G := C
  have hl : lv_has ls 1 [(0, .ref (ga G 11 o0))] := hl
  have hx := C.1
  have hb := C.2.1
  have hown := C.2.2.2.2.2.1
  have hts := C.2.2.2.2.2.2.1
  obtain ⟨locs, hlocs⟩ : ∃ z : List Loc, z = [] := ⟨_, rfl⟩
  obtain ⟨H, hHe⟩ : ∃ z : Heap, z = s.heap := ⟨_, rfl⟩
  have hH : Hd G a1 (cmb σ τ) H := by rw [hHe]; exact hH
  have hS : va_S (gA G) s.heap H locs := by rw [hHe, hlocs]; exact hS
  refine W.heap0 hHe.symm hlocs.symm ?_
  refine lv_aload_n hx hb dX11_acknowledge_0 rfl (lv_at hl 0 rfl) ?_
  refine lv_aload_n hx hb dX11_acknowledge_1 rfl (lv_at hl 0 rfl) ?_
  refine g11_10 C hH ho0 q622 dX11_acknowledge_2 ?_
  refine lv_bipush (v := 16) hx hb dX11_acknowledge_5 (by decide) ?_
  refine lv_null hx hb dX11_acknowledge_7 ?_
  refine lv_iconst (v := 0) hx hb dX11_acknowledge_8 (by decide) ?_
  refine lv_iconst (v := 0) hx hb dX11_acknowledge_9 (by decide) ?_
  refine kc_v (rn_v (As := [.int (σ 11 o0 10), .int 16, nav G a1 0 0, .int 0, .int 0]) (rest := []) C hH hS (by decide) rfl ho0 (m11_segment l G a1 τ σ o0 (σ 11 o0 10) 16 0 0 0 0 ho0 _ hw) (cwV 5 hts (lw_V q972 q974 qs13 q168 q975) rfl rfl rfl kX11_segment ⟨Nat.le_of_ble_eq_true rfl, Nat.le_of_ble_eq_true rfl⟩) rfl hl.1 rfl (Nat.le_of_ble_eq_true rfl) dX11_acknowledge_10 ⟨Nat.le_of_ble_eq_true rfl, Nat.le_of_ble_eq_true rfl⟩) hS (fun σ1 H locs hw hH hS => ?_)
  exact rt_v C hH hS hw dX11_acknowledge_13
/-! WebHost$Connection.begin(LWebHost$Segment;I)V -/
abbrev cX11_begin : ByteArray := prog_3_method_14_code
def yX11_begin : MethodName := ⟨RX11, "begin", "(LWebHost$Segment;I)V"⟩
theorem dX11_begin_0 : decode cX11_begin 0 = .ok (.aload_n 0, 1) := by decide +kernel
theorem dX11_begin_1 : decode cX11_begin 1 = .ok (.aload_n 1, 1) := by decide +kernel
theorem dX11_begin_2 : decode cX11_begin 2 = .ok (.getfield 158, 3) := by decide +kernel
theorem dX11_begin_5 : decode cX11_begin 5 = .ok (.putfield 44, 3) := by decide +kernel
theorem dX11_begin_8 : decode cX11_begin 8 = .ok (.aload_n 0, 1) := by decide +kernel
theorem dX11_begin_9 : decode cX11_begin 9 = .ok (.aload_n 1, 1) := by decide +kernel
theorem dX11_begin_10 : decode cX11_begin 10 = .ok (.getfield 163, 3) := by decide +kernel
theorem dX11_begin_13 : decode cX11_begin 13 = .ok (.putfield 47, 3) := by decide +kernel
theorem dX11_begin_16 : decode cX11_begin 16 = .ok (.aload_n 0, 1) := by decide +kernel
theorem dX11_begin_17 : decode cX11_begin 17 = .ok (.ldc 164, 2) := by decide +kernel
theorem dX11_begin_19 : decode cX11_begin 19 = .ok (.iload_n 2, 1) := by decide +kernel
theorem dX11_begin_20 : decode cX11_begin 20 = .ok (.imul, 1) := by decide +kernel
theorem dX11_begin_21 : decode cX11_begin 21 = .ok (.sipush 250, 3) := by decide +kernel
theorem dX11_begin_24 : decode cX11_begin 24 = .ok (.aload_n 0, 1) := by decide +kernel
theorem dX11_begin_25 : decode cX11_begin 25 = .ok (.getfield 25, 3) := by decide +kernel
theorem dX11_begin_28 : decode cX11_begin 28 = .ok (.invokevirtual 129, 3) := by decide +kernel
theorem dX11_begin_31 : decode cX11_begin 31 = .ok (.imul, 1) := by decide +kernel
theorem dX11_begin_32 : decode cX11_begin 32 = .ok (.iadd, 1) := by decide +kernel
theorem dX11_begin_33 : decode cX11_begin 33 = .ok (.putfield 165, 3) := by decide +kernel
theorem dX11_begin_36 : decode cX11_begin 36 = .ok (.aload_n 0, 1) := by decide +kernel
theorem dX11_begin_37 : decode cX11_begin 37 = .ok (.aload_n 1, 1) := by decide +kernel
theorem dX11_begin_38 : decode cX11_begin 38 = .ok (.getfield 168, 3) := by decide +kernel
theorem dX11_begin_41 : decode cX11_begin 41 = .ok (.iconst 1, 1) := by decide +kernel
theorem dX11_begin_42 : decode cX11_begin 42 = .ok (.iadd, 1) := by decide +kernel
theorem dX11_begin_43 : decode cX11_begin 43 = .ok (.putfield 33, 3) := by decide +kernel
theorem dX11_begin_46 : decode cX11_begin 46 = .ok (.aload_n 0, 1) := by decide +kernel
theorem dX11_begin_47 : decode cX11_begin 47 = .ok (.aload_n 0, 1) := by decide +kernel
theorem dX11_begin_48 : decode cX11_begin 48 = .ok (.getfield 165, 3) := by decide +kernel
theorem dX11_begin_51 : decode cX11_begin 51 = .ok (.putfield 82, 3) := by decide +kernel
theorem dX11_begin_54 : decode cX11_begin 54 = .ok (.aload_n 0, 1) := by decide +kernel
theorem dX11_begin_55 : decode cX11_begin 55 = .ok (.aload_n 0, 1) := by decide +kernel
theorem dX11_begin_56 : decode cX11_begin 56 = .ok (.getfield 165, 3) := by decide +kernel
theorem dX11_begin_59 : decode cX11_begin 59 = .ok (.iconst 1, 1) := by decide +kernel
theorem dX11_begin_60 : decode cX11_begin 60 = .ok (.iadd, 1) := by decide +kernel
theorem dX11_begin_61 : decode cX11_begin 61 = .ok (.putfield 60, 3) := by decide +kernel
theorem dX11_begin_64 : decode cX11_begin 64 = .ok (.aload_n 0, 1) := by decide +kernel
theorem dX11_begin_65 : decode cX11_begin 65 = .ok (.aload_n 0, 1) := by decide +kernel
theorem dX11_begin_66 : decode cX11_begin 66 = .ok (.getfield 165, 3) := by decide +kernel
theorem dX11_begin_69 : decode cX11_begin 69 = .ok (.iconst 1, 1) := by decide +kernel
theorem dX11_begin_70 : decode cX11_begin 70 = .ok (.iadd, 1) := by decide +kernel
theorem dX11_begin_71 : decode cX11_begin 71 = .ok (.putfield 88, 3) := by decide +kernel
theorem dX11_begin_74 : decode cX11_begin 74 = .ok (.aload_n 0, 1) := by decide +kernel
theorem dX11_begin_75 : decode cX11_begin 75 = .ok (.aload_n 0, 1) := by decide +kernel
theorem dX11_begin_76 : decode cX11_begin 76 = .ok (.getfield 165, 3) := by decide +kernel
theorem dX11_begin_79 : decode cX11_begin 79 = .ok (.iconst 1, 1) := by decide +kernel
theorem dX11_begin_80 : decode cX11_begin 80 = .ok (.iadd, 1) := by decide +kernel
theorem dX11_begin_81 : decode cX11_begin 81 = .ok (.putfield 67, 3) := by decide +kernel
theorem dX11_begin_84 : decode cX11_begin 84 = .ok (.aload_n 0, 1) := by decide +kernel
theorem dX11_begin_85 : decode cX11_begin 85 = .ok (.getfield 21, 3) := by decide +kernel
theorem dX11_begin_88 : decode cX11_begin 88 = .ok (.iconst 0, 1) := by decide +kernel
theorem dX11_begin_89 : decode cX11_begin 89 = .ok (.putfield 70, 3) := by decide +kernel
theorem dX11_begin_92 : decode cX11_begin 92 = .ok (.aload_n 0, 1) := by decide +kernel
theorem dX11_begin_93 : decode cX11_begin 93 = .ok (.aload_n 1, 1) := by decide +kernel
theorem dX11_begin_94 : decode cX11_begin 94 = .ok (.getfield 171, 3) := by decide +kernel
theorem dX11_begin_97 : decode cX11_begin 97 = .ok (.putfield 150, 3) := by decide +kernel
theorem dX11_begin_100 : decode cX11_begin 100 = .ok (.aload_n 0, 1) := by decide +kernel
theorem dX11_begin_101 : decode cX11_begin 101 = .ok (.aload_n 1, 1) := by decide +kernel
theorem dX11_begin_102 : decode cX11_begin 102 = .ok (.getfield 168, 3) := by decide +kernel
theorem dX11_begin_105 : decode cX11_begin 105 = .ok (.putfield 172, 3) := by decide +kernel
theorem dX11_begin_108 : decode cX11_begin 108 = .ok (.aload_n 0, 1) := by decide +kernel
theorem dX11_begin_109 : decode cX11_begin 109 = .ok (.iconst 0, 1) := by decide +kernel
theorem dX11_begin_110 : decode cX11_begin 110 = .ok (.putfield 175, 3) := by decide +kernel
theorem dX11_begin_113 : decode cX11_begin 113 = .ok (.aload_n 0, 1) := by decide +kernel
theorem dX11_begin_114 : decode cX11_begin 114 = .ok (.aload_n 1, 1) := by decide +kernel
theorem dX11_begin_115 : decode cX11_begin 115 = .ok (.getfield 178, 3) := by decide +kernel
theorem dX11_begin_118 : decode cX11_begin 118 = .ok (.putfield 144, 3) := by decide +kernel
theorem dX11_begin_121 : decode cX11_begin 121 = .ok (.aload_n 0, 1) := by decide +kernel
theorem dX11_begin_122 : decode cX11_begin 122 = .ok (.aload_n 0, 1) := by decide +kernel
theorem dX11_begin_123 : decode cX11_begin 123 = .ok (.getfield 144, 3) := by decide +kernel
theorem dX11_begin_126 : decode cX11_begin 126 = .ok (.sipush 1095, 3) := by decide +kernel
theorem dX11_begin_129 : decode cX11_begin 129 = .ok (.if_icmp .gt 12, 3) := by decide +kernel
theorem dX11_begin_132 : decode cX11_begin 132 = .ok (.iconst 4, 1) := by decide +kernel
theorem dX11_begin_133 : decode cX11_begin 133 = .ok (.aload_n 0, 1) := by decide +kernel
theorem dX11_begin_134 : decode cX11_begin 134 = .ok (.getfield 144, 3) := by decide +kernel
theorem dX11_begin_137 : decode cX11_begin 137 = .ok (.imul, 1) := by decide +kernel
theorem dX11_begin_138 : decode cX11_begin 138 = .ok (.goto 9, 3) := by decide +kernel
theorem dX11_begin_141 : decode cX11_begin 141 = .ok (.iconst 3, 1) := by decide +kernel
theorem dX11_begin_142 : decode cX11_begin 142 = .ok (.aload_n 0, 1) := by decide +kernel
theorem dX11_begin_143 : decode cX11_begin 143 = .ok (.getfield 144, 3) := by decide +kernel
theorem dX11_begin_146 : decode cX11_begin 146 = .ok (.imul, 1) := by decide +kernel
theorem dX11_begin_147 : decode cX11_begin 147 = .ok (.putfield 147, 3) := by decide +kernel
theorem dX11_begin_150 : decode cX11_begin 150 = .ok (.aload_n 0, 1) := by decide +kernel
theorem dX11_begin_151 : decode cX11_begin 151 = .ok (.ldc 179, 2) := by decide +kernel
theorem dX11_begin_153 : decode cX11_begin 153 = .ok (.putfield 180, 3) := by decide +kernel
theorem dX11_begin_156 : decode cX11_begin 156 = .ok (.aload_n 0, 1) := by decide +kernel
theorem dX11_begin_157 : decode cX11_begin 157 = .ok (.sipush 1000, 3) := by decide +kernel
theorem dX11_begin_160 : decode cX11_begin 160 = .ok (.putfield 138, 3) := by decide +kernel
theorem dX11_begin_163 : decode cX11_begin 163 = .ok (.aload_n 0, 1) := by decide +kernel
theorem dX11_begin_164 : decode cX11_begin 164 = .ok (.iconst 0, 1) := by decide +kernel
theorem dX11_begin_165 : decode cX11_begin 165 = .ok (.putfield 183, 3) := by decide +kernel
theorem dX11_begin_168 : decode cX11_begin 168 = .ok (.aload_n 0, 1) := by decide +kernel
theorem dX11_begin_169 : decode cX11_begin 169 = .ok (.iconst 0, 1) := by decide +kernel
theorem dX11_begin_170 : decode cX11_begin 170 = .ok (.putfield 186, 3) := by decide +kernel
theorem dX11_begin_173 : decode cX11_begin 173 = .ok (.aload_n 0, 1) := by decide +kernel
theorem dX11_begin_174 : decode cX11_begin 174 = .ok (.iconst 0, 1) := by decide +kernel
theorem dX11_begin_175 : decode cX11_begin 175 = .ok (.putfield 189, 3) := by decide +kernel
theorem dX11_begin_178 : decode cX11_begin 178 = .ok (.aload_n 0, 1) := by decide +kernel
theorem dX11_begin_179 : decode cX11_begin 179 = .ok (.getfield 12, 3) := by decide +kernel
theorem dX11_begin_182 : decode cX11_begin 182 = .ok (.invokevirtual 192, 3) := by decide +kernel
theorem dX11_begin_185 : decode cX11_begin 185 = .ok (.aload_n 0, 1) := by decide +kernel
theorem dX11_begin_186 : decode cX11_begin 186 = .ok (.iconst 0, 1) := by decide +kernel
theorem dX11_begin_187 : decode cX11_begin 187 = .ok (.putfield 56, 3) := by decide +kernel
theorem dX11_begin_190 : decode cX11_begin 190 = .ok (.aload_n 0, 1) := by decide +kernel
theorem dX11_begin_191 : decode cX11_begin 191 = .ok (.iconst 0, 1) := by decide +kernel
theorem dX11_begin_192 : decode cX11_begin 192 = .ok (.putfield 195, 3) := by decide +kernel
theorem dX11_begin_195 : decode cX11_begin 195 = .ok (.aload_n 0, 1) := by decide +kernel
theorem dX11_begin_196 : decode cX11_begin 196 = .ok (.iconst 0, 1) := by decide +kernel
theorem dX11_begin_197 : decode cX11_begin 197 = .ok (.putfield 79, 3) := by decide +kernel
theorem dX11_begin_200 : decode cX11_begin 200 = .ok (.aload_n 0, 1) := by decide +kernel
theorem dX11_begin_201 : decode cX11_begin 201 = .ok (.iconst 0, 1) := by decide +kernel
theorem dX11_begin_202 : decode cX11_begin 202 = .ok (.putfield 113, 3) := by decide +kernel
theorem dX11_begin_205 : decode cX11_begin 205 = .ok (.aload_n 0, 1) := by decide +kernel
theorem dX11_begin_206 : decode cX11_begin 206 = .ok (.iconst 0, 1) := by decide +kernel
theorem dX11_begin_207 : decode cX11_begin 207 = .ok (.putfield 116, 3) := by decide +kernel
theorem dX11_begin_210 : decode cX11_begin 210 = .ok (.aload_n 0, 1) := by decide +kernel
theorem dX11_begin_211 : decode cX11_begin 211 = .ok (.iconst 0, 1) := by decide +kernel
theorem dX11_begin_212 : decode cX11_begin 212 = .ok (.putfield 198, 3) := by decide +kernel
theorem dX11_begin_215 : decode cX11_begin 215 = .ok (.aload_n 0, 1) := by decide +kernel
theorem dX11_begin_216 : decode cX11_begin 216 = .ok (.iconst 0, 1) := by decide +kernel
theorem dX11_begin_217 : decode cX11_begin 217 = .ok (.putfield 135, 3) := by decide +kernel
theorem dX11_begin_220 : decode cX11_begin 220 = .ok (.aload_n 0, 1) := by decide +kernel
theorem dX11_begin_221 : decode cX11_begin 221 = .ok (.aload_n 0, 1) := by decide +kernel
theorem dX11_begin_222 : decode cX11_begin 222 = .ok (.getfield 25, 3) := by decide +kernel
theorem dX11_begin_225 : decode cX11_begin 225 = .ok (.invokevirtual 129, 3) := by decide +kernel
theorem dX11_begin_228 : decode cX11_begin 228 = .ok (.putfield 201, 3) := by decide +kernel
theorem dX11_begin_231 : decode cX11_begin 231 = .ok (.aload_n 0, 1) := by decide +kernel
theorem dX11_begin_232 : decode cX11_begin 232 = .ok (.iconst 1, 1) := by decide +kernel
theorem dX11_begin_233 : decode cX11_begin 233 = .ok (.putfield 73, 3) := by decide +kernel
theorem dX11_begin_236 : decode cX11_begin 236 = .ok (.aload_n 0, 1) := by decide +kernel
theorem dX11_begin_237 : decode cX11_begin 237 = .ok (.aload_n 0, 1) := by decide +kernel
theorem dX11_begin_238 : decode cX11_begin 238 = .ok (.getfield 165, 3) := by decide +kernel
theorem dX11_begin_241 : decode cX11_begin 241 = .ok (.invokevirtual 109, 3) := by decide +kernel
theorem dX11_begin_244 : decode cX11_begin 244 = .ok (.aload_n 0, 1) := by decide +kernel
theorem dX11_begin_245 : decode cX11_begin 245 = .ok (.invokevirtual 119, 3) := by decide +kernel
theorem dX11_begin_248 : decode cX11_begin 248 = .ok (.aload_n 0, 1) := by decide +kernel
theorem dX11_begin_249 : decode cX11_begin 249 = .ok (.aload_n 0, 1) := by decide +kernel
theorem dX11_begin_250 : decode cX11_begin 250 = .ok (.getfield 165, 3) := by decide +kernel
theorem dX11_begin_253 : decode cX11_begin 253 = .ok (.bipush 18, 2) := by decide +kernel
theorem dX11_begin_255 : decode cX11_begin 255 = .ok (.aconst_null, 1) := by decide +kernel
theorem dX11_begin_256 : decode cX11_begin 256 = .ok (.iconst 0, 1) := by decide +kernel
theorem dX11_begin_257 : decode cX11_begin 257 = .ok (.iconst 0, 1) := by decide +kernel
theorem dX11_begin_258 : decode cX11_begin 258 = .ok (.invokevirtual 63, 3) := by decide +kernel
theorem dX11_begin_261 : decode cX11_begin 261 = .ok (.return_, 1) := by decide +kernel
def rmX11_begin : Room := { frames := 7, cells := 0, slots := 0, locals := 186 }
theorem kX11_begin : yX11_begin.cls = "WebHost$Connection" ∧ yX11_begin.cls ≠ "java/lang/invoke/MethodHandle" ∧ yX11_begin.cls ≠ "java/lang/invoke/VarHandle" ∧ (parseMethodDescriptor yX11_begin.desc).map (fun d => d.parameters.length) = some 2 := by decide +kernel
def w11_begin_J147 (σ : St) (o0 : Nat) (xs0 : Int32) (os1 : Nat) (Q : St → Prop) : Prop := ∀ σ15, σ15 = up3 σ 11 os1 14 xs0 → (∀ σ16, σ16 = up3 σ15 11 o0 15 65535 → (∀ σ17, σ17 = up3 σ16 11 o0 16 1000 → (∀ σ18, σ18 = up3 σ17 11 o0 17 0 → (∀ σ19, σ19 = up3 σ18 11 o0 18 0 → (∀ σ20, σ20 = up3 σ19 11 o0 19 0 → (w12_clear σ20 o0 (fun σ21 => (∀ σ22, σ22 = up3 σ21 11 o0 22 0 → (∀ σ23, σ23 = up3 σ22 11 o0 23 0 → (∀ σ24, σ24 = up3 σ23 11 o0 27 0 → (∀ σ25, σ25 = up3 σ24 11 o0 28 0 → (∀ σ26, σ26 = up3 σ25 11 o0 33 0 → (∀ σ27, σ27 = up3 σ26 11 o0 35 0 → (∀ σ28, σ28 = up3 σ27 11 o0 29 0 → (w8_now σ28 (fun r29 => (∀ σ30, σ30 = up3 σ28 11 o0 32 r29 → (∀ σ31, σ31 = up3 σ30 11 o0 2 1 → (w11_time σ31 o0 (σ31 11 o0 5) (fun σ32 => (w11_startTimer σ32 o0 (fun σ33 => (w11_segment σ33 o0 (σ33 11 o0 5) 18 0 0 0 0 (fun σ34 => (Q σ34)))))))))))))))))))))))))
set_option maxHeartbeats 4000000 in
theorem k11_begin_J147 {p : Program} {l : Launch} {e : Env} {s : State} {m : MethodId} {args : Array Value} {below : List Frame} {meth : Method} {c : Code} {G : Gh} {a1 : Nat → Nat → Nat} {τ : St} {Q : St → Prop} (C : Cx p e s m args meth c cX11_begin 3 none "WebHost$Connection" G) (σ : St) (o0 : Nat) (xs0 : Int32) (os1 : Nat) (ho0 : o0 < 16) (hos1 : os1 < 16) (hw : w11_begin_J147 σ o0 xs0 os1 Q) (H : Heap) (locs : List Loc) (ls : Array Slot) (hH : Hd G a1 (cmb σ τ) H) (hS : va_S (gA G) s.heap H locs) (hl : lv_has ls 3 [(0, .ref (ga G 11 o0))]) : W p l e rmX11_begin s m args below meth c H locs 0 0 (MQ below (QVs G a1 (fun u => cmb u τ) Q) args s 0 0 (gA G)) (F0 m 147 ls [.int xs0, .ref (ga G 11 os1)]) := by
  have hx := C.1
  have hb := C.2.1
  have hown := C.2.2.2.2.2.1
  have hts := C.2.2.2.2.2.2.1
  refine p11_14 C hH hS hos1 q630 dX11_begin_147 (fun σ15 e15 H locs hH hS => ?_)
  have hw := hw σ15 e15
  refine lv_aload_n hx hb dX11_begin_150 rfl (lv_at hl 0 rfl) ?_
  refine lv_ldc (v := 65535) hx hb hown (hts _ q1195) dX11_begin_151 ?_
  refine p11_15 C hH hS ho0 q632 dX11_begin_153 (fun σ16 e16 H locs hH hS => ?_)
  have hw := hw σ16 e16
  refine lv_aload_n hx hb dX11_begin_156 rfl (lv_at hl 0 rfl) ?_
  refine lv_sipush (v := 1000) hx hb dX11_begin_157 (by decide) ?_
  refine p11_16 C hH hS ho0 q634 dX11_begin_160 (fun σ17 e17 H locs hH hS => ?_)
  have hw := hw σ17 e17
  refine lv_aload_n hx hb dX11_begin_163 rfl (lv_at hl 0 rfl) ?_
  refine lv_iconst (v := 0) hx hb dX11_begin_164 (by decide) ?_
  refine p11_17 C hH hS ho0 q636 dX11_begin_165 (fun σ18 e18 H locs hH hS => ?_)
  have hw := hw σ18 e18
  refine lv_aload_n hx hb dX11_begin_168 rfl (lv_at hl 0 rfl) ?_
  refine lv_iconst (v := 0) hx hb dX11_begin_169 (by decide) ?_
  refine p11_18 C hH hS ho0 q638 dX11_begin_170 (fun σ19 e19 H locs hH hS => ?_)
  have hw := hw σ19 e19
  refine lv_aload_n hx hb dX11_begin_173 rfl (lv_at hl 0 rfl) ?_
  refine lv_iconst (v := 0) hx hb dX11_begin_174 (by decide) ?_
  refine p11_19 C hH hS ho0 (Or.inl rfl) q640 dX11_begin_175 (fun σ20 e20 H locs hH hS => ?_)
  have hw := hw σ20 e20
  refine lv_aload_n hx hb dX11_begin_178 rfl (lv_at hl 0 rfl) ?_
  refine g11_20 C hH ho0 q641 dX11_begin_179 ?_
  refine kc_v (rn_v (As := []) (rest := []) C hH hS (by decide) rfl ho0 (m12_clear l G a1 τ σ20 o0 ho0 _ hw) (cwV 0 hts (lw_V q1571 q1572 q1573 q169 q1574) rfl rfl rfl kX12_clear ⟨Nat.le_of_ble_eq_true rfl, Nat.le_of_ble_eq_true rfl⟩) rfl hl.1 rfl (Nat.le_of_ble_eq_true rfl) dX11_begin_182 ⟨Nat.le_of_ble_eq_true rfl, Nat.le_of_ble_eq_true rfl⟩) hS (fun σ21 H locs hw hH hS => ?_)
  refine lv_aload_n hx hb dX11_begin_185 rfl (lv_at hl 0 rfl) ?_
  refine lv_iconst (v := 0) hx hb dX11_begin_186 (by decide) ?_
  refine p11_22 C hH hS ho0 (Or.inl rfl) q644 dX11_begin_187 (fun σ22 e22 H locs hH hS => ?_)
  have hw := hw σ22 e22
  refine lv_aload_n hx hb dX11_begin_190 rfl (lv_at hl 0 rfl) ?_
  refine lv_iconst (v := 0) hx hb dX11_begin_191 (by decide) ?_
  refine p11_23 C hH hS ho0 (Or.inl rfl) q645 dX11_begin_192 (fun σ23 e23 H locs hH hS => ?_)
  have hw := hw σ23 e23
  refine lv_aload_n hx hb dX11_begin_195 rfl (lv_at hl 0 rfl) ?_
  refine lv_iconst (v := 0) hx hb dX11_begin_196 (by decide) ?_
  refine p11_27 C hH hS ho0 (Or.inl rfl) q649 dX11_begin_197 (fun σ24 e24 H locs hH hS => ?_)
  have hw := hw σ24 e24
  refine lv_aload_n hx hb dX11_begin_200 rfl (lv_at hl 0 rfl) ?_
  refine lv_iconst (v := 0) hx hb dX11_begin_201 (by decide) ?_
  refine p11_28 C hH hS ho0 (Or.inl rfl) q650 dX11_begin_202 (fun σ25 e25 H locs hH hS => ?_)
  have hw := hw σ25 e25
  refine lv_aload_n hx hb dX11_begin_205 rfl (lv_at hl 0 rfl) ?_
  refine lv_iconst (v := 0) hx hb dX11_begin_206 (by decide) ?_
  refine p11_33 C hH hS ho0 (Or.inl rfl) q655 dX11_begin_207 (fun σ26 e26 H locs hH hS => ?_)
  have hw := hw σ26 e26
  refine lv_aload_n hx hb dX11_begin_210 rfl (lv_at hl 0 rfl) ?_
  refine lv_iconst (v := 0) hx hb dX11_begin_211 (by decide) ?_
  refine p11_35 C hH hS ho0 (Or.inl rfl) q657 dX11_begin_212 (fun σ27 e27 H locs hH hS => ?_)
  have hw := hw σ27 e27
  refine lv_aload_n hx hb dX11_begin_215 rfl (lv_at hl 0 rfl) ?_
  refine lv_iconst (v := 0) hx hb dX11_begin_216 (by decide) ?_
  refine p11_29 C hH hS ho0 (Or.inl rfl) q651 dX11_begin_217 (fun σ28 e28 H locs hH hS => ?_)
  have hw := hw σ28 e28
  refine lv_aload_n hx hb dX11_begin_220 rfl (lv_at hl 0 rfl) ?_
  refine lv_aload_n hx hb dX11_begin_221 rfl (lv_at hl 0 rfl) ?_
  refine g11_0 C hH ho0 q608 dX11_begin_222 ?_
  refine kc_ip (rn_vp (As := []) (rest := [.ref (ga G 11 o0)]) C hH hS (by decide) rfl (by decide) (m8_now l G a1 τ σ28 H _ hw) (cwV 0 hts (lw_V q1025 q1026 q1027 q165 q1028) rfl rfl rfl kX8_now ⟨Nat.le_of_ble_eq_true rfl, Nat.le_of_ble_eq_true rfl⟩) rfl hl.1 rfl (Nat.le_of_ble_eq_true rfl) dX11_begin_225 ⟨Nat.le_of_ble_eq_true rfl, Nat.le_of_ble_eq_true rfl⟩) hS (fun r29 locs hw hS => ?_)
  refine p11_32 C hH hS ho0 q654 dX11_begin_228 (fun σ30 e30 H locs hH hS => ?_)
  have hw := hw σ30 e30
  refine lv_aload_n hx hb dX11_begin_231 rfl (lv_at hl 0 rfl) ?_
  refine lv_iconst (v := 1) hx hb dX11_begin_232 (by decide) ?_
  refine p11_2 C hH hS ho0 q610 dX11_begin_233 (fun σ31 e31 H locs hH hS => ?_)
  have hw := hw σ31 e31
  refine lv_aload_n hx hb dX11_begin_236 rfl (lv_at hl 0 rfl) ?_
  refine lv_aload_n hx hb dX11_begin_237 rfl (lv_at hl 0 rfl) ?_
  refine g11_5 C hH ho0 q616 dX11_begin_238 ?_
  refine kc_v (rn_v (As := [.int (σ31 11 o0 5)]) (rest := []) C hH hS (by decide) rfl ho0 (m11_time l G a1 τ σ31 o0 (σ31 11 o0 5) ho0 _ hw) (cwV 1 hts (lw_V q1049 q1051 qs19 q168 q1052) rfl rfl rfl kX11_time ⟨Nat.le_of_ble_eq_true rfl, Nat.le_of_ble_eq_true rfl⟩) rfl hl.1 rfl (Nat.le_of_ble_eq_true rfl) dX11_begin_241 ⟨Nat.le_of_ble_eq_true rfl, Nat.le_of_ble_eq_true rfl⟩) hS (fun σ32 H locs hw hH hS => ?_)
  refine lv_aload_n hx hb dX11_begin_244 rfl (lv_at hl 0 rfl) ?_
  refine kc_v (rn_v (As := []) (rest := []) C hH hS (by decide) rfl ho0 (m11_startTimer l G a1 τ σ32 o0 ho0 _ hw) (cwV 0 hts (lw_V q1021 q1023 qs15 q168 q1024) rfl rfl rfl kX11_startTimer ⟨Nat.le_of_ble_eq_true rfl, Nat.le_of_ble_eq_true rfl⟩) rfl hl.1 rfl (Nat.le_of_ble_eq_true rfl) dX11_begin_245 ⟨Nat.le_of_ble_eq_true rfl, Nat.le_of_ble_eq_true rfl⟩) hS (fun σ33 H locs hw hH hS => ?_)
  refine lv_aload_n hx hb dX11_begin_248 rfl (lv_at hl 0 rfl) ?_
  refine lv_aload_n hx hb dX11_begin_249 rfl (lv_at hl 0 rfl) ?_
  refine g11_5 C hH ho0 q616 dX11_begin_250 ?_
  refine lv_bipush (v := 18) hx hb dX11_begin_253 (by decide) ?_
  refine lv_null hx hb dX11_begin_255 ?_
  refine lv_iconst (v := 0) hx hb dX11_begin_256 (by decide) ?_
  refine lv_iconst (v := 0) hx hb dX11_begin_257 (by decide) ?_
  refine kc_v (rn_v (As := [.int (σ33 11 o0 5), .int 18, nav G a1 0 0, .int 0, .int 0]) (rest := []) C hH hS (by decide) rfl ho0 (m11_segment l G a1 τ σ33 o0 (σ33 11 o0 5) 18 0 0 0 0 ho0 _ hw) (cwV 5 hts (lw_V q972 q974 qs13 q168 q975) rfl rfl rfl kX11_segment ⟨Nat.le_of_ble_eq_true rfl, Nat.le_of_ble_eq_true rfl⟩) rfl hl.1 rfl (Nat.le_of_ble_eq_true rfl) dX11_begin_258 ⟨Nat.le_of_ble_eq_true rfl, Nat.le_of_ble_eq_true rfl⟩) hS (fun σ34 H locs hw hH hS => ?_)
  exact rt_v C hH hS hw dX11_begin_261
def w11_begin (σ : St) (o0 : Nat) (x2 : Int32) (Q : St → Prop) : Prop := ∀ σ1, σ1 = up3 σ 11 o0 3 (σ 10 0 0) → (∀ σ2, σ2 = up3 σ1 11 o0 4 (σ1 10 0 1) → (w8_now σ2 (fun r3 => (∀ σ4, σ4 = up3 σ2 11 o0 5 ((64000 * x2) + (250 * r3)) → (∀ σ5, σ5 = up3 σ4 11 o0 6 ((σ4 10 0 3) + 1) → (∀ σ6, σ6 = up3 σ5 11 o0 9 (σ5 11 o0 5) → (∀ σ7, σ7 = up3 σ6 11 o0 10 ((σ6 11 o0 5) + 1) → (∀ σ8, σ8 = up3 σ7 11 o0 11 ((σ7 11 o0 5) + 1) → (∀ σ9, σ9 = up3 σ8 11 o0 26 ((σ8 11 o0 5) + 1) → (∀ σ10, σ10 = up3 σ9 13 o0 1 0 → (∀ σ11, σ11 = up3 σ10 11 o0 12 (σ10 10 0 6) → (∀ σ12, σ12 = up3 σ11 11 o0 7 (σ11 10 0 3) → (∀ σ13, σ13 = up3 σ12 11 o0 8 0 → (∀ σ14, σ14 = up3 σ13 11 o0 13 (σ13 10 0 10) → ((1095 < (σ14 11 o0 13) → (w11_begin_J147 σ14 o0 (3 * (σ14 11 o0 13)) o0 Q)) ∧ (¬ 1095 < (σ14 11 o0 13) → (w11_begin_J147 σ14 o0 (4 * (σ14 11 o0 13)) o0 Q)))))))))))))))))
set_option maxHeartbeats 4000000 in
theorem m11_begin (l : Launch) (G : Gh) (a1 : Nat → Nat → Nat) (τ : St) (σ : St) (o0 : Nat) (x2 : Int32) (ho0 : o0 < 16) (Q : St → Prop) (hw : w11_begin σ o0 x2 Q) : Met l yX11_begin (ws_ yX11_begin cX11_begin 3 none) rmX11_begin (PcS G a1 (cmb σ τ) [.ref (ga G 11 o0), .ref (ga G 10 0), .int x2]) (QVs G a1 (fun u => cmb u τ) Q) 0 0 (gA G) := by
  refine met_w (by decide) (Nat.le_of_ble_eq_true rfl) ?_
  intro p e s m below meth c ls C hH hS hl
  have C : Cx p e s m _ meth c cX11_begin 3 none "WebHost$Connection" G := C
  have hl : lv_has ls 3 [(0, .ref (ga G 11 o0)), (1, .ref (ga G 10 0)), (2, .int x2)] := hl
  have hx := C.1
  have hb := C.2.1
  have hown := C.2.2.2.2.2.1
  have hts := C.2.2.2.2.2.2.1
  obtain ⟨locs, hlocs⟩ : ∃ z : List Loc, z = [] := ⟨_, rfl⟩
  obtain ⟨H, hHe⟩ : ∃ z : Heap, z = s.heap := ⟨_, rfl⟩
  have hH : Hd G a1 (cmb σ τ) H := by rw [hHe]; exact hH
  have hS : va_S (gA G) s.heap H locs := by rw [hHe, hlocs]; exact hS
  refine W.heap0 hHe.symm hlocs.symm ?_
  refine lv_aload_n hx hb dX11_begin_0 rfl (lv_at hl 0 rfl) ?_
  refine lv_aload_n hx hb dX11_begin_1 rfl (lv_at hl 1 rfl) ?_
  refine g10_0 C hH q516 dX11_begin_2 ?_
  refine p11_3 C hH hS ho0 q612 dX11_begin_5 (fun σ1 e1 H locs hH hS => ?_)
  have hw := hw σ1 e1
  refine lv_aload_n hx hb dX11_begin_8 rfl (lv_at hl 0 rfl) ?_
  refine lv_aload_n hx hb dX11_begin_9 rfl (lv_at hl 1 rfl) ?_
  refine g10_1 C hH q520 dX11_begin_10 ?_
  refine p11_4 C hH hS ho0 q614 dX11_begin_13 (fun σ2 e2 H locs hH hS => ?_)
  have hw := hw σ2 e2
  refine lv_aload_n hx hb dX11_begin_16 rfl (lv_at hl 0 rfl) ?_
  refine lv_ldc (v := 64000) hx hb hown (hts _ q1570) dX11_begin_17 ?_
  refine lv_iload_n hx hb dX11_begin_19 rfl (lv_at hl 2 rfl) ?_
  refine lv_imul hx hb dX11_begin_20 ?_
  refine lv_sipush (v := 250) hx hb dX11_begin_21 (by decide) ?_
  refine lv_aload_n hx hb dX11_begin_24 rfl (lv_at hl 0 rfl) ?_
  refine g11_0 C hH ho0 q608 dX11_begin_25 ?_
  refine kc_ip (rn_vp (As := []) (rest := [.int 250, .int (64000 * x2), .ref (ga G 11 o0)]) C hH hS (by decide) rfl (by decide) (m8_now l G a1 τ σ2 H _ hw) (cwV 0 hts (lw_V q1025 q1026 q1027 q165 q1028) rfl rfl rfl kX8_now ⟨Nat.le_of_ble_eq_true rfl, Nat.le_of_ble_eq_true rfl⟩) rfl hl.1 rfl (Nat.le_of_ble_eq_true rfl) dX11_begin_28 ⟨Nat.le_of_ble_eq_true rfl, Nat.le_of_ble_eq_true rfl⟩) hS (fun r3 locs hw hS => ?_)
  refine lv_imul hx hb dX11_begin_31 ?_
  refine lv_iadd hx hb dX11_begin_32 ?_
  refine p11_5 C hH hS ho0 q616 dX11_begin_33 (fun σ4 e4 H locs hH hS => ?_)
  have hw := hw σ4 e4
  refine lv_aload_n hx hb dX11_begin_36 rfl (lv_at hl 0 rfl) ?_
  refine lv_aload_n hx hb dX11_begin_37 rfl (lv_at hl 1 rfl) ?_
  refine g10_3 C hH q527 dX11_begin_38 ?_
  refine lv_iconst (v := 1) hx hb dX11_begin_41 (by decide) ?_
  refine lv_iadd hx hb dX11_begin_42 ?_
  refine p11_6 C hH hS ho0 q617 dX11_begin_43 (fun σ5 e5 H locs hH hS => ?_)
  have hw := hw σ5 e5
  refine lv_aload_n hx hb dX11_begin_46 rfl (lv_at hl 0 rfl) ?_
  refine lv_aload_n hx hb dX11_begin_47 rfl (lv_at hl 0 rfl) ?_
  refine g11_5 C hH ho0 q616 dX11_begin_48 ?_
  refine p11_9 C hH hS ho0 q620 dX11_begin_51 (fun σ6 e6 H locs hH hS => ?_)
  have hw := hw σ6 e6
  refine lv_aload_n hx hb dX11_begin_54 rfl (lv_at hl 0 rfl) ?_
  refine lv_aload_n hx hb dX11_begin_55 rfl (lv_at hl 0 rfl) ?_
  refine g11_5 C hH ho0 q616 dX11_begin_56 ?_
  refine lv_iconst (v := 1) hx hb dX11_begin_59 (by decide) ?_
  refine lv_iadd hx hb dX11_begin_60 ?_
  refine p11_10 C hH hS ho0 q622 dX11_begin_61 (fun σ7 e7 H locs hH hS => ?_)
  have hw := hw σ7 e7
  refine lv_aload_n hx hb dX11_begin_64 rfl (lv_at hl 0 rfl) ?_
  refine lv_aload_n hx hb dX11_begin_65 rfl (lv_at hl 0 rfl) ?_
  refine g11_5 C hH ho0 q616 dX11_begin_66 ?_
  refine lv_iconst (v := 1) hx hb dX11_begin_69 (by decide) ?_
  refine lv_iadd hx hb dX11_begin_70 ?_
  refine p11_11 C hH hS ho0 q624 dX11_begin_71 (fun σ8 e8 H locs hH hS => ?_)
  have hw := hw σ8 e8
  refine lv_aload_n hx hb dX11_begin_74 rfl (lv_at hl 0 rfl) ?_
  refine lv_aload_n hx hb dX11_begin_75 rfl (lv_at hl 0 rfl) ?_
  refine g11_5 C hH ho0 q616 dX11_begin_76 ?_
  refine lv_iconst (v := 1) hx hb dX11_begin_79 (by decide) ?_
  refine lv_iadd hx hb dX11_begin_80 ?_
  refine p11_26 C hH hS ho0 q648 dX11_begin_81 (fun σ9 e9 H locs hH hS => ?_)
  have hw := hw σ9 e9
  refine lv_aload_n hx hb dX11_begin_84 rfl (lv_at hl 0 rfl) ?_
  refine g11_25 C hH ho0 q647 dX11_begin_85 ?_
  refine lv_iconst (v := 0) hx hb dX11_begin_88 (by decide) ?_
  refine p13_1 C hH hS ho0 q602 dX11_begin_89 (fun σ10 e10 H locs hH hS => ?_)
  have hw := hw σ10 e10
  refine lv_aload_n hx hb dX11_begin_92 rfl (lv_at hl 0 rfl) ?_
  refine lv_aload_n hx hb dX11_begin_93 rfl (lv_at hl 1 rfl) ?_
  refine g10_6 C hH q533 dX11_begin_94 ?_
  refine p11_12 C hH hS ho0 q626 dX11_begin_97 (fun σ11 e11 H locs hH hS => ?_)
  have hw := hw σ11 e11
  refine lv_aload_n hx hb dX11_begin_100 rfl (lv_at hl 0 rfl) ?_
  refine lv_aload_n hx hb dX11_begin_101 rfl (lv_at hl 1 rfl) ?_
  refine g10_3 C hH q527 dX11_begin_102 ?_
  refine p11_7 C hH hS ho0 q618 dX11_begin_105 (fun σ12 e12 H locs hH hS => ?_)
  have hw := hw σ12 e12
  refine lv_aload_n hx hb dX11_begin_108 rfl (lv_at hl 0 rfl) ?_
  refine lv_iconst (v := 0) hx hb dX11_begin_109 (by decide) ?_
  refine p11_8 C hH hS ho0 q619 dX11_begin_110 (fun σ13 e13 H locs hH hS => ?_)
  have hw := hw σ13 e13
  refine lv_aload_n hx hb dX11_begin_113 rfl (lv_at hl 0 rfl) ?_
  refine lv_aload_n hx hb dX11_begin_114 rfl (lv_at hl 1 rfl) ?_
  refine g10_10 C hH q541 dX11_begin_115 ?_
  refine p11_13 C hH hS ho0 q628 dX11_begin_118 (fun σ14 e14 H locs hH hS => ?_)
  have hw := hw σ14 e14
  refine lv_aload_n hx hb dX11_begin_121 rfl (lv_at hl 0 rfl) ?_
  refine lv_aload_n hx hb dX11_begin_122 rfl (lv_at hl 0 rfl) ?_
  refine g11_13 C hH ho0 q628 dX11_begin_123 ?_
  refine lv_sipush (v := 1095) hx hb dX11_begin_126 (by decide) ?_
  refine lv_icmp_gt (tgt := 141) hx hb dX11_begin_129 (by decide) (fun h => ?_) (fun h => ?_)
  · have hw := hw.1 h
    refine lv_iconst (v := 3) hx hb dX11_begin_141 (by decide) ?_
    refine lv_aload_n hx hb dX11_begin_142 rfl (lv_at hl 0 rfl) ?_
    refine g11_13 C hH ho0 q628 dX11_begin_143 ?_
    refine lv_imul hx hb dX11_begin_146 ?_
    exact k11_begin_J147 C σ14 o0 (3 * (σ14 11 o0 13)) o0 ho0 ho0 hw H locs ls hH hS (lv_sub hl [0] rfl)
  have hw := hw.2 h
  refine lv_iconst (v := 4) hx hb dX11_begin_132 (by decide) ?_
  refine lv_aload_n hx hb dX11_begin_133 rfl (lv_at hl 0 rfl) ?_
  refine g11_13 C hH ho0 q628 dX11_begin_134 ?_
  refine lv_imul hx hb dX11_begin_137 ?_
  refine lv_goto (tgt := 147) hx hb dX11_begin_138 (by decide) ?_
  exact k11_begin_J147 C σ14 o0 (4 * (σ14 11 o0 13)) o0 ho0 ho0 hw H locs ls hH hS (lv_sub hl [0] rfl)
/-! WebHost$Connection.repeat()V -/
abbrev cX11_repeat : ByteArray := prog_3_method_30_code
def yX11_repeat : MethodName := ⟨RX11, "repeat", "()V"⟩
theorem dX11_repeat_0 : decode cX11_repeat 0 = .ok (.aload_n 0, 1) := by decide +kernel
theorem dX11_repeat_1 : decode cX11_repeat 1 = .ok (.dup, 1) := by decide +kernel
theorem dX11_repeat_2 : decode cX11_repeat 2 = .ok (.getfield 186, 3) := by decide +kernel
theorem dX11_repeat_5 : decode cX11_repeat 5 = .ok (.iconst 1, 1) := by decide +kernel
theorem dX11_repeat_6 : decode cX11_repeat 6 = .ok (.iadd, 1) := by decide +kernel
theorem dX11_repeat_7 : decode cX11_repeat 7 = .ok (.putfield 186, 3) := by decide +kernel
theorem dX11_repeat_10 : decode cX11_repeat 10 = .ok (.aload_n 0, 1) := by decide +kernel
theorem dX11_repeat_11 : decode cX11_repeat 11 = .ok (.getfield 186, 3) := by decide +kernel
theorem dX11_repeat_14 : decode cX11_repeat 14 = .ok (.iconst 3, 1) := by decide +kernel
theorem dX11_repeat_15 : decode cX11_repeat 15 = .ok (.if_icmp .ge 4, 3) := by decide +kernel
theorem dX11_repeat_18 : decode cX11_repeat 18 = .ok (.return_, 1) := by decide +kernel
theorem dX11_repeat_19 : decode cX11_repeat 19 = .ok (.aload_n 0, 1) := by decide +kernel
theorem dX11_repeat_20 : decode cX11_repeat 20 = .ok (.getfield 186, 3) := by decide +kernel
theorem dX11_repeat_23 : decode cX11_repeat 23 = .ok (.iconst 3, 1) := by decide +kernel
theorem dX11_repeat_24 : decode cX11_repeat 24 = .ok (.if_icmp .le 12, 3) := by decide +kernel
theorem dX11_repeat_27 : decode cX11_repeat 27 = .ok (.aload_n 0, 1) := by decide +kernel
theorem dX11_repeat_28 : decode cX11_repeat 28 = .ok (.aload_n 0, 1) := by decide +kernel
theorem dX11_repeat_29 : decode cX11_repeat 29 = .ok (.getfield 144, 3) := by decide +kernel
theorem dX11_repeat_32 : decode cX11_repeat 32 = .ok (.invokevirtual 291, 3) := by decide +kernel
theorem dX11_repeat_35 : decode cX11_repeat 35 = .ok (.return_, 1) := by decide +kernel
theorem dX11_repeat_36 : decode cX11_repeat 36 = .ok (.aload_n 0, 1) := by decide +kernel
theorem dX11_repeat_37 : decode cX11_repeat 37 = .ok (.aload_n 0, 1) := by decide +kernel
theorem dX11_repeat_38 : decode cX11_repeat 38 = .ok (.invokevirtual 307, 3) := by decide +kernel
theorem dX11_repeat_41 : decode cX11_repeat 41 = .ok (.putfield 180, 3) := by decide +kernel
theorem dX11_repeat_44 : decode cX11_repeat 44 = .ok (.aload_n 0, 1) := by decide +kernel
theorem dX11_repeat_45 : decode cX11_repeat 45 = .ok (.getfield 144, 3) := by decide +kernel
theorem dX11_repeat_48 : decode cX11_repeat 48 = .ok (.aload_n 0, 1) := by decide +kernel
theorem dX11_repeat_49 : decode cX11_repeat 49 = .ok (.getfield 88, 3) := by decide +kernel
theorem dX11_repeat_52 : decode cX11_repeat 52 = .ok (.aload_n 0, 1) := by decide +kernel
theorem dX11_repeat_53 : decode cX11_repeat 53 = .ok (.getfield 82, 3) := by decide +kernel
theorem dX11_repeat_56 : decode cX11_repeat 56 = .ok (.isub, 1) := by decide +kernel
theorem dX11_repeat_57 : decode cX11_repeat 57 = .ok (.aload_n 0, 1) := by decide +kernel
theorem dX11_repeat_58 : decode cX11_repeat 58 = .ok (.invokevirtual 76, 3) := by decide +kernel
theorem dX11_repeat_61 : decode cX11_repeat 61 = .ok (.aload_n 0, 1) := by decide +kernel
theorem dX11_repeat_62 : decode cX11_repeat 62 = .ok (.getfield 82, 3) := by decide +kernel
theorem dX11_repeat_65 : decode cX11_repeat 65 = .ok (.isub, 1) := by decide +kernel
theorem dX11_repeat_66 : decode cX11_repeat 66 = .ok (.invokestatic 91, 3) := by decide +kernel
theorem dX11_repeat_69 : decode cX11_repeat 69 = .ok (.invokestatic 91, 3) := by decide +kernel
theorem dX11_repeat_72 : decode cX11_repeat 72 = .ok (.istore_n 1, 1) := by decide +kernel
theorem dX11_repeat_73 : decode cX11_repeat 73 = .ok (.aload_n 0, 1) := by decide +kernel
theorem dX11_repeat_74 : decode cX11_repeat 74 = .ok (.getfield 113, 3) := by decide +kernel
theorem dX11_repeat_77 : decode cX11_repeat 77 = .ok (.ifCond .eq 20, 3) := by decide +kernel
theorem dX11_repeat_80 : decode cX11_repeat 80 = .ok (.aload_n 0, 1) := by decide +kernel
theorem dX11_repeat_81 : decode cX11_repeat 81 = .ok (.getfield 82, 3) := by decide +kernel
theorem dX11_repeat_84 : decode cX11_repeat 84 = .ok (.iload_n 1, 1) := by decide +kernel
theorem dX11_repeat_85 : decode cX11_repeat 85 = .ok (.iadd, 1) := by decide +kernel
theorem dX11_repeat_86 : decode cX11_repeat 86 = .ok (.aload_n 0, 1) := by decide +kernel
theorem dX11_repeat_87 : decode cX11_repeat 87 = .ok (.invokevirtual 76, 3) := by decide +kernel
theorem dX11_repeat_90 : decode cX11_repeat 90 = .ok (.if_icmp .ne 7, 3) := by decide +kernel
theorem dX11_repeat_93 : decode cX11_repeat 93 = .ok (.iconst 1, 1) := by decide +kernel
theorem dX11_repeat_94 : decode cX11_repeat 94 = .ok (.goto 4, 3) := by decide +kernel
theorem dX11_repeat_97 : decode cX11_repeat 97 = .ok (.iconst 0, 1) := by decide +kernel
theorem dX11_repeat_98 : decode cX11_repeat 98 = .ok (.istore_n 2, 1) := by decide +kernel
theorem dX11_repeat_99 : decode cX11_repeat 99 = .ok (.aload_n 0, 1) := by decide +kernel
theorem dX11_repeat_100 : decode cX11_repeat 100 = .ok (.getfield 25, 3) := by decide +kernel
theorem dX11_repeat_103 : decode cX11_repeat 103 = .ok (.dup, 1) := by decide +kernel
theorem dX11_repeat_104 : decode cX11_repeat 104 = .ok (.getfield 103, 3) := by decide +kernel
theorem dX11_repeat_107 : decode cX11_repeat 107 = .ok (.iconst 1, 1) := by decide +kernel
theorem dX11_repeat_108 : decode cX11_repeat 108 = .ok (.iadd, 1) := by decide +kernel
theorem dX11_repeat_109 : decode cX11_repeat 109 = .ok (.putfield 103, 3) := by decide +kernel
theorem dX11_repeat_112 : decode cX11_repeat 112 = .ok (.aload_n 0, 1) := by decide +kernel
theorem dX11_repeat_113 : decode cX11_repeat 113 = .ok (.iconst 0, 1) := by decide +kernel
theorem dX11_repeat_114 : decode cX11_repeat 114 = .ok (.putfield 106, 3) := by decide +kernel
theorem dX11_repeat_117 : decode cX11_repeat 117 = .ok (.bipush 16, 2) := by decide +kernel
theorem dX11_repeat_119 : decode cX11_repeat 119 = .ok (.istore_n 3, 1) := by decide +kernel
theorem dX11_repeat_120 : decode cX11_repeat 120 = .ok (.iload_n 1, 1) := by decide +kernel
theorem dX11_repeat_121 : decode cX11_repeat 121 = .ok (.ifCond .le 21, 3) := by decide +kernel
theorem dX11_repeat_124 : decode cX11_repeat 124 = .ok (.aload_n 0, 1) := by decide +kernel
theorem dX11_repeat_125 : decode cX11_repeat 125 = .ok (.getfield 82, 3) := by decide +kernel
theorem dX11_repeat_128 : decode cX11_repeat 128 = .ok (.iload_n 1, 1) := by decide +kernel
theorem dX11_repeat_129 : decode cX11_repeat 129 = .ok (.iadd, 1) := by decide +kernel
theorem dX11_repeat_130 : decode cX11_repeat 130 = .ok (.aload_n 0, 1) := by decide +kernel
theorem dX11_repeat_131 : decode cX11_repeat 131 = .ok (.invokevirtual 76, 3) := by decide +kernel
theorem dX11_repeat_134 : decode cX11_repeat 134 = .ok (.if_icmp .ne 8, 3) := by decide +kernel
theorem dX11_repeat_137 : decode cX11_repeat 137 = .ok (.iload_n 3, 1) := by decide +kernel
theorem dX11_repeat_138 : decode cX11_repeat 138 = .ok (.bipush 8, 2) := by decide +kernel
theorem dX11_repeat_140 : decode cX11_repeat 140 = .ok (.ior, 1) := by decide +kernel
theorem dX11_repeat_141 : decode cX11_repeat 141 = .ok (.istore_n 3, 1) := by decide +kernel
theorem dX11_repeat_142 : decode cX11_repeat 142 = .ok (.iload_n 2, 1) := by decide +kernel
theorem dX11_repeat_143 : decode cX11_repeat 143 = .ok (.ifCond .eq 7, 3) := by decide +kernel
theorem dX11_repeat_146 : decode cX11_repeat 146 = .ok (.iload_n 3, 1) := by decide +kernel
theorem dX11_repeat_147 : decode cX11_repeat 147 = .ok (.iconst 1, 1) := by decide +kernel
theorem dX11_repeat_148 : decode cX11_repeat 148 = .ok (.ior, 1) := by decide +kernel
theorem dX11_repeat_149 : decode cX11_repeat 149 = .ok (.istore_n 3, 1) := by decide +kernel
theorem dX11_repeat_150 : decode cX11_repeat 150 = .ok (.aload_n 0, 1) := by decide +kernel
theorem dX11_repeat_151 : decode cX11_repeat 151 = .ok (.invokevirtual 119, 3) := by decide +kernel
theorem dX11_repeat_154 : decode cX11_repeat 154 = .ok (.aload_n 0, 1) := by decide +kernel
theorem dX11_repeat_155 : decode cX11_repeat 155 = .ok (.aload_n 0, 1) := by decide +kernel
theorem dX11_repeat_156 : decode cX11_repeat 156 = .ok (.getfield 82, 3) := by decide +kernel
theorem dX11_repeat_159 : decode cX11_repeat 159 = .ok (.iload_n 3, 1) := by decide +kernel
theorem dX11_repeat_160 : decode cX11_repeat 160 = .ok (.aload_n 0, 1) := by decide +kernel
theorem dX11_repeat_161 : decode cX11_repeat 161 = .ok (.getfield 21, 3) := by decide +kernel
theorem dX11_repeat_164 : decode cX11_repeat 164 = .ok (.getfield 122, 3) := by decide +kernel
theorem dX11_repeat_167 : decode cX11_repeat 167 = .ok (.aload_n 0, 1) := by decide +kernel
theorem dX11_repeat_168 : decode cX11_repeat 168 = .ok (.getfield 82, 3) := by decide +kernel
theorem dX11_repeat_171 : decode cX11_repeat 171 = .ok (.aload_n 0, 1) := by decide +kernel
theorem dX11_repeat_172 : decode cX11_repeat 172 = .ok (.getfield 67, 3) := by decide +kernel
theorem dX11_repeat_175 : decode cX11_repeat 175 = .ok (.isub, 1) := by decide +kernel
theorem dX11_repeat_176 : decode cX11_repeat 176 = .ok (.iload_n 1, 1) := by decide +kernel
theorem dX11_repeat_177 : decode cX11_repeat 177 = .ok (.invokevirtual 63, 3) := by decide +kernel
theorem dX11_repeat_180 : decode cX11_repeat 180 = .ok (.aload_n 0, 1) := by decide +kernel
theorem dX11_repeat_181 : decode cX11_repeat 181 = .ok (.aload_n 0, 1) := by decide +kernel
theorem dX11_repeat_182 : decode cX11_repeat 182 = .ok (.getfield 180, 3) := by decide +kernel
theorem dX11_repeat_185 : decode cX11_repeat 185 = .ok (.iconst 3, 1) := by decide +kernel
theorem dX11_repeat_186 : decode cX11_repeat 186 = .ok (.aload_n 0, 1) := by decide +kernel
theorem dX11_repeat_187 : decode cX11_repeat 187 = .ok (.getfield 144, 3) := by decide +kernel
theorem dX11_repeat_190 : decode cX11_repeat 190 = .ok (.imul, 1) := by decide +kernel
theorem dX11_repeat_191 : decode cX11_repeat 191 = .ok (.iadd, 1) := by decide +kernel
theorem dX11_repeat_192 : decode cX11_repeat 192 = .ok (.ldc 179, 2) := by decide +kernel
theorem dX11_repeat_194 : decode cX11_repeat 194 = .ok (.invokestatic 91, 3) := by decide +kernel
theorem dX11_repeat_197 : decode cX11_repeat 197 = .ok (.putfield 147, 3) := by decide +kernel
theorem dX11_repeat_200 : decode cX11_repeat 200 = .ok (.aload_n 0, 1) := by decide +kernel
theorem dX11_repeat_201 : decode cX11_repeat 201 = .ok (.iconst 1, 1) := by decide +kernel
theorem dX11_repeat_202 : decode cX11_repeat 202 = .ok (.putfield 189, 3) := by decide +kernel
theorem dX11_repeat_205 : decode cX11_repeat 205 = .ok (.return_, 1) := by decide +kernel
def rmX11_repeat : Room := { frames := 7, cells := 0, slots := 0, locals := 186 }
theorem kX11_repeat : yX11_repeat.cls = "WebHost$Connection" ∧ yX11_repeat.cls ≠ "java/lang/invoke/MethodHandle" ∧ yX11_repeat.cls ≠ "java/lang/invoke/VarHandle" ∧ (parseMethodDescriptor yX11_repeat.desc).map (fun d => d.parameters.length) = some 0 := by decide +kernel
def w11_repeat_J150 (σ : St) (o0 : Nat) (x1 : Int32) (x3 : Int32) (Q : St → Prop) : Prop := w11_startTimer σ o0 (fun σ7 => (w11_segment σ7 o0 (σ7 11 o0 9) x3 44 o0 ((σ7 11 o0 9) - (σ7 11 o0 26)) x1 (fun σ8 => (∀ σ9, σ9 = up3 σ8 11 o0 14 (imin ((σ8 11 o0 15) + (3 * (σ8 11 o0 13))) 65535) → (∀ σ10, σ10 = up3 σ9 11 o0 19 1 → (Q σ10))))))
set_option maxHeartbeats 4000000 in
theorem k11_repeat_J150 {p : Program} {l : Launch} {e : Env} {s : State} {m : MethodId} {args : Array Value} {below : List Frame} {meth : Method} {c : Code} {G : Gh} {a1 : Nat → Nat → Nat} {τ : St} {Q : St → Prop} (C : Cx p e s m args meth c cX11_repeat 4 none "WebHost$Connection" G) (σ : St) (o0 : Nat) (x1 : Int32) (x3 : Int32) (ho0 : o0 < 16) (hw : w11_repeat_J150 σ o0 x1 x3 Q) (H : Heap) (locs : List Loc) (ls : Array Slot) (hH : Hd G a1 (cmb σ τ) H) (hS : va_S (gA G) s.heap H locs) (hl : lv_has ls 4 [(0, .ref (ga G 11 o0)), (1, .int x1), (3, .int x3)]) : W p l e rmX11_repeat s m args below meth c H locs 0 0 (MQ below (QVs G a1 (fun u => cmb u τ) Q) args s 0 0 (gA G)) (F0 m 150 ls []) := by
  have hx := C.1
  have hb := C.2.1
  have hown := C.2.2.2.2.2.1
  have hts := C.2.2.2.2.2.2.1
  refine lv_aload_n hx hb dX11_repeat_150 rfl (lv_at hl 0 rfl) ?_
  refine kc_v (rn_v (As := []) (rest := []) C hH hS (by decide) rfl ho0 (m11_startTimer l G a1 τ σ o0 ho0 _ hw) (cwV 0 hts (lw_V q1021 q1023 qs15 q168 q1024) rfl rfl rfl kX11_startTimer ⟨Nat.le_of_ble_eq_true rfl, Nat.le_of_ble_eq_true rfl⟩) rfl hl.1 rfl (Nat.le_of_ble_eq_true rfl) dX11_repeat_151 ⟨Nat.le_of_ble_eq_true rfl, Nat.le_of_ble_eq_true rfl⟩) hS (fun σ7 H locs hw hH hS => ?_)
  refine lv_aload_n hx hb dX11_repeat_154 rfl (lv_at hl 0 rfl) ?_
  refine lv_aload_n hx hb dX11_repeat_155 rfl (lv_at hl 0 rfl) ?_
  refine g11_9 C hH ho0 q620 dX11_repeat_156 ?_
  refine lv_iload_n hx hb dX11_repeat_159 rfl (lv_at hl 2 rfl) ?_
  refine lv_aload_n hx hb dX11_repeat_160 rfl (lv_at hl 0 rfl) ?_
  refine g11_25 C hH ho0 q647 dX11_repeat_161 ?_
  refine g13_0 C hH ho0 q600 dX11_repeat_164 ?_
  refine lv_aload_n hx hb dX11_repeat_167 rfl (lv_at hl 0 rfl) ?_
  refine g11_9 C hH ho0 q620 dX11_repeat_168 ?_
  refine lv_aload_n hx hb dX11_repeat_171 rfl (lv_at hl 0 rfl) ?_
  refine g11_26 C hH ho0 q648 dX11_repeat_172 ?_
  refine lv_isub hx hb dX11_repeat_175 ?_
  refine lv_iload_n hx hb dX11_repeat_176 rfl (lv_at hl 1 rfl) ?_
  refine kc_v (rn_v (As := [.int (σ7 11 o0 9), .int x3, nav G a1 44 o0, .int ((σ7 11 o0 9) - (σ7 11 o0 26)), .int x1]) (rest := []) C hH hS (by decide) rfl ho0 (m11_segment l G a1 τ σ7 o0 (σ7 11 o0 9) x3 44 o0 ((σ7 11 o0 9) - (σ7 11 o0 26)) x1 ho0 _ hw) (cwV 5 hts (lw_V q972 q974 qs13 q168 q975) rfl rfl rfl kX11_segment ⟨Nat.le_of_ble_eq_true rfl, Nat.le_of_ble_eq_true rfl⟩) rfl hl.1 rfl (Nat.le_of_ble_eq_true rfl) dX11_repeat_177 ⟨Nat.le_of_ble_eq_true rfl, Nat.le_of_ble_eq_true rfl⟩) hS (fun σ8 H locs hw hH hS => ?_)
  refine lv_aload_n hx hb dX11_repeat_180 rfl (lv_at hl 0 rfl) ?_
  refine lv_aload_n hx hb dX11_repeat_181 rfl (lv_at hl 0 rfl) ?_
  refine g11_15 C hH ho0 q632 dX11_repeat_182 ?_
  refine lv_iconst (v := 3) hx hb dX11_repeat_185 (by decide) ?_
  refine lv_aload_n hx hb dX11_repeat_186 rfl (lv_at hl 0 rfl) ?_
  refine g11_13 C hH ho0 q628 dX11_repeat_187 ?_
  refine lv_imul hx hb dX11_repeat_190 ?_
  refine lv_iadd hx hb dX11_repeat_191 ?_
  refine lv_ldc (v := 65535) hx hb hown (hts _ q1195) dX11_repeat_192 ?_
  refine r_imin C hl.1 q1020 (Nat.le_of_ble_eq_true rfl) (Nat.le_of_ble_eq_true rfl) (Nat.zero_le _) (Nat.zero_le _) dX11_repeat_194 ?_
  refine p11_14 C hH hS ho0 q630 dX11_repeat_197 (fun σ9 e9 H locs hH hS => ?_)
  have hw := hw σ9 e9
  refine lv_aload_n hx hb dX11_repeat_200 rfl (lv_at hl 0 rfl) ?_
  refine lv_iconst (v := 1) hx hb dX11_repeat_201 (by decide) ?_
  refine p11_19 C hH hS ho0 (Or.inr rfl) q640 dX11_repeat_202 (fun σ10 e10 H locs hH hS => ?_)
  have hw := hw σ10 e10
  exact rt_v C hH hS hw dX11_repeat_205
def w11_repeat_J98 (σ : St) (o0 : Nat) (x1 : Int32) (xs0 : Int32) (Q : St → Prop) : Prop := ∀ σ5, σ5 = up3 σ 8 0 4 ((σ 8 0 4) + 1) → (∀ σ6, σ6 = up3 σ5 11 o0 34 0 → ((x1 ≤ 0 → ((xs0 = 0 → w11_repeat_J150 σ6 o0 x1 16 Q) ∧ (¬ xs0 = 0 → (w11_repeat_J150 σ6 o0 x1 (16 ||| 1) Q)))) ∧ (¬ x1 ≤ 0 → (w11_end σ6 o0 (fun r11 => ((¬ ((σ6 11 o0 9) + x1) = r11 → ((xs0 = 0 → w11_repeat_J150 σ6 o0 x1 16 Q) ∧ (¬ xs0 = 0 → (w11_repeat_J150 σ6 o0 x1 (16 ||| 1) Q)))) ∧ (((σ6 11 o0 9) + x1) = r11 → ((xs0 = 0 → (w11_repeat_J150 σ6 o0 x1 (16 ||| 8) Q)) ∧ (¬ xs0 = 0 → (w11_repeat_J150 σ6 o0 x1 ((16 ||| 8) ||| 1) Q))))))))))
set_option maxHeartbeats 4000000 in
theorem k11_repeat_J98 {p : Program} {l : Launch} {e : Env} {s : State} {m : MethodId} {args : Array Value} {below : List Frame} {meth : Method} {c : Code} {G : Gh} {a1 : Nat → Nat → Nat} {τ : St} {Q : St → Prop} (C : Cx p e s m args meth c cX11_repeat 4 none "WebHost$Connection" G) (σ : St) (o0 : Nat) (x1 : Int32) (xs0 : Int32) (ho0 : o0 < 16) (hw : w11_repeat_J98 σ o0 x1 xs0 Q) (H : Heap) (locs : List Loc) (ls : Array Slot) (hH : Hd G a1 (cmb σ τ) H) (hS : va_S (gA G) s.heap H locs) (hl : lv_has ls 4 [(0, .ref (ga G 11 o0)), (1, .int x1)]) : W p l e rmX11_repeat s m args below meth c H locs 0 0 (MQ below (QVs G a1 (fun u => cmb u τ) Q) args s 0 0 (gA G)) (F0 m 98 ls [.int xs0]) := by
  have hx := C.1
  have hb := C.2.1
  have hown := C.2.2.2.2.2.1
  have hts := C.2.2.2.2.2.2.1
  refine lv_istore_n (lv' := [(2, .int xs0), (0, .ref (ga G 11 o0)), (1, .int x1)]) hx hb dX11_repeat_98 rfl hl (by decide) rfl (fun ls hl => ?_)
  refine lv_aload_n hx hb dX11_repeat_99 rfl (lv_at hl 1 rfl) ?_
  refine g11_0 C hH ho0 q608 dX11_repeat_100 ?_
  refine lv_dup hx hb dX11_repeat_103 rfl ?_
  refine g8_4 C hH q410 dX11_repeat_104 ?_
  refine lv_iconst (v := 1) hx hb dX11_repeat_107 (by decide) ?_
  refine lv_iadd hx hb dX11_repeat_108 ?_
  refine p8_4 C hH hS q410 dX11_repeat_109 (fun σ5 e5 H locs hH hS => ?_)
  have hw := hw σ5 e5
  refine lv_aload_n hx hb dX11_repeat_112 rfl (lv_at hl 1 rfl) ?_
  refine lv_iconst (v := 0) hx hb dX11_repeat_113 (by decide) ?_
  refine p11_34 C hH hS ho0 (Or.inl rfl) q656 dX11_repeat_114 (fun σ6 e6 H locs hH hS => ?_)
  have hw := hw σ6 e6
  refine lv_bipush (v := 16) hx hb dX11_repeat_117 (by decide) ?_
  refine lv_istore_n (lv' := [(3, .int 16), (2, .int xs0), (0, .ref (ga G 11 o0)), (1, .int x1)]) hx hb dX11_repeat_119 rfl hl (by decide) rfl (fun ls hl => ?_)
  refine lv_iload_n hx hb dX11_repeat_120 rfl (lv_at hl 3 rfl) ?_
  refine lv_if_le (tgt := 142) hx hb dX11_repeat_121 (by decide) (fun h => ?_) (fun h => ?_)
  · have hw := hw.1 h
    refine lv_iload_n hx hb dX11_repeat_142 rfl (lv_at hl 1 rfl) ?_
    refine lv_if_eq (tgt := 150) hx hb dX11_repeat_143 (by decide) (fun h => ?_) (fun h => ?_)
    · have hw := hw.1 h
      exact k11_repeat_J150 C σ6 o0 x1 16 ho0 hw H locs ls hH hS (lv_sub hl [2, 3, 0] rfl)
    have hw := hw.2 h
    refine lv_iload_n hx hb dX11_repeat_146 rfl (lv_at hl 0 rfl) ?_
    refine lv_iconst (v := 1) hx hb dX11_repeat_147 (by decide) ?_
    refine lv_ior hx hb dX11_repeat_148 ?_
    refine lv_istore_n (lv' := [(3, .int (16 ||| 1)), (2, .int xs0), (0, .ref (ga G 11 o0)), (1, .int x1)]) hx hb dX11_repeat_149 rfl hl (by decide) rfl (fun ls hl => ?_)
    exact k11_repeat_J150 C σ6 o0 x1 (16 ||| 1) ho0 hw H locs ls hH hS (lv_sub hl [2, 3, 0] rfl)
  have hw := hw.2 h
  refine lv_aload_n hx hb dX11_repeat_124 rfl (lv_at hl 2 rfl) ?_
  refine g11_9 C hH ho0 q620 dX11_repeat_125 ?_
  refine lv_iload_n hx hb dX11_repeat_128 rfl (lv_at hl 3 rfl) ?_
  refine lv_iadd hx hb dX11_repeat_129 ?_
  refine lv_aload_n hx hb dX11_repeat_130 rfl (lv_at hl 2 rfl) ?_
  refine kc_ip (rn_vp (As := []) (rest := [.int ((σ6 11 o0 9) + x1)]) C hH hS (by decide) rfl ho0 (m11_end l G a1 τ σ6 H o0 ho0 _ hw) (cwV 0 hts (lw_V q1038 q1040 qs17 q168 q1041) rfl rfl rfl kX11_end ⟨Nat.le_of_ble_eq_true rfl, Nat.le_of_ble_eq_true rfl⟩) rfl hl.1 rfl (Nat.le_of_ble_eq_true rfl) dX11_repeat_131 ⟨Nat.le_of_ble_eq_true rfl, Nat.le_of_ble_eq_true rfl⟩) hS (fun r11 locs hw hS => ?_)
  refine lv_icmp_ne (tgt := 142) hx hb dX11_repeat_134 (by decide) (fun h => ?_) (fun h => ?_)
  · have hw := hw.1 h
    refine lv_iload_n hx hb dX11_repeat_142 rfl (lv_at hl 1 rfl) ?_
    refine lv_if_eq (tgt := 150) hx hb dX11_repeat_143 (by decide) (fun h => ?_) (fun h => ?_)
    · have hw := hw.1 h
      exact k11_repeat_J150 C σ6 o0 x1 16 ho0 hw H locs ls hH hS (lv_sub hl [2, 3, 0] rfl)
    have hw := hw.2 h
    refine lv_iload_n hx hb dX11_repeat_146 rfl (lv_at hl 0 rfl) ?_
    refine lv_iconst (v := 1) hx hb dX11_repeat_147 (by decide) ?_
    refine lv_ior hx hb dX11_repeat_148 ?_
    refine lv_istore_n (lv' := [(3, .int (16 ||| 1)), (2, .int xs0), (0, .ref (ga G 11 o0)), (1, .int x1)]) hx hb dX11_repeat_149 rfl hl (by decide) rfl (fun ls hl => ?_)
    exact k11_repeat_J150 C σ6 o0 x1 (16 ||| 1) ho0 hw H locs ls hH hS (lv_sub hl [2, 3, 0] rfl)
  have hw := hw.2 h
  refine lv_iload_n hx hb dX11_repeat_137 rfl (lv_at hl 0 rfl) ?_
  refine lv_bipush (v := 8) hx hb dX11_repeat_138 (by decide) ?_
  refine lv_ior hx hb dX11_repeat_140 ?_
  refine lv_istore_n (lv' := [(3, .int (16 ||| 8)), (2, .int xs0), (0, .ref (ga G 11 o0)), (1, .int x1)]) hx hb dX11_repeat_141 rfl hl (by decide) rfl (fun ls hl => ?_)
  refine lv_iload_n hx hb dX11_repeat_142 rfl (lv_at hl 1 rfl) ?_
  refine lv_if_eq (tgt := 150) hx hb dX11_repeat_143 (by decide) (fun h => ?_) (fun h => ?_)
  · have hw := hw.1 h
    exact k11_repeat_J150 C σ6 o0 x1 (16 ||| 8) ho0 hw H locs ls hH hS (lv_sub hl [2, 3, 0] rfl)
  have hw := hw.2 h
  refine lv_iload_n hx hb dX11_repeat_146 rfl (lv_at hl 0 rfl) ?_
  refine lv_iconst (v := 1) hx hb dX11_repeat_147 (by decide) ?_
  refine lv_ior hx hb dX11_repeat_148 ?_
  refine lv_istore_n (lv' := [(3, .int ((16 ||| 8) ||| 1)), (2, .int xs0), (0, .ref (ga G 11 o0)), (1, .int x1)]) hx hb dX11_repeat_149 rfl hl (by decide) rfl (fun ls hl => ?_)
  exact k11_repeat_J150 C σ6 o0 x1 ((16 ||| 8) ||| 1) ho0 hw H locs ls hH hS (lv_sub hl [2, 3, 0] rfl)
def w11_repeat (σ : St) (o0 : Nat) (Q : St → Prop) : Prop := ∀ σ1, σ1 = up3 σ 11 o0 18 ((σ 11 o0 18) + 1) → ((3 ≤ (σ1 11 o0 18) → (((σ1 11 o0 18) ≤ 3 → (w11_half σ1 o0 (fun r2 => (∀ σ3, σ3 = up3 σ1 11 o0 15 r2 → (w11_end σ3 o0 (fun r4 => (bo (σ3 11 o0 28) → (((σ3 11 o0 28) = 0 → (w11_repeat_J98 σ3 o0 (imin (σ3 11 o0 13) (imin ((σ3 11 o0 11) - (σ3 11 o0 9)) (r4 - (σ3 11 o0 9)))) 0 Q)) ∧ (¬ (σ3 11 o0 28) = 0 → (w11_end σ3 o0 (fun r12 => ((¬ ((σ3 11 o0 9) + (imin (σ3 11 o0 13) (imin ((σ3 11 o0 11) - (σ3 11 o0 9)) (r4 - (σ3 11 o0 9))))) = r12 → (w11_repeat_J98 σ3 o0 (imin (σ3 11 o0 13) (imin ((σ3 11 o0 11) - (σ3 11 o0 9)) (r4 - (σ3 11 o0 9)))) 0 Q)) ∧ (((σ3 11 o0 9) + (imin (σ3 11 o0 13) (imin ((σ3 11 o0 11) - (σ3 11 o0 9)) (r4 - (σ3 11 o0 9))))) = r12 → (w11_repeat_J98 σ3 o0 (imin (σ3 11 o0 13) (imin ((σ3 11 o0 11) - (σ3 11 o0 9)) (r4 - (σ3 11 o0 9)))) 1 Q)))))))))))))) ∧ (¬ (σ1 11 o0 18) ≤ 3 → (w11_grow σ1 o0 (σ1 11 o0 13) (fun σ13 => (Q σ13)))))) ∧ (¬ 3 ≤ (σ1 11 o0 18) → Q σ1))
set_option maxHeartbeats 4000000 in
theorem m11_repeat (l : Launch) (G : Gh) (a1 : Nat → Nat → Nat) (τ : St) (σ : St) (o0 : Nat) (ho0 : o0 < 16) (Q : St → Prop) (hw : w11_repeat σ o0 Q) : Met l yX11_repeat (ws_ yX11_repeat cX11_repeat 4 none) rmX11_repeat (PcS G a1 (cmb σ τ) [.ref (ga G 11 o0)]) (QVs G a1 (fun u => cmb u τ) Q) 0 0 (gA G) := by
  refine met_w (by decide) (Nat.le_of_ble_eq_true rfl) ?_
  intro p e s m below meth c ls C hH hS hl
  have C : Cx p e s m _ meth c cX11_repeat 4 none "WebHost$Connection" G := C
  have hl : lv_has ls 4 [(0, .ref (ga G 11 o0))] := hl
  have hx := C.1
  have hb := C.2.1
  have hown := C.2.2.2.2.2.1
  have hts := C.2.2.2.2.2.2.1
  obtain ⟨locs, hlocs⟩ : ∃ z : List Loc, z = [] := ⟨_, rfl⟩
  obtain ⟨H, hHe⟩ : ∃ z : Heap, z = s.heap := ⟨_, rfl⟩
  have hH : Hd G a1 (cmb σ τ) H := by rw [hHe]; exact hH
  have hS : va_S (gA G) s.heap H locs := by rw [hHe, hlocs]; exact hS
  refine W.heap0 hHe.symm hlocs.symm ?_
  refine lv_aload_n hx hb dX11_repeat_0 rfl (lv_at hl 0 rfl) ?_
  refine lv_dup hx hb dX11_repeat_1 rfl ?_
  refine g11_18 C hH ho0 q638 dX11_repeat_2 ?_
  refine lv_iconst (v := 1) hx hb dX11_repeat_5 (by decide) ?_
  refine lv_iadd hx hb dX11_repeat_6 ?_
  refine p11_18 C hH hS ho0 q638 dX11_repeat_7 (fun σ1 e1 H locs hH hS => ?_)
  have hw := hw σ1 e1
  refine lv_aload_n hx hb dX11_repeat_10 rfl (lv_at hl 0 rfl) ?_
  refine g11_18 C hH ho0 q638 dX11_repeat_11 ?_
  refine lv_iconst (v := 3) hx hb dX11_repeat_14 (by decide) ?_
  refine lv_icmp_ge (tgt := 19) hx hb dX11_repeat_15 (by decide) (fun h => ?_) (fun h => ?_)
  · have hw := hw.1 h
    refine lv_aload_n hx hb dX11_repeat_19 rfl (lv_at hl 0 rfl) ?_
    refine g11_18 C hH ho0 q638 dX11_repeat_20 ?_
    refine lv_iconst (v := 3) hx hb dX11_repeat_23 (by decide) ?_
    refine lv_icmp_le (tgt := 36) hx hb dX11_repeat_24 (by decide) (fun h => ?_) (fun h => ?_)
    · have hw := hw.1 h
      refine lv_aload_n hx hb dX11_repeat_36 rfl (lv_at hl 0 rfl) ?_
      refine lv_aload_n hx hb dX11_repeat_37 rfl (lv_at hl 0 rfl) ?_
      refine kc_ip (rn_vp (As := []) (rest := [.ref (ga G 11 o0)]) C hH hS (by decide) rfl ho0 (m11_half l G a1 τ σ1 H o0 ho0 _ hw) (cwV 0 hts (lw_V q1029 q1031 qs16 q168 q1032) rfl rfl rfl kX11_half ⟨Nat.le_of_ble_eq_true rfl, Nat.le_of_ble_eq_true rfl⟩) rfl hl.1 rfl (Nat.le_of_ble_eq_true rfl) dX11_repeat_38 ⟨Nat.le_of_ble_eq_true rfl, Nat.le_of_ble_eq_true rfl⟩) hS (fun r2 locs hw hS => ?_)
      refine p11_15 C hH hS ho0 q632 dX11_repeat_41 (fun σ3 e3 H locs hH hS => ?_)
      have hw := hw σ3 e3
      refine lv_aload_n hx hb dX11_repeat_44 rfl (lv_at hl 0 rfl) ?_
      refine g11_13 C hH ho0 q628 dX11_repeat_45 ?_
      refine lv_aload_n hx hb dX11_repeat_48 rfl (lv_at hl 0 rfl) ?_
      refine g11_11 C hH ho0 q624 dX11_repeat_49 ?_
      refine lv_aload_n hx hb dX11_repeat_52 rfl (lv_at hl 0 rfl) ?_
      refine g11_9 C hH ho0 q620 dX11_repeat_53 ?_
      refine lv_isub hx hb dX11_repeat_56 ?_
      refine lv_aload_n hx hb dX11_repeat_57 rfl (lv_at hl 0 rfl) ?_
      refine kc_ip (rn_vp (As := []) (rest := [.int ((σ3 11 o0 11) - (σ3 11 o0 9)), .int (σ3 11 o0 13)]) C hH hS (by decide) rfl ho0 (m11_end l G a1 τ σ3 H o0 ho0 _ hw) (cwV 0 hts (lw_V q1038 q1040 qs17 q168 q1041) rfl rfl rfl kX11_end ⟨Nat.le_of_ble_eq_true rfl, Nat.le_of_ble_eq_true rfl⟩) rfl hl.1 rfl (Nat.le_of_ble_eq_true rfl) dX11_repeat_58 ⟨Nat.le_of_ble_eq_true rfl, Nat.le_of_ble_eq_true rfl⟩) hS (fun r4 locs hw hS => ?_)
      refine lv_aload_n hx hb dX11_repeat_61 rfl (lv_at hl 0 rfl) ?_
      refine g11_9 C hH ho0 q620 dX11_repeat_62 ?_
      refine lv_isub hx hb dX11_repeat_65 ?_
      refine r_imin C hl.1 q1020 (Nat.le_of_ble_eq_true rfl) (Nat.le_of_ble_eq_true rfl) (Nat.zero_le _) (Nat.zero_le _) dX11_repeat_66 ?_
      refine r_imin C hl.1 q1020 (Nat.le_of_ble_eq_true rfl) (Nat.le_of_ble_eq_true rfl) (Nat.zero_le _) (Nat.zero_le _) dX11_repeat_69 ?_
      refine lv_istore_n (lv' := [(1, .int (imin (σ3 11 o0 13) (imin ((σ3 11 o0 11) - (σ3 11 o0 9)) (r4 - (σ3 11 o0 9))))), (0, .ref (ga G 11 o0))]) hx hb dX11_repeat_72 rfl hl (by decide) rfl (fun ls hl => ?_)
      refine lv_aload_n hx hb dX11_repeat_73 rfl (lv_at hl 1 rfl) ?_
      refine g11_28 C hH ho0 q650 dX11_repeat_74 (fun hz => ?_)
      have hw := hw hz
      refine lv_if_eq (tgt := 97) hx hb dX11_repeat_77 (by decide) (fun h => ?_) (fun h => ?_)
      · have hw := hw.1 h
        refine lv_iconst (v := 0) hx hb dX11_repeat_97 (by decide) ?_
        exact k11_repeat_J98 C σ3 o0 (imin (σ3 11 o0 13) (imin ((σ3 11 o0 11) - (σ3 11 o0 9)) (r4 - (σ3 11 o0 9)))) 0 ho0 hw H locs ls hH hS (lv_sub hl [1, 0] rfl)
      have hw := hw.2 h
      refine lv_aload_n hx hb dX11_repeat_80 rfl (lv_at hl 1 rfl) ?_
      refine g11_9 C hH ho0 q620 dX11_repeat_81 ?_
      refine lv_iload_n hx hb dX11_repeat_84 rfl (lv_at hl 0 rfl) ?_
      refine lv_iadd hx hb dX11_repeat_85 ?_
      refine lv_aload_n hx hb dX11_repeat_86 rfl (lv_at hl 1 rfl) ?_
      refine kc_ip (rn_vp (As := []) (rest := [.int ((σ3 11 o0 9) + (imin (σ3 11 o0 13) (imin ((σ3 11 o0 11) - (σ3 11 o0 9)) (r4 - (σ3 11 o0 9)))))]) C hH hS (by decide) rfl ho0 (m11_end l G a1 τ σ3 H o0 ho0 _ hw) (cwV 0 hts (lw_V q1038 q1040 qs17 q168 q1041) rfl rfl rfl kX11_end ⟨Nat.le_of_ble_eq_true rfl, Nat.le_of_ble_eq_true rfl⟩) rfl hl.1 rfl (Nat.le_of_ble_eq_true rfl) dX11_repeat_87 ⟨Nat.le_of_ble_eq_true rfl, Nat.le_of_ble_eq_true rfl⟩) hS (fun r12 locs hw hS => ?_)
      refine lv_icmp_ne (tgt := 97) hx hb dX11_repeat_90 (by decide) (fun h => ?_) (fun h => ?_)
      · have hw := hw.1 h
        refine lv_iconst (v := 0) hx hb dX11_repeat_97 (by decide) ?_
        exact k11_repeat_J98 C σ3 o0 (imin (σ3 11 o0 13) (imin ((σ3 11 o0 11) - (σ3 11 o0 9)) (r4 - (σ3 11 o0 9)))) 0 ho0 hw H locs ls hH hS (lv_sub hl [1, 0] rfl)
      have hw := hw.2 h
      refine lv_iconst (v := 1) hx hb dX11_repeat_93 (by decide) ?_
      refine lv_goto (tgt := 98) hx hb dX11_repeat_94 (by decide) ?_
      exact k11_repeat_J98 C σ3 o0 (imin (σ3 11 o0 13) (imin ((σ3 11 o0 11) - (σ3 11 o0 9)) (r4 - (σ3 11 o0 9)))) 1 ho0 hw H locs ls hH hS (lv_sub hl [1, 0] rfl)
    have hw := hw.2 h
    refine lv_aload_n hx hb dX11_repeat_27 rfl (lv_at hl 0 rfl) ?_
    refine lv_aload_n hx hb dX11_repeat_28 rfl (lv_at hl 0 rfl) ?_
    refine g11_13 C hH ho0 q628 dX11_repeat_29 ?_
    refine kc_v (rn_v (As := [.int (σ1 11 o0 13)]) (rest := []) C hH hS (by decide) rfl ho0 (m11_grow l G a1 τ σ1 o0 (σ1 11 o0 13) ho0 _ hw) (cwV 1 hts (lw_V q1191 q1193 qs40 q168 q1194) rfl rfl rfl kX11_grow ⟨Nat.le_of_ble_eq_true rfl, Nat.le_of_ble_eq_true rfl⟩) rfl hl.1 rfl (Nat.le_of_ble_eq_true rfl) dX11_repeat_32 ⟨Nat.le_of_ble_eq_true rfl, Nat.le_of_ble_eq_true rfl⟩) hS (fun σ13 H locs hw hH hS => ?_)
    exact rt_v C hH hS hw dX11_repeat_35
  have hw := hw.2 h
  exact rt_v C hH hS hw dX11_repeat_18
