/-! walks -/
set_option maxRecDepth 100000
/-! WebHostModel.contentLength(II)V -/
abbrev cX14_contentLength : ByteArray := prog_17_method_93_code
def yX14_contentLength : MethodName := ⟨RX14, "contentLength", "(II)V"⟩
theorem dX14_contentLength_0 : decode cX14_contentLength 0 = .ok (.aload_n 0, 1) := by decide +kernel
theorem dX14_contentLength_1 : decode cX14_contentLength 1 = .ok (.dup, 1) := by decide +kernel
theorem dX14_contentLength_2 : decode cX14_contentLength 2 = .ok (.getfield 657, 3) := by decide +kernel
theorem dX14_contentLength_5 : decode cX14_contentLength 5 = .ok (.iconst 1, 1) := by decide +kernel
theorem dX14_contentLength_6 : decode cX14_contentLength 6 = .ok (.iadd, 1) := by decide +kernel
theorem dX14_contentLength_7 : decode cX14_contentLength 7 = .ok (.putfield 657, 3) := by decide +kernel
theorem dX14_contentLength_10 : decode cX14_contentLength 10 = .ok (.iconst 0, 1) := by decide +kernel
theorem dX14_contentLength_11 : decode cX14_contentLength 11 = .ok (.istore_n 3, 1) := by decide +kernel
theorem dX14_contentLength_12 : decode cX14_contentLength 12 = .ok (.iload_n 2, 1) := by decide +kernel
theorem dX14_contentLength_13 : decode cX14_contentLength 13 = .ok (.iload_n 1, 1) := by decide +kernel
theorem dX14_contentLength_14 : decode cX14_contentLength 14 = .ok (.isub, 1) := by decide +kernel
theorem dX14_contentLength_15 : decode cX14_contentLength 15 = .ok (.iconst 1, 1) := by decide +kernel
theorem dX14_contentLength_16 : decode cX14_contentLength 16 = .ok (.if_icmp .lt 15, 3) := by decide +kernel
theorem dX14_contentLength_19 : decode cX14_contentLength 19 = .ok (.iload_n 2, 1) := by decide +kernel
theorem dX14_contentLength_20 : decode cX14_contentLength 20 = .ok (.iload_n 1, 1) := by decide +kernel
theorem dX14_contentLength_21 : decode cX14_contentLength 21 = .ok (.isub, 1) := by decide +kernel
theorem dX14_contentLength_22 : decode cX14_contentLength 22 = .ok (.bipush 9, 2) := by decide +kernel
theorem dX14_contentLength_24 : decode cX14_contentLength 24 = .ok (.if_icmp .gt 7, 3) := by decide +kernel
theorem dX14_contentLength_27 : decode cX14_contentLength 27 = .ok (.iconst 1, 1) := by decide +kernel
theorem dX14_contentLength_28 : decode cX14_contentLength 28 = .ok (.goto 4, 3) := by decide +kernel
theorem dX14_contentLength_31 : decode cX14_contentLength 31 = .ok (.iconst 0, 1) := by decide +kernel
theorem dX14_contentLength_32 : decode cX14_contentLength 32 = .ok (.istore 4, 2) := by decide +kernel
theorem dX14_contentLength_34 : decode cX14_contentLength 34 = .ok (.iload_n 1, 1) := by decide +kernel
theorem dX14_contentLength_35 : decode cX14_contentLength 35 = .ok (.istore 5, 2) := by decide +kernel
theorem dX14_contentLength_37 : decode cX14_contentLength 37 = .ok (.iload 5, 2) := by decide +kernel
theorem dX14_contentLength_39 : decode cX14_contentLength 39 = .ok (.iload_n 2, 1) := by decide +kernel
theorem dX14_contentLength_40 : decode cX14_contentLength 40 = .ok (.if_icmp .ge 40, 3) := by decide +kernel
theorem dX14_contentLength_43 : decode cX14_contentLength 43 = .ok (.iload 4, 2) := by decide +kernel
theorem dX14_contentLength_45 : decode cX14_contentLength 45 = .ok (.ifCond .eq 35, 3) := by decide +kernel
theorem dX14_contentLength_48 : decode cX14_contentLength 48 = .ok (.aload_n 0, 1) := by decide +kernel
theorem dX14_contentLength_49 : decode cX14_contentLength 49 = .ok (.iload 5, 2) := by decide +kernel
theorem dX14_contentLength_51 : decode cX14_contentLength 51 = .ok (.invokevirtual 693, 3) := by decide +kernel
theorem dX14_contentLength_54 : decode cX14_contentLength 54 = .ok (.invokestatic 728, 3) := by decide +kernel
theorem dX14_contentLength_57 : decode cX14_contentLength 57 = .ok (.istore 4, 2) := by decide +kernel
theorem dX14_contentLength_59 : decode cX14_contentLength 59 = .ok (.bipush 10, 2) := by decide +kernel
theorem dX14_contentLength_61 : decode cX14_contentLength 61 = .ok (.iload_n 3, 1) := by decide +kernel
theorem dX14_contentLength_62 : decode cX14_contentLength 62 = .ok (.imul, 1) := by decide +kernel
theorem dX14_contentLength_63 : decode cX14_contentLength 63 = .ok (.aload_n 0, 1) := by decide +kernel
theorem dX14_contentLength_64 : decode cX14_contentLength 64 = .ok (.iload 5, 2) := by decide +kernel
theorem dX14_contentLength_66 : decode cX14_contentLength 66 = .ok (.invokevirtual 693, 3) := by decide +kernel
theorem dX14_contentLength_69 : decode cX14_contentLength 69 = .ok (.iadd, 1) := by decide +kernel
theorem dX14_contentLength_70 : decode cX14_contentLength 70 = .ok (.bipush 48, 2) := by decide +kernel
theorem dX14_contentLength_72 : decode cX14_contentLength 72 = .ok (.isub, 1) := by decide +kernel
theorem dX14_contentLength_73 : decode cX14_contentLength 73 = .ok (.istore_n 3, 1) := by decide +kernel
theorem dX14_contentLength_74 : decode cX14_contentLength 74 = .ok (.iinc 5 1, 3) := by decide +kernel
theorem dX14_contentLength_77 : decode cX14_contentLength 77 = .ok (.goto (-40), 3) := by decide +kernel
theorem dX14_contentLength_80 : decode cX14_contentLength 80 = .ok (.iload 4, 2) := by decide +kernel
theorem dX14_contentLength_82 : decode cX14_contentLength 82 = .ok (.ifCond .ne 11, 3) := by decide +kernel
theorem dX14_contentLength_85 : decode cX14_contentLength 85 = .ok (.aload_n 0, 1) := by decide +kernel
theorem dX14_contentLength_86 : decode cX14_contentLength 86 = .ok (.iconst 1, 1) := by decide +kernel
theorem dX14_contentLength_87 : decode cX14_contentLength 87 = .ok (.putfield 666, 3) := by decide +kernel
theorem dX14_contentLength_90 : decode cX14_contentLength 90 = .ok (.goto 23, 3) := by decide +kernel
theorem dX14_contentLength_93 : decode cX14_contentLength 93 = .ok (.iload_n 3, 1) := by decide +kernel
theorem dX14_contentLength_94 : decode cX14_contentLength 94 = .ok (.ldc_w 762, 3) := by decide +kernel
theorem dX14_contentLength_97 : decode cX14_contentLength 97 = .ok (.if_icmp .le 11, 3) := by decide +kernel
theorem dX14_contentLength_100 : decode cX14_contentLength 100 = .ok (.aload_n 0, 1) := by decide +kernel
theorem dX14_contentLength_101 : decode cX14_contentLength 101 = .ok (.iconst 1, 1) := by decide +kernel
theorem dX14_contentLength_102 : decode cX14_contentLength 102 = .ok (.putfield 669, 3) := by decide +kernel
theorem dX14_contentLength_105 : decode cX14_contentLength 105 = .ok (.goto 8, 3) := by decide +kernel
theorem dX14_contentLength_108 : decode cX14_contentLength 108 = .ok (.aload_n 0, 1) := by decide +kernel
theorem dX14_contentLength_109 : decode cX14_contentLength 109 = .ok (.iload_n 3, 1) := by decide +kernel
theorem dX14_contentLength_110 : decode cX14_contentLength 110 = .ok (.putfield 663, 3) := by decide +kernel
theorem dX14_contentLength_113 : decode cX14_contentLength 113 = .ok (.return_, 1) := by decide +kernel
def rmX14_contentLength : Room := { frames := 1, cells := 0, slots := 0, locals := 21 }
theorem kX14_contentLength : yX14_contentLength.cls = "WebHostModel" ∧ yX14_contentLength.cls ≠ "java/lang/invoke/MethodHandle" ∧ yX14_contentLength.cls ≠ "java/lang/invoke/VarHandle" ∧ (parseMethodDescriptor yX14_contentLength.desc).map (fun d => d.parameters.length) = some 2 := by decide +kernel
def w14_contentLength_L37 (σ : St) (x2 : Int32) (Q : St → Prop) (K80 : Int32 → Int32 → Prop) : Nat → Int32 → Int32 → Int32 → Prop
  | 0, _, _, _ => False
  | n + 1, x3, x4, x5 => (x2 ≤ x5 → K80 x3 x4) ∧ (¬ x2 ≤ x5 → ((x4 = 0 → K80 x3 x4) ∧ (¬ x4 = 0 → (w14_headAt σ x5 (fun r2 => (w14_isDigit σ r2 (fun r3 => (w14_headAt σ x5 (fun r4 => (w14_contentLength_L37 σ x2 Q K80 n (((10 * x3) + r4) - 48) r3 (x5 + 1)))))))))))
set_option maxHeartbeats 4000000 in
theorem k14_contentLength_L37 {p : Program} {l : Launch} {e : Env} {s : State} {m : MethodId} {args : Array Value} {below : List Frame} {meth : Method} {c : Code} {G : Gh} {a1 : Nat → Nat → Nat} {τ : St} {Q : St → Prop} {K80 : Int32 → Int32 → Prop} (C : Cx p e s m args meth c cX14_contentLength 6 none "WebHostModel" G) (σ : St) (x2 : Int32) :
    ∀ (n : Nat) (x3 : Int32) (x4 : Int32) (x5 : Int32), w14_contentLength_L37 σ x2 Q K80 n x3 x4 x5 → ∀ (H : Heap) (locs : List Loc) (ls : Array Slot), Hd G a1 (cmb τ σ) H → va_S (gA G) s.heap H locs → lv_has ls 6 [(0, .ref (ga G 14 0)), (2, .int x2), (3, .int x3), (4, .int x4), (5, .int x5)] → (∀ (x3 : Int32) (x4 : Int32), K80 x3 x4 → ∀ (H : Heap) (locs : List Loc) (ls : Array Slot), Hd G a1 (cmb τ σ) H → va_S (gA G) s.heap H locs → lv_has ls 6 [(0, .ref (ga G 14 0)), (3, .int x3), (4, .int x4)] → W p l e rmX14_contentLength s m args below meth c H locs 0 0 (MQ below (QVs G a1 (fun u => cmb τ u) Q) args s 0 0 (gA G)) (F0 m 80 ls [])) → W p l e rmX14_contentLength s m args below meth c H locs 0 0 (MQ below (QVs G a1 (fun u => cmb τ u) Q) args s 0 0 (gA G)) (F0 m 37 ls []) := by
  have hx := C.1
  have hb := C.2.1
  have hown := C.2.2.2.2.2.1
  have hts := C.2.2.2.2.2.2.1
  intro n
  induction n with
  | zero =>
    intro x3 x4 x5 hw
    exact False.elim hw
  | succ n ih =>
    intro x3 x4 x5 hw H locs ls hH hS hl hK80
    refine lv_iload hx hb dX14_contentLength_37 (lv_at hl 4 rfl) ?_
    refine lv_iload_n hx hb dX14_contentLength_39 rfl (lv_at hl 1 rfl) ?_
    refine lv_icmp_ge (tgt := 80) hx hb dX14_contentLength_40 (by decide) (fun h => ?_) (fun h => ?_)
    · have hw := hw.1 h
      exact hK80 x3 x4 hw H locs ls hH hS (lv_sub hl [0, 2, 3] rfl)
    have hw := hw.2 h
    refine lv_iload hx hb dX14_contentLength_43 (lv_at hl 3 rfl) ?_
    refine lv_if_eq (tgt := 80) hx hb dX14_contentLength_45 (by decide) (fun h => ?_) (fun h => ?_)
    · have hw := hw.1 h
      exact hK80 x3 x4 hw H locs ls hH hS (lv_sub hl [0, 2, 3] rfl)
    have hw := hw.2 h
    refine lv_aload_n hx hb dX14_contentLength_48 rfl (lv_at hl 0 rfl) ?_
    refine lv_iload hx hb dX14_contentLength_49 (lv_at hl 4 rfl) ?_
    refine kc_ip (rn_vp (As := [.int x5]) (rest := []) C hH hS (by decide) rfl (by decide) (m14_headAt l G a1 τ σ H x5 _ hw) (cwV 1 hts (lw_V q2475 q2477 qs136 q171 q2478) rfl rfl rfl kX14_headAt ⟨Nat.le_of_ble_eq_true rfl, Nat.le_of_ble_eq_true rfl⟩) rfl hl.1 rfl (Nat.le_of_ble_eq_true rfl) dX14_contentLength_51 ⟨Nat.le_of_ble_eq_true rfl, Nat.le_of_ble_eq_true rfl⟩) hS (fun r2 locs hw hS => ?_)
    refine kc_ip (rn_sp (As := [.int r2]) (rest := []) C hH hS (m14_isDigit l G a1 τ σ H r2 _ hw) (va_cwS 1 hts (lw_S q2499 q2500 q171 q2501) rfl rfl rfl kX14_isDigit.2 ⟨Nat.le_of_ble_eq_true rfl, Nat.le_of_ble_eq_true rfl⟩) rfl hl.1 rfl (Nat.le_of_ble_eq_true rfl) dX14_contentLength_54 ⟨Nat.le_of_ble_eq_true rfl, Nat.le_of_ble_eq_true rfl⟩) hS (fun r3 locs hw hS => ?_)
    refine lv_istore (lv' := [(4, .int r3), (0, .ref (ga G 14 0)), (2, .int x2), (3, .int x3), (5, .int x5)]) hx hb dX14_contentLength_57 hl (by decide) rfl (fun ls hl => ?_)
    refine lv_bipush (v := 10) hx hb dX14_contentLength_59 (by decide) ?_
    refine lv_iload_n hx hb dX14_contentLength_61 rfl (lv_at hl 3 rfl) ?_
    refine lv_imul hx hb dX14_contentLength_62 ?_
    refine lv_aload_n hx hb dX14_contentLength_63 rfl (lv_at hl 1 rfl) ?_
    refine lv_iload hx hb dX14_contentLength_64 (lv_at hl 4 rfl) ?_
    refine kc_ip (rn_vp (As := [.int x5]) (rest := [.int (10 * x3)]) C hH hS (by decide) rfl (by decide) (m14_headAt l G a1 τ σ H x5 _ hw) (cwV 1 hts (lw_V q2475 q2477 qs136 q171 q2478) rfl rfl rfl kX14_headAt ⟨Nat.le_of_ble_eq_true rfl, Nat.le_of_ble_eq_true rfl⟩) rfl hl.1 rfl (Nat.le_of_ble_eq_true rfl) dX14_contentLength_66 ⟨Nat.le_of_ble_eq_true rfl, Nat.le_of_ble_eq_true rfl⟩) hS (fun r4 locs hw hS => ?_)
    refine lv_iadd hx hb dX14_contentLength_69 ?_
    refine lv_bipush (v := 48) hx hb dX14_contentLength_70 (by decide) ?_
    refine lv_isub hx hb dX14_contentLength_72 ?_
    refine lv_istore_n (lv' := [(3, .int (((10 * x3) + r4) - 48)), (4, .int r3), (0, .ref (ga G 14 0)), (2, .int x2), (5, .int x5)]) hx hb dX14_contentLength_73 rfl hl (by decide) rfl (fun ls hl => ?_)
    refine lv_iinc (v := x5 + 1) (lv' := [(5, .int (x5 + 1)), (3, .int (((10 * x3) + r4) - 48)), (4, .int r3), (0, .ref (ga G 14 0)), (2, .int x2)]) hx hb dX14_contentLength_74 hl (k := 4) rfl rfl (by decide) rfl (fun ls hl => ?_)
    refine lv_goto (tgt := 37) hx hb dX14_contentLength_77 (by decide) ?_
    exact ih (((10 * x3) + r4) - 48) r3 (x5 + 1) hw H locs ls hH hS (lv_sub hl [3, 4, 1, 2, 0] rfl) hK80
def w14_contentLength_J80 (σ : St) (x3 : Int32) (x4 : Int32) (Q : St → Prop) : Prop := (¬ x4 = 0 → ((x3 ≤ 65536 → (∀ σ7, σ7 = up3 σ 14 0 51 x3 → (Q σ7))) ∧ (¬ x3 ≤ 65536 → (∀ σ8, σ8 = up3 σ 14 0 53 1 → (Q σ8))))) ∧ (x4 = 0 → (∀ σ9, σ9 = up3 σ 14 0 52 1 → (Q σ9)))
set_option maxHeartbeats 4000000 in
theorem k14_contentLength_J80 {p : Program} {l : Launch} {e : Env} {s : State} {m : MethodId} {args : Array Value} {below : List Frame} {meth : Method} {c : Code} {G : Gh} {a1 : Nat → Nat → Nat} {τ : St} {Q : St → Prop} (C : Cx p e s m args meth c cX14_contentLength 6 none "WebHostModel" G) (σ : St) (x3 : Int32) (x4 : Int32) (hw : w14_contentLength_J80 σ x3 x4 Q) (H : Heap) (locs : List Loc) (ls : Array Slot) (hH : Hd G a1 (cmb τ σ) H) (hS : va_S (gA G) s.heap H locs) (hl : lv_has ls 6 [(0, .ref (ga G 14 0)), (3, .int x3), (4, .int x4)]) : W p l e rmX14_contentLength s m args below meth c H locs 0 0 (MQ below (QVs G a1 (fun u => cmb τ u) Q) args s 0 0 (gA G)) (F0 m 80 ls []) := by
  have hx := C.1
  have hb := C.2.1
  have hown := C.2.2.2.2.2.1
  have hts := C.2.2.2.2.2.2.1
  refine lv_iload hx hb dX14_contentLength_80 (lv_at hl 2 rfl) ?_
  refine lv_if_ne (tgt := 93) hx hb dX14_contentLength_82 (by decide) (fun h => ?_) (fun h => ?_)
  · have hw := hw.1 h
    refine lv_iload_n hx hb dX14_contentLength_93 rfl (lv_at hl 1 rfl) ?_
    refine lv_ldcw (v := 65536) hx hb hown (hts _ q2516) dX14_contentLength_94 ?_
    refine lv_icmp_le (tgt := 108) hx hb dX14_contentLength_97 (by decide) (fun h => ?_) (fun h => ?_)
    · have hw := hw.1 h
      refine lv_aload_n hx hb dX14_contentLength_108 rfl (lv_at hl 0 rfl) ?_
      refine lv_iload_n hx hb dX14_contentLength_109 rfl (lv_at hl 1 rfl) ?_
      refine p14_51 C hH hS q1991 dX14_contentLength_110 (fun σ7 e7 H locs hH hS => ?_)
      have hw := hw σ7 e7
      exact rt_v C hH hS hw dX14_contentLength_113
    have hw := hw.2 h
    refine lv_aload_n hx hb dX14_contentLength_100 rfl (lv_at hl 0 rfl) ?_
    refine lv_iconst (v := 1) hx hb dX14_contentLength_101 (by decide) ?_
    refine p14_53 C hH hS (Or.inr rfl) q1993 dX14_contentLength_102 (fun σ8 e8 H locs hH hS => ?_)
    have hw := hw σ8 e8
    refine lv_goto (tgt := 113) hx hb dX14_contentLength_105 (by decide) ?_
    exact rt_v C hH hS hw dX14_contentLength_113
  have hw := hw.2 h
  refine lv_aload_n hx hb dX14_contentLength_85 rfl (lv_at hl 0 rfl) ?_
  refine lv_iconst (v := 1) hx hb dX14_contentLength_86 (by decide) ?_
  refine p14_52 C hH hS (Or.inr rfl) q1992 dX14_contentLength_87 (fun σ9 e9 H locs hH hS => ?_)
  have hw := hw σ9 e9
  refine lv_goto (tgt := 113) hx hb dX14_contentLength_90 (by decide) ?_
  exact rt_v C hH hS hw dX14_contentLength_113
def w14_contentLength (σ : St) (x1 : Int32) (x2 : Int32) (Q : St → Prop) : Prop := ∀ σ1, σ1 = up3 σ 14 0 49 ((σ 14 0 49) + 1) → (((x2 - x1) < 1 → (∃ z5, w14_contentLength_L37 σ1 x2 Q (fun x3_6 x4_6 => w14_contentLength_J80 σ1 x3_6 x4_6 Q) z5 0 0 x1)) ∧ (¬ (x2 - x1) < 1 → ((9 < (x2 - x1) → (∃ z10, w14_contentLength_L37 σ1 x2 Q (fun x3_11 x4_11 => w14_contentLength_J80 σ1 x3_11 x4_11 Q) z10 0 0 x1)) ∧ (¬ 9 < (x2 - x1) → (∃ z12, w14_contentLength_L37 σ1 x2 Q (fun x3_13 x4_13 => w14_contentLength_J80 σ1 x3_13 x4_13 Q) z12 0 1 x1)))))
set_option maxHeartbeats 4000000 in
theorem m14_contentLength (l : Launch) (G : Gh) (a1 : Nat → Nat → Nat) (τ : St) (σ : St) (x1 : Int32) (x2 : Int32) (Q : St → Prop) (hw : w14_contentLength σ x1 x2 Q) : Met l yX14_contentLength (ws_ yX14_contentLength cX14_contentLength 6 none) rmX14_contentLength (PcS G a1 (cmb τ σ) [.ref (ga G 14 0), .int x1, .int x2]) (QVs G a1 (fun u => cmb τ u) Q) 0 0 (gA G) := by
  refine met_w (by decide) (Nat.le_of_ble_eq_true rfl) ?_
  intro p e s m below meth c ls C hH hS hl
  have C : Cx p e s m _ meth c cX14_contentLength 6 none "WebHostModel" G := C
  have hl : lv_has ls 6 [(0, .ref (ga G 14 0)), (1, .int x1), (2, .int x2)] := hl
  have hx := C.1
  have hb := C.2.1
  have hown := C.2.2.2.2.2.1
  have hts := C.2.2.2.2.2.2.1
  obtain ⟨locs, hlocs⟩ : ∃ z : List Loc, z = [] := ⟨_, rfl⟩
  obtain ⟨H, hHe⟩ : ∃ z : Heap, z = s.heap := ⟨_, rfl⟩
  have hH : Hd G a1 (cmb τ σ) H := by rw [hHe]; exact hH
  have hS : va_S (gA G) s.heap H locs := by rw [hHe, hlocs]; exact hS
  refine W.heap0 hHe.symm hlocs.symm ?_
  refine lv_aload_n hx hb dX14_contentLength_0 rfl (lv_at hl 0 rfl) ?_
  refine lv_dup hx hb dX14_contentLength_1 rfl ?_
  refine g14_49 C hH q1989 dX14_contentLength_2 ?_
  refine lv_iconst (v := 1) hx hb dX14_contentLength_5 (by decide) ?_
  refine lv_iadd hx hb dX14_contentLength_6 ?_
  refine p14_49 C hH hS q1989 dX14_contentLength_7 (fun σ1 e1 H locs hH hS => ?_)
  have hw := hw σ1 e1
  refine lv_iconst (v := 0) hx hb dX14_contentLength_10 (by decide) ?_
  refine lv_istore_n (lv' := [(3, .int 0), (0, .ref (ga G 14 0)), (1, .int x1), (2, .int x2)]) hx hb dX14_contentLength_11 rfl hl (by decide) rfl (fun ls hl => ?_)
  refine lv_iload_n hx hb dX14_contentLength_12 rfl (lv_at hl 3 rfl) ?_
  refine lv_iload_n hx hb dX14_contentLength_13 rfl (lv_at hl 2 rfl) ?_
  refine lv_isub hx hb dX14_contentLength_14 ?_
  refine lv_iconst (v := 1) hx hb dX14_contentLength_15 (by decide) ?_
  refine lv_icmp_lt (tgt := 31) hx hb dX14_contentLength_16 (by decide) (fun h => ?_) (fun h => ?_)
  · have hw := hw.1 h
    refine lv_iconst (v := 0) hx hb dX14_contentLength_31 (by decide) ?_
    refine lv_istore (lv' := [(4, .int 0), (3, .int 0), (0, .ref (ga G 14 0)), (1, .int x1), (2, .int x2)]) hx hb dX14_contentLength_32 hl (by decide) rfl (fun ls hl => ?_)
    refine lv_iload_n hx hb dX14_contentLength_34 rfl (lv_at hl 3 rfl) ?_
    refine lv_istore (lv' := [(5, .int x1), (4, .int 0), (3, .int 0), (0, .ref (ga G 14 0)), (1, .int x1), (2, .int x2)]) hx hb dX14_contentLength_35 hl (by decide) rfl (fun ls hl => ?_)
    obtain ⟨n5, hw⟩ := hw
    refine k14_contentLength_L37 C σ1 x2 n5 0 0 x1 hw H locs ls hH hS (lv_sub hl [3, 5, 2, 1, 0] rfl) (fun x3_6 x4_6 hw H locs ls hH hS hl => ?_)
    exact k14_contentLength_J80 C σ1 x3_6 x4_6 hw H locs ls hH hS (lv_sub hl [0, 1, 2] rfl)
  have hw := hw.2 h
  refine lv_iload_n hx hb dX14_contentLength_19 rfl (lv_at hl 3 rfl) ?_
  refine lv_iload_n hx hb dX14_contentLength_20 rfl (lv_at hl 2 rfl) ?_
  refine lv_isub hx hb dX14_contentLength_21 ?_
  refine lv_bipush (v := 9) hx hb dX14_contentLength_22 (by decide) ?_
  refine lv_icmp_gt (tgt := 31) hx hb dX14_contentLength_24 (by decide) (fun h => ?_) (fun h => ?_)
  · have hw := hw.1 h
    refine lv_iconst (v := 0) hx hb dX14_contentLength_31 (by decide) ?_
    refine lv_istore (lv' := [(4, .int 0), (3, .int 0), (0, .ref (ga G 14 0)), (1, .int x1), (2, .int x2)]) hx hb dX14_contentLength_32 hl (by decide) rfl (fun ls hl => ?_)
    refine lv_iload_n hx hb dX14_contentLength_34 rfl (lv_at hl 3 rfl) ?_
    refine lv_istore (lv' := [(5, .int x1), (4, .int 0), (3, .int 0), (0, .ref (ga G 14 0)), (1, .int x1), (2, .int x2)]) hx hb dX14_contentLength_35 hl (by decide) rfl (fun ls hl => ?_)
    obtain ⟨n10, hw⟩ := hw
    refine k14_contentLength_L37 C σ1 x2 n10 0 0 x1 hw H locs ls hH hS (lv_sub hl [3, 5, 2, 1, 0] rfl) (fun x3_11 x4_11 hw H locs ls hH hS hl => ?_)
    exact k14_contentLength_J80 C σ1 x3_11 x4_11 hw H locs ls hH hS (lv_sub hl [0, 1, 2] rfl)
  have hw := hw.2 h
  refine lv_iconst (v := 1) hx hb dX14_contentLength_27 (by decide) ?_
  refine lv_goto (tgt := 32) hx hb dX14_contentLength_28 (by decide) ?_
  refine lv_istore (lv' := [(4, .int 1), (3, .int 0), (0, .ref (ga G 14 0)), (1, .int x1), (2, .int x2)]) hx hb dX14_contentLength_32 hl (by decide) rfl (fun ls hl => ?_)
  refine lv_iload_n hx hb dX14_contentLength_34 rfl (lv_at hl 3 rfl) ?_
  refine lv_istore (lv' := [(5, .int x1), (4, .int 1), (3, .int 0), (0, .ref (ga G 14 0)), (1, .int x1), (2, .int x2)]) hx hb dX14_contentLength_35 hl (by decide) rfl (fun ls hl => ?_)
  obtain ⟨n12, hw⟩ := hw
  refine k14_contentLength_L37 C σ1 x2 n12 0 1 x1 hw H locs ls hH hS (lv_sub hl [3, 5, 2, 1, 0] rfl) (fun x3_13 x4_13 hw H locs ls hH hS hl => ?_)
  exact k14_contentLength_J80 C σ1 x3_13 x4_13 hw H locs ls hH hS (lv_sub hl [0, 1, 2] rfl)
/-! WebHostModel.counting(I)LWebHostModel$Entry; -/
abbrev cX14_counting : ByteArray := prog_17_method_18_code
def yX14_counting : MethodName := ⟨RX14, "counting", "(I)LWebHostModel$Entry;"⟩
theorem dX14_counting_0 : decode cX14_counting 0 = .ok (.aload_n 0, 1) := by decide +kernel
theorem dX14_counting_1 : decode cX14_counting 1 = .ok (.iload_n 1, 1) := by decide +kernel
theorem dX14_counting_2 : decode cX14_counting 2 = .ok (.invokevirtual 174, 3) := by decide +kernel
theorem dX14_counting_5 : decode cX14_counting 5 = .ok (.astore_n 2, 1) := by decide +kernel
theorem dX14_counting_6 : decode cX14_counting 6 = .ok (.aload_n 2, 1) := by decide +kernel
theorem dX14_counting_7 : decode cX14_counting 7 = .ok (.ifnull 21, 3) := by decide +kernel
theorem dX14_counting_10 : decode cX14_counting 10 = .ok (.aload_n 0, 1) := by decide +kernel
theorem dX14_counting_11 : decode cX14_counting 11 = .ok (.getfield 134, 3) := by decide +kernel
theorem dX14_counting_14 : decode cX14_counting 14 = .ok (.aload_n 2, 1) := by decide +kernel
theorem dX14_counting_15 : decode cX14_counting 15 = .ok (.getfield 178, 3) := by decide +kernel
theorem dX14_counting_18 : decode cX14_counting 18 = .ok (.isub, 1) := by decide +kernel
theorem dX14_counting_19 : decode cX14_counting 19 = .ok (.ldc 181, 2) := by decide +kernel
theorem dX14_counting_21 : decode cX14_counting 21 = .ok (.if_icmp .ge 7, 3) := by decide +kernel
theorem dX14_counting_24 : decode cX14_counting 24 = .ok (.aload_n 2, 1) := by decide +kernel
theorem dX14_counting_25 : decode cX14_counting 25 = .ok (.goto 4, 3) := by decide +kernel
theorem dX14_counting_28 : decode cX14_counting 28 = .ok (.aconst_null, 1) := by decide +kernel
theorem dX14_counting_29 : decode cX14_counting 29 = .ok (.areturn, 1) := by decide +kernel
def rmX14_counting : Room := { frames := 1, cells := 0, slots := 0, locals := 22 }
theorem kX14_counting : yX14_counting.cls = "WebHostModel" ∧ yX14_counting.cls ≠ "java/lang/invoke/MethodHandle" ∧ yX14_counting.cls ≠ "java/lang/invoke/VarHandle" ∧ (parseMethodDescriptor yX14_counting.desc).map (fun d => d.parameters.length) = some 1 := by decide +kernel
def w14_counting (σ : St) (x1 : Int32) (Q : Option Nat → Prop) : Prop := w14_entry σ x1 (fun p1 => ((p1 = none → Q none) ∧ (∀ i2, p1 = some i2 → (i2 < 16 ∧ ((60000 ≤ ((σ 14 0 10) - (σ 16 i2 4)) → Q none) ∧ (¬ 60000 ≤ ((σ 14 0 10) - (σ 16 i2 4)) → (Q (some i2))))))))
set_option maxHeartbeats 4000000 in
theorem m14_counting (l : Launch) (G : Gh) (a1 : Nat → Nat → Nat) (τ : St) (σ : St) (H : Heap) (x1 : Int32) (Q : Option Nat → Prop) (hw : w14_counting σ x1 Q) : Met l yX14_counting (ws_ yX14_counting cX14_counting 3 (some (.object "WebHostModel$Entry"))) rmX14_counting (PcP G a1 (cmb τ σ) H [.ref (ga G 14 0), .int x1]) (QEp G H 16 Q) 0 0 (gA G) := by
  refine met_p (by decide) (Nat.le_of_ble_eq_true rfl) ?_
  intro p e s m below meth c ls hHe C hH hS hl
  have C : Cx p e s m _ meth c cX14_counting 3 (some (.object "WebHostModel$Entry")) "WebHostModel" G := C
  have hl : lv_has ls 3 [(0, .ref (ga G 14 0)), (1, .int x1)] := hl
  have hx := C.1
  have hb := C.2.1
  have hown := C.2.2.2.2.2.1
  have hts := C.2.2.2.2.2.2.1
  obtain ⟨locs, hlocs⟩ : ∃ z : List Loc, z = [] := ⟨_, rfl⟩
  rw [← hlocs] at hS ⊢
  refine lv_aload_n hx hb dX14_counting_0 rfl (lv_at hl 0 rfl) ?_
  refine lv_iload_n hx hb dX14_counting_1 rfl (lv_at hl 1 rfl) ?_
  refine kc_ep (rn_vp (As := [.int x1]) (rest := []) C hH hS (by decide) rfl (by decide) (m14_entry l G a1 τ σ H x1 _ hw) (cwV 1 hts (lw_V q2268 q2270 qs92 q171 q2271) rfl rfl rfl kX14_entry ⟨Nat.le_of_ble_eq_true rfl, Nat.le_of_ble_eq_true rfl⟩) rfl hl.1 rfl (Nat.le_of_ble_eq_true rfl) dX14_counting_2 ⟨Nat.le_of_ble_eq_true rfl, Nat.le_of_ble_eq_true rfl⟩) hS (fun p1 locs hw hS => ?_)
  refine lv_astore_nV (lv' := [(2, va_re (ga G 16) p1), (0, .ref (ga G 14 0)), (1, .int x1)]) hx hb dX14_counting_5 rfl (va_re_or _ _) hl (by decide) rfl (fun ls hl => ?_)
  refine lv_aload_nV hx hb dX14_counting_6 rfl (va_re_or _ _) (lv_at hl 0 rfl) ?_
  rcases p1 with _ | i2
  · have hw := hw.1 rfl
    have hl : lv_has ls 3 [(2, .null), (0, .ref (ga G 14 0)), (1, .int x1)] := hl
    refine lv_ifnullN (tgt := 28) hx hb dX14_counting_7 (by decide) ?_
    refine lv_null hx hb dX14_counting_28 ?_
    exact rt_ep none C rfl hS hw dX14_counting_29
  obtain ⟨hq2, hw⟩ := hw.2 i2 rfl
  have hl : lv_has ls 3 [(2, .ref (ga G 16 i2)), (0, .ref (ga G 14 0)), (1, .int x1)] := hl
  refine lv_ifnull hx hb dX14_counting_7 ?_
  refine lv_aload_n hx hb dX14_counting_10 rfl (lv_at hl 1 rfl) ?_
  refine g14_10 C hH q1950 dX14_counting_11 ?_
  refine lv_aload_n hx hb dX14_counting_14 rfl (lv_at hl 0 rfl) ?_
  refine g16_4 C hH hq2 q1865 dX14_counting_15 ?_
  refine lv_isub hx hb dX14_counting_18 ?_
  refine lv_ldc (v := 60000) hx hb hown (hts _ q2272) dX14_counting_19 ?_
  refine lv_icmp_ge (tgt := 28) hx hb dX14_counting_21 (by decide) (fun h => ?_) (fun h => ?_)
  · have hw := hw.1 h
    refine lv_null hx hb dX14_counting_28 ?_
    exact rt_ep none C rfl hS hw dX14_counting_29
  have hw := hw.2 h
  refine lv_aload_n hx hb dX14_counting_24 rfl (lv_at hl 0 rfl) ?_
  refine lv_goto (tgt := 29) hx hb dX14_counting_25 (by decide) ?_
  exact rt_ep (some i2) C rfl hS hw dX14_counting_29
/-! WebHostModel.dataWithin(LWebHostModel$Connection;I)I -/
abbrev cX14_dataWithin : ByteArray := prog_17_method_49_code
def yX14_dataWithin : MethodName := ⟨RX14, "dataWithin", "(LWebHostModel$Connection;I)I"⟩
theorem dX14_dataWithin_0 : decode cX14_dataWithin 0 = .ok (.aload_n 0, 1) := by decide +kernel
theorem dX14_dataWithin_1 : decode cX14_dataWithin 1 = .ok (.invokevirtual 402, 3) := by decide +kernel
theorem dX14_dataWithin_4 : decode cX14_dataWithin 4 = .ok (.aload_n 0, 1) := by decide +kernel
theorem dX14_dataWithin_5 : decode cX14_dataWithin 5 = .ok (.getfield 345, 3) := by decide +kernel
theorem dX14_dataWithin_8 : decode cX14_dataWithin 8 = .ok (.isub, 1) := by decide +kernel
theorem dX14_dataWithin_9 : decode cX14_dataWithin 9 = .ok (.istore_n 2, 1) := by decide +kernel
theorem dX14_dataWithin_10 : decode cX14_dataWithin 10 = .ok (.iconst 0, 1) := by decide +kernel
theorem dX14_dataWithin_11 : decode cX14_dataWithin 11 = .ok (.aload_n 0, 1) := by decide +kernel
theorem dX14_dataWithin_12 : decode cX14_dataWithin 12 = .ok (.getfield 405, 3) := by decide +kernel
theorem dX14_dataWithin_15 : decode cX14_dataWithin 15 = .ok (.iload_n 2, 1) := by decide +kernel
theorem dX14_dataWithin_16 : decode cX14_dataWithin 16 = .ok (.invokestatic 411, 3) := by decide +kernel
theorem dX14_dataWithin_19 : decode cX14_dataWithin 19 = .ok (.iload_n 1, 1) := by decide +kernel
theorem dX14_dataWithin_20 : decode cX14_dataWithin 20 = .ok (.invokestatic 411, 3) := by decide +kernel
theorem dX14_dataWithin_23 : decode cX14_dataWithin 23 = .ok (.invokestatic 164, 3) := by decide +kernel
theorem dX14_dataWithin_26 : decode cX14_dataWithin 26 = .ok (.ireturn, 1) := by decide +kernel
def rmX14_dataWithin : Room := { frames := 1, cells := 0, slots := 0, locals := 23 }
theorem kX14_dataWithin : yX14_dataWithin.cls = "WebHostModel" ∧ yX14_dataWithin.cls ≠ "java/lang/invoke/MethodHandle" ∧ yX14_dataWithin.cls ≠ "java/lang/invoke/VarHandle" ∧ (parseMethodDescriptor yX14_dataWithin.desc).map (fun d => d.parameters.length) = some 2 := by decide +kernel
def w14_dataWithin (σ : St) (o0 : Nat) (x1 : Int32) (Q : Int32 → Prop) : Prop := w15_behind σ o0 (fun r1 => (Q (imax 0 (imin (imin (σ 15 o0 10) (r1 - (σ 15 o0 5))) x1))))
set_option maxHeartbeats 4000000 in
theorem m14_dataWithin (l : Launch) (G : Gh) (a1 : Nat → Nat → Nat) (τ : St) (σ : St) (H : Heap) (o0 : Nat) (x1 : Int32) (ho0 : o0 < 16) (Q : Int32 → Prop) (hw : w14_dataWithin σ o0 x1 Q) : Met l yX14_dataWithin (ws_ yX14_dataWithin cX14_dataWithin 3 (some .int)) rmX14_dataWithin (PcP G a1 (cmb τ σ) H [.ref (ga G 15 o0), .int x1]) (QIp G H Q) 0 0 (gA G) := by
  refine met_p (by decide) (Nat.le_of_ble_eq_true rfl) ?_
  intro p e s m below meth c ls hHe C hH hS hl
  have C : Cx p e s m _ meth c cX14_dataWithin 3 (some .int) "WebHostModel" G := C
  have hl : lv_has ls 3 [(0, .ref (ga G 15 o0)), (1, .int x1)] := hl
  have hx := C.1
  have hb := C.2.1
  have hown := C.2.2.2.2.2.1
  have hts := C.2.2.2.2.2.2.1
  obtain ⟨locs, hlocs⟩ : ∃ z : List Loc, z = [] := ⟨_, rfl⟩
  rw [← hlocs] at hS ⊢
  refine lv_aload_n hx hb dX14_dataWithin_0 rfl (lv_at hl 0 rfl) ?_
  refine kc_ip (rn_vp (As := []) (rest := []) C hH hS (by decide) rfl ho0 (m15_behind l G a1 τ σ H o0 ho0 _ hw) (cwV 0 hts (lw_V q2308 q2198 q2199 q172 q2200) rfl rfl rfl kX15_behind ⟨Nat.le_of_ble_eq_true rfl, Nat.le_of_ble_eq_true rfl⟩) rfl hl.1 rfl (Nat.le_of_ble_eq_true rfl) dX14_dataWithin_1 ⟨Nat.le_of_ble_eq_true rfl, Nat.le_of_ble_eq_true rfl⟩) hS (fun r1 locs hw hS => ?_)
  refine lv_aload_n hx hb dX14_dataWithin_4 rfl (lv_at hl 0 rfl) ?_
  refine g15_5 C hH ho0 q1712 dX14_dataWithin_5 ?_
  refine lv_isub hx hb dX14_dataWithin_8 ?_
  refine lv_istore_n (lv' := [(2, .int (r1 - (σ 15 o0 5))), (0, .ref (ga G 15 o0)), (1, .int x1)]) hx hb dX14_dataWithin_9 rfl hl (by decide) rfl (fun ls hl => ?_)
  refine lv_iconst (v := 0) hx hb dX14_dataWithin_10 (by decide) ?_
  refine lv_aload_n hx hb dX14_dataWithin_11 rfl (lv_at hl 1 rfl) ?_
  refine g15_10 C hH ho0 q1717 dX14_dataWithin_12 ?_
  refine lv_iload_n hx hb dX14_dataWithin_15 rfl (lv_at hl 0 rfl) ?_
  refine r_imin C hl.1 q2281 (Nat.le_of_ble_eq_true rfl) (Nat.le_of_ble_eq_true rfl) (Nat.zero_le _) (Nat.zero_le _) dX14_dataWithin_16 ?_
  refine lv_iload_n hx hb dX14_dataWithin_19 rfl (lv_at hl 2 rfl) ?_
  refine r_imin C hl.1 q2281 (Nat.le_of_ble_eq_true rfl) (Nat.le_of_ble_eq_true rfl) (Nat.zero_le _) (Nat.zero_le _) dX14_dataWithin_20 ?_
  refine r_imax C hl.1 q2226 (Nat.le_of_ble_eq_true rfl) (Nat.le_of_ble_eq_true rfl) (Nat.zero_le _) (Nat.zero_le _) dX14_dataWithin_23 ?_
  exact rt_ip C rfl hS hw dX14_dataWithin_26
/-! WebHostModel.extent()I -/
abbrev cX14_extent : ByteArray := prog_17_method_39_code
def yX14_extent : MethodName := ⟨RX14, "extent", "()I"⟩
theorem dX14_extent_0 : decode cX14_extent 0 = .ok (.aload_n 0, 1) := by decide +kernel
theorem dX14_extent_1 : decode cX14_extent 1 = .ok (.getfield 311, 3) := by decide +kernel
theorem dX14_extent_4 : decode cX14_extent 4 = .ok (.aload_n 0, 1) := by decide +kernel
theorem dX14_extent_5 : decode cX14_extent 5 = .ok (.iconst 2, 1) := by decide +kernel
theorem dX14_extent_6 : decode cX14_extent 6 = .ok (.invokevirtual 325, 3) := by decide +kernel
theorem dX14_extent_9 : decode cX14_extent 9 = .ok (.ifCond .eq 7, 3) := by decide +kernel
theorem dX14_extent_12 : decode cX14_extent 12 = .ok (.iconst 1, 1) := by decide +kernel
theorem dX14_extent_13 : decode cX14_extent 13 = .ok (.goto 4, 3) := by decide +kernel
theorem dX14_extent_16 : decode cX14_extent 16 = .ok (.iconst 0, 1) := by decide +kernel
theorem dX14_extent_17 : decode cX14_extent 17 = .ok (.iadd, 1) := by decide +kernel
theorem dX14_extent_18 : decode cX14_extent 18 = .ok (.aload_n 0, 1) := by decide +kernel
theorem dX14_extent_19 : decode cX14_extent 19 = .ok (.iconst 1, 1) := by decide +kernel
theorem dX14_extent_20 : decode cX14_extent 20 = .ok (.invokevirtual 325, 3) := by decide +kernel
theorem dX14_extent_23 : decode cX14_extent 23 = .ok (.ifCond .eq 7, 3) := by decide +kernel
theorem dX14_extent_26 : decode cX14_extent 26 = .ok (.iconst 1, 1) := by decide +kernel
theorem dX14_extent_27 : decode cX14_extent 27 = .ok (.goto 4, 3) := by decide +kernel
theorem dX14_extent_30 : decode cX14_extent 30 = .ok (.iconst 0, 1) := by decide +kernel
theorem dX14_extent_31 : decode cX14_extent 31 = .ok (.iadd, 1) := by decide +kernel
theorem dX14_extent_32 : decode cX14_extent 32 = .ok (.ireturn, 1) := by decide +kernel
def rmX14_extent : Room := { frames := 1, cells := 0, slots := 0, locals := 21 }
theorem kX14_extent : yX14_extent.cls = "WebHostModel" ∧ yX14_extent.cls ≠ "java/lang/invoke/MethodHandle" ∧ yX14_extent.cls ≠ "java/lang/invoke/VarHandle" ∧ (parseMethodDescriptor yX14_extent.desc).map (fun d => d.parameters.length) = some 0 := by decide +kernel
def w14_extent_J17 (σ : St) (xs0 : Int32) (xs1 : Int32) (Q : Int32 → Prop) : Prop := w14_is σ 1 (fun r2 => ((r2 = 0 → (Q ((xs1 + xs0) + 0))) ∧ (¬ r2 = 0 → (Q ((xs1 + xs0) + 1)))))
set_option maxHeartbeats 4000000 in
theorem k14_extent_J17 {p : Program} {l : Launch} {e : Env} {s : State} {m : MethodId} {args : Array Value} {below : List Frame} {meth : Method} {c : Code} {G : Gh} {a1 : Nat → Nat → Nat} {τ : St} {H : Heap} {Q : Int32 → Prop} (C : Cx p e s m args meth c cX14_extent 1 (some .int) "WebHostModel" G) (σ : St) (xs0 : Int32) (xs1 : Int32) (hH : Hd G a1 (cmb τ σ) H) (hw : w14_extent_J17 σ xs0 xs1 Q) (locs : List Loc) (ls : Array Slot) (hS : va_S (gA G) s.heap H locs) (hl : lv_has ls 1 [(0, .ref (ga G 14 0))]) : W p l e rmX14_extent s m args below meth c H locs 0 0 (MQ below (QIp G H Q) args s 0 0 (gA G)) (F0 m 17 ls [.int xs0, .int xs1]) := by
  have hx := C.1
  have hb := C.2.1
  have hown := C.2.2.2.2.2.1
  have hts := C.2.2.2.2.2.2.1
  refine lv_iadd hx hb dX14_extent_17 ?_
  refine lv_aload_n hx hb dX14_extent_18 rfl (lv_at hl 0 rfl) ?_
  refine lv_iconst (v := 1) hx hb dX14_extent_19 (by decide) ?_
  refine kc_ip (rn_vp (As := [.int 1]) (rest := [.int (xs1 + xs0)]) C hH hS (by decide) rfl (by decide) (m14_is l G a1 τ σ H 1 _ hw) (cwV 1 hts (lw_V q2373 q2375 qs116 q171 q2376) rfl rfl rfl kX14_is ⟨Nat.le_of_ble_eq_true rfl, Nat.le_of_ble_eq_true rfl⟩) rfl hl.1 rfl (Nat.le_of_ble_eq_true rfl) dX14_extent_20 ⟨Nat.le_of_ble_eq_true rfl, Nat.le_of_ble_eq_true rfl⟩) hS (fun r2 locs hw hS => ?_)
  refine lv_if_eq (tgt := 30) hx hb dX14_extent_23 (by decide) (fun h => ?_) (fun h => ?_)
  · have hw := hw.1 h
    refine lv_iconst (v := 0) hx hb dX14_extent_30 (by decide) ?_
    refine lv_iadd hx hb dX14_extent_31 ?_
    exact rt_ip C rfl hS hw dX14_extent_32
  have hw := hw.2 h
  refine lv_iconst (v := 1) hx hb dX14_extent_26 (by decide) ?_
  refine lv_goto (tgt := 31) hx hb dX14_extent_27 (by decide) ?_
  refine lv_iadd hx hb dX14_extent_31 ?_
  exact rt_ip C rfl hS hw dX14_extent_32
def w14_extent (σ : St) (Q : Int32 → Prop) : Prop := w14_is σ 2 (fun r1 => ((r1 = 0 → (w14_extent_J17 σ 0 (σ 14 0 39) Q)) ∧ (¬ r1 = 0 → (w14_extent_J17 σ 1 (σ 14 0 39) Q))))
set_option maxHeartbeats 4000000 in
theorem m14_extent (l : Launch) (G : Gh) (a1 : Nat → Nat → Nat) (τ : St) (σ : St) (H : Heap) (Q : Int32 → Prop) (hw : w14_extent σ Q) : Met l yX14_extent (ws_ yX14_extent cX14_extent 1 (some .int)) rmX14_extent (PcP G a1 (cmb τ σ) H [.ref (ga G 14 0)]) (QIp G H Q) 0 0 (gA G) := by
  refine met_p (by decide) (Nat.le_of_ble_eq_true rfl) ?_
  intro p e s m below meth c ls hHe C hH hS hl
  have C : Cx p e s m _ meth c cX14_extent 1 (some .int) "WebHostModel" G := C
  have hl : lv_has ls 1 [(0, .ref (ga G 14 0))] := hl
  have hx := C.1
  have hb := C.2.1
  have hown := C.2.2.2.2.2.1
  have hts := C.2.2.2.2.2.2.1
  obtain ⟨locs, hlocs⟩ : ∃ z : List Loc, z = [] := ⟨_, rfl⟩
  rw [← hlocs] at hS ⊢
  refine lv_aload_n hx hb dX14_extent_0 rfl (lv_at hl 0 rfl) ?_
  refine g14_39 C hH q1979 dX14_extent_1 ?_
  refine lv_aload_n hx hb dX14_extent_4 rfl (lv_at hl 0 rfl) ?_
  refine lv_iconst (v := 2) hx hb dX14_extent_5 (by decide) ?_
  refine kc_ip (rn_vp (As := [.int 2]) (rest := [.int (σ 14 0 39)]) C hH hS (by decide) rfl (by decide) (m14_is l G a1 τ σ H 2 _ hw) (cwV 1 hts (lw_V q2373 q2375 qs116 q171 q2376) rfl rfl rfl kX14_is ⟨Nat.le_of_ble_eq_true rfl, Nat.le_of_ble_eq_true rfl⟩) rfl hl.1 rfl (Nat.le_of_ble_eq_true rfl) dX14_extent_6 ⟨Nat.le_of_ble_eq_true rfl, Nat.le_of_ble_eq_true rfl⟩) hS (fun r1 locs hw hS => ?_)
  refine lv_if_eq (tgt := 16) hx hb dX14_extent_9 (by decide) (fun h => ?_) (fun h => ?_)
  · have hw := hw.1 h
    refine lv_iconst (v := 0) hx hb dX14_extent_16 (by decide) ?_
    exact k14_extent_J17 C σ 0 (σ 14 0 39) hH hw locs ls hS (lv_sub hl [0] rfl)
  have hw := hw.2 h
  refine lv_iconst (v := 1) hx hb dX14_extent_12 (by decide) ?_
  refine lv_goto (tgt := 17) hx hb dX14_extent_13 (by decide) ?_
  exact k14_extent_J17 C σ 1 (σ 14 0 39) hH hw locs ls hS (lv_sub hl [0] rfl)
/-! WebHostModel.feed(IIIII)I -/
abbrev cX14_feed : ByteArray := prog_17_method_3_code
def yX14_feed : MethodName := ⟨RX14, "feed", "(IIIII)I"⟩
theorem dX14_feed_0 : decode cX14_feed 0 = .ok (.aload_n 0, 1) := by decide +kernel
theorem dX14_feed_1 : decode cX14_feed 1 = .ok (.getfield 84, 3) := by decide +kernel
theorem dX14_feed_4 : decode cX14_feed 4 = .ok (.bipush 20, 2) := by decide +kernel
theorem dX14_feed_6 : decode cX14_feed 6 = .ok (.iadd, 1) := by decide +kernel
theorem dX14_feed_7 : decode cX14_feed 7 = .ok (.ldc 9, 2) := by decide +kernel
theorem dX14_feed_9 : decode cX14_feed 9 = .ok (.if_icmp .le 5, 3) := by decide +kernel
theorem dX14_feed_12 : decode cX14_feed 12 = .ok (.iconst (-1), 1) := by decide +kernel
theorem dX14_feed_13 : decode cX14_feed 13 = .ok (.ireturn, 1) := by decide +kernel
theorem dX14_feed_14 : decode cX14_feed 14 = .ok (.aload_n 0, 1) := by decide +kernel
theorem dX14_feed_15 : decode cX14_feed 15 = .ok (.iload_n 1, 1) := by decide +kernel
theorem dX14_feed_16 : decode cX14_feed 16 = .ok (.invokevirtual 88, 3) := by decide +kernel
theorem dX14_feed_19 : decode cX14_feed 19 = .ok (.aload_n 0, 1) := by decide +kernel
theorem dX14_feed_20 : decode cX14_feed 20 = .ok (.iload_n 2, 1) := by decide +kernel
theorem dX14_feed_21 : decode cX14_feed 21 = .ok (.invokevirtual 88, 3) := by decide +kernel
theorem dX14_feed_24 : decode cX14_feed 24 = .ok (.aload_n 0, 1) := by decide +kernel
theorem dX14_feed_25 : decode cX14_feed 25 = .ok (.iload_n 3, 1) := by decide +kernel
theorem dX14_feed_26 : decode cX14_feed 26 = .ok (.invokevirtual 88, 3) := by decide +kernel
theorem dX14_feed_29 : decode cX14_feed 29 = .ok (.aload_n 0, 1) := by decide +kernel
theorem dX14_feed_30 : decode cX14_feed 30 = .ok (.iload 4, 2) := by decide +kernel
theorem dX14_feed_32 : decode cX14_feed 32 = .ok (.invokevirtual 88, 3) := by decide +kernel
theorem dX14_feed_35 : decode cX14_feed 35 = .ok (.aload_n 0, 1) := by decide +kernel
theorem dX14_feed_36 : decode cX14_feed 36 = .ok (.iload 5, 2) := by decide +kernel
theorem dX14_feed_38 : decode cX14_feed 38 = .ok (.invokevirtual 88, 3) := by decide +kernel
theorem dX14_feed_41 : decode cX14_feed 41 = .ok (.aload_n 0, 1) := by decide +kernel
theorem dX14_feed_42 : decode cX14_feed 42 = .ok (.getfield 84, 3) := by decide +kernel
theorem dX14_feed_45 : decode cX14_feed 45 = .ok (.ireturn, 1) := by decide +kernel
def rmX14_feed : Room := { frames := 1, cells := 0, slots := 0, locals := 22 }
theorem kX14_feed : yX14_feed.cls = "WebHostModel" ∧ yX14_feed.cls ≠ "java/lang/invoke/MethodHandle" ∧ yX14_feed.cls ≠ "java/lang/invoke/VarHandle" ∧ (parseMethodDescriptor yX14_feed.desc).map (fun d => d.parameters.length) = some 5 := by decide +kernel
def w14_feed (σ : St) (x1 : Int32) (x2 : Int32) (x3 : Int32) (x4 : Int32) (x5 : Int32) (Q : Int32 → St → Prop) : Prop := (((σ 14 0 1) + 20) ≤ 65540 → (w14_word σ x1 (fun σ1 => (w14_word σ1 x2 (fun σ2 => (w14_word σ2 x3 (fun σ3 => (w14_word σ3 x4 (fun σ4 => (w14_word σ4 x5 (fun σ5 => (Q (σ5 14 0 1) σ5)))))))))))) ∧ (¬ ((σ 14 0 1) + 20) ≤ 65540 → (Q (-1) σ))
set_option maxHeartbeats 4000000 in
theorem m14_feed (l : Launch) (G : Gh) (a1 : Nat → Nat → Nat) (τ : St) (σ : St) (x1 : Int32) (x2 : Int32) (x3 : Int32) (x4 : Int32) (x5 : Int32) (Q : Int32 → St → Prop) (hw : w14_feed σ x1 x2 x3 x4 x5 Q) : Met l yX14_feed (ws_ yX14_feed cX14_feed 6 (some .int)) rmX14_feed (PcS G a1 (cmb τ σ) [.ref (ga G 14 0), .int x1, .int x2, .int x3, .int x4, .int x5]) (QIs G a1 (fun u => cmb τ u) Q) 0 0 (gA G) := by
  refine met_w (by decide) (Nat.le_of_ble_eq_true rfl) ?_
  intro p e s m below meth c ls C hH hS hl
  have C : Cx p e s m _ meth c cX14_feed 6 (some .int) "WebHostModel" G := C
  have hl : lv_has ls 6 [(0, .ref (ga G 14 0)), (1, .int x1), (2, .int x2), (3, .int x3), (4, .int x4), (5, .int x5)] := hl
  have hx := C.1
  have hb := C.2.1
  have hown := C.2.2.2.2.2.1
  have hts := C.2.2.2.2.2.2.1
  obtain ⟨locs, hlocs⟩ : ∃ z : List Loc, z = [] := ⟨_, rfl⟩
  obtain ⟨H, hHe⟩ : ∃ z : Heap, z = s.heap := ⟨_, rfl⟩
  have hH : Hd G a1 (cmb τ σ) H := by rw [hHe]; exact hH
  have hS : va_S (gA G) s.heap H locs := by rw [hHe, hlocs]; exact hS
  refine W.heap0 hHe.symm hlocs.symm ?_
  refine lv_aload_n hx hb dX14_feed_0 rfl (lv_at hl 0 rfl) ?_
  refine g14_1 C hH q1941 dX14_feed_1 ?_
  refine lv_bipush (v := 20) hx hb dX14_feed_4 (by decide) ?_
  refine lv_iadd hx hb dX14_feed_6 ?_
  refine lv_ldc (v := 65540) hx hb hown (hts _ q1691) dX14_feed_7 ?_
  refine lv_icmp_le (tgt := 14) hx hb dX14_feed_9 (by decide) (fun h => ?_) (fun h => ?_)
  · have hw := hw.1 h
    refine lv_aload_n hx hb dX14_feed_14 rfl (lv_at hl 0 rfl) ?_
    refine lv_iload_n hx hb dX14_feed_15 rfl (lv_at hl 1 rfl) ?_
    refine kc_v (rn_v (As := [.int x1]) (rest := []) C hH hS (by decide) rfl (by decide) (m14_word l G a1 τ σ x1 _ hw) (cwV 1 hts (lw_V q2134 q2136 qs75 q171 q2137) rfl rfl rfl kX14_word ⟨Nat.le_of_ble_eq_true rfl, Nat.le_of_ble_eq_true rfl⟩) rfl hl.1 rfl (Nat.le_of_ble_eq_true rfl) dX14_feed_16 ⟨Nat.le_of_ble_eq_true rfl, Nat.le_of_ble_eq_true rfl⟩) hS (fun σ1 H locs hw hH hS => ?_)
    refine lv_aload_n hx hb dX14_feed_19 rfl (lv_at hl 0 rfl) ?_
    refine lv_iload_n hx hb dX14_feed_20 rfl (lv_at hl 2 rfl) ?_
    refine kc_v (rn_v (As := [.int x2]) (rest := []) C hH hS (by decide) rfl (by decide) (m14_word l G a1 τ σ1 x2 _ hw) (cwV 1 hts (lw_V q2134 q2136 qs75 q171 q2137) rfl rfl rfl kX14_word ⟨Nat.le_of_ble_eq_true rfl, Nat.le_of_ble_eq_true rfl⟩) rfl hl.1 rfl (Nat.le_of_ble_eq_true rfl) dX14_feed_21 ⟨Nat.le_of_ble_eq_true rfl, Nat.le_of_ble_eq_true rfl⟩) hS (fun σ2 H locs hw hH hS => ?_)
    refine lv_aload_n hx hb dX14_feed_24 rfl (lv_at hl 0 rfl) ?_
    refine lv_iload_n hx hb dX14_feed_25 rfl (lv_at hl 3 rfl) ?_
    refine kc_v (rn_v (As := [.int x3]) (rest := []) C hH hS (by decide) rfl (by decide) (m14_word l G a1 τ σ2 x3 _ hw) (cwV 1 hts (lw_V q2134 q2136 qs75 q171 q2137) rfl rfl rfl kX14_word ⟨Nat.le_of_ble_eq_true rfl, Nat.le_of_ble_eq_true rfl⟩) rfl hl.1 rfl (Nat.le_of_ble_eq_true rfl) dX14_feed_26 ⟨Nat.le_of_ble_eq_true rfl, Nat.le_of_ble_eq_true rfl⟩) hS (fun σ3 H locs hw hH hS => ?_)
    refine lv_aload_n hx hb dX14_feed_29 rfl (lv_at hl 0 rfl) ?_
    refine lv_iload hx hb dX14_feed_30 (lv_at hl 4 rfl) ?_
    refine kc_v (rn_v (As := [.int x4]) (rest := []) C hH hS (by decide) rfl (by decide) (m14_word l G a1 τ σ3 x4 _ hw) (cwV 1 hts (lw_V q2134 q2136 qs75 q171 q2137) rfl rfl rfl kX14_word ⟨Nat.le_of_ble_eq_true rfl, Nat.le_of_ble_eq_true rfl⟩) rfl hl.1 rfl (Nat.le_of_ble_eq_true rfl) dX14_feed_32 ⟨Nat.le_of_ble_eq_true rfl, Nat.le_of_ble_eq_true rfl⟩) hS (fun σ4 H locs hw hH hS => ?_)
    refine lv_aload_n hx hb dX14_feed_35 rfl (lv_at hl 0 rfl) ?_
    refine lv_iload hx hb dX14_feed_36 (lv_at hl 5 rfl) ?_
    refine kc_v (rn_v (As := [.int x5]) (rest := []) C hH hS (by decide) rfl (by decide) (m14_word l G a1 τ σ4 x5 _ hw) (cwV 1 hts (lw_V q2134 q2136 qs75 q171 q2137) rfl rfl rfl kX14_word ⟨Nat.le_of_ble_eq_true rfl, Nat.le_of_ble_eq_true rfl⟩) rfl hl.1 rfl (Nat.le_of_ble_eq_true rfl) dX14_feed_38 ⟨Nat.le_of_ble_eq_true rfl, Nat.le_of_ble_eq_true rfl⟩) hS (fun σ5 H locs hw hH hS => ?_)
    refine lv_aload_n hx hb dX14_feed_41 rfl (lv_at hl 0 rfl) ?_
    refine g14_1 C hH q1941 dX14_feed_42 ?_
    exact rt_i C rfl hH hS hw dX14_feed_45
  have hw := hw.2 h
  refine lv_iconst (v := (-1)) hx hb dX14_feed_12 (by decide) ?_
  exact rt_i C rfl hH hS hw dX14_feed_13
/-! WebHostModel.files()I -/
abbrev cX14_files : ByteArray := prog_17_method_9_code
def yX14_files : MethodName := ⟨RX14, "files", "()I"⟩
theorem dX14_files_0 : decode cX14_files 0 = .ok (.aload_n 0, 1) := by decide +kernel
theorem dX14_files_1 : decode cX14_files 1 = .ok (.getfield 92, 3) := by decide +kernel
theorem dX14_files_4 : decode cX14_files 4 = .ok (.bipush 12, 2) := by decide +kernel
theorem dX14_files_6 : decode cX14_files 6 = .ok (.if_icmp .lt 67, 3) := by decide +kernel
theorem dX14_files_9 : decode cX14_files 9 = .ok (.aload_n 0, 1) := by decide +kernel
theorem dX14_files_10 : decode cX14_files 10 = .ok (.getfield 15, 3) := by decide +kernel
theorem dX14_files_13 : decode cX14_files 13 = .ok (.iconst 0, 1) := by decide +kernel
theorem dX14_files_14 : decode cX14_files 14 = .ok (.baload, 1) := by decide +kernel
theorem dX14_files_15 : decode cX14_files 15 = .ok (.bipush 83, 2) := by decide +kernel
theorem dX14_files_17 : decode cX14_files 17 = .ok (.if_icmp .ne 56, 3) := by decide +kernel
theorem dX14_files_20 : decode cX14_files 20 = .ok (.aload_n 0, 1) := by decide +kernel
theorem dX14_files_21 : decode cX14_files 21 = .ok (.getfield 15, 3) := by decide +kernel
theorem dX14_files_24 : decode cX14_files 24 = .ok (.iconst 1, 1) := by decide +kernel
theorem dX14_files_25 : decode cX14_files 25 = .ok (.baload, 1) := by decide +kernel
theorem dX14_files_26 : decode cX14_files 26 = .ok (.bipush 84, 2) := by decide +kernel
theorem dX14_files_28 : decode cX14_files 28 = .ok (.if_icmp .ne 45, 3) := by decide +kernel
theorem dX14_files_31 : decode cX14_files 31 = .ok (.aload_n 0, 1) := by decide +kernel
theorem dX14_files_32 : decode cX14_files 32 = .ok (.getfield 15, 3) := by decide +kernel
theorem dX14_files_35 : decode cX14_files 35 = .ok (.iconst 2, 1) := by decide +kernel
theorem dX14_files_36 : decode cX14_files 36 = .ok (.baload, 1) := by decide +kernel
theorem dX14_files_37 : decode cX14_files 37 = .ok (.bipush 79, 2) := by decide +kernel
theorem dX14_files_39 : decode cX14_files 39 = .ok (.if_icmp .ne 34, 3) := by decide +kernel
theorem dX14_files_42 : decode cX14_files 42 = .ok (.aload_n 0, 1) := by decide +kernel
theorem dX14_files_43 : decode cX14_files 43 = .ok (.getfield 15, 3) := by decide +kernel
theorem dX14_files_46 : decode cX14_files 46 = .ok (.iconst 3, 1) := by decide +kernel
theorem dX14_files_47 : decode cX14_files 47 = .ok (.baload, 1) := by decide +kernel
theorem dX14_files_48 : decode cX14_files 48 = .ok (.bipush 82, 2) := by decide +kernel
theorem dX14_files_50 : decode cX14_files 50 = .ok (.if_icmp .ne 23, 3) := by decide +kernel
theorem dX14_files_53 : decode cX14_files 53 = .ok (.aload_n 0, 1) := by decide +kernel
theorem dX14_files_54 : decode cX14_files 54 = .ok (.getfield 15, 3) := by decide +kernel
theorem dX14_files_57 : decode cX14_files 57 = .ok (.bipush 6, 2) := by decide +kernel
theorem dX14_files_59 : decode cX14_files 59 = .ok (.baload, 1) := by decide +kernel
theorem dX14_files_60 : decode cX14_files 60 = .ok (.ifCond .ne 13, 3) := by decide +kernel
theorem dX14_files_63 : decode cX14_files 63 = .ok (.aload_n 0, 1) := by decide +kernel
theorem dX14_files_64 : decode cX14_files 64 = .ok (.getfield 15, 3) := by decide +kernel
theorem dX14_files_67 : decode cX14_files 67 = .ok (.bipush 7, 2) := by decide +kernel
theorem dX14_files_69 : decode cX14_files 69 = .ok (.baload, 1) := by decide +kernel
theorem dX14_files_70 : decode cX14_files 70 = .ok (.ifCond .eq 5, 3) := by decide +kernel
theorem dX14_files_73 : decode cX14_files 73 = .ok (.iconst (-1), 1) := by decide +kernel
theorem dX14_files_74 : decode cX14_files 74 = .ok (.ireturn, 1) := by decide +kernel
theorem dX14_files_75 : decode cX14_files 75 = .ok (.aload_n 0, 1) := by decide +kernel
theorem dX14_files_76 : decode cX14_files 76 = .ok (.getfield 15, 3) := by decide +kernel
theorem dX14_files_79 : decode cX14_files 79 = .ok (.iconst 4, 1) := by decide +kernel
theorem dX14_files_80 : decode cX14_files 80 = .ok (.baload, 1) := by decide +kernel
theorem dX14_files_81 : decode cX14_files 81 = .ok (.sipush 255, 3) := by decide +kernel
theorem dX14_files_84 : decode cX14_files 84 = .ok (.iand, 1) := by decide +kernel
theorem dX14_files_85 : decode cX14_files 85 = .ok (.bipush 8, 2) := by decide +kernel
theorem dX14_files_87 : decode cX14_files 87 = .ok (.ishl, 1) := by decide +kernel
theorem dX14_files_88 : decode cX14_files 88 = .ok (.aload_n 0, 1) := by decide +kernel
theorem dX14_files_89 : decode cX14_files 89 = .ok (.getfield 15, 3) := by decide +kernel
theorem dX14_files_92 : decode cX14_files 92 = .ok (.iconst 5, 1) := by decide +kernel
theorem dX14_files_93 : decode cX14_files 93 = .ok (.baload, 1) := by decide +kernel
theorem dX14_files_94 : decode cX14_files 94 = .ok (.sipush 255, 3) := by decide +kernel
theorem dX14_files_97 : decode cX14_files 97 = .ok (.iand, 1) := by decide +kernel
theorem dX14_files_98 : decode cX14_files 98 = .ok (.ior, 1) := by decide +kernel
theorem dX14_files_99 : decode cX14_files 99 = .ok (.istore_n 1, 1) := by decide +kernel
theorem dX14_files_100 : decode cX14_files 100 = .ok (.iload_n 1, 1) := by decide +kernel
theorem dX14_files_101 : decode cX14_files 101 = .ok (.bipush 64, 2) := by decide +kernel
theorem dX14_files_103 : decode cX14_files 103 = .ok (.if_icmp .gt 44, 3) := by decide +kernel
theorem dX14_files_106 : decode cX14_files 106 = .ok (.aload_n 0, 1) := by decide +kernel
theorem dX14_files_107 : decode cX14_files 107 = .ok (.getfield 92, 3) := by decide +kernel
theorem dX14_files_110 : decode cX14_files 110 = .ok (.bipush 12, 2) := by decide +kernel
theorem dX14_files_112 : decode cX14_files 112 = .ok (.bipush 64, 2) := by decide +kernel
theorem dX14_files_114 : decode cX14_files 114 = .ok (.iload_n 1, 1) := by decide +kernel
theorem dX14_files_115 : decode cX14_files 115 = .ok (.imul, 1) := by decide +kernel
theorem dX14_files_116 : decode cX14_files 116 = .ok (.iadd, 1) := by decide +kernel
theorem dX14_files_117 : decode cX14_files 117 = .ok (.if_icmp .lt 30, 3) := by decide +kernel
theorem dX14_files_120 : decode cX14_files 120 = .ok (.aload_n 0, 1) := by decide +kernel
theorem dX14_files_121 : decode cX14_files 121 = .ok (.iconst 0, 1) := by decide +kernel
theorem dX14_files_122 : decode cX14_files 122 = .ok (.bipush 8, 2) := by decide +kernel
theorem dX14_files_124 : decode cX14_files 124 = .ok (.bipush 64, 2) := by decide +kernel
theorem dX14_files_126 : decode cX14_files 126 = .ok (.iload_n 1, 1) := by decide +kernel
theorem dX14_files_127 : decode cX14_files 127 = .ok (.imul, 1) := by decide +kernel
theorem dX14_files_128 : decode cX14_files 128 = .ok (.iadd, 1) := by decide +kernel
theorem dX14_files_129 : decode cX14_files 129 = .ok (.invokevirtual 100, 3) := by decide +kernel
theorem dX14_files_132 : decode cX14_files 132 = .ok (.aload_n 0, 1) := by decide +kernel
theorem dX14_files_133 : decode cX14_files 133 = .ok (.bipush 8, 2) := by decide +kernel
theorem dX14_files_135 : decode cX14_files 135 = .ok (.bipush 64, 2) := by decide +kernel
theorem dX14_files_137 : decode cX14_files 137 = .ok (.iload_n 1, 1) := by decide +kernel
theorem dX14_files_138 : decode cX14_files 138 = .ok (.imul, 1) := by decide +kernel
theorem dX14_files_139 : decode cX14_files 139 = .ok (.iadd, 1) := by decide +kernel
theorem dX14_files_140 : decode cX14_files 140 = .ok (.invokevirtual 104, 3) := by decide +kernel
theorem dX14_files_143 : decode cX14_files 143 = .ok (.l2i, 1) := by decide +kernel
theorem dX14_files_144 : decode cX14_files 144 = .ok (.if_icmp .eq 5, 3) := by decide +kernel
theorem dX14_files_147 : decode cX14_files 147 = .ok (.iconst (-1), 1) := by decide +kernel
theorem dX14_files_148 : decode cX14_files 148 = .ok (.ireturn, 1) := by decide +kernel
theorem dX14_files_149 : decode cX14_files 149 = .ok (.iconst 0, 1) := by decide +kernel
theorem dX14_files_150 : decode cX14_files 150 = .ok (.istore_n 2, 1) := by decide +kernel
theorem dX14_files_151 : decode cX14_files 151 = .ok (.iload_n 2, 1) := by decide +kernel
theorem dX14_files_152 : decode cX14_files 152 = .ok (.iload_n 1, 1) := by decide +kernel
theorem dX14_files_153 : decode cX14_files 153 = .ok (.if_icmp .ge 250, 3) := by decide +kernel
theorem dX14_files_156 : decode cX14_files 156 = .ok (.bipush 8, 2) := by decide +kernel
theorem dX14_files_158 : decode cX14_files 158 = .ok (.bipush 64, 2) := by decide +kernel
theorem dX14_files_160 : decode cX14_files 160 = .ok (.iload_n 2, 1) := by decide +kernel
theorem dX14_files_161 : decode cX14_files 161 = .ok (.imul, 1) := by decide +kernel
theorem dX14_files_162 : decode cX14_files 162 = .ok (.iadd, 1) := by decide +kernel
theorem dX14_files_163 : decode cX14_files 163 = .ok (.istore_n 3, 1) := by decide +kernel
theorem dX14_files_164 : decode cX14_files 164 = .ok (.iconst 0, 1) := by decide +kernel
theorem dX14_files_165 : decode cX14_files 165 = .ok (.istore 4, 2) := by decide +kernel
theorem dX14_files_167 : decode cX14_files 167 = .ok (.iload 4, 2) := by decide +kernel
theorem dX14_files_169 : decode cX14_files 169 = .ok (.bipush 48, 2) := by decide +kernel
theorem dX14_files_171 : decode cX14_files 171 = .ok (.if_icmp .ge 21, 3) := by decide +kernel
theorem dX14_files_174 : decode cX14_files 174 = .ok (.aload_n 0, 1) := by decide +kernel
theorem dX14_files_175 : decode cX14_files 175 = .ok (.getfield 15, 3) := by decide +kernel
theorem dX14_files_178 : decode cX14_files 178 = .ok (.iload_n 3, 1) := by decide +kernel
theorem dX14_files_179 : decode cX14_files 179 = .ok (.iload 4, 2) := by decide +kernel
theorem dX14_files_181 : decode cX14_files 181 = .ok (.iadd, 1) := by decide +kernel
theorem dX14_files_182 : decode cX14_files 182 = .ok (.baload, 1) := by decide +kernel
theorem dX14_files_183 : decode cX14_files 183 = .ok (.ifCond .eq 9, 3) := by decide +kernel
theorem dX14_files_186 : decode cX14_files 186 = .ok (.iinc 4 1, 3) := by decide +kernel
theorem dX14_files_189 : decode cX14_files 189 = .ok (.goto (-22), 3) := by decide +kernel
theorem dX14_files_192 : decode cX14_files 192 = .ok (.iload 4, 2) := by decide +kernel
theorem dX14_files_194 : decode cX14_files 194 = .ok (.ifCond .eq 21, 3) := by decide +kernel
theorem dX14_files_197 : decode cX14_files 197 = .ok (.iload 4, 2) := by decide +kernel
theorem dX14_files_199 : decode cX14_files 199 = .ok (.bipush 48, 2) := by decide +kernel
theorem dX14_files_201 : decode cX14_files 201 = .ok (.if_icmp .eq 14, 3) := by decide +kernel
theorem dX14_files_204 : decode cX14_files 204 = .ok (.aload_n 0, 1) := by decide +kernel
theorem dX14_files_205 : decode cX14_files 205 = .ok (.getfield 15, 3) := by decide +kernel
theorem dX14_files_208 : decode cX14_files 208 = .ok (.iload_n 3, 1) := by decide +kernel
theorem dX14_files_209 : decode cX14_files 209 = .ok (.baload, 1) := by decide +kernel
theorem dX14_files_210 : decode cX14_files 210 = .ok (.bipush 47, 2) := by decide +kernel
theorem dX14_files_212 : decode cX14_files 212 = .ok (.if_icmp .eq 5, 3) := by decide +kernel
theorem dX14_files_215 : decode cX14_files 215 = .ok (.iconst (-1), 1) := by decide +kernel
theorem dX14_files_216 : decode cX14_files 216 = .ok (.ireturn, 1) := by decide +kernel
theorem dX14_files_217 : decode cX14_files 217 = .ok (.iconst 0, 1) := by decide +kernel
theorem dX14_files_218 : decode cX14_files 218 = .ok (.istore 5, 2) := by decide +kernel
theorem dX14_files_220 : decode cX14_files 220 = .ok (.iload 5, 2) := by decide +kernel
theorem dX14_files_222 : decode cX14_files 222 = .ok (.bipush 48, 2) := by decide +kernel
theorem dX14_files_224 : decode cX14_files 224 = .ok (.if_icmp .ge 51, 3) := by decide +kernel
theorem dX14_files_227 : decode cX14_files 227 = .ok (.aload_n 0, 1) := by decide +kernel
theorem dX14_files_228 : decode cX14_files 228 = .ok (.getfield 15, 3) := by decide +kernel
theorem dX14_files_231 : decode cX14_files 231 = .ok (.iload_n 3, 1) := by decide +kernel
theorem dX14_files_232 : decode cX14_files 232 = .ok (.iload 5, 2) := by decide +kernel
theorem dX14_files_234 : decode cX14_files 234 = .ok (.iadd, 1) := by decide +kernel
theorem dX14_files_235 : decode cX14_files 235 = .ok (.baload, 1) := by decide +kernel
theorem dX14_files_236 : decode cX14_files 236 = .ok (.istore 6, 2) := by decide +kernel
theorem dX14_files_238 : decode cX14_files 238 = .ok (.iload 5, 2) := by decide +kernel
theorem dX14_files_240 : decode cX14_files 240 = .ok (.iload 4, 2) := by decide +kernel
theorem dX14_files_242 : decode cX14_files 242 = .ok (.if_icmp .ge 20, 3) := by decide +kernel
theorem dX14_files_245 : decode cX14_files 245 = .ok (.iload 6, 2) := by decide +kernel
theorem dX14_files_247 : decode cX14_files 247 = .ok (.bipush 33, 2) := by decide +kernel
theorem dX14_files_249 : decode cX14_files 249 = .ok (.if_icmp .lt 18, 3) := by decide +kernel
theorem dX14_files_252 : decode cX14_files 252 = .ok (.iload 6, 2) := by decide +kernel
theorem dX14_files_254 : decode cX14_files 254 = .ok (.bipush 126, 2) := by decide +kernel
theorem dX14_files_256 : decode cX14_files 256 = .ok (.if_icmp .le 13, 3) := by decide +kernel
theorem dX14_files_259 : decode cX14_files 259 = .ok (.goto 8, 3) := by decide +kernel
theorem dX14_files_262 : decode cX14_files 262 = .ok (.iload 6, 2) := by decide +kernel
theorem dX14_files_264 : decode cX14_files 264 = .ok (.ifCond .eq 5, 3) := by decide +kernel
theorem dX14_files_267 : decode cX14_files 267 = .ok (.iconst (-1), 1) := by decide +kernel
theorem dX14_files_268 : decode cX14_files 268 = .ok (.ireturn, 1) := by decide +kernel
theorem dX14_files_269 : decode cX14_files 269 = .ok (.iinc 5 1, 3) := by decide +kernel
theorem dX14_files_272 : decode cX14_files 272 = .ok (.goto (-52), 3) := by decide +kernel
theorem dX14_files_275 : decode cX14_files 275 = .ok (.aload_n 0, 1) := by decide +kernel
theorem dX14_files_276 : decode cX14_files 276 = .ok (.iload_n 3, 1) := by decide +kernel
theorem dX14_files_277 : decode cX14_files 277 = .ok (.bipush 48, 2) := by decide +kernel
theorem dX14_files_279 : decode cX14_files 279 = .ok (.iadd, 1) := by decide +kernel
theorem dX14_files_280 : decode cX14_files 280 = .ok (.invokevirtual 104, 3) := by decide +kernel
theorem dX14_files_283 : decode cX14_files 283 = .ok (.aload_n 0, 1) := by decide +kernel
theorem dX14_files_284 : decode cX14_files 284 = .ok (.iload_n 3, 1) := by decide +kernel
theorem dX14_files_285 : decode cX14_files 285 = .ok (.bipush 52, 2) := by decide +kernel
theorem dX14_files_287 : decode cX14_files 287 = .ok (.iadd, 1) := by decide +kernel
theorem dX14_files_288 : decode cX14_files 288 = .ok (.invokevirtual 104, 3) := by decide +kernel
theorem dX14_files_291 : decode cX14_files 291 = .ok (.ladd, 1) := by decide +kernel
theorem dX14_files_292 : decode cX14_files 292 = .ok (.aload_n 0, 1) := by decide +kernel
theorem dX14_files_293 : decode cX14_files 293 = .ok (.getfield 92, 3) := by decide +kernel
theorem dX14_files_296 : decode cX14_files 296 = .ok (.i2l, 1) := by decide +kernel
theorem dX14_files_297 : decode cX14_files 297 = .ok (.lcmp, 1) := by decide +kernel
theorem dX14_files_298 : decode cX14_files 298 = .ok (.ifCond .gt 16, 3) := by decide +kernel
theorem dX14_files_301 : decode cX14_files 301 = .ok (.aload_n 0, 1) := by decide +kernel
theorem dX14_files_302 : decode cX14_files 302 = .ok (.iload_n 3, 1) := by decide +kernel
theorem dX14_files_303 : decode cX14_files 303 = .ok (.bipush 60, 2) := by decide +kernel
theorem dX14_files_305 : decode cX14_files 305 = .ok (.iadd, 1) := by decide +kernel
theorem dX14_files_306 : decode cX14_files 306 = .ok (.invokevirtual 104, 3) := by decide +kernel
theorem dX14_files_309 : decode cX14_files 309 = .ok (.lconst 0, 1) := by decide +kernel
theorem dX14_files_310 : decode cX14_files 310 = .ok (.lcmp, 1) := by decide +kernel
theorem dX14_files_311 : decode cX14_files 311 = .ok (.ifCond .eq 5, 3) := by decide +kernel
theorem dX14_files_314 : decode cX14_files 314 = .ok (.iconst (-1), 1) := by decide +kernel
theorem dX14_files_315 : decode cX14_files 315 = .ok (.ireturn, 1) := by decide +kernel
theorem dX14_files_316 : decode cX14_files 316 = .ok (.iconst 0, 1) := by decide +kernel
theorem dX14_files_317 : decode cX14_files 317 = .ok (.istore 5, 2) := by decide +kernel
theorem dX14_files_319 : decode cX14_files 319 = .ok (.iload 5, 2) := by decide +kernel
theorem dX14_files_321 : decode cX14_files 321 = .ok (.iload_n 2, 1) := by decide +kernel
theorem dX14_files_322 : decode cX14_files 322 = .ok (.if_icmp .ge 75, 3) := by decide +kernel
theorem dX14_files_325 : decode cX14_files 325 = .ok (.iconst 1, 1) := by decide +kernel
theorem dX14_files_326 : decode cX14_files 326 = .ok (.istore 6, 2) := by decide +kernel
theorem dX14_files_328 : decode cX14_files 328 = .ok (.iconst 0, 1) := by decide +kernel
theorem dX14_files_329 : decode cX14_files 329 = .ok (.istore 7, 2) := by decide +kernel
theorem dX14_files_331 : decode cX14_files 331 = .ok (.iload 7, 2) := by decide +kernel
theorem dX14_files_333 : decode cX14_files 333 = .ok (.bipush 48, 2) := by decide +kernel
theorem dX14_files_335 : decode cX14_files 335 = .ok (.if_icmp .ge 49, 3) := by decide +kernel
theorem dX14_files_338 : decode cX14_files 338 = .ok (.iload 6, 2) := by decide +kernel
theorem dX14_files_340 : decode cX14_files 340 = .ok (.ifCond .eq 35, 3) := by decide +kernel
theorem dX14_files_343 : decode cX14_files 343 = .ok (.aload_n 0, 1) := by decide +kernel
theorem dX14_files_344 : decode cX14_files 344 = .ok (.getfield 15, 3) := by decide +kernel
theorem dX14_files_347 : decode cX14_files 347 = .ok (.iload_n 3, 1) := by decide +kernel
theorem dX14_files_348 : decode cX14_files 348 = .ok (.iload 7, 2) := by decide +kernel
theorem dX14_files_350 : decode cX14_files 350 = .ok (.iadd, 1) := by decide +kernel
theorem dX14_files_351 : decode cX14_files 351 = .ok (.baload, 1) := by decide +kernel
theorem dX14_files_352 : decode cX14_files 352 = .ok (.aload_n 0, 1) := by decide +kernel
theorem dX14_files_353 : decode cX14_files 353 = .ok (.getfield 15, 3) := by decide +kernel
theorem dX14_files_356 : decode cX14_files 356 = .ok (.bipush 8, 2) := by decide +kernel
theorem dX14_files_358 : decode cX14_files 358 = .ok (.bipush 64, 2) := by decide +kernel
theorem dX14_files_360 : decode cX14_files 360 = .ok (.iload 5, 2) := by decide +kernel
theorem dX14_files_362 : decode cX14_files 362 = .ok (.imul, 1) := by decide +kernel
theorem dX14_files_363 : decode cX14_files 363 = .ok (.iadd, 1) := by decide +kernel
theorem dX14_files_364 : decode cX14_files 364 = .ok (.iload 7, 2) := by decide +kernel
theorem dX14_files_366 : decode cX14_files 366 = .ok (.iadd, 1) := by decide +kernel
theorem dX14_files_367 : decode cX14_files 367 = .ok (.baload, 1) := by decide +kernel
theorem dX14_files_368 : decode cX14_files 368 = .ok (.if_icmp .ne 7, 3) := by decide +kernel
theorem dX14_files_371 : decode cX14_files 371 = .ok (.iconst 1, 1) := by decide +kernel
theorem dX14_files_372 : decode cX14_files 372 = .ok (.goto 4, 3) := by decide +kernel
theorem dX14_files_375 : decode cX14_files 375 = .ok (.iconst 0, 1) := by decide +kernel
theorem dX14_files_376 : decode cX14_files 376 = .ok (.istore 6, 2) := by decide +kernel
theorem dX14_files_378 : decode cX14_files 378 = .ok (.iinc 7 1, 3) := by decide +kernel
theorem dX14_files_381 : decode cX14_files 381 = .ok (.goto (-50), 3) := by decide +kernel
theorem dX14_files_384 : decode cX14_files 384 = .ok (.iload 6, 2) := by decide +kernel
theorem dX14_files_386 : decode cX14_files 386 = .ok (.ifCond .eq 5, 3) := by decide +kernel
theorem dX14_files_389 : decode cX14_files 389 = .ok (.iconst (-1), 1) := by decide +kernel
theorem dX14_files_390 : decode cX14_files 390 = .ok (.ireturn, 1) := by decide +kernel
theorem dX14_files_391 : decode cX14_files 391 = .ok (.iinc 5 1, 3) := by decide +kernel
theorem dX14_files_394 : decode cX14_files 394 = .ok (.goto (-75), 3) := by decide +kernel
theorem dX14_files_397 : decode cX14_files 397 = .ok (.iinc 2 1, 3) := by decide +kernel
theorem dX14_files_400 : decode cX14_files 400 = .ok (.goto (-249), 3) := by decide +kernel
theorem dX14_files_403 : decode cX14_files 403 = .ok (.iload_n 1, 1) := by decide +kernel
theorem dX14_files_404 : decode cX14_files 404 = .ok (.ireturn, 1) := by decide +kernel
def rmX14_files : Room := { frames := 1, cells := 0, slots := 0, locals := 25 }
theorem kX14_files : yX14_files.cls = "WebHostModel" ∧ yX14_files.cls ≠ "java/lang/invoke/MethodHandle" ∧ yX14_files.cls ≠ "java/lang/invoke/VarHandle" ∧ (parseMethodDescriptor yX14_files.desc).map (fun d => d.parameters.length) = some 0 := by decide +kernel
def w14_files_L167 (σ : St) (x1 : Int32) (x2 : Int32) (x3 : Int32) (Q : Int32 → Prop) (K192 : Int32 → Prop) : Nat → Int32 → Prop
  | 0, _ => False
  | n + 1, x4 => (48 ≤ x4 → K192 x4) ∧ (¬ 48 ≤ x4 → (vp_in (x3 + x4) 65535 ∧ (by8 (σ 51 0 (x3 + x4).toNatClampNeg) → (((σ 51 0 (x3 + x4).toNatClampNeg) = 0 → K192 x4) ∧ (¬ (σ 51 0 (x3 + x4).toNatClampNeg) = 0 → (w14_files_L167 σ x1 x2 x3 Q K192 n (x4 + 1)))))))
set_option maxHeartbeats 4000000 in
theorem k14_files_L167 {p : Program} {l : Launch} {e : Env} {s : State} {m : MethodId} {args : Array Value} {below : List Frame} {meth : Method} {c : Code} {G : Gh} {a1 : Nat → Nat → Nat} {τ : St} {H : Heap} {Q : Int32 → Prop} {K192 : Int32 → Prop} (C : Cx p e s m args meth c cX14_files 8 (some .int) "WebHostModel" G) (σ : St) (x1 : Int32) (x2 : Int32) (x3 : Int32) (hH : Hd G a1 (cmb τ σ) H) :
    ∀ (n : Nat) (x4 : Int32), w14_files_L167 σ x1 x2 x3 Q K192 n x4 → ∀ (locs : List Loc) (ls : Array Slot), va_S (gA G) s.heap H locs → lv_has ls 8 [(0, .ref (ga G 14 0)), (1, .int x1), (2, .int x2), (3, .int x3), (4, .int x4)] → (∀ (x4 : Int32), K192 x4 → ∀ (locs : List Loc) (ls : Array Slot), va_S (gA G) s.heap H locs → lv_has ls 8 [(0, .ref (ga G 14 0)), (1, .int x1), (2, .int x2), (3, .int x3), (4, .int x4)] → W p l e rmX14_files s m args below meth c H locs 0 0 (MQ below (QIp G H Q) args s 0 0 (gA G)) (F0 m 192 ls [])) → W p l e rmX14_files s m args below meth c H locs 0 0 (MQ below (QIp G H Q) args s 0 0 (gA G)) (F0 m 167 ls []) := by
  have hx := C.1
  have hb := C.2.1
  have hown := C.2.2.2.2.2.1
  have hts := C.2.2.2.2.2.2.1
  intro n
  induction n with
  | zero =>
    intro x4 hw
    exact False.elim hw
  | succ n ih =>
    intro x4 hw locs ls hS hl hK192
    refine lv_iload hx hb dX14_files_167 (lv_at hl 4 rfl) ?_
    refine lv_bipush (v := 48) hx hb dX14_files_169 (by decide) ?_
    refine lv_icmp_ge (tgt := 192) hx hb dX14_files_171 (by decide) (fun h => ?_) (fun h => ?_)
    · have hw := hw.1 h
      exact hK192 x4 hw locs ls hS (lv_sub hl [0, 1, 2, 3, 4] rfl)
    have hw := hw.2 h
    refine lv_aload_n hx hb dX14_files_174 rfl (lv_at hl 0 rfl) ?_
    refine g14_2 C hH q1942 dX14_files_175 ?_
    refine lv_iload_n hx hb dX14_files_178 rfl (lv_at hl 3 rfl) ?_
    refine lv_iload hx hb dX14_files_179 (lv_at hl 4 rfl) ?_
    refine lv_iadd hx hb dX14_files_181 ?_
    refine l51 C hH hw.1 dX14_files_182 (fun hz => ?_)
    have hw := hw.2 hz
    refine lv_if_eq (tgt := 192) hx hb dX14_files_183 (by decide) (fun h => ?_) (fun h => ?_)
    · have hw := hw.1 h
      exact hK192 x4 hw locs ls hS (lv_sub hl [0, 1, 2, 3, 4] rfl)
    have hw := hw.2 h
    refine lv_iinc (v := x4 + 1) (lv' := [(4, .int (x4 + 1)), (0, .ref (ga G 14 0)), (1, .int x1), (2, .int x2), (3, .int x3)]) hx hb dX14_files_186 hl (k := 4) rfl rfl (by decide) rfl (fun ls hl => ?_)
    refine lv_goto (tgt := 167) hx hb dX14_files_189 (by decide) ?_
    exact ih (x4 + 1) hw locs ls hS (lv_sub hl [1, 2, 3, 4, 0] rfl) hK192
def w14_files_L220 (σ : St) (x1 : Int32) (x2 : Int32) (x3 : Int32) (x4 : Int32) (Q : Int32 → Prop) (K259 : Prop) (K267 : Prop) (K275 : Prop) : Nat → Int32 → Prop
  | 0, _ => False
  | n + 1, x5 => (48 ≤ x5 → K275) ∧ (¬ 48 ≤ x5 → (vp_in (x3 + x5) 65535 ∧ (by8 (σ 51 0 (x3 + x5).toNatClampNeg) → ((x4 ≤ x5 → (((σ 51 0 (x3 + x5).toNatClampNeg) = 0 → (w14_files_L220 σ x1 x2 x3 x4 Q K259 K267 K275 n (x5 + 1))) ∧ (¬ (σ 51 0 (x3 + x5).toNatClampNeg) = 0 → K267))) ∧ (¬ x4 ≤ x5 → (((σ 51 0 (x3 + x5).toNatClampNeg) < 33 → K267) ∧ (¬ (σ 51 0 (x3 + x5).toNatClampNeg) < 33 → (((σ 51 0 (x3 + x5).toNatClampNeg) ≤ 126 → (w14_files_L220 σ x1 x2 x3 x4 Q K259 K267 K275 n (x5 + 1))) ∧ (¬ (σ 51 0 (x3 + x5).toNatClampNeg) ≤ 126 → K259)))))))))
set_option maxHeartbeats 4000000 in
theorem k14_files_L220 {p : Program} {l : Launch} {e : Env} {s : State} {m : MethodId} {args : Array Value} {below : List Frame} {meth : Method} {c : Code} {G : Gh} {a1 : Nat → Nat → Nat} {τ : St} {H : Heap} {Q : Int32 → Prop} {K259 : Prop} {K267 : Prop} {K275 : Prop} (C : Cx p e s m args meth c cX14_files 8 (some .int) "WebHostModel" G) (σ : St) (x1 : Int32) (x2 : Int32) (x3 : Int32) (x4 : Int32) (hH : Hd G a1 (cmb τ σ) H) :
    ∀ (n : Nat) (x5 : Int32), w14_files_L220 σ x1 x2 x3 x4 Q K259 K267 K275 n x5 → ∀ (locs : List Loc) (ls : Array Slot), va_S (gA G) s.heap H locs → lv_has ls 8 [(0, .ref (ga G 14 0)), (1, .int x1), (2, .int x2), (3, .int x3), (4, .int x4), (5, .int x5)] → (K259 → ∀ (locs : List Loc) (ls : Array Slot), va_S (gA G) s.heap H locs → lv_has ls 8 [] → W p l e rmX14_files s m args below meth c H locs 0 0 (MQ below (QIp G H Q) args s 0 0 (gA G)) (F0 m 259 ls [])) → (K267 → ∀ (locs : List Loc) (ls : Array Slot), va_S (gA G) s.heap H locs → lv_has ls 8 [] → W p l e rmX14_files s m args below meth c H locs 0 0 (MQ below (QIp G H Q) args s 0 0 (gA G)) (F0 m 267 ls [])) → (K275 → ∀ (locs : List Loc) (ls : Array Slot), va_S (gA G) s.heap H locs → lv_has ls 8 [(0, .ref (ga G 14 0)), (1, .int x1), (2, .int x2), (3, .int x3)] → W p l e rmX14_files s m args below meth c H locs 0 0 (MQ below (QIp G H Q) args s 0 0 (gA G)) (F0 m 275 ls [])) → W p l e rmX14_files s m args below meth c H locs 0 0 (MQ below (QIp G H Q) args s 0 0 (gA G)) (F0 m 220 ls []) := by
  have hx := C.1
  have hb := C.2.1
  have hown := C.2.2.2.2.2.1
  have hts := C.2.2.2.2.2.2.1
  intro n
  induction n with
  | zero =>
    intro x5 hw
    exact False.elim hw
  | succ n ih =>
    intro x5 hw locs ls hS hl hK259 hK267 hK275
    refine lv_iload hx hb dX14_files_220 (lv_at hl 5 rfl) ?_
    refine lv_bipush (v := 48) hx hb dX14_files_222 (by decide) ?_
    refine lv_icmp_ge (tgt := 275) hx hb dX14_files_224 (by decide) (fun h => ?_) (fun h => ?_)
    · have hw := hw.1 h
      exact hK275 hw locs ls hS (lv_sub hl [0, 1, 2, 3] rfl)
    have hw := hw.2 h
    refine lv_aload_n hx hb dX14_files_227 rfl (lv_at hl 0 rfl) ?_
    refine g14_2 C hH q1942 dX14_files_228 ?_
    refine lv_iload_n hx hb dX14_files_231 rfl (lv_at hl 3 rfl) ?_
    refine lv_iload hx hb dX14_files_232 (lv_at hl 5 rfl) ?_
    refine lv_iadd hx hb dX14_files_234 ?_
    refine l51 C hH hw.1 dX14_files_235 (fun hz => ?_)
    have hw := hw.2 hz
    refine lv_istore (lv' := [(6, .int (σ 51 0 (x3 + x5).toNatClampNeg)), (0, .ref (ga G 14 0)), (1, .int x1), (2, .int x2), (3, .int x3), (4, .int x4), (5, .int x5)]) hx hb dX14_files_236 hl (by decide) rfl (fun ls hl => ?_)
    refine lv_iload hx hb dX14_files_238 (lv_at hl 6 rfl) ?_
    refine lv_iload hx hb dX14_files_240 (lv_at hl 5 rfl) ?_
    refine lv_icmp_ge (tgt := 262) hx hb dX14_files_242 (by decide) (fun h => ?_) (fun h => ?_)
    · have hw := hw.1 h
      refine lv_iload hx hb dX14_files_262 (lv_at hl 0 rfl) ?_
      refine lv_if_eq (tgt := 269) hx hb dX14_files_264 (by decide) (fun h => ?_) (fun h => ?_)
      · have hw := hw.1 h
        refine lv_iinc (v := x5 + 1) (lv' := [(5, .int (x5 + 1)), (6, .int (σ 51 0 (x3 + x5).toNatClampNeg)), (0, .ref (ga G 14 0)), (1, .int x1), (2, .int x2), (3, .int x3), (4, .int x4)]) hx hb dX14_files_269 hl (k := 6) rfl rfl (by decide) rfl (fun ls hl => ?_)
        refine lv_goto (tgt := 220) hx hb dX14_files_272 (by decide) ?_
        exact ih (x5 + 1) hw locs ls hS (lv_sub hl [2, 3, 4, 5, 6, 0] rfl) hK259 hK267 hK275
      have hw := hw.2 h
      exact hK267 hw locs ls hS (lv_sub hl [] rfl)
    have hw := hw.2 h
    refine lv_iload hx hb dX14_files_245 (lv_at hl 0 rfl) ?_
    refine lv_bipush (v := 33) hx hb dX14_files_247 (by decide) ?_
    refine lv_icmp_lt (tgt := 267) hx hb dX14_files_249 (by decide) (fun h => ?_) (fun h => ?_)
    · have hw := hw.1 h
      exact hK267 hw locs ls hS (lv_sub hl [] rfl)
    have hw := hw.2 h
    refine lv_iload hx hb dX14_files_252 (lv_at hl 0 rfl) ?_
    refine lv_bipush (v := 126) hx hb dX14_files_254 (by decide) ?_
    refine lv_icmp_le (tgt := 269) hx hb dX14_files_256 (by decide) (fun h => ?_) (fun h => ?_)
    · have hw := hw.1 h
      refine lv_iinc (v := x5 + 1) (lv' := [(5, .int (x5 + 1)), (6, .int (σ 51 0 (x3 + x5).toNatClampNeg)), (0, .ref (ga G 14 0)), (1, .int x1), (2, .int x2), (3, .int x3), (4, .int x4)]) hx hb dX14_files_269 hl (k := 6) rfl rfl (by decide) rfl (fun ls hl => ?_)
      refine lv_goto (tgt := 220) hx hb dX14_files_272 (by decide) ?_
      exact ih (x5 + 1) hw locs ls hS (lv_sub hl [2, 3, 4, 5, 6, 0] rfl) hK259 hK267 hK275
    have hw := hw.2 h
    exact hK259 hw locs ls hS (lv_sub hl [] rfl)
def w14_files_L331 (σ : St) (x1 : Int32) (x2 : Int32) (x3 : Int32) (x5 : Int32) (Q : Int32 → Prop) (K384 : Int32 → Prop) : Nat → Int32 → Int32 → Prop
  | 0, _, _ => False
  | n + 1, x6, x7 => (48 ≤ x7 → K384 x6) ∧ (¬ 48 ≤ x7 → ((x6 = 0 → (w14_files_L331 σ x1 x2 x3 x5 Q K384 n 0 (x7 + 1))) ∧ (¬ x6 = 0 → (vp_in (x3 + x7) 65535 ∧ (by8 (σ 51 0 (x3 + x7).toNatClampNeg) → (vp_in ((8 + (64 * x5)) + x7) 65535 ∧ (by8 (σ 51 0 ((8 + (64 * x5)) + x7).toNatClampNeg) → ((¬ (σ 51 0 (x3 + x7).toNatClampNeg) = (σ 51 0 ((8 + (64 * x5)) + x7).toNatClampNeg) → (w14_files_L331 σ x1 x2 x3 x5 Q K384 n 0 (x7 + 1))) ∧ ((σ 51 0 (x3 + x7).toNatClampNeg) = (σ 51 0 ((8 + (64 * x5)) + x7).toNatClampNeg) → (w14_files_L331 σ x1 x2 x3 x5 Q K384 n 1 (x7 + 1)))))))))))
set_option maxHeartbeats 4000000 in
theorem k14_files_L331 {p : Program} {l : Launch} {e : Env} {s : State} {m : MethodId} {args : Array Value} {below : List Frame} {meth : Method} {c : Code} {G : Gh} {a1 : Nat → Nat → Nat} {τ : St} {H : Heap} {Q : Int32 → Prop} {K384 : Int32 → Prop} (C : Cx p e s m args meth c cX14_files 8 (some .int) "WebHostModel" G) (σ : St) (x1 : Int32) (x2 : Int32) (x3 : Int32) (x5 : Int32) (hH : Hd G a1 (cmb τ σ) H) :
    ∀ (n : Nat) (x6 : Int32) (x7 : Int32), w14_files_L331 σ x1 x2 x3 x5 Q K384 n x6 x7 → ∀ (locs : List Loc) (ls : Array Slot), va_S (gA G) s.heap H locs → lv_has ls 8 [(0, .ref (ga G 14 0)), (1, .int x1), (2, .int x2), (3, .int x3), (5, .int x5), (6, .int x6), (7, .int x7)] → (∀ (x6 : Int32), K384 x6 → ∀ (locs : List Loc) (ls : Array Slot), va_S (gA G) s.heap H locs → lv_has ls 8 [(0, .ref (ga G 14 0)), (1, .int x1), (2, .int x2), (3, .int x3), (5, .int x5), (6, .int x6)] → W p l e rmX14_files s m args below meth c H locs 0 0 (MQ below (QIp G H Q) args s 0 0 (gA G)) (F0 m 384 ls [])) → W p l e rmX14_files s m args below meth c H locs 0 0 (MQ below (QIp G H Q) args s 0 0 (gA G)) (F0 m 331 ls []) := by
  have hx := C.1
  have hb := C.2.1
  have hown := C.2.2.2.2.2.1
  have hts := C.2.2.2.2.2.2.1
  intro n
  induction n with
  | zero =>
    intro x6 x7 hw
    exact False.elim hw
  | succ n ih =>
    intro x6 x7 hw locs ls hS hl hK384
    refine lv_iload hx hb dX14_files_331 (lv_at hl 6 rfl) ?_
    refine lv_bipush (v := 48) hx hb dX14_files_333 (by decide) ?_
    refine lv_icmp_ge (tgt := 384) hx hb dX14_files_335 (by decide) (fun h => ?_) (fun h => ?_)
    · have hw := hw.1 h
      exact hK384 x6 hw locs ls hS (lv_sub hl [0, 1, 2, 3, 4, 5] rfl)
    have hw := hw.2 h
    refine lv_iload hx hb dX14_files_338 (lv_at hl 5 rfl) ?_
    refine lv_if_eq (tgt := 375) hx hb dX14_files_340 (by decide) (fun h => ?_) (fun h => ?_)
    · have hw := hw.1 h
      refine lv_iconst (v := 0) hx hb dX14_files_375 (by decide) ?_
      refine lv_istore (lv' := [(6, .int 0), (0, .ref (ga G 14 0)), (1, .int x1), (2, .int x2), (3, .int x3), (5, .int x5), (7, .int x7)]) hx hb dX14_files_376 hl (by decide) rfl (fun ls hl => ?_)
      refine lv_iinc (v := x7 + 1) (lv' := [(7, .int (x7 + 1)), (6, .int 0), (0, .ref (ga G 14 0)), (1, .int x1), (2, .int x2), (3, .int x3), (5, .int x5)]) hx hb dX14_files_378 hl (k := 6) rfl rfl (by decide) rfl (fun ls hl => ?_)
      refine lv_goto (tgt := 331) hx hb dX14_files_381 (by decide) ?_
      exact ih 0 (x7 + 1) hw locs ls hS (lv_sub hl [2, 3, 4, 5, 6, 1, 0] rfl) hK384
    have hw := hw.2 h
    refine lv_aload_n hx hb dX14_files_343 rfl (lv_at hl 0 rfl) ?_
    refine g14_2 C hH q1942 dX14_files_344 ?_
    refine lv_iload_n hx hb dX14_files_347 rfl (lv_at hl 3 rfl) ?_
    refine lv_iload hx hb dX14_files_348 (lv_at hl 6 rfl) ?_
    refine lv_iadd hx hb dX14_files_350 ?_
    refine l51 C hH hw.1 dX14_files_351 (fun hz => ?_)
    have hw := hw.2 hz
    refine lv_aload_n hx hb dX14_files_352 rfl (lv_at hl 0 rfl) ?_
    refine g14_2 C hH q1942 dX14_files_353 ?_
    refine lv_bipush (v := 8) hx hb dX14_files_356 (by decide) ?_
    refine lv_bipush (v := 64) hx hb dX14_files_358 (by decide) ?_
    refine lv_iload hx hb dX14_files_360 (lv_at hl 4 rfl) ?_
    refine lv_imul hx hb dX14_files_362 ?_
    refine lv_iadd hx hb dX14_files_363 ?_
    refine lv_iload hx hb dX14_files_364 (lv_at hl 6 rfl) ?_
    refine lv_iadd hx hb dX14_files_366 ?_
    refine l51 C hH hw.1 dX14_files_367 (fun hz => ?_)
    have hw := hw.2 hz
    refine lv_icmp_ne (tgt := 375) hx hb dX14_files_368 (by decide) (fun h => ?_) (fun h => ?_)
    · have hw := hw.1 h
      refine lv_iconst (v := 0) hx hb dX14_files_375 (by decide) ?_
      refine lv_istore (lv' := [(6, .int 0), (0, .ref (ga G 14 0)), (1, .int x1), (2, .int x2), (3, .int x3), (5, .int x5), (7, .int x7)]) hx hb dX14_files_376 hl (by decide) rfl (fun ls hl => ?_)
      refine lv_iinc (v := x7 + 1) (lv' := [(7, .int (x7 + 1)), (6, .int 0), (0, .ref (ga G 14 0)), (1, .int x1), (2, .int x2), (3, .int x3), (5, .int x5)]) hx hb dX14_files_378 hl (k := 6) rfl rfl (by decide) rfl (fun ls hl => ?_)
      refine lv_goto (tgt := 331) hx hb dX14_files_381 (by decide) ?_
      exact ih 0 (x7 + 1) hw locs ls hS (lv_sub hl [2, 3, 4, 5, 6, 1, 0] rfl) hK384
    have hw := hw.2 h
    refine lv_iconst (v := 1) hx hb dX14_files_371 (by decide) ?_
    refine lv_goto (tgt := 376) hx hb dX14_files_372 (by decide) ?_
    refine lv_istore (lv' := [(6, .int 1), (0, .ref (ga G 14 0)), (1, .int x1), (2, .int x2), (3, .int x3), (5, .int x5), (7, .int x7)]) hx hb dX14_files_376 hl (by decide) rfl (fun ls hl => ?_)
    refine lv_iinc (v := x7 + 1) (lv' := [(7, .int (x7 + 1)), (6, .int 1), (0, .ref (ga G 14 0)), (1, .int x1), (2, .int x2), (3, .int x3), (5, .int x5)]) hx hb dX14_files_378 hl (k := 6) rfl rfl (by decide) rfl (fun ls hl => ?_)
    refine lv_goto (tgt := 331) hx hb dX14_files_381 (by decide) ?_
    exact ih 1 (x7 + 1) hw locs ls hS (lv_sub hl [2, 3, 4, 5, 6, 1, 0] rfl) hK384
def w14_files_L319 (σ : St) (x1 : Int32) (x2 : Int32) (x3 : Int32) (Q : Int32 → Prop) (K389 : Prop) (K397 : Prop) : Nat → Int32 → Prop
  | 0, _ => False
  | n + 1, x5 => (x2 ≤ x5 → K397) ∧ (¬ x2 ≤ x5 → (∃ z12, w14_files_L331 σ x1 x2 x3 x5 Q (fun x6_13 => (x6_13 = 0 → (w14_files_L319 σ x1 x2 x3 Q K389 K397 n (x5 + 1))) ∧ (¬ x6_13 = 0 → K389)) z12 1 0))
set_option maxHeartbeats 4000000 in
theorem k14_files_L319 {p : Program} {l : Launch} {e : Env} {s : State} {m : MethodId} {args : Array Value} {below : List Frame} {meth : Method} {c : Code} {G : Gh} {a1 : Nat → Nat → Nat} {τ : St} {H : Heap} {Q : Int32 → Prop} {K389 : Prop} {K397 : Prop} (C : Cx p e s m args meth c cX14_files 8 (some .int) "WebHostModel" G) (σ : St) (x1 : Int32) (x2 : Int32) (x3 : Int32) (hH : Hd G a1 (cmb τ σ) H) :
    ∀ (n : Nat) (x5 : Int32), w14_files_L319 σ x1 x2 x3 Q K389 K397 n x5 → ∀ (locs : List Loc) (ls : Array Slot), va_S (gA G) s.heap H locs → lv_has ls 8 [(0, .ref (ga G 14 0)), (1, .int x1), (2, .int x2), (3, .int x3), (5, .int x5)] → (K389 → ∀ (locs : List Loc) (ls : Array Slot), va_S (gA G) s.heap H locs → lv_has ls 8 [] → W p l e rmX14_files s m args below meth c H locs 0 0 (MQ below (QIp G H Q) args s 0 0 (gA G)) (F0 m 389 ls [])) → (K397 → ∀ (locs : List Loc) (ls : Array Slot), va_S (gA G) s.heap H locs → lv_has ls 8 [(0, .ref (ga G 14 0)), (1, .int x1), (2, .int x2)] → W p l e rmX14_files s m args below meth c H locs 0 0 (MQ below (QIp G H Q) args s 0 0 (gA G)) (F0 m 397 ls [])) → W p l e rmX14_files s m args below meth c H locs 0 0 (MQ below (QIp G H Q) args s 0 0 (gA G)) (F0 m 319 ls []) := by
  have hx := C.1
  have hb := C.2.1
  have hown := C.2.2.2.2.2.1
  have hts := C.2.2.2.2.2.2.1
  intro n
  induction n with
  | zero =>
    intro x5 hw
    exact False.elim hw
  | succ n ih =>
    intro x5 hw locs ls hS hl hK389 hK397
    refine lv_iload hx hb dX14_files_319 (lv_at hl 4 rfl) ?_
    refine lv_iload_n hx hb dX14_files_321 rfl (lv_at hl 2 rfl) ?_
    refine lv_icmp_ge (tgt := 397) hx hb dX14_files_322 (by decide) (fun h => ?_) (fun h => ?_)
    · have hw := hw.1 h
      exact hK397 hw locs ls hS (lv_sub hl [0, 1, 2] rfl)
    have hw := hw.2 h
    refine lv_iconst (v := 1) hx hb dX14_files_325 (by decide) ?_
    refine lv_istore (lv' := [(6, .int 1), (0, .ref (ga G 14 0)), (1, .int x1), (2, .int x2), (3, .int x3), (5, .int x5)]) hx hb dX14_files_326 hl (by decide) rfl (fun ls hl => ?_)
    refine lv_iconst (v := 0) hx hb dX14_files_328 (by decide) ?_
    refine lv_istore (lv' := [(7, .int 0), (6, .int 1), (0, .ref (ga G 14 0)), (1, .int x1), (2, .int x2), (3, .int x3), (5, .int x5)]) hx hb dX14_files_329 hl (by decide) rfl (fun ls hl => ?_)
    obtain ⟨n12, hw⟩ := hw
    refine k14_files_L331 C σ x1 x2 x3 x5 hH n12 1 0 hw locs ls hS (lv_sub hl [2, 3, 4, 5, 6, 1, 0] rfl) (fun x6_13 hw locs ls hS hl => ?_)
    refine lv_iload hx hb dX14_files_384 (lv_at hl 5 rfl) ?_
    refine lv_if_eq (tgt := 391) hx hb dX14_files_386 (by decide) (fun h => ?_) (fun h => ?_)
    · have hw := hw.1 h
      refine lv_iinc (v := x5 + 1) (lv' := [(5, .int (x5 + 1)), (0, .ref (ga G 14 0)), (1, .int x1), (2, .int x2), (3, .int x3), (6, .int x6_13)]) hx hb dX14_files_391 hl (k := 4) rfl rfl (by decide) rfl (fun ls hl => ?_)
      refine lv_goto (tgt := 319) hx hb dX14_files_394 (by decide) ?_
      exact ih (x5 + 1) hw locs ls hS (lv_sub hl [1, 2, 3, 4, 0] rfl) hK389 hK397
    have hw := hw.2 h
    exact hK389 hw locs ls hS (lv_sub hl [] rfl)
def w14_files_J192 (σ : St) (x1 : Int32) (x2 : Int32) (x3 : Int32) (x4 : Int32) (Q : Int32 → Prop) (K151 : Int32 → Prop) (K215 : Prop) (K259 : Prop) (K267 : Prop) (K314 : Prop) (K389 : Prop) : Prop := (x4 = 0 → K215) ∧ (¬ x4 = 0 → ((x4 = 48 → K215) ∧ (¬ x4 = 48 → (vp_in x3 65535 ∧ (by8 (σ 51 0 x3.toNatClampNeg) → (((σ 51 0 x3.toNatClampNeg) = 47 → (∃ z5, w14_files_L220 σ x1 x2 x3 x4 Q (K259) (K267) (w14_imageWord σ (x3 + 48) (fun r9 => (w14_imageWord σ (x3 + 52) (fun r10 => ((0 < (lg_cmp (r9 + r10) ((σ 14 0 3).toInt64)) → K314) ∧ (¬ 0 < (lg_cmp (r9 + r10) ((σ 14 0 3).toInt64)) → (w14_imageWord σ (x3 + 60) (fun r11 => (((lg_cmp r11 0) = 0 → (∃ z14, w14_files_L319 σ x1 x2 x3 Q (K389) (K151 (x2 + 1)) z14 0)) ∧ (¬ (lg_cmp r11 0) = 0 → K314)))))))))) z5 0)) ∧ (¬ (σ 51 0 x3.toNatClampNeg) = 47 → K215)))))))
set_option maxHeartbeats 4000000 in
theorem k14_files_J192 {p : Program} {l : Launch} {e : Env} {s : State} {m : MethodId} {args : Array Value} {below : List Frame} {meth : Method} {c : Code} {G : Gh} {a1 : Nat → Nat → Nat} {τ : St} {H : Heap} {Q : Int32 → Prop} {K151 : Int32 → Prop} {K215 : Prop} {K259 : Prop} {K267 : Prop} {K314 : Prop} {K389 : Prop} (C : Cx p e s m args meth c cX14_files 8 (some .int) "WebHostModel" G) (σ : St) (x1 : Int32) (x2 : Int32) (x3 : Int32) (x4 : Int32) (hH : Hd G a1 (cmb τ σ) H) (hw : w14_files_J192 σ x1 x2 x3 x4 Q K151 K215 K259 K267 K314 K389) (locs : List Loc) (ls : Array Slot) (hS : va_S (gA G) s.heap H locs) (hl : lv_has ls 8 [(0, .ref (ga G 14 0)), (1, .int x1), (2, .int x2), (3, .int x3), (4, .int x4)]) (hK151 : ∀ (x2 : Int32), K151 x2 → ∀ (locs : List Loc) (ls : Array Slot), va_S (gA G) s.heap H locs → lv_has ls 8 [(0, .ref (ga G 14 0)), (1, .int x1), (2, .int x2)] → W p l e rmX14_files s m args below meth c H locs 0 0 (MQ below (QIp G H Q) args s 0 0 (gA G)) (F0 m 151 ls [])) (hK215 : K215 → ∀ (locs : List Loc) (ls : Array Slot), va_S (gA G) s.heap H locs → lv_has ls 8 [] → W p l e rmX14_files s m args below meth c H locs 0 0 (MQ below (QIp G H Q) args s 0 0 (gA G)) (F0 m 215 ls [])) (hK259 : K259 → ∀ (locs : List Loc) (ls : Array Slot), va_S (gA G) s.heap H locs → lv_has ls 8 [] → W p l e rmX14_files s m args below meth c H locs 0 0 (MQ below (QIp G H Q) args s 0 0 (gA G)) (F0 m 259 ls [])) (hK267 : K267 → ∀ (locs : List Loc) (ls : Array Slot), va_S (gA G) s.heap H locs → lv_has ls 8 [] → W p l e rmX14_files s m args below meth c H locs 0 0 (MQ below (QIp G H Q) args s 0 0 (gA G)) (F0 m 267 ls [])) (hK314 : K314 → ∀ (locs : List Loc) (ls : Array Slot), va_S (gA G) s.heap H locs → lv_has ls 8 [] → W p l e rmX14_files s m args below meth c H locs 0 0 (MQ below (QIp G H Q) args s 0 0 (gA G)) (F0 m 314 ls [])) (hK389 : K389 → ∀ (locs : List Loc) (ls : Array Slot), va_S (gA G) s.heap H locs → lv_has ls 8 [] → W p l e rmX14_files s m args below meth c H locs 0 0 (MQ below (QIp G H Q) args s 0 0 (gA G)) (F0 m 389 ls [])) : W p l e rmX14_files s m args below meth c H locs 0 0 (MQ below (QIp G H Q) args s 0 0 (gA G)) (F0 m 192 ls []) := by
  have hx := C.1
  have hb := C.2.1
  have hown := C.2.2.2.2.2.1
  have hts := C.2.2.2.2.2.2.1
  refine lv_iload hx hb dX14_files_192 (lv_at hl 4 rfl) ?_
  refine lv_if_eq (tgt := 215) hx hb dX14_files_194 (by decide) (fun h => ?_) (fun h => ?_)
  · have hw := hw.1 h
    exact hK215 hw locs ls hS (lv_sub hl [] rfl)
  have hw := hw.2 h
  refine lv_iload hx hb dX14_files_197 (lv_at hl 4 rfl) ?_
  refine lv_bipush (v := 48) hx hb dX14_files_199 (by decide) ?_
  refine lv_icmp_eq (tgt := 215) hx hb dX14_files_201 (by decide) (fun h => ?_) (fun h => ?_)
  · have hw := hw.1 h
    exact hK215 hw locs ls hS (lv_sub hl [] rfl)
  have hw := hw.2 h
  refine lv_aload_n hx hb dX14_files_204 rfl (lv_at hl 0 rfl) ?_
  refine g14_2 C hH q1942 dX14_files_205 ?_
  refine lv_iload_n hx hb dX14_files_208 rfl (lv_at hl 3 rfl) ?_
  refine l51 C hH hw.1 dX14_files_209 (fun hz => ?_)
  have hw := hw.2 hz
  refine lv_bipush (v := 47) hx hb dX14_files_210 (by decide) ?_
  refine lv_icmp_eq (tgt := 217) hx hb dX14_files_212 (by decide) (fun h => ?_) (fun h => ?_)
  · have hw := hw.1 h
    refine lv_iconst (v := 0) hx hb dX14_files_217 (by decide) ?_
    refine lv_istore (lv' := [(5, .int 0), (0, .ref (ga G 14 0)), (1, .int x1), (2, .int x2), (3, .int x3), (4, .int x4)]) hx hb dX14_files_218 hl (by decide) rfl (fun ls hl => ?_)
    obtain ⟨n5, hw⟩ := hw
    refine k14_files_L220 C σ x1 x2 x3 x4 hH n5 0 hw locs ls hS (lv_sub hl [1, 2, 3, 4, 5, 0] rfl) (fun hw locs ls hS hl => ?_) (fun hw locs ls hS hl => ?_) (fun hw locs ls hS hl => ?_)
    · exact hK259 hw locs ls hS (lv_sub hl [] rfl)
    · exact hK267 hw locs ls hS (lv_sub hl [] rfl)
    refine lv_aload_n hx hb dX14_files_275 rfl (lv_at hl 0 rfl) ?_
    refine lv_iload_n hx hb dX14_files_276 rfl (lv_at hl 3 rfl) ?_
    refine lv_bipush (v := 48) hx hb dX14_files_277 (by decide) ?_
    refine lv_iadd hx hb dX14_files_279 ?_
    refine kc_jp (rn_vp (As := [.int (x3 + 48)]) (rest := []) C hH hS (by decide) rfl (by decide) (m14_imageWord l G a1 τ σ H (x3 + 48) _ hw) (cwV 1 hts (lw_V q2162 q2164 qs78 q171 q2165) rfl rfl rfl kX14_imageWord ⟨Nat.le_of_ble_eq_true rfl, Nat.le_of_ble_eq_true rfl⟩) rfl hl.1 rfl (Nat.le_of_ble_eq_true rfl) dX14_files_280 ⟨Nat.le_of_ble_eq_true rfl, Nat.le_of_ble_eq_true rfl⟩) hS (fun r9 locs hw hS => ?_)
    refine lv_aload_n hx hb dX14_files_283 rfl (lv_at hl 0 rfl) ?_
    refine lv_iload_n hx hb dX14_files_284 rfl (lv_at hl 3 rfl) ?_
    refine lv_bipush (v := 52) hx hb dX14_files_285 (by decide) ?_
    refine lv_iadd hx hb dX14_files_287 ?_
    refine kc_jp (rn_vp (As := [.int (x3 + 52)]) (rest := [.long r9]) C hH hS (by decide) rfl (by decide) (m14_imageWord l G a1 τ σ H (x3 + 52) _ hw) (cwV 1 hts (lw_V q2162 q2164 qs78 q171 q2165) rfl rfl rfl kX14_imageWord ⟨Nat.le_of_ble_eq_true rfl, Nat.le_of_ble_eq_true rfl⟩) rfl hl.1 rfl (Nat.le_of_ble_eq_true rfl) dX14_files_288 ⟨Nat.le_of_ble_eq_true rfl, Nat.le_of_ble_eq_true rfl⟩) hS (fun r10 locs hw hS => ?_)
    refine lv_ladd hx hb dX14_files_291 ?_
    refine lv_aload_n hx hb dX14_files_292 rfl (lv_at hl 0 rfl) ?_
    refine g14_3 C hH q1943 dX14_files_293 ?_
    refine lv_i2l (v := (σ 14 0 3).toInt64) hx hb dX14_files_296 rfl ?_
    refine W.lcmp hx hb dX14_files_297 ?_
    refine lv_if_gt (tgt := 314) hx hb dX14_files_298 (by decide) (fun h => ?_) (fun h => ?_)
    · have hw := hw.1 h
      exact hK314 hw locs ls hS (lv_sub hl [] rfl)
    have hw := hw.2 h
    refine lv_aload_n hx hb dX14_files_301 rfl (lv_at hl 0 rfl) ?_
    refine lv_iload_n hx hb dX14_files_302 rfl (lv_at hl 3 rfl) ?_
    refine lv_bipush (v := 60) hx hb dX14_files_303 (by decide) ?_
    refine lv_iadd hx hb dX14_files_305 ?_
    refine kc_jp (rn_vp (As := [.int (x3 + 60)]) (rest := []) C hH hS (by decide) rfl (by decide) (m14_imageWord l G a1 τ σ H (x3 + 60) _ hw) (cwV 1 hts (lw_V q2162 q2164 qs78 q171 q2165) rfl rfl rfl kX14_imageWord ⟨Nat.le_of_ble_eq_true rfl, Nat.le_of_ble_eq_true rfl⟩) rfl hl.1 rfl (Nat.le_of_ble_eq_true rfl) dX14_files_306 ⟨Nat.le_of_ble_eq_true rfl, Nat.le_of_ble_eq_true rfl⟩) hS (fun r11 locs hw hS => ?_)
    refine lv_lconst (v := 0) hx hb dX14_files_309 (by decide) ?_
    refine W.lcmp hx hb dX14_files_310 ?_
    refine lv_if_eq (tgt := 316) hx hb dX14_files_311 (by decide) (fun h => ?_) (fun h => ?_)
    · have hw := hw.1 h
      refine lv_iconst (v := 0) hx hb dX14_files_316 (by decide) ?_
      refine lv_istore (lv' := [(5, .int 0), (0, .ref (ga G 14 0)), (1, .int x1), (2, .int x2), (3, .int x3)]) hx hb dX14_files_317 hl (by decide) rfl (fun ls hl => ?_)
      obtain ⟨n14, hw⟩ := hw
      refine k14_files_L319 C σ x1 x2 x3 hH n14 0 hw locs ls hS (lv_sub hl [1, 2, 3, 4, 0] rfl) (fun hw locs ls hS hl => ?_) (fun hw locs ls hS hl => ?_)
      · exact hK389 hw locs ls hS (lv_sub hl [] rfl)
      refine lv_iinc (v := x2 + 1) (lv' := [(2, .int (x2 + 1)), (0, .ref (ga G 14 0)), (1, .int x1)]) hx hb dX14_files_397 hl (k := 2) rfl rfl (by decide) rfl (fun ls hl => ?_)
      refine lv_goto (tgt := 151) hx hb dX14_files_400 (by decide) ?_
      exact hK151 (x2 + 1) hw locs ls hS (lv_sub hl [1, 2, 0] rfl)
    have hw := hw.2 h
    exact hK314 hw locs ls hS (lv_sub hl [] rfl)
  have hw := hw.2 h
  exact hK215 hw locs ls hS (lv_sub hl [] rfl)
def w14_files_L151 (σ : St) (x1 : Int32) (Q : Int32 → Prop) (K215 : Prop) (K259 : Prop) (K267 : Prop) (K314 : Prop) (K389 : Prop) (K403 : Prop) : Nat → Int32 → Prop
  | 0, _ => False
  | n + 1, x2 => (x1 ≤ x2 → K403) ∧ (¬ x1 ≤ x2 → (∃ z3, w14_files_L167 σ x1 x2 (8 + (64 * x2)) Q (fun x4_4 => w14_files_J192 σ x1 x2 (8 + (64 * x2)) x4_4 Q (fun x2z => w14_files_L151 σ x1 Q K215 K259 K267 K314 K389 K403 n x2z) K215 K259 K267 K314 K389) z3 0))
set_option maxHeartbeats 4000000 in
theorem k14_files_L151 {p : Program} {l : Launch} {e : Env} {s : State} {m : MethodId} {args : Array Value} {below : List Frame} {meth : Method} {c : Code} {G : Gh} {a1 : Nat → Nat → Nat} {τ : St} {H : Heap} {Q : Int32 → Prop} {K215 : Prop} {K259 : Prop} {K267 : Prop} {K314 : Prop} {K389 : Prop} {K403 : Prop} (C : Cx p e s m args meth c cX14_files 8 (some .int) "WebHostModel" G) (σ : St) (x1 : Int32) (hH : Hd G a1 (cmb τ σ) H) :
    ∀ (n : Nat) (x2 : Int32), w14_files_L151 σ x1 Q K215 K259 K267 K314 K389 K403 n x2 → ∀ (locs : List Loc) (ls : Array Slot), va_S (gA G) s.heap H locs → lv_has ls 8 [(0, .ref (ga G 14 0)), (1, .int x1), (2, .int x2)] → (K215 → ∀ (locs : List Loc) (ls : Array Slot), va_S (gA G) s.heap H locs → lv_has ls 8 [] → W p l e rmX14_files s m args below meth c H locs 0 0 (MQ below (QIp G H Q) args s 0 0 (gA G)) (F0 m 215 ls [])) → (K259 → ∀ (locs : List Loc) (ls : Array Slot), va_S (gA G) s.heap H locs → lv_has ls 8 [] → W p l e rmX14_files s m args below meth c H locs 0 0 (MQ below (QIp G H Q) args s 0 0 (gA G)) (F0 m 259 ls [])) → (K267 → ∀ (locs : List Loc) (ls : Array Slot), va_S (gA G) s.heap H locs → lv_has ls 8 [] → W p l e rmX14_files s m args below meth c H locs 0 0 (MQ below (QIp G H Q) args s 0 0 (gA G)) (F0 m 267 ls [])) → (K314 → ∀ (locs : List Loc) (ls : Array Slot), va_S (gA G) s.heap H locs → lv_has ls 8 [] → W p l e rmX14_files s m args below meth c H locs 0 0 (MQ below (QIp G H Q) args s 0 0 (gA G)) (F0 m 314 ls [])) → (K389 → ∀ (locs : List Loc) (ls : Array Slot), va_S (gA G) s.heap H locs → lv_has ls 8 [] → W p l e rmX14_files s m args below meth c H locs 0 0 (MQ below (QIp G H Q) args s 0 0 (gA G)) (F0 m 389 ls [])) → (K403 → ∀ (locs : List Loc) (ls : Array Slot), va_S (gA G) s.heap H locs → lv_has ls 8 [(1, .int x1)] → W p l e rmX14_files s m args below meth c H locs 0 0 (MQ below (QIp G H Q) args s 0 0 (gA G)) (F0 m 403 ls [])) → W p l e rmX14_files s m args below meth c H locs 0 0 (MQ below (QIp G H Q) args s 0 0 (gA G)) (F0 m 151 ls []) := by
  have hx := C.1
  have hb := C.2.1
  have hown := C.2.2.2.2.2.1
  have hts := C.2.2.2.2.2.2.1
  intro n
  induction n with
  | zero =>
    intro x2 hw
    exact False.elim hw
  | succ n ih =>
    intro x2 hw locs ls hS hl hK215 hK259 hK267 hK314 hK389 hK403
    refine lv_iload_n hx hb dX14_files_151 rfl (lv_at hl 2 rfl) ?_
    refine lv_iload_n hx hb dX14_files_152 rfl (lv_at hl 1 rfl) ?_
    refine lv_icmp_ge (tgt := 403) hx hb dX14_files_153 (by decide) (fun h => ?_) (fun h => ?_)
    · have hw := hw.1 h
      exact hK403 hw locs ls hS (lv_sub hl [1] rfl)
    have hw := hw.2 h
    refine lv_bipush (v := 8) hx hb dX14_files_156 (by decide) ?_
    refine lv_bipush (v := 64) hx hb dX14_files_158 (by decide) ?_
    refine lv_iload_n hx hb dX14_files_160 rfl (lv_at hl 2 rfl) ?_
    refine lv_imul hx hb dX14_files_161 ?_
    refine lv_iadd hx hb dX14_files_162 ?_
    refine lv_istore_n (lv' := [(3, .int (8 + (64 * x2))), (0, .ref (ga G 14 0)), (1, .int x1), (2, .int x2)]) hx hb dX14_files_163 rfl hl (by decide) rfl (fun ls hl => ?_)
    refine lv_iconst (v := 0) hx hb dX14_files_164 (by decide) ?_
    refine lv_istore (lv' := [(4, .int 0), (3, .int (8 + (64 * x2))), (0, .ref (ga G 14 0)), (1, .int x1), (2, .int x2)]) hx hb dX14_files_165 hl (by decide) rfl (fun ls hl => ?_)
    obtain ⟨n3, hw⟩ := hw
    refine k14_files_L167 C σ x1 x2 (8 + (64 * x2)) hH n3 0 hw locs ls hS (lv_sub hl [2, 3, 4, 1, 0] rfl) (fun x4_4 hw locs ls hS hl => ?_)
    exact k14_files_J192 C σ x1 x2 (8 + (64 * x2)) x4_4 hH hw locs ls hS (lv_sub hl [0, 1, 2, 3, 4] rfl) (fun x2z hw locs ls hS hl => ih x2z hw locs ls hS hl hK215 hK259 hK267 hK314 hK389 hK403) hK215 hK259 hK267 hK314 hK389
def w14_files (σ : St) (Q : Int32 → Prop) : Prop := ((σ 14 0 3) < 12 → (Q (-1))) ∧ (¬ (σ 14 0 3) < 12 → (vp_in 0 65535 ∧ (by8 (σ 51 0 (0 : Int32).toNatClampNeg) → ((¬ (σ 51 0 (0 : Int32).toNatClampNeg) = 83 → (Q (-1))) ∧ ((σ 51 0 (0 : Int32).toNatClampNeg) = 83 → (vp_in 1 65535 ∧ (by8 (σ 51 0 (1 : Int32).toNatClampNeg) → ((¬ (σ 51 0 (1 : Int32).toNatClampNeg) = 84 → (Q (-1))) ∧ ((σ 51 0 (1 : Int32).toNatClampNeg) = 84 → (vp_in 2 65535 ∧ (by8 (σ 51 0 (2 : Int32).toNatClampNeg) → ((¬ (σ 51 0 (2 : Int32).toNatClampNeg) = 79 → (Q (-1))) ∧ ((σ 51 0 (2 : Int32).toNatClampNeg) = 79 → (vp_in 3 65535 ∧ (by8 (σ 51 0 (3 : Int32).toNatClampNeg) → ((¬ (σ 51 0 (3 : Int32).toNatClampNeg) = 82 → (Q (-1))) ∧ ((σ 51 0 (3 : Int32).toNatClampNeg) = 82 → (vp_in 6 65535 ∧ (by8 (σ 51 0 (6 : Int32).toNatClampNeg) → ((¬ (σ 51 0 (6 : Int32).toNatClampNeg) = 0 → (Q (-1))) ∧ ((σ 51 0 (6 : Int32).toNatClampNeg) = 0 → (vp_in 7 65535 ∧ (by8 (σ 51 0 (7 : Int32).toNatClampNeg) → (((σ 51 0 (7 : Int32).toNatClampNeg) = 0 → (vp_in 4 65535 ∧ (by8 (σ 51 0 (4 : Int32).toNatClampNeg) → (vp_in 5 65535 ∧ (by8 (σ 51 0 (5 : Int32).toNatClampNeg) → ((64 < ((((σ 51 0 (4 : Int32).toNatClampNeg) &&& 255) <<< ((8 : Int32) &&& 31)) ||| ((σ 51 0 (5 : Int32).toNatClampNeg) &&& 255)) → (Q (-1))) ∧ (¬ 64 < ((((σ 51 0 (4 : Int32).toNatClampNeg) &&& 255) <<< ((8 : Int32) &&& 31)) ||| ((σ 51 0 (5 : Int32).toNatClampNeg) &&& 255)) → (((σ 14 0 3) < (12 + (64 * ((((σ 51 0 (4 : Int32).toNatClampNeg) &&& 255) <<< ((8 : Int32) &&& 31)) ||| ((σ 51 0 (5 : Int32).toNatClampNeg) &&& 255)))) → (Q (-1))) ∧ (¬ (σ 14 0 3) < (12 + (64 * ((((σ 51 0 (4 : Int32).toNatClampNeg) &&& 255) <<< ((8 : Int32) &&& 31)) ||| ((σ 51 0 (5 : Int32).toNatClampNeg) &&& 255)))) → (w14_check σ 0 (8 + (64 * ((((σ 51 0 (4 : Int32).toNatClampNeg) &&& 255) <<< ((8 : Int32) &&& 31)) ||| ((σ 51 0 (5 : Int32).toNatClampNeg) &&& 255)))) (fun r1 => (w14_imageWord σ (8 + (64 * ((((σ 51 0 (4 : Int32).toNatClampNeg) &&& 255) <<< ((8 : Int32) &&& 31)) ||| ((σ 51 0 (5 : Int32).toNatClampNeg) &&& 255)))) (fun r2 => ((r1 = r2.toInt32 → (∃ z17, w14_files_L151 σ ((((σ 51 0 (4 : Int32).toNatClampNeg) &&& 255) <<< ((8 : Int32) &&& 31)) ||| ((σ 51 0 (5 : Int32).toNatClampNeg) &&& 255)) Q (Q (-1)) (Q (-1)) (Q (-1)) (Q (-1)) (Q (-1)) (Q ((((σ 51 0 (4 : Int32).toNatClampNeg) &&& 255) <<< ((8 : Int32) &&& 31)) ||| ((σ 51 0 (5 : Int32).toNatClampNeg) &&& 255))) z17 0)) ∧ (¬ r1 = r2.toInt32 → (Q (-1))))))))))))))))) ∧ (¬ (σ 51 0 (7 : Int32).toNatClampNeg) = 0 → (Q (-1)))))))))))))))))))))))))))
set_option maxHeartbeats 4000000 in
theorem m14_files (l : Launch) (G : Gh) (a1 : Nat → Nat → Nat) (τ : St) (σ : St) (H : Heap) (Q : Int32 → Prop) (hw : w14_files σ Q) : Met l yX14_files (ws_ yX14_files cX14_files 8 (some .int)) rmX14_files (PcP G a1 (cmb τ σ) H [.ref (ga G 14 0)]) (QIp G H Q) 0 0 (gA G) := by
  refine met_p (by decide) (Nat.le_of_ble_eq_true rfl) ?_
  intro p e s m below meth c ls hHe C hH hS hl
  have C : Cx p e s m _ meth c cX14_files 8 (some .int) "WebHostModel" G := C
  have hl : lv_has ls 8 [(0, .ref (ga G 14 0))] := hl
  have hx := C.1
  have hb := C.2.1
  have hown := C.2.2.2.2.2.1
  have hts := C.2.2.2.2.2.2.1
  obtain ⟨locs, hlocs⟩ : ∃ z : List Loc, z = [] := ⟨_, rfl⟩
  rw [← hlocs] at hS ⊢
  refine lv_aload_n hx hb dX14_files_0 rfl (lv_at hl 0 rfl) ?_
  refine g14_3 C hH q1943 dX14_files_1 ?_
  refine lv_bipush (v := 12) hx hb dX14_files_4 (by decide) ?_
  refine lv_icmp_lt (tgt := 73) hx hb dX14_files_6 (by decide) (fun h => ?_) (fun h => ?_)
  · have hw := hw.1 h
    refine lv_iconst (v := (-1)) hx hb dX14_files_73 (by decide) ?_
    exact rt_ip C rfl hS hw dX14_files_74
  have hw := hw.2 h
  refine lv_aload_n hx hb dX14_files_9 rfl (lv_at hl 0 rfl) ?_
  refine g14_2 C hH q1942 dX14_files_10 ?_
  refine lv_iconst (v := 0) hx hb dX14_files_13 (by decide) ?_
  refine l51 C hH hw.1 dX14_files_14 (fun hz => ?_)
  have hw := hw.2 hz
  refine lv_bipush (v := 83) hx hb dX14_files_15 (by decide) ?_
  refine lv_icmp_ne (tgt := 73) hx hb dX14_files_17 (by decide) (fun h => ?_) (fun h => ?_)
  · have hw := hw.1 h
    refine lv_iconst (v := (-1)) hx hb dX14_files_73 (by decide) ?_
    exact rt_ip C rfl hS hw dX14_files_74
  have hw := hw.2 h
  refine lv_aload_n hx hb dX14_files_20 rfl (lv_at hl 0 rfl) ?_
  refine g14_2 C hH q1942 dX14_files_21 ?_
  refine lv_iconst (v := 1) hx hb dX14_files_24 (by decide) ?_
  refine l51 C hH hw.1 dX14_files_25 (fun hz => ?_)
  have hw := hw.2 hz
  refine lv_bipush (v := 84) hx hb dX14_files_26 (by decide) ?_
  refine lv_icmp_ne (tgt := 73) hx hb dX14_files_28 (by decide) (fun h => ?_) (fun h => ?_)
  · have hw := hw.1 h
    refine lv_iconst (v := (-1)) hx hb dX14_files_73 (by decide) ?_
    exact rt_ip C rfl hS hw dX14_files_74
  have hw := hw.2 h
  refine lv_aload_n hx hb dX14_files_31 rfl (lv_at hl 0 rfl) ?_
  refine g14_2 C hH q1942 dX14_files_32 ?_
  refine lv_iconst (v := 2) hx hb dX14_files_35 (by decide) ?_
  refine l51 C hH hw.1 dX14_files_36 (fun hz => ?_)
  have hw := hw.2 hz
  refine lv_bipush (v := 79) hx hb dX14_files_37 (by decide) ?_
  refine lv_icmp_ne (tgt := 73) hx hb dX14_files_39 (by decide) (fun h => ?_) (fun h => ?_)
  · have hw := hw.1 h
    refine lv_iconst (v := (-1)) hx hb dX14_files_73 (by decide) ?_
    exact rt_ip C rfl hS hw dX14_files_74
  have hw := hw.2 h
  refine lv_aload_n hx hb dX14_files_42 rfl (lv_at hl 0 rfl) ?_
  refine g14_2 C hH q1942 dX14_files_43 ?_
  refine lv_iconst (v := 3) hx hb dX14_files_46 (by decide) ?_
  refine l51 C hH hw.1 dX14_files_47 (fun hz => ?_)
  have hw := hw.2 hz
  refine lv_bipush (v := 82) hx hb dX14_files_48 (by decide) ?_
  refine lv_icmp_ne (tgt := 73) hx hb dX14_files_50 (by decide) (fun h => ?_) (fun h => ?_)
  · have hw := hw.1 h
    refine lv_iconst (v := (-1)) hx hb dX14_files_73 (by decide) ?_
    exact rt_ip C rfl hS hw dX14_files_74
  have hw := hw.2 h
  refine lv_aload_n hx hb dX14_files_53 rfl (lv_at hl 0 rfl) ?_
  refine g14_2 C hH q1942 dX14_files_54 ?_
  refine lv_bipush (v := 6) hx hb dX14_files_57 (by decide) ?_
  refine l51 C hH hw.1 dX14_files_59 (fun hz => ?_)
  have hw := hw.2 hz
  refine lv_if_ne (tgt := 73) hx hb dX14_files_60 (by decide) (fun h => ?_) (fun h => ?_)
  · have hw := hw.1 h
    refine lv_iconst (v := (-1)) hx hb dX14_files_73 (by decide) ?_
    exact rt_ip C rfl hS hw dX14_files_74
  have hw := hw.2 h
  refine lv_aload_n hx hb dX14_files_63 rfl (lv_at hl 0 rfl) ?_
  refine g14_2 C hH q1942 dX14_files_64 ?_
  refine lv_bipush (v := 7) hx hb dX14_files_67 (by decide) ?_
  refine l51 C hH hw.1 dX14_files_69 (fun hz => ?_)
  have hw := hw.2 hz
  refine lv_if_eq (tgt := 75) hx hb dX14_files_70 (by decide) (fun h => ?_) (fun h => ?_)
  · have hw := hw.1 h
    refine lv_aload_n hx hb dX14_files_75 rfl (lv_at hl 0 rfl) ?_
    refine g14_2 C hH q1942 dX14_files_76 ?_
    refine lv_iconst (v := 4) hx hb dX14_files_79 (by decide) ?_
    refine l51 C hH hw.1 dX14_files_80 (fun hz => ?_)
    have hw := hw.2 hz
    refine lv_sipush (v := 255) hx hb dX14_files_81 (by decide) ?_
    refine lv_iand hx hb dX14_files_84 ?_
    refine lv_bipush (v := 8) hx hb dX14_files_85 (by decide) ?_
    refine lv_ishl hx hb dX14_files_87 ?_
    refine lv_aload_n hx hb dX14_files_88 rfl (lv_at hl 0 rfl) ?_
    refine g14_2 C hH q1942 dX14_files_89 ?_
    refine lv_iconst (v := 5) hx hb dX14_files_92 (by decide) ?_
    refine l51 C hH hw.1 dX14_files_93 (fun hz => ?_)
    have hw := hw.2 hz
    refine lv_sipush (v := 255) hx hb dX14_files_94 (by decide) ?_
    refine lv_iand hx hb dX14_files_97 ?_
    refine lv_ior hx hb dX14_files_98 ?_
    refine lv_istore_n (lv' := [(1, .int ((((σ 51 0 (4 : Int32).toNatClampNeg) &&& 255) <<< ((8 : Int32) &&& 31)) ||| ((σ 51 0 (5 : Int32).toNatClampNeg) &&& 255))), (0, .ref (ga G 14 0))]) hx hb dX14_files_99 rfl hl (by decide) rfl (fun ls hl => ?_)
    refine lv_iload_n hx hb dX14_files_100 rfl (lv_at hl 0 rfl) ?_
    refine lv_bipush (v := 64) hx hb dX14_files_101 (by decide) ?_
    refine lv_icmp_gt (tgt := 147) hx hb dX14_files_103 (by decide) (fun h => ?_) (fun h => ?_)
    · have hw := hw.1 h
      refine lv_iconst (v := (-1)) hx hb dX14_files_147 (by decide) ?_
      exact rt_ip C rfl hS hw dX14_files_148
    have hw := hw.2 h
    refine lv_aload_n hx hb dX14_files_106 rfl (lv_at hl 1 rfl) ?_
    refine g14_3 C hH q1943 dX14_files_107 ?_
    refine lv_bipush (v := 12) hx hb dX14_files_110 (by decide) ?_
    refine lv_bipush (v := 64) hx hb dX14_files_112 (by decide) ?_
    refine lv_iload_n hx hb dX14_files_114 rfl (lv_at hl 0 rfl) ?_
    refine lv_imul hx hb dX14_files_115 ?_
    refine lv_iadd hx hb dX14_files_116 ?_
    refine lv_icmp_lt (tgt := 147) hx hb dX14_files_117 (by decide) (fun h => ?_) (fun h => ?_)
    · have hw := hw.1 h
      refine lv_iconst (v := (-1)) hx hb dX14_files_147 (by decide) ?_
      exact rt_ip C rfl hS hw dX14_files_148
    have hw := hw.2 h
    refine lv_aload_n hx hb dX14_files_120 rfl (lv_at hl 1 rfl) ?_
    refine lv_iconst (v := 0) hx hb dX14_files_121 (by decide) ?_
    refine lv_bipush (v := 8) hx hb dX14_files_122 (by decide) ?_
    refine lv_bipush (v := 64) hx hb dX14_files_124 (by decide) ?_
    refine lv_iload_n hx hb dX14_files_126 rfl (lv_at hl 0 rfl) ?_
    refine lv_imul hx hb dX14_files_127 ?_
    refine lv_iadd hx hb dX14_files_128 ?_
    refine kc_ip (rn_vp (As := [.int 0, .int (8 + (64 * ((((σ 51 0 (4 : Int32).toNatClampNeg) &&& 255) <<< ((8 : Int32) &&& 31)) ||| ((σ 51 0 (5 : Int32).toNatClampNeg) &&& 255))))]) (rest := []) C hH hS (by decide) rfl (by decide) (m14_check l G a1 τ σ H 0 (8 + (64 * ((((σ 51 0 (4 : Int32).toNatClampNeg) &&& 255) <<< ((8 : Int32) &&& 31)) ||| ((σ 51 0 (5 : Int32).toNatClampNeg) &&& 255)))) _ hw) (cwV 2 hts (lw_V q2157 q2159 qs77 q171 q2160) rfl rfl rfl kX14_check ⟨Nat.le_of_ble_eq_true rfl, Nat.le_of_ble_eq_true rfl⟩) rfl hl.1 rfl (Nat.le_of_ble_eq_true rfl) dX14_files_129 ⟨Nat.le_of_ble_eq_true rfl, Nat.le_of_ble_eq_true rfl⟩) hS (fun r1 locs hw hS => ?_)
    refine lv_aload_n hx hb dX14_files_132 rfl (lv_at hl 1 rfl) ?_
    refine lv_bipush (v := 8) hx hb dX14_files_133 (by decide) ?_
    refine lv_bipush (v := 64) hx hb dX14_files_135 (by decide) ?_
    refine lv_iload_n hx hb dX14_files_137 rfl (lv_at hl 0 rfl) ?_
    refine lv_imul hx hb dX14_files_138 ?_
    refine lv_iadd hx hb dX14_files_139 ?_
    refine kc_jp (rn_vp (As := [.int (8 + (64 * ((((σ 51 0 (4 : Int32).toNatClampNeg) &&& 255) <<< ((8 : Int32) &&& 31)) ||| ((σ 51 0 (5 : Int32).toNatClampNeg) &&& 255))))]) (rest := [.int r1]) C hH hS (by decide) rfl (by decide) (m14_imageWord l G a1 τ σ H (8 + (64 * ((((σ 51 0 (4 : Int32).toNatClampNeg) &&& 255) <<< ((8 : Int32) &&& 31)) ||| ((σ 51 0 (5 : Int32).toNatClampNeg) &&& 255)))) _ hw) (cwV 1 hts (lw_V q2162 q2164 qs78 q171 q2165) rfl rfl rfl kX14_imageWord ⟨Nat.le_of_ble_eq_true rfl, Nat.le_of_ble_eq_true rfl⟩) rfl hl.1 rfl (Nat.le_of_ble_eq_true rfl) dX14_files_140 ⟨Nat.le_of_ble_eq_true rfl, Nat.le_of_ble_eq_true rfl⟩) hS (fun r2 locs hw hS => ?_)
    refine lv_l2i (v := r2.toInt32) hx hb dX14_files_143 rfl ?_
    refine lv_icmp_eq (tgt := 149) hx hb dX14_files_144 (by decide) (fun h => ?_) (fun h => ?_)
    · have hw := hw.1 h
      refine lv_iconst (v := 0) hx hb dX14_files_149 (by decide) ?_
      refine lv_istore_n (lv' := [(2, .int 0), (1, .int ((((σ 51 0 (4 : Int32).toNatClampNeg) &&& 255) <<< ((8 : Int32) &&& 31)) ||| ((σ 51 0 (5 : Int32).toNatClampNeg) &&& 255))), (0, .ref (ga G 14 0))]) hx hb dX14_files_150 rfl hl (by decide) rfl (fun ls hl => ?_)
      obtain ⟨n17, hw⟩ := hw
      refine k14_files_L151 C σ ((((σ 51 0 (4 : Int32).toNatClampNeg) &&& 255) <<< ((8 : Int32) &&& 31)) ||| ((σ 51 0 (5 : Int32).toNatClampNeg) &&& 255)) hH n17 0 hw locs ls hS (lv_sub hl [2, 1, 0] rfl) (fun hw locs ls hS hl => ?_) (fun hw locs ls hS hl => ?_) (fun hw locs ls hS hl => ?_) (fun hw locs ls hS hl => ?_) (fun hw locs ls hS hl => ?_) (fun hw locs ls hS hl => ?_)
      · refine lv_iconst (v := (-1)) hx hb dX14_files_215 (by decide) ?_
        exact rt_ip C rfl hS hw dX14_files_216
      · refine lv_goto (tgt := 267) hx hb dX14_files_259 (by decide) ?_
        refine lv_iconst (v := (-1)) hx hb dX14_files_267 (by decide) ?_
        exact rt_ip C rfl hS hw dX14_files_268
      · refine lv_iconst (v := (-1)) hx hb dX14_files_267 (by decide) ?_
        exact rt_ip C rfl hS hw dX14_files_268
      · refine lv_iconst (v := (-1)) hx hb dX14_files_314 (by decide) ?_
        exact rt_ip C rfl hS hw dX14_files_315
      · refine lv_iconst (v := (-1)) hx hb dX14_files_389 (by decide) ?_
        exact rt_ip C rfl hS hw dX14_files_390
      refine lv_iload_n hx hb dX14_files_403 rfl (lv_at hl 0 rfl) ?_
      exact rt_ip C rfl hS hw dX14_files_404
    have hw := hw.2 h
    refine lv_iconst (v := (-1)) hx hb dX14_files_147 (by decide) ?_
    exact rt_ip C rfl hS hw dX14_files_148
  have hw := hw.2 h
  refine lv_iconst (v := (-1)) hx hb dX14_files_73 (by decide) ?_
  exact rt_ip C rfl hS hw dX14_files_74
/-! WebHostModel.fresh(LWebHostModel$Connection;)V -/
abbrev cX14_fresh : ByteArray := prog_17_method_60_code
def yX14_fresh : MethodName := ⟨RX14, "fresh", "(LWebHostModel$Connection;)V"⟩
theorem dX14_fresh_0 : decode cX14_fresh 0 = .ok (.aload_n 0, 1) := by decide +kernel
theorem dX14_fresh_1 : decode cX14_fresh 1 = .ok (.getfield 299, 3) := by decide +kernel
theorem dX14_fresh_4 : decode cX14_fresh 4 = .ok (.aload_n 1, 1) := by decide +kernel
theorem dX14_fresh_5 : decode cX14_fresh 5 = .ok (.getfield 428, 3) := by decide +kernel
theorem dX14_fresh_8 : decode cX14_fresh 8 = .ok (.isub, 1) := by decide +kernel
theorem dX14_fresh_9 : decode cX14_fresh 9 = .ok (.istore_n 2, 1) := by decide +kernel
theorem dX14_fresh_10 : decode cX14_fresh 10 = .ok (.aload_n 0, 1) := by decide +kernel
theorem dX14_fresh_11 : decode cX14_fresh 11 = .ok (.getfield 31, 3) := by decide +kernel
theorem dX14_fresh_14 : decode cX14_fresh 14 = .ok (.bipush 6, 2) := by decide +kernel
theorem dX14_fresh_16 : decode cX14_fresh 16 = .ok (.dup2, 1) := by decide +kernel
theorem dX14_fresh_17 : decode cX14_fresh 17 = .ok (.iaload, 1) := by decide +kernel
theorem dX14_fresh_18 : decode cX14_fresh 18 = .ok (.iconst 1, 1) := by decide +kernel
theorem dX14_fresh_19 : decode cX14_fresh 19 = .ok (.iadd, 1) := by decide +kernel
theorem dX14_fresh_20 : decode cX14_fresh 20 = .ok (.iastore, 1) := by decide +kernel
theorem dX14_fresh_21 : decode cX14_fresh 21 = .ok (.aload_n 0, 1) := by decide +kernel
theorem dX14_fresh_22 : decode cX14_fresh 22 = .ok (.getfield 31, 3) := by decide +kernel
theorem dX14_fresh_25 : decode cX14_fresh 25 = .ok (.bipush 7, 2) := by decide +kernel
theorem dX14_fresh_27 : decode cX14_fresh 27 = .ok (.aload_n 0, 1) := by decide +kernel
theorem dX14_fresh_28 : decode cX14_fresh 28 = .ok (.getfield 31, 3) := by decide +kernel
theorem dX14_fresh_31 : decode cX14_fresh 31 = .ok (.bipush 7, 2) := by decide +kernel
theorem dX14_fresh_33 : decode cX14_fresh 33 = .ok (.iaload, 1) := by decide +kernel
theorem dX14_fresh_34 : decode cX14_fresh 34 = .ok (.iload_n 2, 1) := by decide +kernel
theorem dX14_fresh_35 : decode cX14_fresh 35 = .ok (.iadd, 1) := by decide +kernel
theorem dX14_fresh_36 : decode cX14_fresh 36 = .ok (.iastore, 1) := by decide +kernel
theorem dX14_fresh_37 : decode cX14_fresh 37 = .ok (.aload_n 1, 1) := by decide +kernel
theorem dX14_fresh_38 : decode cX14_fresh 38 = .ok (.aload_n 0, 1) := by decide +kernel
theorem dX14_fresh_39 : decode cX14_fresh 39 = .ok (.getfield 299, 3) := by decide +kernel
theorem dX14_fresh_42 : decode cX14_fresh 42 = .ok (.putfield 428, 3) := by decide +kernel
theorem dX14_fresh_45 : decode cX14_fresh 45 = .ok (.aload_n 1, 1) := by decide +kernel
theorem dX14_fresh_46 : decode cX14_fresh 46 = .ok (.getfield 345, 3) := by decide +kernel
theorem dX14_fresh_49 : decode cX14_fresh 49 = .ok (.aload_n 1, 1) := by decide +kernel
theorem dX14_fresh_50 : decode cX14_fresh 50 = .ok (.getfield 428, 3) := by decide +kernel
theorem dX14_fresh_53 : decode cX14_fresh 53 = .ok (.invokestatic 363, 3) := by decide +kernel
theorem dX14_fresh_56 : decode cX14_fresh 56 = .ok (.ifCond .eq 11, 3) := by decide +kernel
theorem dX14_fresh_59 : decode cX14_fresh 59 = .ok (.aload_n 1, 1) := by decide +kernel
theorem dX14_fresh_60 : decode cX14_fresh 60 = .ok (.aload_n 1, 1) := by decide +kernel
theorem dX14_fresh_61 : decode cX14_fresh 61 = .ok (.getfield 428, 3) := by decide +kernel
theorem dX14_fresh_64 : decode cX14_fresh 64 = .ok (.putfield 345, 3) := by decide +kernel
theorem dX14_fresh_67 : decode cX14_fresh 67 = .ok (.aload_n 1, 1) := by decide +kernel
theorem dX14_fresh_68 : decode cX14_fresh 68 = .ok (.iconst 0, 1) := by decide +kernel
theorem dX14_fresh_69 : decode cX14_fresh 69 = .ok (.putfield 466, 3) := by decide +kernel
theorem dX14_fresh_72 : decode cX14_fresh 72 = .ok (.aload_n 1, 1) := by decide +kernel
theorem dX14_fresh_73 : decode cX14_fresh 73 = .ok (.getfield 367, 3) := by decide +kernel
theorem dX14_fresh_76 : decode cX14_fresh 76 = .ok (.ifCond .eq 35, 3) := by decide +kernel
theorem dX14_fresh_79 : decode cX14_fresh 79 = .ok (.aload_n 0, 1) := by decide +kernel
theorem dX14_fresh_80 : decode cX14_fresh 80 = .ok (.getfield 299, 3) := by decide +kernel
theorem dX14_fresh_83 : decode cX14_fresh 83 = .ok (.aload_n 1, 1) := by decide +kernel
theorem dX14_fresh_84 : decode cX14_fresh 84 = .ok (.getfield 370, 3) := by decide +kernel
theorem dX14_fresh_87 : decode cX14_fresh 87 = .ok (.invokestatic 529, 3) := by decide +kernel
theorem dX14_fresh_90 : decode cX14_fresh 90 = .ok (.ifCond .eq 21, 3) := by decide +kernel
theorem dX14_fresh_93 : decode cX14_fresh 93 = .ok (.aload_n 1, 1) := by decide +kernel
theorem dX14_fresh_94 : decode cX14_fresh 94 = .ok (.iconst 0, 1) := by decide +kernel
theorem dX14_fresh_95 : decode cX14_fresh 95 = .ok (.putfield 367, 3) := by decide +kernel
theorem dX14_fresh_98 : decode cX14_fresh 98 = .ok (.aload_n 1, 1) := by decide +kernel
theorem dX14_fresh_99 : decode cX14_fresh 99 = .ok (.aload_n 0, 1) := by decide +kernel
theorem dX14_fresh_100 : decode cX14_fresh 100 = .ok (.getfield 134, 3) := by decide +kernel
theorem dX14_fresh_103 : decode cX14_fresh 103 = .ok (.aload_n 1, 1) := by decide +kernel
theorem dX14_fresh_104 : decode cX14_fresh 104 = .ok (.getfield 373, 3) := by decide +kernel
theorem dX14_fresh_107 : decode cX14_fresh 107 = .ok (.isub, 1) := by decide +kernel
theorem dX14_fresh_108 : decode cX14_fresh 108 = .ok (.invokestatic 535, 3) := by decide +kernel
theorem dX14_fresh_111 : decode cX14_fresh 111 = .ok (.aload_n 1, 1) := by decide +kernel
theorem dX14_fresh_112 : decode cX14_fresh 112 = .ok (.getfield 463, 3) := by decide +kernel
theorem dX14_fresh_115 : decode cX14_fresh 115 = .ok (.ifCond .eq 19, 3) := by decide +kernel
theorem dX14_fresh_118 : decode cX14_fresh 118 = .ok (.aload_n 1, 1) := by decide +kernel
theorem dX14_fresh_119 : decode cX14_fresh 119 = .ok (.iconst 0, 1) := by decide +kernel
theorem dX14_fresh_120 : decode cX14_fresh 120 = .ok (.putfield 463, 3) := by decide +kernel
theorem dX14_fresh_123 : decode cX14_fresh 123 = .ok (.aload_n 1, 1) := by decide +kernel
theorem dX14_fresh_124 : decode cX14_fresh 124 = .ok (.aload_n 1, 1) := by decide +kernel
theorem dX14_fresh_125 : decode cX14_fresh 125 = .ok (.getfield 457, 3) := by decide +kernel
theorem dX14_fresh_128 : decode cX14_fresh 128 = .ok (.putfield 431, 3) := by decide +kernel
theorem dX14_fresh_131 : decode cX14_fresh 131 = .ok (.goto 67, 3) := by decide +kernel
theorem dX14_fresh_134 : decode cX14_fresh 134 = .ok (.aload_n 1, 1) := by decide +kernel
theorem dX14_fresh_135 : decode cX14_fresh 135 = .ok (.getfield 152, 3) := by decide +kernel
theorem dX14_fresh_138 : decode cX14_fresh 138 = .ok (.iconst 1, 1) := by decide +kernel
theorem dX14_fresh_139 : decode cX14_fresh 139 = .ok (.if_icmp .eq 59, 3) := by decide +kernel
theorem dX14_fresh_142 : decode cX14_fresh 142 = .ok (.aload_n 1, 1) := by decide +kernel
theorem dX14_fresh_143 : decode cX14_fresh 143 = .ok (.getfield 431, 3) := by decide +kernel
theorem dX14_fresh_146 : decode cX14_fresh 146 = .ok (.aload_n 1, 1) := by decide +kernel
theorem dX14_fresh_147 : decode cX14_fresh 147 = .ok (.getfield 457, 3) := by decide +kernel
theorem dX14_fresh_150 : decode cX14_fresh 150 = .ok (.if_icmp .ge 14, 3) := by decide +kernel
theorem dX14_fresh_153 : decode cX14_fresh 153 = .ok (.iload_n 2, 1) := by decide +kernel
theorem dX14_fresh_154 : decode cX14_fresh 154 = .ok (.aload_n 1, 1) := by decide +kernel
theorem dX14_fresh_155 : decode cX14_fresh 155 = .ok (.getfield 405, 3) := by decide +kernel
theorem dX14_fresh_158 : decode cX14_fresh 158 = .ok (.invokestatic 411, 3) := by decide +kernel
theorem dX14_fresh_161 : decode cX14_fresh 161 = .ok (.goto 21, 3) := by decide +kernel
theorem dX14_fresh_164 : decode cX14_fresh 164 = .ok (.iconst 1, 1) := by decide +kernel
theorem dX14_fresh_165 : decode cX14_fresh 165 = .ok (.aload_n 1, 1) := by decide +kernel
theorem dX14_fresh_166 : decode cX14_fresh 166 = .ok (.getfield 405, 3) := by decide +kernel
theorem dX14_fresh_169 : decode cX14_fresh 169 = .ok (.aload_n 1, 1) := by decide +kernel
theorem dX14_fresh_170 : decode cX14_fresh 170 = .ok (.getfield 405, 3) := by decide +kernel
theorem dX14_fresh_173 : decode cX14_fresh 173 = .ok (.imul, 1) := by decide +kernel
theorem dX14_fresh_174 : decode cX14_fresh 174 = .ok (.aload_n 1, 1) := by decide +kernel
theorem dX14_fresh_175 : decode cX14_fresh 175 = .ok (.getfield 431, 3) := by decide +kernel
theorem dX14_fresh_178 : decode cX14_fresh 178 = .ok (.idiv, 1) := by decide +kernel
theorem dX14_fresh_179 : decode cX14_fresh 179 = .ok (.invokestatic 164, 3) := by decide +kernel
theorem dX14_fresh_182 : decode cX14_fresh 182 = .ok (.istore_n 3, 1) := by decide +kernel
theorem dX14_fresh_183 : decode cX14_fresh 183 = .ok (.aload_n 1, 1) := by decide +kernel
theorem dX14_fresh_184 : decode cX14_fresh 184 = .ok (.ldc 14, 2) := by decide +kernel
theorem dX14_fresh_186 : decode cX14_fresh 186 = .ok (.aload_n 1, 1) := by decide +kernel
theorem dX14_fresh_187 : decode cX14_fresh 187 = .ok (.getfield 431, 3) := by decide +kernel
theorem dX14_fresh_190 : decode cX14_fresh 190 = .ok (.iload_n 3, 1) := by decide +kernel
theorem dX14_fresh_191 : decode cX14_fresh 191 = .ok (.iadd, 1) := by decide +kernel
theorem dX14_fresh_192 : decode cX14_fresh 192 = .ok (.invokestatic 411, 3) := by decide +kernel
theorem dX14_fresh_195 : decode cX14_fresh 195 = .ok (.putfield 431, 3) := by decide +kernel
theorem dX14_fresh_198 : decode cX14_fresh 198 = .ok (.aload_n 1, 1) := by decide +kernel
theorem dX14_fresh_199 : decode cX14_fresh 199 = .ok (.iconst 0, 1) := by decide +kernel
theorem dX14_fresh_200 : decode cX14_fresh 200 = .ok (.putfield 469, 3) := by decide +kernel
theorem dX14_fresh_203 : decode cX14_fresh 203 = .ok (.aload_n 1, 1) := by decide +kernel
theorem dX14_fresh_204 : decode cX14_fresh 204 = .ok (.aload_n 0, 1) := by decide +kernel
theorem dX14_fresh_205 : decode cX14_fresh 205 = .ok (.getfield 134, 3) := by decide +kernel
theorem dX14_fresh_208 : decode cX14_fresh 208 = .ok (.putfield 523, 3) := by decide +kernel
theorem dX14_fresh_211 : decode cX14_fresh 211 = .ok (.aload_n 1, 1) := by decide +kernel
theorem dX14_fresh_212 : decode cX14_fresh 212 = .ok (.iconst 0, 1) := by decide +kernel
theorem dX14_fresh_213 : decode cX14_fresh 213 = .ok (.putfield 376, 3) := by decide +kernel
theorem dX14_fresh_216 : decode cX14_fresh 216 = .ok (.aload_n 1, 1) := by decide +kernel
theorem dX14_fresh_217 : decode cX14_fresh 217 = .ok (.getfield 428, 3) := by decide +kernel
theorem dX14_fresh_220 : decode cX14_fresh 220 = .ok (.aload_n 1, 1) := by decide +kernel
theorem dX14_fresh_221 : decode cX14_fresh 221 = .ok (.getfield 361, 3) := by decide +kernel
theorem dX14_fresh_224 : decode cX14_fresh 224 = .ok (.invokestatic 363, 3) := by decide +kernel
theorem dX14_fresh_227 : decode cX14_fresh 227 = .ok (.ifCond .eq 8, 3) := by decide +kernel
theorem dX14_fresh_230 : decode cX14_fresh 230 = .ok (.aload_n 0, 1) := by decide +kernel
theorem dX14_fresh_231 : decode cX14_fresh 231 = .ok (.aload_n 1, 1) := by decide +kernel
theorem dX14_fresh_232 : decode cX14_fresh 232 = .ok (.invokevirtual 379, 3) := by decide +kernel
theorem dX14_fresh_235 : decode cX14_fresh 235 = .ok (.return_, 1) := by decide +kernel
def rmX14_fresh : Room := { frames := 2, cells := 0, slots := 0, locals := 48 }
theorem kX14_fresh : yX14_fresh.cls = "WebHostModel" ∧ yX14_fresh.cls ≠ "java/lang/invoke/MethodHandle" ∧ yX14_fresh.cls ≠ "java/lang/invoke/VarHandle" ∧ (parseMethodDescriptor yX14_fresh.desc).map (fun d => d.parameters.length) = some 1 := by decide +kernel
def w14_fresh_J198 (σ : St) (o1 : Nat) (Q : St → Prop) : Prop := ∀ σ6, σ6 = up3 σ 15 o1 24 0 → (∀ σ7, σ7 = up3 σ6 15 o1 44 (σ6 14 0 10) → (∀ σ8, σ8 = up3 σ7 15 o1 21 0 → (w14_before σ8 (σ8 15 o1 4) (σ8 15 o1 6) (fun r9 => ((r9 = 0 → Q σ8) ∧ (¬ r9 = 0 → (w14_timerSet σ8 o1 (fun σ10 => (Q σ10)))))))))
set_option maxHeartbeats 4000000 in
theorem k14_fresh_J198 {p : Program} {l : Launch} {e : Env} {s : State} {m : MethodId} {args : Array Value} {below : List Frame} {meth : Method} {c : Code} {G : Gh} {a1 : Nat → Nat → Nat} {τ : St} {Q : St → Prop} (C : Cx p e s m args meth c cX14_fresh 4 none "WebHostModel" G) (σ : St) (o1 : Nat) (ho1 : o1 < 16) (hw : w14_fresh_J198 σ o1 Q) (H : Heap) (locs : List Loc) (ls : Array Slot) (hH : Hd G a1 (cmb τ σ) H) (hS : va_S (gA G) s.heap H locs) (hl : lv_has ls 4 [(0, .ref (ga G 14 0)), (1, .ref (ga G 15 o1))]) : W p l e rmX14_fresh s m args below meth c H locs 0 0 (MQ below (QVs G a1 (fun u => cmb τ u) Q) args s 0 0 (gA G)) (F0 m 198 ls []) := by
  have hx := C.1
  have hb := C.2.1
  have hown := C.2.2.2.2.2.1
  have hts := C.2.2.2.2.2.2.1
  refine lv_aload_n hx hb dX14_fresh_198 rfl (lv_at hl 1 rfl) ?_
  refine lv_iconst (v := 0) hx hb dX14_fresh_199 (by decide) ?_
  refine p15_24 C hH hS ho1 q1731 dX14_fresh_200 (fun σ6 e6 H locs hH hS => ?_)
  have hw := hw σ6 e6
  refine lv_aload_n hx hb dX14_fresh_203 rfl (lv_at hl 1 rfl) ?_
  refine lv_aload_n hx hb dX14_fresh_204 rfl (lv_at hl 0 rfl) ?_
  refine g14_10 C hH q1950 dX14_fresh_205 ?_
  refine p15_44 C hH hS ho1 q1761 dX14_fresh_208 (fun σ7 e7 H locs hH hS => ?_)
  have hw := hw σ7 e7
  refine lv_aload_n hx hb dX14_fresh_211 rfl (lv_at hl 1 rfl) ?_
  refine lv_iconst (v := 0) hx hb dX14_fresh_212 (by decide) ?_
  refine p15_21 C hH hS ho1 (Or.inl rfl) q1728 dX14_fresh_213 (fun σ8 e8 H locs hH hS => ?_)
  have hw := hw σ8 e8
  refine lv_aload_n hx hb dX14_fresh_216 rfl (lv_at hl 1 rfl) ?_
  refine g15_4 C hH ho1 q1711 dX14_fresh_217 ?_
  refine lv_aload_n hx hb dX14_fresh_220 rfl (lv_at hl 1 rfl) ?_
  refine g15_6 C hH ho1 q1713 dX14_fresh_221 ?_
  refine kc_ip (rn_sp (As := [.int (σ8 15 o1 4), .int (σ8 15 o1 6)]) (rest := []) C hH hS (m14_before l G a1 τ σ8 H (σ8 15 o1 4) (σ8 15 o1 6) _ hw) (va_cwS 2 hts (lw_S q2294 q2295 q171 q2296) rfl rfl rfl kX14_before.2 ⟨Nat.le_of_ble_eq_true rfl, Nat.le_of_ble_eq_true rfl⟩) rfl hl.1 rfl (Nat.le_of_ble_eq_true rfl) dX14_fresh_224 ⟨Nat.le_of_ble_eq_true rfl, Nat.le_of_ble_eq_true rfl⟩) hS (fun r9 locs hw hS => ?_)
  refine lv_if_eq (tgt := 235) hx hb dX14_fresh_227 (by decide) (fun h => ?_) (fun h => ?_)
  · have hw := hw.1 h
    exact rt_v C hH hS hw dX14_fresh_235
  have hw := hw.2 h
  refine lv_aload_n hx hb dX14_fresh_230 rfl (lv_at hl 0 rfl) ?_
  refine lv_aload_n hx hb dX14_fresh_231 rfl (lv_at hl 1 rfl) ?_
  refine kc_v (rn_v (As := [.ref (ga G 15 o1)]) (rest := []) C hH hS (by decide) rfl (by decide) (m14_timerSet l G a1 τ σ8 o1 ho1 _ hw) (cwV 1 hts (lw_V q2297 q2299 qs98 q171 q2300) rfl rfl rfl kX14_timerSet ⟨Nat.le_of_ble_eq_true rfl, Nat.le_of_ble_eq_true rfl⟩) rfl hl.1 rfl (Nat.le_of_ble_eq_true rfl) dX14_fresh_232 ⟨Nat.le_of_ble_eq_true rfl, Nat.le_of_ble_eq_true rfl⟩) hS (fun σ10 H locs hw hH hS => ?_)
  exact rt_v C hH hS hw dX14_fresh_235
def w14_fresh_J111 (σ : St) (o1 : Nat) (x2 : Int32) (Q : St → Prop) : Prop := bo (σ 15 o1 18) → (((σ 15 o1 18) = 0 → (((σ 15 o1 0) = 1 → w14_fresh_J198 σ o1 Q) ∧ (¬ (σ 15 o1 0) = 1 → (((σ 15 o1 12) ≤ (σ 15 o1 11) → (¬ (σ 15 o1 11) = 0 ∧ (∀ σ11, σ11 = up3 σ 15 o1 11 (imin 65535 ((σ 15 o1 11) + (imax 1 (((σ 15 o1 10) * (σ 15 o1 10)) / (σ 15 o1 11))))) → (w14_fresh_J198 σ11 o1 Q)))) ∧ (¬ (σ 15 o1 12) ≤ (σ 15 o1 11) → (∀ σ12, σ12 = up3 σ 15 o1 11 (imin 65535 ((σ 15 o1 11) + (imin x2 (σ 15 o1 10)))) → (w14_fresh_J198 σ12 o1 Q))))))) ∧ (¬ (σ 15 o1 18) = 0 → (∀ σ13, σ13 = up3 σ 15 o1 18 0 → (∀ σ14, σ14 = up3 σ13 15 o1 11 (σ13 15 o1 12) → (w14_fresh_J198 σ14 o1 Q)))))
set_option maxHeartbeats 4000000 in
theorem k14_fresh_J111 {p : Program} {l : Launch} {e : Env} {s : State} {m : MethodId} {args : Array Value} {below : List Frame} {meth : Method} {c : Code} {G : Gh} {a1 : Nat → Nat → Nat} {τ : St} {Q : St → Prop} (C : Cx p e s m args meth c cX14_fresh 4 none "WebHostModel" G) (σ : St) (o1 : Nat) (x2 : Int32) (ho1 : o1 < 16) (hw : w14_fresh_J111 σ o1 x2 Q) (H : Heap) (locs : List Loc) (ls : Array Slot) (hH : Hd G a1 (cmb τ σ) H) (hS : va_S (gA G) s.heap H locs) (hl : lv_has ls 4 [(0, .ref (ga G 14 0)), (1, .ref (ga G 15 o1)), (2, .int x2)]) : W p l e rmX14_fresh s m args below meth c H locs 0 0 (MQ below (QVs G a1 (fun u => cmb τ u) Q) args s 0 0 (gA G)) (F0 m 111 ls []) := by
  have hx := C.1
  have hb := C.2.1
  have hown := C.2.2.2.2.2.1
  have hts := C.2.2.2.2.2.2.1
  refine lv_aload_n hx hb dX14_fresh_111 rfl (lv_at hl 1 rfl) ?_
  refine g15_18 C hH ho1 q1725 dX14_fresh_112 (fun hz => ?_)
  have hw := hw hz
  refine lv_if_eq (tgt := 134) hx hb dX14_fresh_115 (by decide) (fun h => ?_) (fun h => ?_)
  · have hw := hw.1 h
    refine lv_aload_n hx hb dX14_fresh_134 rfl (lv_at hl 1 rfl) ?_
    refine g15_0 C hH ho1 q1707 dX14_fresh_135 ?_
    refine lv_iconst (v := 1) hx hb dX14_fresh_138 (by decide) ?_
    refine lv_icmp_eq (tgt := 198) hx hb dX14_fresh_139 (by decide) (fun h => ?_) (fun h => ?_)
    · have hw := hw.1 h
      exact k14_fresh_J198 C σ o1 ho1 hw H locs ls hH hS (lv_sub hl [0, 1] rfl)
    have hw := hw.2 h
    refine lv_aload_n hx hb dX14_fresh_142 rfl (lv_at hl 1 rfl) ?_
    refine g15_11 C hH ho1 q1718 dX14_fresh_143 ?_
    refine lv_aload_n hx hb dX14_fresh_146 rfl (lv_at hl 1 rfl) ?_
    refine g15_12 C hH ho1 q1719 dX14_fresh_147 ?_
    refine lv_icmp_ge (tgt := 164) hx hb dX14_fresh_150 (by decide) (fun h => ?_) (fun h => ?_)
    · have hw := hw.1 h
      refine lv_iconst (v := 1) hx hb dX14_fresh_164 (by decide) ?_
      refine lv_aload_n hx hb dX14_fresh_165 rfl (lv_at hl 1 rfl) ?_
      refine g15_10 C hH ho1 q1717 dX14_fresh_166 ?_
      refine lv_aload_n hx hb dX14_fresh_169 rfl (lv_at hl 1 rfl) ?_
      refine g15_10 C hH ho1 q1717 dX14_fresh_170 ?_
      refine lv_imul hx hb dX14_fresh_173 ?_
      refine lv_aload_n hx hb dX14_fresh_174 rfl (lv_at hl 1 rfl) ?_
      refine g15_11 C hH ho1 q1718 dX14_fresh_175 ?_
      refine lv_idiv hx hb dX14_fresh_178 hw.1 ?_
      have hw := hw.2
      refine r_imax C hl.1 q2226 (Nat.le_of_ble_eq_true rfl) (Nat.le_of_ble_eq_true rfl) (Nat.zero_le _) (Nat.zero_le _) dX14_fresh_179 ?_
      refine lv_istore_n (lv' := [(3, .int (imax 1 (((σ 15 o1 10) * (σ 15 o1 10)) / (σ 15 o1 11)))), (0, .ref (ga G 14 0)), (1, .ref (ga G 15 o1)), (2, .int x2)]) hx hb dX14_fresh_182 rfl hl (by decide) rfl (fun ls hl => ?_)
      refine lv_aload_n hx hb dX14_fresh_183 rfl (lv_at hl 2 rfl) ?_
      refine lv_ldc (v := 65535) hx hb hown (hts _ q1692) dX14_fresh_184 ?_
      refine lv_aload_n hx hb dX14_fresh_186 rfl (lv_at hl 2 rfl) ?_
      refine g15_11 C hH ho1 q1718 dX14_fresh_187 ?_
      refine lv_iload_n hx hb dX14_fresh_190 rfl (lv_at hl 0 rfl) ?_
      refine lv_iadd hx hb dX14_fresh_191 ?_
      refine r_imin C hl.1 q2281 (Nat.le_of_ble_eq_true rfl) (Nat.le_of_ble_eq_true rfl) (Nat.zero_le _) (Nat.zero_le _) dX14_fresh_192 ?_
      refine p15_11 C hH hS ho1 q1718 dX14_fresh_195 (fun σ11 e11 H locs hH hS => ?_)
      have hw := hw σ11 e11
      exact k14_fresh_J198 C σ11 o1 ho1 hw H locs ls hH hS (lv_sub hl [1, 2] rfl)
    have hw := hw.2 h
    refine lv_iload_n hx hb dX14_fresh_153 rfl (lv_at hl 2 rfl) ?_
    refine lv_aload_n hx hb dX14_fresh_154 rfl (lv_at hl 1 rfl) ?_
    refine g15_10 C hH ho1 q1717 dX14_fresh_155 ?_
    refine r_imin C hl.1 q2281 (Nat.le_of_ble_eq_true rfl) (Nat.le_of_ble_eq_true rfl) (Nat.zero_le _) (Nat.zero_le _) dX14_fresh_158 ?_
    refine lv_goto (tgt := 182) hx hb dX14_fresh_161 (by decide) ?_
    refine lv_istore_n (lv' := [(3, .int (imin x2 (σ 15 o1 10))), (0, .ref (ga G 14 0)), (1, .ref (ga G 15 o1)), (2, .int x2)]) hx hb dX14_fresh_182 rfl hl (by decide) rfl (fun ls hl => ?_)
    refine lv_aload_n hx hb dX14_fresh_183 rfl (lv_at hl 2 rfl) ?_
    refine lv_ldc (v := 65535) hx hb hown (hts _ q1692) dX14_fresh_184 ?_
    refine lv_aload_n hx hb dX14_fresh_186 rfl (lv_at hl 2 rfl) ?_
    refine g15_11 C hH ho1 q1718 dX14_fresh_187 ?_
    refine lv_iload_n hx hb dX14_fresh_190 rfl (lv_at hl 0 rfl) ?_
    refine lv_iadd hx hb dX14_fresh_191 ?_
    refine r_imin C hl.1 q2281 (Nat.le_of_ble_eq_true rfl) (Nat.le_of_ble_eq_true rfl) (Nat.zero_le _) (Nat.zero_le _) dX14_fresh_192 ?_
    refine p15_11 C hH hS ho1 q1718 dX14_fresh_195 (fun σ12 e12 H locs hH hS => ?_)
    have hw := hw σ12 e12
    exact k14_fresh_J198 C σ12 o1 ho1 hw H locs ls hH hS (lv_sub hl [1, 2] rfl)
  have hw := hw.2 h
  refine lv_aload_n hx hb dX14_fresh_118 rfl (lv_at hl 1 rfl) ?_
  refine lv_iconst (v := 0) hx hb dX14_fresh_119 (by decide) ?_
  refine p15_18 C hH hS ho1 (Or.inl rfl) q1725 dX14_fresh_120 (fun σ13 e13 H locs hH hS => ?_)
  have hw := hw σ13 e13
  refine lv_aload_n hx hb dX14_fresh_123 rfl (lv_at hl 1 rfl) ?_
  refine lv_aload_n hx hb dX14_fresh_124 rfl (lv_at hl 1 rfl) ?_
  refine g15_12 C hH ho1 q1719 dX14_fresh_125 ?_
  refine p15_11 C hH hS ho1 q1718 dX14_fresh_128 (fun σ14 e14 H locs hH hS => ?_)
  have hw := hw σ14 e14
  refine lv_goto (tgt := 198) hx hb dX14_fresh_131 (by decide) ?_
  exact k14_fresh_J198 C σ14 o1 ho1 hw H locs ls hH hS (lv_sub hl [0, 1] rfl)
def w14_fresh_J67 (σ : St) (o1 : Nat) (x2 : Int32) (Q : St → Prop) : Prop := ∀ σ5, σ5 = up3 σ 15 o1 23 0 → (bo (σ5 15 o1 17) → (((σ5 15 o1 17) = 0 → w14_fresh_J111 σ5 o1 x2 Q) ∧ (¬ (σ5 15 o1 17) = 0 → (w14_isBehind σ5 (σ5 14 0 35) (σ5 15 o1 19) (fun r15 => ((r15 = 0 → w14_fresh_J111 σ5 o1 x2 Q) ∧ (¬ r15 = 0 → (∀ σ16, σ16 = up3 σ5 15 o1 17 0 → (w14_measure σ16 o1 ((σ16 14 0 10) - (σ16 15 o1 20)) (fun σ17 => (w14_fresh_J111 σ17 o1 x2 Q)))))))))))
set_option maxHeartbeats 4000000 in
theorem k14_fresh_J67 {p : Program} {l : Launch} {e : Env} {s : State} {m : MethodId} {args : Array Value} {below : List Frame} {meth : Method} {c : Code} {G : Gh} {a1 : Nat → Nat → Nat} {τ : St} {Q : St → Prop} (C : Cx p e s m args meth c cX14_fresh 4 none "WebHostModel" G) (σ : St) (o1 : Nat) (x2 : Int32) (ho1 : o1 < 16) (hw : w14_fresh_J67 σ o1 x2 Q) (H : Heap) (locs : List Loc) (ls : Array Slot) (hH : Hd G a1 (cmb τ σ) H) (hS : va_S (gA G) s.heap H locs) (hl : lv_has ls 4 [(0, .ref (ga G 14 0)), (1, .ref (ga G 15 o1)), (2, .int x2)]) : W p l e rmX14_fresh s m args below meth c H locs 0 0 (MQ below (QVs G a1 (fun u => cmb τ u) Q) args s 0 0 (gA G)) (F0 m 67 ls []) := by
  have hx := C.1
  have hb := C.2.1
  have hown := C.2.2.2.2.2.1
  have hts := C.2.2.2.2.2.2.1
  refine lv_aload_n hx hb dX14_fresh_67 rfl (lv_at hl 1 rfl) ?_
  refine lv_iconst (v := 0) hx hb dX14_fresh_68 (by decide) ?_
  refine p15_23 C hH hS ho1 q1730 dX14_fresh_69 (fun σ5 e5 H locs hH hS => ?_)
  have hw := hw σ5 e5
  refine lv_aload_n hx hb dX14_fresh_72 rfl (lv_at hl 1 rfl) ?_
  refine g15_17 C hH ho1 q1724 dX14_fresh_73 (fun hz => ?_)
  have hw := hw hz
  refine lv_if_eq (tgt := 111) hx hb dX14_fresh_76 (by decide) (fun h => ?_) (fun h => ?_)
  · have hw := hw.1 h
    exact k14_fresh_J111 C σ5 o1 x2 ho1 hw H locs ls hH hS (lv_sub hl [0, 1, 2] rfl)
  have hw := hw.2 h
  refine lv_aload_n hx hb dX14_fresh_79 rfl (lv_at hl 0 rfl) ?_
  refine g14_35 C hH q1975 dX14_fresh_80 ?_
  refine lv_aload_n hx hb dX14_fresh_83 rfl (lv_at hl 1 rfl) ?_
  refine g15_19 C hH ho1 q1726 dX14_fresh_84 ?_
  refine kc_ip (rn_sp (As := [.int (σ5 14 0 35), .int (σ5 15 o1 19)]) (rest := []) C hH hS (m14_isBehind l G a1 τ σ5 H (σ5 14 0 35) (σ5 15 o1 19) _ hw) (va_cwS 2 hts (lw_S q2413 q2414 q171 q2415) rfl rfl rfl kX14_isBehind.2 ⟨Nat.le_of_ble_eq_true rfl, Nat.le_of_ble_eq_true rfl⟩) rfl hl.1 rfl (Nat.le_of_ble_eq_true rfl) dX14_fresh_87 ⟨Nat.le_of_ble_eq_true rfl, Nat.le_of_ble_eq_true rfl⟩) hS (fun r15 locs hw hS => ?_)
  refine lv_if_eq (tgt := 111) hx hb dX14_fresh_90 (by decide) (fun h => ?_) (fun h => ?_)
  · have hw := hw.1 h
    exact k14_fresh_J111 C σ5 o1 x2 ho1 hw H locs ls hH hS (lv_sub hl [0, 1, 2] rfl)
  have hw := hw.2 h
  refine lv_aload_n hx hb dX14_fresh_93 rfl (lv_at hl 1 rfl) ?_
  refine lv_iconst (v := 0) hx hb dX14_fresh_94 (by decide) ?_
  refine p15_17 C hH hS ho1 (Or.inl rfl) q1724 dX14_fresh_95 (fun σ16 e16 H locs hH hS => ?_)
  have hw := hw σ16 e16
  refine lv_aload_n hx hb dX14_fresh_98 rfl (lv_at hl 1 rfl) ?_
  refine lv_aload_n hx hb dX14_fresh_99 rfl (lv_at hl 0 rfl) ?_
  refine g14_10 C hH q1950 dX14_fresh_100 ?_
  refine lv_aload_n hx hb dX14_fresh_103 rfl (lv_at hl 1 rfl) ?_
  refine g15_20 C hH ho1 q1727 dX14_fresh_104 ?_
  refine lv_isub hx hb dX14_fresh_107 ?_
  refine kc_v (rn_s (As := [.ref (ga G 15 o1), .int ((σ16 14 0 10) - (σ16 15 o1 20))]) (rest := []) C hH hS (m14_measure l G a1 τ σ16 o1 ((σ16 14 0 10) - (σ16 15 o1 20)) ho1 _ hw) (va_cwS 2 hts (lw_S q2416 q2417 q171 q2418) rfl rfl rfl kX14_measure.2 ⟨Nat.le_of_ble_eq_true rfl, Nat.le_of_ble_eq_true rfl⟩) rfl hl.1 rfl (Nat.le_of_ble_eq_true rfl) dX14_fresh_108 ⟨Nat.le_of_ble_eq_true rfl, Nat.le_of_ble_eq_true rfl⟩) hS (fun σ17 H locs hw hH hS => ?_)
  exact k14_fresh_J111 C σ17 o1 x2 ho1 hw H locs ls hH hS (lv_sub hl [0, 1, 2] rfl)
def w14_fresh (σ : St) (o1 : Nat) (Q : St → Prop) : Prop := vp_in 6 8 ∧ (vp_in 6 8 ∧ (∀ σ1, σ1 = up3 σ 56 0 (6 : Int32).toNatClampNeg ((σ 56 0 (6 : Int32).toNatClampNeg) + 1) → (vp_in 7 8 ∧ (vp_in 7 8 ∧ (∀ σ2, σ2 = up3 σ1 56 0 (7 : Int32).toNatClampNeg ((σ1 56 0 (7 : Int32).toNatClampNeg) + ((σ 14 0 35) - (σ 15 o1 4))) → (∀ σ3, σ3 = up3 σ2 15 o1 4 (σ2 14 0 35) → (w14_before σ3 (σ3 15 o1 5) (σ3 15 o1 4) (fun r4 => ((r4 = 0 → (w14_fresh_J67 σ3 o1 ((σ 14 0 35) - (σ 15 o1 4)) Q)) ∧ (¬ r4 = 0 → (∀ σ18, σ18 = up3 σ3 15 o1 5 (σ3 15 o1 4) → (w14_fresh_J67 σ18 o1 ((σ 14 0 35) - (σ 15 o1 4)) Q))))))))))))
set_option maxHeartbeats 4000000 in
theorem m14_fresh (l : Launch) (G : Gh) (a1 : Nat → Nat → Nat) (τ : St) (σ : St) (o1 : Nat) (ho1 : o1 < 16) (Q : St → Prop) (hw : w14_fresh σ o1 Q) : Met l yX14_fresh (ws_ yX14_fresh cX14_fresh 4 none) rmX14_fresh (PcS G a1 (cmb τ σ) [.ref (ga G 14 0), .ref (ga G 15 o1)]) (QVs G a1 (fun u => cmb τ u) Q) 0 0 (gA G) := by
  refine met_w (by decide) (Nat.le_of_ble_eq_true rfl) ?_
  intro p e s m below meth c ls C hH hS hl
  have C : Cx p e s m _ meth c cX14_fresh 4 none "WebHostModel" G := C
  have hl : lv_has ls 4 [(0, .ref (ga G 14 0)), (1, .ref (ga G 15 o1))] := hl
  have hx := C.1
  have hb := C.2.1
  have hown := C.2.2.2.2.2.1
  have hts := C.2.2.2.2.2.2.1
  obtain ⟨locs, hlocs⟩ : ∃ z : List Loc, z = [] := ⟨_, rfl⟩
  obtain ⟨H, hHe⟩ : ∃ z : Heap, z = s.heap := ⟨_, rfl⟩
  have hH : Hd G a1 (cmb τ σ) H := by rw [hHe]; exact hH
  have hS : va_S (gA G) s.heap H locs := by rw [hHe, hlocs]; exact hS
  refine W.heap0 hHe.symm hlocs.symm ?_
  refine lv_aload_n hx hb dX14_fresh_0 rfl (lv_at hl 0 rfl) ?_
  refine g14_35 C hH q1975 dX14_fresh_1 ?_
  refine lv_aload_n hx hb dX14_fresh_4 rfl (lv_at hl 1 rfl) ?_
  refine g15_4 C hH ho1 q1711 dX14_fresh_5 ?_
  refine lv_isub hx hb dX14_fresh_8 ?_
  refine lv_istore_n (lv' := [(2, .int ((σ 14 0 35) - (σ 15 o1 4))), (0, .ref (ga G 14 0)), (1, .ref (ga G 15 o1))]) hx hb dX14_fresh_9 rfl hl (by decide) rfl (fun ls hl => ?_)
  refine lv_aload_n hx hb dX14_fresh_10 rfl (lv_at hl 1 rfl) ?_
  refine g14_17 C hH q1957 dX14_fresh_11 ?_
  refine lv_bipush (v := 6) hx hb dX14_fresh_14 (by decide) ?_
  refine lv_dup2_11 hx hb dX14_fresh_16 rfl rfl ?_
  refine l56 C hH hw.1 dX14_fresh_17 ?_
  have hw := hw.2
  refine lv_iconst (v := 1) hx hb dX14_fresh_18 (by decide) ?_
  refine lv_iadd hx hb dX14_fresh_19 ?_
  refine s56 C hH hS hw.1 dX14_fresh_20 (fun σ1 e1 H locs hH hS => ?_)
  have hw := hw.2 σ1 e1
  refine lv_aload_n hx hb dX14_fresh_21 rfl (lv_at hl 1 rfl) ?_
  refine g14_17 C hH q1957 dX14_fresh_22 ?_
  refine lv_bipush (v := 7) hx hb dX14_fresh_25 (by decide) ?_
  refine lv_aload_n hx hb dX14_fresh_27 rfl (lv_at hl 1 rfl) ?_
  refine g14_17 C hH q1957 dX14_fresh_28 ?_
  refine lv_bipush (v := 7) hx hb dX14_fresh_31 (by decide) ?_
  refine l56 C hH hw.1 dX14_fresh_33 ?_
  have hw := hw.2
  refine lv_iload_n hx hb dX14_fresh_34 rfl (lv_at hl 0 rfl) ?_
  refine lv_iadd hx hb dX14_fresh_35 ?_
  refine s56 C hH hS hw.1 dX14_fresh_36 (fun σ2 e2 H locs hH hS => ?_)
  have hw := hw.2 σ2 e2
  refine lv_aload_n hx hb dX14_fresh_37 rfl (lv_at hl 2 rfl) ?_
  refine lv_aload_n hx hb dX14_fresh_38 rfl (lv_at hl 1 rfl) ?_
  refine g14_35 C hH q1975 dX14_fresh_39 ?_
  refine p15_4 C hH hS ho1 q1711 dX14_fresh_42 (fun σ3 e3 H locs hH hS => ?_)
  have hw := hw σ3 e3
  refine lv_aload_n hx hb dX14_fresh_45 rfl (lv_at hl 2 rfl) ?_
  refine g15_5 C hH ho1 q1712 dX14_fresh_46 ?_
  refine lv_aload_n hx hb dX14_fresh_49 rfl (lv_at hl 2 rfl) ?_
  refine g15_4 C hH ho1 q1711 dX14_fresh_50 ?_
  refine kc_ip (rn_sp (As := [.int (σ3 15 o1 5), .int (σ3 15 o1 4)]) (rest := []) C hH hS (m14_before l G a1 τ σ3 H (σ3 15 o1 5) (σ3 15 o1 4) _ hw) (va_cwS 2 hts (lw_S q2294 q2295 q171 q2296) rfl rfl rfl kX14_before.2 ⟨Nat.le_of_ble_eq_true rfl, Nat.le_of_ble_eq_true rfl⟩) rfl hl.1 rfl (Nat.le_of_ble_eq_true rfl) dX14_fresh_53 ⟨Nat.le_of_ble_eq_true rfl, Nat.le_of_ble_eq_true rfl⟩) hS (fun r4 locs hw hS => ?_)
  refine lv_if_eq (tgt := 67) hx hb dX14_fresh_56 (by decide) (fun h => ?_) (fun h => ?_)
  · have hw := hw.1 h
    exact k14_fresh_J67 C σ3 o1 ((σ 14 0 35) - (σ 15 o1 4)) ho1 hw H locs ls hH hS (lv_sub hl [1, 2, 0] rfl)
  have hw := hw.2 h
  refine lv_aload_n hx hb dX14_fresh_59 rfl (lv_at hl 2 rfl) ?_
  refine lv_aload_n hx hb dX14_fresh_60 rfl (lv_at hl 2 rfl) ?_
  refine g15_4 C hH ho1 q1711 dX14_fresh_61 ?_
  refine p15_5 C hH hS ho1 q1712 dX14_fresh_64 (fun σ18 e18 H locs hH hS => ?_)
  have hw := hw σ18 e18
  exact k14_fresh_J67 C σ18 o1 ((σ 14 0 35) - (σ 15 o1 4)) ho1 hw H locs ls hH hS (lv_sub hl [1, 2, 0] rfl)
/-! WebHostModel.hexadecimal(I)I -/
abbrev cX14_hexadecimal : ByteArray := prog_17_method_96_code
def yX14_hexadecimal : MethodName := ⟨RX14, "hexadecimal", "(I)I"⟩
theorem dX14_hexadecimal_0 : decode cX14_hexadecimal 0 = .ok (.iload_n 0, 1) := by decide +kernel
theorem dX14_hexadecimal_1 : decode cX14_hexadecimal 1 = .ok (.invokestatic 728, 3) := by decide +kernel
theorem dX14_hexadecimal_4 : decode cX14_hexadecimal 4 = .ok (.ifCond .eq 10, 3) := by decide +kernel
theorem dX14_hexadecimal_7 : decode cX14_hexadecimal 7 = .ok (.iload_n 0, 1) := by decide +kernel
theorem dX14_hexadecimal_8 : decode cX14_hexadecimal 8 = .ok (.bipush 48, 2) := by decide +kernel
theorem dX14_hexadecimal_10 : decode cX14_hexadecimal 10 = .ok (.isub, 1) := by decide +kernel
theorem dX14_hexadecimal_11 : decode cX14_hexadecimal 11 = .ok (.goto 35, 3) := by decide +kernel
theorem dX14_hexadecimal_14 : decode cX14_hexadecimal 14 = .ok (.iload_n 0, 1) := by decide +kernel
theorem dX14_hexadecimal_15 : decode cX14_hexadecimal 15 = .ok (.invokestatic 725, 3) := by decide +kernel
theorem dX14_hexadecimal_18 : decode cX14_hexadecimal 18 = .ok (.bipush 97, 2) := by decide +kernel
theorem dX14_hexadecimal_20 : decode cX14_hexadecimal 20 = .ok (.if_icmp .lt 25, 3) := by decide +kernel
theorem dX14_hexadecimal_23 : decode cX14_hexadecimal 23 = .ok (.iload_n 0, 1) := by decide +kernel
theorem dX14_hexadecimal_24 : decode cX14_hexadecimal 24 = .ok (.invokestatic 725, 3) := by decide +kernel
theorem dX14_hexadecimal_27 : decode cX14_hexadecimal 27 = .ok (.bipush 102, 2) := by decide +kernel
theorem dX14_hexadecimal_29 : decode cX14_hexadecimal 29 = .ok (.if_icmp .gt 16, 3) := by decide +kernel
theorem dX14_hexadecimal_32 : decode cX14_hexadecimal 32 = .ok (.iload_n 0, 1) := by decide +kernel
theorem dX14_hexadecimal_33 : decode cX14_hexadecimal 33 = .ok (.invokestatic 725, 3) := by decide +kernel
theorem dX14_hexadecimal_36 : decode cX14_hexadecimal 36 = .ok (.bipush 97, 2) := by decide +kernel
theorem dX14_hexadecimal_38 : decode cX14_hexadecimal 38 = .ok (.isub, 1) := by decide +kernel
theorem dX14_hexadecimal_39 : decode cX14_hexadecimal 39 = .ok (.bipush 10, 2) := by decide +kernel
theorem dX14_hexadecimal_41 : decode cX14_hexadecimal 41 = .ok (.iadd, 1) := by decide +kernel
theorem dX14_hexadecimal_42 : decode cX14_hexadecimal 42 = .ok (.goto 4, 3) := by decide +kernel
theorem dX14_hexadecimal_45 : decode cX14_hexadecimal 45 = .ok (.iconst (-1), 1) := by decide +kernel
theorem dX14_hexadecimal_46 : decode cX14_hexadecimal 46 = .ok (.ireturn, 1) := by decide +kernel
def rmX14_hexadecimal : Room := { frames := 1, cells := 0, slots := 0, locals := 20 }
theorem kX14_hexadecimal : yX14_hexadecimal.cls = "WebHostModel" ∧ yX14_hexadecimal.cls ≠ "java/lang/invoke/MethodHandle" ∧ yX14_hexadecimal.cls ≠ "java/lang/invoke/VarHandle" ∧ (parseMethodDescriptor yX14_hexadecimal.desc).map (fun d => d.parameters.length) = some 1 := by decide +kernel
def w14_hexadecimal (σ : St) (x0 : Int32) (Q : Int32 → Prop) : Prop := w14_isDigit σ x0 (fun r1 => ((r1 = 0 → (w14_small σ x0 (fun r2 => ((r2 < 97 → (Q (-1))) ∧ (¬ r2 < 97 → (w14_small σ x0 (fun r3 => ((102 < r3 → (Q (-1))) ∧ (¬ 102 < r3 → (w14_small σ x0 (fun r4 => (Q ((r4 - 97) + 10))))))))))))) ∧ (¬ r1 = 0 → (Q (x0 - 48)))))
set_option maxHeartbeats 4000000 in
theorem m14_hexadecimal (l : Launch) (G : Gh) (a1 : Nat → Nat → Nat) (τ : St) (σ : St) (H : Heap) (x0 : Int32) (Q : Int32 → Prop) (hw : w14_hexadecimal σ x0 Q) : Met l yX14_hexadecimal (ws_ yX14_hexadecimal cX14_hexadecimal 1 (some .int)) rmX14_hexadecimal (PcP G a1 (cmb τ σ) H [.int x0]) (QIp G H Q) 0 0 (gA G) := by
  refine met_p (by decide) (Nat.le_of_ble_eq_true rfl) ?_
  intro p e s m below meth c ls hHe C hH hS hl
  have C : Cx p e s m _ meth c cX14_hexadecimal 1 (some .int) "WebHostModel" G := C
  have hl : lv_has ls 1 [(0, .int x0)] := hl
  have hx := C.1
  have hb := C.2.1
  have hown := C.2.2.2.2.2.1
  have hts := C.2.2.2.2.2.2.1
  obtain ⟨locs, hlocs⟩ : ∃ z : List Loc, z = [] := ⟨_, rfl⟩
  rw [← hlocs] at hS ⊢
  refine lv_iload_n hx hb dX14_hexadecimal_0 rfl (lv_at hl 0 rfl) ?_
  refine kc_ip (rn_sp (As := [.int x0]) (rest := []) C hH hS (m14_isDigit l G a1 τ σ H x0 _ hw) (va_cwS 1 hts (lw_S q2499 q2500 q171 q2501) rfl rfl rfl kX14_isDigit.2 ⟨Nat.le_of_ble_eq_true rfl, Nat.le_of_ble_eq_true rfl⟩) rfl hl.1 rfl (Nat.le_of_ble_eq_true rfl) dX14_hexadecimal_1 ⟨Nat.le_of_ble_eq_true rfl, Nat.le_of_ble_eq_true rfl⟩) hS (fun r1 locs hw hS => ?_)
  refine lv_if_eq (tgt := 14) hx hb dX14_hexadecimal_4 (by decide) (fun h => ?_) (fun h => ?_)
  · have hw := hw.1 h
    refine lv_iload_n hx hb dX14_hexadecimal_14 rfl (lv_at hl 0 rfl) ?_
    refine kc_ip (rn_sp (As := [.int x0]) (rest := []) C hH hS (m14_small l G a1 τ σ H x0 _ hw) (va_cwS 1 hts (lw_S q2496 q2497 q171 q2498) rfl rfl rfl kX14_small.2 ⟨Nat.le_of_ble_eq_true rfl, Nat.le_of_ble_eq_true rfl⟩) rfl hl.1 rfl (Nat.le_of_ble_eq_true rfl) dX14_hexadecimal_15 ⟨Nat.le_of_ble_eq_true rfl, Nat.le_of_ble_eq_true rfl⟩) hS (fun r2 locs hw hS => ?_)
    refine lv_bipush (v := 97) hx hb dX14_hexadecimal_18 (by decide) ?_
    refine lv_icmp_lt (tgt := 45) hx hb dX14_hexadecimal_20 (by decide) (fun h => ?_) (fun h => ?_)
    · have hw := hw.1 h
      refine lv_iconst (v := (-1)) hx hb dX14_hexadecimal_45 (by decide) ?_
      exact rt_ip C rfl hS hw dX14_hexadecimal_46
    have hw := hw.2 h
    refine lv_iload_n hx hb dX14_hexadecimal_23 rfl (lv_at hl 0 rfl) ?_
    refine kc_ip (rn_sp (As := [.int x0]) (rest := []) C hH hS (m14_small l G a1 τ σ H x0 _ hw) (va_cwS 1 hts (lw_S q2496 q2497 q171 q2498) rfl rfl rfl kX14_small.2 ⟨Nat.le_of_ble_eq_true rfl, Nat.le_of_ble_eq_true rfl⟩) rfl hl.1 rfl (Nat.le_of_ble_eq_true rfl) dX14_hexadecimal_24 ⟨Nat.le_of_ble_eq_true rfl, Nat.le_of_ble_eq_true rfl⟩) hS (fun r3 locs hw hS => ?_)
    refine lv_bipush (v := 102) hx hb dX14_hexadecimal_27 (by decide) ?_
    refine lv_icmp_gt (tgt := 45) hx hb dX14_hexadecimal_29 (by decide) (fun h => ?_) (fun h => ?_)
    · have hw := hw.1 h
      refine lv_iconst (v := (-1)) hx hb dX14_hexadecimal_45 (by decide) ?_
      exact rt_ip C rfl hS hw dX14_hexadecimal_46
    have hw := hw.2 h
    refine lv_iload_n hx hb dX14_hexadecimal_32 rfl (lv_at hl 0 rfl) ?_
    refine kc_ip (rn_sp (As := [.int x0]) (rest := []) C hH hS (m14_small l G a1 τ σ H x0 _ hw) (va_cwS 1 hts (lw_S q2496 q2497 q171 q2498) rfl rfl rfl kX14_small.2 ⟨Nat.le_of_ble_eq_true rfl, Nat.le_of_ble_eq_true rfl⟩) rfl hl.1 rfl (Nat.le_of_ble_eq_true rfl) dX14_hexadecimal_33 ⟨Nat.le_of_ble_eq_true rfl, Nat.le_of_ble_eq_true rfl⟩) hS (fun r4 locs hw hS => ?_)
    refine lv_bipush (v := 97) hx hb dX14_hexadecimal_36 (by decide) ?_
    refine lv_isub hx hb dX14_hexadecimal_38 ?_
    refine lv_bipush (v := 10) hx hb dX14_hexadecimal_39 (by decide) ?_
    refine lv_iadd hx hb dX14_hexadecimal_41 ?_
    refine lv_goto (tgt := 46) hx hb dX14_hexadecimal_42 (by decide) ?_
    exact rt_ip C rfl hS hw dX14_hexadecimal_46
  have hw := hw.2 h
  refine lv_iload_n hx hb dX14_hexadecimal_7 rfl (lv_at hl 0 rfl) ?_
  refine lv_bipush (v := 48) hx hb dX14_hexadecimal_8 (by decide) ?_
  refine lv_isub hx hb dX14_hexadecimal_10 ?_
  refine lv_goto (tgt := 46) hx hb dX14_hexadecimal_11 (by decide) ?_
  exact rt_ip C rfl hS hw dX14_hexadecimal_46
/-! WebHostModel.isNameCode(I)Z -/
abbrev cX14_isNameCode : ByteArray := prog_17_method_90_code
def yX14_isNameCode : MethodName := ⟨RX14, "isNameCode", "(I)Z"⟩
theorem dX14_isNameCode_0 : decode cX14_isNameCode 0 = .ok (.iload_n 0, 1) := by decide +kernel
theorem dX14_isNameCode_1 : decode cX14_isNameCode 1 = .ok (.invokestatic 725, 3) := by decide +kernel
theorem dX14_isNameCode_4 : decode cX14_isNameCode 4 = .ok (.istore_n 1, 1) := by decide +kernel
theorem dX14_isNameCode_5 : decode cX14_isNameCode 5 = .ok (.iload_n 0, 1) := by decide +kernel
theorem dX14_isNameCode_6 : decode cX14_isNameCode 6 = .ok (.bipush 45, 2) := by decide +kernel
theorem dX14_isNameCode_8 : decode cX14_isNameCode 8 = .ok (.if_icmp .eq 87, 3) := by decide +kernel
theorem dX14_isNameCode_11 : decode cX14_isNameCode 11 = .ok (.iload_n 0, 1) := by decide +kernel
theorem dX14_isNameCode_12 : decode cX14_isNameCode 12 = .ok (.bipush 95, 2) := by decide +kernel
theorem dX14_isNameCode_14 : decode cX14_isNameCode 14 = .ok (.if_icmp .eq 81, 3) := by decide +kernel
theorem dX14_isNameCode_17 : decode cX14_isNameCode 17 = .ok (.iload_n 0, 1) := by decide +kernel
theorem dX14_isNameCode_18 : decode cX14_isNameCode 18 = .ok (.bipush 46, 2) := by decide +kernel
theorem dX14_isNameCode_20 : decode cX14_isNameCode 20 = .ok (.if_icmp .eq 75, 3) := by decide +kernel
theorem dX14_isNameCode_23 : decode cX14_isNameCode 23 = .ok (.iload_n 0, 1) := by decide +kernel
theorem dX14_isNameCode_24 : decode cX14_isNameCode 24 = .ok (.bipush 33, 2) := by decide +kernel
theorem dX14_isNameCode_26 : decode cX14_isNameCode 26 = .ok (.if_icmp .eq 69, 3) := by decide +kernel
theorem dX14_isNameCode_29 : decode cX14_isNameCode 29 = .ok (.iload_n 0, 1) := by decide +kernel
theorem dX14_isNameCode_30 : decode cX14_isNameCode 30 = .ok (.bipush 35, 2) := by decide +kernel
theorem dX14_isNameCode_32 : decode cX14_isNameCode 32 = .ok (.if_icmp .eq 63, 3) := by decide +kernel
theorem dX14_isNameCode_35 : decode cX14_isNameCode 35 = .ok (.iload_n 0, 1) := by decide +kernel
theorem dX14_isNameCode_36 : decode cX14_isNameCode 36 = .ok (.bipush 36, 2) := by decide +kernel
theorem dX14_isNameCode_38 : decode cX14_isNameCode 38 = .ok (.if_icmp .eq 57, 3) := by decide +kernel
theorem dX14_isNameCode_41 : decode cX14_isNameCode 41 = .ok (.iload_n 0, 1) := by decide +kernel
theorem dX14_isNameCode_42 : decode cX14_isNameCode 42 = .ok (.bipush 37, 2) := by decide +kernel
theorem dX14_isNameCode_44 : decode cX14_isNameCode 44 = .ok (.if_icmp .eq 51, 3) := by decide +kernel
theorem dX14_isNameCode_47 : decode cX14_isNameCode 47 = .ok (.iload_n 0, 1) := by decide +kernel
theorem dX14_isNameCode_48 : decode cX14_isNameCode 48 = .ok (.bipush 38, 2) := by decide +kernel
theorem dX14_isNameCode_50 : decode cX14_isNameCode 50 = .ok (.if_icmp .eq 45, 3) := by decide +kernel
theorem dX14_isNameCode_53 : decode cX14_isNameCode 53 = .ok (.iload_n 0, 1) := by decide +kernel
theorem dX14_isNameCode_54 : decode cX14_isNameCode 54 = .ok (.bipush 39, 2) := by decide +kernel
theorem dX14_isNameCode_56 : decode cX14_isNameCode 56 = .ok (.if_icmp .eq 39, 3) := by decide +kernel
theorem dX14_isNameCode_59 : decode cX14_isNameCode 59 = .ok (.iload_n 0, 1) := by decide +kernel
theorem dX14_isNameCode_60 : decode cX14_isNameCode 60 = .ok (.bipush 42, 2) := by decide +kernel
theorem dX14_isNameCode_62 : decode cX14_isNameCode 62 = .ok (.if_icmp .eq 33, 3) := by decide +kernel
theorem dX14_isNameCode_65 : decode cX14_isNameCode 65 = .ok (.iload_n 0, 1) := by decide +kernel
theorem dX14_isNameCode_66 : decode cX14_isNameCode 66 = .ok (.bipush 43, 2) := by decide +kernel
theorem dX14_isNameCode_68 : decode cX14_isNameCode 68 = .ok (.if_icmp .eq 27, 3) := by decide +kernel
theorem dX14_isNameCode_71 : decode cX14_isNameCode 71 = .ok (.iload_n 0, 1) := by decide +kernel
theorem dX14_isNameCode_72 : decode cX14_isNameCode 72 = .ok (.bipush 94, 2) := by decide +kernel
theorem dX14_isNameCode_74 : decode cX14_isNameCode 74 = .ok (.if_icmp .eq 21, 3) := by decide +kernel
theorem dX14_isNameCode_77 : decode cX14_isNameCode 77 = .ok (.iload_n 0, 1) := by decide +kernel
theorem dX14_isNameCode_78 : decode cX14_isNameCode 78 = .ok (.bipush 96, 2) := by decide +kernel
theorem dX14_isNameCode_80 : decode cX14_isNameCode 80 = .ok (.if_icmp .eq 15, 3) := by decide +kernel
theorem dX14_isNameCode_83 : decode cX14_isNameCode 83 = .ok (.iload_n 0, 1) := by decide +kernel
theorem dX14_isNameCode_84 : decode cX14_isNameCode 84 = .ok (.bipush 124, 2) := by decide +kernel
theorem dX14_isNameCode_86 : decode cX14_isNameCode 86 = .ok (.if_icmp .eq 9, 3) := by decide +kernel
theorem dX14_isNameCode_89 : decode cX14_isNameCode 89 = .ok (.iload_n 0, 1) := by decide +kernel
theorem dX14_isNameCode_90 : decode cX14_isNameCode 90 = .ok (.bipush 126, 2) := by decide +kernel
theorem dX14_isNameCode_92 : decode cX14_isNameCode 92 = .ok (.if_icmp .ne 7, 3) := by decide +kernel
theorem dX14_isNameCode_95 : decode cX14_isNameCode 95 = .ok (.iconst 1, 1) := by decide +kernel
theorem dX14_isNameCode_96 : decode cX14_isNameCode 96 = .ok (.goto 4, 3) := by decide +kernel
theorem dX14_isNameCode_99 : decode cX14_isNameCode 99 = .ok (.iconst 0, 1) := by decide +kernel
theorem dX14_isNameCode_100 : decode cX14_isNameCode 100 = .ok (.istore_n 2, 1) := by decide +kernel
theorem dX14_isNameCode_101 : decode cX14_isNameCode 101 = .ok (.iload_n 1, 1) := by decide +kernel
theorem dX14_isNameCode_102 : decode cX14_isNameCode 102 = .ok (.bipush 97, 2) := by decide +kernel
theorem dX14_isNameCode_104 : decode cX14_isNameCode 104 = .ok (.if_icmp .lt 9, 3) := by decide +kernel
theorem dX14_isNameCode_107 : decode cX14_isNameCode 107 = .ok (.iload_n 1, 1) := by decide +kernel
theorem dX14_isNameCode_108 : decode cX14_isNameCode 108 = .ok (.bipush 122, 2) := by decide +kernel
theorem dX14_isNameCode_110 : decode cX14_isNameCode 110 = .ok (.if_icmp .le 14, 3) := by decide +kernel
theorem dX14_isNameCode_113 : decode cX14_isNameCode 113 = .ok (.iload_n 0, 1) := by decide +kernel
theorem dX14_isNameCode_114 : decode cX14_isNameCode 114 = .ok (.invokestatic 728, 3) := by decide +kernel
theorem dX14_isNameCode_117 : decode cX14_isNameCode 117 = .ok (.ifCond .ne 7, 3) := by decide +kernel
theorem dX14_isNameCode_120 : decode cX14_isNameCode 120 = .ok (.iload_n 2, 1) := by decide +kernel
theorem dX14_isNameCode_121 : decode cX14_isNameCode 121 = .ok (.ifCond .eq 7, 3) := by decide +kernel
theorem dX14_isNameCode_124 : decode cX14_isNameCode 124 = .ok (.iconst 1, 1) := by decide +kernel
theorem dX14_isNameCode_125 : decode cX14_isNameCode 125 = .ok (.goto 4, 3) := by decide +kernel
theorem dX14_isNameCode_128 : decode cX14_isNameCode 128 = .ok (.iconst 0, 1) := by decide +kernel
theorem dX14_isNameCode_129 : decode cX14_isNameCode 129 = .ok (.ireturn, 1) := by decide +kernel
def rmX14_isNameCode : Room := { frames := 1, cells := 0, slots := 0, locals := 20 }
theorem kX14_isNameCode : yX14_isNameCode.cls = "WebHostModel" ∧ yX14_isNameCode.cls ≠ "java/lang/invoke/MethodHandle" ∧ yX14_isNameCode.cls ≠ "java/lang/invoke/VarHandle" ∧ (parseMethodDescriptor yX14_isNameCode.desc).map (fun d => d.parameters.length) = some 1 := by decide +kernel
def w14_isNameCode_J113 (σ : St) (x0 : Int32) (x2 : Int32) (Q : Int32 → Prop) : Prop := w14_isDigit σ x0 (fun r2 => ((¬ r2 = 0 → Q 1) ∧ (r2 = 0 → ((x2 = 0 → Q 0) ∧ (¬ x2 = 0 → Q 1)))))
set_option maxHeartbeats 4000000 in
theorem k14_isNameCode_J113 {p : Program} {l : Launch} {e : Env} {s : State} {m : MethodId} {args : Array Value} {below : List Frame} {meth : Method} {c : Code} {G : Gh} {a1 : Nat → Nat → Nat} {τ : St} {H : Heap} {Q : Int32 → Prop} (C : Cx p e s m args meth c cX14_isNameCode 3 (some .boolean) "WebHostModel" G) (σ : St) (x0 : Int32) (x2 : Int32) (hH : Hd G a1 (cmb τ σ) H) (hw : w14_isNameCode_J113 σ x0 x2 Q) (locs : List Loc) (ls : Array Slot) (hS : va_S (gA G) s.heap H locs) (hl : lv_has ls 3 [(0, .int x0), (2, .int x2)]) : W p l e rmX14_isNameCode s m args below meth c H locs 0 0 (MQ below (QIp G H Q) args s 0 0 (gA G)) (F0 m 113 ls []) := by
  have hx := C.1
  have hb := C.2.1
  have hown := C.2.2.2.2.2.1
  have hts := C.2.2.2.2.2.2.1
  refine lv_iload_n hx hb dX14_isNameCode_113 rfl (lv_at hl 0 rfl) ?_
  refine kc_ip (rn_sp (As := [.int x0]) (rest := []) C hH hS (m14_isDigit l G a1 τ σ H x0 _ hw) (va_cwS 1 hts (lw_S q2499 q2500 q171 q2501) rfl rfl rfl kX14_isDigit.2 ⟨Nat.le_of_ble_eq_true rfl, Nat.le_of_ble_eq_true rfl⟩) rfl hl.1 rfl (Nat.le_of_ble_eq_true rfl) dX14_isNameCode_114 ⟨Nat.le_of_ble_eq_true rfl, Nat.le_of_ble_eq_true rfl⟩) hS (fun r2 locs hw hS => ?_)
  refine lv_if_ne (tgt := 124) hx hb dX14_isNameCode_117 (by decide) (fun h => ?_) (fun h => ?_)
  · have hw := hw.1 h
    refine lv_iconst (v := 1) hx hb dX14_isNameCode_124 (by decide) ?_
    refine lv_goto (tgt := 129) hx hb dX14_isNameCode_125 (by decide) ?_
    exact rt_ip C rfl hS hw dX14_isNameCode_129
  have hw := hw.2 h
  refine lv_iload_n hx hb dX14_isNameCode_120 rfl (lv_at hl 1 rfl) ?_
  refine lv_if_eq (tgt := 128) hx hb dX14_isNameCode_121 (by decide) (fun h => ?_) (fun h => ?_)
  · have hw := hw.1 h
    refine lv_iconst (v := 0) hx hb dX14_isNameCode_128 (by decide) ?_
    exact rt_ip C rfl hS hw dX14_isNameCode_129
  have hw := hw.2 h
  refine lv_iconst (v := 1) hx hb dX14_isNameCode_124 (by decide) ?_
  refine lv_goto (tgt := 129) hx hb dX14_isNameCode_125 (by decide) ?_
  exact rt_ip C rfl hS hw dX14_isNameCode_129
def w14_isNameCode (σ : St) (x0 : Int32) (Q : Int32 → Prop) : Prop := w14_small σ x0 (fun r1 => ((x0 = 45 → ((r1 < 97 → w14_isNameCode_J113 σ x0 1 Q) ∧ (¬ r1 < 97 → ((r1 ≤ 122 → Q 1) ∧ (¬ r1 ≤ 122 → w14_isNameCode_J113 σ x0 1 Q))))) ∧ (¬ x0 = 45 → ((x0 = 95 → ((r1 < 97 → w14_isNameCode_J113 σ x0 1 Q) ∧ (¬ r1 < 97 → ((r1 ≤ 122 → Q 1) ∧ (¬ r1 ≤ 122 → w14_isNameCode_J113 σ x0 1 Q))))) ∧ (¬ x0 = 95 → ((x0 = 46 → ((r1 < 97 → w14_isNameCode_J113 σ x0 1 Q) ∧ (¬ r1 < 97 → ((r1 ≤ 122 → Q 1) ∧ (¬ r1 ≤ 122 → w14_isNameCode_J113 σ x0 1 Q))))) ∧ (¬ x0 = 46 → ((x0 = 33 → ((r1 < 97 → w14_isNameCode_J113 σ x0 1 Q) ∧ (¬ r1 < 97 → ((r1 ≤ 122 → Q 1) ∧ (¬ r1 ≤ 122 → w14_isNameCode_J113 σ x0 1 Q))))) ∧ (¬ x0 = 33 → ((x0 = 35 → ((r1 < 97 → w14_isNameCode_J113 σ x0 1 Q) ∧ (¬ r1 < 97 → ((r1 ≤ 122 → Q 1) ∧ (¬ r1 ≤ 122 → w14_isNameCode_J113 σ x0 1 Q))))) ∧ (¬ x0 = 35 → ((x0 = 36 → ((r1 < 97 → w14_isNameCode_J113 σ x0 1 Q) ∧ (¬ r1 < 97 → ((r1 ≤ 122 → Q 1) ∧ (¬ r1 ≤ 122 → w14_isNameCode_J113 σ x0 1 Q))))) ∧ (¬ x0 = 36 → ((x0 = 37 → ((r1 < 97 → w14_isNameCode_J113 σ x0 1 Q) ∧ (¬ r1 < 97 → ((r1 ≤ 122 → Q 1) ∧ (¬ r1 ≤ 122 → w14_isNameCode_J113 σ x0 1 Q))))) ∧ (¬ x0 = 37 → ((x0 = 38 → ((r1 < 97 → w14_isNameCode_J113 σ x0 1 Q) ∧ (¬ r1 < 97 → ((r1 ≤ 122 → Q 1) ∧ (¬ r1 ≤ 122 → w14_isNameCode_J113 σ x0 1 Q))))) ∧ (¬ x0 = 38 → ((x0 = 39 → ((r1 < 97 → w14_isNameCode_J113 σ x0 1 Q) ∧ (¬ r1 < 97 → ((r1 ≤ 122 → Q 1) ∧ (¬ r1 ≤ 122 → w14_isNameCode_J113 σ x0 1 Q))))) ∧ (¬ x0 = 39 → ((x0 = 42 → ((r1 < 97 → w14_isNameCode_J113 σ x0 1 Q) ∧ (¬ r1 < 97 → ((r1 ≤ 122 → Q 1) ∧ (¬ r1 ≤ 122 → w14_isNameCode_J113 σ x0 1 Q))))) ∧ (¬ x0 = 42 → ((x0 = 43 → ((r1 < 97 → w14_isNameCode_J113 σ x0 1 Q) ∧ (¬ r1 < 97 → ((r1 ≤ 122 → Q 1) ∧ (¬ r1 ≤ 122 → w14_isNameCode_J113 σ x0 1 Q))))) ∧ (¬ x0 = 43 → ((x0 = 94 → ((r1 < 97 → w14_isNameCode_J113 σ x0 1 Q) ∧ (¬ r1 < 97 → ((r1 ≤ 122 → Q 1) ∧ (¬ r1 ≤ 122 → w14_isNameCode_J113 σ x0 1 Q))))) ∧ (¬ x0 = 94 → ((x0 = 96 → ((r1 < 97 → w14_isNameCode_J113 σ x0 1 Q) ∧ (¬ r1 < 97 → ((r1 ≤ 122 → Q 1) ∧ (¬ r1 ≤ 122 → w14_isNameCode_J113 σ x0 1 Q))))) ∧ (¬ x0 = 96 → ((x0 = 124 → ((r1 < 97 → w14_isNameCode_J113 σ x0 1 Q) ∧ (¬ r1 < 97 → ((r1 ≤ 122 → Q 1) ∧ (¬ r1 ≤ 122 → w14_isNameCode_J113 σ x0 1 Q))))) ∧ (¬ x0 = 124 → ((¬ x0 = 126 → ((r1 < 97 → w14_isNameCode_J113 σ x0 0 Q) ∧ (¬ r1 < 97 → ((r1 ≤ 122 → Q 1) ∧ (¬ r1 ≤ 122 → w14_isNameCode_J113 σ x0 0 Q))))) ∧ (x0 = 126 → ((r1 < 97 → w14_isNameCode_J113 σ x0 1 Q) ∧ (¬ r1 < 97 → ((r1 ≤ 122 → Q 1) ∧ (¬ r1 ≤ 122 → w14_isNameCode_J113 σ x0 1 Q)))))))))))))))))))))))))))))))))))
set_option maxHeartbeats 4000000 in
theorem m14_isNameCode (l : Launch) (G : Gh) (a1 : Nat → Nat → Nat) (τ : St) (σ : St) (H : Heap) (x0 : Int32) (Q : Int32 → Prop) (hw : w14_isNameCode σ x0 Q) : Met l yX14_isNameCode (ws_ yX14_isNameCode cX14_isNameCode 3 (some .boolean)) rmX14_isNameCode (PcP G a1 (cmb τ σ) H [.int x0]) (QIp G H Q) 0 0 (gA G) := by
  refine met_p (by decide) (Nat.le_of_ble_eq_true rfl) ?_
  intro p e s m below meth c ls hHe C hH hS hl
  have C : Cx p e s m _ meth c cX14_isNameCode 3 (some .boolean) "WebHostModel" G := C
  have hl : lv_has ls 3 [(0, .int x0)] := hl
  have hx := C.1
  have hb := C.2.1
  have hown := C.2.2.2.2.2.1
  have hts := C.2.2.2.2.2.2.1
  obtain ⟨locs, hlocs⟩ : ∃ z : List Loc, z = [] := ⟨_, rfl⟩
  rw [← hlocs] at hS ⊢
  refine lv_iload_n hx hb dX14_isNameCode_0 rfl (lv_at hl 0 rfl) ?_
  refine kc_ip (rn_sp (As := [.int x0]) (rest := []) C hH hS (m14_small l G a1 τ σ H x0 _ hw) (va_cwS 1 hts (lw_S q2496 q2497 q171 q2498) rfl rfl rfl kX14_small.2 ⟨Nat.le_of_ble_eq_true rfl, Nat.le_of_ble_eq_true rfl⟩) rfl hl.1 rfl (Nat.le_of_ble_eq_true rfl) dX14_isNameCode_1 ⟨Nat.le_of_ble_eq_true rfl, Nat.le_of_ble_eq_true rfl⟩) hS (fun r1 locs hw hS => ?_)
  refine lv_istore_n (lv' := [(1, .int r1), (0, .int x0)]) hx hb dX14_isNameCode_4 rfl hl (by decide) rfl (fun ls hl => ?_)
  refine lv_iload_n hx hb dX14_isNameCode_5 rfl (lv_at hl 1 rfl) ?_
  refine lv_bipush (v := 45) hx hb dX14_isNameCode_6 (by decide) ?_
  refine lv_icmp_eq (tgt := 95) hx hb dX14_isNameCode_8 (by decide) (fun h => ?_) (fun h => ?_)
  · have hw := hw.1 h
    refine lv_iconst (v := 1) hx hb dX14_isNameCode_95 (by decide) ?_
    refine lv_goto (tgt := 100) hx hb dX14_isNameCode_96 (by decide) ?_
    refine lv_istore_n (lv' := [(2, .int 1), (1, .int r1), (0, .int x0)]) hx hb dX14_isNameCode_100 rfl hl (by decide) rfl (fun ls hl => ?_)
    refine lv_iload_n hx hb dX14_isNameCode_101 rfl (lv_at hl 1 rfl) ?_
    refine lv_bipush (v := 97) hx hb dX14_isNameCode_102 (by decide) ?_
    refine lv_icmp_lt (tgt := 113) hx hb dX14_isNameCode_104 (by decide) (fun h => ?_) (fun h => ?_)
    · have hw := hw.1 h
      exact k14_isNameCode_J113 C σ x0 1 hH hw locs ls hS (lv_sub hl [2, 0] rfl)
    have hw := hw.2 h
    refine lv_iload_n hx hb dX14_isNameCode_107 rfl (lv_at hl 1 rfl) ?_
    refine lv_bipush (v := 122) hx hb dX14_isNameCode_108 (by decide) ?_
    refine lv_icmp_le (tgt := 124) hx hb dX14_isNameCode_110 (by decide) (fun h => ?_) (fun h => ?_)
    · have hw := hw.1 h
      refine lv_iconst (v := 1) hx hb dX14_isNameCode_124 (by decide) ?_
      refine lv_goto (tgt := 129) hx hb dX14_isNameCode_125 (by decide) ?_
      exact rt_ip C rfl hS hw dX14_isNameCode_129
    have hw := hw.2 h
    exact k14_isNameCode_J113 C σ x0 1 hH hw locs ls hS (lv_sub hl [2, 0] rfl)
  have hw := hw.2 h
  refine lv_iload_n hx hb dX14_isNameCode_11 rfl (lv_at hl 1 rfl) ?_
  refine lv_bipush (v := 95) hx hb dX14_isNameCode_12 (by decide) ?_
  refine lv_icmp_eq (tgt := 95) hx hb dX14_isNameCode_14 (by decide) (fun h => ?_) (fun h => ?_)
  · have hw := hw.1 h
    refine lv_iconst (v := 1) hx hb dX14_isNameCode_95 (by decide) ?_
    refine lv_goto (tgt := 100) hx hb dX14_isNameCode_96 (by decide) ?_
    refine lv_istore_n (lv' := [(2, .int 1), (1, .int r1), (0, .int x0)]) hx hb dX14_isNameCode_100 rfl hl (by decide) rfl (fun ls hl => ?_)
    refine lv_iload_n hx hb dX14_isNameCode_101 rfl (lv_at hl 1 rfl) ?_
    refine lv_bipush (v := 97) hx hb dX14_isNameCode_102 (by decide) ?_
    refine lv_icmp_lt (tgt := 113) hx hb dX14_isNameCode_104 (by decide) (fun h => ?_) (fun h => ?_)
    · have hw := hw.1 h
      exact k14_isNameCode_J113 C σ x0 1 hH hw locs ls hS (lv_sub hl [2, 0] rfl)
    have hw := hw.2 h
    refine lv_iload_n hx hb dX14_isNameCode_107 rfl (lv_at hl 1 rfl) ?_
    refine lv_bipush (v := 122) hx hb dX14_isNameCode_108 (by decide) ?_
    refine lv_icmp_le (tgt := 124) hx hb dX14_isNameCode_110 (by decide) (fun h => ?_) (fun h => ?_)
    · have hw := hw.1 h
      refine lv_iconst (v := 1) hx hb dX14_isNameCode_124 (by decide) ?_
      refine lv_goto (tgt := 129) hx hb dX14_isNameCode_125 (by decide) ?_
      exact rt_ip C rfl hS hw dX14_isNameCode_129
    have hw := hw.2 h
    exact k14_isNameCode_J113 C σ x0 1 hH hw locs ls hS (lv_sub hl [2, 0] rfl)
  have hw := hw.2 h
  refine lv_iload_n hx hb dX14_isNameCode_17 rfl (lv_at hl 1 rfl) ?_
  refine lv_bipush (v := 46) hx hb dX14_isNameCode_18 (by decide) ?_
  refine lv_icmp_eq (tgt := 95) hx hb dX14_isNameCode_20 (by decide) (fun h => ?_) (fun h => ?_)
  · have hw := hw.1 h
    refine lv_iconst (v := 1) hx hb dX14_isNameCode_95 (by decide) ?_
    refine lv_goto (tgt := 100) hx hb dX14_isNameCode_96 (by decide) ?_
    refine lv_istore_n (lv' := [(2, .int 1), (1, .int r1), (0, .int x0)]) hx hb dX14_isNameCode_100 rfl hl (by decide) rfl (fun ls hl => ?_)
    refine lv_iload_n hx hb dX14_isNameCode_101 rfl (lv_at hl 1 rfl) ?_
    refine lv_bipush (v := 97) hx hb dX14_isNameCode_102 (by decide) ?_
    refine lv_icmp_lt (tgt := 113) hx hb dX14_isNameCode_104 (by decide) (fun h => ?_) (fun h => ?_)
    · have hw := hw.1 h
      exact k14_isNameCode_J113 C σ x0 1 hH hw locs ls hS (lv_sub hl [2, 0] rfl)
    have hw := hw.2 h
    refine lv_iload_n hx hb dX14_isNameCode_107 rfl (lv_at hl 1 rfl) ?_
    refine lv_bipush (v := 122) hx hb dX14_isNameCode_108 (by decide) ?_
    refine lv_icmp_le (tgt := 124) hx hb dX14_isNameCode_110 (by decide) (fun h => ?_) (fun h => ?_)
    · have hw := hw.1 h
      refine lv_iconst (v := 1) hx hb dX14_isNameCode_124 (by decide) ?_
      refine lv_goto (tgt := 129) hx hb dX14_isNameCode_125 (by decide) ?_
      exact rt_ip C rfl hS hw dX14_isNameCode_129
    have hw := hw.2 h
    exact k14_isNameCode_J113 C σ x0 1 hH hw locs ls hS (lv_sub hl [2, 0] rfl)
  have hw := hw.2 h
  refine lv_iload_n hx hb dX14_isNameCode_23 rfl (lv_at hl 1 rfl) ?_
  refine lv_bipush (v := 33) hx hb dX14_isNameCode_24 (by decide) ?_
  refine lv_icmp_eq (tgt := 95) hx hb dX14_isNameCode_26 (by decide) (fun h => ?_) (fun h => ?_)
  · have hw := hw.1 h
    refine lv_iconst (v := 1) hx hb dX14_isNameCode_95 (by decide) ?_
    refine lv_goto (tgt := 100) hx hb dX14_isNameCode_96 (by decide) ?_
    refine lv_istore_n (lv' := [(2, .int 1), (1, .int r1), (0, .int x0)]) hx hb dX14_isNameCode_100 rfl hl (by decide) rfl (fun ls hl => ?_)
    refine lv_iload_n hx hb dX14_isNameCode_101 rfl (lv_at hl 1 rfl) ?_
    refine lv_bipush (v := 97) hx hb dX14_isNameCode_102 (by decide) ?_
    refine lv_icmp_lt (tgt := 113) hx hb dX14_isNameCode_104 (by decide) (fun h => ?_) (fun h => ?_)
    · have hw := hw.1 h
      exact k14_isNameCode_J113 C σ x0 1 hH hw locs ls hS (lv_sub hl [2, 0] rfl)
    have hw := hw.2 h
    refine lv_iload_n hx hb dX14_isNameCode_107 rfl (lv_at hl 1 rfl) ?_
    refine lv_bipush (v := 122) hx hb dX14_isNameCode_108 (by decide) ?_
    refine lv_icmp_le (tgt := 124) hx hb dX14_isNameCode_110 (by decide) (fun h => ?_) (fun h => ?_)
    · have hw := hw.1 h
      refine lv_iconst (v := 1) hx hb dX14_isNameCode_124 (by decide) ?_
      refine lv_goto (tgt := 129) hx hb dX14_isNameCode_125 (by decide) ?_
      exact rt_ip C rfl hS hw dX14_isNameCode_129
    have hw := hw.2 h
    exact k14_isNameCode_J113 C σ x0 1 hH hw locs ls hS (lv_sub hl [2, 0] rfl)
  have hw := hw.2 h
  refine lv_iload_n hx hb dX14_isNameCode_29 rfl (lv_at hl 1 rfl) ?_
  refine lv_bipush (v := 35) hx hb dX14_isNameCode_30 (by decide) ?_
  refine lv_icmp_eq (tgt := 95) hx hb dX14_isNameCode_32 (by decide) (fun h => ?_) (fun h => ?_)
  · have hw := hw.1 h
    refine lv_iconst (v := 1) hx hb dX14_isNameCode_95 (by decide) ?_
    refine lv_goto (tgt := 100) hx hb dX14_isNameCode_96 (by decide) ?_
    refine lv_istore_n (lv' := [(2, .int 1), (1, .int r1), (0, .int x0)]) hx hb dX14_isNameCode_100 rfl hl (by decide) rfl (fun ls hl => ?_)
    refine lv_iload_n hx hb dX14_isNameCode_101 rfl (lv_at hl 1 rfl) ?_
    refine lv_bipush (v := 97) hx hb dX14_isNameCode_102 (by decide) ?_
    refine lv_icmp_lt (tgt := 113) hx hb dX14_isNameCode_104 (by decide) (fun h => ?_) (fun h => ?_)
    · have hw := hw.1 h
      exact k14_isNameCode_J113 C σ x0 1 hH hw locs ls hS (lv_sub hl [2, 0] rfl)
    have hw := hw.2 h
    refine lv_iload_n hx hb dX14_isNameCode_107 rfl (lv_at hl 1 rfl) ?_
    refine lv_bipush (v := 122) hx hb dX14_isNameCode_108 (by decide) ?_
    refine lv_icmp_le (tgt := 124) hx hb dX14_isNameCode_110 (by decide) (fun h => ?_) (fun h => ?_)
    · have hw := hw.1 h
      refine lv_iconst (v := 1) hx hb dX14_isNameCode_124 (by decide) ?_
      refine lv_goto (tgt := 129) hx hb dX14_isNameCode_125 (by decide) ?_
      exact rt_ip C rfl hS hw dX14_isNameCode_129
    have hw := hw.2 h
    exact k14_isNameCode_J113 C σ x0 1 hH hw locs ls hS (lv_sub hl [2, 0] rfl)
  have hw := hw.2 h
  refine lv_iload_n hx hb dX14_isNameCode_35 rfl (lv_at hl 1 rfl) ?_
  refine lv_bipush (v := 36) hx hb dX14_isNameCode_36 (by decide) ?_
  refine lv_icmp_eq (tgt := 95) hx hb dX14_isNameCode_38 (by decide) (fun h => ?_) (fun h => ?_)
  · have hw := hw.1 h
    refine lv_iconst (v := 1) hx hb dX14_isNameCode_95 (by decide) ?_
    refine lv_goto (tgt := 100) hx hb dX14_isNameCode_96 (by decide) ?_
    refine lv_istore_n (lv' := [(2, .int 1), (1, .int r1), (0, .int x0)]) hx hb dX14_isNameCode_100 rfl hl (by decide) rfl (fun ls hl => ?_)
    refine lv_iload_n hx hb dX14_isNameCode_101 rfl (lv_at hl 1 rfl) ?_
    refine lv_bipush (v := 97) hx hb dX14_isNameCode_102 (by decide) ?_
    refine lv_icmp_lt (tgt := 113) hx hb dX14_isNameCode_104 (by decide) (fun h => ?_) (fun h => ?_)
    · have hw := hw.1 h
      exact k14_isNameCode_J113 C σ x0 1 hH hw locs ls hS (lv_sub hl [2, 0] rfl)
    have hw := hw.2 h
    refine lv_iload_n hx hb dX14_isNameCode_107 rfl (lv_at hl 1 rfl) ?_
    refine lv_bipush (v := 122) hx hb dX14_isNameCode_108 (by decide) ?_
    refine lv_icmp_le (tgt := 124) hx hb dX14_isNameCode_110 (by decide) (fun h => ?_) (fun h => ?_)
    · have hw := hw.1 h
      refine lv_iconst (v := 1) hx hb dX14_isNameCode_124 (by decide) ?_
      refine lv_goto (tgt := 129) hx hb dX14_isNameCode_125 (by decide) ?_
      exact rt_ip C rfl hS hw dX14_isNameCode_129
    have hw := hw.2 h
    exact k14_isNameCode_J113 C σ x0 1 hH hw locs ls hS (lv_sub hl [2, 0] rfl)
  have hw := hw.2 h
  refine lv_iload_n hx hb dX14_isNameCode_41 rfl (lv_at hl 1 rfl) ?_
  refine lv_bipush (v := 37) hx hb dX14_isNameCode_42 (by decide) ?_
  refine lv_icmp_eq (tgt := 95) hx hb dX14_isNameCode_44 (by decide) (fun h => ?_) (fun h => ?_)
  · have hw := hw.1 h
    refine lv_iconst (v := 1) hx hb dX14_isNameCode_95 (by decide) ?_
    refine lv_goto (tgt := 100) hx hb dX14_isNameCode_96 (by decide) ?_
    refine lv_istore_n (lv' := [(2, .int 1), (1, .int r1), (0, .int x0)]) hx hb dX14_isNameCode_100 rfl hl (by decide) rfl (fun ls hl => ?_)
    refine lv_iload_n hx hb dX14_isNameCode_101 rfl (lv_at hl 1 rfl) ?_
    refine lv_bipush (v := 97) hx hb dX14_isNameCode_102 (by decide) ?_
    refine lv_icmp_lt (tgt := 113) hx hb dX14_isNameCode_104 (by decide) (fun h => ?_) (fun h => ?_)
    · have hw := hw.1 h
      exact k14_isNameCode_J113 C σ x0 1 hH hw locs ls hS (lv_sub hl [2, 0] rfl)
    have hw := hw.2 h
    refine lv_iload_n hx hb dX14_isNameCode_107 rfl (lv_at hl 1 rfl) ?_
    refine lv_bipush (v := 122) hx hb dX14_isNameCode_108 (by decide) ?_
    refine lv_icmp_le (tgt := 124) hx hb dX14_isNameCode_110 (by decide) (fun h => ?_) (fun h => ?_)
    · have hw := hw.1 h
      refine lv_iconst (v := 1) hx hb dX14_isNameCode_124 (by decide) ?_
      refine lv_goto (tgt := 129) hx hb dX14_isNameCode_125 (by decide) ?_
      exact rt_ip C rfl hS hw dX14_isNameCode_129
    have hw := hw.2 h
    exact k14_isNameCode_J113 C σ x0 1 hH hw locs ls hS (lv_sub hl [2, 0] rfl)
  have hw := hw.2 h
  refine lv_iload_n hx hb dX14_isNameCode_47 rfl (lv_at hl 1 rfl) ?_
  refine lv_bipush (v := 38) hx hb dX14_isNameCode_48 (by decide) ?_
  refine lv_icmp_eq (tgt := 95) hx hb dX14_isNameCode_50 (by decide) (fun h => ?_) (fun h => ?_)
  · have hw := hw.1 h
    refine lv_iconst (v := 1) hx hb dX14_isNameCode_95 (by decide) ?_
    refine lv_goto (tgt := 100) hx hb dX14_isNameCode_96 (by decide) ?_
    refine lv_istore_n (lv' := [(2, .int 1), (1, .int r1), (0, .int x0)]) hx hb dX14_isNameCode_100 rfl hl (by decide) rfl (fun ls hl => ?_)
    refine lv_iload_n hx hb dX14_isNameCode_101 rfl (lv_at hl 1 rfl) ?_
    refine lv_bipush (v := 97) hx hb dX14_isNameCode_102 (by decide) ?_
    refine lv_icmp_lt (tgt := 113) hx hb dX14_isNameCode_104 (by decide) (fun h => ?_) (fun h => ?_)
    · have hw := hw.1 h
      exact k14_isNameCode_J113 C σ x0 1 hH hw locs ls hS (lv_sub hl [2, 0] rfl)
    have hw := hw.2 h
    refine lv_iload_n hx hb dX14_isNameCode_107 rfl (lv_at hl 1 rfl) ?_
    refine lv_bipush (v := 122) hx hb dX14_isNameCode_108 (by decide) ?_
    refine lv_icmp_le (tgt := 124) hx hb dX14_isNameCode_110 (by decide) (fun h => ?_) (fun h => ?_)
    · have hw := hw.1 h
      refine lv_iconst (v := 1) hx hb dX14_isNameCode_124 (by decide) ?_
      refine lv_goto (tgt := 129) hx hb dX14_isNameCode_125 (by decide) ?_
      exact rt_ip C rfl hS hw dX14_isNameCode_129
    have hw := hw.2 h
    exact k14_isNameCode_J113 C σ x0 1 hH hw locs ls hS (lv_sub hl [2, 0] rfl)
  have hw := hw.2 h
  refine lv_iload_n hx hb dX14_isNameCode_53 rfl (lv_at hl 1 rfl) ?_
  refine lv_bipush (v := 39) hx hb dX14_isNameCode_54 (by decide) ?_
  refine lv_icmp_eq (tgt := 95) hx hb dX14_isNameCode_56 (by decide) (fun h => ?_) (fun h => ?_)
  · have hw := hw.1 h
    refine lv_iconst (v := 1) hx hb dX14_isNameCode_95 (by decide) ?_
    refine lv_goto (tgt := 100) hx hb dX14_isNameCode_96 (by decide) ?_
    refine lv_istore_n (lv' := [(2, .int 1), (1, .int r1), (0, .int x0)]) hx hb dX14_isNameCode_100 rfl hl (by decide) rfl (fun ls hl => ?_)
    refine lv_iload_n hx hb dX14_isNameCode_101 rfl (lv_at hl 1 rfl) ?_
    refine lv_bipush (v := 97) hx hb dX14_isNameCode_102 (by decide) ?_
    refine lv_icmp_lt (tgt := 113) hx hb dX14_isNameCode_104 (by decide) (fun h => ?_) (fun h => ?_)
    · have hw := hw.1 h
      exact k14_isNameCode_J113 C σ x0 1 hH hw locs ls hS (lv_sub hl [2, 0] rfl)
    have hw := hw.2 h
    refine lv_iload_n hx hb dX14_isNameCode_107 rfl (lv_at hl 1 rfl) ?_
    refine lv_bipush (v := 122) hx hb dX14_isNameCode_108 (by decide) ?_
    refine lv_icmp_le (tgt := 124) hx hb dX14_isNameCode_110 (by decide) (fun h => ?_) (fun h => ?_)
    · have hw := hw.1 h
      refine lv_iconst (v := 1) hx hb dX14_isNameCode_124 (by decide) ?_
      refine lv_goto (tgt := 129) hx hb dX14_isNameCode_125 (by decide) ?_
      exact rt_ip C rfl hS hw dX14_isNameCode_129
    have hw := hw.2 h
    exact k14_isNameCode_J113 C σ x0 1 hH hw locs ls hS (lv_sub hl [2, 0] rfl)
  have hw := hw.2 h
  refine lv_iload_n hx hb dX14_isNameCode_59 rfl (lv_at hl 1 rfl) ?_
  refine lv_bipush (v := 42) hx hb dX14_isNameCode_60 (by decide) ?_
  refine lv_icmp_eq (tgt := 95) hx hb dX14_isNameCode_62 (by decide) (fun h => ?_) (fun h => ?_)
  · have hw := hw.1 h
    refine lv_iconst (v := 1) hx hb dX14_isNameCode_95 (by decide) ?_
    refine lv_goto (tgt := 100) hx hb dX14_isNameCode_96 (by decide) ?_
    refine lv_istore_n (lv' := [(2, .int 1), (1, .int r1), (0, .int x0)]) hx hb dX14_isNameCode_100 rfl hl (by decide) rfl (fun ls hl => ?_)
    refine lv_iload_n hx hb dX14_isNameCode_101 rfl (lv_at hl 1 rfl) ?_
    refine lv_bipush (v := 97) hx hb dX14_isNameCode_102 (by decide) ?_
    refine lv_icmp_lt (tgt := 113) hx hb dX14_isNameCode_104 (by decide) (fun h => ?_) (fun h => ?_)
    · have hw := hw.1 h
      exact k14_isNameCode_J113 C σ x0 1 hH hw locs ls hS (lv_sub hl [2, 0] rfl)
    have hw := hw.2 h
    refine lv_iload_n hx hb dX14_isNameCode_107 rfl (lv_at hl 1 rfl) ?_
    refine lv_bipush (v := 122) hx hb dX14_isNameCode_108 (by decide) ?_
    refine lv_icmp_le (tgt := 124) hx hb dX14_isNameCode_110 (by decide) (fun h => ?_) (fun h => ?_)
    · have hw := hw.1 h
      refine lv_iconst (v := 1) hx hb dX14_isNameCode_124 (by decide) ?_
      refine lv_goto (tgt := 129) hx hb dX14_isNameCode_125 (by decide) ?_
      exact rt_ip C rfl hS hw dX14_isNameCode_129
    have hw := hw.2 h
    exact k14_isNameCode_J113 C σ x0 1 hH hw locs ls hS (lv_sub hl [2, 0] rfl)
  have hw := hw.2 h
  refine lv_iload_n hx hb dX14_isNameCode_65 rfl (lv_at hl 1 rfl) ?_
  refine lv_bipush (v := 43) hx hb dX14_isNameCode_66 (by decide) ?_
  refine lv_icmp_eq (tgt := 95) hx hb dX14_isNameCode_68 (by decide) (fun h => ?_) (fun h => ?_)
  · have hw := hw.1 h
    refine lv_iconst (v := 1) hx hb dX14_isNameCode_95 (by decide) ?_
    refine lv_goto (tgt := 100) hx hb dX14_isNameCode_96 (by decide) ?_
    refine lv_istore_n (lv' := [(2, .int 1), (1, .int r1), (0, .int x0)]) hx hb dX14_isNameCode_100 rfl hl (by decide) rfl (fun ls hl => ?_)
    refine lv_iload_n hx hb dX14_isNameCode_101 rfl (lv_at hl 1 rfl) ?_
    refine lv_bipush (v := 97) hx hb dX14_isNameCode_102 (by decide) ?_
    refine lv_icmp_lt (tgt := 113) hx hb dX14_isNameCode_104 (by decide) (fun h => ?_) (fun h => ?_)
    · have hw := hw.1 h
      exact k14_isNameCode_J113 C σ x0 1 hH hw locs ls hS (lv_sub hl [2, 0] rfl)
    have hw := hw.2 h
    refine lv_iload_n hx hb dX14_isNameCode_107 rfl (lv_at hl 1 rfl) ?_
    refine lv_bipush (v := 122) hx hb dX14_isNameCode_108 (by decide) ?_
    refine lv_icmp_le (tgt := 124) hx hb dX14_isNameCode_110 (by decide) (fun h => ?_) (fun h => ?_)
    · have hw := hw.1 h
      refine lv_iconst (v := 1) hx hb dX14_isNameCode_124 (by decide) ?_
      refine lv_goto (tgt := 129) hx hb dX14_isNameCode_125 (by decide) ?_
      exact rt_ip C rfl hS hw dX14_isNameCode_129
    have hw := hw.2 h
    exact k14_isNameCode_J113 C σ x0 1 hH hw locs ls hS (lv_sub hl [2, 0] rfl)
  have hw := hw.2 h
  refine lv_iload_n hx hb dX14_isNameCode_71 rfl (lv_at hl 1 rfl) ?_
  refine lv_bipush (v := 94) hx hb dX14_isNameCode_72 (by decide) ?_
  refine lv_icmp_eq (tgt := 95) hx hb dX14_isNameCode_74 (by decide) (fun h => ?_) (fun h => ?_)
  · have hw := hw.1 h
    refine lv_iconst (v := 1) hx hb dX14_isNameCode_95 (by decide) ?_
    refine lv_goto (tgt := 100) hx hb dX14_isNameCode_96 (by decide) ?_
    refine lv_istore_n (lv' := [(2, .int 1), (1, .int r1), (0, .int x0)]) hx hb dX14_isNameCode_100 rfl hl (by decide) rfl (fun ls hl => ?_)
    refine lv_iload_n hx hb dX14_isNameCode_101 rfl (lv_at hl 1 rfl) ?_
    refine lv_bipush (v := 97) hx hb dX14_isNameCode_102 (by decide) ?_
    refine lv_icmp_lt (tgt := 113) hx hb dX14_isNameCode_104 (by decide) (fun h => ?_) (fun h => ?_)
    · have hw := hw.1 h
      exact k14_isNameCode_J113 C σ x0 1 hH hw locs ls hS (lv_sub hl [2, 0] rfl)
    have hw := hw.2 h
    refine lv_iload_n hx hb dX14_isNameCode_107 rfl (lv_at hl 1 rfl) ?_
    refine lv_bipush (v := 122) hx hb dX14_isNameCode_108 (by decide) ?_
    refine lv_icmp_le (tgt := 124) hx hb dX14_isNameCode_110 (by decide) (fun h => ?_) (fun h => ?_)
    · have hw := hw.1 h
      refine lv_iconst (v := 1) hx hb dX14_isNameCode_124 (by decide) ?_
      refine lv_goto (tgt := 129) hx hb dX14_isNameCode_125 (by decide) ?_
      exact rt_ip C rfl hS hw dX14_isNameCode_129
    have hw := hw.2 h
    exact k14_isNameCode_J113 C σ x0 1 hH hw locs ls hS (lv_sub hl [2, 0] rfl)
  have hw := hw.2 h
  refine lv_iload_n hx hb dX14_isNameCode_77 rfl (lv_at hl 1 rfl) ?_
  refine lv_bipush (v := 96) hx hb dX14_isNameCode_78 (by decide) ?_
  refine lv_icmp_eq (tgt := 95) hx hb dX14_isNameCode_80 (by decide) (fun h => ?_) (fun h => ?_)
  · have hw := hw.1 h
    refine lv_iconst (v := 1) hx hb dX14_isNameCode_95 (by decide) ?_
    refine lv_goto (tgt := 100) hx hb dX14_isNameCode_96 (by decide) ?_
    refine lv_istore_n (lv' := [(2, .int 1), (1, .int r1), (0, .int x0)]) hx hb dX14_isNameCode_100 rfl hl (by decide) rfl (fun ls hl => ?_)
    refine lv_iload_n hx hb dX14_isNameCode_101 rfl (lv_at hl 1 rfl) ?_
    refine lv_bipush (v := 97) hx hb dX14_isNameCode_102 (by decide) ?_
    refine lv_icmp_lt (tgt := 113) hx hb dX14_isNameCode_104 (by decide) (fun h => ?_) (fun h => ?_)
    · have hw := hw.1 h
      exact k14_isNameCode_J113 C σ x0 1 hH hw locs ls hS (lv_sub hl [2, 0] rfl)
    have hw := hw.2 h
    refine lv_iload_n hx hb dX14_isNameCode_107 rfl (lv_at hl 1 rfl) ?_
    refine lv_bipush (v := 122) hx hb dX14_isNameCode_108 (by decide) ?_
    refine lv_icmp_le (tgt := 124) hx hb dX14_isNameCode_110 (by decide) (fun h => ?_) (fun h => ?_)
    · have hw := hw.1 h
      refine lv_iconst (v := 1) hx hb dX14_isNameCode_124 (by decide) ?_
      refine lv_goto (tgt := 129) hx hb dX14_isNameCode_125 (by decide) ?_
      exact rt_ip C rfl hS hw dX14_isNameCode_129
    have hw := hw.2 h
    exact k14_isNameCode_J113 C σ x0 1 hH hw locs ls hS (lv_sub hl [2, 0] rfl)
  have hw := hw.2 h
  refine lv_iload_n hx hb dX14_isNameCode_83 rfl (lv_at hl 1 rfl) ?_
  refine lv_bipush (v := 124) hx hb dX14_isNameCode_84 (by decide) ?_
  refine lv_icmp_eq (tgt := 95) hx hb dX14_isNameCode_86 (by decide) (fun h => ?_) (fun h => ?_)
  · have hw := hw.1 h
    refine lv_iconst (v := 1) hx hb dX14_isNameCode_95 (by decide) ?_
    refine lv_goto (tgt := 100) hx hb dX14_isNameCode_96 (by decide) ?_
    refine lv_istore_n (lv' := [(2, .int 1), (1, .int r1), (0, .int x0)]) hx hb dX14_isNameCode_100 rfl hl (by decide) rfl (fun ls hl => ?_)
    refine lv_iload_n hx hb dX14_isNameCode_101 rfl (lv_at hl 1 rfl) ?_
    refine lv_bipush (v := 97) hx hb dX14_isNameCode_102 (by decide) ?_
    refine lv_icmp_lt (tgt := 113) hx hb dX14_isNameCode_104 (by decide) (fun h => ?_) (fun h => ?_)
    · have hw := hw.1 h
      exact k14_isNameCode_J113 C σ x0 1 hH hw locs ls hS (lv_sub hl [2, 0] rfl)
    have hw := hw.2 h
    refine lv_iload_n hx hb dX14_isNameCode_107 rfl (lv_at hl 1 rfl) ?_
    refine lv_bipush (v := 122) hx hb dX14_isNameCode_108 (by decide) ?_
    refine lv_icmp_le (tgt := 124) hx hb dX14_isNameCode_110 (by decide) (fun h => ?_) (fun h => ?_)
    · have hw := hw.1 h
      refine lv_iconst (v := 1) hx hb dX14_isNameCode_124 (by decide) ?_
      refine lv_goto (tgt := 129) hx hb dX14_isNameCode_125 (by decide) ?_
      exact rt_ip C rfl hS hw dX14_isNameCode_129
    have hw := hw.2 h
    exact k14_isNameCode_J113 C σ x0 1 hH hw locs ls hS (lv_sub hl [2, 0] rfl)
  have hw := hw.2 h
  refine lv_iload_n hx hb dX14_isNameCode_89 rfl (lv_at hl 1 rfl) ?_
  refine lv_bipush (v := 126) hx hb dX14_isNameCode_90 (by decide) ?_
  refine lv_icmp_ne (tgt := 99) hx hb dX14_isNameCode_92 (by decide) (fun h => ?_) (fun h => ?_)
  · have hw := hw.1 h
    refine lv_iconst (v := 0) hx hb dX14_isNameCode_99 (by decide) ?_
    refine lv_istore_n (lv' := [(2, .int 0), (1, .int r1), (0, .int x0)]) hx hb dX14_isNameCode_100 rfl hl (by decide) rfl (fun ls hl => ?_)
    refine lv_iload_n hx hb dX14_isNameCode_101 rfl (lv_at hl 1 rfl) ?_
    refine lv_bipush (v := 97) hx hb dX14_isNameCode_102 (by decide) ?_
    refine lv_icmp_lt (tgt := 113) hx hb dX14_isNameCode_104 (by decide) (fun h => ?_) (fun h => ?_)
    · have hw := hw.1 h
      exact k14_isNameCode_J113 C σ x0 0 hH hw locs ls hS (lv_sub hl [2, 0] rfl)
    have hw := hw.2 h
    refine lv_iload_n hx hb dX14_isNameCode_107 rfl (lv_at hl 1 rfl) ?_
    refine lv_bipush (v := 122) hx hb dX14_isNameCode_108 (by decide) ?_
    refine lv_icmp_le (tgt := 124) hx hb dX14_isNameCode_110 (by decide) (fun h => ?_) (fun h => ?_)
    · have hw := hw.1 h
      refine lv_iconst (v := 1) hx hb dX14_isNameCode_124 (by decide) ?_
      refine lv_goto (tgt := 129) hx hb dX14_isNameCode_125 (by decide) ?_
      exact rt_ip C rfl hS hw dX14_isNameCode_129
    have hw := hw.2 h
    exact k14_isNameCode_J113 C σ x0 0 hH hw locs ls hS (lv_sub hl [2, 0] rfl)
  have hw := hw.2 h
  refine lv_iconst (v := 1) hx hb dX14_isNameCode_95 (by decide) ?_
  refine lv_goto (tgt := 100) hx hb dX14_isNameCode_96 (by decide) ?_
  refine lv_istore_n (lv' := [(2, .int 1), (1, .int r1), (0, .int x0)]) hx hb dX14_isNameCode_100 rfl hl (by decide) rfl (fun ls hl => ?_)
  refine lv_iload_n hx hb dX14_isNameCode_101 rfl (lv_at hl 1 rfl) ?_
  refine lv_bipush (v := 97) hx hb dX14_isNameCode_102 (by decide) ?_
  refine lv_icmp_lt (tgt := 113) hx hb dX14_isNameCode_104 (by decide) (fun h => ?_) (fun h => ?_)
  · have hw := hw.1 h
    exact k14_isNameCode_J113 C σ x0 1 hH hw locs ls hS (lv_sub hl [2, 0] rfl)
  have hw := hw.2 h
  refine lv_iload_n hx hb dX14_isNameCode_107 rfl (lv_at hl 1 rfl) ?_
  refine lv_bipush (v := 122) hx hb dX14_isNameCode_108 (by decide) ?_
  refine lv_icmp_le (tgt := 124) hx hb dX14_isNameCode_110 (by decide) (fun h => ?_) (fun h => ?_)
  · have hw := hw.1 h
    refine lv_iconst (v := 1) hx hb dX14_isNameCode_124 (by decide) ?_
    refine lv_goto (tgt := 129) hx hb dX14_isNameCode_125 (by decide) ?_
    exact rt_ip C rfl hS hw dX14_isNameCode_129
  have hw := hw.2 h
  exact k14_isNameCode_J113 C σ x0 1 hH hw locs ls hS (lv_sub hl [2, 0] rfl)
/-! WebHostModel.length(I)I -/
abbrev cX14_length : ByteArray := prog_17_method_112_code
def yX14_length : MethodName := ⟨RX14, "length", "(I)I"⟩
theorem dX14_length_0 : decode cX14_length 0 = .ok (.aload_n 0, 1) := by decide +kernel
theorem dX14_length_1 : decode cX14_length 1 = .ok (.iload_n 1, 1) := by decide +kernel
theorem dX14_length_2 : decode cX14_length 2 = .ok (.invokevirtual 865, 3) := by decide +kernel
theorem dX14_length_5 : decode cX14_length 5 = .ok (.ifCond .ge 7, 3) := by decide +kernel
theorem dX14_length_8 : decode cX14_length 8 = .ok (.iconst (-1), 1) := by decide +kernel
theorem dX14_length_9 : decode cX14_length 9 = .ok (.goto 13, 3) := by decide +kernel
theorem dX14_length_12 : decode cX14_length 12 = .ok (.aload_n 0, 1) := by decide +kernel
theorem dX14_length_13 : decode cX14_length 13 = .ok (.getfield 41, 3) := by decide +kernel
theorem dX14_length_16 : decode cX14_length 16 = .ok (.aload_n 0, 1) := by decide +kernel
theorem dX14_length_17 : decode cX14_length 17 = .ok (.iload_n 1, 1) := by decide +kernel
theorem dX14_length_18 : decode cX14_length 18 = .ok (.invokevirtual 865, 3) := by decide +kernel
theorem dX14_length_21 : decode cX14_length 21 = .ok (.iaload, 1) := by decide +kernel
theorem dX14_length_22 : decode cX14_length 22 = .ok (.ireturn, 1) := by decide +kernel
def rmX14_length : Room := { frames := 1, cells := 0, slots := 0, locals := 21 }
theorem kX14_length : yX14_length.cls = "WebHostModel" ∧ yX14_length.cls ≠ "java/lang/invoke/MethodHandle" ∧ yX14_length.cls ≠ "java/lang/invoke/VarHandle" ∧ (parseMethodDescriptor yX14_length.desc).map (fun d => d.parameters.length) = some 1 := by decide +kernel
def w14_length (σ : St) (x1 : Int32) (Q : Int32 → Prop) : Prop := w14_slot σ x1 (fun r1 => ((0 ≤ r1 → (w14_slot σ x1 (fun r2 => (vp_in r2 32 ∧ (Q (σ 59 0 r2.toNatClampNeg)))))) ∧ (¬ 0 ≤ r1 → (Q (-1)))))
set_option maxHeartbeats 4000000 in
theorem m14_length (l : Launch) (G : Gh) (a1 : Nat → Nat → Nat) (τ : St) (σ : St) (H : Heap) (x1 : Int32) (Q : Int32 → Prop) (hw : w14_length σ x1 Q) : Met l yX14_length (ws_ yX14_length cX14_length 2 (some .int)) rmX14_length (PcP G a1 (cmb τ σ) H [.ref (ga G 14 0), .int x1]) (QIp G H Q) 0 0 (gA G) := by
  refine met_p (by decide) (Nat.le_of_ble_eq_true rfl) ?_
  intro p e s m below meth c ls hHe C hH hS hl
  have C : Cx p e s m _ meth c cX14_length 2 (some .int) "WebHostModel" G := C
  have hl : lv_has ls 2 [(0, .ref (ga G 14 0)), (1, .int x1)] := hl
  have hx := C.1
  have hb := C.2.1
  have hown := C.2.2.2.2.2.1
  have hts := C.2.2.2.2.2.2.1
  obtain ⟨locs, hlocs⟩ : ∃ z : List Loc, z = [] := ⟨_, rfl⟩
  rw [← hlocs] at hS ⊢
  refine lv_aload_n hx hb dX14_length_0 rfl (lv_at hl 0 rfl) ?_
  refine lv_iload_n hx hb dX14_length_1 rfl (lv_at hl 1 rfl) ?_
  refine kc_ip (rn_vp (As := [.int x1]) (rest := []) C hH hS (by decide) rfl (by decide) (m14_slot l G a1 τ σ H x1 _ hw) (cwV 1 hts (lw_V q2630 q2632 qs155 q171 q2633) rfl rfl rfl kX14_slot ⟨Nat.le_of_ble_eq_true rfl, Nat.le_of_ble_eq_true rfl⟩) rfl hl.1 rfl (Nat.le_of_ble_eq_true rfl) dX14_length_2 ⟨Nat.le_of_ble_eq_true rfl, Nat.le_of_ble_eq_true rfl⟩) hS (fun r1 locs hw hS => ?_)
  refine lv_if_ge (tgt := 12) hx hb dX14_length_5 (by decide) (fun h => ?_) (fun h => ?_)
  · have hw := hw.1 h
    refine lv_aload_n hx hb dX14_length_12 rfl (lv_at hl 0 rfl) ?_
    refine g14_21 C hH q1961 dX14_length_13 ?_
    refine lv_aload_n hx hb dX14_length_16 rfl (lv_at hl 0 rfl) ?_
    refine lv_iload_n hx hb dX14_length_17 rfl (lv_at hl 1 rfl) ?_
    refine kc_ip (rn_vp (As := [.int x1]) (rest := [.ref (adr G a1 59 0)]) C hH hS (by decide) rfl (by decide) (m14_slot l G a1 τ σ H x1 _ hw) (cwV 1 hts (lw_V q2630 q2632 qs155 q171 q2633) rfl rfl rfl kX14_slot ⟨Nat.le_of_ble_eq_true rfl, Nat.le_of_ble_eq_true rfl⟩) rfl hl.1 rfl (Nat.le_of_ble_eq_true rfl) dX14_length_18 ⟨Nat.le_of_ble_eq_true rfl, Nat.le_of_ble_eq_true rfl⟩) hS (fun r2 locs hw hS => ?_)
    refine l59 C hH hw.1 dX14_length_21 ?_
    have hw := hw.2
    exact rt_ip C rfl hS hw dX14_length_22
  have hw := hw.2 h
  refine lv_iconst (v := (-1)) hx hb dX14_length_8 (by decide) ?_
  refine lv_goto (tgt := 22) hx hb dX14_length_9 (by decide) ?_
  exact rt_ip C rfl hS hw dX14_length_22
/-! WebHostModel.lies(LWebHostModel$Connection;II)Z -/
abbrev cX14_lies : ByteArray := prog_17_method_56_code
def yX14_lies : MethodName := ⟨RX14, "lies", "(LWebHostModel$Connection;II)Z"⟩
theorem dX14_lies_0 : decode cX14_lies 0 = .ok (.iload_n 1, 1) := by decide +kernel
theorem dX14_lies_1 : decode cX14_lies 1 = .ok (.aload_n 0, 1) := by decide +kernel
theorem dX14_lies_2 : decode cX14_lies 2 = .ok (.getfield 348, 3) := by decide +kernel
theorem dX14_lies_5 : decode cX14_lies 5 = .ok (.invokestatic 363, 3) := by decide +kernel
theorem dX14_lies_8 : decode cX14_lies 8 = .ok (.ifCond .ne 20, 3) := by decide +kernel
theorem dX14_lies_11 : decode cX14_lies 11 = .ok (.iload_n 1, 1) := by decide +kernel
theorem dX14_lies_12 : decode cX14_lies 12 = .ok (.aload_n 0, 1) := by decide +kernel
theorem dX14_lies_13 : decode cX14_lies 13 = .ok (.getfield 348, 3) := by decide +kernel
theorem dX14_lies_16 : decode cX14_lies 16 = .ok (.iload_n 2, 1) := by decide +kernel
theorem dX14_lies_17 : decode cX14_lies 17 = .ok (.iadd, 1) := by decide +kernel
theorem dX14_lies_18 : decode cX14_lies 18 = .ok (.invokestatic 363, 3) := by decide +kernel
theorem dX14_lies_21 : decode cX14_lies 21 = .ok (.ifCond .eq 7, 3) := by decide +kernel
theorem dX14_lies_24 : decode cX14_lies 24 = .ok (.iconst 1, 1) := by decide +kernel
theorem dX14_lies_25 : decode cX14_lies 25 = .ok (.goto 4, 3) := by decide +kernel
theorem dX14_lies_28 : decode cX14_lies 28 = .ok (.iconst 0, 1) := by decide +kernel
theorem dX14_lies_29 : decode cX14_lies 29 = .ok (.ireturn, 1) := by decide +kernel
def rmX14_lies : Room := { frames := 1, cells := 0, slots := 0, locals := 21 }
theorem kX14_lies : yX14_lies.cls = "WebHostModel" ∧ yX14_lies.cls ≠ "java/lang/invoke/MethodHandle" ∧ yX14_lies.cls ≠ "java/lang/invoke/VarHandle" ∧ (parseMethodDescriptor yX14_lies.desc).map (fun d => d.parameters.length) = some 3 := by decide +kernel
def w14_lies (σ : St) (o0 : Nat) (x1 : Int32) (x2 : Int32) (Q : Int32 → Prop) : Prop := w14_before σ x1 (σ 15 o0 36) (fun r1 => ((¬ r1 = 0 → Q 0) ∧ (r1 = 0 → (w14_before σ x1 ((σ 15 o0 36) + x2) (fun r2 => ((r2 = 0 → Q 0) ∧ (¬ r2 = 0 → Q 1)))))))
set_option maxHeartbeats 4000000 in
theorem m14_lies (l : Launch) (G : Gh) (a1 : Nat → Nat → Nat) (τ : St) (σ : St) (H : Heap) (o0 : Nat) (x1 : Int32) (x2 : Int32) (ho0 : o0 < 16) (Q : Int32 → Prop) (hw : w14_lies σ o0 x1 x2 Q) : Met l yX14_lies (ws_ yX14_lies cX14_lies 3 (some .boolean)) rmX14_lies (PcP G a1 (cmb τ σ) H [.ref (ga G 15 o0), .int x1, .int x2]) (QIp G H Q) 0 0 (gA G) := by
  refine met_p (by decide) (Nat.le_of_ble_eq_true rfl) ?_
  intro p e s m below meth c ls hHe C hH hS hl
  have C : Cx p e s m _ meth c cX14_lies 3 (some .boolean) "WebHostModel" G := C
  have hl : lv_has ls 3 [(0, .ref (ga G 15 o0)), (1, .int x1), (2, .int x2)] := hl
  have hx := C.1
  have hb := C.2.1
  have hown := C.2.2.2.2.2.1
  have hts := C.2.2.2.2.2.2.1
  obtain ⟨locs, hlocs⟩ : ∃ z : List Loc, z = [] := ⟨_, rfl⟩
  rw [← hlocs] at hS ⊢
  refine lv_iload_n hx hb dX14_lies_0 rfl (lv_at hl 1 rfl) ?_
  refine lv_aload_n hx hb dX14_lies_1 rfl (lv_at hl 0 rfl) ?_
  refine g15_36 C hH ho0 q1752 dX14_lies_2 ?_
  refine kc_ip (rn_sp (As := [.int x1, .int (σ 15 o0 36)]) (rest := []) C hH hS (m14_before l G a1 τ σ H x1 (σ 15 o0 36) _ hw) (va_cwS 2 hts (lw_S q2294 q2295 q171 q2296) rfl rfl rfl kX14_before.2 ⟨Nat.le_of_ble_eq_true rfl, Nat.le_of_ble_eq_true rfl⟩) rfl hl.1 rfl (Nat.le_of_ble_eq_true rfl) dX14_lies_5 ⟨Nat.le_of_ble_eq_true rfl, Nat.le_of_ble_eq_true rfl⟩) hS (fun r1 locs hw hS => ?_)
  refine lv_if_ne (tgt := 28) hx hb dX14_lies_8 (by decide) (fun h => ?_) (fun h => ?_)
  · have hw := hw.1 h
    refine lv_iconst (v := 0) hx hb dX14_lies_28 (by decide) ?_
    exact rt_ip C rfl hS hw dX14_lies_29
  have hw := hw.2 h
  refine lv_iload_n hx hb dX14_lies_11 rfl (lv_at hl 1 rfl) ?_
  refine lv_aload_n hx hb dX14_lies_12 rfl (lv_at hl 0 rfl) ?_
  refine g15_36 C hH ho0 q1752 dX14_lies_13 ?_
  refine lv_iload_n hx hb dX14_lies_16 rfl (lv_at hl 2 rfl) ?_
  refine lv_iadd hx hb dX14_lies_17 ?_
  refine kc_ip (rn_sp (As := [.int x1, .int ((σ 15 o0 36) + x2)]) (rest := []) C hH hS (m14_before l G a1 τ σ H x1 ((σ 15 o0 36) + x2) _ hw) (va_cwS 2 hts (lw_S q2294 q2295 q171 q2296) rfl rfl rfl kX14_before.2 ⟨Nat.le_of_ble_eq_true rfl, Nat.le_of_ble_eq_true rfl⟩) rfl hl.1 rfl (Nat.le_of_ble_eq_true rfl) dX14_lies_18 ⟨Nat.le_of_ble_eq_true rfl, Nat.le_of_ble_eq_true rfl⟩) hS (fun r2 locs hw hS => ?_)
  refine lv_if_eq (tgt := 28) hx hb dX14_lies_21 (by decide) (fun h => ?_) (fun h => ?_)
  · have hw := hw.1 h
    refine lv_iconst (v := 0) hx hb dX14_lies_28 (by decide) ?_
    exact rt_ip C rfl hS hw dX14_lies_29
  have hw := hw.2 h
  refine lv_iconst (v := 1) hx hb dX14_lies_24 (by decide) ?_
  refine lv_goto (tgt := 29) hx hb dX14_lies_25 (by decide) ?_
  exact rt_ip C rfl hS hw dX14_lies_29
/-! WebHostModel.line(LWebHostModel$Connection;)V -/
abbrev cX14_line : ByteArray := prog_17_method_104_code
def yX14_line : MethodName := ⟨RX14, "line", "(LWebHostModel$Connection;)V"⟩
theorem dX14_line_0 : decode cX14_line 0 = .ok (.aload_n 0, 1) := by decide +kernel
theorem dX14_line_1 : decode cX14_line 1 = .ok (.aload_n 1, 1) := by decide +kernel
theorem dX14_line_2 : decode cX14_line 2 = .ok (.bipush 13, 2) := by decide +kernel
theorem dX14_line_4 : decode cX14_line 4 = .ok (.invokevirtual 789, 3) := by decide +kernel
theorem dX14_line_7 : decode cX14_line 7 = .ok (.aload_n 0, 1) := by decide +kernel
theorem dX14_line_8 : decode cX14_line 8 = .ok (.aload_n 1, 1) := by decide +kernel
theorem dX14_line_9 : decode cX14_line 9 = .ok (.bipush 10, 2) := by decide +kernel
theorem dX14_line_11 : decode cX14_line 11 = .ok (.invokevirtual 789, 3) := by decide +kernel
theorem dX14_line_14 : decode cX14_line 14 = .ok (.return_, 1) := by decide +kernel
def rmX14_line : Room := { frames := 1, cells := 0, slots := 0, locals := 22 }
theorem kX14_line : yX14_line.cls = "WebHostModel" ∧ yX14_line.cls ≠ "java/lang/invoke/MethodHandle" ∧ yX14_line.cls ≠ "java/lang/invoke/VarHandle" ∧ (parseMethodDescriptor yX14_line.desc).map (fun d => d.parameters.length) = some 1 := by decide +kernel
def w14_line (σ : St) (o1 : Nat) (Q : St → Prop) : Prop := w14_code σ o1 13 (fun σ1 => (w14_code σ1 o1 10 (fun σ2 => (Q σ2))))
set_option maxHeartbeats 4000000 in
theorem m14_line (l : Launch) (G : Gh) (a1 : Nat → Nat → Nat) (τ : St) (σ : St) (o1 : Nat) (ho1 : o1 < 16) (Q : St → Prop) (hw : w14_line σ o1 Q) : Met l yX14_line (ws_ yX14_line cX14_line 2 none) rmX14_line (PcS G a1 (cmb τ σ) [.ref (ga G 14 0), .ref (ga G 15 o1)]) (QVs G a1 (fun u => cmb τ u) Q) 0 0 (gA G) := by
  refine met_w (by decide) (Nat.le_of_ble_eq_true rfl) ?_
  intro p e s m below meth c ls C hH hS hl
  have C : Cx p e s m _ meth c cX14_line 2 none "WebHostModel" G := C
  have hl : lv_has ls 2 [(0, .ref (ga G 14 0)), (1, .ref (ga G 15 o1))] := hl
  have hx := C.1
  have hb := C.2.1
  have hown := C.2.2.2.2.2.1
  have hts := C.2.2.2.2.2.2.1
  obtain ⟨locs, hlocs⟩ : ∃ z : List Loc, z = [] := ⟨_, rfl⟩
  obtain ⟨H, hHe⟩ : ∃ z : Heap, z = s.heap := ⟨_, rfl⟩
  have hH : Hd G a1 (cmb τ σ) H := by rw [hHe]; exact hH
  have hS : va_S (gA G) s.heap H locs := by rw [hHe, hlocs]; exact hS
  refine W.heap0 hHe.symm hlocs.symm ?_
  refine lv_aload_n hx hb dX14_line_0 rfl (lv_at hl 0 rfl) ?_
  refine lv_aload_n hx hb dX14_line_1 rfl (lv_at hl 1 rfl) ?_
  refine lv_bipush (v := 13) hx hb dX14_line_2 (by decide) ?_
  refine kc_v (rn_v (As := [.ref (ga G 15 o1), .int 13]) (rest := []) C hH hS (by decide) rfl (by decide) (m14_code l G a1 τ σ o1 13 ho1 _ hw) (cwV 2 hts (lw_V q2558 q2560 qs148 q171 q2561) rfl rfl rfl kX14_code ⟨Nat.le_of_ble_eq_true rfl, Nat.le_of_ble_eq_true rfl⟩) rfl hl.1 rfl (Nat.le_of_ble_eq_true rfl) dX14_line_4 ⟨Nat.le_of_ble_eq_true rfl, Nat.le_of_ble_eq_true rfl⟩) hS (fun σ1 H locs hw hH hS => ?_)
  refine lv_aload_n hx hb dX14_line_7 rfl (lv_at hl 0 rfl) ?_
  refine lv_aload_n hx hb dX14_line_8 rfl (lv_at hl 1 rfl) ?_
  refine lv_bipush (v := 10) hx hb dX14_line_9 (by decide) ?_
  refine kc_v (rn_v (As := [.ref (ga G 15 o1), .int 10]) (rest := []) C hH hS (by decide) rfl (by decide) (m14_code l G a1 τ σ1 o1 10 ho1 _ hw) (cwV 2 hts (lw_V q2558 q2560 qs148 q171 q2561) rfl rfl rfl kX14_code ⟨Nat.le_of_ble_eq_true rfl, Nat.le_of_ble_eq_true rfl⟩) rfl hl.1 rfl (Nat.le_of_ble_eq_true rfl) dX14_line_11 ⟨Nat.le_of_ble_eq_true rfl, Nat.le_of_ble_eq_true rfl⟩) hS (fun σ2 H locs hw hH hS => ?_)
  exact rt_v C hH hS hw dX14_line_14
/-! WebHostModel.noted(LWebHostModel$Connection;I)V -/
abbrev cX14_noted : ByteArray := prog_17_method_45_code
def yX14_noted : MethodName := ⟨RX14, "noted", "(LWebHostModel$Connection;I)V"⟩
theorem dX14_noted_0 : decode cX14_noted 0 = .ok (.iload_n 2, 1) := by decide +kernel
theorem dX14_noted_1 : decode cX14_noted 1 = .ok (.aload_n 1, 1) := by decide +kernel
theorem dX14_noted_2 : decode cX14_noted 2 = .ok (.getfield 361, 3) := by decide +kernel
theorem dX14_noted_5 : decode cX14_noted 5 = .ok (.invokestatic 363, 3) := by decide +kernel
theorem dX14_noted_8 : decode cX14_noted 8 = .ok (.ifCond .eq 21, 3) := by decide +kernel
theorem dX14_noted_11 : decode cX14_noted 11 = .ok (.aload_n 0, 1) := by decide +kernel
theorem dX14_noted_12 : decode cX14_noted 12 = .ok (.getfield 31, 3) := by decide +kernel
theorem dX14_noted_15 : decode cX14_noted 15 = .ok (.iconst 3, 1) := by decide +kernel
theorem dX14_noted_16 : decode cX14_noted 16 = .ok (.dup2, 1) := by decide +kernel
theorem dX14_noted_17 : decode cX14_noted 17 = .ok (.iaload, 1) := by decide +kernel
theorem dX14_noted_18 : decode cX14_noted 18 = .ok (.iconst 1, 1) := by decide +kernel
theorem dX14_noted_19 : decode cX14_noted 19 = .ok (.iadd, 1) := by decide +kernel
theorem dX14_noted_20 : decode cX14_noted 20 = .ok (.iastore, 1) := by decide +kernel
theorem dX14_noted_21 : decode cX14_noted 21 = .ok (.aload_n 1, 1) := by decide +kernel
theorem dX14_noted_22 : decode cX14_noted 22 = .ok (.iconst 0, 1) := by decide +kernel
theorem dX14_noted_23 : decode cX14_noted 23 = .ok (.putfield 367, 3) := by decide +kernel
theorem dX14_noted_26 : decode cX14_noted 26 = .ok (.goto 28, 3) := by decide +kernel
theorem dX14_noted_29 : decode cX14_noted 29 = .ok (.aload_n 1, 1) := by decide +kernel
theorem dX14_noted_30 : decode cX14_noted 30 = .ok (.getfield 367, 3) := by decide +kernel
theorem dX14_noted_33 : decode cX14_noted 33 = .ok (.ifCond .ne 21, 3) := by decide +kernel
theorem dX14_noted_36 : decode cX14_noted 36 = .ok (.aload_n 1, 1) := by decide +kernel
theorem dX14_noted_37 : decode cX14_noted 37 = .ok (.iconst 1, 1) := by decide +kernel
theorem dX14_noted_38 : decode cX14_noted 38 = .ok (.putfield 367, 3) := by decide +kernel
theorem dX14_noted_41 : decode cX14_noted 41 = .ok (.aload_n 1, 1) := by decide +kernel
theorem dX14_noted_42 : decode cX14_noted 42 = .ok (.iload_n 2, 1) := by decide +kernel
theorem dX14_noted_43 : decode cX14_noted 43 = .ok (.putfield 370, 3) := by decide +kernel
theorem dX14_noted_46 : decode cX14_noted 46 = .ok (.aload_n 1, 1) := by decide +kernel
theorem dX14_noted_47 : decode cX14_noted 47 = .ok (.aload_n 0, 1) := by decide +kernel
theorem dX14_noted_48 : decode cX14_noted 48 = .ok (.getfield 134, 3) := by decide +kernel
theorem dX14_noted_51 : decode cX14_noted 51 = .ok (.putfield 373, 3) := by decide +kernel
theorem dX14_noted_54 : decode cX14_noted 54 = .ok (.aload_n 1, 1) := by decide +kernel
theorem dX14_noted_55 : decode cX14_noted 55 = .ok (.getfield 376, 3) := by decide +kernel
theorem dX14_noted_58 : decode cX14_noted 58 = .ok (.ifCond .ne 8, 3) := by decide +kernel
theorem dX14_noted_61 : decode cX14_noted 61 = .ok (.aload_n 0, 1) := by decide +kernel
theorem dX14_noted_62 : decode cX14_noted 62 = .ok (.aload_n 1, 1) := by decide +kernel
theorem dX14_noted_63 : decode cX14_noted 63 = .ok (.invokevirtual 379, 3) := by decide +kernel
theorem dX14_noted_66 : decode cX14_noted 66 = .ok (.return_, 1) := by decide +kernel
def rmX14_noted : Room := { frames := 1, cells := 0, slots := 0, locals := 21 }
theorem kX14_noted : yX14_noted.cls = "WebHostModel" ∧ yX14_noted.cls ≠ "java/lang/invoke/MethodHandle" ∧ yX14_noted.cls ≠ "java/lang/invoke/VarHandle" ∧ (parseMethodDescriptor yX14_noted.desc).map (fun d => d.parameters.length) = some 2 := by decide +kernel
def w14_noted (σ : St) (o1 : Nat) (x2 : Int32) (Q : St → Prop) : Prop := w14_before σ x2 (σ 15 o1 6) (fun r1 => ((r1 = 0 → (bo (σ 15 o1 17) → ((¬ (σ 15 o1 17) = 0 → (bo (σ 15 o1 21) → ((¬ (σ 15 o1 21) = 0 → Q σ) ∧ ((σ 15 o1 21) = 0 → (w14_timerSet σ o1 (fun σ2 => (Q σ2))))))) ∧ ((σ 15 o1 17) = 0 → (∀ σ3, σ3 = up3 σ 15 o1 17 1 → (∀ σ4, σ4 = up3 σ3 15 o1 19 x2 → (∀ σ5, σ5 = up3 σ4 15 o1 20 (σ4 14 0 10) → (bo (σ5 15 o1 21) → ((¬ (σ5 15 o1 21) = 0 → Q σ5) ∧ ((σ5 15 o1 21) = 0 → (w14_timerSet σ5 o1 (fun σ6 => (Q σ6))))))))))))) ∧ (¬ r1 = 0 → (vp_in 3 8 ∧ (vp_in 3 8 ∧ (∀ σ7, σ7 = up3 σ 56 0 (3 : Int32).toNatClampNeg ((σ 56 0 (3 : Int32).toNatClampNeg) + 1) → (∀ σ8, σ8 = up3 σ7 15 o1 17 0 → (bo (σ8 15 o1 21) → ((¬ (σ8 15 o1 21) = 0 → Q σ8) ∧ ((σ8 15 o1 21) = 0 → (w14_timerSet σ8 o1 (fun σ9 => (Q σ9)))))))))))))
set_option maxHeartbeats 4000000 in
theorem m14_noted (l : Launch) (G : Gh) (a1 : Nat → Nat → Nat) (τ : St) (σ : St) (o1 : Nat) (x2 : Int32) (ho1 : o1 < 16) (Q : St → Prop) (hw : w14_noted σ o1 x2 Q) : Met l yX14_noted (ws_ yX14_noted cX14_noted 3 none) rmX14_noted (PcS G a1 (cmb τ σ) [.ref (ga G 14 0), .ref (ga G 15 o1), .int x2]) (QVs G a1 (fun u => cmb τ u) Q) 0 0 (gA G) := by
  refine met_w (by decide) (Nat.le_of_ble_eq_true rfl) ?_
  intro p e s m below meth c ls C hH hS hl
  have C : Cx p e s m _ meth c cX14_noted 3 none "WebHostModel" G := C
  have hl : lv_has ls 3 [(0, .ref (ga G 14 0)), (1, .ref (ga G 15 o1)), (2, .int x2)] := hl
  have hx := C.1
  have hb := C.2.1
  have hown := C.2.2.2.2.2.1
  have hts := C.2.2.2.2.2.2.1
  obtain ⟨locs, hlocs⟩ : ∃ z : List Loc, z = [] := ⟨_, rfl⟩
  obtain ⟨H, hHe⟩ : ∃ z : Heap, z = s.heap := ⟨_, rfl⟩
  have hH : Hd G a1 (cmb τ σ) H := by rw [hHe]; exact hH
  have hS : va_S (gA G) s.heap H locs := by rw [hHe, hlocs]; exact hS
  refine W.heap0 hHe.symm hlocs.symm ?_
  refine lv_iload_n hx hb dX14_noted_0 rfl (lv_at hl 2 rfl) ?_
  refine lv_aload_n hx hb dX14_noted_1 rfl (lv_at hl 1 rfl) ?_
  refine g15_6 C hH ho1 q1713 dX14_noted_2 ?_
  refine kc_ip (rn_sp (As := [.int x2, .int (σ 15 o1 6)]) (rest := []) C hH hS (m14_before l G a1 τ σ H x2 (σ 15 o1 6) _ hw) (va_cwS 2 hts (lw_S q2294 q2295 q171 q2296) rfl rfl rfl kX14_before.2 ⟨Nat.le_of_ble_eq_true rfl, Nat.le_of_ble_eq_true rfl⟩) rfl hl.1 rfl (Nat.le_of_ble_eq_true rfl) dX14_noted_5 ⟨Nat.le_of_ble_eq_true rfl, Nat.le_of_ble_eq_true rfl⟩) hS (fun r1 locs hw hS => ?_)
  refine lv_if_eq (tgt := 29) hx hb dX14_noted_8 (by decide) (fun h => ?_) (fun h => ?_)
  · have hw := hw.1 h
    refine lv_aload_n hx hb dX14_noted_29 rfl (lv_at hl 1 rfl) ?_
    refine g15_17 C hH ho1 q1724 dX14_noted_30 (fun hz => ?_)
    have hw := hw hz
    refine lv_if_ne (tgt := 54) hx hb dX14_noted_33 (by decide) (fun h => ?_) (fun h => ?_)
    · have hw := hw.1 h
      refine lv_aload_n hx hb dX14_noted_54 rfl (lv_at hl 1 rfl) ?_
      refine g15_21 C hH ho1 q1728 dX14_noted_55 (fun hz => ?_)
      have hw := hw hz
      refine lv_if_ne (tgt := 66) hx hb dX14_noted_58 (by decide) (fun h => ?_) (fun h => ?_)
      · have hw := hw.1 h
        exact rt_v C hH hS hw dX14_noted_66
      have hw := hw.2 h
      refine lv_aload_n hx hb dX14_noted_61 rfl (lv_at hl 0 rfl) ?_
      refine lv_aload_n hx hb dX14_noted_62 rfl (lv_at hl 1 rfl) ?_
      refine kc_v (rn_v (As := [.ref (ga G 15 o1)]) (rest := []) C hH hS (by decide) rfl (by decide) (m14_timerSet l G a1 τ σ o1 ho1 _ hw) (cwV 1 hts (lw_V q2297 q2299 qs98 q171 q2300) rfl rfl rfl kX14_timerSet ⟨Nat.le_of_ble_eq_true rfl, Nat.le_of_ble_eq_true rfl⟩) rfl hl.1 rfl (Nat.le_of_ble_eq_true rfl) dX14_noted_63 ⟨Nat.le_of_ble_eq_true rfl, Nat.le_of_ble_eq_true rfl⟩) hS (fun σ2 H locs hw hH hS => ?_)
      exact rt_v C hH hS hw dX14_noted_66
    have hw := hw.2 h
    refine lv_aload_n hx hb dX14_noted_36 rfl (lv_at hl 1 rfl) ?_
    refine lv_iconst (v := 1) hx hb dX14_noted_37 (by decide) ?_
    refine p15_17 C hH hS ho1 (Or.inr rfl) q1724 dX14_noted_38 (fun σ3 e3 H locs hH hS => ?_)
    have hw := hw σ3 e3
    refine lv_aload_n hx hb dX14_noted_41 rfl (lv_at hl 1 rfl) ?_
    refine lv_iload_n hx hb dX14_noted_42 rfl (lv_at hl 2 rfl) ?_
    refine p15_19 C hH hS ho1 q1726 dX14_noted_43 (fun σ4 e4 H locs hH hS => ?_)
    have hw := hw σ4 e4
    refine lv_aload_n hx hb dX14_noted_46 rfl (lv_at hl 1 rfl) ?_
    refine lv_aload_n hx hb dX14_noted_47 rfl (lv_at hl 0 rfl) ?_
    refine g14_10 C hH q1950 dX14_noted_48 ?_
    refine p15_20 C hH hS ho1 q1727 dX14_noted_51 (fun σ5 e5 H locs hH hS => ?_)
    have hw := hw σ5 e5
    refine lv_aload_n hx hb dX14_noted_54 rfl (lv_at hl 1 rfl) ?_
    refine g15_21 C hH ho1 q1728 dX14_noted_55 (fun hz => ?_)
    have hw := hw hz
    refine lv_if_ne (tgt := 66) hx hb dX14_noted_58 (by decide) (fun h => ?_) (fun h => ?_)
    · have hw := hw.1 h
      exact rt_v C hH hS hw dX14_noted_66
    have hw := hw.2 h
    refine lv_aload_n hx hb dX14_noted_61 rfl (lv_at hl 0 rfl) ?_
    refine lv_aload_n hx hb dX14_noted_62 rfl (lv_at hl 1 rfl) ?_
    refine kc_v (rn_v (As := [.ref (ga G 15 o1)]) (rest := []) C hH hS (by decide) rfl (by decide) (m14_timerSet l G a1 τ σ5 o1 ho1 _ hw) (cwV 1 hts (lw_V q2297 q2299 qs98 q171 q2300) rfl rfl rfl kX14_timerSet ⟨Nat.le_of_ble_eq_true rfl, Nat.le_of_ble_eq_true rfl⟩) rfl hl.1 rfl (Nat.le_of_ble_eq_true rfl) dX14_noted_63 ⟨Nat.le_of_ble_eq_true rfl, Nat.le_of_ble_eq_true rfl⟩) hS (fun σ6 H locs hw hH hS => ?_)
    exact rt_v C hH hS hw dX14_noted_66
  have hw := hw.2 h
  refine lv_aload_n hx hb dX14_noted_11 rfl (lv_at hl 0 rfl) ?_
  refine g14_17 C hH q1957 dX14_noted_12 ?_
  refine lv_iconst (v := 3) hx hb dX14_noted_15 (by decide) ?_
  refine lv_dup2_11 hx hb dX14_noted_16 rfl rfl ?_
  refine l56 C hH hw.1 dX14_noted_17 ?_
  have hw := hw.2
  refine lv_iconst (v := 1) hx hb dX14_noted_18 (by decide) ?_
  refine lv_iadd hx hb dX14_noted_19 ?_
  refine s56 C hH hS hw.1 dX14_noted_20 (fun σ7 e7 H locs hH hS => ?_)
  have hw := hw.2 σ7 e7
  refine lv_aload_n hx hb dX14_noted_21 rfl (lv_at hl 1 rfl) ?_
  refine lv_iconst (v := 0) hx hb dX14_noted_22 (by decide) ?_
  refine p15_17 C hH hS ho1 (Or.inl rfl) q1724 dX14_noted_23 (fun σ8 e8 H locs hH hS => ?_)
  have hw := hw σ8 e8
  refine lv_goto (tgt := 54) hx hb dX14_noted_26 (by decide) ?_
  refine lv_aload_n hx hb dX14_noted_54 rfl (lv_at hl 1 rfl) ?_
  refine g15_21 C hH ho1 q1728 dX14_noted_55 (fun hz => ?_)
  have hw := hw hz
  refine lv_if_ne (tgt := 66) hx hb dX14_noted_58 (by decide) (fun h => ?_) (fun h => ?_)
  · have hw := hw.1 h
    exact rt_v C hH hS hw dX14_noted_66
  have hw := hw.2 h
  refine lv_aload_n hx hb dX14_noted_61 rfl (lv_at hl 0 rfl) ?_
  refine lv_aload_n hx hb dX14_noted_62 rfl (lv_at hl 1 rfl) ?_
  refine kc_v (rn_v (As := [.ref (ga G 15 o1)]) (rest := []) C hH hS (by decide) rfl (by decide) (m14_timerSet l G a1 τ σ8 o1 ho1 _ hw) (cwV 1 hts (lw_V q2297 q2299 qs98 q171 q2300) rfl rfl rfl kX14_timerSet ⟨Nat.le_of_ble_eq_true rfl, Nat.le_of_ble_eq_true rfl⟩) rfl hl.1 rfl (Nat.le_of_ble_eq_true rfl) dX14_noted_63 ⟨Nat.le_of_ble_eq_true rfl, Nat.le_of_ble_eq_true rfl⟩) hS (fun σ9 H locs hw hH hS => ?_)
  exact rt_v C hH hS hw dX14_noted_66
/-! WebHostModel.optionMss()I -/
abbrev cX14_optionMss : ByteArray := prog_17_method_53_code
def yX14_optionMss : MethodName := ⟨RX14, "optionMss", "()I"⟩
theorem dX14_optionMss_0 : decode cX14_optionMss 0 = .ok (.bipush 20, 2) := by decide +kernel
theorem dX14_optionMss_2 : decode cX14_optionMss 2 = .ok (.istore_n 1, 1) := by decide +kernel
theorem dX14_optionMss_3 : decode cX14_optionMss 3 = .ok (.iload_n 1, 1) := by decide +kernel
theorem dX14_optionMss_4 : decode cX14_optionMss 4 = .ok (.aload_n 0, 1) := by decide +kernel
theorem dX14_optionMss_5 : decode cX14_optionMss 5 = .ok (.getfield 282, 3) := by decide +kernel
theorem dX14_optionMss_8 : decode cX14_optionMss 8 = .ok (.if_icmp .ge 111, 3) := by decide +kernel
theorem dX14_optionMss_11 : decode cX14_optionMss 11 = .ok (.aload_n 0, 1) := by decide +kernel
theorem dX14_optionMss_12 : decode cX14_optionMss 12 = .ok (.getfield 65, 3) := by decide +kernel
theorem dX14_optionMss_15 : decode cX14_optionMss 15 = .ok (.iload_n 1, 1) := by decide +kernel
theorem dX14_optionMss_16 : decode cX14_optionMss 16 = .ok (.baload, 1) := by decide +kernel
theorem dX14_optionMss_17 : decode cX14_optionMss 17 = .ok (.istore_n 2, 1) := by decide +kernel
theorem dX14_optionMss_18 : decode cX14_optionMss 18 = .ok (.iload_n 2, 1) := by decide +kernel
theorem dX14_optionMss_19 : decode cX14_optionMss 19 = .ok (.ifCond .ne 7, 3) := by decide +kernel
theorem dX14_optionMss_22 : decode cX14_optionMss 22 = .ok (.sipush 536, 3) := by decide +kernel
theorem dX14_optionMss_25 : decode cX14_optionMss 25 = .ok (.ireturn, 1) := by decide +kernel
theorem dX14_optionMss_26 : decode cX14_optionMss 26 = .ok (.iload_n 2, 1) := by decide +kernel
theorem dX14_optionMss_27 : decode cX14_optionMss 27 = .ok (.iconst 1, 1) := by decide +kernel
theorem dX14_optionMss_28 : decode cX14_optionMss 28 = .ok (.if_icmp .ne 9, 3) := by decide +kernel
theorem dX14_optionMss_31 : decode cX14_optionMss 31 = .ok (.iinc 1 1, 3) := by decide +kernel
theorem dX14_optionMss_34 : decode cX14_optionMss 34 = .ok (.goto 82, 3) := by decide +kernel
theorem dX14_optionMss_37 : decode cX14_optionMss 37 = .ok (.iload_n 1, 1) := by decide +kernel
theorem dX14_optionMss_38 : decode cX14_optionMss 38 = .ok (.iconst 1, 1) := by decide +kernel
theorem dX14_optionMss_39 : decode cX14_optionMss 39 = .ok (.iadd, 1) := by decide +kernel
theorem dX14_optionMss_40 : decode cX14_optionMss 40 = .ok (.aload_n 0, 1) := by decide +kernel
theorem dX14_optionMss_41 : decode cX14_optionMss 41 = .ok (.getfield 282, 3) := by decide +kernel
theorem dX14_optionMss_44 : decode cX14_optionMss 44 = .ok (.if_icmp .lt 7, 3) := by decide +kernel
theorem dX14_optionMss_47 : decode cX14_optionMss 47 = .ok (.sipush 536, 3) := by decide +kernel
theorem dX14_optionMss_50 : decode cX14_optionMss 50 = .ok (.ireturn, 1) := by decide +kernel
theorem dX14_optionMss_51 : decode cX14_optionMss 51 = .ok (.aload_n 0, 1) := by decide +kernel
theorem dX14_optionMss_52 : decode cX14_optionMss 52 = .ok (.getfield 65, 3) := by decide +kernel
theorem dX14_optionMss_55 : decode cX14_optionMss 55 = .ok (.iload_n 1, 1) := by decide +kernel
theorem dX14_optionMss_56 : decode cX14_optionMss 56 = .ok (.iconst 1, 1) := by decide +kernel
theorem dX14_optionMss_57 : decode cX14_optionMss 57 = .ok (.iadd, 1) := by decide +kernel
theorem dX14_optionMss_58 : decode cX14_optionMss 58 = .ok (.baload, 1) := by decide +kernel
theorem dX14_optionMss_59 : decode cX14_optionMss 59 = .ok (.sipush 255, 3) := by decide +kernel
theorem dX14_optionMss_62 : decode cX14_optionMss 62 = .ok (.iand, 1) := by decide +kernel
theorem dX14_optionMss_63 : decode cX14_optionMss 63 = .ok (.istore_n 3, 1) := by decide +kernel
theorem dX14_optionMss_64 : decode cX14_optionMss 64 = .ok (.iload_n 3, 1) := by decide +kernel
theorem dX14_optionMss_65 : decode cX14_optionMss 65 = .ok (.iconst 2, 1) := by decide +kernel
theorem dX14_optionMss_66 : decode cX14_optionMss 66 = .ok (.if_icmp .lt 13, 3) := by decide +kernel
theorem dX14_optionMss_69 : decode cX14_optionMss 69 = .ok (.iload_n 1, 1) := by decide +kernel
theorem dX14_optionMss_70 : decode cX14_optionMss 70 = .ok (.iload_n 3, 1) := by decide +kernel
theorem dX14_optionMss_71 : decode cX14_optionMss 71 = .ok (.iadd, 1) := by decide +kernel
theorem dX14_optionMss_72 : decode cX14_optionMss 72 = .ok (.aload_n 0, 1) := by decide +kernel
theorem dX14_optionMss_73 : decode cX14_optionMss 73 = .ok (.getfield 282, 3) := by decide +kernel
theorem dX14_optionMss_76 : decode cX14_optionMss 76 = .ok (.if_icmp .le 7, 3) := by decide +kernel
theorem dX14_optionMss_79 : decode cX14_optionMss 79 = .ok (.sipush 536, 3) := by decide +kernel
theorem dX14_optionMss_82 : decode cX14_optionMss 82 = .ok (.ireturn, 1) := by decide +kernel
theorem dX14_optionMss_83 : decode cX14_optionMss 83 = .ok (.iload_n 2, 1) := by decide +kernel
theorem dX14_optionMss_84 : decode cX14_optionMss 84 = .ok (.iconst 2, 1) := by decide +kernel
theorem dX14_optionMss_85 : decode cX14_optionMss 85 = .ok (.if_icmp .ne 27, 3) := by decide +kernel
theorem dX14_optionMss_88 : decode cX14_optionMss 88 = .ok (.iload_n 3, 1) := by decide +kernel
theorem dX14_optionMss_89 : decode cX14_optionMss 89 = .ok (.iconst 4, 1) := by decide +kernel
theorem dX14_optionMss_90 : decode cX14_optionMss 90 = .ok (.if_icmp .ne 22, 3) := by decide +kernel
theorem dX14_optionMss_93 : decode cX14_optionMss 93 = .ok (.bipush 64, 2) := by decide +kernel
theorem dX14_optionMss_95 : decode cX14_optionMss 95 = .ok (.sipush 1460, 3) := by decide +kernel
theorem dX14_optionMss_98 : decode cX14_optionMss 98 = .ok (.aload_n 0, 1) := by decide +kernel
theorem dX14_optionMss_99 : decode cX14_optionMss 99 = .ok (.iload_n 1, 1) := by decide +kernel
theorem dX14_optionMss_100 : decode cX14_optionMss 100 = .ok (.iconst 2, 1) := by decide +kernel
theorem dX14_optionMss_101 : decode cX14_optionMss 101 = .ok (.iadd, 1) := by decide +kernel
theorem dX14_optionMss_102 : decode cX14_optionMss 102 = .ok (.invokevirtual 277, 3) := by decide +kernel
theorem dX14_optionMss_105 : decode cX14_optionMss 105 = .ok (.invokestatic 411, 3) := by decide +kernel
theorem dX14_optionMss_108 : decode cX14_optionMss 108 = .ok (.invokestatic 164, 3) := by decide +kernel
theorem dX14_optionMss_111 : decode cX14_optionMss 111 = .ok (.ireturn, 1) := by decide +kernel
theorem dX14_optionMss_112 : decode cX14_optionMss 112 = .ok (.iload_n 1, 1) := by decide +kernel
theorem dX14_optionMss_113 : decode cX14_optionMss 113 = .ok (.iload_n 3, 1) := by decide +kernel
theorem dX14_optionMss_114 : decode cX14_optionMss 114 = .ok (.iadd, 1) := by decide +kernel
theorem dX14_optionMss_115 : decode cX14_optionMss 115 = .ok (.istore_n 1, 1) := by decide +kernel
theorem dX14_optionMss_116 : decode cX14_optionMss 116 = .ok (.goto (-113), 3) := by decide +kernel
theorem dX14_optionMss_119 : decode cX14_optionMss 119 = .ok (.sipush 536, 3) := by decide +kernel
theorem dX14_optionMss_122 : decode cX14_optionMss 122 = .ok (.ireturn, 1) := by decide +kernel
def rmX14_optionMss : Room := { frames := 1, cells := 0, slots := 0, locals := 23 }
theorem kX14_optionMss : yX14_optionMss.cls = "WebHostModel" ∧ yX14_optionMss.cls ≠ "java/lang/invoke/MethodHandle" ∧ yX14_optionMss.cls ≠ "java/lang/invoke/VarHandle" ∧ (parseMethodDescriptor yX14_optionMss.desc).map (fun d => d.parameters.length) = some 0 := by decide +kernel
def w14_optionMss_L3 (σ : St) (Q : Int32 → Prop) (K22 : Prop) (K47 : Prop) (K79 : Prop) (K93 : Int32 → Prop) (K119 : Prop) : Nat → Int32 → Prop
  | 0, _ => False
  | n + 1, x1 => ((σ 14 0 40) ≤ x1 → K119) ∧ (¬ (σ 14 0 40) ≤ x1 → (vp_in x1 4096 ∧ (by8 (σ 64 0 x1.toNatClampNeg) → ((¬ (σ 64 0 x1.toNatClampNeg) = 0 → ((¬ (σ 64 0 x1.toNatClampNeg) = 1 → (((x1 + 1) < (σ 14 0 40) → (vp_in (x1 + 1) 4096 ∧ (by8 (σ 64 0 (x1 + 1).toNatClampNeg) → ((((σ 64 0 (x1 + 1).toNatClampNeg) &&& 255) < 2 → K79) ∧ (¬ ((σ 64 0 (x1 + 1).toNatClampNeg) &&& 255) < 2 → (((x1 + ((σ 64 0 (x1 + 1).toNatClampNeg) &&& 255)) ≤ (σ 14 0 40) → ((¬ (σ 64 0 x1.toNatClampNeg) = 2 → (w14_optionMss_L3 σ Q K22 K47 K79 K93 K119 n (x1 + ((σ 64 0 (x1 + 1).toNatClampNeg) &&& 255)))) ∧ ((σ 64 0 x1.toNatClampNeg) = 2 → ((¬ ((σ 64 0 (x1 + 1).toNatClampNeg) &&& 255) = 4 → (w14_optionMss_L3 σ Q K22 K47 K79 K93 K119 n (x1 + ((σ 64 0 (x1 + 1).toNatClampNeg) &&& 255)))) ∧ (((σ 64 0 (x1 + 1).toNatClampNeg) &&& 255) = 4 → K93 x1))))) ∧ (¬ (x1 + ((σ 64 0 (x1 + 1).toNatClampNeg) &&& 255)) ≤ (σ 14 0 40) → K79))))))) ∧ (¬ (x1 + 1) < (σ 14 0 40) → K47))) ∧ ((σ 64 0 x1.toNatClampNeg) = 1 → (w14_optionMss_L3 σ Q K22 K47 K79 K93 K119 n (x1 + 1))))) ∧ ((σ 64 0 x1.toNatClampNeg) = 0 → K22)))))
set_option maxHeartbeats 4000000 in
theorem k14_optionMss_L3 {p : Program} {l : Launch} {e : Env} {s : State} {m : MethodId} {args : Array Value} {below : List Frame} {meth : Method} {c : Code} {G : Gh} {a1 : Nat → Nat → Nat} {τ : St} {H : Heap} {Q : Int32 → Prop} {K22 : Prop} {K47 : Prop} {K79 : Prop} {K93 : Int32 → Prop} {K119 : Prop} (C : Cx p e s m args meth c cX14_optionMss 4 (some .int) "WebHostModel" G) (σ : St) (hH : Hd G a1 (cmb τ σ) H) :
    ∀ (n : Nat) (x1 : Int32), w14_optionMss_L3 σ Q K22 K47 K79 K93 K119 n x1 → ∀ (locs : List Loc) (ls : Array Slot), va_S (gA G) s.heap H locs → lv_has ls 4 [(0, .ref (ga G 14 0)), (1, .int x1)] → (K22 → ∀ (locs : List Loc) (ls : Array Slot), va_S (gA G) s.heap H locs → lv_has ls 4 [] → W p l e rmX14_optionMss s m args below meth c H locs 0 0 (MQ below (QIp G H Q) args s 0 0 (gA G)) (F0 m 22 ls [])) → (K47 → ∀ (locs : List Loc) (ls : Array Slot), va_S (gA G) s.heap H locs → lv_has ls 4 [] → W p l e rmX14_optionMss s m args below meth c H locs 0 0 (MQ below (QIp G H Q) args s 0 0 (gA G)) (F0 m 47 ls [])) → (K79 → ∀ (locs : List Loc) (ls : Array Slot), va_S (gA G) s.heap H locs → lv_has ls 4 [] → W p l e rmX14_optionMss s m args below meth c H locs 0 0 (MQ below (QIp G H Q) args s 0 0 (gA G)) (F0 m 79 ls [])) → (∀ (x1 : Int32), K93 x1 → ∀ (locs : List Loc) (ls : Array Slot), va_S (gA G) s.heap H locs → lv_has ls 4 [(0, .ref (ga G 14 0)), (1, .int x1)] → W p l e rmX14_optionMss s m args below meth c H locs 0 0 (MQ below (QIp G H Q) args s 0 0 (gA G)) (F0 m 93 ls [])) → (K119 → ∀ (locs : List Loc) (ls : Array Slot), va_S (gA G) s.heap H locs → lv_has ls 4 [] → W p l e rmX14_optionMss s m args below meth c H locs 0 0 (MQ below (QIp G H Q) args s 0 0 (gA G)) (F0 m 119 ls [])) → W p l e rmX14_optionMss s m args below meth c H locs 0 0 (MQ below (QIp G H Q) args s 0 0 (gA G)) (F0 m 3 ls []) := by
  have hx := C.1
  have hb := C.2.1
  have hown := C.2.2.2.2.2.1
  have hts := C.2.2.2.2.2.2.1
  intro n
  induction n with
  | zero =>
    intro x1 hw
    exact False.elim hw
  | succ n ih =>
    intro x1 hw locs ls hS hl hK22 hK47 hK79 hK93 hK119
    refine lv_iload_n hx hb dX14_optionMss_3 rfl (lv_at hl 1 rfl) ?_
    refine lv_aload_n hx hb dX14_optionMss_4 rfl (lv_at hl 0 rfl) ?_
    refine g14_40 C hH q1980 dX14_optionMss_5 ?_
    refine lv_icmp_ge (tgt := 119) hx hb dX14_optionMss_8 (by decide) (fun h => ?_) (fun h => ?_)
    · have hw := hw.1 h
      exact hK119 hw locs ls hS (lv_sub hl [] rfl)
    have hw := hw.2 h
    refine lv_aload_n hx hb dX14_optionMss_11 rfl (lv_at hl 0 rfl) ?_
    refine g14_29 C hH q1969 dX14_optionMss_12 ?_
    refine lv_iload_n hx hb dX14_optionMss_15 rfl (lv_at hl 1 rfl) ?_
    refine l64 C hH hw.1 dX14_optionMss_16 (fun hz => ?_)
    have hw := hw.2 hz
    refine lv_istore_n (lv' := [(2, .int (σ 64 0 x1.toNatClampNeg)), (0, .ref (ga G 14 0)), (1, .int x1)]) hx hb dX14_optionMss_17 rfl hl (by decide) rfl (fun ls hl => ?_)
    refine lv_iload_n hx hb dX14_optionMss_18 rfl (lv_at hl 0 rfl) ?_
    refine lv_if_ne (tgt := 26) hx hb dX14_optionMss_19 (by decide) (fun h => ?_) (fun h => ?_)
    · have hw := hw.1 h
      refine lv_iload_n hx hb dX14_optionMss_26 rfl (lv_at hl 0 rfl) ?_
      refine lv_iconst (v := 1) hx hb dX14_optionMss_27 (by decide) ?_
      refine lv_icmp_ne (tgt := 37) hx hb dX14_optionMss_28 (by decide) (fun h => ?_) (fun h => ?_)
      · have hw := hw.1 h
        refine lv_iload_n hx hb dX14_optionMss_37 rfl (lv_at hl 2 rfl) ?_
        refine lv_iconst (v := 1) hx hb dX14_optionMss_38 (by decide) ?_
        refine lv_iadd hx hb dX14_optionMss_39 ?_
        refine lv_aload_n hx hb dX14_optionMss_40 rfl (lv_at hl 1 rfl) ?_
        refine g14_40 C hH q1980 dX14_optionMss_41 ?_
        refine lv_icmp_lt (tgt := 51) hx hb dX14_optionMss_44 (by decide) (fun h => ?_) (fun h => ?_)
        · have hw := hw.1 h
          refine lv_aload_n hx hb dX14_optionMss_51 rfl (lv_at hl 1 rfl) ?_
          refine g14_29 C hH q1969 dX14_optionMss_52 ?_
          refine lv_iload_n hx hb dX14_optionMss_55 rfl (lv_at hl 2 rfl) ?_
          refine lv_iconst (v := 1) hx hb dX14_optionMss_56 (by decide) ?_
          refine lv_iadd hx hb dX14_optionMss_57 ?_
          refine l64 C hH hw.1 dX14_optionMss_58 (fun hz => ?_)
          have hw := hw.2 hz
          refine lv_sipush (v := 255) hx hb dX14_optionMss_59 (by decide) ?_
          refine lv_iand hx hb dX14_optionMss_62 ?_
          refine lv_istore_n (lv' := [(3, .int ((σ 64 0 (x1 + 1).toNatClampNeg) &&& 255)), (2, .int (σ 64 0 x1.toNatClampNeg)), (0, .ref (ga G 14 0)), (1, .int x1)]) hx hb dX14_optionMss_63 rfl hl (by decide) rfl (fun ls hl => ?_)
          refine lv_iload_n hx hb dX14_optionMss_64 rfl (lv_at hl 0 rfl) ?_
          refine lv_iconst (v := 2) hx hb dX14_optionMss_65 (by decide) ?_
          refine lv_icmp_lt (tgt := 79) hx hb dX14_optionMss_66 (by decide) (fun h => ?_) (fun h => ?_)
          · have hw := hw.1 h
            exact hK79 hw locs ls hS (lv_sub hl [] rfl)
          have hw := hw.2 h
          refine lv_iload_n hx hb dX14_optionMss_69 rfl (lv_at hl 3 rfl) ?_
          refine lv_iload_n hx hb dX14_optionMss_70 rfl (lv_at hl 0 rfl) ?_
          refine lv_iadd hx hb dX14_optionMss_71 ?_
          refine lv_aload_n hx hb dX14_optionMss_72 rfl (lv_at hl 2 rfl) ?_
          refine g14_40 C hH q1980 dX14_optionMss_73 ?_
          refine lv_icmp_le (tgt := 83) hx hb dX14_optionMss_76 (by decide) (fun h => ?_) (fun h => ?_)
          · have hw := hw.1 h
            refine lv_iload_n hx hb dX14_optionMss_83 rfl (lv_at hl 1 rfl) ?_
            refine lv_iconst (v := 2) hx hb dX14_optionMss_84 (by decide) ?_
            refine lv_icmp_ne (tgt := 112) hx hb dX14_optionMss_85 (by decide) (fun h => ?_) (fun h => ?_)
            · have hw := hw.1 h
              refine lv_iload_n hx hb dX14_optionMss_112 rfl (lv_at hl 3 rfl) ?_
              refine lv_iload_n hx hb dX14_optionMss_113 rfl (lv_at hl 0 rfl) ?_
              refine lv_iadd hx hb dX14_optionMss_114 ?_
              refine lv_istore_n (lv' := [(1, .int (x1 + ((σ 64 0 (x1 + 1).toNatClampNeg) &&& 255))), (3, .int ((σ 64 0 (x1 + 1).toNatClampNeg) &&& 255)), (2, .int (σ 64 0 x1.toNatClampNeg)), (0, .ref (ga G 14 0))]) hx hb dX14_optionMss_115 rfl hl (by decide) rfl (fun ls hl => ?_)
              refine lv_goto (tgt := 3) hx hb dX14_optionMss_116 (by decide) ?_
              exact ih (x1 + ((σ 64 0 (x1 + 1).toNatClampNeg) &&& 255)) hw locs ls hS (lv_sub hl [3, 0] rfl) hK22 hK47 hK79 hK93 hK119
            have hw := hw.2 h
            refine lv_iload_n hx hb dX14_optionMss_88 rfl (lv_at hl 0 rfl) ?_
            refine lv_iconst (v := 4) hx hb dX14_optionMss_89 (by decide) ?_
            refine lv_icmp_ne (tgt := 112) hx hb dX14_optionMss_90 (by decide) (fun h => ?_) (fun h => ?_)
            · have hw := hw.1 h
              refine lv_iload_n hx hb dX14_optionMss_112 rfl (lv_at hl 3 rfl) ?_
              refine lv_iload_n hx hb dX14_optionMss_113 rfl (lv_at hl 0 rfl) ?_
              refine lv_iadd hx hb dX14_optionMss_114 ?_
              refine lv_istore_n (lv' := [(1, .int (x1 + ((σ 64 0 (x1 + 1).toNatClampNeg) &&& 255))), (3, .int ((σ 64 0 (x1 + 1).toNatClampNeg) &&& 255)), (2, .int (σ 64 0 x1.toNatClampNeg)), (0, .ref (ga G 14 0))]) hx hb dX14_optionMss_115 rfl hl (by decide) rfl (fun ls hl => ?_)
              refine lv_goto (tgt := 3) hx hb dX14_optionMss_116 (by decide) ?_
              exact ih (x1 + ((σ 64 0 (x1 + 1).toNatClampNeg) &&& 255)) hw locs ls hS (lv_sub hl [3, 0] rfl) hK22 hK47 hK79 hK93 hK119
            have hw := hw.2 h
            exact hK93 x1 hw locs ls hS (lv_sub hl [2, 3] rfl)
          have hw := hw.2 h
          exact hK79 hw locs ls hS (lv_sub hl [] rfl)
        have hw := hw.2 h
        exact hK47 hw locs ls hS (lv_sub hl [] rfl)
      have hw := hw.2 h
      refine lv_iinc (v := x1 + 1) (lv' := [(1, .int (x1 + 1)), (2, .int (σ 64 0 x1.toNatClampNeg)), (0, .ref (ga G 14 0))]) hx hb dX14_optionMss_31 hl (k := 2) rfl rfl (by decide) rfl (fun ls hl => ?_)
      refine lv_goto (tgt := 116) hx hb dX14_optionMss_34 (by decide) ?_
      refine lv_goto (tgt := 3) hx hb dX14_optionMss_116 (by decide) ?_
      exact ih (x1 + 1) hw locs ls hS (lv_sub hl [2, 0] rfl) hK22 hK47 hK79 hK93 hK119
    have hw := hw.2 h
    exact hK22 hw locs ls hS (lv_sub hl [] rfl)
def w14_optionMss (σ : St) (Q : Int32 → Prop) : Prop := ∃ z1, w14_optionMss_L3 σ Q (Q 536) (Q 536) (Q 536) (fun x1_5 => w14_half σ (x1_5 + 2) (fun r7 => (Q (imax 64 (imin 1460 r7))))) (Q 536) z1 20
set_option maxHeartbeats 4000000 in
theorem m14_optionMss (l : Launch) (G : Gh) (a1 : Nat → Nat → Nat) (τ : St) (σ : St) (H : Heap) (Q : Int32 → Prop) (hw : w14_optionMss σ Q) : Met l yX14_optionMss (ws_ yX14_optionMss cX14_optionMss 4 (some .int)) rmX14_optionMss (PcP G a1 (cmb τ σ) H [.ref (ga G 14 0)]) (QIp G H Q) 0 0 (gA G) := by
  refine met_p (by decide) (Nat.le_of_ble_eq_true rfl) ?_
  intro p e s m below meth c ls hHe C hH hS hl
  have C : Cx p e s m _ meth c cX14_optionMss 4 (some .int) "WebHostModel" G := C
  have hl : lv_has ls 4 [(0, .ref (ga G 14 0))] := hl
  have hx := C.1
  have hb := C.2.1
  have hown := C.2.2.2.2.2.1
  have hts := C.2.2.2.2.2.2.1
  obtain ⟨locs, hlocs⟩ : ∃ z : List Loc, z = [] := ⟨_, rfl⟩
  rw [← hlocs] at hS ⊢
  refine lv_bipush (v := 20) hx hb dX14_optionMss_0 (by decide) ?_
  refine lv_istore_n (lv' := [(1, .int 20), (0, .ref (ga G 14 0))]) hx hb dX14_optionMss_2 rfl hl (by decide) rfl (fun ls hl => ?_)
  obtain ⟨n1, hw⟩ := hw
  refine k14_optionMss_L3 C σ hH n1 20 hw locs ls hS (lv_sub hl [1, 0] rfl) (fun hw locs ls hS hl => ?_) (fun hw locs ls hS hl => ?_) (fun hw locs ls hS hl => ?_) (fun x1_5 hw locs ls hS hl => ?_) (fun hw locs ls hS hl => ?_)
  · refine lv_sipush (v := 536) hx hb dX14_optionMss_22 (by decide) ?_
    exact rt_ip C rfl hS hw dX14_optionMss_25
  · refine lv_sipush (v := 536) hx hb dX14_optionMss_47 (by decide) ?_
    exact rt_ip C rfl hS hw dX14_optionMss_50
  · refine lv_sipush (v := 536) hx hb dX14_optionMss_79 (by decide) ?_
    exact rt_ip C rfl hS hw dX14_optionMss_82
  · refine lv_bipush (v := 64) hx hb dX14_optionMss_93 (by decide) ?_
    refine lv_sipush (v := 1460) hx hb dX14_optionMss_95 (by decide) ?_
    refine lv_aload_n hx hb dX14_optionMss_98 rfl (lv_at hl 0 rfl) ?_
    refine lv_iload_n hx hb dX14_optionMss_99 rfl (lv_at hl 1 rfl) ?_
    refine lv_iconst (v := 2) hx hb dX14_optionMss_100 (by decide) ?_
    refine lv_iadd hx hb dX14_optionMss_101 ?_
    refine kc_ip (rn_vp (As := [.int (x1_5 + 2)]) (rest := [.int 1460, .int 64]) C hH hS (by decide) rfl (by decide) (m14_half l G a1 τ σ H (x1_5 + 2) _ hw) (cwV 1 hts (lw_V q2361 q2363 qs113 q171 q2364) rfl rfl rfl kX14_half ⟨Nat.le_of_ble_eq_true rfl, Nat.le_of_ble_eq_true rfl⟩) rfl hl.1 rfl (Nat.le_of_ble_eq_true rfl) dX14_optionMss_102 ⟨Nat.le_of_ble_eq_true rfl, Nat.le_of_ble_eq_true rfl⟩) hS (fun r7 locs hw hS => ?_)
    refine r_imin C hl.1 q2281 (Nat.le_of_ble_eq_true rfl) (Nat.le_of_ble_eq_true rfl) (Nat.zero_le _) (Nat.zero_le _) dX14_optionMss_105 ?_
    refine r_imax C hl.1 q2226 (Nat.le_of_ble_eq_true rfl) (Nat.le_of_ble_eq_true rfl) (Nat.zero_le _) (Nat.zero_le _) dX14_optionMss_108 ?_
    exact rt_ip C rfl hS hw dX14_optionMss_111
  refine lv_sipush (v := 536) hx hb dX14_optionMss_119 (by decide) ?_
  exact rt_ip C rfl hS hw dX14_optionMss_122
/-! WebHostModel.sayNumber(LWebHostModel$Connection;I)V -/
abbrev cX14_sayNumber : ByteArray := prog_17_method_103_code
def yX14_sayNumber : MethodName := ⟨RX14, "sayNumber", "(LWebHostModel$Connection;I)V"⟩
theorem dX14_sayNumber_0 : decode cX14_sayNumber 0 = .ok (.iconst 1, 1) := by decide +kernel
theorem dX14_sayNumber_1 : decode cX14_sayNumber 1 = .ok (.istore_n 3, 1) := by decide +kernel
theorem dX14_sayNumber_2 : decode cX14_sayNumber 2 = .ok (.iload_n 2, 1) := by decide +kernel
theorem dX14_sayNumber_3 : decode cX14_sayNumber 3 = .ok (.iload_n 3, 1) := by decide +kernel
theorem dX14_sayNumber_4 : decode cX14_sayNumber 4 = .ok (.idiv, 1) := by decide +kernel
theorem dX14_sayNumber_5 : decode cX14_sayNumber 5 = .ok (.bipush 10, 2) := by decide +kernel
theorem dX14_sayNumber_7 : decode cX14_sayNumber 7 = .ok (.if_icmp .lt 11, 3) := by decide +kernel
theorem dX14_sayNumber_10 : decode cX14_sayNumber 10 = .ok (.iload_n 3, 1) := by decide +kernel
theorem dX14_sayNumber_11 : decode cX14_sayNumber 11 = .ok (.bipush 10, 2) := by decide +kernel
theorem dX14_sayNumber_13 : decode cX14_sayNumber 13 = .ok (.imul, 1) := by decide +kernel
theorem dX14_sayNumber_14 : decode cX14_sayNumber 14 = .ok (.istore_n 3, 1) := by decide +kernel
theorem dX14_sayNumber_15 : decode cX14_sayNumber 15 = .ok (.goto (-13), 3) := by decide +kernel
theorem dX14_sayNumber_18 : decode cX14_sayNumber 18 = .ok (.iload_n 3, 1) := by decide +kernel
theorem dX14_sayNumber_19 : decode cX14_sayNumber 19 = .ok (.istore 4, 2) := by decide +kernel
theorem dX14_sayNumber_21 : decode cX14_sayNumber 21 = .ok (.iload 4, 2) := by decide +kernel
theorem dX14_sayNumber_23 : decode cX14_sayNumber 23 = .ok (.ifCond .le 28, 3) := by decide +kernel
theorem dX14_sayNumber_26 : decode cX14_sayNumber 26 = .ok (.aload_n 0, 1) := by decide +kernel
theorem dX14_sayNumber_27 : decode cX14_sayNumber 27 = .ok (.aload_n 1, 1) := by decide +kernel
theorem dX14_sayNumber_28 : decode cX14_sayNumber 28 = .ok (.bipush 48, 2) := by decide +kernel
theorem dX14_sayNumber_30 : decode cX14_sayNumber 30 = .ok (.iload_n 2, 1) := by decide +kernel
theorem dX14_sayNumber_31 : decode cX14_sayNumber 31 = .ok (.iload 4, 2) := by decide +kernel
theorem dX14_sayNumber_33 : decode cX14_sayNumber 33 = .ok (.idiv, 1) := by decide +kernel
theorem dX14_sayNumber_34 : decode cX14_sayNumber 34 = .ok (.bipush 10, 2) := by decide +kernel
theorem dX14_sayNumber_36 : decode cX14_sayNumber 36 = .ok (.irem, 1) := by decide +kernel
theorem dX14_sayNumber_37 : decode cX14_sayNumber 37 = .ok (.iadd, 1) := by decide +kernel
theorem dX14_sayNumber_38 : decode cX14_sayNumber 38 = .ok (.invokevirtual 789, 3) := by decide +kernel
theorem dX14_sayNumber_41 : decode cX14_sayNumber 41 = .ok (.iload 4, 2) := by decide +kernel
theorem dX14_sayNumber_43 : decode cX14_sayNumber 43 = .ok (.bipush 10, 2) := by decide +kernel
theorem dX14_sayNumber_45 : decode cX14_sayNumber 45 = .ok (.idiv, 1) := by decide +kernel
theorem dX14_sayNumber_46 : decode cX14_sayNumber 46 = .ok (.istore 4, 2) := by decide +kernel
theorem dX14_sayNumber_48 : decode cX14_sayNumber 48 = .ok (.goto (-27), 3) := by decide +kernel
theorem dX14_sayNumber_51 : decode cX14_sayNumber 51 = .ok (.return_, 1) := by decide +kernel
def rmX14_sayNumber : Room := { frames := 1, cells := 0, slots := 0, locals := 22 }
theorem kX14_sayNumber : yX14_sayNumber.cls = "WebHostModel" ∧ yX14_sayNumber.cls ≠ "java/lang/invoke/MethodHandle" ∧ yX14_sayNumber.cls ≠ "java/lang/invoke/VarHandle" ∧ (parseMethodDescriptor yX14_sayNumber.desc).map (fun d => d.parameters.length) = some 2 := by decide +kernel
def w14_sayNumber_L2 (σ : St) (o1 : Nat) (x2 : Int32) (Q : St → Prop) (K18 : Int32 → Prop) : Nat → Int32 → Prop
  | 0, _ => False
  | n + 1, x3 => ¬ x3 = 0 ∧ (((x2 / x3) < 10 → K18 x3) ∧ (¬ (x2 / x3) < 10 → (w14_sayNumber_L2 σ o1 x2 Q K18 n (x3 * 10))))
set_option maxHeartbeats 4000000 in
theorem k14_sayNumber_L2 {p : Program} {l : Launch} {e : Env} {s : State} {m : MethodId} {args : Array Value} {below : List Frame} {meth : Method} {c : Code} {G : Gh} {a1 : Nat → Nat → Nat} {τ : St} {Q : St → Prop} {K18 : Int32 → Prop} (C : Cx p e s m args meth c cX14_sayNumber 5 none "WebHostModel" G) (σ : St) (o1 : Nat) (x2 : Int32) (ho1 : o1 < 16) :
    ∀ (n : Nat) (x3 : Int32), w14_sayNumber_L2 σ o1 x2 Q K18 n x3 → ∀ (H : Heap) (locs : List Loc) (ls : Array Slot), Hd G a1 (cmb τ σ) H → va_S (gA G) s.heap H locs → lv_has ls 5 [(0, .ref (ga G 14 0)), (1, .ref (ga G 15 o1)), (2, .int x2), (3, .int x3)] → (∀ (x3 : Int32), K18 x3 → ∀ (H : Heap) (locs : List Loc) (ls : Array Slot), Hd G a1 (cmb τ σ) H → va_S (gA G) s.heap H locs → lv_has ls 5 [(0, .ref (ga G 14 0)), (1, .ref (ga G 15 o1)), (2, .int x2), (3, .int x3)] → W p l e rmX14_sayNumber s m args below meth c H locs 0 0 (MQ below (QVs G a1 (fun u => cmb τ u) Q) args s 0 0 (gA G)) (F0 m 18 ls [])) → W p l e rmX14_sayNumber s m args below meth c H locs 0 0 (MQ below (QVs G a1 (fun u => cmb τ u) Q) args s 0 0 (gA G)) (F0 m 2 ls []) := by
  have hx := C.1
  have hb := C.2.1
  have hown := C.2.2.2.2.2.1
  have hts := C.2.2.2.2.2.2.1
  intro n
  induction n with
  | zero =>
    intro x3 hw
    exact False.elim hw
  | succ n ih =>
    intro x3 hw H locs ls hH hS hl hK18
    refine lv_iload_n hx hb dX14_sayNumber_2 rfl (lv_at hl 2 rfl) ?_
    refine lv_iload_n hx hb dX14_sayNumber_3 rfl (lv_at hl 3 rfl) ?_
    refine lv_idiv hx hb dX14_sayNumber_4 hw.1 ?_
    have hw := hw.2
    refine lv_bipush (v := 10) hx hb dX14_sayNumber_5 (by decide) ?_
    refine lv_icmp_lt (tgt := 18) hx hb dX14_sayNumber_7 (by decide) (fun h => ?_) (fun h => ?_)
    · have hw := hw.1 h
      exact hK18 x3 hw H locs ls hH hS (lv_sub hl [0, 1, 2, 3] rfl)
    have hw := hw.2 h
    refine lv_iload_n hx hb dX14_sayNumber_10 rfl (lv_at hl 3 rfl) ?_
    refine lv_bipush (v := 10) hx hb dX14_sayNumber_11 (by decide) ?_
    refine lv_imul hx hb dX14_sayNumber_13 ?_
    refine lv_istore_n (lv' := [(3, .int (x3 * 10)), (0, .ref (ga G 14 0)), (1, .ref (ga G 15 o1)), (2, .int x2)]) hx hb dX14_sayNumber_14 rfl hl (by decide) rfl (fun ls hl => ?_)
    refine lv_goto (tgt := 2) hx hb dX14_sayNumber_15 (by decide) ?_
    exact ih (x3 * 10) hw H locs ls hH hS (lv_sub hl [1, 2, 3, 0] rfl) hK18
def w14_sayNumber_L21 (o1 : Nat) (x2 : Int32) (Q : St → Prop) (K51 : St → Prop) : Nat → St → Int32 → Prop
  | 0, _, _ => False
  | n + 1, σ, x4 => (x4 ≤ 0 → K51 σ) ∧ (¬ x4 ≤ 0 → (¬ x4 = 0 ∧ (w14_code σ o1 (48 + ((x2 / x4) - (x2 / x4) / 10 * 10)) (fun σ3 => (w14_sayNumber_L21 o1 x2 Q K51 n σ3 (x4 / 10))))))
set_option maxHeartbeats 4000000 in
theorem k14_sayNumber_L21 {p : Program} {l : Launch} {e : Env} {s : State} {m : MethodId} {args : Array Value} {below : List Frame} {meth : Method} {c : Code} {G : Gh} {a1 : Nat → Nat → Nat} {τ : St} {Q : St → Prop} {K51 : St → Prop} (C : Cx p e s m args meth c cX14_sayNumber 5 none "WebHostModel" G) (o1 : Nat) (x2 : Int32) (ho1 : o1 < 16) :
    ∀ (n : Nat) (σ : St) (x4 : Int32), w14_sayNumber_L21 o1 x2 Q K51 n σ x4 → ∀ (H : Heap) (locs : List Loc) (ls : Array Slot), Hd G a1 (cmb τ σ) H → va_S (gA G) s.heap H locs → lv_has ls 5 [(0, .ref (ga G 14 0)), (1, .ref (ga G 15 o1)), (2, .int x2), (4, .int x4)] → (∀ (σ : St) , K51 σ → ∀ (H : Heap) (locs : List Loc) (ls : Array Slot), Hd G a1 (cmb τ σ) H → va_S (gA G) s.heap H locs → lv_has ls 5 [] → W p l e rmX14_sayNumber s m args below meth c H locs 0 0 (MQ below (QVs G a1 (fun u => cmb τ u) Q) args s 0 0 (gA G)) (F0 m 51 ls [])) → W p l e rmX14_sayNumber s m args below meth c H locs 0 0 (MQ below (QVs G a1 (fun u => cmb τ u) Q) args s 0 0 (gA G)) (F0 m 21 ls []) := by
  have hx := C.1
  have hb := C.2.1
  have hown := C.2.2.2.2.2.1
  have hts := C.2.2.2.2.2.2.1
  intro n
  induction n with
  | zero =>
    intro σ x4 hw
    exact False.elim hw
  | succ n ih =>
    intro σ x4 hw H locs ls hH hS hl hK51
    refine lv_iload hx hb dX14_sayNumber_21 (lv_at hl 3 rfl) ?_
    refine lv_if_le (tgt := 51) hx hb dX14_sayNumber_23 (by decide) (fun h => ?_) (fun h => ?_)
    · have hw := hw.1 h
      exact hK51 σ hw H locs ls hH hS (lv_sub hl [] rfl)
    have hw := hw.2 h
    refine lv_aload_n hx hb dX14_sayNumber_26 rfl (lv_at hl 0 rfl) ?_
    refine lv_aload_n hx hb dX14_sayNumber_27 rfl (lv_at hl 1 rfl) ?_
    refine lv_bipush (v := 48) hx hb dX14_sayNumber_28 (by decide) ?_
    refine lv_iload_n hx hb dX14_sayNumber_30 rfl (lv_at hl 2 rfl) ?_
    refine lv_iload hx hb dX14_sayNumber_31 (lv_at hl 3 rfl) ?_
    refine lv_idiv hx hb dX14_sayNumber_33 hw.1 ?_
    have hw := hw.2
    refine lv_bipush (v := 10) hx hb dX14_sayNumber_34 (by decide) ?_
    refine lv_irem hx hb dX14_sayNumber_36 (by decide) ?_
    refine lv_iadd hx hb dX14_sayNumber_37 ?_
    refine kc_v (rn_v (As := [.ref (ga G 15 o1), .int (48 + ((x2 / x4) - (x2 / x4) / 10 * 10))]) (rest := []) C hH hS (by decide) rfl (by decide) (m14_code l G a1 τ σ o1 (48 + ((x2 / x4) - (x2 / x4) / 10 * 10)) ho1 _ hw) (cwV 2 hts (lw_V q2558 q2560 qs148 q171 q2561) rfl rfl rfl kX14_code ⟨Nat.le_of_ble_eq_true rfl, Nat.le_of_ble_eq_true rfl⟩) rfl hl.1 rfl (Nat.le_of_ble_eq_true rfl) dX14_sayNumber_38 ⟨Nat.le_of_ble_eq_true rfl, Nat.le_of_ble_eq_true rfl⟩) hS (fun σ3 H locs hw hH hS => ?_)
    refine lv_iload hx hb dX14_sayNumber_41 (lv_at hl 3 rfl) ?_
    refine lv_bipush (v := 10) hx hb dX14_sayNumber_43 (by decide) ?_
    refine lv_idiv hx hb dX14_sayNumber_45 (by decide) ?_
    refine lv_istore (lv' := [(4, .int (x4 / 10)), (0, .ref (ga G 14 0)), (1, .ref (ga G 15 o1)), (2, .int x2)]) hx hb dX14_sayNumber_46 hl (by decide) rfl (fun ls hl => ?_)
    refine lv_goto (tgt := 21) hx hb dX14_sayNumber_48 (by decide) ?_
    exact ih σ3 (x4 / 10) hw H locs ls hH hS (lv_sub hl [1, 2, 3, 0] rfl) hK51
def w14_sayNumber (σ : St) (o1 : Nat) (x2 : Int32) (Q : St → Prop) : Prop := ∃ z1, w14_sayNumber_L2 σ o1 x2 Q (fun x3_2 => ∃ z4, w14_sayNumber_L21 o1 x2 Q (fun σ5 => Q σ5) z4 σ x3_2) z1 1
set_option maxHeartbeats 4000000 in
theorem m14_sayNumber (l : Launch) (G : Gh) (a1 : Nat → Nat → Nat) (τ : St) (σ : St) (o1 : Nat) (x2 : Int32) (ho1 : o1 < 16) (Q : St → Prop) (hw : w14_sayNumber σ o1 x2 Q) : Met l yX14_sayNumber (ws_ yX14_sayNumber cX14_sayNumber 5 none) rmX14_sayNumber (PcS G a1 (cmb τ σ) [.ref (ga G 14 0), .ref (ga G 15 o1), .int x2]) (QVs G a1 (fun u => cmb τ u) Q) 0 0 (gA G) := by
  refine met_w (by decide) (Nat.le_of_ble_eq_true rfl) ?_
  intro p e s m below meth c ls C hH hS hl
  have C : Cx p e s m _ meth c cX14_sayNumber 5 none "WebHostModel" G := C
  have hl : lv_has ls 5 [(0, .ref (ga G 14 0)), (1, .ref (ga G 15 o1)), (2, .int x2)] := hl
  have hx := C.1
  have hb := C.2.1
  have hown := C.2.2.2.2.2.1
  have hts := C.2.2.2.2.2.2.1
  obtain ⟨locs, hlocs⟩ : ∃ z : List Loc, z = [] := ⟨_, rfl⟩
  obtain ⟨H, hHe⟩ : ∃ z : Heap, z = s.heap := ⟨_, rfl⟩
  have hH : Hd G a1 (cmb τ σ) H := by rw [hHe]; exact hH
  have hS : va_S (gA G) s.heap H locs := by rw [hHe, hlocs]; exact hS
  refine W.heap0 hHe.symm hlocs.symm ?_
  refine lv_iconst (v := 1) hx hb dX14_sayNumber_0 (by decide) ?_
  refine lv_istore_n (lv' := [(3, .int 1), (0, .ref (ga G 14 0)), (1, .ref (ga G 15 o1)), (2, .int x2)]) hx hb dX14_sayNumber_1 rfl hl (by decide) rfl (fun ls hl => ?_)
  obtain ⟨n1, hw⟩ := hw
  refine k14_sayNumber_L2 C σ o1 x2 ho1 n1 1 hw H locs ls hH hS (lv_sub hl [1, 2, 3, 0] rfl) (fun x3_2 hw H locs ls hH hS hl => ?_)
  refine lv_iload_n hx hb dX14_sayNumber_18 rfl (lv_at hl 3 rfl) ?_
  refine lv_istore (lv' := [(4, .int x3_2), (0, .ref (ga G 14 0)), (1, .ref (ga G 15 o1)), (2, .int x2), (3, .int x3_2)]) hx hb dX14_sayNumber_19 hl (by decide) rfl (fun ls hl => ?_)
  obtain ⟨n4, hw⟩ := hw
  refine k14_sayNumber_L21 C o1 x2 ho1 n4 σ x3_2 hw H locs ls hH hS (lv_sub hl [1, 2, 3, 0] rfl) (fun σ5 hw H locs ls hH hS hl => ?_)
  exact rt_v C hH hS hw dX14_sayNumber_51
/-! WebHostModel.send(IIII)V -/
abbrev cX14_send : ByteArray := prog_17_method_14_code
def yX14_send : MethodName := ⟨RX14, "send", "(IIII)V"⟩
theorem dX14_send_0 : decode cX14_send 0 = .ok (.aload_n 0, 1) := by decide +kernel
theorem dX14_send_1 : decode cX14_send 1 = .ok (.iconst 0, 1) := by decide +kernel
theorem dX14_send_2 : decode cX14_send 2 = .ok (.iconst 2, 1) := by decide +kernel
theorem dX14_send_3 : decode cX14_send 3 = .ok (.iload_n 1, 1) := by decide +kernel
theorem dX14_send_4 : decode cX14_send 4 = .ok (.invokevirtual 160, 3) := by decide +kernel
theorem dX14_send_7 : decode cX14_send 7 = .ok (.aload_n 0, 1) := by decide +kernel
theorem dX14_send_8 : decode cX14_send 8 = .ok (.iconst 2, 1) := by decide +kernel
theorem dX14_send_9 : decode cX14_send 9 = .ok (.iconst 4, 1) := by decide +kernel
theorem dX14_send_10 : decode cX14_send 10 = .ok (.iload_n 2, 1) := by decide +kernel
theorem dX14_send_11 : decode cX14_send 11 = .ok (.invokevirtual 160, 3) := by decide +kernel
theorem dX14_send_14 : decode cX14_send 14 = .ok (.aload_n 0, 1) := by decide +kernel
theorem dX14_send_15 : decode cX14_send 15 = .ok (.bipush 6, 2) := by decide +kernel
theorem dX14_send_17 : decode cX14_send 17 = .ok (.iconst 2, 1) := by decide +kernel
theorem dX14_send_18 : decode cX14_send 18 = .ok (.aload_n 0, 1) := by decide +kernel
theorem dX14_send_19 : decode cX14_send 19 = .ok (.getfield 125, 3) := by decide +kernel
theorem dX14_send_22 : decode cX14_send 22 = .ok (.invokevirtual 160, 3) := by decide +kernel
theorem dX14_send_25 : decode cX14_send 25 = .ok (.aload_n 0, 1) := by decide +kernel
theorem dX14_send_26 : decode cX14_send 26 = .ok (.bipush 8, 2) := by decide +kernel
theorem dX14_send_28 : decode cX14_send 28 = .ok (.iconst 4, 1) := by decide +kernel
theorem dX14_send_29 : decode cX14_send 29 = .ok (.aload_n 0, 1) := by decide +kernel
theorem dX14_send_30 : decode cX14_send 30 = .ok (.getfield 128, 3) := by decide +kernel
theorem dX14_send_33 : decode cX14_send 33 = .ok (.invokevirtual 160, 3) := by decide +kernel
theorem dX14_send_36 : decode cX14_send 36 = .ok (.aload_n 0, 1) := by decide +kernel
theorem dX14_send_37 : decode cX14_send 37 = .ok (.bipush 12, 2) := by decide +kernel
theorem dX14_send_39 : decode cX14_send 39 = .ok (.iconst 2, 1) := by decide +kernel
theorem dX14_send_40 : decode cX14_send 40 = .ok (.iload_n 3, 1) := by decide +kernel
theorem dX14_send_41 : decode cX14_send 41 = .ok (.invokevirtual 160, 3) := by decide +kernel
theorem dX14_send_44 : decode cX14_send 44 = .ok (.bipush 14, 2) := by decide +kernel
theorem dX14_send_46 : decode cX14_send 46 = .ok (.iload 4, 2) := by decide +kernel
theorem dX14_send_48 : decode cX14_send 48 = .ok (.iadd, 1) := by decide +kernel
theorem dX14_send_49 : decode cX14_send 49 = .ok (.istore 5, 2) := by decide +kernel
theorem dX14_send_51 : decode cX14_send 51 = .ok (.iload 5, 2) := by decide +kernel
theorem dX14_send_53 : decode cX14_send 53 = .ok (.istore 6, 2) := by decide +kernel
theorem dX14_send_55 : decode cX14_send 55 = .ok (.iload 6, 2) := by decide +kernel
theorem dX14_send_57 : decode cX14_send 57 = .ok (.bipush 60, 2) := by decide +kernel
theorem dX14_send_59 : decode cX14_send 59 = .ok (.if_icmp .ge 17, 3) := by decide +kernel
theorem dX14_send_62 : decode cX14_send 62 = .ok (.aload_n 0, 1) := by decide +kernel
theorem dX14_send_63 : decode cX14_send 63 = .ok (.getfield 34, 3) := by decide +kernel
theorem dX14_send_66 : decode cX14_send 66 = .ok (.iload 6, 2) := by decide +kernel
theorem dX14_send_68 : decode cX14_send 68 = .ok (.iconst 0, 1) := by decide +kernel
theorem dX14_send_69 : decode cX14_send 69 = .ok (.bastore, 1) := by decide +kernel
theorem dX14_send_70 : decode cX14_send 70 = .ok (.iinc 6 1, 3) := by decide +kernel
theorem dX14_send_73 : decode cX14_send 73 = .ok (.goto (-18), 3) := by decide +kernel
theorem dX14_send_76 : decode cX14_send 76 = .ok (.iload 5, 2) := by decide +kernel
theorem dX14_send_78 : decode cX14_send 78 = .ok (.bipush 60, 2) := by decide +kernel
theorem dX14_send_80 : decode cX14_send 80 = .ok (.invokestatic 164, 3) := by decide +kernel
theorem dX14_send_83 : decode cX14_send 83 = .ok (.istore 5, 2) := by decide +kernel
theorem dX14_send_85 : decode cX14_send 85 = .ok (.iload 5, 2) := by decide +kernel
theorem dX14_send_87 : decode cX14_send 87 = .ok (.sipush 1514, 3) := by decide +kernel
theorem dX14_send_90 : decode cX14_send 90 = .ok (.if_icmp .le 14, 3) := by decide +kernel
theorem dX14_send_93 : decode cX14_send 93 = .ok (.aload_n 0, 1) := by decide +kernel
theorem dX14_send_94 : decode cX14_send 94 = .ok (.dup, 1) := by decide +kernel
theorem dX14_send_95 : decode cX14_send 95 = .ok (.getfield 146, 3) := by decide +kernel
theorem dX14_send_98 : decode cX14_send 98 = .ok (.iconst 1, 1) := by decide +kernel
theorem dX14_send_99 : decode cX14_send 99 = .ok (.iadd, 1) := by decide +kernel
theorem dX14_send_100 : decode cX14_send 100 = .ok (.putfield 146, 3) := by decide +kernel
theorem dX14_send_103 : decode cX14_send 103 = .ok (.return_, 1) := by decide +kernel
theorem dX14_send_104 : decode cX14_send 104 = .ok (.aload_n 0, 1) := by decide +kernel
theorem dX14_send_105 : decode cX14_send 105 = .ok (.getfield 137, 3) := by decide +kernel
theorem dX14_send_108 : decode cX14_send 108 = .ok (.bipush 32, 2) := by decide +kernel
theorem dX14_send_110 : decode cX14_send 110 = .ok (.irem, 1) := by decide +kernel
theorem dX14_send_111 : decode cX14_send 111 = .ok (.istore 6, 2) := by decide +kernel
theorem dX14_send_113 : decode cX14_send 113 = .ok (.iconst 0, 1) := by decide +kernel
theorem dX14_send_114 : decode cX14_send 114 = .ok (.istore 7, 2) := by decide +kernel
theorem dX14_send_116 : decode cX14_send 116 = .ok (.iload 7, 2) := by decide +kernel
theorem dX14_send_118 : decode cX14_send 118 = .ok (.iload 5, 2) := by decide +kernel
theorem dX14_send_120 : decode cX14_send 120 = .ok (.if_icmp .ge 30, 3) := by decide +kernel
theorem dX14_send_123 : decode cX14_send 123 = .ok (.aload_n 0, 1) := by decide +kernel
theorem dX14_send_124 : decode cX14_send 124 = .ok (.getfield 38, 3) := by decide +kernel
theorem dX14_send_127 : decode cX14_send 127 = .ok (.iload 6, 2) := by decide +kernel
theorem dX14_send_129 : decode cX14_send 129 = .ok (.sipush 1514, 3) := by decide +kernel
theorem dX14_send_132 : decode cX14_send 132 = .ok (.imul, 1) := by decide +kernel
theorem dX14_send_133 : decode cX14_send 133 = .ok (.iload 7, 2) := by decide +kernel
theorem dX14_send_135 : decode cX14_send 135 = .ok (.iadd, 1) := by decide +kernel
theorem dX14_send_136 : decode cX14_send 136 = .ok (.aload_n 0, 1) := by decide +kernel
theorem dX14_send_137 : decode cX14_send 137 = .ok (.getfield 34, 3) := by decide +kernel
theorem dX14_send_140 : decode cX14_send 140 = .ok (.iload 7, 2) := by decide +kernel
theorem dX14_send_142 : decode cX14_send 142 = .ok (.baload, 1) := by decide +kernel
theorem dX14_send_143 : decode cX14_send 143 = .ok (.bastore, 1) := by decide +kernel
theorem dX14_send_144 : decode cX14_send 144 = .ok (.iinc 7 1, 3) := by decide +kernel
theorem dX14_send_147 : decode cX14_send 147 = .ok (.goto (-31), 3) := by decide +kernel
theorem dX14_send_150 : decode cX14_send 150 = .ok (.aload_n 0, 1) := by decide +kernel
theorem dX14_send_151 : decode cX14_send 151 = .ok (.getfield 41, 3) := by decide +kernel
theorem dX14_send_154 : decode cX14_send 154 = .ok (.iload 6, 2) := by decide +kernel
theorem dX14_send_156 : decode cX14_send 156 = .ok (.iload 5, 2) := by decide +kernel
theorem dX14_send_158 : decode cX14_send 158 = .ok (.iastore, 1) := by decide +kernel
theorem dX14_send_159 : decode cX14_send 159 = .ok (.aload_n 0, 1) := by decide +kernel
theorem dX14_send_160 : decode cX14_send 160 = .ok (.getfield 44, 3) := by decide +kernel
theorem dX14_send_163 : decode cX14_send 163 = .ok (.iload 6, 2) := by decide +kernel
theorem dX14_send_165 : decode cX14_send 165 = .ok (.aload_n 0, 1) := by decide +kernel
theorem dX14_send_166 : decode cX14_send 166 = .ok (.getfield 134, 3) := by decide +kernel
theorem dX14_send_169 : decode cX14_send 169 = .ok (.iastore, 1) := by decide +kernel
theorem dX14_send_170 : decode cX14_send 170 = .ok (.aload_n 0, 1) := by decide +kernel
theorem dX14_send_171 : decode cX14_send 171 = .ok (.dup, 1) := by decide +kernel
theorem dX14_send_172 : decode cX14_send 172 = .ok (.getfield 137, 3) := by decide +kernel
theorem dX14_send_175 : decode cX14_send 175 = .ok (.iconst 1, 1) := by decide +kernel
theorem dX14_send_176 : decode cX14_send 176 = .ok (.iadd, 1) := by decide +kernel
theorem dX14_send_177 : decode cX14_send 177 = .ok (.putfield 137, 3) := by decide +kernel
theorem dX14_send_180 : decode cX14_send 180 = .ok (.return_, 1) := by decide +kernel
def rmX14_send : Room := { frames := 1, cells := 0, slots := 0, locals := 24 }
theorem kX14_send : yX14_send.cls = "WebHostModel" ∧ yX14_send.cls ≠ "java/lang/invoke/MethodHandle" ∧ yX14_send.cls ≠ "java/lang/invoke/VarHandle" ∧ (parseMethodDescriptor yX14_send.desc).map (fun d => d.parameters.length) = some 4 := by decide +kernel
def w14_send_L55 (x5 : Int32) (Q : St → Prop) (K76 : St → Prop) : Nat → St → Int32 → Prop
  | 0, _, _ => False
  | n + 1, σ, x6 => (60 ≤ x6 → K76 σ) ∧ (¬ 60 ≤ x6 → (vp_in x6 1514 ∧ (∀ σ6, σ6 = up3 σ 57 0 x6.toNatClampNeg (0 : Int32).toInt8.toInt32 → (w14_send_L55 x5 Q K76 n σ6 (x6 + 1)))))
set_option maxHeartbeats 4000000 in
theorem k14_send_L55 {p : Program} {l : Launch} {e : Env} {s : State} {m : MethodId} {args : Array Value} {below : List Frame} {meth : Method} {c : Code} {G : Gh} {a1 : Nat → Nat → Nat} {τ : St} {Q : St → Prop} {K76 : St → Prop} (C : Cx p e s m args meth c cX14_send 8 none "WebHostModel" G) (x5 : Int32) :
    ∀ (n : Nat) (σ : St) (x6 : Int32), w14_send_L55 x5 Q K76 n σ x6 → ∀ (H : Heap) (locs : List Loc) (ls : Array Slot), Hd G a1 (cmb τ σ) H → va_S (gA G) s.heap H locs → lv_has ls 8 [(0, .ref (ga G 14 0)), (5, .int x5), (6, .int x6)] → (∀ (σ : St) , K76 σ → ∀ (H : Heap) (locs : List Loc) (ls : Array Slot), Hd G a1 (cmb τ σ) H → va_S (gA G) s.heap H locs → lv_has ls 8 [(0, .ref (ga G 14 0)), (5, .int x5)] → W p l e rmX14_send s m args below meth c H locs 0 0 (MQ below (QVs G a1 (fun u => cmb τ u) Q) args s 0 0 (gA G)) (F0 m 76 ls [])) → W p l e rmX14_send s m args below meth c H locs 0 0 (MQ below (QVs G a1 (fun u => cmb τ u) Q) args s 0 0 (gA G)) (F0 m 55 ls []) := by
  have hx := C.1
  have hb := C.2.1
  have hown := C.2.2.2.2.2.1
  have hts := C.2.2.2.2.2.2.1
  intro n
  induction n with
  | zero =>
    intro σ x6 hw
    exact False.elim hw
  | succ n ih =>
    intro σ x6 hw H locs ls hH hS hl hK76
    refine lv_iload hx hb dX14_send_55 (lv_at hl 2 rfl) ?_
    refine lv_bipush (v := 60) hx hb dX14_send_57 (by decide) ?_
    refine lv_icmp_ge (tgt := 76) hx hb dX14_send_59 (by decide) (fun h => ?_) (fun h => ?_)
    · have hw := hw.1 h
      exact hK76 σ hw H locs ls hH hS (lv_sub hl [0, 1] rfl)
    have hw := hw.2 h
    refine lv_aload_n hx hb dX14_send_62 rfl (lv_at hl 0 rfl) ?_
    refine g14_19 C hH q1959 dX14_send_63 ?_
    refine lv_iload hx hb dX14_send_66 (lv_at hl 2 rfl) ?_
    refine lv_iconst (v := 0) hx hb dX14_send_68 (by decide) ?_
    refine s57 C hH hS hw.1 dX14_send_69 (fun σ6 e6 H locs hH hS => ?_)
    have hw := hw.2 σ6 e6
    refine lv_iinc (v := x6 + 1) (lv' := [(6, .int (x6 + 1)), (0, .ref (ga G 14 0)), (5, .int x5)]) hx hb dX14_send_70 hl (k := 2) rfl rfl (by decide) rfl (fun ls hl => ?_)
    refine lv_goto (tgt := 55) hx hb dX14_send_73 (by decide) ?_
    exact ih σ6 (x6 + 1) hw H locs ls hH hS (lv_sub hl [1, 2, 0] rfl) hK76
def w14_send_L116 (x5 : Int32) (x6 : Int32) (Q : St → Prop) (K150 : St → Prop) : Nat → St → Int32 → Prop
  | 0, _, _ => False
  | n + 1, σ, x7 => (x5 ≤ x7 → K150 σ) ∧ (¬ x5 ≤ x7 → (vp_in x7 1514 ∧ (by8 (σ 57 0 x7.toNatClampNeg) → (vp_in ((x6 * 1514) + x7) 48448 ∧ (∀ σ9, σ9 = up3 σ 58 0 ((x6 * 1514) + x7).toNatClampNeg (σ 57 0 x7.toNatClampNeg).toInt8.toInt32 → (w14_send_L116 x5 x6 Q K150 n σ9 (x7 + 1)))))))
set_option maxHeartbeats 4000000 in
theorem k14_send_L116 {p : Program} {l : Launch} {e : Env} {s : State} {m : MethodId} {args : Array Value} {below : List Frame} {meth : Method} {c : Code} {G : Gh} {a1 : Nat → Nat → Nat} {τ : St} {Q : St → Prop} {K150 : St → Prop} (C : Cx p e s m args meth c cX14_send 8 none "WebHostModel" G) (x5 : Int32) (x6 : Int32) :
    ∀ (n : Nat) (σ : St) (x7 : Int32), w14_send_L116 x5 x6 Q K150 n σ x7 → ∀ (H : Heap) (locs : List Loc) (ls : Array Slot), Hd G a1 (cmb τ σ) H → va_S (gA G) s.heap H locs → lv_has ls 8 [(0, .ref (ga G 14 0)), (5, .int x5), (6, .int x6), (7, .int x7)] → (∀ (σ : St) , K150 σ → ∀ (H : Heap) (locs : List Loc) (ls : Array Slot), Hd G a1 (cmb τ σ) H → va_S (gA G) s.heap H locs → lv_has ls 8 [(0, .ref (ga G 14 0)), (5, .int x5), (6, .int x6)] → W p l e rmX14_send s m args below meth c H locs 0 0 (MQ below (QVs G a1 (fun u => cmb τ u) Q) args s 0 0 (gA G)) (F0 m 150 ls [])) → W p l e rmX14_send s m args below meth c H locs 0 0 (MQ below (QVs G a1 (fun u => cmb τ u) Q) args s 0 0 (gA G)) (F0 m 116 ls []) := by
  have hx := C.1
  have hb := C.2.1
  have hown := C.2.2.2.2.2.1
  have hts := C.2.2.2.2.2.2.1
  intro n
  induction n with
  | zero =>
    intro σ x7 hw
    exact False.elim hw
  | succ n ih =>
    intro σ x7 hw H locs ls hH hS hl hK150
    refine lv_iload hx hb dX14_send_116 (lv_at hl 3 rfl) ?_
    refine lv_iload hx hb dX14_send_118 (lv_at hl 1 rfl) ?_
    refine lv_icmp_ge (tgt := 150) hx hb dX14_send_120 (by decide) (fun h => ?_) (fun h => ?_)
    · have hw := hw.1 h
      exact hK150 σ hw H locs ls hH hS (lv_sub hl [0, 1, 2] rfl)
    have hw := hw.2 h
    refine lv_aload_n hx hb dX14_send_123 rfl (lv_at hl 0 rfl) ?_
    refine g14_20 C hH q1960 dX14_send_124 ?_
    refine lv_iload hx hb dX14_send_127 (lv_at hl 2 rfl) ?_
    refine lv_sipush (v := 1514) hx hb dX14_send_129 (by decide) ?_
    refine lv_imul hx hb dX14_send_132 ?_
    refine lv_iload hx hb dX14_send_133 (lv_at hl 3 rfl) ?_
    refine lv_iadd hx hb dX14_send_135 ?_
    refine lv_aload_n hx hb dX14_send_136 rfl (lv_at hl 0 rfl) ?_
    refine g14_19 C hH q1959 dX14_send_137 ?_
    refine lv_iload hx hb dX14_send_140 (lv_at hl 3 rfl) ?_
    refine l57 C hH hw.1 dX14_send_142 (fun hz => ?_)
    have hw := hw.2 hz
    refine s58 C hH hS hw.1 dX14_send_143 (fun σ9 e9 H locs hH hS => ?_)
    have hw := hw.2 σ9 e9
    refine lv_iinc (v := x7 + 1) (lv' := [(7, .int (x7 + 1)), (0, .ref (ga G 14 0)), (5, .int x5), (6, .int x6)]) hx hb dX14_send_144 hl (k := 3) rfl rfl (by decide) rfl (fun ls hl => ?_)
    refine lv_goto (tgt := 116) hx hb dX14_send_147 (by decide) ?_
    exact ih σ9 (x7 + 1) hw H locs ls hH hS (lv_sub hl [1, 2, 3, 0] rfl) hK150
def w14_send (σ : St) (x1 : Int32) (x2 : Int32) (x3 : Int32) (x4 : Int32) (Q : St → Prop) : Prop := w14_put σ 0 2 x1 (fun σ1 => (w14_put σ1 2 4 x2 (fun σ2 => (w14_put σ2 6 2 (σ2 14 0 8) (fun σ3 => (w14_put σ3 8 4 (σ3 14 0 9) (fun σ4 => (w14_put σ4 12 2 x3 (fun σ5 => (∃ z7, w14_send_L55 (14 + x4) Q (fun σ8 => ((imax (14 + x4) 60) ≤ 1514 → (∃ z10, w14_send_L116 (imax (14 + x4) 60) ((σ8 14 0 23) - (σ8 14 0 23) / 32 * 32) Q (fun σ11 => vp_in ((σ8 14 0 23) - (σ8 14 0 23) / 32 * 32) 32 ∧ (∀ σ12, σ12 = up3 σ11 59 0 ((σ8 14 0 23) - (σ8 14 0 23) / 32 * 32).toNatClampNeg (imax (14 + x4) 60) → (vp_in ((σ8 14 0 23) - (σ8 14 0 23) / 32 * 32) 32 ∧ (∀ σ13, σ13 = up3 σ12 60 0 ((σ8 14 0 23) - (σ8 14 0 23) / 32 * 32).toNatClampNeg (σ12 14 0 10) → (∀ σ14, σ14 = up3 σ13 14 0 23 ((σ13 14 0 23) + 1) → (Q σ14)))))) z10 σ8 0)) ∧ (¬ (imax (14 + x4) 60) ≤ 1514 → (∀ σ15, σ15 = up3 σ8 14 0 18 ((σ8 14 0 18) + 1) → (Q σ15)))) z7 σ5 (14 + x4)))))))))))
set_option maxHeartbeats 4000000 in
theorem m14_send (l : Launch) (G : Gh) (a1 : Nat → Nat → Nat) (τ : St) (σ : St) (x1 : Int32) (x2 : Int32) (x3 : Int32) (x4 : Int32) (Q : St → Prop) (hw : w14_send σ x1 x2 x3 x4 Q) : Met l yX14_send (ws_ yX14_send cX14_send 8 none) rmX14_send (PcS G a1 (cmb τ σ) [.ref (ga G 14 0), .int x1, .int x2, .int x3, .int x4]) (QVs G a1 (fun u => cmb τ u) Q) 0 0 (gA G) := by
  refine met_w (by decide) (Nat.le_of_ble_eq_true rfl) ?_
  intro p e s m below meth c ls C hH hS hl
  have C : Cx p e s m _ meth c cX14_send 8 none "WebHostModel" G := C
  have hl : lv_has ls 8 [(0, .ref (ga G 14 0)), (1, .int x1), (2, .int x2), (3, .int x3), (4, .int x4)] := hl
  have hx := C.1
  have hb := C.2.1
  have hown := C.2.2.2.2.2.1
  have hts := C.2.2.2.2.2.2.1
  obtain ⟨locs, hlocs⟩ : ∃ z : List Loc, z = [] := ⟨_, rfl⟩
  obtain ⟨H, hHe⟩ : ∃ z : Heap, z = s.heap := ⟨_, rfl⟩
  have hH : Hd G a1 (cmb τ σ) H := by rw [hHe]; exact hH
  have hS : va_S (gA G) s.heap H locs := by rw [hHe, hlocs]; exact hS
  refine W.heap0 hHe.symm hlocs.symm ?_
  refine lv_aload_n hx hb dX14_send_0 rfl (lv_at hl 0 rfl) ?_
  refine lv_iconst (v := 0) hx hb dX14_send_1 (by decide) ?_
  refine lv_iconst (v := 2) hx hb dX14_send_2 (by decide) ?_
  refine lv_iload_n hx hb dX14_send_3 rfl (lv_at hl 1 rfl) ?_
  refine kc_v (rn_v (As := [.int 0, .int 2, .int x1]) (rest := []) C hH hS (by decide) rfl (by decide) (m14_put l G a1 τ σ 0 2 x1 _ hw) (cwV 3 hts (lw_V q2218 q2220 qs84 q171 q2221) rfl rfl rfl kX14_put ⟨Nat.le_of_ble_eq_true rfl, Nat.le_of_ble_eq_true rfl⟩) rfl hl.1 rfl (Nat.le_of_ble_eq_true rfl) dX14_send_4 ⟨Nat.le_of_ble_eq_true rfl, Nat.le_of_ble_eq_true rfl⟩) hS (fun σ1 H locs hw hH hS => ?_)
  refine lv_aload_n hx hb dX14_send_7 rfl (lv_at hl 0 rfl) ?_
  refine lv_iconst (v := 2) hx hb dX14_send_8 (by decide) ?_
  refine lv_iconst (v := 4) hx hb dX14_send_9 (by decide) ?_
  refine lv_iload_n hx hb dX14_send_10 rfl (lv_at hl 2 rfl) ?_
  refine kc_v (rn_v (As := [.int 2, .int 4, .int x2]) (rest := []) C hH hS (by decide) rfl (by decide) (m14_put l G a1 τ σ1 2 4 x2 _ hw) (cwV 3 hts (lw_V q2218 q2220 qs84 q171 q2221) rfl rfl rfl kX14_put ⟨Nat.le_of_ble_eq_true rfl, Nat.le_of_ble_eq_true rfl⟩) rfl hl.1 rfl (Nat.le_of_ble_eq_true rfl) dX14_send_11 ⟨Nat.le_of_ble_eq_true rfl, Nat.le_of_ble_eq_true rfl⟩) hS (fun σ2 H locs hw hH hS => ?_)
  refine lv_aload_n hx hb dX14_send_14 rfl (lv_at hl 0 rfl) ?_
  refine lv_bipush (v := 6) hx hb dX14_send_15 (by decide) ?_
  refine lv_iconst (v := 2) hx hb dX14_send_17 (by decide) ?_
  refine lv_aload_n hx hb dX14_send_18 rfl (lv_at hl 0 rfl) ?_
  refine g14_8 C hH q1948 dX14_send_19 ?_
  refine kc_v (rn_v (As := [.int 6, .int 2, .int (σ2 14 0 8)]) (rest := []) C hH hS (by decide) rfl (by decide) (m14_put l G a1 τ σ2 6 2 (σ2 14 0 8) _ hw) (cwV 3 hts (lw_V q2218 q2220 qs84 q171 q2221) rfl rfl rfl kX14_put ⟨Nat.le_of_ble_eq_true rfl, Nat.le_of_ble_eq_true rfl⟩) rfl hl.1 rfl (Nat.le_of_ble_eq_true rfl) dX14_send_22 ⟨Nat.le_of_ble_eq_true rfl, Nat.le_of_ble_eq_true rfl⟩) hS (fun σ3 H locs hw hH hS => ?_)
  refine lv_aload_n hx hb dX14_send_25 rfl (lv_at hl 0 rfl) ?_
  refine lv_bipush (v := 8) hx hb dX14_send_26 (by decide) ?_
  refine lv_iconst (v := 4) hx hb dX14_send_28 (by decide) ?_
  refine lv_aload_n hx hb dX14_send_29 rfl (lv_at hl 0 rfl) ?_
  refine g14_9 C hH q1949 dX14_send_30 ?_
  refine kc_v (rn_v (As := [.int 8, .int 4, .int (σ3 14 0 9)]) (rest := []) C hH hS (by decide) rfl (by decide) (m14_put l G a1 τ σ3 8 4 (σ3 14 0 9) _ hw) (cwV 3 hts (lw_V q2218 q2220 qs84 q171 q2221) rfl rfl rfl kX14_put ⟨Nat.le_of_ble_eq_true rfl, Nat.le_of_ble_eq_true rfl⟩) rfl hl.1 rfl (Nat.le_of_ble_eq_true rfl) dX14_send_33 ⟨Nat.le_of_ble_eq_true rfl, Nat.le_of_ble_eq_true rfl⟩) hS (fun σ4 H locs hw hH hS => ?_)
  refine lv_aload_n hx hb dX14_send_36 rfl (lv_at hl 0 rfl) ?_
  refine lv_bipush (v := 12) hx hb dX14_send_37 (by decide) ?_
  refine lv_iconst (v := 2) hx hb dX14_send_39 (by decide) ?_
  refine lv_iload_n hx hb dX14_send_40 rfl (lv_at hl 3 rfl) ?_
  refine kc_v (rn_v (As := [.int 12, .int 2, .int x3]) (rest := []) C hH hS (by decide) rfl (by decide) (m14_put l G a1 τ σ4 12 2 x3 _ hw) (cwV 3 hts (lw_V q2218 q2220 qs84 q171 q2221) rfl rfl rfl kX14_put ⟨Nat.le_of_ble_eq_true rfl, Nat.le_of_ble_eq_true rfl⟩) rfl hl.1 rfl (Nat.le_of_ble_eq_true rfl) dX14_send_41 ⟨Nat.le_of_ble_eq_true rfl, Nat.le_of_ble_eq_true rfl⟩) hS (fun σ5 H locs hw hH hS => ?_)
  refine lv_bipush (v := 14) hx hb dX14_send_44 (by decide) ?_
  refine lv_iload hx hb dX14_send_46 (lv_at hl 4 rfl) ?_
  refine lv_iadd hx hb dX14_send_48 ?_
  refine lv_istore (lv' := [(5, .int (14 + x4)), (0, .ref (ga G 14 0)), (1, .int x1), (2, .int x2), (3, .int x3), (4, .int x4)]) hx hb dX14_send_49 hl (by decide) rfl (fun ls hl => ?_)
  refine lv_iload hx hb dX14_send_51 (lv_at hl 0 rfl) ?_
  refine lv_istore (lv' := [(6, .int (14 + x4)), (5, .int (14 + x4)), (0, .ref (ga G 14 0)), (1, .int x1), (2, .int x2), (3, .int x3), (4, .int x4)]) hx hb dX14_send_53 hl (by decide) rfl (fun ls hl => ?_)
  obtain ⟨n7, hw⟩ := hw
  refine k14_send_L55 C (14 + x4) n7 σ5 (14 + x4) hw H locs ls hH hS (lv_sub hl [2, 1, 0] rfl) (fun σ8 hw H locs ls hH hS hl => ?_)
  refine lv_iload hx hb dX14_send_76 (lv_at hl 1 rfl) ?_
  refine lv_bipush (v := 60) hx hb dX14_send_78 (by decide) ?_
  refine r_imax C hl.1 q2226 (Nat.le_of_ble_eq_true rfl) (Nat.le_of_ble_eq_true rfl) (Nat.zero_le _) (Nat.zero_le _) dX14_send_80 ?_
  refine lv_istore (lv' := [(5, .int (imax (14 + x4) 60)), (0, .ref (ga G 14 0))]) hx hb dX14_send_83 hl (by decide) rfl (fun ls hl => ?_)
  refine lv_iload hx hb dX14_send_85 (lv_at hl 0 rfl) ?_
  refine lv_sipush (v := 1514) hx hb dX14_send_87 (by decide) ?_
  refine lv_icmp_le (tgt := 104) hx hb dX14_send_90 (by decide) (fun h => ?_) (fun h => ?_)
  · have hw := hw.1 h
    refine lv_aload_n hx hb dX14_send_104 rfl (lv_at hl 1 rfl) ?_
    refine g14_23 C hH q1963 dX14_send_105 ?_
    refine lv_bipush (v := 32) hx hb dX14_send_108 (by decide) ?_
    refine lv_irem hx hb dX14_send_110 (by decide) ?_
    refine lv_istore (lv' := [(6, .int ((σ8 14 0 23) - (σ8 14 0 23) / 32 * 32)), (5, .int (imax (14 + x4) 60)), (0, .ref (ga G 14 0))]) hx hb dX14_send_111 hl (by decide) rfl (fun ls hl => ?_)
    refine lv_iconst (v := 0) hx hb dX14_send_113 (by decide) ?_
    refine lv_istore (lv' := [(7, .int 0), (6, .int ((σ8 14 0 23) - (σ8 14 0 23) / 32 * 32)), (5, .int (imax (14 + x4) 60)), (0, .ref (ga G 14 0))]) hx hb dX14_send_114 hl (by decide) rfl (fun ls hl => ?_)
    obtain ⟨n10, hw⟩ := hw
    refine k14_send_L116 C (imax (14 + x4) 60) ((σ8 14 0 23) - (σ8 14 0 23) / 32 * 32) n10 σ8 0 hw H locs ls hH hS (lv_sub hl [3, 2, 1, 0] rfl) (fun σ11 hw H locs ls hH hS hl => ?_)
    refine lv_aload_n hx hb dX14_send_150 rfl (lv_at hl 0 rfl) ?_
    refine g14_21 C hH q1961 dX14_send_151 ?_
    refine lv_iload hx hb dX14_send_154 (lv_at hl 2 rfl) ?_
    refine lv_iload hx hb dX14_send_156 (lv_at hl 1 rfl) ?_
    refine s59 C hH hS hw.1 dX14_send_158 (fun σ12 e12 H locs hH hS => ?_)
    have hw := hw.2 σ12 e12
    refine lv_aload_n hx hb dX14_send_159 rfl (lv_at hl 0 rfl) ?_
    refine g14_22 C hH q1962 dX14_send_160 ?_
    refine lv_iload hx hb dX14_send_163 (lv_at hl 2 rfl) ?_
    refine lv_aload_n hx hb dX14_send_165 rfl (lv_at hl 0 rfl) ?_
    refine g14_10 C hH q1950 dX14_send_166 ?_
    refine s60 C hH hS hw.1 dX14_send_169 (fun σ13 e13 H locs hH hS => ?_)
    have hw := hw.2 σ13 e13
    refine lv_aload_n hx hb dX14_send_170 rfl (lv_at hl 0 rfl) ?_
    refine lv_dup hx hb dX14_send_171 rfl ?_
    refine g14_23 C hH q1963 dX14_send_172 ?_
    refine lv_iconst (v := 1) hx hb dX14_send_175 (by decide) ?_
    refine lv_iadd hx hb dX14_send_176 ?_
    refine p14_23 C hH hS q1963 dX14_send_177 (fun σ14 e14 H locs hH hS => ?_)
    have hw := hw σ14 e14
    exact rt_v C hH hS hw dX14_send_180
  have hw := hw.2 h
  refine lv_aload_n hx hb dX14_send_93 rfl (lv_at hl 1 rfl) ?_
  refine lv_dup hx hb dX14_send_94 rfl ?_
  refine g14_18 C hH q1958 dX14_send_95 ?_
  refine lv_iconst (v := 1) hx hb dX14_send_98 (by decide) ?_
  refine lv_iadd hx hb dX14_send_99 ?_
  refine p14_18 C hH hS q1958 dX14_send_100 (fun σ15 e15 H locs hH hS => ?_)
  have hw := hw σ15 e15
  exact rt_v C hH hS hw dX14_send_103
