/-! an ARP frame that came, and asking again -/
set_option maxRecDepth 100000
theorem LrnP.nb {τ σ' τ' : St} {t s o l b : Nat} (h : LrnP τ t s o σ' τ') (hi : (σ' 5 0 2) = (τ' 14 0 24)) (hb : s + WS τ ≤ b) (hlo : l ≤ o) (ho : o ≤ b) (hs : (τ 14 0 18) = 0) (ht : t ≤ 2000000000) : NB σ' τ' t l b := by
  obtain ⟨s', h1, h2, h3⟩ := h
  exact ⟨s', o, h1, hi, by omega, by omega, by omega, h3.trans hs, ht⟩
abbrev lrnF : Nat → Nat → Nat → Bool := mF [23, 25, 26, 28, 29, 30, 31] [] [(2, [3]), (3, [7, 9])] []
abbrev lrnG : Nat → Nat → Nat → Bool := mF [57, 58, 59, 60] [] [(14, [18, 23]), (16, [0, 1, 2, 3, 4]), (17, [0])] []
theorem j_learn1 {σ τ : St} {t s o k i : Nat} {x th tl : Int32} (ok : okS σ) (ok' : okS τ) (hN : RN σ τ t s o) (hs : s < 2147480000) (hk : abc k i = true) (hk2 : k ≠ 30 ∧ k ≠ 28 ∧ k ≠ 29) (hl : 28 ≤ alen σ k i) (hm : ∀ j, j < 6 → σ k i (22 + j) = macb th tl j) : w3_learn σ x k i 22 (fun σ' => w14_remember τ x th tl (fun τ' => LrnP τ t s o σ' τ')) := by
  obtain ⟨hM, hV, hH, hW, hA, hP⟩ := id hN
  obtain ⟨z, z1, z2, z3, z4⟩ := id hH
  have hfz := fnd_le (σ 28 0) z x
  have hentry : ∀ (Q : Option Nat → Prop), (fnd (σ 28 0) z x < z → Q (some (fnd (σ 28 0) z x))) → (fnd (σ 28 0) z x = z → Q none) → w14_entry τ x Q := fun Q a b => s14_entry z1 (fun k hk => ⟨(z3 k hk).1, (z3 k hk).2.1⟩) z4 a b
  refine s3_find z2 z1 (fun hf => ?_) (fun hf => ?_)
  · refine br_t (nI_le (a := 0) (by omega) (by omega)) ?_
    have hj := j_learn (p := fnd (σ 28 0) z x) (z := z) (z' := z) (x := x) ok ok' ⟨hM, hV, hW, hA, hP⟩ hs (by omega) hk hk2 hl z2 z1 (Or.inl ⟨rfl, hf⟩) z3 z4 hm
    obtain ⟨σ', h, k1, f3, g1⟩ := e3_learn_J53 hk ok hj
    refine g1 _ (hentry _ (fun _ => po_s rfl ⟨by omega, h⟩) (fun z => absurd hf (by omega)))
  · refine br_f (by decide) ?_
    have e16 : (16 : Int32) ≤ σ 3 0 7 ↔ 16 ≤ z := by rw [z2]; exact nI_leI (a := 16) (by decide) (by omega)
    by_cases c : 16 ≤ z
    · have hz : z = 16 := by omega
      subst hz
      refine br_t (e16.mpr c) ⟨16, s3_oldest_L z2 15 0 1 (by omega) (by omega) ?_⟩
      have hlt := old_lt (σ 29 0) 15 0 1 16 (by omega) (by omega)
      refine br_t (e16.mpr c) ?_
      have hj := j_learn (p := old (σ 29 0) 15 0 1) (z := 16) (z' := 16) (x := x) ok ok' ⟨hM, hV, hW, hA, hP⟩ hs hlt hk hk2 hl z2 z1 (Or.inl ⟨rfl, hlt⟩) z3 z4 hm
      obtain ⟨σ', h, k1, f3, g1⟩ := e3_learn_J53 hk ok hj
      refine g1 _ (hentry _ (fun z => absurd hf (by omega)) (fun _ => po_n rfl ⟨vin (n := 0) (by omega) (by omega), 16, s14_remember_old (f := σ 29 0) (fun k hk => (z3 k hk).1) (fun k hk => (z3 k hk).2.2.1) 15 1 0 (by omega) (by omega) h⟩))
    · refine br_f (fun z => c (e16.mp z)) (br_f (fun z => c (e16.mp z)) (fun s8 e8 => ?_))
      have f8 : Fr (mF [] [] [(3, [7])] []) σ s8 := by rw [e8]; exact fr_u rfl
      have hz8 : s8 3 0 7 = nI (z + 1) := by rw [e8, up3_g, if_pos ⟨rfl, rfl, rfl⟩, z2]; exact nI_1 z
      have hN8 : RM s8 τ ∧ RV s8 τ t s ∧ RW s8 τ t o ∧ RA s8 ∧ RPm s8 := ⟨hM.c (f8 _ _ _ rfl) (f8 _ _ _ rfl) (f8 _ _ _ rfl) (f8 _ _ _ rfl) (f8 _ _ _ rfl) (f8 _ _ _ rfl) (f8.row fun _ => rfl) rfl rfl rfl rfl rfl, hV.c (f8 _ _ _ rfl) (f8 _ _ _ rfl) (f8.kind fun _ _ => rfl) (f8.row fun _ => rfl) (f8.row fun _ => rfl) rfl rfl rfl rfl rfl, hW.c (f8 _ _ _ rfl) (f8.row fun _ => rfl) (f8.kind fun _ _ => rfl) (f8.kind fun _ _ => rfl) rfl rfl rfl, hA.c (f8.row fun _ => rfl) (f8.row fun _ => rfl), hP.c (f8.row fun _ => rfl)⟩
      have ok8 : okS s8 := by rw [e8]; exact ok_n ok rfl
      rw [z2]
      have hkk : s8 k i = σ k i := by
        rw [e8, up3_r, if_neg (fun z => ?_)]
        have := (ab_spec (abc_spec hk).1).1
        omega
      have hal : alen s8 k i = alen σ k i := by rw [e8, up3_as, alen_row (by decide)]
      have hj := j_learn (p := z) (z := z) (z' := z + 1) (x := x) ok8 ok' hN8 hs (by omega) hk hk2 (by rw [hal]; exact hl) hz8 (by omega) (Or.inr ⟨rfl, rfl⟩) (fun k hk => by rw [f8.row (k := 28) (i := 0) fun _ => rfl, f8.row (k := 29) (i := 0) fun _ => rfl, f8.row (k := 30) (i := 0) fun _ => rfl]; exact z3 k hk) z4 (fun j hj => by rw [hkk]; exact hm j hj)
      obtain ⟨σ', h, k1, f3, g1⟩ := e3_learn_J53 hk ok8 hj
      refine g1 _ (hentry _ (fun z => absurd hf (by omega)) (fun _ => po_n rfl ⟨vin (n := 0) (by omega) (by omega), 16, s14_remember_free (z := z) (by omega) (fun k hk => (z3 k hk).1) z4 h 15 1 0 (by omega) (by omega)⟩))
theorem R_learn {σ τ : St} {t l b k i : Nat} {x th tl : Int32} (ok : okS σ) (ok' : okS τ) (hN : NB σ τ t l b) (hb : b < 2147480000) (hk : abc k i = true) (hk2 : k ≠ 30 ∧ k ≠ 28 ∧ k ≠ 29) (hl : 28 ≤ alen σ k i) (hm : ∀ j, j < 6 → σ k i (22 + j) = macb th tl j) :
    RunV σ τ (w3_learn σ x k i 22) (w14_remember τ x th tl) lrnF lrnG (fun σ' τ' => NB σ' τ' t l b) := by
  obtain ⟨s, o, n1, n2, n3, nl, n4, n5, n6⟩ := hN
  obtain ⟨σ', h, k1, f1, g1⟩ := e3_learn hk ok (j_learn1 (x := x) ok ok' n1 (by omega) hk hk2 hl hm)
  obtain ⟨τ', h, k2, f2, g2⟩ := e14_remember ok' h
  exact ⟨σ', τ', g1, g2, k1, k2, f1, f2, h.nb (by rw [f1 _ _ _ rfl, f2 _ _ _ rfl]; exact n2) n3 nl n4 n5 n6⟩
theorem N_tell {σ τ : St} {t l b k1 i1 : Nat} {x th tl : Int32} (ok : okS σ) (ok' : okS τ) (hk : abc k1 i1 = true) (hk2 : k1 ≠ 23 ∧ k1 ≠ 32) (hl : 28 ≤ alen σ k1 i1) (hN : NB σ τ t l b) (hb : b < 2147480000) (ht : ∀ j, j < 6 → σ k1 i1 (22 + j) = macb th tl j) :
    RunV σ τ (w3_tell σ 2 k1 i1 22 x) (w14_arpFrame τ 2 th tl th tl x) (mF [23, 25, 26, 32] [] [(2, [3])] []) (mF [57, 58, 59, 60] [] [(14, [18, 23])] []) (fun σ' τ' => NB σ' τ' t l (b + 4)) := by
  obtain ⟨s, o, n1, n2, n3, nl, n4, n5, n6⟩ := hN
  obtain ⟨σ', τ', g1, g2, k1, k2, f1, f2, hV, hst⟩ := R_tell (x := x) ok ok' hk hk2 hl n1.1 n1.2.1 (by omega) ht
  obtain ⟨hN3, hws⟩ := n1.sent f1 f2 hV
  exact ⟨σ', τ', g1, g2, k1, k2, f1, f2, s + 1, o, hN3, by rw [f1 _ _ _ rfl, f2 _ _ _ rfl]; exact n2, by omega, by omega, by omega, hst.trans n5, n6⟩
/-- an ARP frame -/
theorem R_arp {σ τ : St} {t l b n : Nat} (ok : okS σ) (ok' : okS τ) (hN : NB σ τ t l b) (hb : b < 2147480000) (hn : n ≤ 65540) (htn : (τ 14 0 1) = nI n) (htr : (σ 20 0) = (τ 50 0)) :
    RunV σ τ (w3_arrive σ 20 0 (nI n)) (w14_arp τ) (mF [23, 25, 26, 28, 29, 30, 31, 32] [] [(2, [3]), (3, [7, 9])] []) lrnG (fun σ' τ' => NB σ' τ' t l (b + 4)) := by
  have hk : abc 20 0 = true := rfl
  have al : ∀ s : St, alen s 20 0 = 65540 := fun _ => rfl
  have hj : w3_arrive σ 20 0 (nI n) (fun σ' => w14_arp τ (fun τ' => NB σ' τ' t l (b + 4))) := by
    have done : NB σ τ t l (b + 4) := hN.up (by omega)
    by_cases c1 : n < 42
    · exact br_t (nI_lt (b := 42) c1 (by decide)) (br_t (by rw [htn]; exact nI_lt (b := 42) c1 (by decide)) done)
    refine br_f (nI_nlt (b := 42) (by omega) (by omega)) ?_
    have m0 : ∀ Q : St → Prop, _ → w14_arp τ Q := fun Q h => br_f (by rw [htn]; exact nI_nlt (b := 42) (by omega) (by omega)) (s14_trayWord (a := 14) (by omega) h)
    refine s19_four (a := 14) (by rw [al]; omega) (by omega) ?_
    rw [htr]
    by_cases c2 : four (τ 50 0) 14 = 67584
    rotate_left
    · exact br_v c2 (m0 _ (br_v c2 done))
    refine br_u c2 ?_
    refine s19_two (a := 18) (by rw [al]; omega) (by omega) ?_
    rw [htr]
    by_cases c3 : two (τ 50 0) 18 = 1540
    rotate_left
    · refine br_f c3 (m0 _ (br_u c2 (s14_trayHalf (a := 18) (by omega) (br_f c3 done))))
    refine br_t c3 ?_
    have m1 : ∀ Q : St → Prop, _ → w14_arp τ Q := fun Q h => m0 _ (br_u c2 (s14_trayHalf (a := 18) (by omega) (br_t c3 (s14_trayHalf (a := 20) (by omega) h))))
    refine s19_two (a := 20) (by rw [al]; omega) (by omega) ?_
    rw [htr]
    -- the rest, of either kind
    have rest : w3_arrive_J48 σ 20 0 (two (τ 50 0) 20) (fun σ' => w14_arp_J51 τ (two (τ 50 0) 20) (fun τ' => NB σ' τ' t l (b + 4))) := by
      refine s19_four (a := 28) (by rw [al]; omega) (by omega) ?_
      refine s19_four (a := 38) (by rw [al]; omega) (by omega) ?_
      rw [htr]
      have mac : ∀ j, j < 6 → σ 20 0 (22 + j) = macb (two (τ 50 0) 22) (four (τ 50 0) 24) j := by
        intro j hj
        rw [htr]
        exact mac_two (fun j => ok_by ok' (tyk_a 50 2 (by decide) (by decide)) j) 22 j hj
      have m2 : ∀ Q : St → Prop, _ → w14_arp_J51 τ (two (τ 50 0) 20) Q := fun Q h => s14_trayHalf (a := 22) (by omega) (s14_trayWord (a := 24) (by omega) (s14_trayWord (a := 28) (by omega) (s14_trayWord (a := 38) (by omega) h)))
      generalize four (τ 50 0) 28 = who at m2 ⊢
      generalize four (τ 50 0) 38 = whom at m2 ⊢
      obtain ⟨s0, o0, n1, n2, n3, nl, n4, n5, n6⟩ := id hN
      obtain ⟨hM, hV, hH, hW, hA, hP⟩ := id n1
      obtain ⟨z, z1, z2, z3, z4⟩ := id hH
      have eip : σ 3 0 1 = τ 14 0 5 := hM.2.1
      -- the end: an answer if it is asked for us
      have fin : ∀ (s1 t1 : St), okS s1 → okS t1 → NB s1 t1 t l b → s1 20 0 = σ 20 0 → t1 14 0 5 = τ 14 0 5 → ∀ xs : Int32, (xs = 0 ↔ ¬ whom = τ 14 0 5) → w3_arrive_J108 s1 20 0 (two (τ 50 0) 20) who xs (fun σ' => w14_arp_J116 t1 (two (τ 50 0) 20) (two (τ 50 0) 22) (four (τ 50 0) 24) who whom (fun τ' => NB σ' τ' t l (b + 4))) := by
        intro s1 t1 okS1 okT1 hN1 e20 e5 xs hxs
        unfold w3_arrive_J108 w14_arp_J116
        rw [e5]
        by_cases c4 : two (τ 50 0) 20 = 1
        · by_cases c5 : xs = 0
          · exact br_u c4 (br_t c5 (br_u c4 (br_v (hxs.mp c5) (hN1.up (by omega)))))
          · obtain ⟨σ', τ', g1, g2, k1, k2, f1, f2, h⟩ := N_tell (k1 := 20) (i1 := 0) (x := who) (th := two (τ 50 0) 22) (tl := four (τ 50 0) 24) okS1 okT1 rfl ⟨by decide, by decide⟩ (by rw [al]; omega) hN1 hb (fun j hj => by rw [e20]; exact mac j hj)
            refine br_u c4 (br_f c5 (g1 _ (br_u c4 (br_u (Decidable.not_not.mp (fun z => c5 (hxs.mpr z))) (g2 _ h)))))
        · exact br_v c4 (br_v c4 (hN1.up (by omega)))
      have lrn : ∀ xs : Int32, (xs = 0 ↔ ¬ whom = τ 14 0 5) → (∀ Q : St → Prop, w14_remember τ who (two (τ 50 0) 22) (four (τ 50 0) 24) (fun σ11 => w14_arp_J116 σ11 (two (τ 50 0) 20) (two (τ 50 0) 22) (four (τ 50 0) 24) who whom Q) → w14_arp_J51 τ (two (τ 50 0) 20) Q) → w3_learn σ who 20 0 22 (fun σ7 => w3_arrive_J108 σ7 20 0 (two (τ 50 0) 20) who xs (fun σ' => w14_arp_J51 τ (two (τ 50 0) 20) (fun τ' => NB σ' τ' t l (b + 4)))) := by
        intro xs hxs hmo
        obtain ⟨s1, t1, g1, g2, k1, k2, f1, f2, h⟩ := R_learn (k := 20) (i := 0) (x := who) (th := two (τ 50 0) 22) (tl := four (τ 50 0) 24) ok ok' hN hb rfl ⟨by decide, by decide, by decide⟩ (by rw [al]; omega) mac
        have hf := fin s1 t1 k1 k2 h (f1.row fun _ => rfl) (f2 _ _ _ rfl) xs hxs
        obtain ⟨s2, h2, k3, f3, g3⟩ := e3_arrive_J108 hk k1 hf
        refine g1 _ (g3 _ (hmo _ (g2 _ h2)))
      have nol : ∀ xs : Int32, (xs = 0 ↔ ¬ whom = τ 14 0 5) → (∀ Q : St → Prop, w14_arp_J116 τ (two (τ 50 0) 20) (two (τ 50 0) 22) (four (τ 50 0) 24) who whom Q → w14_arp_J51 τ (two (τ 50 0) 20) Q) → w3_arrive_J108 σ 20 0 (two (τ 50 0) 20) who xs (fun σ' => w14_arp_J51 τ (two (τ 50 0) 20) (fun τ' => NB σ' τ' t l (b + 4))) := by
        intro xs hxs hmo
        have hf := fin σ τ ok ok' hN rfl rfl xs hxs
        obtain ⟨s2, h2, k3, f3, g3⟩ := e3_arrive_J108 hk ok hf
        exact g3 _ (hmo _ h2)
      have hentry : ∀ (Q : Option Nat → Prop), (fnd (σ 28 0) z who < z → Q (some (fnd (σ 28 0) z who))) → (fnd (σ 28 0) z who = z → Q none) → w14_entry τ who Q := fun Q a b => s14_entry z1 (fun k hk => ⟨(z3 k hk).1, (z3 k hk).2.1⟩) z4 a b
      have mid : ∀ xs : Int32, (xs = 0 ↔ ¬ whom = τ 14 0 5) → w3_arrive_J74 σ 20 0 (two (τ 50 0) 20) who xs (fun σ' => w14_arp_J51 τ (two (τ 50 0) 20) (fun τ' => NB σ' τ' t l (b + 4))) := by
        intro xs hxs
        refine s3_find z2 z1 (fun hf => ?_) (fun hf => ?_)
        · exact br_t (nI_le (a := 0) (by omega) (by omega)) (lrn xs hxs (fun Q h => m2 Q (hentry _ (fun _ => po_s rfl ⟨by omega, h⟩) (fun z => absurd hf (by omega)))))
        · refine br_f (by decide) ?_
          by_cases c4 : xs = 0
          · exact br_t c4 (nol xs hxs (fun Q h => m2 Q (hentry _ (fun z => absurd hf (by omega)) (fun _ => po_n rfl (br_v (hxs.mp c4) h)))))
          · have c5 : whom = τ 14 0 5 := Decidable.not_not.mp (fun z => c4 (hxs.mpr z))
            refine br_f c4 ?_
            rw [eip]
            by_cases c6 : who = τ 14 0 5
            · exact br_t c6 (nol xs hxs (fun Q h => m2 Q (hentry _ (fun z => absurd hf (by omega)) (fun _ => po_n rfl (br_u c5 (br_t c6 h))))))
            · exact br_f c6 (lrn xs hxs (fun Q h => m2 Q (hentry _ (fun z => absurd hf (by omega)) (fun _ => po_n rfl (br_u c5 (br_f c6 h))))))
      rw [eip]
      by_cases c7 : whom = τ 14 0 5
      · exact br_u c7 (mid 1 ⟨fun h => absurd h (by decide), fun h => absurd c7 h⟩)
      · exact br_v c7 (mid 0 ⟨fun _ => c7, fun _ => rfl⟩)
    obtain ⟨s2, h2, k3, f3, g3⟩ := e3_arrive_J48 hk ok rest
    by_cases c4 : two (τ 50 0) 20 = 1
    · exact br_t c4 (g3 _ (m1 _ (br_t c4 h2)))
    · refine br_f c4 ?_
      by_cases c5 : two (τ 50 0) 20 = 2
      · exact br_t c5 (g3 _ (m1 _ (br_f c4 (br_t c5 h2))))
      · exact br_f c5 (m1 _ (br_f c4 (br_f c5 done)))
  obtain ⟨σ', h, k1, f1, g1⟩ := e3_arrive hk ok hj
  obtain ⟨τ', h, k2, f2, g2⟩ := e14_arp ok' h
  exact ⟨σ', τ', g1, g2, k1, k2, f1, f2, h⟩
