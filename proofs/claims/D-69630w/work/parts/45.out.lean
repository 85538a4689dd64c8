/-! packets out -/
set_option maxRecDepth 100000
theorem by_vu {f : Nat → Int32} {k : Nat} {v : Int32} (hf : ∀ j, by8 (f j)) (hv : by8 v) (j : Nat) : by8 (va_up f k v j) := by
  rw [vu_g]
  split
  · exact hv
  · exact hf j
theorem by_put2 {f : Nat → Int32} {a : Nat} {v : Int32} (hf : ∀ j, by8 (f j)) (j : Nat) : by8 (put2 f a v j) := by_vu (by_vu hf (by_b8 _)) (by_b8 _) j
theorem by_put4 {f : Nat → Int32} {a : Nat} {v : Int32} (hf : ∀ j, by8 (f j)) (j : Nat) : by8 (put4 f a v j) := by_put2 (by_put2 hf) j
def hdrC (f : Nat → Int32) (ln id pr ip to : Int32) : Nat → Int32 := put4 (put4 (put2 (va_up (va_up (put2 (put2 (put2 (put2 f 0 17664) 2 ln) 4 id) 6 16384) 8 (b8 64)) 9 (b8 pr)) 10 0) 12 ip) 16 to
def hdrM (g : Nat → Int32) (ln id pr ip to : Int32) : Nat → Int32 := put4 (put4 (put2 (put2 (put2 (put2 (put2 (put2 g 14 17664) 16 ln) 18 id) 20 16384) 22 (16384 ||| pr)) 24 0) 26 ip) 30 to
def finC (f : Nat → Int32) (ln id pr ip to : Int32) : Nat → Int32 := put2 (hdrC f ln id pr ip to) 10 (nI (ck (sB (hdrC f ln id pr ip to) 0 20)))
def finM (g : Nat → Int32) (ln id pr ip to : Int32) : Nat → Int32 := put2 (hdrM g ln id pr ip to) 24 (nI (ck (sB (hdrM g ln id pr ip to) 14 20)))
theorem hdrC_by {f : Nat → Int32} {ln id pr ip to : Int32} (hf : ∀ j, by8 (f j)) (j : Nat) : by8 (hdrC f ln id pr ip to j) := by_put4 (by_put4 (by_put2 (by_vu (by_vu (by_put2 (by_put2 (by_put2 (by_put2 hf)))) (by_b8 _)) (by_b8 _)))) j
theorem hdrM_by {f : Nat → Int32} {ln id pr ip to : Int32} (hf : ∀ j, by8 (f j)) (j : Nat) : by8 (hdrM f ln id pr ip to j) := by_put4 (by_put4 (by_put2 (by_put2 (by_put2 (by_put2 (by_put2 (by_put2 hf))))))) j
theorem hdr_hi {f g : Nat → Int32} {ln id pr ip to : Int32} {j : Nat} (h : 20 ≤ j) : hdrC f ln id pr ip to j = f j ∧ hdrM g ln id pr ip to (14 + j) = g (14 + j) := by
  unfold hdrC hdrM
  constructor
  · rw [put4_o (by omega), put4_o (by omega), put2_o (by omega), vu_g, if_neg (by omega), vu_g, if_neg (by omega), put2_o (by omega), put2_o (by omega), put2_o (by omega), put2_o (by omega)]
  · rw [put4_o (by omega), put4_o (by omega), put2_o (by omega), put2_o (by omega), put2_o (by omega), put2_o (by omega), put2_o (by omega), put2_o (by omega)]
theorem hdr_lo {f g : Nat → Int32} {ln id pr ip to : Int32} (hpr : pr = 1 ∨ pr = 6) {j : Nat} (h : j < 20) : hdrC f ln id pr ip to j = hdrM g ln id pr ip to (14 + j) := by
  unfold hdrC hdrM put4 put2
  simp only [vu_g]
  have e1 : b8 ((16384 ||| pr) >>> 8) = b8 64 := by rcases hpr with rfl | rfl <;> decide
  have e2 : b8 (16384 ||| pr) = b8 pr := by rcases hpr with rfl | rfl <;> decide
  rcases (show j = 0 ∨ j = 1 ∨ j = 2 ∨ j = 3 ∨ j = 4 ∨ j = 5 ∨ j = 6 ∨ j = 7 ∨ j = 8 ∨ j = 9 ∨ j = 10 ∨ j = 11 ∨ j = 12 ∨ j = 13 ∨ j = 14 ∨ j = 15 ∨ j = 16 ∨ j = 17 ∨ j = 18 ∨ j = 19 by omega) with rfl | rfl | rfl | rfl | rfl | rfl | rfl | rfl | rfl | rfl | rfl | rfl | rfl | rfl | rfl | rfl | rfl | rfl | rfl | rfl <;> simp [e1, e2]
theorem fin_eq {f g : Nat → Int32} {ln id pr ip to : Int32} (hpr : pr = 1 ∨ pr = 6) {n : Nat} (hfg : ∀ j, 20 ≤ j → j < n → f j = g (14 + j)) : ∀ j, j < n → finC f ln id pr ip to j = finM g ln id pr ip to (14 + j) := by
  have key : ∀ j, j < n → hdrC f ln id pr ip to j = hdrM g ln id pr ip to (14 + j) := by
    intro j hj
    by_cases c : j < 20
    · exact hdr_lo hpr c
    · have := hdr_hi (f := f) (g := g) (ln := ln) (id := id) (pr := pr) (ip := ip) (to := to) (j := j) (by omega)
      rw [this.1, this.2]
      exact hfg j (by omega) hj
  have es : sB (hdrC f ln id pr ip to) 0 20 = sB (hdrM g ln id pr ip to) 14 20 := sB_ext (fun j hj => by rw [Nat.zero_add]; exact hdr_lo hpr hj)
  intro j hj
  unfold finC finM
  rw [es]
  by_cases c : 10 ≤ j ∧ j < 12
  · rcases (show j = 10 ∨ j = 11 by omega) with rfl | rfl <;> simp [put2, vu_g]
  · rw [put2_o (by omega), put2_o (by omega)]
    exact key j hj
theorem s5_send {σ : St} {to pr : Int32} {c : Nat} {Q : St → Prop} (hc : c ≤ 1480) (hq : w3_send (row3 (up3 σ 5 0 2 (((σ 5 0 2) + 1) &&& 65535)) 36 0 (finC (σ 36 0) (nI (20 + c)) (((σ 5 0 2) + 1) &&& 65535) pr ((σ 5 0 1)) to)) to 36 0 (nI (20 + c)) Q) : w5_send σ to pr (nI c) Q := by
  intro s1 e1
  have a36 : ∀ s : St, alen s 36 0 = 1500 := fun _ => rfl
  have e20 : (20 : Int32) + nI c = nI (20 + c) := nI_add 20 c
  have i1 : s1 5 0 2 = (σ 5 0 2 + 1) &&& 65535 := by rw [e1, up3_g, if_pos ⟨rfl, rfl, rfl⟩]
  have i2 : s1 5 0 1 = σ 5 0 1 := by rw [e1, up3_g, if_neg (by decide)]
  have i3 : s1 36 0 = σ 36 0 := by rw [e1, up3_i (by decide)]
  have e5 : ∀ (s : St) (f : Nat → Int32) (j : Nat), row3 s 36 0 f 5 0 j = s 5 0 j := fun s f j => by rw [row3_g, if_neg (by decide)]
  rw [e20]
  refine s19_putTwo (a := 0) (by rw [a36]; omega) (by omega) (by decide) ?_
  refine s19_putTwo (a := 2) (by rw [a36]; omega) (by omega) (by decide) ?_
  simp only [row3_s, row3_row3, e5, i1]
  refine s19_putTwo (a := 4) (by rw [a36]; omega) (by omega) (by decide) ?_
  refine s19_putTwo (a := 6) (by rw [a36]; omega) (by omega) (by decide) ?_
  refine ⟨vin (n := 8) (by omega) (by omega), fun s2 e2 => ⟨vin (n := 9) (by omega) (by omega), fun s3 e3 => ?_⟩⟩
  simp only [row3_s, row3_row3] at e2
  rw [row3_up] at e2
  rw [e2, row3_up] at e3
  rw [e3]
  simp only [b8_f, b8_b8]
  rw [show (8 : Int32).toNatClampNeg = 8 by decide, show (9 : Int32).toNatClampNeg = 9 by decide]
  refine s19_putTwo (a := 10) (by rw [a36]; omega) (by omega) (by decide) ?_
  simp only [row3_s, row3_row3, e5, i2]
  refine s19_putFour (a := 12) (by rw [a36]; omega) (by omega) (by decide) ?_
  refine s19_putFour (a := 16) (by rw [a36]; omega) (by omega) (by decide) ?_
  simp only [row3_s, row3_row3, i3]
  have hb := sB_le (hdrC (σ 36 0) (nI (20 + c)) ((σ 5 0 2 + 1) &&& 65535) pr (σ 5 0 1) to) 0 20
  refine s19_added (s := 0) (a := 0) (n := 20) (by omega) (by omega) (by omega) (by rw [a36]; omega) ?_
  rw [row3_s, Nat.zero_add]
  refine s19_folded (s := sB (hdrC (σ 36 0) (nI (20 + c)) ((σ 5 0 2 + 1) &&& 65535) pr (σ 5 0 1) to) 0 20) (by omega) ?_
  refine s19_putTwo (a := 10) (by rw [a36]; omega) (by omega) (by decide) ?_
  rw [row3_s, row3_row3, e1]
  exact hq
theorem s14_ipOut {τ : St} {to pr : Int32} {c : Nat} {Q : St → Prop} (hc : c ≤ 1480) (hq : ∀ τ9, τ9 = row3 (up3 τ 14 0 24 (((τ 14 0 24) + 1) &&& 65535)) 57 0 (finM (τ 57 0) (nI (20 + c)) (((τ 14 0 24) + 1) &&& 65535) pr ((τ 14 0 5)) to) → (¬ (to >>> ((32 - (τ 14 0 6)) &&& 31)) <<< ((32 - (τ 14 0 6)) &&& 31) = ((τ 14 0 5) >>> ((32 - (τ 14 0 6)) &&& 31)) <<< ((32 - (τ 14 0 6)) &&& 31) → w14_ipOut_J140 τ9 (nI c) ((τ 14 0 7)) Q) ∧ ((to >>> ((32 - (τ 14 0 6)) &&& 31)) <<< ((32 - (τ 14 0 6)) &&& 31) = ((τ 14 0 5) >>> ((32 - (τ 14 0 6)) &&& 31)) <<< ((32 - (τ 14 0 6)) &&& 31) → w14_ipOut_J140 τ9 (nI c) to Q)) : w14_ipOut τ to pr (nI c) Q := by
  intro s1 e1
  have e20 : (20 : Int32) + nI c = nI (20 + c) := nI_add 20 c
  have i1 : s1 14 0 24 = (τ 14 0 24 + 1) &&& 65535 := by rw [e1, up3_g, if_pos ⟨rfl, rfl, rfl⟩]
  have i2 : ∀ j, j ≠ 24 → s1 14 0 j = τ 14 0 j := fun j h => by rw [e1, up3_j (by omega)]
  have i3 : s1 57 0 = τ 57 0 := by rw [e1, up3_i (by decide)]
  have e57 : ∀ (s : St) (f : Nat → Int32) (j : Nat), row3 s 57 0 f 14 0 j = s 14 0 j := fun s f j => by rw [row3_g, if_neg (by decide)]
  rw [e20]
  refine s14_put2 (a := 14) (by omega) ?_
  refine s14_put2 (a := 16) (by omega) ?_
  simp only [row3_s, row3_row3, e57, i1]
  refine s14_put2 (a := 18) (by omega) ?_
  refine s14_put2 (a := 20) (by omega) ?_
  refine s14_put2 (a := 22) (by omega) ?_
  refine s14_put2 (a := 24) (by omega) ?_
  simp only [row3_s, row3_row3, e57, i2 5 (by decide)]
  refine s14_put4 (a := 26) (by omega) ?_
  refine s14_put4 (a := 30) (by omega) ?_
  simp only [row3_s, row3_row3, i3]
  have hb := sB_le (hdrM (τ 57 0) (nI (20 + c)) ((τ 14 0 24 + 1) &&& 65535) pr (τ 14 0 5) to) 14 20
  refine s14_added (k := 57) (i := 0) (s := 0) (a := 14) (n := 20) (by omega) (by omega) (by omega) (by decide) ?_
  rw [row3_s, Nat.zero_add]
  refine s14_sixteen (s := sB (hdrM (τ 57 0) (nI (20 + c)) ((τ 14 0 24 + 1) &&& 65535) pr (τ 14 0 5) to) 14 20) (by omega) ?_
  refine s14_put2 (a := 24) (by omega) ?_
  rw [row3_s, row3_row3, e1]
  have h9 := hq _ rfl
  generalize hT : row3 (up3 τ 14 0 24 ((τ 14 0 24 + 1) &&& 65535)) 57 0 (finM (τ 57 0) (nI (20 + c)) ((τ 14 0 24 + 1) &&& 65535) pr (τ 14 0 5) to) = T at h9
  have r : ∀ j, j ≠ 24 → T 14 0 j = τ 14 0 j := fun j h => by rw [← hT, e57, up3_j (by omega)]
  show (fun X : St => w14_net X to (fun r13 => w14_net X (X 14 0 5) (fun r14 => (¬ r13 = r14 → w14_ipOut_J140 X (nI c) (X 14 0 7) Q) ∧ (r13 = r14 → w14_ipOut_J140 X (nI c) to Q)))) (row3 (up3 τ 14 0 24 ((τ 14 0 24 + 1) &&& 65535)) 57 0 (finM (τ 57 0) (nI (20 + c)) ((τ 14 0 24 + 1) &&& 65535) pr (τ 14 0 5) to))
  rw [hT]
  show w14_net T to (fun r13 => w14_net T (T 14 0 5) (fun r14 => (¬ r13 = r14 → w14_ipOut_J140 T (nI c) (T 14 0 7) Q) ∧ (r13 = r14 → w14_ipOut_J140 T (nI c) to Q)))
  unfold w14_net
  rw [r 5 (by decide), r 6 (by decide), r 7 (by decide)]
  exact h9
/-- an IP packet whose c bytes behind the header stand in their places -/
theorem R_out {σ τ : St} {t s o c : Nat} {to pr : Int32} (ok : okS σ) (ok' : okS τ) (hN : RN σ τ t s o) (hid : (σ 5 0 2) = (τ 14 0 24)) (hs : s < 2147480000) (ho : o < 2147480000) (ht : t < 2147480000) (hc : c ≤ 1480) (hpr : pr = 1 ∨ pr = 6) (hd : ∀ j, j < c → σ 36 0 (20 + j) = τ 57 0 (34 + j)) :
    RunV σ τ (w5_send σ to pr (nI c)) (w14_ipOut τ to pr (nI c)) (mF [23, 25, 26, 32, 35, 36] [] [(2, [3]), (3, [9]), (4, [0, 1, 2, 4]), (5, [2])] []) (mF [57, 58, 59, 60, 68] [] [(14, [18, 23, 24, 25]), (17, [0, 1, 2, 3, 4, 5])] []) (fun σ' τ' => HopP τ t s o σ' τ' ∧ (σ' 5 0 2) = (τ' 14 0 24)) := by
  obtain ⟨hM, hV, hH, hW, hA, hP⟩ := id hN
  generalize hs1 : row3 (up3 σ 5 0 2 ((σ 5 0 2 + 1) &&& 65535)) 36 0 (finC (σ 36 0) (nI (20 + c)) ((σ 5 0 2 + 1) &&& 65535) pr (σ 5 0 1) to) = s1
  generalize ht1 : row3 (up3 τ 14 0 24 ((τ 14 0 24 + 1) &&& 65535)) 57 0 (finM (τ 57 0) (nI (20 + c)) ((τ 14 0 24 + 1) &&& 65535) pr (τ 14 0 5) to) = t1
  have b1 : ∀ k i, k ≠ 5 → k ≠ 36 → s1 k i = σ k i := fun k i h1 h2 => by rw [← hs1, row3_o (by omega), up3_i (by omega)]
  have b5 : ∀ j, j ≠ 2 → s1 5 0 j = σ 5 0 j := fun j h => by rw [← hs1, row3_o (by omega), up3_j (by omega)]
  have c1 : ∀ k i, k ≠ 14 → k ≠ 57 → t1 k i = τ k i := fun k i h1 h2 => by rw [← ht1, row3_o (by omega), up3_i (by omega)]
  have c14 : ∀ j, j ≠ 24 → t1 14 0 j = τ 14 0 j := fun j h => by rw [← ht1, row3_o (by omega), up3_j (by omega)]
  have i5 : s1 5 0 2 = (σ 5 0 2 + 1) &&& 65535 := by rw [← hs1, row3_g, if_neg (by decide), up3_g, if_pos ⟨rfl, rfl, rfl⟩]
  have i14 : t1 14 0 24 = (τ 14 0 24 + 1) &&& 65535 := by rw [← ht1, row3_g, if_neg (by decide), up3_g, if_pos ⟨rfl, rfl, rfl⟩]
  have hN1 : RN s1 t1 t s o := ⟨hM.c (by rw [b1 _ _ (by decide) (by decide)]) (by rw [b1 _ _ (by decide) (by decide)]) (b5 _ (by decide)) (by rw [b1 _ _ (by decide) (by decide)]) (by rw [b1 _ _ (by decide) (by decide)]) (by rw [b1 _ _ (by decide) (by decide)]) (b1 _ _ (by decide) (by decide)) (c14 _ (by decide)) (c14 _ (by decide)) (c14 _ (by decide)) (c14 _ (by decide)) (c14 _ (by decide)), hV.c (by rw [b1 _ _ (by decide) (by decide)]) (by rw [b1 _ _ (by decide) (by decide)]) (funext fun i => b1 _ _ (by decide) (by decide)) (b1 _ _ (by decide) (by decide)) (b1 _ _ (by decide) (by decide)) (c14 _ (by decide)) (c14 _ (by decide)) (c1 _ _ (by decide) (by decide)) (c1 _ _ (by decide) (by decide)) (c1 _ _ (by decide) (by decide)), hH.c (by rw [b1 _ _ (by decide) (by decide)]) (b1 _ _ (by decide) (by decide)) (b1 _ _ (by decide) (by decide)) (b1 _ _ (by decide) (by decide)) (funext fun i => c1 _ _ (by decide) (by decide)), hW.c (by rw [b1 _ _ (by decide) (by decide)]) (b1 _ _ (by decide) (by decide)) (funext fun i => b1 _ _ (by decide) (by decide)) (funext fun i => b1 _ _ (by decide) (by decide)) (c14 _ (by decide)) (funext fun i => c1 _ _ (by decide) (by decide)) (funext fun i => c1 _ _ (by decide) (by decide)), hA.c (b1 _ _ (by decide) (by decide)) (b1 _ _ (by decide) (by decide)), hP.c (b1 _ _ (by decide) (by decide))⟩
  have okS1 : okS s1 := by rw [← hs1]; exact ok_rowb (ok_n ok (by decide)) (tyk_a 36 2 (by decide) (by decide)) (by_put2 (hdrC_by (fun j => ok_by ok (tyk_a 36 2 (by decide) (by decide)) j)))
  have okT1 : okS t1 := by rw [← ht1]; exact ok_rowb (ok_n ok' (by decide)) (tyk_a 57 2 (by decide) (by decide)) (by_put2 (hdrM_by (fun j => ok_by ok' (tyk_a 57 2 (by decide) (by decide)) j)))
  have hd1 : ∀ j, j < 20 + c → s1 36 0 j = t1 57 0 (14 + j) := by
    rw [← hs1, ← ht1, row3_s, row3_s, hid, hM.2.2.1]
    refine fin_eq hpr (fun j h1 h2 => ?_)
    have := hd (j - 20) (by omega)
    rwa [show 20 + (j - 20) = j by omega, show 34 + (j - 20) = 14 + j by omega] at this
  have hws : WS t1 = WS τ := WS_c (funext fun i => c1 _ _ (by decide) (by decide))
  have hst : (t1 14 0 18) = (τ 14 0 18) := c14 _ (by decide)
  obtain ⟨bb, hb1, hb2, hb3, hb4⟩ := hM.2.2.2.2.2.1
  have e32 : (32 : Int32) - nI bb = nI (32 - bb) := pk_sub (a := 32) (by omega)
  have fin : ∀ x : Int32, w3_send_J26 s1 36 0 (nI (20 + c)) x (fun σ' => w14_ipOut_J140 t1 (nI c) x (fun τ' => HopP τ t s o σ' τ' ∧ (σ' 5 0 2) = (τ' 14 0 24))) := by
    intro x
    have h := j_hop (x := x) (c := c) okS1 okT1 hN1 hs ho ht rfl (by omega) hd1
    obtain ⟨σ', h, k1, f1, g1⟩ := e3_send_J26 (by decide) okS1 h
    obtain ⟨τ', h, k2, f2, g2⟩ := e14_ipOut_J140 okT1 h
    refine g1 _ (g2 _ ?_)
    obtain ⟨s', o', h1, h2, h3, h4, h5, h6⟩ := h
    exact ⟨⟨s', o', h1, h2, by omega, h4, h5, h6.trans hst⟩, by rw [f1 5 0 2 rfl, f2 14 0 24 rfl, i5, i14, hid]⟩
  have hj : w5_send σ to pr (nI c) (fun σ' => w14_ipOut τ to pr (nI c) (fun τ' => HopP τ t s o σ' τ' ∧ (σ' 5 0 2) = (τ' 14 0 24))) := by
    refine s5_send hc ?_
    rw [hs1]
    have q1 : s1 3 0 2 = (-1) <<< (nI (32 - bb) &&& 31) := by rw [b1 _ _ (by decide) (by decide)]; exact hb4
    have q2 : s1 3 0 1 = τ 14 0 5 := by rw [b1 _ _ (by decide) (by decide)]; exact hM.2.1
    have q3 : s1 3 0 3 = τ 14 0 7 := by rw [b1 _ _ (by decide) (by decide)]; exact hM.2.2.2.2.1
    unfold w3_send
    rw [q1, q2, q3]
    by_cases cc : hib (32 - bb) to (τ 14 0 5)
    · refine br_u ((msk_iff (by omega) _ _).mpr cc) ?_
      obtain ⟨σ', h, k1, f1, g1⟩ := e3_send_J26 (by decide) okS1 (fin to)
      refine g1 _ (s14_ipOut hc (fun t9 e9 => ?_))
      rw [e9, ht1, hb3, e32]
      exact br_u ((net_iff (by omega) _ _).mpr cc) h
    · refine br_v (fun z => cc ((msk_iff (by omega) _ _).mp z)) ?_
      obtain ⟨σ', h, k1, f1, g1⟩ := e3_send_J26 (by decide) okS1 (fin (τ 14 0 7))
      refine g1 _ (s14_ipOut hc (fun t9 e9 => ?_))
      rw [e9, ht1, hb3, e32]
      exact br_v (fun z => cc ((net_iff (by omega) _ _).mp z)) h
  obtain ⟨σ', h, k1, f1, g1⟩ := e5_send ok hj
  obtain ⟨τ', h, k2, f2, g2⟩ := e14_ipOut ok' h
  exact ⟨σ', τ', g1, g2, k1, k2, f1, f2, h⟩
