/-! segments out -/
set_option maxRecDepth 100000
def segC (f : Nat → Int32) (hd own port seq ack fl wd : Int32) : Nat → Int32 := put4 (put2 (va_up (va_up (put4 (put4 (put2 (put2 f 20 own) 22 port) 24 seq) 28 ack) 32 (b8 hd)) 33 (b8 fl)) 34 wd) 36 0
def segM (g : Nat → Int32) (hd own port seq ack fl wd : Int32) : Nat → Int32 := put4 (put2 (va_up (va_up (put4 (put4 (put2 (put2 g 34 own) 36 port) 38 seq) 42 ack) 46 (b8 hd)) 47 (b8 fl)) 48 wd) 50 0
theorem segC_by {f : Nat → Int32} {hd own port seq ack fl wd : Int32} (hf : ∀ j, by8 (f j)) (j : Nat) : by8 (segC f hd own port seq ack fl wd j) := by_put4 (by_put2 (by_vu (by_vu (by_put4 (by_put4 (by_put2 (by_put2 hf)))) (by_b8 _)) (by_b8 _))) j
theorem segM_by {f : Nat → Int32} {hd own port seq ack fl wd : Int32} (hf : ∀ j, by8 (f j)) (j : Nat) : by8 (segM f hd own port seq ack fl wd j) := by_put4 (by_put2 (by_vu (by_vu (by_put4 (by_put4 (by_put2 (by_put2 hf)))) (by_b8 _)) (by_b8 _))) j
theorem seg_hi {f : Nat → Int32} {hd own port seq ack fl wd : Int32} {j : Nat} (h : 40 ≤ j) : segC f hd own port seq ack fl wd j = f j := by
  unfold segC
  rw [put4_o (by omega), put2_o (by omega), vu_g, if_neg (by omega), vu_g, if_neg (by omega), put4_o (by omega), put4_o (by omega), put2_o (by omega), put2_o (by omega)]
theorem segM_hi {f : Nat → Int32} {hd own port seq ack fl wd : Int32} {j : Nat} (h : 54 ≤ j) : segM f hd own port seq ack fl wd j = f j := by
  unfold segM
  rw [put4_o (by omega), put2_o (by omega), vu_g, if_neg (by omega), vu_g, if_neg (by omega), put4_o (by omega), put4_o (by omega), put2_o (by omega), put2_o (by omega)]
theorem seg_lo {f g : Nat → Int32} {hd own port seq ack fl wd : Int32} {j : Nat} (h0 : 20 ≤ j) (h : j < 40) : segC f hd own port seq ack fl wd j = segM g hd own port seq ack fl wd (14 + j) := by
  unfold segC segM put4 put2
  simp only [vu_g]
  rcases (show j = 20 ∨ j = 21 ∨ j = 22 ∨ j = 23 ∨ j = 24 ∨ j = 25 ∨ j = 26 ∨ j = 27 ∨ j = 28 ∨ j = 29 ∨ j = 30 ∨ j = 31 ∨ j = 32 ∨ j = 33 ∨ j = 34 ∨ j = 35 ∨ j = 36 ∨ j = 37 ∨ j = 38 ∨ j = 39 by omega) with rfl | rfl | rfl | rfl | rfl | rfl | rfl | rfl | rfl | rfl | rfl | rfl | rfl | rfl | rfl | rfl | rfl | rfl | rfl | rfl <;> simp
/-- the component's base: the header, with the option if there is one; then the data -/
def bdC (f d : Nat → Int32) (sy : Bool) (own port seq ack fl wd : Int32) (at_ n : Nat) : Nat → Int32 := va_cpy d (if sy then put4 (segC f 96 own port seq ack fl wd) 40 33818036 else segC f 80 own port seq ack fl wd) at_ (if sy then 44 else 40) n
def bdM (g : Nat → Int32) (sy : Bool) (own port seq ack fl wd : Int32) : Nat → Int32 := if sy then put4 (segM g 96 own port seq ack fl wd) 54 33818036 else segM g 80 own port seq ack fl wd
theorem bd_eq {f g d : Nat → Int32} {sy : Bool} {own port seq ack fl wd : Int32} {at_ n : Nat} (hn : sy = true → n = 0) (hd : ∀ j, j < n → d (at_ + j) = g (54 + j)) : ∀ j, j < (if sy then 24 else 20) + n → bdC f d sy own port seq ack fl wd at_ n (20 + j) = bdM g sy own port seq ack fl wd (34 + j) := by
  intro j hj
  unfold bdC bdM
  cases sy with
  | true =>
    have := hn rfl
    subst this
    rw [cpy_0]
    simp only [if_true] at hj ⊢
    by_cases c : 20 ≤ j
    · rcases (show j = 20 ∨ j = 21 ∨ j = 22 ∨ j = 23 by omega) with rfl | rfl | rfl | rfl <;> simp [put4, put2, vu_g]
    · rw [put4_o (by omega), put4_o (by omega), seg_lo (g := g) (by omega) (by omega)]
      congr 1
      omega
  | false =>
    simp only [Bool.false_eq_true, if_false] at hj ⊢
    by_cases c : 20 ≤ j
    · rw [pk_cpy_in (by omega) (by omega), segM_hi (by omega), hd _ (by omega)]
      congr 1
      omega
    · rw [pk_cpy_out (by omega), seg_lo (g := g) (by omega) (by omega)]
      congr 1
      omega
def hl (sy : Bool) : Nat := if sy then 24 else 20
theorem s8_send {σ : St} {to port own seq ack fl wd : Int32} {k i at_ n : Nat} {sy : Bool} {Q : St → Prop} (hsy : (fl &&& 2) = 0 ↔ sy = false) (hn : sy = true → n = 0) (hn2 : n ≤ 1460) (hk : 0 < n → abc k i = true ∧ k ≠ 36 ∧ at_ + n ≤ alen σ k i ∧ at_ < 100000)
    (hq : w5_send (row3 σ 36 0 (put2 (bdC (σ 36 0) (σ k i) sy own port seq ack fl wd at_ n) 36 (nI (ck (psd ((σ 8 0 2)) to (hl sy + n) + sB (bdC (σ 36 0) (σ k i) sy own port seq ack fl wd at_ n) 20 (hl sy + n)))))) to 6 (nI (hl sy + n)) Q) : w8_send σ to port own seq ack fl wd k i (nI at_) (nI n) Q := by
  have a36 : ∀ s : St, alen s 36 0 = 1500 := fun _ => rfl
  have e8 : ∀ (s : St) (f : Nat → Int32) (j : Nat), row3 s 36 0 f 8 0 j = s 8 0 j := fun s f j => by rw [row3_g, if_neg (by decide)]
  -- behind the data
  have t133 : w8_send_J133 (row3 σ 36 0 (bdC (σ 36 0) (σ k i) sy own port seq ack fl wd at_ n)) to (nI n) (nI (hl sy)) Q := by
    have hb := sB_le (bdC (σ 36 0) (σ k i) sy own port seq ack fl wd at_ n) 20 (hl sy + n)
    have hp := psd_lt (σ 8 0 2) to (hl sy + n)
    have hh : hl sy ≤ 24 := by unfold hl; split <;> omega
    have hh2 : hl sy + n ≤ 1480 := by
      cases sy with
      | true => have := hn rfl; simp [hl]; omega
      | false => simp [hl]; omega
    unfold w8_send_J133
    rw [e8, nI_add, psd_i]
    refine s19_added (a := 20) (by omega) (by omega) (by omega) (by rw [a36]; omega) ?_
    rw [row3_s]
    refine s19_folded (by omega) ?_
    refine s19_putTwo (a := 36) (by rw [a36]; omega) (by omega) (by decide) ?_
    rw [row3_s, row3_row3]
    exact hq
  have t112 : w8_send_J112 (row3 σ 36 0 (if sy then put4 (segC (σ 36 0) 96 own port seq ack fl wd) 40 33818036 else segC (σ 36 0) 80 own port seq ack fl wd)) to k i (nI at_) (nI n) (nI (hl sy)) Q := by
    by_cases c : n = 0
    · refine br_t (by rw [c]; decide) ?_
      unfold bdC at t133
      rw [c, cpy_0] at t133
      rw [c]
      exact t133
    · obtain ⟨h1, h2, h3, h4⟩ := hk (by omega)
      refine br_f (nI_nle (by omega) (by omega)) ⟨h1, ?_⟩
      have e20 : (20 : Int32) + nI (hl sy) = nI (20 + hl sy) := nI_add 20 _
      rw [e20]
      have hh : hl sy = 20 := by
        cases sy with
        | true => have := hn rfl; omega
        | false => rfl
      refine s19_copy (by omega) (by decide) (by omega) (by omega) (by omega) (by rw [alen_row (by decide)]; exact h3) (by rw [a36]; omega) ?_
      rw [row3_s, row3_row3, row3_o (k' := k) (by omega)]
      unfold bdC at t133
      have e40 : 20 + hl sy = (if sy then 44 else 40) := by unfold hl; split <;> rfl
      rw [e40]
      exact t133
  have t23 : ∀ h : Int32, h = nI (hl sy) → w8_send_J23 σ to port own seq ack fl wd k i (nI at_) (nI n) h Q := by
    intro h eh
    subst eh
    refine s19_putTwo (a := 20) (by rw [a36]; omega) (by omega) (by decide) ?_
    refine s19_putTwo (a := 22) (by rw [a36]; omega) (by omega) (by decide) ?_
    refine s19_putFour (a := 24) (by rw [a36]; omega) (by omega) (by decide) ?_
    refine s19_putFour (a := 28) (by rw [a36]; omega) (by omega) (by decide) ?_
    refine ⟨vin (n := 32) (by omega) (by omega), fun s2 e2 => ⟨vin (n := 33) (by omega) (by omega), fun s3 e3 => ?_⟩⟩
    simp only [row3_s, row3_row3] at e2
    rw [row3_up] at e2
    rw [e2, row3_up] at e3
    rw [e3]
    simp only [b8_f, b8_b8]
    rw [show (32 : Int32).toNatClampNeg = 32 by decide, show (33 : Int32).toNatClampNeg = 33 by decide]
    refine s19_putTwo (a := 34) (by rw [a36]; omega) (by omega) (by decide) ?_
    refine s19_putFour (a := 36) (by rw [a36]; omega) (by omega) (by decide) ?_
    simp only [row3_s, row3_row3]
    cases sy with
    | true =>
      refine br_u (by decide) (s19_putFour (a := 40) (by rw [a36]; omega) (by omega) (by decide) ?_)
      rw [row3_s, row3_row3]
      rw [show (nI (hl true) / 4) <<< ((4 : Int32) &&& 31) = 96 by decide]
      exact t112
    | false =>
      refine br_v (by decide) ?_
      rw [show (nI (hl false) / 4) <<< ((4 : Int32) &&& 31) = 80 by decide]
      exact t112
  by_cases c : (fl &&& 2) = 0
  · exact br_t c (t23 20 (by rw [hsy.mp c]; rfl))
  · refine br_f c (t23 24 ?_)
    cases sy with
    | true => rfl
    | false => exact absurd (hsy.mpr rfl) c
theorem s14_segmentOut {τ : St} {to port own seq ack fl wd : Int32} {n : Nat} {sy : Bool} {Q : St → Prop} (hn2 : n ≤ 1460) (hn : sy = true → n = 0)
    (hq : w14_ipOut (row3 τ 57 0 (put2 (bdM (τ 57 0) sy own port seq ack fl wd) 50 (nI (ck (psd ((τ 14 0 5)) to (hl sy + n) + sB (bdM (τ 57 0) sy own port seq ack fl wd) 34 (hl sy + n)))))) to 6 (nI (hl sy + n)) Q) : w14_segmentOut τ to own port seq ack fl wd (if sy then 4 else 0) (nI n) Q := by
  have e57 : ∀ (s : St) (f : Nat → Int32) (j : Nat), row3 s 57 0 f 14 0 j = s 14 0 j := fun s f j => by rw [row3_g, if_neg (by decide)]
  have hh2 : hl sy + n ≤ 1480 := by
    cases sy with
    | true => have := hn rfl; simp [hl]; omega
    | false => simp [hl]; omega
  have t91 : ∀ opt : Int32, (20 + opt) = nI (hl sy) → w14_segmentOut_J91 (row3 τ 57 0 (bdM (τ 57 0) sy own port seq ack fl wd)) to opt (nI n) Q := by
    intro opt ho
    have hb := sB_le (bdM (τ 57 0) sy own port seq ack fl wd) 34 (hl sy + n)
    have hp := psd_lt (τ 14 0 5) to (hl sy + n)
    unfold w14_segmentOut_J91 w14_pseudo
    rw [e57, ho, nI_add, psd_l _ _ (by omega)]
    refine s14_added (k := 57) (i := 0) (a := 34) (by omega) (by omega) (by omega) (by show _ ≤ 1514; omega) ?_
    rw [row3_s]
    refine s14_sixteen (by omega) ?_
    refine s14_put2 (a := 50) (by omega) ?_
    rw [row3_s, row3_row3]
    exact hq
  unfold w14_segmentOut
  refine s14_put2 (a := 34) (by omega) ?_
  refine s14_put2 (a := 36) (by omega) ?_
  refine s14_put4 (a := 38) (by omega) ?_
  refine s14_put4 (a := 42) (by omega) ?_
  refine s14_put1 (a := 46) (by omega) ?_
  refine s14_put1 (a := 47) (by omega) ?_
  refine s14_put2 (a := 48) (by omega) ?_
  refine s14_put4 (a := 50) (by omega) ?_
  simp only [row3_s, row3_row3]
  cases sy with
  | true =>
    refine br_f (by decide) (s14_put4 (a := 54) (by omega) ?_)
    rw [row3_s, row3_row3]
    exact t91 4 (by decide)
  | false =>
    refine br_t (by decide) ?_
    exact t91 0 (by decide)
/-- a segment: the two side by side -/
theorem R_seg {σ τ : St} {t s o k i at_ n : Nat} {to port own seq ack fl wd opt : Int32} {sy : Bool} (ok : okS σ) (ok' : okS τ) (hN : RN σ τ t s o) (hid : (σ 5 0 2) = (τ 14 0 24)) (hs : s < 2147480000) (ho : o < 2147480000) (ht : t < 2147480000) (hsy : (fl &&& 2) = 0 ↔ sy = false) (hopt : opt = if sy then 4 else 0) (hn : sy = true → n = 0) (hn2 : n ≤ 1460) (hk : 0 < n → abc k i = true ∧ k ≠ 36 ∧ at_ + n ≤ alen σ k i ∧ at_ < 100000) (hd : ∀ j, j < n → σ k i (at_ + j) = τ 57 0 (54 + j)) :
    RunV σ τ (w8_send σ to port own seq ack fl wd k i (nI at_) (nI n)) (w14_segmentOut τ to own port seq ack fl wd opt (nI n)) (mF [23, 25, 26, 32, 35, 36] [] [(2, [3]), (3, [9]), (4, [0, 1, 2, 4]), (5, [2])] []) (mF [57, 58, 59, 60, 68] [] [(14, [18, 23, 24, 25]), (17, [0, 1, 2, 3, 4, 5])] []) (fun σ' τ' => HopP τ t s o σ' τ' ∧ (σ' 5 0 2) = (τ' 14 0 24)) := by
  subst hopt
  obtain ⟨hM, hV, hH, hW, hA, hP⟩ := id hN
  have hh2 : hl sy + n ≤ 1480 := by
    cases sy with
    | true => have := hn rfl; simp [hl]; omega
    | false => simp [hl]; omega
  have hby : ∀ k i j, abc k i = true → by8 (σ k i j) := fun k i j h => abc_by ok h j
  have beq := bd_eq (f := σ 36 0) (g := τ 57 0) (d := σ k i) (own := own) (port := port) (seq := seq) (ack := ack) (fl := fl) (wd := wd) hn hd
  have esum : sB (bdC (σ 36 0) (σ k i) sy own port seq ack fl wd at_ n) 20 (hl sy + n) = sB (bdM (τ 57 0) sy own port seq ack fl wd) 34 (hl sy + n) := sB_ext (fun j hj => beq j hj)
  generalize hs1 : row3 σ 36 0 (put2 (bdC (σ 36 0) (σ k i) sy own port seq ack fl wd at_ n) 36 (nI (ck (psd ((σ 8 0 2)) to (hl sy + n) + sB (bdC (σ 36 0) (σ k i) sy own port seq ack fl wd at_ n) 20 (hl sy + n))))) = s1
  generalize ht1 : row3 τ 57 0 (put2 (bdM (τ 57 0) sy own port seq ack fl wd) 50 (nI (ck (psd ((τ 14 0 5)) to (hl sy + n) + sB (bdM (τ 57 0) sy own port seq ack fl wd) 34 (hl sy + n))))) = t1
  have b1 : ∀ k i, k ≠ 36 → s1 k i = σ k i := fun k i h => by rw [← hs1, row3_o (by omega)]
  have c1 : ∀ k i, k ≠ 57 → t1 k i = τ k i := fun k i h => by rw [← ht1, row3_o (by omega)]
  have hN1 : RN s1 t1 t s o := ⟨hM.c (by rw [b1 _ _ (by decide)]) (by rw [b1 _ _ (by decide)]) (by rw [b1 _ _ (by decide)]) (by rw [b1 _ _ (by decide)]) (by rw [b1 _ _ (by decide)]) (by rw [b1 _ _ (by decide)]) (b1 _ _ (by decide)) (by rw [c1 _ _ (by decide)]) (by rw [c1 _ _ (by decide)]) (by rw [c1 _ _ (by decide)]) (by rw [c1 _ _ (by decide)]) (by rw [c1 _ _ (by decide)]), hV.c (by rw [b1 _ _ (by decide)]) (by rw [b1 _ _ (by decide)]) (funext fun i => b1 _ _ (by decide)) (b1 _ _ (by decide)) (b1 _ _ (by decide)) (by rw [c1 _ _ (by decide)]) (by rw [c1 _ _ (by decide)]) (c1 _ _ (by decide)) (c1 _ _ (by decide)) (c1 _ _ (by decide)), hH.c (by rw [b1 _ _ (by decide)]) (b1 _ _ (by decide)) (b1 _ _ (by decide)) (b1 _ _ (by decide)) (funext fun i => c1 _ _ (by decide)), hW.c (by rw [b1 _ _ (by decide)]) (b1 _ _ (by decide)) (funext fun i => b1 _ _ (by decide)) (funext fun i => b1 _ _ (by decide)) (by rw [c1 _ _ (by decide)]) (funext fun i => c1 _ _ (by decide)) (funext fun i => c1 _ _ (by decide)), hA.c (b1 _ _ (by decide)) (b1 _ _ (by decide)), hP.c (b1 _ _ (by decide))⟩
  have byC : ∀ j, by8 (bdC (σ 36 0) (σ k i) sy own port seq ack fl wd at_ n j) := by
    have base : ∀ j, by8 ((if sy then put4 (segC (σ 36 0) 96 own port seq ack fl wd) 40 33818036 else segC (σ 36 0) 80 own port seq ack fl wd) j) := by
      cases sy
      · exact segC_by (fun j => hby 36 0 j (by decide))
      · exact by_put4 (segC_by (fun j => hby 36 0 j (by decide)))
    intro j
    unfold bdC
    by_cases c : n = 0
    · rw [c, cpy_0]; exact base j
    · exact by_cpy (fun j => hby k i j (hk (by omega)).1) base j
  have byM : ∀ j, by8 (bdM (τ 57 0) sy own port seq ack fl wd j) := by
    have b57 : ∀ j, by8 (τ 57 0 j) := fun j => ok_by ok' (tyk_a 57 2 (by decide) (by decide)) j
    unfold bdM
    cases sy
    · exact segM_by b57
    · exact by_put4 (segM_by b57)
  have okS1 : okS s1 := by rw [← hs1]; exact ok_rowb ok (tyk_a 36 2 (by decide) (by decide)) (by_put2 byC)
  have okT1 : okS t1 := by rw [← ht1]; exact ok_rowb ok' (tyk_a 57 2 (by decide) (by decide)) (by_put2 byM)
  have hd1 : ∀ j, j < hl sy + n → s1 36 0 (20 + j) = t1 57 0 (34 + j) := by
    intro j hj
    rw [← hs1, ← ht1, row3_s, row3_s, esum, hM.2.2.2.1]
    by_cases c : 16 ≤ j ∧ j < 18
    · rcases (show j = 16 ∨ j = 17 by omega) with rfl | rfl <;> simp [put2, vu_g]
    · rw [put2_o (by omega), put2_o (by omega)]
      exact beq j hj
  obtain ⟨σ', τ', g1, g2, k1, k2, f1, f2, ⟨s', o', h1, h2, h3, h4, h5, h6⟩, h7⟩ := R_out (to := to) (pr := 6) okS1 okT1 hN1 (by rw [b1 _ _ (by decide), c1 _ _ (by decide)]; exact hid) hs ho ht (c := hl sy + n) (by omega) (Or.inr rfl) hd1
  have hws : WS t1 = WS τ := WS_c (funext fun i => c1 _ _ (by decide))
  have hj : w8_send σ to port own seq ack fl wd k i (nI at_) (nI n) (fun σ' => w14_segmentOut τ to own port seq ack fl wd (if sy then 4 else 0) (nI n) (fun τ' => HopP τ t s o σ' τ' ∧ (σ' 5 0 2) = (τ' 14 0 24))) := by
    refine s8_send hsy hn hn2 hk ?_
    rw [hs1]
    refine g1 _ (s14_segmentOut hn2 hn ?_)
    rw [ht1]
    refine g2 _ ⟨⟨s', o', h1, h2, by omega, h4, h5, by rw [h6, c1 _ _ (by decide)]⟩, h7⟩
  obtain ⟨σ', h, k1, f1, g1⟩ := e8_send ok hj
  obtain ⟨τ', h, k2, f2, g2⟩ := e14_segmentOut ok' h
  exact ⟨σ', τ', g1, g2, k1, k2, f1, f2, h⟩
