/-! an acknowledgement: window and tries -/
set_option maxRecDepth 100000
theorem LV.c {σ τ σ' τ' : St} {t i : Nat} {c c' : CK} (h : LV σ τ t i c) (a1 : (σ' 11 i 33) = (σ 11 i 33)) (a2 : (σ' 11 i 31) = (σ 11 i 31)) (a3 : (σ' 11 i 32) = (σ 11 i 32)) (b1 : (τ' 15 i 45) = (τ 15 i 45)) (e1 : (c' 0) = (c 0)) (e2 : (c' 17) = (c 17)) (e3 : (c' 3) = (c 3)) (e4 : (c' 1) = (c 1)) (e5 : (c' 5) = (c 5)) (e6 : (c' 4) = (c 4)) (e7 : (c' 2) = (c 2)) (e8 : 4096 - (c' 14) < (c' 15) + 2048) : LV σ' τ' t i c' := by
  refine LV.mk ?_ ?_ ?_ e8
  · rw [e1, e2, e3, e4, e5, e6, e7, a3]; exact h.m2
  · rw [e1, a1, a2, b1]; exact h.m4
  · rw [e1, a1]; exact h.m0
theorem j_try {σ τ : St} {t l b i B : Nat} {c : CK} {x2 : Int32} (hi : i < 16) (ok : okS σ) (hN : NB σ τ t l b) (hK : RK σ τ) (h : RCn σ τ t i c) (hL : LV σ τ t i c) (hst : 2 ≤ (c 0)) (hB : (c 1) + (c 5) ≤ B) (hx : ¬ x2 < 0) (hu : 0 ≤ (τ 14 0 35) - (τ 15 i 4)) :
    (x2 < 0 → w11_takeAck_J283 σ i (fun r σ' => w14_acknowledgement_J209 τ i (fun r' τ' => AckP t l b i B r σ' r' τ'))) ∧ (¬ x2 < 0 → ((¬ (σ 11 i 12) = 0 → w11_takeAck_J283 σ i (fun r σ' => w14_acknowledgement_J209 τ i (fun r' τ' => AckP t l b i B r σ' r' τ'))) ∧ ((σ 11 i 12) = 0 → (∀ σ4, σ4 = up3 σ 11 i 17 0 → (w11_takeAck_J283 σ4 i (fun r σ' => w14_acknowledgement_J209 τ i (fun r' τ' => AckP t l b i B r σ' r' τ'))))))) := by
  have mo : ∀ (Q : Int32 → St → Prop), ((c 8) = 0 → w14_acknowledgement_J235 (up3 τ 15 i 23 0) i Q) → (¬ (c 8) = 0 → w14_acknowledgement_J235 τ i Q) → w14_acknowledgement_J209 τ i Q := by
    intro Q h1 h0
    refine br_t hu (br_u rfl ?_)
    have q := h.wn6
    show (¬ (τ 15 i 7) = 0 → _) ∧ _
    rw [h.ewn']
    by_cases z : (c 8) = 0
    · exact br_u (by rw [z]; rfl) (fun s e => by rw [e]; exact h1 z)
    · exact br_v (nI_ne0 (by omega) (by omega)) (h0 z)
  refine br_f hx ?_
  have q := h.wn6
  rw [h.ewn]
  by_cases z : (c 8) = 0
  · refine br_u (by rw [z]; rfl) (fun s4 e4 => ?_)
    have F : Fr (mF [] [] [(11, [17])] []) σ s4 := by rw [e4]; exact fr_u rfl
    have G : Fr (mF [] [] [(15, [23])] []) τ (up3 τ 15 i 23 0) := fr_u rfl
    have hC : s4 11 i = (va_up (σ 11 i) 17 0) := by rw [e4, up3_r, if_pos ⟨rfl, rfl⟩]
    have hM : (up3 τ 15 i 23 0) 15 i = (va_up (τ 15 i) 23 0) := by rw [up3_r, if_pos ⟨rfl, rfl⟩]
    have j := j_fin (hN.f F G) (hK.f F G) (h.try0 hC hM (crows.f F) (mrows.f G)) (hL.c (F _ _ _ rfl) (F _ _ _ rfl) (F _ _ _ rfl) (G _ _ _ rfl) rfl rfl rfl rfl rfl rfl rfl hL.mtd) hst hB
    obtain ⟨r, σ', hq, _, _, g⟩ := e11_takeAck_J283 hi (by rw [e4]; exact ok_n ok rfl) j
    exact g _ (mo _ (fun _ => hq) (fun z' => absurd z z'))
  · refine br_v (nI_ne0 (by omega) (by omega)) ?_
    have j := j_fin hN hK h hL hst hB
    obtain ⟨r, σ', hq, _, _, g⟩ := e11_takeAck_J283 hi ok j
    exact g _ (mo _ (fun z' => absurd z' z) (fun _ => hq))
/-- the window is taken over, if the segment is new enough -/
theorem j_win {σ τ : St} {t l b i wv B : Nat} {c : CK} {x2 : Int32} (hi : i < 16) (ok : okS σ) (hN : NB σ τ t l b) (hK : RK σ τ) (hS : RS σ τ) (hw : (τ 14 0 37) = nI wv) (hw6 : wv ≤ 65535) (h : RCn σ τ t i c) (hL : LV σ τ t i c) (hst : 2 ≤ (c 0)) (hB : (c 1) + (c 5) ≤ B) (hx : x2 < 0 ↔ ¬ 0 ≤ (τ 14 0 35) - (τ 15 i 4)) :
    w11_takeAck_J207 σ i x2 (fun r σ' => w14_acknowledgement_J151 τ i (fun r' τ' => AckP t l b i B r σ' r' τ')) := by
  obtain ⟨r0, r1, r2, r3, r4, r5, r6, r7⟩ := id hS
  -- what is newer
  generalize hnw : decide (¬ 0 ≤ (τ 15 i 8) - (τ 14 0 34) ∨ (τ 15 i 8) = (τ 14 0 34) ∧ 0 ≤ (τ 14 0 35) - (τ 15 i 9)) = nw
  have co : ∀ (Q : Int32 → St → Prop), w11_takeAck_J251 σ i x2 (if nw then 1 else 0) Q → w11_takeAck_J207 σ i x2 Q := by
    intro Q hq
    show (0 ≤ (σ 11 i 7) - (σ 10 0 3) → _) ∧ _
    rw [h.ews, r3, r4, h.ewa]
    by_cases c1 : 0 ≤ (τ 15 i 8) - (τ 14 0 34)
    · refine br_t c1 (br_u rfl ?_)
      by_cases c2 : (τ 15 i 8) = (τ 14 0 34)
      · refine br_u c2 ?_
        by_cases c3 : 0 ≤ (τ 14 0 35) - (τ 15 i 9)
        · rw [← hnw, decide_eq_true (Or.inr ⟨c2, c3⟩)] at hq
          exact br_t c3 (br_u rfl hq)
        · rw [← hnw, decide_eq_false (fun z => z.elim (fun q => q c1) (fun q => c3 q.2))] at hq
          exact br_f c3 (br_v (by decide) hq)
      · rw [← hnw, decide_eq_false (fun z => z.elim (fun q => q c1) (fun q => c2 q.1))] at hq
        exact br_v c2 hq
    · rw [← hnw, decide_eq_true (Or.inl c1)] at hq
      exact br_f c1 (br_v (by decide) hq)
  have mo : ∀ (Q : Int32 → St → Prop), 0 ≤ (τ 14 0 35) - (τ 15 i 4) → (nw = true → w14_takeWindow τ i (fun s => w14_acknowledgement_J209 s i Q)) → (nw = false → w14_acknowledgement_J209 τ i Q) → w14_acknowledgement_J151 τ i Q := by
    intro Q hu h1 h0
    refine br_t hu (br_u rfl ?_)
    by_cases c1 : 0 ≤ (τ 15 i 8) - (τ 14 0 34)
    · refine br_t c1 (br_u rfl ?_)
      by_cases c2 : (τ 15 i 8) = (τ 14 0 34)
      · refine br_u c2 ?_
        by_cases c3 : 0 ≤ (τ 14 0 35) - (τ 15 i 9)
        · exact br_t c3 (br_u rfl (h1 (by rw [← hnw]; exact decide_eq_true (Or.inr ⟨c2, c3⟩))))
        · exact br_f c3 (br_v (by decide) (h0 (by rw [← hnw]; exact decide_eq_false (fun z => z.elim (fun q => q c1) (fun q => c3 q.2)))))
      · exact br_v c2 (h0 (by rw [← hnw]; exact decide_eq_false (fun z => z.elim (fun q => q c1) (fun q => c2 q.1))))
    · exact br_f c1 (br_v (by decide) (h1 (by rw [← hnw]; exact decide_eq_true (Or.inl c1))))
  refine co _ ?_
  by_cases c0 : x2 < 0
  · have hu : ¬ 0 ≤ (τ 14 0 35) - (τ 15 i 4) := hx.mp c0
    refine br_t c0 (br_t c0 ?_)
    obtain ⟨r, σ', hq, _, _, g⟩ := e11_takeAck_J283 hi ok (j_fin hN hK h hL hst hB)
    exact g _ (br_f hu (br_v (by decide) (br_f hu (br_v (by decide) hq))))
  have hu : 0 ≤ (τ 14 0 35) - (τ 15 i 4) := by
    by_cases z : 0 ≤ (τ 14 0 35) - (τ 15 i 4)
    · exact z
    · exact absurd (hx.mpr z) c0
  refine br_f c0 ?_
  cases hnw2 : nw with
  | false =>
    refine br_t rfl ?_
    have j := j_try hi ok hN hK h hL hst hB c0 hu
    refine br_f c0 ?_
    have j := j.2 c0
    by_cases z : (σ 11 i 12) = 0
    · refine br_u z (fun s4 e4 => ?_)
      obtain ⟨r, σ', hq, _, _, g⟩ := e11_takeAck_J283 hi (by rw [e4]; exact ok_n ok rfl) (j.2 z s4 e4)
      exact g _ (mo _ hu (fun z => absurd (hnw2.symm.trans z) (by decide)) (fun _ => hq))
    · refine br_v z ?_
      obtain ⟨r, σ', hq, _, _, g⟩ := e11_takeAck_J283 hi ok (j.1 z)
      exact g _ (mo _ hu (fun z => absurd (hnw2.symm.trans z) (by decide)) (fun _ => hq))
  | true =>
    refine br_f (by decide) (fun s1 e1 s2 e2 s3 e3 => ?_)
    have b1 : s1 10 0 = σ 10 0 := by rw [e1, up3_r, if_neg (by omega)]
    have b2 : s2 10 0 = σ 10 0 := by rw [e2, up3_r, if_neg (by omega)]; exact b1
    have hC : s3 11 i = (va_up (va_up (va_up (σ 11 i) 12 (nI wv)) 7 ((τ 14 0 34))) 8 ((τ 14 0 35))) := by
      rw [e3, up3_r, if_pos ⟨rfl, rfl⟩, e2, up3_r, if_pos ⟨rfl, rfl⟩, e1, up3_r, if_pos ⟨rfl, rfl⟩]
      rw [← e1, ← e2, b1, b2, r3, r4, r6, hw]
    have F : Fr (mF [] [] [(11, [7, 8, 12])] []) σ s3 := by rw [e3, e2, e1]; exact ((fr_u rfl).up rfl).up rfl
    have ok3 : okS s3 := by rw [e3, e2, e1]; exact ok_n (ok_n (ok_n ok rfl) rfl) rfl
    generalize ht3 : up3 (up3 (up3 τ 15 i 7 ((τ 14 0 37))) 15 i 8 ((τ 14 0 34))) 15 i 9 ((τ 14 0 35)) = t3
    have hM : t3 15 i = (va_up (va_up (va_up (τ 15 i) 7 (nI wv)) 8 ((τ 14 0 34))) 9 ((τ 14 0 35))) := by
      rw [← ht3, up3_r, if_pos ⟨rfl, rfl⟩, up3_r, if_pos ⟨rfl, rfl⟩, up3_r, if_pos ⟨rfl, rfl⟩, hw]
    have G : Fr (mF [] [] [(15, [7, 8, 9])] []) τ t3 := by rw [← ht3]; exact ((fr_u rfl).up rfl).up rfl
    have hm : ∀ (Q : Int32 → St → Prop), w14_acknowledgement_J209 t3 i Q → w14_takeWindow τ i (fun s => w14_acknowledgement_J209 s i Q) := by
      intro Q hq u1 d1 u2 d2 u3 d3
      have b1 : u1 14 0 = τ 14 0 := by rw [d1, up3_r, if_neg (by omega)]
      have b2 : u2 14 0 = τ 14 0 := by rw [d2, up3_r, if_neg (by omega)]; exact b1
      rw [b2, d2, b1, d1, ht3] at d3
      rw [d3]
      exact hq
    have hL3 : LV s3 t3 t i (cup c 8 wv) := hL.c (F _ _ _ rfl) (F _ _ _ rfl) (F _ _ _ rfl) (G _ _ _ rfl) rfl rfl rfl rfl rfl rfl rfl hL.mtd
    have j := (j_try (x2 := x2) hi ok3 (hN.f F G) (hK.f F G) (h.win hw6 hC hM (crows.f F) (mrows.f G)) hL3 hst hB c0 (by rw [G _ _ _ rfl, G _ _ _ rfl]; exact hu)).2 c0
    refine br_f c0 ?_
    by_cases z : (s3 11 i 12) = 0
    · refine br_u z (fun s4 e4 => ?_)
      obtain ⟨r, σ', hq, _, _, g⟩ := e11_takeAck_J283 hi (by rw [e4]; exact ok_n ok3 rfl) (j.2 z s4 e4)
      exact g _ (mo _ hu (fun _ => hm _ hq) (fun z => absurd (hnw2.symm.trans z) (by decide)))
    · refine br_v z ?_
      obtain ⟨r, σ', hq, _, _, g⟩ := e11_takeAck_J283 hi ok3 (j.1 z)
      exact g _ (mo _ hu (fun _ => hm _ hq) (fun z => absurd (hnw2.symm.trans z) (by decide)))
