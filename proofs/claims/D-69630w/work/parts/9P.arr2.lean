/-! a segment of a connection: side by side -/
set_option maxRecDepth 100000
/-- the segment at hand, in full -/
def SgI (σ τ : St) (k3 i3 pl n da wv : Nat) : Prop := (RS σ τ) ∧ (SgD σ k3 i3 pl n) ∧ (k3 ≠ 44) ∧ ((τ 14 0 38) = nI da) ∧ (da + n ≤ 4096) ∧ (∀ j, j < n → σ k3 i3 (pl + j) = τ 64 0 (da + j)) ∧ ((τ 14 0 37) = nI wv) ∧ (wv ≤ 65535)
theorem SgI.rs {σ τ : St} {k3 i3 pl n da wv : Nat} (h : SgI σ τ k3 i3 pl n da wv) : RS σ τ := h.1
theorem SgI.sd {σ τ : St} {k3 i3 pl n da wv : Nat} (h : SgI σ τ k3 i3 pl n da wv) : SgD σ k3 i3 pl n := h.2.1
theorem SgI.k44 {σ τ : St} {k3 i3 pl n da wv : Nat} (h : SgI σ τ k3 i3 pl n da wv) : k3 ≠ 44 := h.2.2.1
theorem SgI.da1 {σ τ : St} {k3 i3 pl n da wv : Nat} (h : SgI σ τ k3 i3 pl n da wv) : (τ 14 0 38) = nI da := h.2.2.2.1
theorem SgI.dan {σ τ : St} {k3 i3 pl n da wv : Nat} (h : SgI σ τ k3 i3 pl n da wv) : da + n ≤ 4096 := h.2.2.2.2.1
theorem SgI.dat {σ τ : St} {k3 i3 pl n da wv : Nat} (h : SgI σ τ k3 i3 pl n da wv) : ∀ j, j < n → σ k3 i3 (pl + j) = τ 64 0 (da + j) := h.2.2.2.2.2.1
theorem SgI.wi {σ τ : St} {k3 i3 pl n da wv : Nat} (h : SgI σ τ k3 i3 pl n da wv) : (τ 14 0 37) = nI wv := h.2.2.2.2.2.2.1
theorem SgI.w6 {σ τ : St} {k3 i3 pl n da wv : Nat} (h : SgI σ τ k3 i3 pl n da wv) : wv ≤ 65535 := h.2.2.2.2.2.2.2
theorem SgI.mk {σ τ : St} {k3 i3 pl n da wv : Nat} (rs : RS σ τ) (sd : SgD σ k3 i3 pl n) (k44 : k3 ≠ 44) (da1 : (τ 14 0 38) = nI da) (dan : da + n ≤ 4096) (dat : ∀ j, j < n → σ k3 i3 (pl + j) = τ 64 0 (da + j)) (wi : (τ 14 0 37) = nI wv) (w6 : wv ≤ 65535) : SgI σ τ k3 i3 pl n da wv := ⟨rs, sd, k44, da1, dan, dat, wi, w6⟩
theorem RK.e {σ τ : St} (h : RK σ τ) : RK σ τ := h
theorem SgI.f {σ τ σ' τ' : St} {k3 i3 pl n da wv : Nat} {A B : Nat → Nat → Nat → Bool} (h : SgI σ τ k3 i3 pl n da wv) (f1 : Fr A σ σ') (f2 : Fr B τ τ') (al : alen σ' k3 i3 = alen σ k3 i3) (ar : σ' k3 i3 = σ k3 i3) (a : ∀ j, A 10 0 j = false := by intro _; rfl) (b0 : ∀ j, 29 < j → j < 41 → B 14 0 j = false := by intro j h1 h2; have : j = 30 ∨ j = 31 ∨ j = 32 ∨ j = 33 ∨ j = 34 ∨ j = 35 ∨ j = 36 ∨ j = 37 ∨ j = 38 ∨ j = 39 ∨ j = 40 := (by omega); rcases this with z | z | z | z | z | z | z | z | z | z | z <;> rw [z] <;> rfl) (b64 : ∀ j, B 64 0 j = false := by intro _; rfl) : SgI σ' τ' k3 i3 pl n da wv := by
  refine SgI.mk (h.rs.f f1 f2 a (b0 _ (by decide) (by decide)) (b0 _ (by decide) (by decide)) (b0 _ (by decide) (by decide)) (b0 _ (by decide) (by decide)) (b0 _ (by decide) (by decide)) (b0 _ (by decide) (by decide)) (b0 _ (by decide) (by decide)) (b0 _ (by decide) (by decide))) (h.sd.c (f1.row a) al) h.k44 ?_ h.dan ?_ ?_ h.w6
  · rw [f2 _ _ _ (b0 _ (by decide) (by decide))]; exact h.da1
  · intro j hj; rw [ar, f2.row b64]; exact h.dat j hj
  · rw [f2 _ _ _ (b0 _ (by decide) (by decide))]; exact h.wi
theorem s14_arr0 {τ : St} {i st : Nat} {Q : St → Prop} (est : (τ 15 i 0) = nI st) (h8 : st ≤ 8) (hn : st ≠ 2 ∧ st ≠ 3 ∧ st ≠ 4) (hq : Q τ) : w14_arrived τ i Q := by
  have q : ∀ v : Nat, v ≤ 8 → (nI st = nI v ↔ st = v) := fun v hv => nI_eq (by omega) (by omega)
  have h1 : ∀ R : Int32 → Prop, R 0 → w14_takesData τ i R := by
    intro R hr
    unfold w14_takesData
    rw [est]
    exact br_f (fun z => hn.1 ((q 2 (by omega)).mp z)) (br_f (fun z => hn.2.1 ((q 3 (by omega)).mp z)) (br_v (fun z => hn.2.2 ((q 4 (by omega)).mp z)) hr))
  exact h1 _ (br_u rfl hq)
/-- the data and what follows, both -/
theorem R_rest {σ τ : St} {t l b i B k3 i3 pl n da wv : Nat} {c : CK} (hi : i < 16) (ok : okS σ) (ok' : okS τ) (hN : NB σ τ t l b) (hb : b + 264210 < 2147480000) (hI : LkI σ τ i) (hG : SgI σ τ k3 i3 pl n da wv) (hsy : ((τ 14 0 36) &&& 2) = 0) (h : RCn σ τ t i c) (hL : LV σ τ t i c) (hst : 2 ≤ (c 0)) (hB : (c 1) + (c 5) ≤ B) (hB9 : B < 900000000) {Q : St → Prop} {M : (St → Prop) → Prop}
    (hM : ∀ R, w14_arrived τ i (fun σ6 => ((¬ (σ6 15 i 0) = 6 → w14_segment_J128 σ6 i R) ∧ ((σ6 15 i 0) = 6 → (w14_is σ6 1 (fun r10 => ((r10 = 0 → w14_segment_J128 σ6 i R) ∧ (¬ r10 = 0 → (∀ σ11, σ11 = up3 σ6 15 i 45 (σ6 14 0 10) → (w14_segment_J128 σ11 i R))))))))) → M R)
    (hq : ∀ σ', M (fun τ' => GoP t l (b + 264210) i (B + 66049) σ' τ') → Q σ') :
    ((σ 11 i 2) = 2 → (w11_takeData σ i (fun σ6 => (w11_goOn σ6 i (fun σ7 => (Q σ7)))))) ∧ (¬ (σ 11 i 2) = 2 → (((σ 11 i 2) = 3 → (w11_takeData σ i (fun σ8 => (w11_goOn σ8 i (fun σ9 => (Q σ9)))))) ∧ (¬ (σ 11 i 2) = 3 → ((¬ (σ 11 i 2) = 4 → ((¬ (σ 11 i 2) = 6 → (w11_goOn σ i (fun σ10 => (Q σ10)))) ∧ ((σ 11 i 2) = 6 → (w10_has σ 1 (fun r11 => ((r11 = 0 → (w11_goOn σ i (fun σ12 => (Q σ12)))) ∧ (¬ r11 = 0 → (w11_live σ i 60000 (fun σ13 => (w11_goOn σ13 i (fun σ14 => (Q σ14)))))))))))) ∧ ((σ 11 i 2) = 4 → (w11_takeData σ i (fun σ15 => (w11_goOn σ15 i (fun σ16 => (Q σ16)))))))))) := by
  obtain ⟨s0, o0, n1, n2, n3, nl, n4, n5, n6⟩ := id hN
  have now1 : (σ 2 0 4) = nI t := n1.2.1.1
  have now2 : (τ 14 0 10) = nI t := n1.2.1.2.1
  have s8 := h.s8
  have q : ∀ v : Nat, v ≤ 8 → (nI (c 0) = nI v ↔ (c 0) = v) := fun v hv => nI_eq (by omega) (by omega)
  rw [h.est]
  -- goOn, at last
  have go : ∀ (σ6 τ6 : St) (c6 : CK), okS σ6 → okS τ6 → NB σ6 τ6 t l b → LkI σ6 τ6 i → RCn σ6 τ6 t i c6 → LV σ6 τ6 t i c6 → 2 ≤ (c6 0) → (c6 1) + (c6 5) ≤ B → (∀ R, w14_segment_J128 τ6 i R → M R) → w11_goOn σ6 i (fun σ7 => Q σ7) := by
    intro σ6 τ6 c6 k1 k2 k3 k4 k5 k6 k7 k8 hm
    obtain ⟨σ7, τ7, g1, g2, _, _, _, _, hP⟩ := R_goOn hi k1 k2 k3 hb k4 k5 k6 k7 k8 hB9
    exact g1 _ (hq σ7 (hm _ (g2 _ hP)))
  by_cases c234 : (c 0) = 2 ∨ (c 0) = 3 ∨ (c 0) = 4
  · obtain ⟨σ6, τ6, gC, gM, k1, k2, f6, g6, hN6, rk6, c6, h6, hL6, st6, hB6, hs6⟩ := R_data (B := B) hi ok ok' hN hI.rk hG.rs hG.sd hG.da1 hG.dan hG.dat hsy h hL hB c234
    have F6 : Fr (mF [42, 43] [] [(11, [2, 6, 22, 23, 24, 29, 31, 32, 33]), (12, [2])] []) σ σ6 := f6.sub (mF_sub rfl (sub_c (Or.inl rfl) (sub_c (Or.inl rfl) sub_nil)) rfl (sud_c (Or.inl ⟨_, List.mem_of_getElem? (i := 0) rfl, rfl⟩) (sud_c (Or.inl ⟨_, List.mem_of_getElem? (i := 1) rfl, rfl⟩) sud_nil)))
    have G6 : Fr (mF [72, 73] [] [(15, [0, 36, 39, 40, 41, 42, 44, 45])] []) τ τ6 := g6.sub (mF_sub rfl (sub_c (Or.inl rfl) (sub_c (Or.inl rfl) sub_nil)) rfl (sud_c (Or.inl ⟨_, List.mem_of_getElem? (i := 0) rfl, rfl⟩) sud_nil))
    have hI6 : LkI σ6 τ6 i := LkI.mk rk6 (by rw [F6.row (k := 40) fun _ => rfl, G6.row (k := 66) fun _ => rfl]; exact hI.hd) (hI.st.f F6 G6) (by rw [F6 _ _ _ rfl]; exact hI.rm) (by rw [F6 _ _ _ rfl]; exact hI.fr)
    have fin : w11_takeData σ i (fun σ6 => (w11_goOn σ6 i (fun σ7 => (Q σ7)))) := by
      refine gC _ (go σ6 τ6 c6 k1 k2 hN6 hI6 h6 hL6 st6 hB6 (fun R hR => hM R (gM _ ?_)))
      have e6 := h6.est'
      have s86 := h6.s8
      by_cases c66 : (c6 0) = 6
      · refine br_u (by rw [e6, c66]; rfl) (s14_is (fun _ => br_t rfl hR) (fun _ => br_f (by decide) (fun s11 e11 => ?_)))
        have w10 : τ6 14 0 10 = nI t := by rw [G6 _ _ _ rfl]; exact now2
        rw [w10, up_self (hs6 c66)] at e11
        rw [e11]
        exact hR
      · exact br_v (fun z => c66 (by rw [e6] at z; exact (nI_eq (b := 6) (by omega) (by omega)).mp z)) hR
    rcases c234 with z | z | z
    · exact br_t (by rw [z]; rfl) fin
    · exact br_f (by rw [z]; decide) (br_t (by rw [z]; rfl) fin)
    · exact br_f (by rw [z]; decide) (br_f (by rw [z]; decide) (br_u (by rw [z]; rfl) fin))
  refine br_f (fun z => c234 (Or.inl ((q 2 (by omega)).mp z))) (br_f (fun z => c234 (Or.inr (Or.inl ((q 3 (by omega)).mp z)))) (br_v (fun z => c234 (Or.inr (Or.inr ((q 4 (by omega)).mp z)))) ?_))
  have mo : ∀ R, ((¬ (τ 15 i 0) = 6 → w14_segment_J128 τ i R) ∧ ((τ 15 i 0) = 6 → (w14_is τ 1 (fun r10 => ((r10 = 0 → w14_segment_J128 τ i R) ∧ (¬ r10 = 0 → (∀ σ11, σ11 = up3 τ 15 i 45 (τ 14 0 10) → (w14_segment_J128 σ11 i R)))))))) → M R := fun R hR => hM R (s14_arr0 h.est' s8 (by omega) hR)
  by_cases c6 : (c 0) = 6
  rotate_left
  · exact br_v (fun z => c6 ((q 6 (by omega)).mp z)) (go σ τ c ok ok' hN hI h hL hst hB (fun R hR => mo R (br_v (fun z => c6 (by rw [h.est'] at z; exact (q 6 (by omega)).mp z)) hR)))
  refine br_u (by rw [c6]; rfl) ?_
  have t6 : τ 15 i 0 = 6 := by rw [h.est', c6]; rfl
  have r5 := hG.rs.2.2.2.2.2.1
  refine s10_has (fun z => br_t rfl (go σ τ c ok ok' hN hI h hL hst hB (fun R hR => mo R (br_u t6 (s14_is (fun _ => br_t rfl hR) (fun y => absurd (by rw [← r5]; exact z) y)))))) (fun z => br_f (by decide) (fun s1 e1 => ?_))
  show ∀ σ3, σ3 = up3 s1 11 i 31 ((s1 2 0 4) + 60000) → _
  have nw : (s1 2 0 4) = nI t := by rw [e1, up3_g, if_neg (by omega)]; exact now1
  rw [nw, show nI t + 60000 = nI (t + 60000) from nI_add t 60000]
  intro s3 e3
  have hC : s3 11 i = (va_up (va_up (σ 11 i) 33 1) 31 (nI (t + 60000))) := by rw [e3, up3_r, if_pos ⟨rfl, rfl⟩, e1, up3_r, if_pos ⟨rfl, rfl⟩]
  have F3 : Fr (mF [] [] [(11, [31, 33])] []) σ s3 := by rw [e3, e1]; exact (fr_u rfl).up rfl
  have G3 : Fr (mF [] [] [(15, [45])] []) τ (up3 τ 15 i 45 (nI t)) := fr_u rfl
  have hM3 : (up3 τ 15 i 45 (nI t)) 15 i = (va_up (τ 15 i) 45 (nI t)) := by rw [up3_r, if_pos ⟨rfl, rfl⟩]
  have hI3 : LkI s3 (up3 τ 15 i 45 (nI t)) i := LkI.mk (hI.rk.f F3 G3) (by rw [F3.row (k := 40) fun _ => rfl, G3.row (k := 66) fun _ => rfl]; exact hI.hd) (hI.st.f F3 G3) (by rw [F3 _ _ _ rfl]; exact hI.rm) (by rw [F3 _ _ _ rfl]; exact hI.fr)
  refine go s3 (up3 τ 15 i 45 (nI t)) c (by rw [e3, e1]; exact ok_n (ok_z ok rfl (Or.inr rfl)) rfl) (ok_n ok' rfl) (hN.f F3 G3) hI3 (h.lf2 hC hM3 (crows.f F3) (mrows.f G3)) ?_ hst hB (fun R hR => mo R (br_u t6 (s14_is (fun y => absurd (by rw [r5]; exact y) z) (fun _ => br_f (by decide) (fun s11 e11 => by rw [e11, now2]; exact hR)))))
  refine LV.mk (fun z => by omega) (fun _ => ?_) (fun _ _ z => absurd c6 z) hL.mtd
  rw [hC, hM3]
  simp only [vu_g, Nat.reduceEqDiff, reduceIte]
  exact ⟨by decide, t, rfl, rfl, Nat.le_refl _, by omega⟩
