/-! arrive ~ segment -/
set_option maxRecDepth 100000
theorem R_gone {t l b i B : Nat} (σ1 τ1 : St) : NB σ1 τ1 t l (b + 4) → RK σ1 τ1 → σ1 40 0 = τ1 66 0 → (σ1 90 (i + 1) 0 = 0 ∨ σ1 90 (i + 1) 0 = 66047) → ((σ1 42 i) = (τ1 72 i) ∧ (σ1 43 i) = (τ1 73 i) ∧ ∃ p : Nat, (τ1 15 i 27) = nI p ∧ p ≤ 65535) → ∀ {Q : St → Prop} {M : (St → Prop) → Prop}, (∀ R, w14_gone τ1 i (fun s => R s) → M R) → (∀ σ', M (fun τ' => ArrP t l (b + 264220) i (B + 66049) σ' τ') → Q σ') → w11_gone σ1 i (fun s => Q s) := by
  intro hN1 rk1 hh1 rm1 x0 Q M hM hq s1 e1 s2 e2 s3 e3
  have F : Fr (mF [] [] [(11, [2, 29, 33])] []) σ1 s3 := by rw [e3, e2, e1]; exact ((fr_u rfl).up rfl).up rfl
  refine hq s3 (hM _ (fun t1 d1 t2 d2 => ?_))
  have G : Fr (mF [] [] [(15, [0, 21])] []) τ1 t2 := by rw [d2, d1]; exact (fr_u rfl).up rfl
  exact ⟨(hN1.f F G).up (by omega), rk1.f F G, by rw [F.row (k := 40) fun _ => rfl, G.row (k := 66) fun _ => rfl]; exact hh1, by rw [F _ _ _ rfl]; exact rm1, Or.inl (RC0.g e1 e2 e3 d1 d2 x0.1 x0.2.1 x0.2.2)⟩
theorem R_arr0 {σ τ : St} {t l b i B k3 i3 pl n da wv : Nat} {c : CK} (hi : i < 16) (ok : okS σ) (ok' : okS τ) (htt : t ≤ 100000000) (hN : NB σ τ t l b) (hb : b + 264220 < 2147480000) (hI : LkI σ τ i) (hG : SgI σ τ k3 i3 pl n da wv) (hk : k3 = 20 ∨ k3 = 38) (h : RCn σ τ t i c) (hl : RCl σ τ t i c) (hB : (c 1) + (c 5) ≤ B) (hB9 : B < 900000000) (aC : ∀ Q : Int32 → Prop, Q 0 → w11_isAcceptable σ i Q) (aM : ∀ Q : Int32 → Prop, Q 0 → w14_isAcceptable τ i Q) :
    w11_arrive σ i (fun σ' => w14_segment τ i (fun τ' => ArrP t l (b + 264220) i (B + 66049) σ' τ')) := by
  obtain ⟨s0, o0, n1, n2, n3, nl, n4, n5, n6⟩ := id hN
  have now1 : (σ 2 0 4) = nI t := n1.2.1.1
  have now2 : (τ 14 0 10) = nI t := n1.2.1.2.1
  have s8 := h.s8
  have r5 := hG.rs.2.2.2.2.2.1
  have r7 := hG.rs.2.2.2.2.2.2.2
  have hdl : (τ 14 0 39) = nI n := by rw [← r7]; exact hG.sd.1
  have hdan := hG.dan
  have here : ArrP t l (b + 264220) i (B + 66049) σ τ := ⟨hN.up (by omega), hI.rk, hI.hd, hI.rm, Or.inr ⟨c, h, hl, by omega⟩⟩
  refine aC _ ?_
  refine br_u rfl (s10_has (fun y4 => br_t rfl ?_) (fun y4 => br_f (by decide) (aM _ (br_u rfl (s14_is (fun z => absurd (by rw [r5]; exact z) y4) (fun _ => br_f (by decide) here))))))
  have mo : ∀ R, w14_acknowledge τ i (fun σ16 => ((¬ (σ16 15 i 0) = 6 → R σ16) ∧ ((σ16 15 i 0) = 6 → (w14_is σ16 1 (fun r17 => ((r17 = 0 → R σ16) ∧ (¬ r17 = 0 → (∀ σ18, σ18 = up3 σ16 15 i 45 (σ16 14 0 10) → (R σ18))))))))) → w14_segment τ i R := fun R hR => aM _ (br_u rfl (s14_is (fun _ => br_t rfl hR) (fun z => absurd (by rw [← r5]; exact y4) z)))
  -- only an acknowledgement
  have plain : ¬ ((c 0) = 6 ∧ ¬ ((τ 14 0 36) &&& 1) = 0) → w11_acknowledge σ i (fun σ' => w14_segment τ i (fun τ' => ArrP t l (b + 264220) i (B + 66049) σ' τ')) := by
    intro hno
    obtain ⟨σ1, τ1, g1, g2, k1, k2, f1, f2, hN1, h1, hC1, hM1⟩ := R_ack ok ok' hN (by omega) h
    have F1 : Fr (mF [23, 25, 26, 32, 35, 36] [] [(2, [3]), (3, [9]), (4, [0, 1, 2, 4]), (5, [2]), (11, [21, 22])] []) σ σ1 := f1.sub (mF_sub rfl sub_nil rfl (sud_c (Or.inl ⟨_, List.mem_of_getElem? (i := 4) rfl, rfl⟩) sud_nil))
    have G1 : Fr (mF [57, 58, 59, 60, 68] [] [(14, [18, 23, 24, 25]), (17, [0, 1, 2, 3, 4, 5]), (15, [37, 39])] []) τ τ1 := f2.sub (mF_sub rfl sub_nil rfl (sud_c (Or.inl ⟨_, List.mem_of_getElem? (i := 2) rfl, rfl⟩) sud_nil))
    have fin : ArrP t l (b + 264220) i (B + 66049) σ1 τ1 := ⟨hN1.up (by omega), hI.rk.f F1 G1, by rw [F1.row (k := 40) fun _ => rfl, G1.row (k := 66) fun _ => rfl]; exact hI.hd, by rw [F1 _ _ _ rfl]; exact hI.rm, Or.inr ⟨_, h1, hl.td (F1 _ _ _ rfl) (F1 _ _ _ rfl) (F1 _ _ _ rfl) (G1 _ _ _ rfl) (by omega), by show (c 1) + (c 5) ≤ _; omega⟩⟩
    refine g1 _ (mo _ (g2 _ ?_))
    have e0 : τ1 15 i 0 = nI (c 0) := by rw [G1 _ _ _ rfl]; exact h.est'
    have e36 : τ1 14 0 36 = (τ 14 0 36) := G1 _ _ _ rfl
    by_cases c6 : (c 0) = 6
    · refine br_u (by rw [e0, c6]; rfl) (s14_is (fun _ => br_t rfl fin) (fun z => absurd ⟨c6, by rw [e36] at z; exact z⟩ hno))
    · exact br_v (fun z => c6 (by rw [e0] at z; exact (nI_eq (b := 6) (by omega) (by omega)).mp z)) fin
  rw [h.est]
  by_cases c6 : (c 0) = 6
  rotate_left
  · exact br_v (fun z => c6 ((nI_eq (b := 6) (by omega) (by omega)).mp z)) (plain (fun z => c6 z.1))
  refine br_u (by rw [c6]; rfl) (s10_has (fun y1 => br_t rfl (plain (fun z => z.2 (by rw [← r5]; exact y1)))) (fun y1 => br_f (by decide) (fun s1 e1 => ?_)))
  show ∀ σ3, σ3 = up3 s1 11 i 31 ((s1 2 0 4) + 60000) → _
  have nw : (s1 2 0 4) = nI t := by rw [e1, up3_g, if_neg (by omega)]; exact now1
  rw [nw, show nI t + 60000 = nI (t + 60000) from nI_add t 60000]
  intro s3 e3
  have hC : s3 11 i = (va_up (va_up (σ 11 i) 33 1) 31 (nI (t + 60000))) := by rw [e3, up3_r, if_pos ⟨rfl, rfl⟩, e1, up3_r, if_pos ⟨rfl, rfl⟩]
  have F3 : Fr (mF [] [] [(11, [31, 33])] []) σ s3 := by rw [e3, e1]; exact (fr_u rfl).up rfl
  have h3 := h.lf hC rfl (crows.f F3) (mrows.f (Fr.rf (M := mF [] [] [] []) (σ := τ)))
  obtain ⟨σ1, τ1, g1, g2, k1, k2, f1, f2, hN1, h1, hC1, hM1⟩ := R_ack (by rw [e3, e1]; exact ok_n (ok_z ok rfl (Or.inr rfl)) rfl) ok' (hN.f F3 (Fr.rf (M := mF [] [] [] []))) (by omega) h3
  have F1 : Fr (mF [23, 25, 26, 32, 35, 36] [] [(2, [3]), (3, [9]), (4, [0, 1, 2, 4]), (5, [2]), (11, [21, 22])] []) s3 σ1 := f1.sub (mF_sub rfl sub_nil rfl (sud_c (Or.inl ⟨_, List.mem_of_getElem? (i := 4) rfl, rfl⟩) sud_nil))
  have G1 : Fr (mF [57, 58, 59, 60, 68] [] [(14, [18, 23, 24, 25]), (17, [0, 1, 2, 3, 4, 5]), (15, [37, 39])] []) τ τ1 := f2.sub (mF_sub rfl sub_nil rfl (sud_c (Or.inl ⟨_, List.mem_of_getElem? (i := 2) rfl, rfl⟩) sud_nil))
  refine g1 _ (mo _ (g2 _ (br_u (by rw [G1 _ _ _ rfl, h.est', c6]; rfl) (s14_is (fun z => absurd (by rw [G1 _ _ _ rfl] at z; rw [r5]; exact z) y1) (fun _ => br_f (by decide) (fun s18 e18 => ?_))))))
  have w10 : τ1 14 0 10 = nI t := by rw [G1 _ _ _ rfl]; exact now2
  rw [w10] at e18
  have G18 : Fr (mF [] [] [(15, [45])] []) τ1 s18 := by rw [e18]; exact fr_u rfl
  have hC9 : σ1 11 i = (va_up (va_up (σ1 11 i) 33 1) 31 (nI (t + 60000))) := by
    have x33 : σ1 11 i 33 = 1 := by rw [F1 _ _ _ rfl, hC]; simp only [vu_g, Nat.reduceEqDiff, reduceIte]
    have x31 : σ1 11 i 31 = nI (t + 60000) := by rw [F1 _ _ _ rfl, hC]; simp only [vu_g, Nat.reduceEqDiff, reduceIte]
    rw [vu_eq x33, vu_eq x31]
  have hM9 : s18 15 i = (va_up (τ1 15 i) 45 (nI t)) := by rw [e18, up3_r, if_pos ⟨rfl, rfl⟩]
  have h9 := h1.lf2 hC9 hM9 (crows.f (Fr.rf (M := mF [] [] [] []) (σ := σ1))) (mrows.f G18)
  refine ⟨(hN1.f (Fr.rf (M := mF [] [] [] [])) G18).up (by omega), ((hI.rk.f F3 (Fr.rf (M := mF [] [] [] []))).f F1 G1).f (Fr.rf (M := mF [] [] [] [])) G18, by rw [F1.row (k := 40) fun _ => rfl, F3.row (k := 40) fun _ => rfl, G18.row (k := 66) fun _ => rfl, G1.row (k := 66) fun _ => rfl]; exact hI.hd, by rw [F1 _ _ _ rfl, F3 _ _ _ rfl]; exact hI.rm, Or.inr ⟨_, h9, ?_, by show (c 1) + (c 5) ≤ _; omega⟩⟩
  refine RCl.mk (fun z => ?_) (fun z => ?_) (fun _ => ?_) (fun _ _ z => ?_) ?_
  · simp only [cup_g, Nat.reduceEqDiff, reduceIte] at z; omega
  · simp only [cup_g, Nat.reduceEqDiff, reduceIte] at z; omega
  · rw [hC9, hM9]
    simp only [vu_g, Nat.reduceEqDiff, reduceIte]
    exact ⟨by decide, t, rfl, rfl, Nat.le_refl _, by omega⟩
  · simp only [cup_g, Nat.reduceEqDiff, reduceIte] at z; exact absurd c6 z
  · simp only [cup_g, Nat.reduceEqDiff, reduceIte]; omega
theorem R_arr1 {σ τ : St} {t l b i B k3 i3 pl n da wv : Nat} {c : CK} (hi : i < 16) (ok : okS σ) (ok' : okS τ) (htt : t ≤ 100000000) (hN : NB σ τ t l b) (hb : b + 264220 < 2147480000) (hI : LkI σ τ i) (hG : SgI σ τ k3 i3 pl n da wv) (hk : k3 = 20 ∨ k3 = 38) (h : RCn σ τ t i c) (hl : RCl σ τ t i c) (hB : (c 1) + (c 5) ≤ B) (hB9 : B < 900000000) (aC : ∀ Q : Int32 → Prop, Q 1 → w11_isAcceptable σ i Q) (aM : ∀ Q : Int32 → Prop, Q 1 → w14_isAcceptable τ i Q) :
    w11_arrive σ i (fun σ' => w14_segment τ i (fun τ' => ArrP t l (b + 264220) i (B + 66049) σ' τ')) := by
  obtain ⟨s0, o0, n1, n2, n3, nl, n4, n5, n6⟩ := id hN
  have now1 : (σ 2 0 4) = nI t := n1.2.1.1
  have now2 : (τ 14 0 10) = nI t := n1.2.1.2.1
  have s8 := h.s8
  have r5 := hG.rs.2.2.2.2.2.1
  have r7 := hG.rs.2.2.2.2.2.2.2
  have hdl : (τ 14 0 39) = nI n := by rw [← r7]; exact hG.sd.1
  have hdan := hG.dan
  have here : ArrP t l (b + 264220) i (B + 66049) σ τ := ⟨hN.up (by omega), hI.rk, hI.hd, hI.rm, Or.inr ⟨c, h, hl, by omega⟩⟩
  refine aC _ ?_
  refine br_v (by decide) (s10_has (fun y4 => br_t rfl ?_) (fun y4 => br_f (by decide) ?_))
  rotate_left
  · -- a reset
    exact R_gone σ τ (hN.up (by omega)) hI.rk hI.hd hI.rm h.x0 (M := fun R => w14_segment τ i R) (fun R hR => aM _ (br_v (by decide) (s14_is (fun z => absurd (by rw [r5]; exact z) y4) (fun _ => br_f (by decide) hR)))) (fun σ' hm => hm)
  have mo4 : ∀ R, w14_is τ 2 (fun r3 => ((r3 = 0 → (w14_is τ 16 (fun r4 => ((r4 = 0 → R τ) ∧ (¬ r4 = 0 → (w14_acknowledgement τ i (fun r5 σ5 => ((¬ r5 = 0 → (w14_arrived σ5 i (fun σ6 => ((¬ (σ6 15 i 0) = 6 → w14_segment_J128 σ6 i R) ∧ ((σ6 15 i 0) = 6 → (w14_is σ6 1 (fun r10 => ((r10 = 0 → w14_segment_J128 σ6 i R) ∧ (¬ r10 = 0 → (∀ σ11, σ11 = up3 σ6 15 i 45 (σ6 14 0 10) → (w14_segment_J128 σ11 i R))))))))))) ∧ (r5 = 0 → R σ5))))))))) ∧ (¬ r3 = 0 → (w14_reset τ (fun σ12 => (w14_gone σ12 i (fun σ13 => (R σ13)))))))) → w14_segment τ i R := fun R hR => aM _ (br_v (by decide) (s14_is (fun _ => br_t rfl hR) (fun z => absurd (by rw [← r5]; exact y4) z)))
  refine s10_has (fun y2 => br_t rfl ?_) (fun y2 => br_f (by decide) ?_)
  rotate_left
  · -- SYN
    obtain ⟨σ1, τ1, g1, g2, k1, k2, f1, f2, hN1, rk1⟩ := R_reset ok ok' hN (by omega) hG.rs hI.rk
    refine g1 _ (R_gone σ1 τ1 hN1 rk1 (by rw [f1.row (k := 40) fun _ => rfl, f2.row (k := 66) fun _ => rfl]; exact hI.hd) (by rw [f1 _ _ _ rfl]; exact hI.rm) ⟨by rw [f1.row (k := 42) fun _ => rfl, f2.row (k := 72) fun _ => rfl]; exact h.x0.1, by rw [f1.row (k := 43) fun _ => rfl, f2.row (k := 73) fun _ => rfl]; exact h.x0.2.1, by rw [f2 _ _ _ rfl]; exact h.x0.2.2⟩ (M := fun R => w14_segment τ i R) (fun R hR => mo4 R (s14_is (fun z => absurd (by rw [r5]; exact z) y2) (fun _ => br_f (by decide) (g2 _ hR)))) (fun σ' hm => hm))
  have hsy : ((τ 14 0 36) &&& 2) = 0 := by rw [← r5]; exact y2
  have mo2 : ∀ R, w14_is τ 16 (fun r4 => ((r4 = 0 → R τ) ∧ (¬ r4 = 0 → (w14_acknowledgement τ i (fun r5 σ5 => ((¬ r5 = 0 → (w14_arrived σ5 i (fun σ6 => ((¬ (σ6 15 i 0) = 6 → w14_segment_J128 σ6 i R) ∧ ((σ6 15 i 0) = 6 → (w14_is σ6 1 (fun r10 => ((r10 = 0 → w14_segment_J128 σ6 i R) ∧ (¬ r10 = 0 → (∀ σ11, σ11 = up3 σ6 15 i 45 (σ6 14 0 10) → (w14_segment_J128 σ11 i R))))))))))) ∧ (r5 = 0 → R σ5))))))) → w14_segment τ i R := fun R hR => mo4 R (s14_is (fun _ => br_t rfl hR) (fun z => absurd hsy z))
  refine s10_has (fun y16 => br_t rfl (mo2 _ (s14_is (fun _ => br_t rfl here) (fun z => absurd (by rw [← r5]; exact y16) z)))) (fun y16 => br_f (by decide) ?_)
  obtain ⟨r, σ5, r', τ5, gC, gM, k1, k2, f5, g5, hN5, rk5, hcase⟩ := R_takeAck (B := B) hi ok ok' htt hN (by omega) hI.rk hG.rs hG.wi hG.w6 hdl (by omega) hsy h hl hB
  have F5 : Fr (mF [23, 25, 26, 32, 35, 36] [] [(2, [3]), (3, [9]), (4, [0, 1, 2, 4]), (5, [2]), (8, [3, 4, 7, 8]), (11, [2, 7, 8, 9, 10, 12, 14, 15, 16, 17, 18, 19, 21, 22, 29, 30, 31, 32, 33, 34, 35, 38, 39])] []) σ σ5 := f5.sub (mF_sub rfl sub_nil rfl (sud_c (Or.inl ⟨_, List.mem_of_getElem? (i := 5) rfl, rfl⟩) sud_nil))
  have G5 : Fr (mF [56, 57, 58, 59, 60, 68] [] [(14, [18, 23, 24, 25]), (17, [0, 1, 2, 3, 4, 5]), (15, [0, 4, 5, 7, 8, 9, 11, 12, 13, 14, 15, 16, 17, 18, 19, 20, 21, 22, 23, 24, 31, 37, 39, 43, 44, 45])] []) τ τ5 := g5.sub (mF_sub rfl sub_nil rfl (sud_c (Or.inl ⟨_, List.mem_of_getElem? (i := 2) rfl, rfl⟩) sud_nil))
  have hh5 : σ5 40 0 = τ5 66 0 := by rw [F5.row (k := 40) fun _ => rfl, G5.row (k := 66) fun _ => rfl]; exact hI.hd
  have rm5 : σ5 90 (i + 1) 0 = 0 ∨ σ5 90 (i + 1) 0 = 66047 := by rw [F5 _ _ _ rfl]; exact hI.rm
  have mo5 : ∀ R, ((¬ r' = 0 → (w14_arrived τ5 i (fun σ6 => ((¬ (σ6 15 i 0) = 6 → w14_segment_J128 σ6 i R) ∧ ((σ6 15 i 0) = 6 → (w14_is σ6 1 (fun r10 => ((r10 = 0 → w14_segment_J128 σ6 i R) ∧ (¬ r10 = 0 → (∀ σ11, σ11 = up3 σ6 15 i 45 (σ6 14 0 10) → (w14_segment_J128 σ11 i R))))))))))) ∧ (r' = 0 → R τ5)) → w14_segment τ i R := fun R hR => mo2 R (s14_is (fun z => absurd (by rw [r5]; exact z) y16) (fun _ => br_f (by decide) (gM _ hR)))
  refine gC _ ?_
  rcases hcase with ⟨e1, e2, hcb⟩ | ⟨e1, e2, hc0⟩ | ⟨e1, e2, c5, h5, hL5, st5, hB5⟩
  · rw [e1]
    obtain ⟨c', p1, p2, p3⟩ := hcb
    exact br_t rfl (mo5 _ (br_u e2 ⟨hN5.up (by omega), rk5, hh5, rm5, Or.inr ⟨c', p1, p2, by omega⟩⟩))
  · rw [e1]
    exact br_f (by decide) (br_u hc0.1 (mo5 _ (br_u e2 ⟨hN5.up (by omega), rk5, hh5, rm5, Or.inl hc0⟩)))
  · rw [e1]
    have hI5 : LkI σ5 τ5 i := LkI.mk rk5 hh5 (hI.st.f F5 G5) rm5 (by rw [F5 _ _ _ rfl]; exact hI.fr)
    have ar : σ5 k3 i3 = σ k3 i3 := by rcases hk with z | z <;> rw [z] <;> exact F5.row fun _ => rfl
    have al : alen σ5 k3 i3 = alen σ k3 i3 := by rcases hk with z | z <;> rw [z] <;> unfold alen <;> rw [if_neg (by decide), if_neg (by decide), if_neg (by decide), if_neg (by decide)]
    have hG5 : SgI σ5 τ5 k3 i3 pl n da wv := hG.f F5 G5 al ar
    have s85 := h5.s8
    refine br_f (by decide) (br_v (by rw [h5.est]; exact nI_ne0 (by omega) (by omega)) ?_)
    refine R_rest (t := t) (l := l) (b := b + 4) (B := B) hi k1 k2 hN5 (by omega) hI5 hG5 (by rw [G5 _ _ _ rfl]; exact hsy) h5 hL5 st5 hB5 hB9 (M := fun R => w14_segment τ i R) (fun R hR => mo5 R (br_v (by rw [e2]; decide) hR)) (fun σ' hm => ?_)
    obtain ⟨τ', hP, _, _, g'⟩ := e14_segment hi ok' hm
    obtain ⟨p1, p2, p3, p4, p5⟩ := hP
    exact g' _ ⟨p1.up (by omega), p2, p3, p4, Or.inr p5⟩
theorem R_arrive {σ τ : St} {t l b i B k3 i3 pl n da wv : Nat} {c : CK} (hi : i < 16) (ok : okS σ) (ok' : okS τ) (htt : t ≤ 100000000) (hN : NB σ τ t l b) (hb : b + 264220 < 2147480000) (hI : LkI σ τ i) (hG : SgI σ τ k3 i3 pl n da wv) (hk : k3 = 20 ∨ k3 = 38) (h : RCn σ τ t i c) (hl : RCl σ τ t i c) (hB : (c 1) + (c 5) ≤ B) (hB9 : B < 900000000) :
    RunV σ τ (w11_arrive σ i) (w14_segment τ i) (mF [23, 25, 26, 32, 35, 36, 40, 41] [(42, i), (43, i), (44, i), (90, i + 1)] [(2, [3]), (3, [9]), (4, [0, 1, 2, 4]), (5, [2]), (8, [3, 4, 5, 7, 8]), (9, [2, 3, 4, 5, 6, 7, 8, 9, 10, 11, 12, 13, 14, 15, 16, 18])] [(11, i, [2, 6, 7, 8, 9, 10, 11, 12, 14, 15, 16, 17, 18, 19, 21, 22, 23, 24, 26, 27, 28, 29, 30, 31, 32, 33, 34, 35, 36, 37, 38, 39]), (12, i, [2, 3]), (13, i, [1])]) (mF [56, 57, 58, 59, 60, 66, 67, 68] [(71, i), (72, i), (73, i)] [(14, [18, 23, 24, 25, 42, 43, 44, 45, 46, 47, 48, 49, 50, 51, 52, 53, 54, 55, 56, 57, 59, 60, 61, 62]), (17, [0, 1, 2, 3, 4, 5])] [(15, i, [0, 4, 5, 6, 7, 8, 9, 11, 12, 13, 14, 15, 16, 17, 18, 19, 20, 21, 22, 23, 24, 26, 27, 28, 29, 30, 31, 35, 36, 37, 38, 39, 40, 41, 42, 43, 44, 45])]) (ArrP t l (b + 264220) i (B + 66049)) := by
  have hj : w11_arrive σ i (fun σ' => w14_segment τ i (fun τ' => ArrP t l (b + 264220) i (B + 66049) σ' τ')) := by
    obtain ⟨r, hr, aC, aM⟩ := s_acc hG.rs h
    rcases hr with z0 | z1
    · rw [z0] at aC aM
      exact R_arr0 hi ok ok' htt hN hb hI hG hk h hl hB hB9 aC aM
    · rw [z1] at aC aM
      exact R_arr1 hi ok ok' htt hN hb hI hG hk h hl hB hB9 aC aM
  obtain ⟨σ', h, k1, f1, g1⟩ := e11_arrive hi ok hj
  obtain ⟨τ', h, k2, f2, g2⟩ := e14_segment hi ok' h
  exact ⟨σ', τ', g1, g2, k1, k2, f1, f2, h⟩
