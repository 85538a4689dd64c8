/-! timerOut ~ runOut: the rest -/
set_option maxRecDepth 100000
theorem s14_runOut1 {τ : St} {i tr rt ms u : Nat} {I : Int32} (ok' : okS τ) (est : (τ 15 i 0) = nI 1) (etr : (τ 15 i 23) = nI tr) (htr : tr + 1 ≤ 5) (ert : (τ 15 i 13) = nI rt) (hrt : rt ≤ 60000) (ems : (τ 15 i 10) = nI ms) (eun : (τ 15 i 4) = I + nI u) :
    ∃ t7 : St, okS t7 ∧ Fr (mF [] [] [] [(15, i, [5, 11, 13, 18, 21, 23, 24])]) τ t7 ∧ t7 15 i = (va_up (va_up (va_up (va_up (va_up (va_up (va_up (τ 15 i) 21 0) 23 (nI (tr + 1))) 11 (nI ms)) 18 0) 24 0) 13 (nI (min 60000 (2 * rt)))) 5 (I + nI u)) ∧ ∀ Q : St → Prop, w14_synAck t7 i (fun σ12 => (w14_timerSet σ12 i (fun σ13 => (Q σ13)))) → w14_runOut τ i Q := by
  obtain ⟨t1, d1⟩ : ∃ t1, t1 = up3 τ 15 i 21 0 := ⟨_, rfl⟩
  obtain ⟨t3, d2⟩ : ∃ t2, t2 = up3 t1 15 i 23 (t1 15 i 23 + 1) := ⟨_, rfl⟩
  have R1 : t1 15 i = (va_up (τ 15 i) 21 0) := by rw [d1, up3_r, if_pos ⟨rfl, rfl⟩]
  have R2 : t3 15 i = (va_up (va_up (τ 15 i) 21 0) 23 (nI (tr + 1))) := by
    rw [d2, up3_r, if_pos ⟨rfl, rfl⟩, R1]
    simp only [vu_g, Nat.reduceEqDiff, reduceIte]
    rw [etr, nI_1]
  obtain ⟨t4, d4⟩ : ∃ t4, t4 = up3 t3 15 i 11 (t3 15 i 10) := ⟨_, rfl⟩
  obtain ⟨t5, d5⟩ : ∃ t5, t5 = up3 t4 15 i 18 0 := ⟨_, rfl⟩
  obtain ⟨t6, d6⟩ : ∃ t6, t6 = up3 t5 15 i 24 0 := ⟨_, rfl⟩
  have R6 : t6 15 i = (va_up (va_up (va_up (va_up (va_up (τ 15 i) 21 0) 23 (nI (tr + 1))) 11 (nI ms)) 18 0) 24 0) := by
    rw [d6, up3_r, if_pos ⟨rfl, rfl⟩, d5, up3_r, if_pos ⟨rfl, rfl⟩, d4, up3_r, if_pos ⟨rfl, rfl⟩, R2]
    simp only [vu_g, Nat.reduceEqDiff, reduceIte]
    rw [ems]
  have v13 : t6 15 i 13 = nI rt := by rw [R6]; simp only [vu_g, Nat.reduceEqDiff, reduceIte]; exact ert
  obtain ⟨t7, d7⟩ : ∃ t7, t7 = up3 t6 15 i 13 (imin 60000 (2 * (t6 15 i 13))) := ⟨_, rfl⟩
  have R7 : t7 15 i = (va_up (va_up (va_up (va_up (va_up (va_up (τ 15 i) 21 0) 23 (nI (tr + 1))) 11 (nI ms)) 18 0) 24 0) 13 (nI (min 60000 (2 * rt)))) := by
    rw [d7, up3_r, if_pos ⟨rfl, rfl⟩, v13, show (2 : Int32) * nI rt = nI (2 * rt) from pk_mul 2 _, show imin 60000 (nI (2 * rt)) = nI (min 60000 (2 * rt)) from imin_n (a := 60000) (by omega) (by omega), R6]
  obtain ⟨t8, d8⟩ : ∃ t8, t8 = up3 t7 15 i 5 (t7 15 i 4) := ⟨_, rfl⟩
  have R8 : t8 15 i = (va_up (va_up (va_up (va_up (va_up (va_up (va_up (τ 15 i) 21 0) 23 (nI (tr + 1))) 11 (nI ms)) 18 0) 24 0) 13 (nI (min 60000 (2 * rt)))) 5 (I + nI u)) := by
    rw [d8, up3_r, if_pos ⟨rfl, rfl⟩, R7]
    simp only [vu_g, Nat.reduceEqDiff, reduceIte]
    rw [eun]
  have F8 : Fr (mF [] [] [] [(15, i, [5, 11, 13, 18, 21, 23, 24])]) τ t8 := by
    rw [d8, d7, d6, d5, d4, d2, d1]
    exact ((((((fr_u (by simp [mF])).up (by simp [mF])).up (by simp [mF])).up (by simp [mF])).up (by simp [mF])).up (by simp [mF])).up (by simp [mF])
  have k8 : okS t8 := by
    rw [d8, d7, d6, d5, d4, d2, d1]
    exact ok_n (ok_n (ok_n (ok_z (ok_n (ok_n (ok_z ok' rfl (Or.inl rfl)) rfl) rfl) rfl (Or.inl rfl)) rfl) rfl) rfl
  refine ⟨t8, k8, F8, R8, fun Q hq s1 e1 s2 e2 => ?_⟩
  obtain rfl := e1.trans d1.symm
  obtain rfl := e2.trans d2.symm
  have w0 : s2 15 i 0 = 1 := by rw [R2]; simp only [vu_g, Nat.reduceEqDiff, reduceIte]; exact est
  have w23 : s2 15 i 23 = nI (tr + 1) := by rw [R2]; simp only [vu_g, Nat.reduceEqDiff, reduceIte]
  refine br_u w0 (br_t (by rw [w23]; exact nI_le (b := 5) htr (by omega)) (br_t w0 ?_))
  intro s3 e3
  obtain rfl := e3.trans d4.symm
  intro s4 e4
  obtain rfl := e4.trans d5.symm
  intro s5 e5
  obtain rfl := e5.trans d6.symm
  intro s6 e6
  obtain rfl := e6.trans d7.symm
  intro s7 e7
  obtain rfl := e7.trans d8.symm
  have w8 : s7 15 i 0 = 1 := by rw [R8]; simp only [vu_g, Nat.reduceEqDiff, reduceIte]; exact est
  exact br_u w8 hq
theorem tmr_ar {ms E d wn D W dn fi : Nat} (m1 : 64 ≤ ms) (m2 : ms ≤ 1460) (hd : d ≤ 1) (hED : 0 < E + d) (hD : D = min ms E) (hW : W = if wn = 0 then 1 else min ms wn) (hdn : dn = min D W) (hfi : fi = if d = 1 ∧ dn = E ∧ dn < W then 1 else 0) : (1 ≤ W ∧ W ≤ 1460) ∧ fi ≤ 1 ∧ (fi = 1 → d = 1 ∧ dn = E ∧ dn < W) ∧ (d = 1 ∧ dn = E ∧ dn < W → fi = 1) ∧ 1 ≤ dn + fi ∧ dn ≤ ms ∧ dn ≤ E ∧ (wn = 0 → dn + fi = 1) ∧ (D = E → min (min (E + d) (D + 1)) W = dn + fi) ∧ (D ≠ E → min D W = dn + fi) := by
  have hW1 : 1 ≤ W ∧ W ≤ 1460 ∧ (wn = 0 → W = 1) := by
    by_cases z : wn = 0
    · rw [if_pos z] at hW; omega
    · rw [if_neg z] at hW; omega
  clear hW
  by_cases y : d = 1 ∧ dn = E ∧ dn < W
  · rw [if_pos y] at hfi
    omega
  · rw [if_neg y] at hfi
    have y' : ¬ (d = 1 ∧ dn = E ∧ dn < W) := y
    clear y
    refine ⟨⟨hW1.1, hW1.2.1⟩, by omega, fun z => by omega, fun z => absurd z y', ?_, by omega, by omega, fun z => ?_, fun z => ?_, fun z => by omega⟩
    · by_cases q : 0 < dn
      · omega
      · exact absurd ⟨by omega, by omega, by omega⟩ y'
    · have := hW1.2.2 z
      by_cases q : 0 < dn
      · omega
      · exact absurd ⟨by omega, by omega, by omega⟩ y'
    · by_cases q : d = 1
      · by_cases q2 : dn = E
        · have : ¬ dn < W := fun q3 => y' ⟨q, q2, q3⟩
          omega
        · omega
      · omega
theorem rm_ar {D W dn : Nat} (h : dn = min D W) (hD : D ≤ 100000) (hW : W ≤ 1460) : imax 0 (imin (nI D) (nI W)) = nI dn := by
  rw [imin_n (by omega) (by omega), show imax 0 (nI (min D W)) = nI (max 0 (min D W)) from imax_n (a := 0) (by omega) (by omega), h, Nat.zero_max]
theorem fin_ar {d E W dn fi u v : Nat} (fi1 : fi ≤ 1) (fiE : fi = 1 → d = 1 ∧ dn = E ∧ dn < W) (fiN : d = 1 ∧ dn = E ∧ dn < W → fi = 1) (hW : W ≤ 1460) (hdn : dn ≤ 1460) (hE : E = v - u) (huv : u ≤ v) : (fi = 1 ∧ d = 1 ∧ u + dn = v ∧ ¬ nI W ≤ nI dn) ∨ (fi = 0 ∧ ¬ (d = 1 ∧ u + dn = v ∧ ¬ nI W ≤ nI dn)) := by
  have e : nI W ≤ nI dn ↔ W ≤ dn := nI_leI (by omega) (by omega)
  rw [e]
  by_cases z : fi = 1
  · obtain ⟨a, b, c⟩ := fiE z
    exact Or.inl ⟨z, a, by omega, by omega⟩
  · refine Or.inr ⟨by omega, fun y => z (fiN ⟨y.1, ?_, ?_⟩)⟩
    · have := y.2.1; omega
    · have := y.2.2; omega
/-- behind the part that a timer sends -/
theorem tmr_post {σ τ s9 t7 s10 t10 : St} {t l b i B dn fi : Nat} {c c1 : CK} (hi : i < 16) (hst : 2 ≤ (c 0)) (hst4 : (c 0) ≠ 4 ∧ (c 0) ≠ 6) (htr : (c 13) + 1 ≤ 8) (q1 : (c 2) ≤ (c 3)) (q2 : (c 3) ≤ (c 4)) (htin : (c 2) < (c 1) + (c 5) + (c 17)) (hn1 : 1 ≤ dn + fi) (hcp : cp τ i = 1 + (9 - (c 13)) + (1 - (c 17))) (hl : RCl σ τ t i c) (hB : (c 1) + (c 5) ≤ B)
    (x0 : (c1 0) = (c 0)) (x1 : (c1 1) = (c 1)) (x2 : (c1 2) = (c 2)) (x3 : (c1 3) = (c 2)) (x5 : (c1 5) = (c 5)) (x6 : (c1 17) = (c 17)) (x10 : (c1 13) = (c 13) + 1) (x12 : (c1 14) = (c 14))
    (hh : s10 40 0 = t10 66 0) (hrm : s10 90 (i + 1) 0 = 0 ∨ s10 90 (i + 1) 0 = 66047) (l33 : s9 11 i 33 = σ 11 i 33) (p1 : NB s10 t10 t l (b + 4)) (p2 : RK s10 t10) (p3 : RCn s10 t10 t i (cpart c1 dn fi)) (p4 : s10 11 i 33 = (if fi = 1 ∧ (c1 18) = 0 then 0 else s9 11 i 33)) : TmP τ t l (b + 4) i B s10 t10 := by
  obtain ⟨c2, hc2⟩ : ∃ c2, c2 = cpart c1 dn fi := ⟨_, rfl⟩
  have z0 : (c2 0) = (if fi = 1 ∧ (c1 18) = 0 then (if (c1 0) = 7 then 8 else 3) else (c1 0)) := by rw [hc2]; rfl
  have z1 : (c2 1) = (c1 1) := by rw [hc2]; rfl
  have z2 : (c2 2) = (c1 2) := by rw [hc2]; rfl
  have z4 : (c2 4) = max (c1 4) ((c1 3) + dn + fi) := by rw [hc2]; rfl
  have z5 : (c2 5) = (c1 5) := by rw [hc2]; rfl
  have z6 : (c2 17) = (c1 17) := by rw [hc2]; rfl
  have z10 : (c2 13) = (c1 13) := by rw [hc2]; rfl
  have z12 : (c2 14) = (c1 14) := by rw [hc2]; rfl
  have z13 : (c2 15) = 4096 - (c1 14) := by rw [hc2]; rfl
  rw [← hc2] at p3
  have xu : (c2 2) < (c2 4) := by rw [z2, z4, x2, x3]; omega
  have ecp : cp t10 i + 1 ≤ cp τ i := by rw [p3.cpe, hcp, z10, z6, x10, x6]; omega
  have eB : (c2 1) + (c2 5) ≤ B := by rw [z1, z5, x1, x5]; exact hB
  have etd : 4096 - (c2 14) < (c2 15) + 2048 := by rw [z12, z13]; omega
  have nolife : (c 0) = 2 → σ 11 i 33 = 0 := fun z => by
    by_cases y : σ 11 i 33 = 0
    · exact y
    · have := (hl.l2 z).mp y
      omega
  clear hc2 z1 z2 z4 z5 z6 z10 z12 z13 x1 x2 x3 x5 x6 x10 x12
  have st46 : (c2 0) ≠ 4 ∧ (c2 0) ≠ 6 ∧ ((c2 0) = 2 → ¬ (fi = 1 ∧ (c1 18) = 0) ∧ (c 0) = 2) ∧ ((c2 0) ≠ 2 → ¬ (fi = 1 ∧ (c1 18) = 0) → (c 0) ≠ 2) := by
    by_cases w : fi = 1 ∧ (c1 18) = 0
    · rw [if_pos w] at z0
      by_cases v : (c1 0) = 7
      · rw [if_pos v] at z0
        exact ⟨by omega, by omega, fun z => by omega, fun _ z => absurd w z⟩
      · rw [if_neg v] at z0
        exact ⟨by omega, by omega, fun z => by omega, fun _ z => absurd w z⟩
    · rw [if_neg w] at z0
      exact ⟨by omega, by omega, fun z => ⟨w, by omega⟩, fun z _ => by omega⟩
  have life0 : s10 11 i 33 = 0 := by
    rw [p4]
    by_cases w : fi = 1 ∧ (c1 18) = 0
    · rw [if_pos w]
    · rw [if_neg w, l33]
      by_cases v : (c 0) = 2
      · exact nolife v
      · exact hl.l0 v hst4.1 hst4.2
  refine ⟨⟨p1, p2, hh, hrm, Or.inr ⟨c2, p3, RCl.mk ?_ ?_ ?_ ?_ etd, eB⟩⟩, ecp⟩
  · intro _
    exact ⟨fun w => absurd life0 w, fun w => by have := w.2.2; omega⟩
  · intro _ w
    exact absurd life0 w
  · intro w
    exact absurd w (fun w => w.elim st46.1 st46.2.1)
  · intro _ _ _
    exact life0
theorem j_tmr2 {σ τ : St} {t l b i B : Nat} {c : CK} (hi : i < 16) (ok : okS σ) (ok' : okS τ) (hN : NB σ τ t l b) (hb : b < 2147480000) (hK : RK σ τ) (hh : σ 40 0 = τ 66 0) (hrm : σ 90 (i + 1) 0 = 0 ∨ σ 90 (i + 1) 0 = 66047) (h : RCn σ τ t i c) (hl : RCl σ τ t i c) (hB : (c 1) + (c 5) ≤ B) (hon : (σ 11 i 29) ≠ 0) (hst : 2 ≤ (c 0)) (htr : (c 13) + 1 ≤ 8) :
    w11_timerOut σ i (fun σ' => w14_runOut τ i (fun τ' => TmP τ t l (b + 4) i B σ' τ')) := by
  have q1 := h.ua
  have q2 := h.ax
  have q3 := h.xe
  have q4 := h.bu hst
  have q5 := h.f1
  have q6 := h.d1
  have q7 := h.s8
  have q8 := h.bb
  have q9 := h.ms1
  have q10 := h.ms2
  have q11 := h.rt1
  have q12 := h.rt2
  have q13 := h.L6
  have q14 := h.wn6
  have htin := h.tin hon hst
  have hst4 : (c 0) ≠ 4 ∧ (c 0) ≠ 6 := ⟨fun z => hon (h.fin (Or.inl z)).2, fun z => hon (h.fin (Or.inr z)).2⟩
  obtain ⟨s0, o0, n1, n2, n3, nl, n4, n5, n6⟩ := id hN
  have now1 : (σ 2 0 4) = nI t := n1.2.1.1
  have now2 : (τ 14 0 10) = nI t := n1.2.1.2.1
  obtain ⟨ss', hss⟩ : ∃ s, s = max (((c 4) - (c 2)) / 2) (2 * (c 9)) := ⟨_, rfl⟩
  obtain ⟨rt', hrt⟩ : ∃ r, r = min 60000 (2 * (c 12)) := ⟨_, rfl⟩
  obtain ⟨t7, kt7, G7, gR, gM⟩ := s14_runOut2 (I := (τ 15 i 3)) (st := (c 0)) (tr := (c 13)) (rt := (c 12)) (ms := (c 9)) (u := (c 2)) (x := (c 4)) ok' h.est' hst q7 h.etr' htr h.ert' q12 h.ems' q10 h.eun' h.emx' (by omega) (by omega)
  rw [← hss, ← hrt] at gR
  intro s1 e1 s2 e2
  have R2 : s2 11 i = (va_up (va_up (σ 11 i) 17 (nI ((c 13) + 1))) 29 0) := by rw [e2, up3_r, if_pos ⟨rfl, rfl⟩, e1, up3_r, if_pos ⟨rfl, rfl⟩, h.etr, nI_1]
  have v2 : s2 11 i 2 = nI (c 0) := by rw [R2]; simp only [vu_g, Nat.reduceEqDiff, reduceIte]; exact h.est
  have v17 : s2 11 i 17 = nI ((c 13) + 1) := by rw [R2]; simp only [vu_g, Nat.reduceEqDiff, reduceIte]
  have v16 : s2 11 i 16 = nI (c 12) := by rw [R2]; simp only [vu_g, Nat.reduceEqDiff, reduceIte]; exact h.ert
  have ne1 : ¬ nI (c 0) = 1 := fun z => by have := (nI_eq (b := 1) (by omega) (by omega)).mp z; omega
  refine br_v (by rw [v2]; exact ne1) (br_t (by rw [v17]; exact nI_le (b := 8) htr (by omega)) (fun s3 e3 => ?_))
  rw [v16, show (2 : Int32) * nI (c 12) = nI (2 * (c 12)) from pk_mul 2 _, show imin (nI (2 * (c 12))) 60000 = nI rt' by rw [hrt, Nat.min_comm]; exact imin_n (b := 60000) (by omega) (by omega)] at e3
  have R3 : s3 11 i = (va_up (va_up (va_up (σ 11 i) 17 (nI ((c 13) + 1))) 29 0) 16 (nI rt')) := by rw [e3, up3_r, if_pos ⟨rfl, rfl⟩, R2]
  have w3 : ∀ j, j ≠ 17 → j ≠ 29 → j ≠ 16 → s3 11 i j = σ 11 i j := fun j a b d => by rw [R3, vu_g, if_neg d, vu_g, if_neg b, vu_g, if_neg a]
  refine br_v (by rw [w3 2 (by decide) (by decide) (by decide), h.est]; exact ne1) ?_
  show ∀ σ5, σ5 = up3 s3 11 i 15 (imax (((s3 11 i 11) - (s3 11 i 9)) / 2) (2 * (s3 11 i 13))) → _
  rw [w3 11 (by decide) (by decide) (by decide), w3 9 (by decide) (by decide) (by decide), w3 13 (by decide) (by decide) (by decide), h.emx, h.eun, h.ems, so_4 _ _ _ (by omega), show nI ((c 4) - (c 2)) / 2 = nI (((c 4) - (c 2)) / 2) from pk_div (d := 2) (by omega) (by decide) (by decide), show (2 : Int32) * nI (c 9) = nI (2 * (c 9)) from pk_mul 2 _, imax_n (by omega) (by omega), ← hss]
  intro s5 e5 s6 e6 s7 e7 s8 e8 s9 e9
  have R9 : s9 11 i = (va_up (va_up (va_up (va_up (va_up (va_up (va_up (va_up (σ 11 i) 17 (nI ((c 13) + 1))) 29 0) 16 (nI rt')) 15 (nI ss')) 14 (nI (c 9))) 19 0) 18 0) 10 ((τ 15 i 3) + nI (c 2))) := by
    rw [e9, up3_r, if_pos ⟨rfl, rfl⟩, e8, up3_r, if_pos ⟨rfl, rfl⟩, e7, up3_r, if_pos ⟨rfl, rfl⟩, e6, up3_r, if_pos ⟨rfl, rfl⟩, e5, up3_r, if_pos ⟨rfl, rfl⟩, R3]
    simp only [vu_g, Nat.reduceEqDiff, reduceIte]
    rw [h.ems, h.eun]
  have F9 : Fr (mF [] [] [(11, [10, 14, 15, 16, 17, 18, 19, 29])] []) σ s9 := by
    rw [e9, e8, e7, e6, e5, e3, e2, e1]
    exact (((((((fr_u rfl).up rfl).up rfl).up rfl).up rfl).up rfl).up rfl).up rfl
  have k9 : okS s9 := by
    rw [e9, e8, e7, e6, e5, e3, e2, e1]
    exact ok_n (ok_n (ok_z (ok_n (ok_n (ok_n (ok_z (ok_n ok rfl) rfl (Or.inl rfl)) rfl) rfl) rfl) rfl (Or.inl rfl)) rfl) rfl
  have G7' : Fr (mF [] [] [(15, [5, 11, 12, 13, 18, 21, 23, 24])] []) τ t7 := G7.sub (mF_sub rfl sub_nil rfl (sud_c (Or.inl ⟨_, List.mem_of_getElem? (i := 0) rfl, rfl⟩) sud_nil))
  have h9 : RCn s9 t7 t i (ctmo c ss' rt') := h.tmo hst htr ⟨by omega, by omega⟩ ⟨by omega, by omega⟩ R9 gR (crows.f F9) (mrows.f G7')
  have hN9 : NB s9 t7 t l b := hN.f F9 G7'
  have hK9 : RK s9 t7 := hK.f F9 G7'
  obtain ⟨c1, hc1⟩ : ∃ c1, c1 = ctmo c ss' rt' := ⟨_, rfl⟩
  have x0 : (c1 0) = (c 0) := by rw [hc1]; rfl
  have x1 : (c1 1) = (c 1) := by rw [hc1]; rfl
  have x2 : (c1 2) = (c 2) := by rw [hc1]; rfl
  have x3 : (c1 3) = (c 2) := by rw [hc1]; rfl
  have x4 : (c1 4) = (c 4) := by rw [hc1]; rfl
  have x5 : (c1 5) = (c 5) := by rw [hc1]; rfl
  have x6 : (c1 17) = (c 17) := by rw [hc1]; rfl
  have x7 : (c1 18) = (c 18) := by rw [hc1]; rfl
  have x8 : (c1 9) = (c 9) := by rw [hc1]; rfl
  have x9 : (c1 8) = (c 8) := by rw [hc1]; rfl
  have x10 : (c1 13) = (c 13) + 1 := by rw [hc1]; rfl
  have x11 : (c1 12) = rt' := by rw [hc1]; rfl
  have x12 : (c1 14) = (c 14) := by rw [hc1]; rfl
  have x13 : (c1 10) = (c 9) := by rw [hc1]; rfl
  rw [← hc1] at h9
  -- how much
  obtain ⟨E, hE⟩ : ∃ E, E = (c 1) + (c 5) - (c 2) := ⟨_, rfl⟩
  obtain ⟨D, hD⟩ : ∃ D, D = min (c 9) E := ⟨_, rfl⟩
  obtain ⟨W, hW⟩ : ∃ W, W = if (c 8) = 0 then 1 else min (c 9) (c 8) := ⟨_, rfl⟩
  obtain ⟨dn, hdn⟩ : ∃ dn, dn = min D W := ⟨_, rfl⟩
  obtain ⟨fi, hfi⟩ : ∃ fi, fi = if (c 17) = 1 ∧ dn = E ∧ dn < W then 1 else 0 := ⟨_, rfl⟩
  have huL : (c 2) ≤ (c 1) + (c 5) := by omega
  have hEd : 0 < E + (c 17) := by omega
  have hD9 : D ≤ 1460 := by omega
  have hE9 : E ≤ 66047 := by omega
  obtain ⟨hW1, fi1, fiE, fiN, hn1, hdm, hdE, hw0, hDE, hDN⟩ := tmr_ar q9 q10 q6 hEd hD hW hdn hfi
  have dn9 : dn ≤ 1460 := Nat.le_trans hdm q10
  have eroom := rm_ar hdn (Nat.le_trans hD9 (by decide)) hW1.2
  have efin := fin_ar fi1 fiE fiN hW1.2 dn9 hE huL
  have hfd : fi = 1 → (c 17) = 1 ∧ (c 2) + dn = (c 1) + (c 5) := fun z => by
    obtain ⟨a, b, _⟩ := fiE z
    exact ⟨a, by rw [b, hE]; exact Nat.add_sub_cancel' huL⟩
  have hud : (c 2) + dn ≤ (c 1) + (c 5) := by omega
  have hn2 : dn + fi ≤ 1461 := Nat.add_le_add dn9 fi1
  clear hfi hdn fiE fiN
  obtain ⟨s10, t10, g1, g2, k10, k11, f1, f2, p1, p2, p3, p4, p5, p6⟩ := R_part (dn := dn) (fi := fi) hi k9 kt7 hN9 hb hK9 h9 (by rw [x0]; exact hst) (by rw [x0]; exact hst4) fi1 hn1 (by rw [x1, x5, x3]; exact hud) (by rw [x8]; exact hdm) (fun z => ⟨by rw [x6]; exact (hfd z).1, by rw [x1, x5, x3]; exact (hfd z).2⟩)
  -- the model
  have v7 : t7 15 i 7 = nI (c 8) := by rw [gR]; simp only [vu_g, Nat.reduceEqDiff, reduceIte]; exact h.ewn'
  have v11 : t7 15 i 11 = nI (c 9) := by rw [gR]; simp only [vu_g, Nat.reduceEqDiff, reduceIte]
  have v21 : t7 15 i 21 = 0 := by rw [gR]; simp only [vu_g, Nat.reduceEqDiff, reduceIte]
  have hoD : oD c1 = D := by unfold oD; rw [x8, x1, x5, x3, hD, hE]
  obtain ⟨y1, y2⟩ := p6 v21
  have one_ : ∀ (room : Int32) (Q : St → Prop), room = nI W → Q t10 → w14_one t7 i room (fun s => w14_timerSet s i (fun s9 => Q s9)) := by
    intro room Q er hq
    rw [er]
    refine s14_one h9 (by rw [x0]; exact hst) (by rw [x1, x5, x3]; exact huL) dn (by rw [hoD]; exact eroom) dn9 fi (by rw [x6, x1, x5, x3]; exact efin) (g2 _ (fun s1 z1 s2 z2 => ?_))
    rw [up3_e y2] at z1
    subst z1
    have w13 : s1 15 i 13 = nI (c1 12) := p3.ert'
    have w10 : s1 14 0 10 = nI t := by
      obtain ⟨s0, o0, n1, _⟩ := p1
      exact n1.2.1.2.1
    rw [w10, w13, x11, up3_e (by rw [← x11]; exact y1)] at z2
    subst z2
    exact hq
  have mo : ∀ Q : St → Prop, Q t10 → w14_runOut τ i Q := by
    intro Q hq
    refine gM Q ?_
    rw [v7, v11]
    by_cases z : (c 8) = 0
    · rw [if_pos z] at hW
      exact br_u (by rw [z]; rfl) (one_ 1 Q (by rw [hW]; rfl) hq)
    · rw [if_neg z] at hW
      exact br_v (nI_ne0 (Nat.pos_of_ne_zero z) (Nat.lt_of_le_of_lt q14 (by decide))) (one_ _ Q (by rw [hW]; exact imin_n (Nat.lt_of_le_of_lt q10 (by decide)) (Nat.lt_of_le_of_lt q14 (by decide))) hq)
  -- the component
  have post : TmP τ t l (b + 4) i B s10 t10 := by
    refine tmr_post (s9 := s9) (t7 := t7) hi hst hst4 htr q1 q2 htin hn1 h.cpe hl hB x0 x1 x2 x3 x5 x6 x10 x12 ?_ ?_ (F9 _ _ _ rfl) p1 p2 p3 p4
    · rw [f1.row (k := 40) (fun _ => by simp [mF]), f2.row (k := 66) (fun _ => by simp [mF]), F9.row (k := 40) fun _ => rfl, G7'.row (k := 66) fun _ => rfl]; exact hh
    · rw [f1 _ _ _ (by simp [mF]), F9 _ _ _ rfl]; exact hrm
  have fini : ∀ n : Int32, n = nI (dn + fi) → w11_sendPart s9 i n (fun σ13 => w14_runOut τ i (fun τ' => TmP τ t l (b + 4) i B σ13 τ')) := by
    intro n en
    rw [en]
    exact g1 _ (mo _ post)
  clear efin eroom hfd mo one_
  refine s11_left h9 (by rw [x0]; exact hst) ?_
  have v9_13 : s9 11 i 13 = nI (c 9) := by rw [R9]; simp only [vu_g, Nat.reduceEqDiff, reduceIte]; exact h.ems
  have v9_14 : s9 11 i 14 = nI (c 9) := by rw [R9]; simp only [vu_g, Nat.reduceEqDiff, reduceIte]
  have v9_12 : s9 11 i 12 = nI (c 8) := by rw [R9]; simp only [vu_g, Nat.reduceEqDiff, reduceIte]; exact h.ewn
  have v9_10 : s9 11 i 10 = (τ 15 i 3) + nI (c 2) := by rw [R9]; simp only [vu_g, Nat.reduceEqDiff, reduceIte]
  have v9_e : s9 11 i 26 + s9 13 i 1 = (τ 15 i 3) + nI ((c 1) + (c 5)) := by rw [F9 _ _ _ rfl, F9 _ _ _ rfl, h.eba, h.eL, so_5]
  unfold w11_end
  dsimp only
  rw [v9_13, v9_10, v9_e, so_4 _ _ _ huL, ← hE, imin_n (by omega) (by omega), ← hD, x1, x5, x6, x3]
  have j214 : ∀ xs : Nat, xs ≤ 100000 → ((c 8) = 0 → dn + fi = 1) → ((c 8) ≠ 0 → min xs W = dn + fi) → w11_timerOut_J214 s9 i (nI xs) (fun σ' => w14_runOut τ i (fun τ' => TmP τ t l (b + 4) i B σ' τ')) := by
    intro xs hx a1 a2
    unfold w11_timerOut_J214
    rw [v9_12, v9_14]
    by_cases z : (c 8) = 0
    · exact br_u (by rw [z]; rfl) (fini 1 (by rw [a1 z]; rfl))
    · rw [if_neg z] at hW
      refine br_v (nI_ne0 (by omega) (by omega)) (fini _ ?_)
      rw [imin_n (by omega) (by omega), imin_n (by omega) (by omega), ← hW, a2 z]
  by_cases cE : D = E
  · refine br_u (by rw [cE]) ?_
    rw [nI_1, imin_n (by omega) (by omega)]
    refine j214 _ (by omega) hw0 (fun z => ?_)
    rw [show (c 1) + (c 5) + (c 17) - (c 2) = E + (c 17) by omega]
    exact hDE cE
  · refine br_v (fun z => cE ((nI_eq (by omega) (by omega)).mp z)) ?_
    exact j214 _ (by omega) hw0 (fun z => hDN cE)
