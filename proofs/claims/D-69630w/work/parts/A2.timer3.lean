/-! timerOut ~ runOut: SYN, and the end; lifeOut ~ lifeEnds -/
set_option maxRecDepth 100000
theorem j_tmr1 {σ τ : St} {t l b i B : Nat} {c : CK} (hi : i < 16) (ok : okS σ) (ok' : okS τ) (hN : NB σ τ t l b) (hb : b < 2147480000) (hK : RK σ τ) (hh : σ 40 0 = τ 66 0) (hrm : σ 90 (i + 1) 0 = 0 ∨ σ 90 (i + 1) 0 = 66047) (h : RCn σ τ t i c) (hl : RCl σ τ t i c) (hB : (c 1) + (c 5) ≤ B) (hst : (c 0) = 1) (htr : (c 13) + 1 ≤ 5) :
    w11_timerOut σ i (fun σ' => w14_runOut τ i (fun τ' => TmP τ t l (b + 4) i B σ' τ')) := by
  have q9 := h.ms1
  have q10 := h.ms2
  have q11 := h.rt1
  have q12 := h.rt2
  obtain ⟨qu, qa, qx, qb, qL, qd, qf⟩ := h.syn hst
  obtain ⟨s0, o0, n1, n2, n3, nl, n4, n5, n6⟩ := id hN
  have now1 : (σ 2 0 4) = nI t := n1.2.1.1
  have now2 : (τ 14 0 10) = nI t := n1.2.1.2.1
  have est1 : σ 11 i 2 = 1 := by have := h.est; rw [hst] at this; exact this
  have est1' : τ 15 i 0 = nI 1 := by have := h.est'; rw [hst] at this; exact this
  obtain ⟨rt', hrt⟩ : ∃ r, r = min 60000 (2 * (c 12)) := ⟨_, rfl⟩
  obtain ⟨t7, kt7, G7, gR, gM⟩ := s14_runOut1 (I := (τ 15 i 3)) (tr := (c 13)) (rt := (c 12)) (ms := (c 9)) (u := (c 2)) ok' est1' h.etr' htr h.ert' q12 h.ems' h.eun'
  rw [← hrt] at gR
  intro s1 e1 s2 e2
  have R2 : s2 11 i = (va_up (va_up (σ 11 i) 17 (nI ((c 13) + 1))) 29 0) := by rw [e2, up3_r, if_pos ⟨rfl, rfl⟩, e1, up3_r, if_pos ⟨rfl, rfl⟩, h.etr, nI_1]
  have v2 : s2 11 i 2 = 1 := by rw [R2]; simp only [vu_g, Nat.reduceEqDiff, reduceIte]; exact est1
  have v17 : s2 11 i 17 = nI ((c 13) + 1) := by rw [R2]; simp only [vu_g, Nat.reduceEqDiff, reduceIte]
  have v16 : s2 11 i 16 = nI (c 12) := by rw [R2]; simp only [vu_g, Nat.reduceEqDiff, reduceIte]; exact h.ert
  refine br_u v2 (br_t (by rw [v17]; exact nI_le (b := 5) htr (by omega)) (fun s3 e3 => ?_))
  rw [v16, show (2 : Int32) * nI (c 12) = nI (2 * (c 12)) from pk_mul 2 _, show imin (nI (2 * (c 12))) 60000 = nI rt' by rw [hrt, Nat.min_comm]; exact imin_n (b := 60000) (by omega) (by omega)] at e3
  have R3 : s3 11 i = (va_up (va_up (va_up (σ 11 i) 17 (nI ((c 13) + 1))) 29 0) 16 (nI rt')) := by rw [e3, up3_r, if_pos ⟨rfl, rfl⟩, R2]
  refine br_u (by rw [R3]; simp only [vu_g, Nat.reduceEqDiff, reduceIte]; exact est1) ?_
  intro s15 e15 s16 e16 s17 e17
  have R17 : s17 11 i = (va_up (va_up (va_up (va_up (va_up (σ 11 i) 17 (nI ((c 13) + 1))) 29 0) 16 (nI rt')) 34 0) 14 (nI (c 9))) := by
    rw [e17, up3_r, if_neg (by omega), e16, up3_r, if_pos ⟨rfl, rfl⟩, e15, up3_r, if_pos ⟨rfl, rfl⟩, R3]
    simp only [vu_g, Nat.reduceEqDiff, reduceIte]
    rw [h.ems]
  refine fun _ => br_t (by rw [R17]; simp only [vu_g, Nat.reduceEqDiff, reduceIte]) ?_
  intro s18 e18
  show ∀ σ3, σ3 = up3 s18 11 i 30 (s18 2 0 4 + s18 11 i 16) → _
  intro s19 e19
  have F17 : Fr (mF [] [] [(8, [4]), (11, [14, 16, 17, 29, 34])] []) σ s17 := by
    rw [e17, e16, e15, e3, e2, e1]
    exact (((((fr_u rfl).up rfl).up rfl).up rfl).up rfl).up rfl
  have F19 : Fr (mF [] [] [(8, [4]), (11, [14, 16, 17, 29, 30, 34])] []) σ s19 := by
    rw [e19, e18]
    exact ((F17.sub (mF_sub rfl sub_nil rfl sud_nil)).up rfl).up rfl
  have k19 : okS s19 := by
    rw [e19, e18, e17, e16, e15, e3, e2, e1]
    exact ok_n (ok_z (ok_n (ok_n (ok_z (ok_n (ok_z (ok_n ok rfl) rfl (Or.inl rfl)) rfl) rfl (Or.inl rfl)) rfl) rfl) rfl (Or.inr rfl)) rfl
  have R18 : s18 11 i = (va_up (va_up (va_up (va_up (va_up (va_up (σ 11 i) 17 (nI ((c 13) + 1))) 29 0) 16 (nI rt')) 34 0) 14 (nI (c 9))) 29 1) := by rw [e18, up3_r, if_pos ⟨rfl, rfl⟩, R17]
  have now18 : s18 2 0 4 = nI t := by rw [e18, up3_g, if_neg (by omega), F17 _ _ _ rfl]; exact now1
  have R19 : s19 11 i = (va_up (va_up (va_up (va_up (va_up (va_up (va_up (σ 11 i) 17 (nI ((c 13) + 1))) 29 0) 16 (nI rt')) 34 0) 14 (nI (c 9))) 29 1) 30 (nI t + nI rt')) := by
    rw [e19, up3_r, if_pos ⟨rfl, rfl⟩, now18, R18]
    simp only [vu_g, Nat.reduceEqDiff, reduceIte]
  have G7' : Fr (mF [] [] [(15, [5, 11, 13, 18, 21, 23, 24])] []) τ t7 := G7.sub (mF_sub rfl sub_nil rfl (sud_c (Or.inl ⟨_, List.mem_of_getElem? (i := 0) rfl, rfl⟩) sud_nil))
  have hN9 : NB s19 t7 t l b := hN.f F19 G7'
  have w5 : s19 11 i 5 = (τ 15 i 3) := (F19 _ _ _ rfl).trans h.eiss
  have y3 : t7 15 i 3 = (τ 15 i 3) := G7' _ _ _ rfl
  rw [w5]
  have hmh : mheld t7 i (c 14) := by
    unfold mheld
    rw [G7' _ _ _ rfl, G7' _ _ _ rfl, G7' _ _ _ rfl]
    exact h.ehd'
  obtain ⟨s5, t5, a1, a2, k1, k2, X1, X2, hN5, hC5, hM5⟩ := R_cseg0 (k3 := 0) (i3 := 0) (pl := 0) (n := 0) (hd := (c 14)) (i := i) (seq := (τ 15 i 3)) (fl := 18) (opt := 4) (sy := true) k19 kt7 hN9 hb (by rw [F19 _ _ _ rfl, G7' _ _ _ rfl]; exact h.eip) (by rw [F19 _ _ _ rfl, G7' _ _ _ rfl]; exact h.ept) (by rw [F19 _ _ _ rfl, G7' _ _ _ rfl]; exact h.enx) (by rw [F19 _ _ _ rfl]; exact h.ehd) hmh h.hd4 (by decide) ⟨fun h => absurd h (by decide), fun h => absurd h (by decide)⟩ rfl (fun _ => rfl) (by omega) (fun h => absurd h (by omega)) (fun j h => absurd h (by omega))
  refine a1 _ (gM _ ?_)
  have wy : ∀ Q : St → Prop, w14_noted t5 i (t5 15 i 3) (fun σ4 => (∀ σ5, σ5 = up3 σ4 15 i 5 ((σ4 15 i 3) + 1) → (w14_before σ5 (σ5 15 i 6) (σ5 15 i 5) (fun r6 => ((r6 = 0 → Q σ5) ∧ (¬ r6 = 0 → (∀ σ7, σ7 = up3 σ5 15 i 6 (σ5 15 i 5) → (Q σ7)))))))) → w14_synAck t7 i Q := by
    intro Q hQ
    unfold w14_synAck
    rw [y3]
    exact a2 _ hQ
  refine wy _ ?_
  have v3 : t5 15 i 3 = (τ 15 i 3) := by rw [hM5]; simp only [vu_g, Nat.reduceEqDiff, reduceIte]; exact y3
  have v6 : t5 15 i 6 = (τ 15 i 3) + 1 := by
    rw [hM5, gR]
    simp only [vu_g, Nat.reduceEqDiff, reduceIte]
    have := h.emx'
    rw [qx] at this
    exact this
  have u17 : t5 15 i 17 = (τ 15 i 17) := by rw [hM5, gR]; simp only [vu_g, Nat.reduceEqDiff, reduceIte]
  have u19 : t5 15 i 19 = (τ 15 i 19) := by rw [hM5, gR]; simp only [vu_g, Nat.reduceEqDiff, reduceIte]
  have u20 : t5 15 i 20 = (τ 15 i 20) := by rw [hM5, gR]; simp only [vu_g, Nat.reduceEqDiff, reduceIte]
  have u21 : t5 15 i 21 = 0 := by rw [hM5, gR]; simp only [vu_g, Nat.reduceEqDiff, reduceIte]
  have u13 : t5 15 i 13 = nI rt' := by rw [hM5, gR]; simp only [vu_g, Nat.reduceEqDiff, reduceIte]
  have vn : t5 14 0 10 = nI t := by rw [X2 _ _ _ rfl, G7' _ _ _ rfl]; exact now2
  rw [v3]
  refine s14_noted (g := 1) k2 ⟨fun z => absurd z (by decide), fun z => absurd z (by rw [v6, show τ 15 i 3 - (τ 15 i 3 + 1) = -1 by grind]; decide)⟩ (fun t6 f6 k6 c6 R6 => ?_)
  rw [u17, u19, u20, u21, u13, vn, show tgv 1 (τ 15 i 17) = 0 from rfl, show keepv 1 (τ 15 i 17) (τ 15 i 19) (τ 15 i 3) = τ 15 i 19 from rfl, show keepv 1 (τ 15 i 17) (τ 15 i 20) (nI t) = τ 15 i 20 from rfl] at R6
  rw [if_neg (by decide)] at c6
  intro t8 e8
  have u3 : t6 15 i 3 = (τ 15 i 3) := by rw [R6]; simp only [vu_g, Nat.reduceEqDiff, reduceIte]; exact v3
  rw [u3] at e8
  have u5 : t8 15 i 5 = (τ 15 i 3) + 1 := by rw [e8, up3_g, if_pos ⟨rfl, rfl, rfl⟩]
  have u6 : t8 15 i 6 = (τ 15 i 3) + 1 := by rw [e8, up3_g, if_neg (by omega), R6]; simp only [vu_g, Nat.reduceEqDiff, reduceIte]; exact v6
  rw [u5, u6]
  refine ⟨fun _ => br_t rfl ?_, fun z => absurd (by rw [Int32.sub_self]; decide) z⟩
  intro t9 e9 t10 e10
  have w10 : t9 14 0 10 = nI t := by rw [e9, up3_g, if_neg (by omega), e8, up3_g, if_neg (by omega), f6 _ _ _ rfl]; exact vn
  have w13 : t9 15 i 13 = nI rt' := by
    rw [e9, up3_g, if_neg (by omega), e8, up3_g, if_neg (by omega), R6]
    simp only [vu_g, Nat.reduceEqDiff, reduceIte]
    exact u13
  rw [w10, w13] at e10
  have R10 : t10 15 i = (va_up (va_up (va_up (va_up (va_up (va_up (va_up (va_up (va_up (va_up (va_up (va_up (va_up (va_up (va_up (va_up (va_up (τ 15 i) 21 0) 23 (nI ((c 13) + 1))) 11 (nI (c 9))) 18 0) 24 0) 13 (nI rt')) 5 ((τ 15 i 3) + nI (c 2))) 39 0) 37 (nI (4096 - (c 14)))) 17 0) 19 ((τ 15 i 19))) 20 ((τ 15 i 20))) 21 1) 22 (offv 0 (t5 15 i 22) (nI t + nI rt'))) 5 ((τ 15 i 3) + 1)) 21 1) 22 (nI t + nI rt')) := by
    rw [e10, up3_r, if_pos ⟨rfl, rfl⟩, e9, up3_r, if_pos ⟨rfl, rfl⟩, e8, up3_r, if_pos ⟨rfl, rfl⟩, R6, hM5, gR]
  have G10 : Fr (mF [] [] [(56, [3]), (15, [5, 17, 19, 20, 21, 22])] []) t5 t10 := by
    rw [e10, e9, e8]
    exact (((f6.sub (mF_sub rfl sub_nil rfl (sud_c (Or.inl ⟨_, List.mem_of_getElem? (i := 1) rfl, rfl⟩) sud_nil))).up rfl).up rfl).up rfl
  have X1' : Fr (mF [23, 25, 26, 32, 35, 36] [] [(2, [3]), (3, [9]), (4, [0, 1, 2, 4]), (5, [2]), (11, [21, 22])] []) s19 s5 := X1.sub (mF_sub rfl sub_nil rfl (sud_c (Or.inl ⟨_, List.mem_of_getElem? (i := 4) rfl, rfl⟩) sud_nil))
  have X2' : Fr (mF [57, 58, 59, 60, 68] [] [(14, [18, 23, 24, 25]), (17, [0, 1, 2, 3, 4, 5]), (15, [37, 39])] []) t7 t5 := X2.sub (mF_sub rfl sub_nil rfl (sud_c (Or.inl ⟨_, List.mem_of_getElem? (i := 2) rfl, rfl⟩) sud_nil))
  have FF : crows σ s5 i := by
    have a := crows.f (i := i) F19
    have b := crows.f (i := i) X1'
    exact ⟨b.1.trans a.1, b.2.1.trans a.2.1, b.2.2.1.trans a.2.2.1, b.2.2.2.1.trans a.2.2.2.1, b.2.2.2.2.1.trans a.2.2.2.2.1, b.2.2.2.2.2.trans a.2.2.2.2.2⟩
  have GG : mrows τ t10 i := by
    have a := mrows.f (i := i) G7'
    have b := mrows.f (i := i) X2'
    have d := mrows.f (i := i) G10
    exact ⟨d.1.trans (b.1.trans a.1), d.2.1.trans (b.2.1.trans a.2.1), d.2.2.1.trans (b.2.2.1.trans a.2.2.1), d.2.2.2.trans (b.2.2.2.trans a.2.2.2)⟩
  rw [R19] at hC5
  have h5 : RCn s5 t10 t i (csyn c rt') := h.syn2 hst (by omega) ⟨by omega, by omega⟩ hC5 R10 FF GG
  have c3 : t10 56 0 3 = τ 56 0 3 + 1 := by rw [e10, up3_g, if_neg (by omega), e9, up3_g, if_neg (by omega), e8, up3_g, if_neg (by omega), c6, X2' _ _ _ rfl, G7' _ _ _ rfl]
  have c0 : ∀ j, j ≠ 3 → t10 56 0 j = τ 56 0 j := fun j hj => by rw [G10 _ _ _ (by simp [mF, hj]), X2' _ _ _ (by simp [mF]), G7' _ _ _ (by simp [mF])]
  have b4 : s5 8 0 4 = σ 8 0 4 + 1 := by
    rw [X1' _ _ _ rfl, e19, up3_g, if_neg (by omega), e18, up3_g, if_neg (by omega), e17, up3_g, if_pos ⟨rfl, rfl, rfl⟩]
    congr 1
    rw [e16, up3_g, if_neg (by omega), e15, up3_g, if_neg (by omega), e3, up3_g, if_neg (by omega), e2, up3_g, if_neg (by omega), e1, up3_g, if_neg (by omega)]
  have b0 : ∀ j, j ≠ 4 → s5 8 0 j = σ 8 0 j := fun j hj => by rw [X1' _ _ _ (by simp [mF]), F19 _ _ _ (by simp [mF, hj])]
  refine ⟨⟨hN5.f (Fr.rf (M := mF [] [] [] [])) G10, ?_, ?_, ?_, Or.inr ⟨csyn c rt', h5, RCl.mk ?_ ?_ ?_ ?_ ?_, hB⟩⟩, ?_⟩
  · exact RK.agn (g := 1) hK ((X1' _ _ _ rfl).trans (F19 _ _ _ rfl)) ((X1' _ _ _ rfl).trans (F19 _ _ _ rfl)) b0 c0 (by rw [if_neg (by decide)]; exact b4) (by rw [if_neg (by decide)]; exact c3)
  · rw [X1'.row (k := 40) fun _ => rfl, F19.row (k := 40) fun _ => rfl, G10.row (k := 66) fun _ => rfl, X2'.row (k := 66) fun _ => rfl, G7'.row (k := 66) fun _ => rfl]; exact hh
  · rw [X1' _ _ _ rfl, F19 _ _ _ rfl]; exact hrm
  · intro z
    have : (c 0) = 2 := z
    omega
  · intro z
    have : (c 0) = 2 := z
    omega
  · intro z
    have : (c 0) = 4 ∨ (c 0) = 6 := z
    omega
  · intro _ _ _
    show s5 11 i 33 = 0
    rw [hC5]
    simp only [vu_g, Nat.reduceEqDiff, reduceIte]
    exact hl.l0 (by omega) (by omega) (by omega)
  · show 4096 - (c 14) < 4096 - (c 14) + 2048
    omega
  · rw [h5.cpe, h.cpe]
    show 1 + (9 - ((c 13) + 1)) + (1 - (c 17)) + 1 ≤ _
    omega
theorem j_tmr0 {σ τ : St} {t l b i B : Nat} {c : CK} (hi : i < 16) (ok : okS σ) (ok' : okS τ) (hN : NB σ τ t l b) (hb : b < 2147480000) (hK : RK σ τ) (hh : σ 40 0 = τ 66 0) (hrm : σ 90 (i + 1) 0 = 0 ∨ σ 90 (i + 1) 0 = 66047) (h : RCn σ τ t i c) (htr : (c 0) = 1 ∧ 5 < (c 13) + 1 ∨ 2 ≤ (c 0) ∧ 8 < (c 13) + 1) :
    w11_timerOut σ i (fun σ' => w14_runOut τ i (fun τ' => TmP τ t l (b + 4) i B σ' τ')) := by
  have q7 := h.s8
  have q8 := h.tr8
  intro s1 e1 s2 e2
  have R2 : s2 11 i = (va_up (va_up (σ 11 i) 17 (nI ((c 13) + 1))) 29 0) := by rw [e2, up3_r, if_pos ⟨rfl, rfl⟩, e1, up3_r, if_pos ⟨rfl, rfl⟩, h.etr, nI_1]
  have F2 : Fr (mF [] [] [(11, [17, 29])] []) σ s2 := by rw [e2, e1]; exact (fr_u rfl).up rfl
  have k2 : okS s2 := by rw [e2, e1]; exact ok_z (ok_n ok rfl) rfl (Or.inl rfl)
  have v2 : s2 11 i 2 = nI (c 0) := (F2 _ _ _ rfl).trans h.est
  have v17 : s2 11 i 17 = nI ((c 13) + 1) := by rw [R2]; simp only [vu_g, Nat.reduceEqDiff, reduceIte]
  obtain ⟨t1, d1⟩ : ∃ t1, t1 = up3 τ 15 i 21 0 := ⟨_, rfl⟩
  obtain ⟨t2, d2⟩ : ∃ t2, t2 = up3 t1 15 i 23 (t1 15 i 23 + 1) := ⟨_, rfl⟩
  obtain ⟨t3, d3⟩ : ∃ t3, t3 = up3 t2 56 0 2 (t2 56 0 2 + 1) := ⟨_, rfl⟩
  have G2 : Fr (mF [] [] [(15, [21, 23])] []) τ t2 := by rw [d2, d1]; exact (fr_u rfl).up rfl
  have G3 : Fr (mF [] [] [(15, [21, 23]), (56, [2])] []) τ t3 := by rw [d3]; exact (G2.sub (mF_sub rfl sub_nil rfl sud_nil)).up rfl
  have kt3 : okS t3 := by rw [d3, d2, d1]; exact ok_n (ok_n (ok_z ok' rfl (Or.inl rfl)) rfl) rfl
  have y0 : t2 15 i 0 = nI (c 0) := (G2 _ _ _ rfl).trans h.est'
  have y23 : t2 15 i 23 = nI ((c 13) + 1) := by
    rw [d2, up3_g, if_pos ⟨rfl, rfl, rfl⟩, d1, up3_g, if_neg (by omega)]
    rw [show τ 15 i 23 = nI (c 13) from h.etr', nI_1]
  have hmh : mheld t3 i (c 14) := by
    unfold mheld
    rw [G3 _ _ _ rfl, G3 _ _ _ rfl, G3 _ _ _ rfl]
    exact h.ehd'
  have hN3 : NB s2 t3 t l b := hN.f F2 G3
  obtain ⟨s4, t4, a1, a2, k4, k5, X1, X2, hN4⟩ := R_rst (seq := (τ 15 i 3) + nI (c 3)) (hd := (c 14)) hi k2 kt3 hN3 hb (by rw [F2 _ _ _ rfl, G3 _ _ _ rfl]; exact h.eip) (by rw [F2 _ _ _ rfl, G3 _ _ _ rfl]; exact h.ept) (by rw [F2 _ _ _ rfl, G3 _ _ _ rfl]; exact h.enx) (by rw [F2 _ _ _ rfl]; exact h.ehd) hmh h.hd4
  have X1' : Fr (mF [23, 25, 26, 32, 35, 36] [] [(2, [3]), (3, [9]), (4, [0, 1, 2, 4]), (5, [2]), (11, [21, 22])] []) s2 s4 := X1.sub (mF_sub rfl sub_nil rfl (sud_c (Or.inl ⟨_, List.mem_of_getElem? (i := 4) rfl, rfl⟩) sud_nil))
  have c2 : (2 : Int32).toNatClampNeg = 2 := cl (n := 2) (by omega)
  have vv : vp_in (2 : Int32) 8 := show vp_in (nI 2) 8 from vin (by omega) (by omega)
  -- the model
  have mo : ∀ Q : St → Prop, w14_gone t4 i (fun s => Q s) → w14_runOut τ i Q := by
    intro Q hq r1 f1 r2 f2
    obtain rfl := f1.trans d1.symm
    obtain rfl := f2.trans d2.symm
    have rest : ∀ lim : Nat, lim < (c 13) + 1 → w14_runOut_J33 r2 i (nI lim) (r2 15 i 23) Q := by
      intro lim hlim
      rw [y23]
      refine br_f (nI_ge hlim (by omega)) ⟨vv, vv, ?_⟩
      rw [c2]
      intro r3 f3
      obtain rfl := f3.trans d3.symm
      have w5 : r3 15 i 5 = (τ 15 i 3) + nI (c 3) := (G3 _ _ _ rfl).trans h.eat'
      rw [w5]
      exact a2 _ hq
    rw [y0]
    rcases htr with z | z
    · exact br_u (by rw [z.1]; rfl) (rest 5 z.2)
    · exact br_v (fun y => by have := (nI_eq (b := 1) (by omega) (by omega)).mp y; omega) (rest 8 z.2)
  -- the component
  have v10 : s2 11 i 10 = (τ 15 i 3) + nI (c 3) := (F2 _ _ _ rfl).trans h.eat
  have co : ∀ lim : Nat, lim < (c 13) + 1 → w11_timerOut_J33 s2 i (nI lim) (s2 11 i 17) (fun σ' => w14_runOut τ i (fun τ' => TmP τ t l (b + 4) i B σ' τ')) := by
    intro lim hlim
    unfold w11_timerOut_J33
    rw [v17, v10]
    refine br_f (nI_ge hlim (by omega)) (a1 _ (fun s5 e5 => ?_))
    intro s6 e6 s7 e7 s8 e8
    refine mo _ (fun t5 f5 t6 f6 => ?_)
    have F5 : Fr (mF [] [] [(8, [3])] []) s4 s5 := by rw [e5]; exact fr_u rfl
    have F8 : Fr (mF [] [] [(11, [2, 29, 33])] []) s5 s8 := by rw [e8, e7, e6]; exact ((fr_u rfl).up rfl).up rfl
    have G6 : Fr (mF [] [] [(15, [0, 21])] []) t4 t6 := by rw [f6, f5]; exact (fr_u rfl).up rfl
    have x0 : s5 42 i = t4 72 i ∧ s5 43 i = t4 73 i ∧ ∃ p : Nat, (t4 15 i 27) = nI p ∧ p ≤ 65535 := by
      refine ⟨?_, ?_, (c 7), ?_, ?_⟩
      · rw [F5.row (k := 42) fun _ => rfl, X1'.row (k := 42) fun _ => rfl, F2.row (k := 42) fun _ => rfl, X2.row (k := 72) fun _ => rfl, G3.row (k := 72) fun _ => rfl]; exact h.erow
      · rw [F5.row (k := 43) fun _ => rfl, X1'.row (k := 43) fun _ => rfl, F2.row (k := 43) fun _ => rfl, X2.row (k := 73) fun _ => rfl, G3.row (k := 73) fun _ => rfl]; exact h.ethr
      · rw [X2 _ _ _ rfl, G3 _ _ _ rfl]; exact h.epl
      · have := h.pl6
        omega
    have rc0 : RC0 s8 t6 i := RC0.g e6 e7 e8 f5 f6 x0.1 x0.2.1 x0.2.2
    refine ⟨⟨((hN4.f F5 (Fr.rf (M := mF [] [] [] []))).f F8 G6), ?_, ?_, ?_, Or.inl rc0⟩, ?_⟩
    · have hK5 : RK s5 t4 := by
        obtain ⟨h0, h1, h2, h3, h4, h5, h6, h7⟩ := hK
        have e83 : s5 8 0 3 = σ 8 0 3 + 1 := by rw [e5, up3_g, if_pos ⟨rfl, rfl, rfl⟩, X1' _ _ _ rfl, F2 _ _ _ rfl]
        have e8 : ∀ j, j ≠ 3 → s5 8 0 j = σ 8 0 j := fun j hj => by rw [F5 _ _ _ (by simp [mF, hj]), X1' _ _ _ (by simp [mF]), F2 _ _ _ (by simp [mF])]
        have e56 : t4 56 0 2 = τ 56 0 2 + 1 := by rw [X2 _ _ _ rfl, d3, up3_g, if_pos ⟨rfl, rfl, rfl⟩, G2 _ _ _ rfl]
        have e5 : ∀ j, j ≠ 2 → t4 56 0 j = τ 56 0 j := fun j hj => by rw [X2 _ _ _ (by simp [mF]), G3 _ _ _ (by simp [mF, hj])]
        unfold RK
        rw [F5 _ _ _ rfl, F5 _ _ _ rfl, X1' _ _ _ rfl, X1' _ _ _ rfl, F2 _ _ _ rfl, F2 _ _ _ rfl, e83, e8 4 (by decide), e8 5 (by decide), e8 6 (by decide), e8 7 (by decide), e8 8 (by decide), e56, e5 0 (by decide), e5 1 (by decide), e5 3 (by decide), e5 4 (by decide), e5 5 (by decide), e5 6 (by decide), e5 7 (by decide)]
        exact ⟨h0, h1, by rw [show σ 8 0 3 = τ 56 0 2 from h2], h3, h4, h5, h6, h7⟩
      exact hK5.f F8 G6
    · rw [F8.row (k := 40) fun _ => rfl, F5.row (k := 40) fun _ => rfl, X1'.row (k := 40) fun _ => rfl, F2.row (k := 40) fun _ => rfl, G6.row (k := 66) fun _ => rfl, X2.row (k := 66) fun _ => rfl, G3.row (k := 66) fun _ => rfl]; exact hh
    · rw [F8 _ _ _ rfl, F5 _ _ _ rfl, X1' _ _ _ rfl, F2 _ _ _ rfl]; exact hrm
    · rw [rc0.cpe, h.cpe]; omega
  rw [v2]
  rcases htr with z | z
  · exact br_u (by rw [z.1]; rfl) (co 5 z.2)
  · exact br_v (fun y => by have := (nI_eq (b := 1) (by omega) (by omega)).mp y; omega) (co 8 z.2)
theorem j_timer {σ τ : St} {t l b i B : Nat} {c : CK} (hi : i < 16) (ok : okS σ) (ok' : okS τ) (hN : NB σ τ t l b) (hb : b < 2147480000) (hK : RK σ τ) (hh : σ 40 0 = τ 66 0) (hrm : σ 90 (i + 1) 0 = 0 ∨ σ 90 (i + 1) 0 = 66047) (h : RCn σ τ t i c) (hl : RCl σ τ t i c) (hB : (c 1) + (c 5) ≤ B) (hon : (σ 11 i 29) ≠ 0) :
    w11_timerOut σ i (fun σ' => w14_runOut τ i (fun τ' => TmP τ t l (b + 4) i B σ' τ')) := by
  have q1 := h.s1
  by_cases c1 : (c 0) = 1
  · by_cases c2 : (c 13) + 1 ≤ 5
    · exact j_tmr1 hi ok ok' hN hb hK hh hrm h hl hB c1 c2
    · exact j_tmr0 hi ok ok' hN hb hK hh hrm h (Or.inl ⟨c1, by omega⟩)
  · by_cases c2 : (c 13) + 1 ≤ 8
    · exact j_tmr2 hi ok ok' hN hb hK hh hrm h hl hB hon (by omega) c2
    · exact j_tmr0 hi ok ok' hN hb hK hh hrm h (Or.inr ⟨by omega, by omega⟩)
