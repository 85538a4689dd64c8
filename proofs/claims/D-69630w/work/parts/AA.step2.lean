/-! one thing that is due: both sides -/
set_option maxRecDepth 100000
/-- behind one thing -/
def StP (τ : St) (b B D : Nat) (σ' τ' : St) : Prop := ∃ l' b' : Nat, RZ σ' τ' D l' b' B ∧ RF σ' τ' D l' ∧ MS τ' < MS τ ∧ b' + 4 * CPs τ' ≤ b + 4 * CPs τ
def pickT (τ : St) (T : Nat) (Q : St → Prop) (K : St → Int32 → Prop) : Prop := pickM τ (nI T) Q (fun y a b => (0 < lg_cmp y (nI T).toInt64 → w14_passTo_J296 τ (nI T) y a b 0 Q K) ∧ (¬ 0 < lg_cmp y (nI T).toInt64 → w14_passTo_J296 τ (nI T) y a b 1 Q K))
/-- a connection -/
theorem StP.cn {τ τ2 σ2 σ' τ' : St} {l b B D i : Nat} {X Y : Nat → Nat → Nat → Bool} (hi : i < 16) (hZ : RZ σ2 τ2 D l b B) (hF : RF σ2 τ2 D l) (h15 : τ2 15 = τ 15) (h18 : τ2 18 = τ 18) (hP : TmP τ2 D l (b + 4) i B σ' τ') (f : Fr X σ2 σ') (g : Fr Y τ2 τ') (hs : RSt σ' τ') (ho : σ2 11 i 2 ≠ 0)
    (x1 : ∀ k i' j, (k = 11 ∨ k = 12 ∨ k = 13 ∨ k = 42 ∨ k = 43 ∨ k = 44) → i' ≠ i → X k i' j = false) (x2 : ∀ i', i' ≠ i → X 90 (i' + 1) 0 = false) (x3 : X 11 i 3 = false) (x4 : X 11 i 4 = false) (x5 : X 8 0 6 = false) (y5 : Y 14 0 12 = false) (y1 : ∀ k i' j, (k = 15 ∨ k = 71 ∨ k = 72 ∨ k = 73) → i' ≠ i → Y k i' j = false) (y2 : ∀ j, Y 51 0 j = false) (y3 : ∀ i j, Y 18 i j = false) (hF' : RF σ' τ' D l) (x9 : X 10 0 7 = false) : StP τ b B D σ' τ' := by
  refine ⟨l, b + 4, hZ.at hP.1 (Nat.le_refl _) f g hs (fun _ => ho) x1 x2 x3 x4 x5 y5 y1 y2 (Or.inl x9), hF', ?_⟩
  have e1 := sm_up (g := cp τ2) (g' := cp τ') hi (fun j _ hne => by unfold cp; rw [g.row (k := 15) (i := j) (fun _ => y1 _ _ _ (Or.inl rfl) hne)])
  have e2 : CPs τ2 = CPs τ := CPs_c h15 h18
  have e3 : τ' 18 = τ2 18 := g.kind y3
  have h1 := hP.2
  have w1 := WS_le τ'
  unfold MS
  rw [← e2]
  unfold CPs
  rw [e3]
  omega
theorem R_step {σ τ : St} {t l b B D w T : Nat} (ok : okS σ) (ok' : okS τ) (hZ : RZ σ τ t l b B) (hF : RF σ τ t l) (hT : T ≤ 100000000) (hb : b + 4 < 2147400000) (hw : (σ 3 0 9) = nI w) (hw8 : w ≤ 8) (hD0 : aD σ w = nI D) (hDT : D ≤ T) :
    ∃ (σ' τ' : St), (∀ Q : St → Prop, Q σ' → w0_act (up3 σ 2 0 4 (nI D)) (nI D) Q) ∧ (∀ (Q : St → Prop) (K : St → Int32 → Prop), K τ' 1 → pickT τ T Q K) ∧ okS σ' ∧ okS τ' ∧ t ≤ D ∧ StP τ b B D σ' τ' := by
  obtain ⟨s, o, hR, n2, n3, nl, n4, n5, n6⟩ := id hZ.nb
  obtain ⟨hM, hV, hH, hW, hA, hP⟩ := id hR
  obtain ⟨w', q, r, hX⟩ := hW.x
  obtain rfl : w' = w := by
    have := hX.2.1
    rw [hw] at this
    exact ((nI_eq (by omega) (by have := hX.1; omega)).mp this).symm
  obtain ⟨z, fq, fr, hFx⟩ := hF
  obtain ⟨pk1, pk2, pk3⟩ := hX.pk (by omega) n6
  obtain ⟨gm1, gm2, gm3, gm4⟩ := hFx.gm (by omega) n6
  obtain ⟨cn1, cn2, cn3, cn4⟩ := hZ.cn n6
  have now2 : (τ 14 0 10) = nI t := hV.2.1
  have hz4 := hFx.1
  have hzs : (σ 6 0 1) = nI z := hFx.2.1
  have infD : ¬ (2147483647 : Int32) = nI D := fun e => by have := (nI_eq (a := 2147483647) (by omega) (by omega)).mp e; omega
  -- all is due at D or later
  have dP : ∀ j, j < 8 → (τ 17 j 0) ≠ 0 → D ≤ pA τ j := by
    intro j hj hu
    obtain ⟨k, hk, rfl⟩ := hX.2.2.2.2.2.2.1 j hj hu
    have y := aD_w (σ := σ) hk
    rw [hD0, (pk2 k hk).1] at y
    exact (nI_leI (by omega) (pk2 k hk).2.2).mp y
  have eF : 0 < z → fD σ = nI (dgA τ (fq 0)) := fun hz => by
    unfold fD
    rw [if_neg (by rw [hzs]; exact nI_ne0 hz (by omega))]
    exact (gm2 0 hz).1
  have dG0 : ∀ k, k < z → D ≤ dgA τ (fq k) := by
    intro k hk
    have y := aD_f (σ := σ) (w := w')
    rw [hD0, eF (by omega)] at y
    have := (nI_leI (by omega) (gm2 0 (by omega)).2.2).mp y
    have := gm4 k hk
    omega
  have dG : ∀ j, j < 4 → (τ 18 j 0) ≠ 0 → D ≤ dgA τ j := by
    intro j hj hu
    obtain ⟨k, hk, rfl⟩ := hFx.2.2.2.2.2.1 j hj hu
    exact dG0 k hk
  have dT : ∀ i, i < 16 → (σ 11 i 29) ≠ 0 → D ≤ cT τ i := by
    intro i hi on
    have y := aD_t (σ := σ) (w := w') hi
    unfold tD at y
    rw [hD0, if_neg on, (cn3 i hi on).1] at y
    exact (nI_leI (by omega) (cn3 i hi on).2.2).mp y
  have dL0 : ∀ i, i < 16 → (σ 11 i 33) ≠ 0 → D ≤ cL σ i := by
    intro i hi on
    have y := aD_l (σ := σ) (w := w') hi
    unfold lD at y
    rw [hD0, if_neg on, (cn4 i hi on).2.1] at y
    exact (nI_leI (by omega) (cn4 i hi on).2.2.2).mp y
  have dL : ∀ i, i < 16 → D ≤ cL σ i := by
    intro i hi
    by_cases on : (σ 11 i 33) = 0
    · unfold cL; rw [if_pos on]; omega
    · exact dL0 i hi on
  have dT' : ∀ i, i < 16 → (τ 15 i 0) ≠ 0 → (τ 15 i 21) ≠ 0 → D ≤ cT τ i := fun i hi a b => dT i hi ((cn2 i hi).mpr ⟨a, b⟩)
  have htD : t ≤ D := by
    rcases aD_o (σ := σ) (w := w') with y | ⟨k, hk, y⟩ | y | ⟨i, hi, y⟩
    · exact absurd (y.symm.trans hD0) infD
    · rw [hD0, (pk2 k hk).1] at y
      have := (nI_eq (by omega) (pk2 k hk).2.2).mp y
      have := (pk2 k hk).2.1
      omega
    · by_cases hz : 0 < z
      · rw [hD0, eF hz] at y
        have := (nI_eq (by omega) (gm2 0 hz).2.2).mp y
        have := (gm2 0 hz).2.1
        omega
      · rw [hD0] at y
        unfold fD at y
        rw [if_pos (by rw [hzs, show z = 0 by omega]; rfl)] at y
        exact absurd y.symm infD
    · rw [hD0] at y
      rcases y with y | y
      · unfold tD at y
        by_cases on : (σ 11 i 29) = 0
        · rw [if_pos on] at y; exact absurd y.symm infD
        · rw [if_neg on, (cn3 i hi on).1] at y
          have := (nI_eq (by omega) (cn3 i hi on).2.2).mp y
          have := (cn3 i hi on).2.1
          omega
      · unfold lD at y
        by_cases on : (σ 11 i 33) = 0
        · rw [if_pos on] at y; exact absurd y.symm infD
        · rw [if_neg on, (cn4 i hi on).2.1] at y
          have := (nI_eq (by omega) (cn4 i hi on).2.2.2).mp y
          have := (cn4 i hi on).2.2.1
          omega
  have hDG : DG σ (nI D) := by
    refine DG.mk (fun k w2 e1 e2 hk => ?_) (fun k z2 e1 e2 hk => ?_) (fun i hi on => ?_) (fun i hi on => ?_)
    · obtain rfl : w2 = w' := by
        rw [hw] at e1
        exact ((nI_eq (by omega) (by omega)).mp e1).symm
      have y := aD_w (σ := σ) hk
      rw [hD0] at y
      exact y
    · obtain rfl : z2 = z := by
        rw [hzs] at e1
        exact ((nI_eq (by omega) (by omega)).mp e1).symm
      rw [(gm2 k hk).1]
      exact nI_le (dG0 k hk) (gm2 k hk).2.2
    · rw [(cn3 i hi on).1]
      exact nI_le (dT i hi on) (cn3 i hi on).2.2
    · rw [(cn4 i hi on).2.1]
      exact nI_le (dL0 i hi on) (cn4 i hi on).2.2.2
  obtain ⟨σ2, e2⟩ : ∃ s, s = up3 σ 2 0 4 (nI D) := ⟨_, rfl⟩
  obtain ⟨τ2, e3⟩ : ∃ s, s = up3 τ 14 0 10 (nI D) := ⟨_, rfl⟩
  rw [← e2]
  have F : Fr (mF [] [] [(2, [4])] []) σ σ2 := by rw [e2]; exact fr_u rfl
  have G : Fr (mF [] [] [(14, [10])] []) τ τ2 := by rw [e3]; exact fr_u rfl
  have ok2 : okS σ2 := by rw [e2]; exact ok_n ok rfl
  have okt2 : okS τ2 := by rw [e3]; exact ok_n ok' rfl
  have m1 : (σ2 2 0 4) = nI D := by rw [e2, up3_g, if_pos ⟨rfl, rfl, rfl⟩]
  have m2 : (τ2 14 0 10) = nI D := by rw [e3, up3_g, if_pos ⟨rfl, rfl, rfl⟩]
  have hZ2 : RZ σ2 τ2 D l b B := hZ.t htD (by omega) hDG F G m1 m2
  have hFx2 : RFx σ2 τ2 D l z fq fr := (hFx.t htD (by omega) hDG.fg).c (F _ _ _ rfl) (F.row fun _ => rfl) (F.kind fun _ _ => rfl) (F.kind fun _ _ => rfl) (F.kind fun _ _ => rfl) (G.kind fun _ _ => rfl) (G.kind fun _ _ => rfl) (G.kind fun _ _ => rfl)
  have hF2 : RF σ2 τ2 D l := ⟨z, fq, fr, hFx2⟩
  have hR2 : RN σ2 τ2 D s o := hR.t htD (by omega) hDG.hp F G m1 m2
  have hX2 : RWx σ2 τ2 D o w' q r := hX.t htD (by omega) hDG.hp F G
  obtain ⟨c1, c2, c3, c4, c5⟩ := due_c F
  have hw2 : (σ2 3 0 9) = nI w' := (F _ _ _ rfl).trans hw
  have hp2 : ∀ k, k < 8 → hrw σ2 k < 8 := hR2.2.2.2.2.2.1
  have hf2 : frw σ2 0 < 4 := hFx2.2.2.2.2.2.2.2.1 0 (by omega)
  have t15 : τ2 15 = τ 15 := G.kind fun _ _ => rfl
  have t17 : τ2 17 = τ 17 := G.kind fun _ _ => rfl
  have t18 : τ2 18 = τ 18 := G.kind fun _ _ => rfl
  by_cases ca : ∃ k, k < w' ∧ wdue σ k = nI D
  · obtain ⟨k, hk, hkD, hkl⟩ := least w' ca
    have hDh : hD σ2 w' = nI D := by
      rw [c2]
      refine Int32.le_antisymm ?_ ?_
      · rw [← hkD]; exact mnw_k _ _ _ _ hk
      · rw [← hD0]; exact aD_h
    obtain ⟨σ', τ', g1, g2, k1, k2, f1, f2, s', r1, r2, r3, r4⟩ := R_again ok2 okt2 hR2 (by omega) hX2 hk (by rw [c1, hkD]; exact m1.symm) (fun i hi e => hkl i hi (by rw [c1] at e; exact e.trans m1))
    have epk : pA τ (q k) = D := by
      have y := hkD
      rw [(pk2 k hk).1] at y
      exact (nI_eq (pk2 k hk).2.2 (by omega)).mp y
    have hqk := hX.2.2.2.2.1 k hk
    refine ⟨σ', τ', fun Q hq => ?_, fun Q K hK => ?_, k1, k2, htD, l, b, ?_, ?_, ?_⟩
    · exact s3_due hw2 hw8 hp2 (br_u hDh (g1 _ hq))
    · refine pick_a (p := q k) (by omega) pk1 gm1 cn1 hqk.1 (by rw [hqk.2.1]; decide) epk dP (fun j hj hu hne he => ?_) dG dT' (fun i hi _ => dL i hi) (J296_1 hT hDT htD now2 e3 (br_u rfl ⟨vin hqk.1 (by omega), ?_⟩))
      · obtain ⟨k', hk', rfl⟩ := hX.2.2.2.2.2.2.1 j hj hu
        have hkk : k ≠ k' := fun e => hne (by rw [e])
        have e' : wdue σ k' = nI D := by rw [(pk2 k' hk').1, he]
        have : ¬ k' < k := fun y => hkl k' y e'
        rw [pk3 k hk, pk3 k' hk']
        exact hX.2.2.2.2.2.1 k k' (by omega) hk'
      · rw [cl (by omega)]
        exact g2 _ hK
    · refine hZ2.o ⟨s', o, r1, ?_, ?_, nl, n4, ?_, by omega⟩ (hZ2.rk.f f1 f2) (Nat.le_refl _) f1 f2 (hZ2.st.f f1 f2)
      · rw [f1 _ _ _ rfl, f2 _ _ _ rfl, F _ _ _ rfl, G _ _ _ rfl]; exact n2
      · have := WS_c t17
        omega
      · rw [r4, G _ _ _ rfl]; exact n5
    · exact hF2.f f1 f2
    · have y1 : CPs τ' = CPs τ := (CPs_c (f2.kind fun _ _ => rfl) (f2.kind fun _ _ => rfl)).trans (CPs_c t15 t18)
      have y2 := WS_c t17
      unfold MS
      rw [y1]
      omega
  have hDne : ¬ hD σ2 w' = nI D := fun e => by
    rw [c2] at e
    rcases mnw_o (wdue σ) 2147483647 w' with y | ⟨k, hk, y⟩
    · exact infD (y.symm.trans e)
    · exact ca ⟨k, hk, y.symm.trans e⟩
  have dP' : ∀ j, j < 8 → (τ 17 j 0) ≠ 0 → D < pA τ j := by
    intro j hj hu
    have y := dP j hj hu
    by_cases e : pA τ j = D
    · obtain ⟨k, hk, rfl⟩ := hX.2.2.2.2.2.2.1 j hj hu
      exact absurd ⟨k, hk, by rw [(pk2 k hk).1, e]⟩ ca
    · omega
  by_cases cb : fD σ = nI D
  · have hz : 0 < z := by
      by_cases y : 0 < z
      · exact y
      · unfold fD at cb
        rw [if_pos (by rw [hzs, show z = 0 by omega]; rfl)] at cb
        exact absurd cb infD
    have eD : dgA τ (fq 0) = D := by
      rw [eF hz] at cb
      exact (nI_eq (gm2 0 hz).2.2 (by omega)).mp cb
    have hq0 := hFx.2.2.2.1 0 hz
    obtain ⟨σ', ⟨a1, a2, a3⟩, k1, f1, g1⟩ := e6_act ok2 (Q := fun σ' => Fr (mF [37] [] [(6, [1])] []) σ2 σ' ∧ (σ' 6 0 1) = nI (z - 1) ∧ ∀ i, i < 4 → frw σ' i = rm (frw σ2) 0 z i) (s6_remove (k := 0) hz4 hz ((F _ _ _ rfl).trans hzs) hFx2.2.2.2.2.2.2.2 (fun s h1 h2 h3 => ⟨h1, h2, h3⟩))
    obtain ⟨τ', e4⟩ : ∃ s, s = up3 τ2 18 (fq 0) 0 0 := ⟨_, rfl⟩
    have f2 : Fr (mF [] [] [(18, [0])] []) τ2 τ' := by rw [e4]; exact fr_u rfl
    refine ⟨σ', τ', fun Q hq => ?_, fun Q K hK => ?_, k1, by rw [e4]; exact ok_z okt2 rfl (Or.inl rfl), htD, l, b, ?_, ?_, ?_⟩
    · exact s3_due hw2 hw8 hp2 (br_v hDne (s6_due hf2 (br_u (by rw [c3]; exact cb) (g1 _ hq))))
    · refine pick_b (p := fq 0) (by omega) pk1 gm1 cn1 hq0.1 (by rw [hq0.2.1]; decide) eD dP' dG (fun j hj hu hne he => ?_) dT' (fun i hi _ => dL i hi) (J296_1 hT hDT htD now2 e3 (br_v (by decide) (br_u rfl ⟨vin hq0.1 (by omega), fun s e => ?_⟩)))
      · obtain ⟨k', hk', rfl⟩ := hFx.2.2.2.2.2.1 j hj hu
        have hkk : 0 < k' := by
          by_cases y : k' = 0
          · exact absurd (by rw [y]) hne
          · omega
        rw [gm3 0 hz, gm3 k' hk']
        exact (hFx.2.2.2.2.1 0 k' hkk hk').1
      · rw [cl (by omega), ← e4] at e
        rw [e]
        exact hK
    · exact hZ2.o (hZ2.nb.f f1 f2) (hZ2.rk.f f1 f2) (Nat.le_refl _) f1 f2 (hZ2.st.f f1 f2)
    · exact RF_del hFx2 hz a3 a2 (f1.kind fun _ _ => rfl) (f1.kind fun _ _ => rfl) (f1.kind fun _ _ => rfl) (fun j hj => by rw [e4, up3_i (fun y => hj y.2)]) (f2.kind fun _ _ => rfl) (f2.kind fun _ _ => rfl) (by rw [e4, up3_g, if_pos ⟨rfl, rfl, rfl⟩])
    · have y1 : sm (cp τ') 16 = sm (cp τ) 16 := sm_ext (fun j _ => by unfold cp; rw [f2.row (k := 15) fun _ => rfl, t15])
      have y2 : cnt (fun j => (τ 18 j 0)) 4 = cnt (fun j => (τ' 18 j 0)) 4 + 1 := cnt_up (f := fun j => (τ' 18 j 0)) (g := fun j => (τ 18 j 0)) hq0.1 (by show τ' 18 (fq 0) 0 = 0; rw [e4, up3_g, if_pos ⟨rfl, rfl, rfl⟩]) (by show τ 18 (fq 0) 0 ≠ 0; rw [show τ 18 (fq 0) 0 = 1 from hq0.2.1]; decide) (fun j _ hne => by show τ' 18 j 0 = 0 ↔ τ 18 j 0 = 0; rw [e4, up3_g, if_neg (fun y => hne y.2.1), t18])
      have y3 : WS τ' = WS τ := (WS_c (f2.kind fun _ _ => rfl)).trans (WS_c t17)
      unfold MS CPs
      rw [y1, y3]
      omega
  have dG' : ∀ j, j < 4 → (τ 18 j 0) ≠ 0 → D < dgA τ j := by
    intro j hj hu
    obtain ⟨k, hk, rfl⟩ := hFx.2.2.2.2.2.1 j hj hu
    have y := dG0 0 (by omega)
    have y2 := gm4 k hk
    by_cases e : dgA τ (fq 0) = D
    · exact absurd (by rw [eF (by omega), e]) cb
    · omega
  have cc : ∃ i, i < 16 ∧ (tD σ i = nI D ∨ lD σ i = nI D) := by
    rcases aD_o (σ := σ) (w := w') with y | ⟨k, hk, y⟩ | y | ⟨i, hi, y⟩
    · exact absurd (y.symm.trans hD0) infD
    · exact absurd ⟨k, hk, y.symm.trans hD0⟩ ca
    · exact absurd (y.symm.trans hD0) cb
    · exact ⟨i, hi, y.elim (fun y => Or.inl (y.symm.trans hD0)) (fun y => Or.inr (y.symm.trans hD0))⟩
  obtain ⟨p, hp, hpP, hpl⟩ := least 16 cc
  -- those ahead of p are later
  have bT : ∀ i, i < 16 → ¬ tD σ i = nI D → (τ 15 i 0) ≠ 0 → (τ 15 i 21) ≠ 0 → D < cT τ i := by
    intro i hi hn a b
    have on := (cn2 i hi).mpr ⟨a, b⟩
    have y := dT i hi on
    by_cases e : cT τ i = D
    · exact absurd (by unfold tD; rw [if_neg on, (cn3 i hi on).1, e]) hn
    · omega
  have bL : ∀ i, i < 16 → ¬ lD σ i = nI D → D < cL σ i := by
    intro i hi hn
    have y := dL i hi
    by_cases e : cL σ i = D
    · by_cases on : (σ 11 i 33) = 0
      · unfold cL at e; rw [if_pos on] at e; omega
      · exact absurd (by unfold lD; rw [if_neg on, (cn4 i hi on).2.1, e]) hn
    · omega
  have eq4 : tD σ2 = tD σ := c4
  have eq5 : lD σ2 = lD σ := c5
  have r11 : σ2 11 = σ 11 := F.kind fun _ _ => rfl
  have pc : ∀ {c9 : Prop}, (∀ c, RCn σ2 τ2 D p c → RCl σ2 τ2 D p c → (c 1) + (c 5) ≤ B → σ2 11 p 2 ≠ 0 → c9) → ((σ 11 p 29) ≠ 0 ∨ (σ 11 p 33) ≠ 0) → c9 := by
    intro c9 h9 hon
    rcases hZ2.pl p hp with y | ⟨c, h1, h2, h3⟩
    · rw [← r11] at hon
      rcases hon with x | x
      · exact absurd y.2.2.1 x
      · exact absurd y.2.2.2.1 x
    · have q1 := h1.s1
      have q8 := h1.s8
      exact h9 c h1 h2 h3 (by rw [h1.est]; exact nI_ne0 (by omega) (by omega))
  by_cases ct : tD σ p = nI D
  · have on : (σ 11 p 29) ≠ 0 := fun e => by
      unfold tD at ct
      rw [if_pos e] at ct
      exact infD ct
    have eT : cT τ p = D := by
      unfold tD at ct
      rw [if_neg on, (cn3 p hp on).1] at ct
      exact (nI_eq (cn3 p hp on).2.2 (by omega)).mp ct
    refine pc (fun c h1 h2 h3 hopen => ?_) (Or.inl on)
    have jt := j_timer hp ok2 okt2 hZ2.nb (by omega) hZ2.rk hZ2.hd (hZ2.rm p hp) h1 h2 h3 (by rw [r11]; exact on)
    obtain ⟨σ', q1, k1, F1, g1⟩ := e11_timerOut hp ok2 jt
    obtain ⟨τ', q2, k2, F2, g2⟩ := e14_runOut hp okt2 q1
    have st := (cn2 p hp).mp on
    refine ⟨σ', τ', fun Q hq => ?_, fun Q K hK => ?_, k1, k2, htD, ?_⟩
    · refine s3_due hw2 hw8 hp2 (br_v hDne (s6_due hf2 (br_v (by rw [c3]; exact cb) ⟨p + 1, s0_act_L hp (by rw [eq4, eq5]; exact hpP) (by rw [eq4, eq5]; exact hpl) ⟨vin hp (by omega), ?_⟩ p 0 (by omega)⟩)))
      rw [cl (by omega)]
      exact s11_timerDue (br_u (by rw [eq4]; exact ct) ⟨vin hp (by omega), g1 _ hq⟩)
    · refine pick_c (p := p) (x := 2) (by omega) pk1 gm1 cn1 dP' dG' hp st.1 (Or.inl ⟨rfl, st.2, eT, dL p hp⟩) (fun i hi => bT i (by omega) (fun y => hpl i hi (Or.inl y))) (fun i hi _ => bL i (by omega) (fun y => hpl i hi (Or.inr y))) dT' (fun i hi _ => dL i hi) (J296_1 hT hDT htD now2 e3 (br_v (by decide) (br_v (by decide) (br_u rfl ⟨vin hp (by omega), ?_⟩))))
      rw [cl (by omega)]
      exact g2 _ hK
    · refine StP.cn hp hZ2 hF2 t15 t18 q2 F1 F2 (hZ2.st.f F1 F2) hopen ?_ ?_ (by simp [mF]) (by simp [mF]) (by simp [mF]) (by simp [mF]) ?_ (fun _ => by simp [mF]) (fun _ _ => by simp [mF]) (hF2.f F1 F2) (by simp [mF])
      · intro k' i' j h hne
        rcases h with z | z | z | z | z | z <;> rw [z] <;> simp [mF, Ne.symm hne]
      · intro i' hne
        simp [mF]
      · intro k' i' j h hne
        rcases h with z | z | z | z <;> rw [z] <;> simp [mF, Ne.symm hne]
  · have cl_ : lD σ p = nI D := hpP.resolve_left ct
    have on : (σ 11 p 33) ≠ 0 := fun e => by
      unfold lD at cl_
      rw [if_pos e] at cl_
      exact infD cl_
    have eL : cL σ p = D := by
      unfold lD at cl_
      rw [if_neg on, (cn4 p hp on).2.1] at cl_
      exact (nI_eq (cn4 p hp on).2.2.2 (by omega)).mp cl_
    refine pc (fun c h1 h2 h3 hopen => ?_) (Or.inr on)
    have jt := j_life hp ok2 okt2 hZ2.nb (by omega) hZ2.rk hZ2.hd (hZ2.rm p hp) h1 h2 h3 (by rw [r11]; exact on)
    obtain ⟨σ', q1, k1, F1, g1⟩ := e11_lifeOut hp ok2 jt
    obtain ⟨τ', q2, k2, F2, g2⟩ := e14_lifeEnds hp okt2 q1
    have st := (cn4 p hp on).1
    refine ⟨σ', τ', fun Q hq => ?_, fun Q K hK => ?_, k1, k2, htD, ?_⟩
    · refine s3_due hw2 hw8 hp2 (br_v hDne (s6_due hf2 (br_v (by rw [c3]; exact cb) ⟨p + 1, s0_act_L hp (by rw [eq4, eq5]; exact hpP) (by rw [eq4, eq5]; exact hpl) ⟨vin hp (by omega), ?_⟩ p 0 (by omega)⟩)))
      rw [cl (by omega)]
      exact s11_timerDue (br_v (by rw [eq4]; exact ct) ⟨vin hp (by omega), g1 _ hq⟩)
    · refine pick_c (p := p) (x := 3) (by omega) pk1 gm1 cn1 dP' dG' hp st (Or.inr ⟨rfl, bT p hp ct st, eL⟩) (fun i hi => bT i (by omega) (fun y => hpl i hi (Or.inl y))) (fun i hi _ => bL i (by omega) (fun y => hpl i hi (Or.inr y))) dT' (fun i hi _ => dL i hi) (J296_1 hT hDT htD now2 e3 (br_v (by decide) (br_v (by decide) (br_v (by decide) ⟨vin hp (by omega), ?_⟩))))
      rw [cl (by omega)]
      exact g2 _ hK
    · refine StP.cn hp hZ2 hF2 t15 t18 q2 F1 F2 (hZ2.st.f F1 F2) hopen ?_ ?_ (by simp [mF]) (by simp [mF]) (by simp [mF]) (by simp [mF]) ?_ (fun _ => by simp [mF]) (fun _ _ => by simp [mF]) (hF2.f F1 F2) (by simp [mF])
      · intro k' i' j h hne
        rcases h with z | z | z | z | z | z <;> rw [z] <;> simp [mF, Ne.symm hne]
      · intro i' hne
        simp [mF]
      · intro k' i' j h hne
        rcases h with z | z | z | z <;> rw [z] <;> simp [mF, Ne.symm hne]
