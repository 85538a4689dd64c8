/-! all that is due up to a time -/
set_option maxRecDepth 100000
theorem cp_le (τ : St) (i : Nat) : cp τ i ≤ 11 := by
  unfold cp
  split <;> omega
theorem CPs_le (τ : St) : CPs τ ≤ 180 := by
  have h : ∀ n, sm (cp τ) n ≤ 11 * n := by
    intro n
    induction n with
    | zero => exact Nat.le_refl _
    | succ n ih =>
      have := cp_le τ n
      show sm (cp τ) n + cp τ n ≤ _
      omega
  have h1 := h 16
  have h2 := cnt_le (fun j => (τ 18 j 0)) 4
  unfold CPs
  omega
/-- what is due, as a number -/
theorem aD_n {σ τ : St} {t l b B w : Nat} (hZ : RZ σ τ t l b B) (hF : RF σ τ t l) (hb : b < 2147400000) (hw : (σ 3 0 9) = nI w) (hw8 : w ≤ 8) : ∃ D : Nat, D < 2147483648 ∧ aD σ w = nI D := by
  obtain ⟨s, o, hR, n2, n3, nl, n4, n5, n6⟩ := id hZ.nb
  obtain ⟨hM, hV, hH, hW, hA, hP⟩ := id hR
  obtain ⟨w', q, r, hX⟩ := hW.x
  obtain rfl : w' = w := by
    have := hX.2.1
    rw [hw] at this
    exact ((nI_eq (by omega) (by have := hX.1; omega)).mp this).symm
  obtain ⟨z, fq, fr, hFx⟩ := hF
  obtain ⟨pk1, pk2, pk3⟩ := hX.pk (by omega) n6
  obtain ⟨gm1, gm2, gm3, gm4⟩ := hFx.gm (by omega) n6
  obtain ⟨cn1, cn2, cn3, cn4⟩ := hZ.cn n6
  have hzs : (σ 6 0 1) = nI z := hFx.2.1
  have hz4 := hFx.1
  rcases aD_o (σ := σ) (w := w') with y | ⟨k, hk, y⟩ | y | ⟨i, hi, y⟩
  · exact ⟨2147483647, by omega, y⟩
  · exact ⟨_, (pk2 k hk).2.2, y.trans (pk2 k hk).1⟩
  · unfold fD at y
    by_cases hz : 0 < z
    · rw [if_neg (by rw [hzs]; exact nI_ne0 hz (by omega)), (gm2 0 hz).1] at y
      exact ⟨_, (gm2 0 hz).2.2, y⟩
    · rw [if_pos (by rw [hzs, show z = 0 by omega]; rfl)] at y
      exact ⟨2147483647, by omega, y⟩
  · rcases y with y | y
    · unfold tD at y
      by_cases on : (σ 11 i 29) = 0
      · rw [if_pos on] at y; exact ⟨2147483647, by omega, y⟩
      · rw [if_neg on, (cn3 i hi on).1] at y
        exact ⟨_, (cn3 i hi on).2.2, y⟩
    · unfold lD at y
      by_cases on : (σ 11 i 33) = 0
      · rw [if_pos on] at y; exact ⟨2147483647, by omega, y⟩
      · rw [if_neg on, (cn4 i hi on).2.1] at y
        exact ⟨_, (cn4 i hi on).2.2.2, y⟩
/-- nothing more is due -/
theorem R_done {σ τ : St} {t l b B w T D : Nat} (hZ : RZ σ τ t l b B) (hF : RF σ τ t l) (hb : b < 2147400000) (hT : T ≤ 100000000) (hw : (σ 3 0 9) = nI w) (hw8 : w ≤ 8) (hD : aD σ w = nI D) (hD9 : D < 2147483648) (hTD : T < D) : DG σ (nI T) ∧ ∀ (Q : St → Prop) (K : St → Int32 → Prop), K τ 0 → pickT τ T Q K := by
  obtain ⟨s, o, hR, n2, n3, nl, n4, n5, n6⟩ := id hZ.nb
  obtain ⟨hM, hV, hH, hW, hA, hP⟩ := id hR
  obtain ⟨w', q, r, hX⟩ := hW.x
  obtain rfl : w' = w := by
    have := hX.2.1
    rw [hw] at this
    exact ((nI_eq (by omega) (by have := hX.1; omega)).mp this).symm
  obtain ⟨z, fq, fr, hFx⟩ := hF
  obtain ⟨pk1, pk2, pk3⟩ := hX.pk (by omega) n6
  obtain ⟨gm1, gm2, gm3, gm4⟩ := hFx.gm (by omega) n6
  obtain ⟨cn1, cn2, cn3, cn4⟩ := hZ.cn n6
  have hzs : (σ 6 0 1) = nI z := hFx.2.1
  have hz4 := hFx.1
  have dP : ∀ k, k < w' → D ≤ pA τ (q k) := by
    intro k hk
    have y := aD_w (σ := σ) hk
    rw [hD, (pk2 k hk).1] at y
    exact (nI_leI (by omega) (pk2 k hk).2.2).mp y
  have dG : ∀ k, k < z → D ≤ dgA τ (fq k) := by
    intro k hk
    have y := aD_f (σ := σ) (w := w')
    unfold fD at y
    rw [hD, if_neg (by rw [hzs]; exact nI_ne0 (by omega) (by omega)), (gm2 0 (by omega)).1] at y
    have := (nI_leI (by omega) (gm2 0 (by omega)).2.2).mp y
    have := gm4 k hk
    omega
  have dT : ∀ i, i < 16 → (σ 11 i 29) ≠ 0 → D ≤ cT τ i := by
    intro i hi on
    have y := aD_t (σ := σ) (w := w') hi
    unfold tD at y
    rw [hD, if_neg on, (cn3 i hi on).1] at y
    exact (nI_leI (by omega) (cn3 i hi on).2.2).mp y
  have dL : ∀ i, i < 16 → (σ 11 i 33) ≠ 0 → D ≤ cL σ i := by
    intro i hi on
    have y := aD_l (σ := σ) (w := w') hi
    unfold lD at y
    rw [hD, if_neg on, (cn4 i hi on).2.1] at y
    exact (nI_leI (by omega) (cn4 i hi on).2.2.2).mp y
  constructor
  · refine DG.mk (fun k w2 e1 e2 hk => ?_) (fun k z2 e1 e2 hk => ?_) (fun i hi on => ?_) (fun i hi on => ?_)
    · obtain rfl : w2 = w' := by
        rw [hw] at e1
        exact ((nI_eq (by omega) (by omega)).mp e1).symm
      rw [(pk2 k hk).1]
      exact nI_le (by have := dP k hk; omega) (pk2 k hk).2.2
    · obtain rfl : z2 = z := by
        rw [hzs] at e1
        exact ((nI_eq (by omega) (by omega)).mp e1).symm
      rw [(gm2 k hk).1]
      exact nI_le (by have := dG k hk; omega) (gm2 k hk).2.2
    · rw [(cn3 i hi on).1]
      exact nI_le (by have := dT i hi on; omega) (cn3 i hi on).2.2
    · rw [(cn4 i hi on).2.1]
      exact nI_le (by have := dL i hi on; omega) (cn4 i hi on).2.2.2
  · intro Q K hK
    refine pick_gt (D := T) (by omega) pk1 gm1 cn1 (fun j hj hu => ?_) (fun j hj hu => ?_) (fun i hi a b => ?_) (fun i hi a => ?_) (fun Y x5 x6 y1 y2 => ?_)
    · obtain ⟨k, hk, rfl⟩ := hX.2.2.2.2.2.2.1 j hj hu
      have := dP k hk
      omega
    · obtain ⟨k, hk, rfl⟩ := hFx.2.2.2.2.2.1 j hj hu
      have := dG k hk
      omega
    · have := dT i hi ((cn2 i hi).mpr ⟨a, b⟩)
      omega
    · by_cases on : (σ 11 i 33) = 0
      · unfold cL; rw [if_pos on]; omega
      · have := dL i hi on
        omega
    · rw [nI_l (by omega)]
      exact br_t ((lcmp_gt y2 (by omega)).mpr y1) (br_t rfl hK)
theorem R_time {T B : Nat} (hT : T ≤ 100000000) : ∀ (N : Nat) (σ τ : St) (t l b w : Nat), okS σ → okS τ → RZ σ τ t l b B → RF σ τ t l → b + 4 * CPs τ + 4 < 2147400000 → t ≤ T → (σ 3 0 9) = nI w → w ≤ 8 → MS τ < N → ∃ (σ' τ' : St), (∀ (Q K : St → Prop), K σ' → ∃ z, w0_goOn_L5 (nI T) Q K z σ (aD σ w)) ∧ (∀ (Q K : St → Prop), K τ' → ∃ z, w14_passTo_L2 (nI T) Q K z τ 1) ∧ okS σ' ∧ okS τ' ∧ ∃ t' l', t' ≤ T ∧ RZ σ' τ' t' l' (b + 4 * CPs τ) B ∧ RF σ' τ' t' l' ∧ DG σ' (nI T) := by
  intro N
  induction N with
  | zero => intro σ τ t l b w _ _ _ _ _ _ _ _ h; omega
  | succ N ih =>
    intro σ τ t l b w ok ok' hZ hF hb htT hw hw8 hN
    obtain ⟨D, hD9, hD⟩ := aD_n hZ hF (by omega) hw hw8
    by_cases c : T < D
    · obtain ⟨hDG, hK⟩ := R_done hZ hF (by omega) hT hw hw8 hD hD9 c
      refine ⟨σ, τ, fun Q K hk => ⟨1, ?_⟩, fun Q K hk => ⟨2, ?_⟩, ok, ok', t, l, htT, ?_, hF, hDG⟩
      · rw [hD]
        exact br_t (nI_lt c (by omega)) hk
      · exact br_f (by decide) (hK Q (fun σz x2z => w14_passTo_L2 (nI T) Q K 1 σz x2z) (br_t rfl hk))
      · exact hZ.o (hZ.nb.up (by omega)) hZ.rk (Nat.le_refl _) (Fr.rf (M := mF [] [] [] [])) (Fr.rf (M := mF [] [] [] [])) hZ.st
    · obtain ⟨σ1, τ1, g1, g2, k1, k2, htD, l1, b1, z1, z2, z3, z4⟩ := R_step ok ok' hZ hF hT (by omega) hw hw8 hD (by omega : D ≤ T)
      obtain ⟨s, o, hR, _⟩ := id z1.nb
      obtain ⟨w1, q, r, hX⟩ := hR.2.2.2.1.x
      obtain ⟨_, _, _, hFx⟩ := id z2
      obtain ⟨σ', τ', h1, h2, h3, h4, t', l', h5, h6, h7, h8⟩ := ih σ1 τ1 D l1 b1 w1 k1 k2 z1 z2 (by omega) (by omega) hX.2.1 hX.1 (by omega)
      refine ⟨σ', τ', fun Q K hk => ?_, fun Q K hk => ?_, h3, h4, t', l', h5, ?_, h7, h8⟩
      · obtain ⟨z, hz⟩ := h1 Q K hk
        refine ⟨z + 1, ?_⟩
        rw [hD]
        refine br_f (nI_nlt (by omega) (by omega)) (fun σ2 e2 => ?_)
        rw [e2]
        exact g1 _ (s0_due hX.2.1 hX.1 hR.2.2.2.2.2.1 (hFx.2.2.2.2.2.2.2.1 0 (by omega)) hz)
      · obtain ⟨z, hz⟩ := h2 Q K hk
        exact ⟨z + 1, br_f (by decide) (g2 Q (fun σz x2z => w14_passTo_L2 (nI T) Q K z σz x2z) hz)⟩
      · exact h6.o (h6.nb.up (by omega)) h6.rk (Nat.le_refl _) (Fr.rf (M := mF [] [] [] [])) (Fr.rf (M := mF [] [] [] [])) h6.st
theorem R_pass {σ τ : St} {t l b B T : Nat} (ok : okS σ) (ok' : okS τ) (hT : T ≤ 100000000) (htT : t ≤ T) (hZ : RZ σ τ t l b B) (hF : RF σ τ t l) (hb : b + 800 < 2147400000) : ∃ σ' τ' : St, (∀ Q : St → Prop, Q σ' → w0_goOn σ (nI T) Q) ∧ (∀ Q : St → Prop, Q τ' → w14_passTo τ (nI T) Q) ∧ okS σ' ∧ okS τ' ∧ YP T (b + 720) B σ' τ' := by
  have hc := CPs_le τ
  obtain ⟨s, o, hR, _⟩ := id hZ.nb
  obtain ⟨w, q, r, hX⟩ := hR.2.2.2.1.x
  obtain ⟨_, _, _, hFx⟩ := id hF
  obtain ⟨σ1, τ1, h1, h2, h3, h4, t', l', h5, h6, h7, h8⟩ := R_time (B := B) hT (MS τ + 1) σ τ t l b w ok ok' hZ hF (by omega) htT hX.2.1 hX.1 (by omega)
  obtain ⟨σ2, e2⟩ : ∃ s, s = up3 σ1 2 0 4 (nI T) := ⟨_, rfl⟩
  obtain ⟨τ2, e3⟩ : ∃ s, s = up3 τ1 14 0 10 (nI T) := ⟨_, rfl⟩
  have F : Fr (mF [] [] [(2, [4])] []) σ1 σ2 := by rw [e2]; exact fr_u rfl
  have G : Fr (mF [] [] [(14, [10])] []) τ1 τ2 := by rw [e3]; exact fr_u rfl
  have hZ2 : RZ σ2 τ2 T l' (b + 4 * CPs τ) B := h6.t h5 (by omega) h8 F G (by rw [e2, up3_g, if_pos ⟨rfl, rfl, rfl⟩]) (by rw [e3, up3_g, if_pos ⟨rfl, rfl, rfl⟩])
  refine ⟨σ2, τ2, fun Q hq => ?_, fun Q hq => ?_, by rw [e2]; exact ok_n h3 rfl, by rw [e3]; exact ok_n h4 rfl, l', ?_, (h7.t h5 (by omega) h8.fg).f F G⟩
  · refine s0_due hX.2.1 hX.1 hR.2.2.2.2.2.1 (hFx.2.2.2.2.2.2.2.1 0 (by omega)) (h1 Q _ (fun s e => ?_))
    rw [e, ← e2]
    exact hq
  · refine h2 Q _ (fun s e => ?_)
    rw [e, ← e3]
    exact hq
  · exact hZ2.o (hZ2.nb.up (by omega)) hZ2.rk (Nat.le_refl _) (Fr.rf (M := mF [] [] [] [])) (Fr.rf (M := mF [] [] [] [])) hZ2.st
