/-! take ~ the end of tcp: joined -/
set_option maxRecDepth 100000
theorem RZ.at {σ τ σ' τ' : St} {t l b b' B B' i : Nat} {X Y : Nat → Nat → Nat → Bool} (hZ : RZ σ τ t l b B) (hP : ArrP t l b' i B' σ' τ') (hB : B ≤ B') (f : Fr X σ σ') (g : Fr Y τ τ') (hs : RSt σ' τ') (ho : σ' 11 i 2 ≠ 0 → σ 11 i 2 ≠ 0)
    (x1 : ∀ k i' j, (k = 11 ∨ k = 12 ∨ k = 13 ∨ k = 42 ∨ k = 43 ∨ k = 44) → i' ≠ i → X k i' j = false) (x2 : ∀ i', i' ≠ i → X 90 (i' + 1) 0 = false) (x3 : X 11 i 3 = false) (x4 : X 11 i 4 = false) (x5 : X 8 0 6 = false) (y5 : Y 14 0 12 = false) (y1 : ∀ k i' j, (k = 15 ∨ k = 71 ∨ k = 72 ∨ k = 73) → i' ≠ i → Y k i' j = false) (y2 : ∀ j, Y 51 0 j = false) (x9 : X 10 0 7 = false ∨ SG σ' := by exact Or.inl (by simp [mF])) : RZ σ' τ' t l b' B' := by
  obtain ⟨p1, p2, p3, p4, p5⟩ := hP
  refine RZ.mk p1 p2 p3 (by rw [f _ _ _ x5, g _ _ _ y5]; exact hZ.bg) hs (fun k hk => ?_) (fun k hk => ?_) (fun k j hk hj hne h1 h2 => ?_) (hZ.sg.f f x9)
  · by_cases c : k = i
    · rw [c]; exact p5
    · exact pl_f (hZ.pl k hk) hB f g (fun _ _ z => x1 _ _ _ z c) (x2 k c) (fun _ _ z => y1 _ _ _ z c) y2
  · by_cases c : k = i
    · rw [c]; exact p4
    · rw [f _ _ _ (x2 k c)]; exact hZ.rm k hk
  · have e3 : ∀ k, σ' 11 k 3 = σ 11 k 3 := fun k => by
      by_cases c : k = i
      · rw [c]; exact f _ _ _ x3
      · exact f _ _ _ (x1 _ _ _ (by simp) c)
    have e4 : ∀ k, σ' 11 k 4 = σ 11 k 4 := fun k => by
      by_cases c : k = i
      · rw [c]; exact f _ _ _ x4
      · exact f _ _ _ (x1 _ _ _ (by simp) c)
    have e2 : ∀ k, σ' 11 k 2 ≠ 0 → σ 11 k 2 ≠ 0 := fun k z => by
      by_cases c : k = i
      · rw [c] at z ⊢; exact ho z
      · rw [f _ _ _ (x1 _ _ _ (by simp) c)] at z; exact z
    rw [e3, e3, e4, e4]
    exact hZ.uq k j hk hj hne (e2 k h1) (e2 j h2)
theorem RZ.o {σ τ σ' τ' : St} {t l b b' B B' : Nat} {X Y : Nat → Nat → Nat → Bool} (hZ : RZ σ τ t l b B) (hN : NB σ' τ' t l b') (hK : RK σ' τ') (hB : B ≤ B') (f : Fr X σ σ') (g : Fr Y τ τ') (hs : RSt σ' τ') (x0 : ∀ j, X 40 0 j = false := by intro _; rfl) (y0 : ∀ j, Y 66 0 j = false := by intro _; rfl)
    (x1 : ∀ i' j, X 11 i' j = false := by intro _ _; rfl) (x2 : ∀ i' j, X 12 i' j = false := by intro _ _; rfl) (x3 : ∀ i' j, X 13 i' j = false := by intro _ _; rfl) (x4 : ∀ i' j, X 42 i' j = false := by intro _ _; rfl) (x5 : ∀ i' j, X 43 i' j = false := by intro _ _; rfl) (x6 : ∀ i' j, X 44 i' j = false := by intro _ _; rfl) (x7 : ∀ i', X 90 (i' + 1) 0 = false := by intro _; rfl) (x8 : X 8 0 6 = false := by rfl) (y8 : Y 14 0 12 = false := by rfl) (y1 : ∀ i' j, Y 15 i' j = false := by intro _ _; rfl) (y2 : ∀ i' j, Y 71 i' j = false := by intro _ _; rfl) (y3 : ∀ i' j, Y 72 i' j = false := by intro _ _; rfl) (y4 : ∀ i' j, Y 73 i' j = false := by intro _ _; rfl) (y5 : ∀ j, Y 51 0 j = false := by intro _; rfl) (x9 : X 10 0 7 = false ∨ SG σ' := by exact Or.inl rfl) : RZ σ' τ' t l b' B' := by
  refine RZ.mk hN hK (by rw [f.row x0, g.row y0]; exact hZ.hd) (by rw [f _ _ _ x8, g _ _ _ y8]; exact hZ.bg) hs (fun k hk => ?_) (fun k hk => by rw [f _ _ _ (x7 _)]; exact hZ.rm k hk) (fun k j hk hj hne => ?_) (hZ.sg.f f x9)
  · exact pl_c (hZ.pl k hk) hB (f.row (x1 k)) (f.row (x2 k)) (f.row (x3 k)) (f.row (x4 k)) (f.row (x5 k)) (f.row (x6 k)) (f _ _ _ (x7 _)) (g.row (y1 k)) (g.row (y2 k)) (g.row (y3 k)) (g.row (y4 k)) (g.row y5)
  · rw [f.row (x1 k), f.row (x1 j)]; exact hZ.uq k j hk hj hne
theorem j_take {σ τ : St} {t l b B k3 i3 pl n da wv ms : Nat} (ok : okS σ) (ok' : okS τ) (htt : t ≤ 100000000) (hZ : RZ σ τ t l b B) (hb : b + 264220 < 2147480000) (hB1 : 1 ≤ B) (hB9 : B < 900000000) (hG : SgI σ τ k3 i3 pl n da wv) (hk : k3 = 20 ∨ k3 = 38) (hfr : (σ 10 0 7).toNatClampNeg ≠ 44) (hms : (σ 10 0 10) = nI ms) (m1 : 64 ≤ ms) (m2 : ms ≤ 1460) (hop : ∀ (s : St) (Q : Int32 → Prop), s 14 0 40 = τ 14 0 40 → s 64 0 = τ 64 0 → Q (nI ms) → w14_optionMss s Q) :
    w0_take σ (fun σ' => tcpT τ (fun τ' => RZ σ' τ' t l (b + 264220) (B + 66049))) := by
  have hS := hG.rs
  obtain ⟨r0, r1, r2, r3, r4, r5, r6, r7⟩ := id hS
  have same : RZ σ τ t l (b + 264220) (B + 66049) := hZ.o (hZ.nb.up (by omega)) hZ.rk (by omega) (Fr.rf (M := mF [] [] [] [])) (Fr.rf (M := mF [] [] [] [])) hZ.st
  -- no place
  have non : (τ 14 0 33 = 80 → ∀ k, k < 16 → ¬ mtC σ k) → w0_take_J23 σ (-1) (fun σ' => tcpT τ (fun τ' => RZ σ' τ' t l (b + 264220) (B + 66049))) := by
    intro hno
    have mo : ∀ Q : St → Prop, w14_alone τ (fun s => Q s) → tcpT τ Q := fun Q hq => tcpT_0 (fun z k hk9 hm => hno z k hk9 ((mt_e hS (hZ.pl k hk9)).mpr hm)) hq
    refine br_t (by decide) (s10_has (fun y4 => br_t rfl ?_) (fun y4 => br_f (by decide) (mo _ (s14_is (fun z => absurd (by rw [r5]; exact z) y4) (fun _ => br_f (by decide) same)))))
    have mo4 : ∀ Q : St → Prop, _ → tcpT τ Q := fun Q hq => mo Q (s14_is (fun _ => br_t rfl hq) (fun z => absurd (by rw [← r5]; exact y4) z))
    have rst : w8_reset σ (fun σ' => w14_reset τ (fun τ' => RZ σ' τ' t l (b + 264220) (B + 66049))) := by
      obtain ⟨σ1, τ1, g1, g2, k1, k2, f1, f2, hN1, rk1⟩ := R_reset ok ok' hZ.nb (by omega) hS hZ.rk
      exact g1 _ (g2 _ (hZ.o (hN1.up (by omega)) rk1 (by omega) f1 f2 (hZ.st.f f1 f2)))
    obtain ⟨σr, hr, _, _, gr⟩ := e8_reset ok rst
    by_cases c80 : σ 10 0 2 = 80
    rotate_left
    · exact br_v c80 (gr _ (mo4 _ (br_v (fun z => c80 (by rw [r2]; exact z)) hr)))
    have c80' : τ 14 0 33 = 80 := by rw [← c80]; exact r2.symm
    refine br_u c80 (s10_has (fun y16 => br_t rfl ?_) (fun y16 => br_f (by decide) (gr _ (mo4 _ (br_u c80' (s14_is (fun z => absurd (by rw [r5]; exact z) y16) (fun _ => br_f (by decide) hr)))))))
    have mo16 : ∀ Q : St → Prop, _ → tcpT τ Q := fun Q hq => mo4 Q (br_u c80' (s14_is (fun _ => br_t rfl hq) (fun z => absurd (by rw [← r5]; exact y16) z)))
    refine s10_has (fun y2 => br_t rfl (mo16 _ (s14_is (fun _ => br_t rfl same) (fun z => absurd (by rw [← r5]; exact y2) z)))) (fun y2 => br_f (by decide) ?_)
    have mo2 : ∀ Q : St → Prop, _ → tcpT τ Q := fun Q hq => mo16 Q (s14_is (fun z => absurd (by rw [r5]; exact z) y2) (fun _ => br_f (by decide) hq))
    refine s10_has (fun y1 => br_t rfl ?_) (fun y1 => br_f (by decide) (mo2 _ (s14_is (fun z => absurd (by rw [r5]; exact z) y1) (fun _ => br_f (by decide) same))))
    have mo1 : ∀ Q : St → Prop, _ → tcpT τ Q := fun Q hq => mo2 Q (s14_is (fun _ => br_t rfl hq) (fun z => absurd (by rw [← r5]; exact y1) z))
    have es : ∀ k, k < 16 → (σ 11 k 2 = 0 ↔ τ 15 k 0 = 0) := by
      intro k hk9
      rcases hZ.pl k hk9 with h | ⟨c, h1, h2, h3⟩
      · rw [h.1, h.2.1]
      · rw [h1.est, h1.est']
    refine ⟨17, s0_take_L (fun h0 => ?_) (fun k hk9 hk0 hkf => ?_) 16 0 (by omega) (fun k h => absurd h (by omega))⟩
    · -- all places are taken
      refine br_u rfl (mo1 _ ⟨17, s14_free_L none ?_ (fun _ k hk9 z => h0 k hk9 ((es k hk9).mpr z)) (fun k z => absurd z (by simp)) 16 none (by omega) (Or.inr rfl)⟩)
      exact ⟨fun _ => same, fun i z => absurd z (by simp)⟩
    · refine br_v (fun z => absurd ((nI_eq (b := 16) (by omega) (by omega)).mp z) (by omega)) (fun σ9 e9 => ⟨vin (by omega) (by omega), ?_⟩)
      rw [cl (by omega)]
      have h0 : RC0 σ τ k := by
        rcases hZ.pl k hk9 with h | ⟨c, h1, h2, h3⟩
        · exact h
        · have q1 := h1.s1
          have q8 := h1.s8
          rw [h1.est] at hk0
          exact absurd hk0 (nI_ne0 (by omega) (by omega))
      have fin : ∀ σ' τ', BgP σ τ t l (b + 4) k σ' τ' → RZ σ' τ' t l (b + 264220) (B + 66049) := by
        intro σ' τ' ⟨p1, p2, p3, p4, F, G, p5, p6⟩
        have x1 : ∀ k' i' j, (k' = 11 ∨ k' = 12 ∨ k' = 13 ∨ k' = 42 ∨ k' = 43 ∨ k' = 44) → i' ≠ k → bnF k k' i' j = false := by
          intro k' i' j h hne
          rcases h with z | z | z | z | z | z <;> rw [z] <;> simp [mF, Ne.symm hne]
        have y1 : ∀ k' i' j, (k' = 15 ∨ k' = 71 ∨ k' = 72 ∨ k' = 73) → i' ≠ k → bnG k k' i' j = false := by
          intro k' i' j h hne
          rcases h with z | z | z | z <;> rw [z] <;> simp [mF, Ne.symm hne]
        refine RZ.mk (p1.up (by omega)) p2 (by rw [F.row (k := 40) fun _ => by simp [mF], G.row (k := 66) fun _ => by simp [mF]]; exact hZ.hd) p3 (hZ.st.f F G) (fun j hj => ?_) (fun j hj => by rw [F _ _ _ (by simp [mF])]; exact hZ.rm j hj) ?_ (hZ.sg.f F (Or.inl (by simp [mF])))
        · by_cases c : j = k
          · rw [c]
            obtain ⟨c', q1, q2, q3⟩ := p4
            exact Or.inr ⟨c', q1, q2, by omega⟩
          · exact pl_f (hZ.pl j hj) (by omega) F G (fun _ _ z => x1 _ _ _ z c) (by simp [mF]) (fun _ _ z => y1 _ _ _ z c) (fun _ => by simp [mF])
        · have rest : ∀ j, j < 16 → j ≠ k → σ' 11 j 2 ≠ 0 → ¬ (σ' 11 j 3 = σ 10 0 0 ∧ σ' 11 j 4 = σ 10 0 1) := by
            intro j hj c hs z
            rw [F.row (fun _ => x1 _ _ _ (by simp) c)] at hs z
            exact hno c80' j hj ⟨hs, z.1, z.2⟩
          intro i j hi hj hne h1 h2
          by_cases c1 : i = k
          · rw [c1] at h1 ⊢
            rw [show σ' 11 k 3 = σ 10 0 0 from p5, show σ' 11 k 4 = σ 10 0 1 from p6]
            exact fun z => rest j hj (fun z => hne (by rw [c1, z])) h2 ⟨z.1.symm, z.2.symm⟩
          · by_cases c2 : j = k
            · rw [c2]
              rw [show σ' 11 k 3 = σ 10 0 0 from p5, show σ' 11 k 4 = σ 10 0 1 from p6]
              exact rest i hi c1 h1
            · rw [F.row (fun _ => x1 _ _ _ (by simp) c1)] at h1 ⊢
              rw [F.row (fun _ => x1 _ _ _ (by simp) c2)] at h2 ⊢
              exact hZ.uq i j hi hj hne h1 h2
      have jb := j_begin ok ok' htt hZ.nb (by omega) hZ.rk hZ.bg hS hms m1 m2 hG.wi hG.w6 hop h0 fin σ9 e9
      obtain ⟨σ', h', _, _, gb⟩ := e11_begin hk9 (by rw [e9]; exact ok_n ok rfl) jb
      refine gb _ (mo1 _ ⟨17, s14_free_L (some k) ?_ (fun z => absurd z (by simp)) (fun k' z => by cases z; exact ⟨hk9, (es k hk9).mp hk0, fun k' hk' z => hkf k' hk' ((es k' (by omega)).mpr z)⟩) 16 none (by omega) (Or.inl ⟨k, hk9, (es k hk9).mp hk0⟩)⟩)
      refine ⟨fun z => absurd z (by simp), fun i z => ?_⟩
      cases z
      exact ⟨hk9, h'⟩
  by_cases c80 : σ 10 0 2 = 80
  rotate_left
  · exact br_v c80 (non (fun z => absurd (by rw [← z]; exact r2) c80))
  refine br_u c80 (s0_find (fun h0 => non (fun _ => h0)) (fun k hk9 hm => ?_))
  have hI : LkI σ τ k := LkI.mk hZ.rk hZ.hd hZ.st (hZ.rm k hk9) hfr
  refine br_f (by rw [show (0 : Int32) = nI 0 from rfl]; exact nI_nlt (by omega) (by omega)) ⟨vin (by omega) (by omega), ?_⟩
  rw [cl (by omega)]
  have hc : RCB σ τ t k B := by
    rcases hZ.pl k hk9 with h | h
    · exact absurd h.1 hm.1
    · exact h
  obtain ⟨c, h1, h2, h3⟩ := hc
  obtain ⟨σ', τ', g1, g2, k1, k2, f1, f2, hP⟩ := R_arrive hk9 ok ok' htt hZ.nb hb hI hG hk h1 h2 h3 hB9
  have hm' : mtM τ k := (mt_e hS (hZ.pl k hk9)).mp hm
  refine g1 _ (tcpT_1 hk9 (by rw [← c80]; exact r2.symm) hm' (fun k' hk' hne z => ?_) (g2 _ ?_))
  · have z' := (mt_e hS (hZ.pl k' hk')).mpr z
    exact hZ.uq k' k hk' hk9 hne z'.1 hm.1 ⟨z'.2.1.trans hm.2.1.symm, z'.2.2.trans hm.2.2.symm⟩
  · refine hZ.at hP (by omega) f1 f2 (hZ.st.f f1 f2) (fun _ => hm.1) ?_ ?_ (by simp [mF]) (by simp [mF]) (by simp [mF]) (by simp [mF]) ?_ (fun _ => by simp [mF])
    · intro k' i' j h hne
      rcases h with z | z | z | z | z | z <;> rw [z] <;> simp [mF, Ne.symm hne]
    · intro i' hne
      simp [mF, Ne.symm hne]
    · intro k' i' j h hne
      rcases h with z | z | z | z <;> rw [z] <;> simp [mF, Ne.symm hne]
