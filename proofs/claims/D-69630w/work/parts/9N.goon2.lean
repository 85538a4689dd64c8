/-! on with a connection: side by side -/
set_option maxRecDepth 100000
theorem RCn.lf {σ τ σ' τ' : St} {t i : Nat} {c : CK} {v w : Int32} (h : RCn σ τ t i c) (hC : σ' 11 i = (va_up (va_up (σ 11 i) 33 v) 31 w)) (hM : τ' 15 i = τ 15 i) (hr : crows σ σ' i) (hr' : mrows τ τ' i) : RCn σ' τ' t i c := by
  obtain ⟨h12, h13, h42, h43, h44, h90⟩ := hr
  obtain ⟨g71, g72, g73, g51⟩ := hr'
  obtain ⟨est, est', s1, s8, eip, ept, eiss, enx, ews, ewa, eun, eun', eat, eat', emx, emx', eba, eba', ua, ax, xe, syn, sy2, bu, bb, ewn, ewn', wn6, ems, ems', ms1, ms2, ecw, ecw', cw1, cw2, ess, ess', ss1, ss2, ert, ert', rt1, rt2, etr, etr', tr8, edu, erc, ehd, ehd', hd4, eft, etd, etd', td4, esk, esk', sk6, eow, efc, efn, eL, ehl, ebl, hL, bml, bmb, bmL, h5, epl, pl6, eab, eal, L6, ed, ed', d1, ef, ef', f1, fst, fin, eto, etm, tin, eti, etn, ets, eme, esr, eac, erow, ethr⟩ := id (h)
  apply RCn.mk <;> (try rw [hC]) <;> (try rw [hM]) <;> (try rw [h12]) <;> (try rw [h13]) <;> (try rw [h42]) <;> (try rw [h43]) <;> (try rw [h44]) <;> (try rw [h90]) <;> (try rw [g71]) <;> (try rw [g72]) <;> (try rw [g73]) <;> (try rw [g51]) <;> (try simp only [vu_g, cup_g, Nat.reduceEqDiff, reduceIte]) <;> (try assumption)
  all_goals rfl
def GoP (t l b i B : Nat) (σ' τ' : St) : Prop := NB σ' τ' t l b ∧ RK σ' τ' ∧ σ' 40 0 = τ' 66 0 ∧ (σ' 90 (i + 1) 0 = 0 ∨ σ' 90 (i + 1) 0 = 66047) ∧ RCB σ' τ' t i B
theorem j_66 {σ τ : St} {t l b i B : Nat} {c : CK} {Q : St → Prop} (hN : NB σ τ t l b) (hK : RK σ τ) (hh : σ 40 0 = τ 66 0) (hrm : σ 90 (i + 1) 0 = 0 ∨ σ 90 (i + 1) 0 = 66047) (h : RCn σ τ t i c) (hL : LV σ τ t i c) (hst : 2 ≤ (c 0)) (hB : (c 1) + (c 5) ≤ B) (hq : ∀ σ', GoP t l b i B σ' τ → Q σ') : w11_goOn_J66 σ i Q := by
  have q1 := h.ax
  have q2 := h.xe
  have q3 := h.f1
  have q4 := h.d1
  have q5 := h.fst
  have q6 := h.bb
  have q7 := h.s8
  have q8 := h.ua
  unfold w11_goOn_J66
  rw [h.est]
  by_cases c2 : (c 0) = 2
  rotate_left
  · refine br_v (fun z => c2 ((nI_eq (b := 2) (by omega) (by omega)).mp z)) (hq σ ⟨hN, hK, hh, hrm, c, h, ?_, hB⟩)
    exact RCl.mk (fun z => absurd z c2) (fun z => absurd z c2) hL.m4 hL.m0 hL.mtd
  have f0 : (c 18) = 0 := by
    rcases (show (c 18) = 0 ∨ (c 18) = 1 by omega) with z | z
    · exact z
    · have := q5.mp z; omega
  obtain ⟨ac, a1, a2, a3⟩ := h.eac hst
  refine br_u (by rw [c2]; rfl) (s11_left h hst ?_)
  have fin : ∀ (v : Int32), (v ≠ 0 ↔ (c 17) = 0 ∧ (c 3) = (c 1) + (c 5) ∧ (c 4) = (c 2)) → ∀ s6, s6 = up3 σ 11 i 33 v → ∀ s7, s7 = up3 s6 11 i 31 ((s6 11 i 32) + 30000) → Q s7 := by
    intro v hv s6 e6 s7 e7
    have v32 : s6 11 i 32 = nI ac := by rw [e6, up3_g, if_neg (by omega)]; exact a1
    rw [v32, show nI ac + 30000 = nI (ac + 30000) from nI_add ac 30000] at e7
    have hC : s7 11 i = (va_up (va_up (σ 11 i) 33 v) 31 (nI (ac + 30000))) := by rw [e7, up3_r, if_pos ⟨rfl, rfl⟩, e6, up3_r, if_pos ⟨rfl, rfl⟩]
    have F : Fr (mF [] [] [(11, [31, 33])] []) σ s7 := by rw [e7, e6]; exact (fr_u rfl).up rfl
    have G : Fr (mF [] [] [] []) τ τ := Fr.rf
    refine hq s7 ⟨hN.f F G, hK.f F G, by rw [F.row (k := 40) fun _ => rfl]; exact hh, by rw [F _ _ _ rfl]; exact hrm, c, h.lf hC rfl (crows.f F) (mrows.f G), ?_, hB⟩
    have w33 : s7 11 i 33 = v := by rw [hC]; simp only [vu_g, Nat.reduceEqDiff, reduceIte]
    have w31 : s7 11 i 31 = nI (ac + 30000) := by rw [hC]; simp only [vu_g, Nat.reduceEqDiff, reduceIte]
    have w32 : s7 11 i 32 = nI ac := by rw [hC]; simp only [vu_g, Nat.reduceEqDiff, reduceIte]; exact a1
    refine RCl.mk (fun _ => by rw [w33]; exact hv) (fun _ z => ?_) (fun z => by omega) (fun z => absurd c2 z) hL.mtd
    rw [w33] at z
    obtain ⟨y1, y2, y3⟩ := hv.mp z
    obtain ⟨ac', b1, b2⟩ := hL.m2 c2 y1 y2 y3
    have ht := hN
    obtain ⟨s0, o0, n1, n2, n3, nl, n4, n5, n6⟩ := ht
    refine ⟨ac, w32, w31, ?_⟩
    rw [a1] at b1
    have := (nI_inj (by omega) (by omega)).mp b1
    omega
  by_cases cl : (c 1) + (c 5) + (c 17) - (c 3) = 0
  rotate_left
  · exact br_v (nI_ne0 (by have := h.L6; omega) (by have := h.L6; have := h.bu hst; omega)) (fin 0 ⟨fun z => absurd rfl z, fun z => by omega⟩)
  refine br_u (by rw [cl]; rfl) ?_
  rw [h.emx, h.eun]
  have exu := so_9 ((τ 15 i 3)) (a := (c 4)) (b := (c 2)) (by omega) (by omega)
  by_cases cx : (c 4) = (c 2)
  · exact br_u (exu.mpr cx) (fin 1 ⟨fun _ => ⟨by omega, by omega, cx⟩, fun _ => by decide⟩)
  · exact br_v (fun z => cx (exu.mp z)) (fin 0 ⟨fun z => absurd rfl z, fun z => absurd z.2.2 cx⟩)
theorem R_goOn {σ τ : St} {t l b i B : Nat} {c : CK} (hi : i < 16) (ok : okS σ) (ok' : okS τ) (hN : NB σ τ t l b) (hb : b + 264210 < 2147480000) (hI : LkI σ τ i) (h : RCn σ τ t i c) (hL : LV σ τ t i c) (hst : 2 ≤ (c 0)) (hB : (c 1) + (c 5) ≤ B) (hB9 : B < 900000000) :
    RunV σ τ (w11_goOn σ i) (w14_segment_J128 τ i) (mF [23, 25, 26, 32, 35, 36, 40, 41] [(42, i), (43, i), (44, i), (90, i + 1)] [(2, [3]), (3, [9]), (4, [0, 1, 2, 4]), (5, [2]), (8, [4, 5]), (9, [2, 3, 4, 5, 6, 7, 8, 9, 10, 11, 12, 13, 14, 15, 16, 18])] [(11, i, [2, 10, 11, 21, 22, 26, 27, 28, 29, 30, 31, 33, 34, 36, 37]), (12, i, [2, 3]), (13, i, [1])]) (mF [56, 57, 58, 59, 60, 66, 67, 68] [(71, i), (72, i), (73, i)] [(14, [18, 23, 24, 25, 42, 43, 44, 45, 46, 47, 48, 49, 50, 51, 52, 53, 54, 55, 56, 57, 59, 60, 61, 62]), (17, [0, 1, 2, 3, 4, 5])] [(15, i, [0, 5, 6, 17, 19, 20, 21, 22, 26, 27, 28, 29, 30, 31, 35, 37, 38, 39])]) (GoP t l (b + 264210) i (B + 66049)) := by
  have hj : w11_goOn σ i (fun σ' => w14_segment_J128 τ i (fun τ' => GoP t l (b + 264210) i (B + 66049) σ' τ')) := by
    obtain ⟨σ1, τ1, c1, gC, gM, ok1, okt1, hN1, rk1, hh1, rm1, h1, e1, e2, e3, e4, e5, e6, e7, e8, e9, e10, e11⟩ := R_reqs hi ok ok' hN hI h hL hst (by omega)
    have q1 := h1.ua
    have q2 := h1.ax
    have q3 := h1.xe
    have q4 := h1.f1
    have q5 := h1.d1
    have q6 := h1.L6
    have q7 := h1.bu (by omega)
    have q8 := h.ax
    have q9 := h.xe
    have q10 := h.f1
    have q11 := h.d1
    have q12 := h.ua
    have hb1 : (c1 1) + (c1 5) + (c1 17) - (c1 3) ≤ 66048 := by omega
    obtain ⟨σ2, τ2, gC2, gM2, ok2, okt2, f2, g2, hN2, rk2, c2, h2, hOc, hOl⟩ := R_outp hi ok1 okt1 hN1 (by omega) rk1 h1 (by omega)
    obtain ⟨o1, o2, o3, o4, o5, o6, o7, o8, o9, o10, o11, o12⟩ := hOc
    obtain ⟨l1, l2, l3⟩ := hOl
    have F2 : Fr (mF [23, 25, 26, 32, 35, 36] [] [(2, [3]), (3, [9]), (4, [0, 1, 2, 4]), (5, [2]), (8, [4]), (11, [2, 10, 11, 21, 22, 28, 29, 30, 33, 34, 36, 37])] []) σ1 σ2 := f2.sub (mF_sub rfl sub_nil rfl (sud_c (Or.inl ⟨_, List.mem_of_getElem? (i := 5) rfl, rfl⟩) sud_nil))
    have G2 : Fr (mF [56, 57, 58, 59, 60, 68] [] [(14, [18, 23, 24, 25]), (17, [0, 1, 2, 3, 4, 5]), (15, [0, 5, 6, 17, 19, 20, 21, 22, 31, 37, 39])] []) τ1 τ2 := g2.sub (mF_sub rfl sub_nil rfl (sud_c (Or.inl ⟨_, List.mem_of_getElem? (i := 2) rfl, rfl⟩) sud_nil))
    have hh2 : σ2 40 0 = τ2 66 0 := by rw [F2.row (k := 40) fun _ => rfl, G2.row (k := 66) fun _ => rfl]; exact hh1
    have rm2 : σ2 90 (i + 1) 0 = 0 ∨ σ2 90 (i + 1) 0 = 66047 := by rw [F2 _ _ _ rfl]; exact rm1
    have st2 : 2 ≤ (c2 0) := by omega
    have p1 := h2.ax
    have p2 := h2.ua
    have hB2 : (c2 1) + (c2 5) ≤ B + 66049 := by rw [o1, o3]; omega
    have hN2' : NB σ2 τ2 t l (b + 264200) := hN2.up (by omega)
    have a32 : (σ2 11 i 32) = (σ 11 i 32) := by rw [F2 _ _ _ rfl]; exact e8
    have a31 : (σ2 11 i 31) = (σ 11 i 31) := by rw [F2 _ _ _ rfl]; exact e10
    have a45 : (τ2 15 i 45) = (τ 15 i 45) := by rw [G2 _ _ _ rfl]; exact e11
    -- the life timer
    have life : ∀ (σ3 τ3 : St) (c3 : CK), (σ3 11 i 32) = (σ2 11 i 32) → (σ3 11 i 33) = (σ2 11 i 33) → (σ3 11 i 31) = (σ2 11 i 31) → (τ3 15 i 45) = (τ2 15 i 45) → (c3 0) = (c2 0) → (c3 17) = (c2 17) → (c3 3) = (c2 3) → (c3 1) = (c2 1) → (c3 5) = (c2 5) → (c3 4) = (c2 4) → (c3 2) = (c2 2) → 4096 - (c3 14) < (c3 15) + 2048 → LV σ3 τ3 t i c3 := by
      intro σ3 τ3 c3 y1 y2 y3 y4 z1 z2 z3 z4 z5 z6 z7 z8
      refine LV.mk ?_ ?_ ?_ z8
      · rw [z1, z2, z3, z4, z5, z6, z7, y1, a32]
        intro w1 w2 w3 w4
        refine hL.m2 ?_ ?_ ?_ ?_ <;> omega
      · rw [z1, y2, y3, y4, l1, a31, a45, e9]
        intro w
        have : (c2 0) = (c1 0) := by omega
        rw [if_pos this]
        exact hL.m4 (by omega)
      · rw [z1, y2, l1, e9]
        intro w1 w2 w3
        by_cases cs : (c2 0) = (c1 0)
        · rw [if_pos cs]
          exact hL.m0 (by omega) (by omega) (by omega)
        · rw [if_neg cs]
    refine gC _ (gC2 _ (fun hbo => ?_))
    by_cases co : (σ2 11 i 22) = 0
    · -- nothing is owed
      refine br_t co (j_66 (B := B + 66049) (hN2'.up (by omega : b + 264200 ≤ b + 264210)) rk2 hh2 rm2 h2 (life σ2 τ2 c2 rfl rfl rfl rfl rfl rfl rfl rfl rfl rfl rfl ?_) st2 hB2 (fun σ' hG => gM _ (gM2 _ (fun _ => br_t (by rw [← h2.eow]; exact co) hG))))
      by_cases ca : (c1 3) < (c2 3)
      · rw [o12 ca, o5]; omega
      · have ea : (c2 3) = (c1 3) := by omega
        have ec := o11 ea
        rw [ec]
        rcases Nat.lt_or_ge (4096 - (c1 14)) ((c1 15) + 2048) with z | z
        · exact z
        · have := e6 z
          rw [← l2 ea, co] at this
          exact absurd this (by decide)
    · -- an acknowledgement is owed
      refine br_f co ?_
      obtain ⟨σ3, τ3, gC3, gM3, ok3, okt3, f3, g3, hN3, h3, hC3, hM3⟩ := R_ack ok2 okt2 hN2' (by omega) h2
      have F3 : Fr (mF [23, 25, 26, 32, 35, 36] [] [(2, [3]), (3, [9]), (4, [0, 1, 2, 4]), (5, [2]), (11, [21, 22])] []) σ2 σ3 := f3.sub (mF_sub rfl sub_nil rfl (sud_c (Or.inl ⟨_, List.mem_of_getElem? (i := 4) rfl, rfl⟩) sud_nil))
      have G3 : Fr (mF [57, 58, 59, 60, 68] [] [(14, [18, 23, 24, 25]), (17, [0, 1, 2, 3, 4, 5]), (15, [37, 39])] []) τ2 τ3 := g3.sub (mF_sub rfl sub_nil rfl (sud_c (Or.inl ⟨_, List.mem_of_getElem? (i := 2) rfl, rfl⟩) sud_nil))
      refine gC3 _ (j_66 (B := B + 66049) (hN3.up (by omega : b + 264200 + 4 ≤ b + 264210)) (rk2.f F3 G3) (by rw [F3.row (k := 40) fun _ => rfl, G3.row (k := 66) fun _ => rfl]; exact hh2) (by rw [F3 _ _ _ rfl]; exact rm2) h3 (life σ3 τ3 _ (F3 _ _ _ rfl) (F3 _ _ _ rfl) (F3 _ _ _ rfl) (G3 _ _ _ rfl) rfl rfl rfl rfl rfl rfl rfl ?_) st2 hB2 (fun σ' hG => gM _ (gM2 _ (fun _ => br_f (by rw [← h2.eow]; exact co) (gM3 _ hG)))))
      simp only [cup_g, Nat.reduceEqDiff, reduceIte]
      omega
  obtain ⟨σ', h, k1, f1, g1⟩ := e11_goOn hi ok hj
  obtain ⟨τ', h, k2, f2, g2⟩ := e14_segment_J128 hi ok' h
  exact ⟨σ', τ', g1, g2, k1, k2, f1, f2, h⟩
