/-! an acknowledgement: side by side -/
set_option maxRecDepth 100000
def RunJ (σ τ : St) (C M : (Int32 → St → Prop) → Prop) (A B : Nat → Nat → Nat → Bool) (P : Int32 → St → Int32 → St → Prop) : Prop :=
  ∃ (r : Int32) (σ' : St) (r' : Int32) (τ' : St), (∀ Q, Q r σ' → C Q) ∧ (∀ Q, Q r' τ' → M Q) ∧ okS σ' ∧ okS τ' ∧ Fr A σ σ' ∧ Fr B τ τ' ∧ P r σ' r' τ'
theorem fr_y {I A : Int32} {u x : Nat} (hux : u ≤ x) (hx : x < 1000000000) (h1 : ¬ A - (I + nI u) ≤ 0) (h2 : A - (I + nI x) ≤ 0) : ∃ y : Nat, 1 ≤ y ∧ u + y ≤ x ∧ A = I + nI (u + y) ∧ A - (I + nI u) = nI y := by
  generalize hD : A - (I + nI u) = D at h1
  have h1' : (0 : Int32) < D := Int32.not_le.mp h1
  rw [Int32.lt_iff_toInt_lt] at h1'
  have h1'' : 0 < D.toInt := h1'
  have hb := Int32.toInt_lt D
  have eD : D = nI D.toInt.toNat := by
    apply Int32.toInt_inj.mp
    rw [nI_toInt (by omega)]
    omega
  generalize hy : D.toInt.toNat = y at eD
  have hy1 : 1 ≤ y := by omega
  have hy2 : y < 2147483648 := by omega
  have hA : A = I + nI (u + y) := by
    rw [← nI_add, ← eD, ← hD]
    grind
  have e2 : A - (I + nI x) = nI y - nI (x - u) := by
    have : nI x = nI u + nI (x - u) := by rw [nI_add]; congr 1; omega
    rw [hA, this, ← nI_add]
    grind
  rw [e2, Int32.le_iff_toInt_le, sub_toInt hy2 (by omega)] at h2
  have h2' : (y : Int) - ((x - u : Nat) : Int) ≤ 0 := h2
  exact ⟨y, hy1, by omega, hA, eD⟩
theorem AckP.up {t l b b' i B : Nat} {r r' : Int32} {σ τ : St} (h : AckP t l b i B r σ r' τ) (hb : b ≤ b') : AckP t l b' i B r σ r' τ := ⟨h.1.up hb, h.2⟩
theorem RCl.td {σ τ σ' τ' : St} {t i v : Nat} {c : CK} (h : RCl σ τ t i c) (a1 : (σ' 11 i 33) = (σ 11 i 33)) (a2 : (σ' 11 i 31) = (σ 11 i 31)) (a3 : (σ' 11 i 32) = (σ 11 i 32)) (b1 : (τ' 15 i 45) = (τ 15 i 45)) (hv : 4096 - (c 14) < v + 2048) : RCl σ' τ' t i (cup c 15 v) := by
  obtain ⟨l2, l2', l4, l0, ltd⟩ := id (h)
  apply RCl.mk <;> simp only [cup_g, Nat.reduceEqDiff, reduceIte] <;> (try rw [a1]) <;> (try rw [a2]) <;> (try rw [a3]) <;> (try rw [b1]) <;> assumption
theorem R_takeAck {σ τ : St} {t l b i wv dl B : Nat} {c : CK} (hi : i < 16) (ok : okS σ) (ok' : okS τ) (htt : t ≤ 100000000) (hN : NB σ τ t l b) (hb : b < 2147480000) (hK : RK σ τ) (hS : RS σ τ) (hw : (τ 14 0 37) = nI wv) (hw6 : wv ≤ 65535) (hdl : (τ 14 0 39) = nI dl) (hdl2 : dl ≤ 65535) (hsy : ((τ 14 0 36) &&& 2) = 0) (h : RCn σ τ t i c) (hl : RCl σ τ t i c) (hB : (c 1) + (c 5) ≤ B) :
    RunJ σ τ (w11_takeAck σ i) (w14_acknowledgement τ i) (mF [23, 25, 26, 32, 35, 36] [] [(2, [3]), (3, [9]), (4, [0, 1, 2, 4]), (5, [2]), (8, [3, 4, 7, 8])] [(11, i, [2, 7, 8, 9, 10, 12, 14, 15, 16, 17, 18, 19, 21, 22, 29, 30, 31, 32, 33, 34, 35, 38, 39])]) (mF [56, 57, 58, 59, 60, 68] [] [(14, [18, 23, 24, 25]), (17, [0, 1, 2, 3, 4, 5])] [(15, i, [0, 4, 5, 7, 8, 9, 11, 12, 13, 14, 15, 16, 17, 18, 19, 20, 21, 22, 23, 24, 31, 37, 39, 43, 44, 45])]) (AckP t l (b + 4) i B) := by
  obtain ⟨s0, o0, n1, n2, n3, nl, n4, n5, n6⟩ := id hN
  have now1 : (σ 2 0 4) = nI t := n1.2.1.1
  have now2 : (τ 14 0 10) = nI t := n1.2.1.2.1
  obtain ⟨r0, r1, r2, r3, r4, r5, r6, r7⟩ := id hS
  have q1 := h.ua
  have q2 := h.ax
  have q3 := h.xe
  have q5 := h.f1
  have q6 := h.d1
  have q7 := h.bb
  have q8 := h.s8
  have q9 := h.fst
  have q10 := h.fin
  have q11 := h.L6
  have hj : w11_takeAck σ i (fun r σ' => w14_acknowledgement τ i (fun r' τ' => AckP t l (b + 4) i B r σ' r' τ')) := by
    by_cases s1 : (c 0) = 1
    · -- a young one
      have es : (σ 11 i 2) = 1 := by rw [h.est, s1]; rfl
      have es' : (τ 15 i 0) = 1 := by rw [h.est', s1]; rfl
      refine br_u es ?_
      rw [r4, h.eiss]
      by_cases ca : (τ 14 0 35) = (τ 15 i 3) + 1
      rotate_left
      · refine br_f ca ?_
        obtain ⟨σ', τ', g1, g2, k1, k2, x1, x2, hN2, hK2⟩ := R_reset ok ok' hN hb hS hK
        refine g1 _ (br_u es' (br_f ca (g2 _ ⟨hN2, hK2, Or.inl ⟨rfl, rfl, c, ?_, ?_, hB⟩⟩)))
        · obtain ⟨a1, a2, a3, a4, a5, a6⟩ := crows.f (i := i) x1
          obtain ⟨b1, b2, b3, b4⟩ := mrows.f (i := i) x2
          exact h.c (x1.row fun _ => rfl) a1 a2 a3 a4 a5 (by rw [a6]) (x2.row fun _ => rfl) b1 b2 b3 b4
        · exact hl.c (x1.row fun _ => rfl) (x2.row fun _ => rfl)
      refine br_t ca (fun s13 e13 s14 e14 => ?_)
      obtain ⟨y1, y2, y3, y4, y5, y6, y7⟩ := h.syn s1
      obtain ⟨ts, ts1, ts2, ts3⟩ := h.ets
      obtain ⟨sr, sp, hsr⟩ : ∃ sr sp : Nat, (σ 11 i 35) ≠ 0 → (σ 11 i 38) = nI sr ∧ (τ 15 i 14) = nI sr ∧ (σ 11 i 39) = nI sp ∧ (τ 15 i 15) = nI sp ∧ sr ≤ t ∧ sp ≤ t := by
        by_cases z : (σ 11 i 35) = 0
        · exact ⟨0, 0, fun q => absurd z q⟩
        · obtain ⟨sr, sp, hh⟩ := h.esr z
          exact ⟨sr, sp, fun _ => hh⟩
      have v5 : s13 11 i 5 = (τ 15 i 3) := by rw [e13, up3_g, if_neg (by omega)]; exact h.eiss
      rw [v5] at e14
      have F14 : Fr (mF [] [] [] [(11, i, [2, 9])]) σ s14 := by rw [e14, e13]; exact (fr_u (by simp [mF])).up (by simp [mF])
      have ok14 : okS s14 := by rw [e14, e13]; exact ok_n (ok_n ok rfl) rfl
      have r14 : s14 11 i = (va_up (va_up (σ 11 i) 2 2) 9 ((τ 15 i 3) + nI 1)) := by rw [e14, up3_r, if_pos ⟨rfl, rfl⟩, e13, up3_r, if_pos ⟨rfl, rfl⟩]; rfl
      have w14 : ∀ j, j ≠ 2 → j ≠ 9 → s14 11 i j = σ 11 i j := fun j a b => F14 _ _ _ (by simp [mF, a, b])
      have p10 : s14 10 0 4 = (τ 15 i 3) + nI 1 := by rw [F14 _ _ _ (by simp [mF]), r4, ca]; rfl
      rw [p10]
      refine s11_measure2 (t := t) (ts := ts) (sr := sr) (sp := sp) ok14 htt (by rw [F14 _ _ _ (by simp [mF])]; exact now1) ((w14 37 (by decide) (by decide)).trans ts1) ts3 (by rw [w14 35 (by decide) (by decide), w14 38 (by decide) (by decide), w14 39 (by decide) (by decide)]; exact fun z => ⟨(hsr z).1, (hsr z).2.2.1, (hsr z).2.2.2.2.1, (hsr z).2.2.2.2.2⟩) (fun s15 ok15 F15 r15 => ?_)
      rw [w14 34 (by decide) (by decide), w14 36 (by decide) (by decide)] at r15
      generalize hg : gms ((σ 11 i 34)) ((τ 15 i 3) + nI 1) ((σ 11 i 36)) = g at r15
      intro s16 e16 s17 e17 s19 e19 s20 e20 s21 e21
      have nw17 : s17 2 0 4 = nI t := by rw [e17, up3_g, if_neg (by omega), e16, up3_g, if_neg (by omega), F15 _ _ _ (by simp [mF]), F14 _ _ _ (by simp [mF])]; exact now1
      rw [nw17] at e19
      have F21 : Fr (mF [] [] [(8, [7, 8]), (11, [2, 9, 16, 17, 29, 32, 34, 35, 38, 39])] []) σ s21 := by
        rw [e21, e20, e19, e17, e16]
        refine ((((((F14.sub (mF_sub rfl sub_nil rfl (sud_c (Or.inl ⟨_, List.mem_of_getElem? (i := 1) rfl, rfl⟩) sud_nil))).tr (F15.sub (mF_sub rfl sub_nil rfl (sud_c (Or.inl ⟨_, List.mem_of_getElem? (i := 1) rfl, rfl⟩) sud_nil)))).up rfl).up rfl).up rfl).up rfl).up rfl
      have r21 : s21 11 i = (va_up (va_up (va_up (msC (va_up (va_up (σ 11 i) 2 2) 9 ((τ 15 i 3) + nI 1)) g t ts sr sp) 17 0) 29 0) 32 (nI t)) := by
        rw [e21, up3_r, if_neg (by omega), e20, up3_r, if_neg (by omega), e19, up3_r, if_pos ⟨rfl, rfl⟩, e17, up3_r, if_pos ⟨rfl, rfl⟩, e16, up3_r, if_pos ⟨rfl, rfl⟩, r15, r14]
      have c87 : s21 8 0 7 = (σ 8 0 7) + 1 := by
        rw [e21, up3_g, if_neg (by omega), e20, up3_g, if_pos ⟨rfl, rfl, rfl⟩, e19, up3_g, if_neg (by omega), e17, up3_g, if_neg (by omega), e16, up3_g, if_neg (by omega), F15 _ _ _ (by simp [mF]), F14 _ _ _ (by simp [mF])]
      have c88 : s21 8 0 8 = (σ 8 0 8) + 1 := by
        rw [e21, up3_g, if_pos ⟨rfl, rfl, rfl⟩, e20, up3_g, if_neg (by omega), e19, up3_g, if_neg (by omega), e17, up3_g, if_neg (by omega), e16, up3_g, if_neg (by omega), F15 _ _ _ (by simp [mF]), F14 _ _ _ (by simp [mF])]
      intro s22 e22 s23 e23 s24 e24
      have b22 : s22 10 0 = s21 10 0 := by rw [e22, up3_r, if_neg (by omega)]
      have b23 : s23 10 0 = s21 10 0 := by rw [e23, up3_r, if_neg (by omega)]; exact b22
      have b21 : s21 10 0 = σ 10 0 := F21.row fun _ => rfl
      rw [b21, r6, hw] at e22
      rw [b22, b21, r3] at e23
      rw [b23, b21, r4] at e24
      have r24 : s24 11 i = (va_up (va_up (va_up (s21 11 i) 12 (nI wv)) 7 ((τ 14 0 34))) 8 ((τ 14 0 35))) := by
        rw [e24, up3_r, if_pos ⟨rfl, rfl⟩, e23, up3_r, if_pos ⟨rfl, rfl⟩, e22, up3_r, if_pos ⟨rfl, rfl⟩]
      have F24 : Fr (mF [] [] [(11, [7, 8, 12])] []) s21 s24 := by rw [e24, e23, e22]; exact ((fr_u rfl).up rfl).up rfl
      -- the model
      refine br_u es' (br_t ca ?_)
      have eack : (τ 14 0 35) = (τ 15 i 3) + nI ((c 2) + 1) := by rw [y1]; exact ca
      refine s14_fresh (c := c) (y := 1) (t := t) (ts := ts) (sr := sr) (sp := sp) (I := (τ 15 i 3)) ok' htt now2 ts2 ts3 (fun z => by
        rw [← h.eme] at z
        exact ⟨(hsr z).2.1, (hsr z).2.2.2.1, (hsr z).2.2.2.2.1, (hsr z).2.2.2.2.2⟩) eack h.est' h.s8 h.eun' h.eat' h.emx' h.ems' h.ecw' h.ess' h.ert' (by omega) (by omega) q2 (by omega) (by omega) ⟨h.ms1, h.ms2⟩ ⟨h.cw1, h.cw2⟩ h.ss2 h.rt2 (fun t1 okt1 G1 k6 k7 hM => ?_)
      rw [← h.eti, ← h.etn, ← h.eme, show (c 2) + 1 = 1 by omega, hg] at hM
      generalize hrt : (if g then mRT (mSR ((σ 11 i 35)) sr (t - ts)) (mSP ((σ 11 i 35)) sr sp (t - ts)) else (c 12)) = rt' at hM
      intro t2 d2 t3 d3 t4 d4
      have G1' : Fr (mF [] [] [(56, [6, 7]), (15, [4, 5, 11, 13, 14, 15, 16, 17, 18, 21, 22, 23, 24, 44])] []) τ t1 := G1.sub (mF_sub rfl sub_nil rfl (sud_c (Or.inl ⟨_, List.mem_of_getElem? (i := 1) rfl, rfl⟩) sud_nil))
      have nw1 : t1 14 0 10 = nI t := by rw [G1' _ _ _ rfl]; exact now2
      have nw2 : t2 14 0 10 = nI t := by rw [d2, up3_g, if_neg (by omega)]; exact nw1
      have nw3 : t3 14 0 10 = nI t := by rw [d3, up3_g, if_neg (by omega)]; exact nw2
      rw [nw2] at d3
      rw [nw3] at d4
      have G4 : Fr (mF [] [] [(56, [6, 7]), (15, [0, 4, 5, 11, 13, 14, 15, 16, 17, 18, 21, 22, 23, 24, 43, 44])] []) τ t4 := by
        rw [d4, d3, d2]
        exact (((G1'.sub (mF_sub rfl sub_nil rfl sud_nil)).up rfl).up rfl).up rfl
      have m4 : t4 15 i = (va_up (va_up (va_up (rnM (τ 15 i) ((τ 15 i 3)) g c 1 t ts sr sp rt') 0 2) 43 (nI t)) 44 (nI t)) := by
        rw [d4, up3_r, if_pos ⟨rfl, rfl⟩, d3, up3_r, if_pos ⟨rfl, rfl⟩, d2, up3_r, if_pos ⟨rfl, rfl⟩, hM]
      have k6' : t4 56 0 6 = τ 56 0 6 + 1 := by rw [d4, up3_g, if_neg (by omega), d3, up3_g, if_neg (by omega), d2, up3_g, if_neg (by omega)]; exact k6
      have k7' : t4 56 0 7 = τ 56 0 7 + 1 := by rw [d4, up3_g, if_neg (by omega), d3, up3_g, if_neg (by omega), d2, up3_g, if_neg (by omega)]; exact k7
      intro t5 d5 t6 d6 t7 d7
      have b5 : t5 14 0 = t4 14 0 := by rw [d5, up3_r, if_neg (by omega)]
      have b6 : t6 14 0 = t4 14 0 := by rw [d6, up3_r, if_neg (by omega)]; exact b5
      have b37 : t4 14 0 37 = nI wv := by rw [G4 _ _ _ rfl]; exact hw
      have b34 : t4 14 0 34 = (τ 14 0 34) := G4 _ _ _ rfl
      have b35 : t4 14 0 35 = (τ 14 0 35) := G4 _ _ _ rfl
      rw [b37] at d5
      rw [b5, b34] at d6
      rw [b6, b35] at d7
      have m7 : t7 15 i = (va_up (va_up (va_up (t4 15 i) 7 (nI wv)) 8 ((τ 14 0 34))) 9 ((τ 14 0 35))) := by
        rw [d7, up3_r, if_pos ⟨rfl, rfl⟩, d6, up3_r, if_pos ⟨rfl, rfl⟩, d5, up3_r, if_pos ⟨rfl, rfl⟩]
      have G7 : Fr (mF [] [] [(15, [7, 8, 9])] []) t4 t7 := by rw [d7, d6, d5]; exact ((fr_u rfl).up rfl).up rfl
      have hR4 := h.young s1 htt ts3 (fun z => ⟨(hsr z).2.2.2.2.1, (hsr z).2.2.2.2.2⟩) hrt.symm r21 m4 (crows.f F21) (mrows.f G4)
      have hR7 := hR4.win hw6 r24 m7 (crows.f F24) (mrows.f G7)
      refine ⟨((hN.f F21 G4).f F24 G7).up (by omega), (RK.fresh hK (F21 _ _ _ rfl) (F21 _ _ _ rfl) (fun j a b => F21 _ _ _ (by simp [mF, a, b])) (fun j a b => G4 _ _ _ (by simp [mF, a, b])) c87 c88 k6' k7').f F24 G7, Or.inr (Or.inr ⟨rfl, rfl, _, hR7, ?_, ?_, hB⟩)⟩
      · refine LV.mk ?_ ?_ ?_ ?_
        · intro _ _ _ _
          refine ⟨t, ?_, by omega⟩
          rw [r24, r21]
          simp only [vu_g, Nat.reduceEqDiff, reduceIte]
        · intro z; simp [cup_g] at z
        · intro z; simp [cup_g] at z
        · simp only [cup_g, Nat.reduceEqDiff, reduceIte]; exact hl.ltd
      · simp [cup_g]
    -- one of age
    have hst : 2 ≤ (c 0) := by have := h.s1; omega
    have q4 := h.bu hst
    have es : ¬ (σ 11 i 2) = 1 := fun z => by rw [h.est] at z; exact s1 ((nI_eq (b := 1) (by omega) (by omega)).mp z)
    have es' : ¬ (τ 15 i 0) = 1 := fun z => by rw [h.est'] at z; exact s1 ((nI_eq (b := 1) (by omega) (by omega)).mp z)
    refine br_v es ?_
    rw [r4, h.emx, h.eun, r7, hdl, r6, hw, h.ewn]
    by_cases ca : (τ 14 0 35) - ((τ 15 i 3) + nI (c 4)) ≤ 0
    rotate_left
    · refine br_f ca ?_
      obtain ⟨σ', τ', g1, g2, k1, k2, x1, x2, hN2, hR2, hC2, hM2⟩ := R_ack ok ok' hN hb h
      refine g1 _ (br_v es' ?_)
      show (((τ 14 0 35) - (τ 15 i 6)) ≤ 0 → _) ∧ _
      rw [h.emx']
      refine br_f ca (br_f (by decide) (g2 _ ⟨hN2, hK.f x1 x2, Or.inl ⟨rfl, rfl, _, hR2, hl.td ?_ ?_ ?_ ?_ (by omega), hB⟩⟩))
      · rw [hC2]; simp only [vu_g, Nat.reduceEqDiff, reduceIte]
      · rw [hC2]; simp only [vu_g, Nat.reduceEqDiff, reduceIte]
      · rw [hC2]; simp only [vu_g, Nat.reduceEqDiff, reduceIte]
      · rw [hM2]; simp only [vu_g, Nat.reduceEqDiff, reduceIte]
    refine br_t ca ?_
    obtain ⟨X, hX⟩ : ∃ X, X = (τ 14 0 35) - ((τ 15 i 3) + nI (c 2)) := ⟨_, rfl⟩
    rw [← hX]
    have hX0 : X = 0 ↔ (τ 14 0 35) = (τ 15 i 3) + nI (c 2) := by
      constructor
      · intro z; rw [hX] at z; grind
      · intro z; rw [hX, z]; grind
    obtain ⟨DU, hDU⟩ : ∃ DU : Prop, DU ↔ (X = 0 ∧ dl = 0 ∧ ((τ 14 0 36) &&& 1) = 0 ∧ wv = (c 8) ∧ (c 2) < (c 4)) := ⟨_, Iff.rfl⟩
    have q12 := h.wn6
    have hsp : spn ((τ 14 0 36)) (nI dl) = 0 ↔ dl = 0 ∧ ((τ 14 0 36) &&& 1) = 0 := by
      unfold spn
      rw [if_pos hsy]
      by_cases z : ((τ 14 0 36) &&& 1) = 0
      · rw [if_pos z, Int32.add_zero, Int32.add_zero]
        constructor
        · intro y; exact ⟨(nI_eq (b := 0) (by omega) (by omega)).mp y, z⟩
        · intro y; rw [y.1]; rfl
      · rw [if_neg z, Int32.add_zero, nI_1]
        constructor
        · intro y; exact absurd y (nI_ne0 (by omega) (by omega))
        · intro y; exact absurd y.2 z
    have exu : (τ 15 i 3) + nI (c 4) = (τ 15 i 3) + nI (c 2) ↔ (c 4) = (c 2) := so_9 _ (by omega) (by omega)
    have eux : 0 ≤ ((τ 15 i 3) + nI (c 2)) - ((τ 15 i 3) + nI (c 4)) ↔ ¬ (c 2) < (c 4) := by rw [← Int32.not_lt, so_7 _ (by omega) (by omega)]
    have mo : ∀ (Q : Int32 → St → Prop), (¬ X ≤ 0 → w14_fresh τ i (fun s => w14_acknowledgement_J151 s i Q)) → (X ≤ 0 → DU → w14_duplicate τ i (fun s => w14_acknowledgement_J151 s i Q)) → (X ≤ 0 → ¬ DU → w14_acknowledgement_J151 τ i Q) → w14_acknowledgement τ i Q := by
      intro Q hf hd hn
      refine br_v es' ?_
      show (((τ 14 0 35) - (τ 15 i 6)) ≤ 0 → _) ∧ _
      rw [h.emx']
      refine br_t ca (br_t rfl ?_)
      show (((τ 14 0 35) - (τ 15 i 4)) ≤ 0 → _) ∧ _
      rw [h.eun', ← hX]
      by_cases cb : X ≤ 0
      · refine br_t cb (br_t rfl ?_)
        have hd := hd cb
        have hn := hn cb
        rw [hw, h.ewn']
        by_cases cc : X = 0
        · refine br_u (hX0.mp cc) (s14_extent ?_)
          rw [hdl]
          by_cases cd : spn ((τ 14 0 36)) (nI dl) = 0
          · refine br_u cd ?_
            by_cases ce : wv = (c 8)
            · refine br_u (by rw [ce]) ?_
              by_cases cf : (c 2) < (c 4)
              · exact br_f (fun z => (eux.mp z) cf) (br_f (by decide) (hd (hDU.mpr ⟨cc, (hsp.mp cd).1, (hsp.mp cd).2, ce, cf⟩)))
              · exact br_t (eux.mpr cf) (br_t rfl (hn (fun z => cf (hDU.mp z).2.2.2.2)))
            · exact br_v (fun z => ce ((nI_eq (by omega) (by omega)).mp z)) (hn (fun z => ce (hDU.mp z).2.2.2.1))
          · exact br_v cd (hn (fun z => cd (hsp.mpr ⟨(hDU.mp z).2.1, (hDU.mp z).2.2.1⟩)))
        · exact br_v (fun z => cc (hX0.mpr z)) (hn (fun z => cc (hDU.mp z).1))
      · exact br_f cb (br_f (by decide) (hf cb))
    have co : ∀ (Q : Int32 → St → Prop), (DU → w11_takeAck_J182 σ i X 1 Q) → (¬ DU → w11_takeAck_J182 σ i X 0 Q) → (¬ X = 0 → (w11_takeAck_J182 σ i X 0 Q)) ∧ (X = 0 → ((¬ nI dl = 0 → (w11_takeAck_J182 σ i X 0 Q)) ∧ (nI dl = 0 → (w10_has σ 1 (fun r11 => ((¬ r11 = 0 → (w11_takeAck_J182 σ i X 0 Q)) ∧ (r11 = 0 → ((¬ nI wv = nI (c 8) → (w11_takeAck_J182 σ i X 0 Q)) ∧ (nI wv = nI (c 8) → (((τ 15 i 3) + nI (c 4) = (τ 15 i 3) + nI (c 2) → (w11_takeAck_J182 σ i X 0 Q)) ∧ (¬ (τ 15 i 3) + nI (c 4) = (τ 15 i 3) + nI (c 2) → (w11_takeAck_J182 σ i X 1 Q)))))))))))) := by
      intro Q hd hn
      by_cases cc : X = 0
      · refine br_u cc ?_
        by_cases cd : dl = 0
        · refine br_u (by rw [cd]; rfl) ?_
          show (((σ 10 0 5) &&& 1) = 0 → _) ∧ (¬ ((σ 10 0 5) &&& 1) = 0 → _)
          rw [r5]
          by_cases ce : ((τ 14 0 36) &&& 1) = 0
          · refine br_t ce (br_u rfl ?_)
            by_cases cf : wv = (c 8)
            · refine br_u (by rw [cf]) ?_
              by_cases cg : (c 2) < (c 4)
              · exact br_f (fun z => by have := exu.mp z; omega) (hd (hDU.mpr ⟨cc, cd, ce, cf, cg⟩))
              · exact br_t (exu.mpr (by omega)) (hn (fun z => cg (hDU.mp z).2.2.2.2))
            · exact br_v (fun z => cf ((nI_eq (by omega) (by omega)).mp z)) (hn (fun z => cf (hDU.mp z).2.2.2.1))
          · exact br_f ce (br_v (by decide) (hn (fun z => ce (hDU.mp z).2.2.1)))
        · exact br_v (nI_ne0 (by omega) (by omega)) (hn (fun z => cd (hDU.mp z).2.1))
      · exact br_v cc (hn (fun z => cc (hDU.mp z).1))
    have hL := hl.lv
    refine co _ (fun hdu => ?_) (fun hnd => ?_)
    · -- once more
      have hX1 : X = 0 := (hDU.mp hdu).1
      have hXle : X ≤ 0 := by rw [hX1]; decide
      refine br_t hXle (br_f (by decide) ?_)
      obtain ⟨σ1, τ1, g1, g2, k1, k2, x1, x2, hN1, hK1, c', hR1, e1, e2, e3, e4, e5, e6, e7, e8, e9, e10, e11, e12, e13⟩ := R_rep hi ok ok' hN hb hK h hst (hDU.mp hdu).2.2.2.2
      refine g1 _ ?_
      have ltd := hL.mtd
      have hS1 : RS σ1 τ1 := hS.f x1 x2 (by intro j; simp [mF])
      have hL1 : LV σ1 τ1 t i c' := hL.c (x1 _ _ _ (by simp [mF])) (x1 _ _ _ (by simp [mF])) (x1 _ _ _ (by simp [mF])) (x2 _ _ _ (by simp [mF])) e1 e7 e4 e2 e6 e5 e3 (by rw [e9]; rcases e13 with z | z <;> rw [z] <;> omega)
      have u1 : (τ1 15 i 4) = (τ 15 i 3) + nI (c 2) := by rw [hR1.eun', e3, x2 _ _ _ (by simp [mF])]
      have a1 : (τ1 14 0 35) = (τ 14 0 35) := x2 _ _ _ (by simp [mF])
      have w1 : (τ1 14 0 37) = nI wv := by rw [x2 _ _ _ (by simp [mF])]; exact hw
      have j := j_win (x2 := X) hi k1 hN1 hK1 hS1 w1 hw6 hR1 hL1 (by rw [e1]; exact hst) (by rw [e2, e6]; exact hB) (by rw [a1, u1, ← hX]; exact Int32.not_le.symm)
      obtain ⟨r, σ', hq, _, _, g⟩ := e11_takeAck_J207 hi k1 j
      exact g _ (mo _ (fun z => absurd hXle z) (fun _ _ => g2 _ hq) (fun _ z => absurd hdu z))
    · by_cases cb : X ≤ 0
      · refine br_t cb (br_t rfl ?_)
        have j := j_win (x2 := X) hi ok (hN.up (Nat.le_add_right b 4)) hK hS hw hw6 h hL hst hB (by rw [h.eun', ← hX]; exact Int32.not_le.symm)
        obtain ⟨r, σ', hq, _, _, g⟩ := e11_takeAck_J207 hi ok j
        exact g _ (mo _ (fun z => absurd cb z) (fun _ z => absurd z hnd) (fun _ _ => hq))
      · refine br_f cb ?_
        obtain ⟨y, y1, y2, y3, y4⟩ := fr_y (u := (c 2)) (x := (c 4)) (by omega) (by omega) (by rw [← hX]; exact cb) ca
        rw [← hX] at y4
        rw [r4, y4]
        obtain ⟨σ1, τ1, g1, g2, k1, k2, x1, x2, hN1, hK1, cw', rt', hR1, l1, l2, l3⟩ := R_renew hi ok ok' htt hN hK h hst y1 y2 y3
        rw [← y3] at g1
        refine g1 _ ?_
        have hS1 : RS σ1 τ1 := hS.f x1 x2 (by intro j; simp [mF])
        have hL1 : LV σ1 τ1 t i (crenew c y cw' rt') := by
          refine LV.mk ?_ ?_ ?_ ?_
          · intro _ _ _ _; exact ⟨t, l3, by omega⟩
          · intro z
            simp only [cup_g, Nat.reduceEqDiff, reduceIte] at z
            have := (q10 z).1
            omega
          · simp only [cup_g, Nat.reduceEqDiff, reduceIte]
            rw [l1]
            exact hL.m0
          · simp only [cup_g, Nat.reduceEqDiff, reduceIte]; exact hL.mtd
        have u1 : (τ1 15 i 4) = (τ 14 0 35) := by rw [hR1.eun', x2 15 i 3 (by simp [mF]), y3]; simp only [cup_g, Nat.reduceEqDiff, reduceIte]
        have a1 : (τ1 14 0 35) = (τ 14 0 35) := x2 _ _ _ (by simp [mF])
        have w1 : (τ1 14 0 37) = nI wv := by rw [x2 _ _ _ (by simp [mF])]; exact hw
        have j := j_win (x2 := nI y) hi k1 (hN1.up (Nat.le_add_right b 4)) hK1 hS1 w1 hw6 hR1 hL1 (by simp only [cup_g, Nat.reduceEqDiff, reduceIte]; exact hst) (by simp only [cup_g, Nat.reduceEqDiff, reduceIte]; exact hB) (by
          rw [a1, u1, Int32.sub_self]
          constructor
          · intro z; exact absurd z (nI_nlt (b := 0) (by omega) (by omega))
          · intro z; exact absurd (Int32.le_refl _) z)
        obtain ⟨r, σ', hq, _, _, g⟩ := e11_takeAck_J207 hi k1 j
        exact g _ (mo _ (fun _ => g2 _ hq) (fun z _ => absurd z cb) (fun z _ => absurd z cb))
  obtain ⟨r, σ', h, k1, f1, g1⟩ := e11_takeAck hi ok hj
  obtain ⟨r', τ', h, k2, f2, g2⟩ := e14_acknowledgement hi ok' h
  exact ⟨r, σ', r', τ', g1, g2, k1, k2, f1, f2, h⟩
