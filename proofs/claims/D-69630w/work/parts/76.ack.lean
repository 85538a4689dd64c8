/-! an acknowledgement: the tail -/
set_option maxRecDepth 100000
def RC0 (σ τ : St) (i : Nat) : Prop := (σ 11 i 2) = 0 ∧ (τ 15 i 0) = 0 ∧ (σ 11 i 29) = 0 ∧ (σ 11 i 33) = 0 ∧ (τ 15 i 0) = 0 ∧ (σ 42 i) = (τ 72 i) ∧ (σ 43 i) = (τ 73 i) ∧ ∃ p : Nat, (τ 15 i 27) = nI p ∧ p ≤ 65535
/-- what holds of the life timer while a segment is looked at -/
def LV (σ τ : St) (t i : Nat) (c : CK) : Prop := ((c 0) = 2 → (c 17) = 0 → (c 3) = (c 1) + (c 5) → (c 4) = (c 2) → ∃ ac : Nat, (σ 11 i 32) = nI ac ∧ (t ≤ ac + 30000 ∧ ac ≤ t)) ∧ ((c 0) = 4 ∨ (c 0) = 6 → (σ 11 i 33) ≠ 0 ∧ ∃ sn : Nat, (τ 15 i 45) = nI sn ∧ (σ 11 i 31) = nI (sn + 60000) ∧ sn ≤ t ∧ t ≤ sn + 60000) ∧ ((c 0) ≠ 2 → (c 0) ≠ 4 → (c 0) ≠ 6 → (σ 11 i 33) = 0) ∧ (4096 - (c 14) < (c 15) + 2048)
theorem LV.m2 {σ τ : St} {t i : Nat} {c : CK} (h : LV σ τ t i c) : (c 0) = 2 → (c 17) = 0 → (c 3) = (c 1) + (c 5) → (c 4) = (c 2) → ∃ ac : Nat, (σ 11 i 32) = nI ac ∧ (t ≤ ac + 30000 ∧ ac ≤ t) := h.1
theorem LV.m4 {σ τ : St} {t i : Nat} {c : CK} (h : LV σ τ t i c) : (c 0) = 4 ∨ (c 0) = 6 → (σ 11 i 33) ≠ 0 ∧ ∃ sn : Nat, (τ 15 i 45) = nI sn ∧ (σ 11 i 31) = nI (sn + 60000) ∧ sn ≤ t ∧ t ≤ sn + 60000 := h.2.1
theorem LV.m0 {σ τ : St} {t i : Nat} {c : CK} (h : LV σ τ t i c) : (c 0) ≠ 2 → (c 0) ≠ 4 → (c 0) ≠ 6 → (σ 11 i 33) = 0 := h.2.2.1
theorem LV.mtd {σ τ : St} {t i : Nat} {c : CK} (h : LV σ τ t i c) : 4096 - (c 14) < (c 15) + 2048 := h.2.2.2
theorem LV.mk {σ τ : St} {t i : Nat} {c : CK} (m2 : (c 0) = 2 → (c 17) = 0 → (c 3) = (c 1) + (c 5) → (c 4) = (c 2) → ∃ ac : Nat, (σ 11 i 32) = nI ac ∧ (t ≤ ac + 30000 ∧ ac ≤ t)) (m4 : (c 0) = 4 ∨ (c 0) = 6 → (σ 11 i 33) ≠ 0 ∧ ∃ sn : Nat, (τ 15 i 45) = nI sn ∧ (σ 11 i 31) = nI (sn + 60000) ∧ sn ≤ t ∧ t ≤ sn + 60000) (m0 : (c 0) ≠ 2 → (c 0) ≠ 4 → (c 0) ≠ 6 → (σ 11 i 33) = 0) (mtd : 4096 - (c 14) < (c 15) + 2048) : LV σ τ t i c := ⟨m2, m4, m0, mtd⟩
theorem RCl.lv {σ τ : St} {t i : Nat} {c : CK} (h : RCl σ τ t i c) : LV σ τ t i c := by
  refine LV.mk (fun a b d e => ?_) h.l4 h.l0 h.ltd
  obtain ⟨ac, h1, h2, h3⟩ := h.l2' a ((h.l2 a).mpr ⟨b, d, e⟩)
  exact ⟨ac, h1, h3⟩
/-- a connection that is not closed, between the calls; a bound for its numbers -/
def RCB (σ τ : St) (t i B : Nat) : Prop := ∃ c : CK, RCn σ τ t i c ∧ RCl σ τ t i c ∧ (c 1) + (c 5) ≤ B
/-- a connection while a segment is looked at -/
def RCM (σ τ : St) (t i B : Nat) : Prop := ∃ c : CK, RCn σ τ t i c ∧ LV σ τ t i c ∧ 2 ≤ (c 0) ∧ (c 1) + (c 5) ≤ B
def AckP (t l b i B : Nat) (r : Int32) (σ' : St) (r' : Int32) (τ' : St) : Prop := NB σ' τ' t l b ∧ RK σ' τ' ∧ (r = 0 ∧ r' = 0 ∧ RCB σ' τ' t i B ∨ r = 1 ∧ r' = 0 ∧ RC0 σ' τ' i ∨ r = 1 ∧ r' = 1 ∧ RCM σ' τ' t i B)
theorem j_fin {σ τ : St} {t l b i B : Nat} {c : CK} (hN : NB σ τ t l b) (hK : RK σ τ) (h : RCn σ τ t i c) (hL : LV σ τ t i c) (hst : 2 ≤ (c 0)) (hB : (c 1) + (c 5) ≤ B) :
    w11_takeAck_J283 σ i (fun r σ' => w14_acknowledgement_J235 τ i (fun r' τ' => AckP t l b i B r σ' r' τ')) := by
  obtain ⟨s0, o0, n1, n2, n3, nl, n4, n5, n6⟩ := id hN
  have now1 : (σ 2 0 4) = nI t := n1.2.1.1
  have now2 : (τ 14 0 10) = nI t := n1.2.1.2.1
  have q1 := h.ua
  have q2 := h.ax
  have q3 := h.xe
  have q4 := h.bu hst
  have q5 := h.f1
  have q6 := h.d1
  have q7 := h.bb
  have q8 := h.s8
  have q9 := h.fst
  have q10 := h.tin
  have eend : (σ 11 i 26) + (σ 13 i 1) = (τ 15 i 3) + nI ((c 1) + (c 5)) := by rw [h.eba, h.eL, so_5]
  have ebeh : (τ 15 i 29) + (τ 15 i 26) + (τ 15 i 28) = (τ 15 i 3) + nI ((c 1) + (c 5)) := by
    exact h.beh
  have k1 : (0 < ((τ 15 i 3) + nI (c 2)) - ((τ 15 i 3) + nI ((c 1) + (c 5)))) ↔ (c 1) + (c 5) < (c 2) := so_8 _ (by omega) (by omega)
  have k2 : ((τ 15 i 3) + nI (c 2) = (τ 15 i 3) + nI ((c 1) + (c 5)) + 1) ↔ (c 2) = (c 1) + (c 5) + 1 := by rw [so_6]; exact so_9 _ (by omega) (by omega)
  have sc : ∀ k : Nat, k ≤ 8 → (c 0) ≠ k → ¬ (σ 11 i 2) = nI k := fun k hk hne z => by
    rw [h.est] at z
    exact hne ((nI_eq (by omega) (by omega)).mp z)
  have sm : ∀ k : Nat, k ≤ 8 → (c 0) ≠ k → ¬ (τ 15 i 0) = nI k := fun k hk hne z => by
    rw [h.est'] at z
    exact hne ((nI_eq (by omega) (by omega)).mp z)
  -- nothing is done
  have m0 : w14_acknowledgement_J260 τ i 0 (fun r' τ' => AckP t l b i B 1 σ r' τ') := br_t rfl (br_t rfl (br_t rfl ⟨hN, hK, Or.inr (Or.inr ⟨rfl, rfl, c, h, hL, hst, hB⟩)⟩))
  show bo ((σ 11 i 28)) → _
  intro _
  by_cases hf : (c 18) = 0
  · refine br_t (by rw [h.ef, hf]; rfl) (fun _ => br_t (by rw [h.ef', hf]; rfl) m0)
  have hf1 : (c 18) = 1 := by omega
  refine br_f (by rw [h.ef, hf1]; decide) ?_
  have mo : ∀ (Q : Int32 → St → Prop), ((c 2) = (c 1) + (c 5) + 1 → w14_acknowledgement_J260 τ i 1 Q) → (¬ (c 2) = (c 1) + (c 5) + 1 → w14_acknowledgement_J260 τ i 0 Q) → w14_acknowledgement_J235 τ i Q := by
    intro Q h1 h0 _
    refine br_f (by rw [h.ef', hf1]; decide) ?_
    show (¬ (τ 15 i 4) = (τ 15 i 29) + (τ 15 i 26) + (τ 15 i 28) + 1 → _) ∧ _
    rw [ebeh, h.eun']
    by_cases z : (c 2) = (c 1) + (c 5) + 1
    · exact br_u (k2.mpr z) (h1 z)
    · exact br_v (fun q => z (k2.mp q)) (h0 z)
  show ((σ 11 i 9) - ((σ 11 i 26) + (σ 13 i 1)) ≤ 0 → _) ∧ _
  rw [eend, h.eun]
  by_cases hu : (c 2) = (c 1) + (c 5) + 1
  rotate_left
  · refine br_t (Int32.not_lt.mp (fun z => by have := k1.mp z; omega)) (mo _ (fun z => absurd z hu) (fun _ => m0))
  refine br_f (Int32.not_le.mpr (k1.mpr (by omega))) ?_
  have htm : (σ 11 i 29) = 0 := by
    by_cases z : (σ 11 i 29) = 0
    · exact z
    · have := q10 z hst
      omega
  have e60 : nI t + 60000 = nI (t + 60000) := nI_add t 60000
  by_cases hs3 : (c 0) = 3
  · have es : (σ 11 i 2) = 3 := by rw [h.est, hs3]; rfl
    have es' : (τ 15 i 0) = 3 := by rw [h.est', hs3]; rfl
    refine br_u es (fun s1 e1 s2 e2 => ?_)
    show ∀ σ3, σ3 = up3 s2 11 i 31 ((s2 2 0 4) + 60000) → _
    have nw : (s2 2 0 4) = nI t := by rw [e2, up3_g, if_neg (by omega), e1, up3_g, if_neg (by omega)]; exact now1
    rw [nw, e60]
    intro s4 e4
    have hC : s4 11 i = (va_up (va_up (va_up (σ 11 i) 2 (nI 4)) 33 1) 31 (nI (t + 60000))) := by rw [e4, up3_r, if_pos ⟨rfl, rfl⟩, e2, up3_r, if_pos ⟨rfl, rfl⟩, e1, up3_r, if_pos ⟨rfl, rfl⟩]; rfl
    have F : Fr (mF [] [] [(11, [2, 31, 33])] []) σ s4 := by rw [e4, e2, e1]; exact ((fr_u rfl).up rfl).up rfl
    refine mo _ (fun _ => br_f (by decide) (br_u es' (fun t1 e5 t2 e6 => ?_))) (fun z => absurd hu z)
    have nw2 : (t1 14 0 10) = nI t := by rw [e5, up3_g, if_neg (by omega)]; exact now2
    rw [nw2] at e6
    have hM : t2 15 i = (va_up (va_up (τ 15 i) 0 (nI 4)) 45 (nI t)) := by rw [e6, up3_r, if_pos ⟨rfl, rfl⟩, e5, up3_r, if_pos ⟨rfl, rfl⟩]; rfl
    have G : Fr (mF [] [] [(15, [0, 45])] []) τ t2 := by rw [e6, e5]; exact (fr_u rfl).up rfl
    refine ⟨hN.f F G, hK.f F G, Or.inr (Or.inr ⟨rfl, rfl, _, h.fin46 (Or.inl ⟨hs3, rfl⟩) hu hC hM (crows.f F) (mrows.f G), ?_, ?_, hB⟩)⟩
    · refine LV.mk ?_ ?_ ?_ ?_
      · intro z; exact absurd z (by simp [cup_g])
      · intro _
        rw [hC, hM]
        simp only [vu_g, Nat.reduceEqDiff, reduceIte]
        exact ⟨by decide, t, rfl, rfl, Nat.le_refl _, by omega⟩
      · intro _ z; exact absurd z (by simp [cup_g])
      · simp only [cup_g, Nat.reduceEqDiff, reduceIte]; exact hL.mtd
    · simp [cup_g]
  refine br_v (sc 3 (by omega) hs3) ?_
  by_cases hs5 : (c 0) = 5
  · have es : (σ 11 i 2) = 5 := by rw [h.est, hs5]; rfl
    have es' : (τ 15 i 0) = 5 := by rw [h.est', hs5]; rfl
    refine br_u es (fun s1 e1 s2 e2 s3 e3 => ?_)
    show ∀ σ3, σ3 = up3 s3 11 i 31 ((s3 2 0 4) + 60000) → _
    have nw : (s3 2 0 4) = nI t := by rw [e3, up3_g, if_neg (by omega), e2, up3_g, if_neg (by omega), e1, up3_g, if_neg (by omega)]; exact now1
    rw [nw, e60]
    intro s4 e4
    have z29 : va_up (σ 11 i) 2 6 29 = 0 := by rw [vu_g, if_neg (by decide)]; exact htm
    have hC : s4 11 i = (va_up (va_up (va_up (σ 11 i) 2 (nI 6)) 33 1) 31 (nI (t + 60000))) := by rw [e4, up3_r, if_pos ⟨rfl, rfl⟩, e3, up3_r, if_pos ⟨rfl, rfl⟩, e2, up3_r, if_pos ⟨rfl, rfl⟩, e1, up3_r, if_pos ⟨rfl, rfl⟩, vu_eq z29]; rfl
    have F : Fr (mF [] [] [(11, [2, 29, 31, 33])] []) σ s4 := by rw [e4, e3, e2, e1]; exact (((fr_u rfl).up rfl).up rfl).up rfl
    refine mo _ (fun _ => br_f (by decide) (br_v (sm 3 (by omega) hs3) (br_f (by decide) (br_u es' (fun t1 e5 t2 e6 => ?_))))) (fun z => absurd hu z)
    have nw2 : (t1 14 0 10) = nI t := by rw [e5, up3_g, if_neg (by omega)]; exact now2
    rw [nw2] at e6
    have hM : t2 15 i = (va_up (va_up (τ 15 i) 0 (nI 6)) 45 (nI t)) := by rw [e6, up3_r, if_pos ⟨rfl, rfl⟩, e5, up3_r, if_pos ⟨rfl, rfl⟩]; rfl
    have G : Fr (mF [] [] [(15, [0, 45])] []) τ t2 := by rw [e6, e5]; exact (fr_u rfl).up rfl
    refine ⟨hN.f F G, hK.f F G, Or.inr (Or.inr ⟨rfl, rfl, _, h.fin46 (Or.inr ⟨hs5, rfl⟩) hu hC hM (crows.f F) (mrows.f G), ?_, ?_, hB⟩)⟩
    · refine LV.mk ?_ ?_ ?_ ?_
      · intro z; exact absurd z (by simp [cup_g])
      · intro _
        rw [hC, hM]
        simp only [vu_g, Nat.reduceEqDiff, reduceIte]
        exact ⟨by decide, t, rfl, rfl, Nat.le_refl _, by omega⟩
      · intro _ _ z; exact absurd z (by simp [cup_g])
      · simp only [cup_g, Nat.reduceEqDiff, reduceIte]; exact hL.mtd
    · simp [cup_g]
  refine br_v (sc 5 (by omega) hs5) ?_
  by_cases hs8 : (c 0) = 8
  · have es : (σ 11 i 2) = 8 := by rw [h.est, hs8]; rfl
    have es' : (τ 15 i 0) = 8 := by rw [h.est', hs8]; rfl
    refine br_u es (fun s1 e1 s2 e2 s3 e3 => ?_)
    have F : Fr (mF [] [] [(11, [2, 29, 33])] []) σ s3 := by rw [e3, e2, e1]; exact ((fr_u rfl).up rfl).up rfl
    refine mo _ (fun _ => br_f (by decide) (br_v (sm 3 (by omega) hs3) (br_f (by decide) (br_v (sm 5 (by omega) hs5) (br_f (by decide) (br_u es' (fun t1 e5 t2 e6 => ?_))))))) (fun z => absurd hu z)
    have G : Fr (mF [] [] [(15, [0, 21])] []) τ t2 := by rw [e6, e5]; exact (fr_u rfl).up rfl
    refine ⟨hN.f F G, hK.f F G, Or.inr (Or.inl ⟨rfl, rfl, ?_⟩)⟩
    have x1 : (s3 42 i) = (t2 72 i) := by rw [F.row (k := 42) fun _ => rfl, G.row (k := 72) fun _ => rfl]; exact h.erow
    have x3 : (s3 43 i) = (t2 73 i) := by rw [F.row (k := 43) fun _ => rfl, G.row (k := 73) fun _ => rfl]; exact h.ethr
    have x2 : ∃ p : Nat, (t2 15 i 27) = nI p ∧ p ≤ 65535 := ⟨(c 7), by rw [G _ _ _ rfl]; exact h.epl, by have := h.pl6; omega⟩
    refine ⟨?_, ?_, ?_, ?_, ?_, x1, x3, x2⟩
    · rw [e3, e2, e1]; simp [up3_g]
    · rw [e6, e5]; simp [up3_g]
    · rw [e3, e2, e1]; simp [up3_g]
    · rw [e3, e2, e1]; simp [up3_g]
    · rw [e6, e5]; simp [up3_g]
  refine br_v (sc 8 (by omega) hs8) ?_
  exact mo _ (fun _ => br_f (by decide) (br_v (sm 3 (by omega) hs3) (br_f (by decide) (br_v (sm 5 (by omega) hs5) (br_f (by decide) (br_v (sm 8 (by omega) hs8) ⟨hN, hK, Or.inr (Or.inr ⟨rfl, rfl, c, h, hL, hst, hB⟩)⟩)))))) (fun z => absurd hu z)
