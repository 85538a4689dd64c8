/-! data that came: the relation -/
set_option maxRecDepth 100000
theorem RCn.dat {σ τ σ' τ' : St} {t i h' : Nat} {c : CK} {o1 o2 o1' a1 a1' fc fn fn' nx : Int32} {B T : Nat → Int32} (h : RCn σ τ t i c) (hst : (c 0) = 2 ∨ (c 0) = 3 ∨ (c 0) = 4) (hh : h' ≤ 4096)
    (hC : σ' 11 i = (va_up (va_up (va_up (va_up (va_up (va_up (σ 11 i) 22 o1) 32 a1) 22 o2) 23 fc) 24 fn) 6 nx)) (hM : τ' 15 i = (va_up (va_up (va_up (va_up (va_up (va_up (τ 15 i) 39 o1') 44 a1') 36 nx) 40 fc) 42 fn') 39 o2))
    (h12 : σ' 12 i = (va_up (σ 12 i) 2 (nI h'))) (h13 : σ' 13 i = σ 13 i) (h42 : σ' 42 i = B) (h43 : σ' 43 i = T) (h44 : σ' 44 i = σ 44 i) (h90 : σ' 90 (i + 1) = σ 90 (i + 1)) (g71 : τ' 71 i = τ 71 i) (g72 : τ' 72 i = B) (g73 : τ' 73 i = T) (g51 : τ' 51 0 = τ 51 0)
    (n1 : nx = (τ 15 i 35) + nI h') (n2 : fc ≠ 0 → fn = fn') (n3 : ∃ ac : Nat, a1 = nI ac ∧ a1' = nI ac ∧ ac ≤ t) : RCn σ' τ' t i (cup c 14 h') := by
  have q : (τ 15 i 41) = 0 := by rw [h.eft, if_neg (by omega)]
  have m1 : nx = (τ 15 i 35) + nI h' + (τ 15 i 41) := by rw [q, n1]; grind
  have m2 : 2 ≤ (c 0) → ∃ ac : Nat, a1 = nI ac ∧ a1' = nI ac ∧ ac ≤ t := fun _ => n3
  obtain ⟨est, est', s1, s8, eip, ept, eiss, enx, ews, ewa, eun, eun', eat, eat', emx, emx', eba, eba', ua, ax, xe, syn, sy2, bu, bb, ewn, ewn', wn6, ems, ems', ms1, ms2, ecw, ecw', cw1, cw2, ess, ess', ss1, ss2, ert, ert', rt1, rt2, etr, etr', tr8, edu, erc, ehd, ehd', hd4, eft, etd, etd', td4, esk, esk', sk6, eow, efc, efn, eL, ehl, ebl, hL, bml, bmb, bmL, h5, epl, pl6, eab, eal, L6, ed, ed', d1, ef, ef', f1, fst, fin, eto, etm, tin, eti, etn, ets, eme, esr, eac, erow, ethr⟩ := id (h)
  apply RCn.mk <;> (try rw [hC]) <;> (try rw [hM]) <;> (try rw [h12]) <;> (try rw [h13]) <;> (try rw [h42]) <;> (try rw [h43]) <;> (try rw [h44]) <;> (try rw [h90]) <;> (try rw [g71]) <;> (try rw [g72]) <;> (try rw [g73]) <;> (try rw [g51]) <;> (try simp only [vu_g, cup_g, Nat.reduceEqDiff, reduceIte]) <;> (try assumption)
  all_goals rfl
/-- the FIN of the other side is taken -/
theorem RCn.eof {σ τ σ' τ' : St} {t i st' : Nat} {c : CK} {v w z : Int32} (h : RCn σ τ t i c) (hst : (c 0) = 2 ∧ st' = 7 ∨ (c 0) = 3 ∧ st' = 5 ∨ (c 0) = 4 ∧ st' = 6)
    (hC : σ' 11 i = (va_up (va_up (va_up (va_up (va_up (σ 11 i) 6 ((σ 11 i 6) + 1)) 22 1) 2 (nI st')) 33 v) 31 w)) (hM : τ' 15 i = (va_up (va_up (va_up (va_up (va_up (τ 15 i) 41 1) 36 ((τ 15 i 36) + 1)) 39 1) 0 (nI st')) 45 z))
    (hr : crows σ σ' i) (hr' : mrows τ τ' i) : RCn σ' τ' t i (cup c 0 st') := by
  have q3 := h.fst
  have q4 := h.bu
  have q6 := h.fin
  have n1 : 1 ≤ st' := by omega
  have n2 : st' ≤ 8 := by omega
  have n3 : st' = 1 → (c 2) = 0 ∧ (c 3) = 1 ∧ (c 4) = 1 ∧ (c 1) = 1 ∧ (c 5) = 0 ∧ (c 17) = 0 ∧ (c 18) = 0 := by omega
  have n4 : st' = 1 → (σ 11 i 18) = 0 ∧ (σ 11 i 19) = 0 := fun z => absurd z (by omega)
  have n5 : 2 ≤ st' → (c 1) ≤ (c 2) := fun _ => q4 (by omega)
  have n6 : (1 : Int32) = if 5 ≤ st' then 1 else 0 := by rw [if_pos (by omega)]
  have n7 : (c 18) = 1 ↔ st' = 3 ∨ st' = 4 ∨ st' = 5 ∨ st' = 6 ∨ st' = 8 := by omega
  have n8 : st' = 4 ∨ st' = 6 → (c 2) = (c 1) + (c 5) + 1 ∧ (σ 11 i 29) = 0 := fun _ => q6 (by omega)
  have n9 : (σ 11 i 29) ≠ 0 → 2 ≤ st' → (c 2) < (c 1) + (c 5) + (c 17) := fun z _ => h.tin z (by omega)
  have n10 : 2 ≤ st' → ∃ ac : Nat, (σ 11 i 32) = nI ac ∧ (τ 15 i 44) = nI ac ∧ ac ≤ t := fun _ => h.eac (by omega)
  have n11 : (σ 11 i 6) + 1 = (τ 15 i 36) + 1 := by rw [h.enx]
  have n12 : (τ 15 i 36) + 1 = (τ 15 i 35) + nI (c 14) + 1 := by
    have := h.ehd'
    rw [h.eft, if_neg (by omega)] at this
    rw [this]; grind
  obtain ⟨h12, h13, h42, h43, h44, h90⟩ := hr
  obtain ⟨g71, g72, g73, g51⟩ := hr'
  obtain ⟨est, est', s1, s8, eip, ept, eiss, enx, ews, ewa, eun, eun', eat, eat', emx, emx', eba, eba', ua, ax, xe, syn, sy2, bu, bb, ewn, ewn', wn6, ems, ems', ms1, ms2, ecw, ecw', cw1, cw2, ess, ess', ss1, ss2, ert, ert', rt1, rt2, etr, etr', tr8, edu, erc, ehd, ehd', hd4, eft, etd, etd', td4, esk, esk', sk6, eow, efc, efn, eL, ehl, ebl, hL, bml, bmb, bmL, h5, epl, pl6, eab, eal, L6, ed, ed', d1, ef, ef', f1, fst, fin, eto, etm, tin, eti, etn, ets, eme, esr, eac, erow, ethr⟩ := id (h)
  apply RCn.mk <;> (try rw [hC]) <;> (try rw [hM]) <;> (try rw [h12]) <;> (try rw [h13]) <;> (try rw [h42]) <;> (try rw [h43]) <;> (try rw [h44]) <;> (try rw [h90]) <;> (try rw [g71]) <;> (try rw [g72]) <;> (try rw [g73]) <;> (try rw [g51]) <;> (try simp only [vu_g, cup_g, Nat.reduceEqDiff, reduceIte]) <;> (try assumption)
  all_goals rfl
/-- the tail: whether the FIN is reached -/
abbrev dtl (σ9 : St) (o0 : Nat) (Q : St → Prop) : Prop := bo (σ9 11 o0 23) → (((σ9 11 o0 23) = 0 → Q σ9) ∧ (¬ (σ9 11 o0 23) = 0 → (((σ9 11 o0 24) = (σ9 11 o0 6) → (∀ σ10, σ10 = up3 σ9 11 o0 6 ((σ9 11 o0 6) + 1) → (∀ σ11, σ11 = up3 σ10 11 o0 22 1 → ((¬ (σ11 11 o0 2) = 2 → ((¬ (σ11 11 o0 2) = 3 → (w11_wait2 σ11 o0 (fun σ12 => (Q σ12)))) ∧ ((σ11 11 o0 2) = 3 → (∀ σ13, σ13 = up3 σ11 11 o0 2 5 → (Q σ13))))) ∧ ((σ11 11 o0 2) = 2 → (∀ σ14, σ14 = up3 σ11 11 o0 2 7 → (∀ σ15, σ15 = up3 σ14 11 o0 33 0 → (Q σ15)))))))) ∧ (¬ (σ9 11 o0 24) = (σ9 11 o0 6) → Q σ9))))
def DatP (t l b i B : Nat) (σ' τ' : St) : Prop := NB σ' τ' t l b ∧ RK σ' τ' ∧ ∃ c : CK, RCn σ' τ' t i c ∧ LV σ' τ' t i c ∧ 2 ≤ (c 0) ∧ (c 1) + (c 5) ≤ B ∧ ((c 0) = 6 → (τ' 15 i 45) = nI t)
theorem j_eof {σ τ : St} {t l b i B : Nat} {c : CK} (hN : NB σ τ t l b) (hK : RK σ τ) (h : RCn σ τ t i c) (hL : LV σ τ t i c) (hB : (c 1) + (c 5) ≤ B) (hst : (c 0) = 2 ∨ (c 0) = 3 ∨ (c 0) = 4) :
    dtl σ i (fun σ' => w14_arrived_J246 τ i (fun τ' => DatP t l b i B σ' τ')) := by
  obtain ⟨s0, o0, n1, n2, n3, nl, n4, n5, n6⟩ := id hN
  have now1 : (σ 2 0 4) = nI t := n1.2.1.1
  have now2 : (τ 14 0 10) = nI t := n1.2.1.2.1
  have q2 : (τ 15 i 41) = 0 := by rw [h.eft, if_neg (by omega)]
  have q6 := h.fin
  have done : DatP t l b i B σ τ := ⟨hN, hK, c, h, hL, by omega, hB, fun z => by omega⟩
  intro _
  by_cases c1 : (σ 11 i 23) = 0
  · exact br_t c1 (fun _ => br_t (by rw [← h.efc]; exact c1) done)
  refine br_f c1 ?_
  have efn := h.efn c1
  have mo : ∀ (Q : St → Prop), ((σ 11 i 24) = (σ 11 i 6) → ∀ σ14, σ14 = up3 τ 15 i 41 1 → (∀ σ15, σ15 = up3 σ14 15 i 36 ((σ14 15 i 36) + 1) → (∀ σ16, σ16 = up3 σ15 15 i 39 1 → ((¬ (σ16 15 i 0) = 2 → ((¬ (σ16 15 i 0) = 3 → (∀ σ17, σ17 = up3 σ16 15 i 0 6 → (∀ σ18, σ18 = up3 σ17 15 i 45 (σ17 14 0 10) → (Q σ18)))) ∧ ((σ16 15 i 0) = 3 → (∀ σ19, σ19 = up3 σ16 15 i 0 5 → (∀ σ20, σ20 = up3 σ19 15 i 45 (σ19 14 0 10) → (Q σ20)))))) ∧ ((σ16 15 i 0) = 2 → (∀ σ21, σ21 = up3 σ16 15 i 0 7 → (Q σ21))))))) → (¬ (σ 11 i 24) = (σ 11 i 6) → Q τ) → w14_arrived_J246 τ i Q := by
    intro Q h1 h0 _
    refine br_f (by rw [← h.efc]; exact c1) (fun _ => br_u q2 ?_)
    by_cases c2 : (σ 11 i 24) = (σ 11 i 6)
    · exact br_u (by rw [← efn, ← h.enx]; exact c2.symm) (h1 c2)
    · exact br_v (by rw [← efn, ← h.enx]; exact fun z => c2 z.symm) (h0 c2)
  by_cases c2 : (σ 11 i 24) = (σ 11 i 6)
  rotate_left
  · exact br_f c2 (mo _ (fun z => absurd z c2) (fun _ => done))
  refine br_t c2 (fun s1 e1 s2 e2 => ?_)
  have r2 : s2 11 i = (va_up (va_up (σ 11 i) 6 ((σ 11 i 6) + 1)) 22 1) := by rw [e2, up3_r, if_pos ⟨rfl, rfl⟩, e1, up3_r, if_pos ⟨rfl, rfl⟩]
  have v2 : s2 11 i 2 = nI (c 0) := by rw [r2]; simp only [vu_g, Nat.reduceEqDiff, reduceIte]; exact h.est
  have nw2 : s2 2 0 4 = nI t := by rw [e2, up3_g, if_neg (by omega), e1, up3_g, if_neg (by omega)]; exact now1
  have F2 : Fr (mF [] [] [(11, [6, 22])] []) σ s2 := by rw [e2, e1]; exact (fr_u rfl).up rfl
  generalize ht2 : up3 (up3 (up3 τ 15 i 41 1) 15 i 36 ((τ 15 i 36) + 1)) 15 i 39 1 = t2
  have G2 : Fr (mF [] [] [(15, [36, 39, 41])] []) τ t2 := by rw [← ht2]; exact ((fr_u rfl).up rfl).up rfl
  have m2 : t2 15 i = (va_up (va_up (va_up (τ 15 i) 41 1) 36 ((τ 15 i 36) + 1)) 39 1) := by rw [← ht2, up3_r, if_pos ⟨rfl, rfl⟩, up3_r, if_pos ⟨rfl, rfl⟩, up3_r, if_pos ⟨rfl, rfl⟩]
  have u2 : t2 15 i 0 = nI (c 0) := by rw [m2]; simp only [vu_g, Nat.reduceEqDiff, reduceIte]; exact h.est'
  have nwt : t2 14 0 10 = nI t := by rw [G2 _ _ _ rfl]; exact now2
  have mo2 : ∀ (Q : St → Prop), ((¬ (t2 15 i 0) = 2 → ((¬ (t2 15 i 0) = 3 → (∀ σ17, σ17 = up3 t2 15 i 0 6 → (∀ σ18, σ18 = up3 σ17 15 i 45 (σ17 14 0 10) → (Q σ18)))) ∧ ((t2 15 i 0) = 3 → (∀ σ19, σ19 = up3 t2 15 i 0 5 → (∀ σ20, σ20 = up3 σ19 15 i 45 (σ19 14 0 10) → (Q σ20)))))) ∧ ((t2 15 i 0) = 2 → (∀ σ21, σ21 = up3 t2 15 i 0 7 → (Q σ21)))) → w14_arrived_J246 τ i Q := by
    intro Q hq
    refine mo Q (fun _ u1 d1 u2 d2 u3 d3 => ?_) (fun z => absurd c2 z)
    have b36 : u1 15 i 36 = (τ 15 i 36) := by rw [d1, up3_g, if_neg (by omega)]
    rw [b36] at d2
    have : u3 = t2 := by rw [d3, d2, d1, ht2]
    rw [this]
    exact hq
  have e60 : nI t + 60000 = nI (t + 60000) := nI_add t 60000
  by_cases s2' : (c 0) = 2
  · refine br_u (by rw [v2, s2']; rfl) (fun s3 e3 s4 e4 => ?_)
    have F4 : Fr (mF [] [] [(11, [2, 6, 22, 33])] []) σ s4 := by rw [e4, e3]; exact ((F2.sub (mF_sub rfl sub_nil rfl sud_nil)).up rfl).up rfl
    have r4 : s4 11 i = (va_up (va_up (va_up (va_up (σ 11 i) 6 ((σ 11 i 6) + 1)) 22 1) 2 (nI 7)) 33 0) := by rw [e4, up3_r, if_pos ⟨rfl, rfl⟩, e3, up3_r, if_pos ⟨rfl, rfl⟩, r2]; rfl
    have x31 : (va_up (va_up (va_up (va_up (σ 11 i) 6 ((σ 11 i 6) + 1)) 22 1) 2 (nI 7)) 33 0) 31 = (σ 11 i 31) := by simp only [vu_g, Nat.reduceEqDiff, reduceIte]
    refine mo2 _ (br_u (by rw [u2, s2']; rfl) (fun t3 d3 => ?_))
    have G3 : Fr (mF [] [] [(15, [0, 36, 39, 41])] []) τ t3 := by rw [d3]; exact (G2.sub (mF_sub rfl sub_nil rfl sud_nil)).up rfl
    have m3 : t3 15 i = (va_up (va_up (va_up (va_up (τ 15 i) 41 1) 36 ((τ 15 i 36) + 1)) 39 1) 0 (nI 7)) := by rw [d3, up3_r, if_pos ⟨rfl, rfl⟩, m2]; rfl
    have x45 : (va_up (va_up (va_up (va_up (τ 15 i) 41 1) 36 ((τ 15 i 36) + 1)) 39 1) 0 (nI 7)) 45 = (τ 15 i 45) := by simp only [vu_g, Nat.reduceEqDiff, reduceIte]
    refine ⟨hN.f F4 G3, hK.f F4 G3, _, h.eof (st' := 7) (v := 0) (w := (σ 11 i 31)) (z := (τ 15 i 45)) (Or.inl ⟨s2', rfl⟩) (by rw [vu_eq x31]; exact r4) (by rw [vu_eq x45]; exact m3) (crows.f F4) (mrows.f G3), ?_, by simp [cup_g], hB, fun z => by simp [cup_g] at z⟩
    refine LV.mk ?_ ?_ ?_ ?_
    · intro z; simp [cup_g] at z
    · intro z; simp [cup_g] at z
    · intro _ _ _; rw [r4]; simp only [vu_g, Nat.reduceEqDiff, reduceIte]
    · simp only [cup_g, Nat.reduceEqDiff, reduceIte]; exact hL.mtd
  have nst2 : ¬ nI (c 0) = (2 : Int32) := fun z => s2' ((nI_eq (b := 2) (by omega) (by omega)).mp z)
  refine br_v (by rw [v2]; exact nst2) ?_
  by_cases s3' : (c 0) = 3
  · refine br_u (by rw [v2, s3']; rfl) (fun s3 e3 => ?_)
    have F3 : Fr (mF [] [] [(11, [2, 6, 22])] []) σ s3 := by rw [e3]; exact (F2.sub (mF_sub rfl sub_nil rfl sud_nil)).up rfl
    have r3 : s3 11 i = (va_up (va_up (va_up (σ 11 i) 6 ((σ 11 i 6) + 1)) 22 1) 2 (nI 5)) := by rw [e3, up3_r, if_pos ⟨rfl, rfl⟩, r2]; rfl
    have x33 : (va_up (va_up (va_up (σ 11 i) 6 ((σ 11 i 6) + 1)) 22 1) 2 (nI 5)) 33 = (σ 11 i 33) := by simp only [vu_g, Nat.reduceEqDiff, reduceIte]
    have x31 : (va_up (va_up (va_up (σ 11 i) 6 ((σ 11 i 6) + 1)) 22 1) 2 (nI 5)) 31 = (σ 11 i 31) := by simp only [vu_g, Nat.reduceEqDiff, reduceIte]
    refine mo2 _ (br_v (by rw [u2]; exact nst2) (br_u (by rw [u2, s3']; rfl) (fun t3 d3 t4 d4 => ?_)))
    have nw3 : t3 14 0 10 = nI t := by rw [d3, up3_g, if_neg (by omega)]; exact nwt
    rw [nw3] at d4
    have G4 : Fr (mF [] [] [(15, [0, 36, 39, 41, 45])] []) τ t4 := by rw [d4, d3]; exact ((G2.sub (mF_sub rfl sub_nil rfl sud_nil)).up rfl).up rfl
    have m4 : t4 15 i = (va_up (va_up (va_up (va_up (va_up (τ 15 i) 41 1) 36 ((τ 15 i 36) + 1)) 39 1) 0 (nI 5)) 45 (nI t)) := by rw [d4, up3_r, if_pos ⟨rfl, rfl⟩, d3, up3_r, if_pos ⟨rfl, rfl⟩, m2]; rfl
    refine ⟨hN.f F3 G4, hK.f F3 G4, _, h.eof (st' := 5) (v := (σ 11 i 33)) (w := (σ 11 i 31)) (z := nI t) (Or.inr (Or.inl ⟨s3', rfl⟩)) (by rw [vu_eq x33, vu_eq x31]; exact r3) m4 (crows.f F3) (mrows.f G4), ?_, by simp [cup_g], hB, fun z => by simp [cup_g] at z⟩
    refine LV.mk ?_ ?_ ?_ ?_
    · intro z; simp [cup_g] at z
    · intro z; simp [cup_g] at z
    · intro _ _ _
      rw [F3 _ _ _ rfl]
      exact hL.m0 (by omega) (by omega) (by omega)
    · simp only [cup_g, Nat.reduceEqDiff, reduceIte]; exact hL.mtd
  have nst3 : ¬ nI (c 0) = (3 : Int32) := fun z => s3' ((nI_eq (b := 3) (by omega) (by omega)).mp z)
  have s4' : (c 0) = 4 := by omega
  refine br_v (by rw [v2]; exact nst3) (fun s3 e3 s4 e4 s5 e5 => ?_)
  show ∀ σ3, σ3 = up3 s5 11 i 31 ((s5 2 0 4) + 60000) → _
  have nw : (s5 2 0 4) = nI t := by rw [e5, up3_g, if_neg (by omega), e4, up3_g, if_neg (by omega), e3, up3_g, if_neg (by omega)]; exact nw2
  rw [nw, e60]
  intro s6 e6
  have z29 : (va_up (va_up (va_up (σ 11 i) 6 ((σ 11 i 6) + 1)) 22 1) 2 6) 29 = 0 := by simp only [vu_g, Nat.reduceEqDiff, reduceIte]; exact (q6 (Or.inl s4')).2
  have r6 : s6 11 i = (va_up (va_up (va_up (va_up (va_up (σ 11 i) 6 ((σ 11 i 6) + 1)) 22 1) 2 (nI 6)) 33 1) 31 (nI (t + 60000))) := by rw [e6, up3_r, if_pos ⟨rfl, rfl⟩, e5, up3_r, if_pos ⟨rfl, rfl⟩, e4, up3_r, if_pos ⟨rfl, rfl⟩, e3, up3_r, if_pos ⟨rfl, rfl⟩, r2, vu_eq z29]; rfl
  have F6 : Fr (mF [] [] [(11, [2, 6, 22, 29, 31, 33])] []) σ s6 := by rw [e6, e5, e4, e3]; exact ((((F2.sub (mF_sub rfl sub_nil rfl sud_nil)).up rfl).up rfl).up rfl).up rfl
  refine mo2 _ (br_v (by rw [u2]; exact nst2) (br_v (by rw [u2]; exact nst3) (fun t3 d3 t4 d4 => ?_)))
  have nw3 : t3 14 0 10 = nI t := by rw [d3, up3_g, if_neg (by omega)]; exact nwt
  rw [nw3] at d4
  have G4 : Fr (mF [] [] [(15, [0, 36, 39, 41, 45])] []) τ t4 := by rw [d4, d3]; exact ((G2.sub (mF_sub rfl sub_nil rfl sud_nil)).up rfl).up rfl
  have m4 : t4 15 i = (va_up (va_up (va_up (va_up (va_up (τ 15 i) 41 1) 36 ((τ 15 i 36) + 1)) 39 1) 0 (nI 6)) 45 (nI t)) := by rw [d4, up3_r, if_pos ⟨rfl, rfl⟩, d3, up3_r, if_pos ⟨rfl, rfl⟩, m2]; rfl
  refine ⟨hN.f F6 G4, hK.f F6 G4, _, h.eof (st' := 6) (Or.inr (Or.inr ⟨s4', rfl⟩)) r6 m4 (crows.f F6) (mrows.f G4), ?_, by simp [cup_g], hB, fun _ => by rw [m4]; simp only [vu_g, Nat.reduceEqDiff, reduceIte]⟩
  refine LV.mk ?_ ?_ ?_ ?_
  · intro z; simp [cup_g] at z
  · intro _
    rw [r6, m4]
    simp only [vu_g, Nat.reduceEqDiff, reduceIte]
    exact ⟨by decide, t, rfl, rfl, Nat.le_refl _, by omega⟩
  · intro _ _ z; simp [cup_g] at z
  · simp only [cup_g, Nat.reduceEqDiff, reduceIte]; exact hL.mtd
