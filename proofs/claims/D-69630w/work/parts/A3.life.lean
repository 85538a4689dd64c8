/-! lifeOut ~ lifeEnds -/
set_option maxRecDepth 100000
theorem RCn.lif {σ τ σ' τ' : St} {t i : Nat} {c : CK} (h : RCn σ τ t i c) (hst : (c 0) = 2)
    (hC : σ' 11 i = (va_up (va_up (σ 11 i) 33 0) 27 1)) (hM : τ' 15 i = (va_up (τ 15 i) 30 1))
    (hr : crows σ σ' i) (hr' : mrows τ τ' i) : RCn σ' τ' t i (cup c 17 1) := by
  have q1 := h.f1
  have q4 := h.tin
  have q5 := h.d1
  have n1 : (c 0) = 1 → (c 2) = 0 ∧ (c 3) = 1 ∧ (c 4) = 1 ∧ (c 1) = 1 ∧ (c 5) = 0 ∧ (1 : Nat) = 0 ∧ (c 18) = 0 := fun z => absurd z (by omega)
  have n2 : (c 18) ≤ 1 := by omega
  have n3 : (σ 11 i 29) ≠ 0 → 2 ≤ (c 0) → (c 2) < (c 1) + (c 5) + 1 := fun z y => by have := q4 z y; omega
  have n4 : (1 : Int32) = nI 1 := rfl
  have n5 : 1 ≤ 1 := by omega
  obtain ⟨h12, h13, h42, h43, h44, h90⟩ := hr
  obtain ⟨g71, g72, g73, g51⟩ := hr'
  obtain ⟨est, est', s1, s8, eip, ept, eiss, enx, ews, ewa, eun, eun', eat, eat', emx, emx', eba, eba', ua, ax, xe, syn, sy2, bu, bb, ewn, ewn', wn6, ems, ems', ms1, ms2, ecw, ecw', cw1, cw2, ess, ess', ss1, ss2, ert, ert', rt1, rt2, etr, etr', tr8, edu, erc, ehd, ehd', hd4, eft, etd, etd', td4, esk, esk', sk6, eow, efc, efn, eL, ehl, ebl, hL, bml, bmb, bmL, h5, epl, pl6, eab, eal, L6, ed, ed', d1, ef, ef', f1, fst, fin, eto, etm, tin, eti, etn, ets, eme, esr, eac, erow, ethr⟩ := id (h)
  apply RCn.mk <;> (try rw [hC]) <;> (try rw [hM]) <;> (try rw [h12]) <;> (try rw [h13]) <;> (try rw [h42]) <;> (try rw [h43]) <;> (try rw [h44]) <;> (try rw [h90]) <;> (try rw [g71]) <;> (try rw [g72]) <;> (try rw [g73]) <;> (try rw [g51]) <;> (try simp only [vu_g, cup_g, Nat.reduceEqDiff, reduceIte]) <;> (try assumption)
  all_goals first | rfl | (intro z; exact absurd (z.symm.trans hst) (by decide))
theorem j_life {σ τ : St} {t l b i B : Nat} {c : CK} (hi : i < 16) (ok : okS σ) (ok' : okS τ) (hN : NB σ τ t l b) (hb : b + 4 < 2147480000) (hK : RK σ τ) (hh : σ 40 0 = τ 66 0) (hrm : σ 90 (i + 1) 0 = 0 ∨ σ 90 (i + 1) 0 = 66047) (h : RCn σ τ t i c) (hl : RCl σ τ t i c) (hB : (c 1) + (c 5) ≤ B) (hon : (σ 11 i 33) ≠ 0) :
    w11_lifeOut σ i (fun σ' => w14_lifeEnds τ i (fun τ' => TmP τ t l (b + 4) i B σ' τ')) := by
  have q7 := h.s8
  have hst : (c 0) = 2 ∨ (c 0) = 4 ∨ (c 0) = 6 := by
    by_cases z1 : (c 0) = 2
    · exact Or.inl z1
    by_cases z2 : (c 0) = 4
    · exact Or.inr (Or.inl z2)
    by_cases z3 : (c 0) = 6
    · exact Or.inr (Or.inr z3)
    exact absurd (hl.l0 z1 z2 z3) hon
  intro s1 e1
  have F1 : Fr (mF [] [] [(11, [33])] []) σ s1 := by rw [e1]; exact fr_u rfl
  have v2 : s1 11 i 2 = nI (c 0) := (F1 _ _ _ rfl).trans h.est
  by_cases c2 : (c 0) = 2
  rotate_left
  · have n2 : ¬ nI (c 0) = 2 := fun z => c2 ((nI_eq (b := 2) (by omega) (by omega)).mp z)
    refine br_f (by rw [v2]; exact n2) ?_
    intro s6 e6 s7 e7 s8 e8
    refine br_v (by rw [h.est']; exact n2) (fun t5 f5 t6 f6 => ?_)
    have F8 : Fr (mF [] [] [(11, [2, 29, 33])] []) s1 s8 := by rw [e8, e7, e6]; exact ((fr_u rfl).up rfl).up rfl
    have G6 : Fr (mF [] [] [(15, [0, 21])] []) τ t6 := by rw [f6, f5]; exact (fr_u rfl).up rfl
    have rc0 : RC0 s8 t6 i := by
      refine RC0.g e6 e7 e8 f5 f6 ?_ ?_ ⟨(c 7), h.epl, by have := h.pl6; omega⟩
      · rw [F1.row (k := 42) fun _ => rfl]; exact h.erow
      · rw [F1.row (k := 43) fun _ => rfl]; exact h.ethr
    refine ⟨⟨((hN.f F1 (Fr.rf (M := mF [] [] [] []))).f F8 G6).up (by omega), (hK.f F1 (Fr.rf (M := mF [] [] [] []))).f F8 G6, ?_, ?_, Or.inl rc0⟩, ?_⟩
    · rw [F8.row (k := 40) fun _ => rfl, F1.row (k := 40) fun _ => rfl, G6.row (k := 66) fun _ => rfl]; exact hh
    · rw [F8 _ _ _ rfl, F1 _ _ _ rfl]; exact hrm
    · rw [rc0.cpe, h.cpe]; omega
  refine br_t (by rw [v2, c2]; rfl) (fun s2 e2 => ?_)
  obtain ⟨hd0, haL, hxu⟩ := (hl.l2 c2).mp hon
  have q1 := h.ua
  have q2 := h.ax
  have hltd := hl.ltd
  have R2 : s2 11 i = (va_up (va_up (σ 11 i) 33 0) 27 1) := by rw [e2, up3_r, if_pos ⟨rfl, rfl⟩, e1, up3_r, if_pos ⟨rfl, rfl⟩]
  have F2 : Fr (mF [] [] [(11, [27, 33])] []) σ s2 := by rw [e2, e1]; exact (fr_u rfl).up rfl
  have k2 : okS s2 := by rw [e2, e1]; exact ok_z (ok_z ok rfl (Or.inl rfl)) rfl (Or.inr rfl)
  obtain ⟨t2, d2⟩ : ∃ t2, t2 = up3 τ 15 i 30 1 := ⟨_, rfl⟩
  have G2 : Fr (mF [] [] [(15, [30])] []) τ t2 := by rw [d2]; exact fr_u rfl
  have kt2 : okS t2 := by rw [d2]; exact ok_z ok' rfl (Or.inr rfl)
  have h2 : RCn s2 t2 t i (cup c 17 1) := h.lif c2 R2 (by rw [d2, up3_r, if_pos ⟨rfl, rfl⟩]) (crows.f F2) (mrows.f G2)
  obtain ⟨c1, hc1⟩ : ∃ c1, c1 = (cup c 17 1) := ⟨_, rfl⟩
  have x0 : (c1 0) = (c 0) := by rw [hc1]; rfl
  have x1 : (c1 1) = (c 1) := by rw [hc1]; rfl
  have x3 : (c1 3) = (c 3) := by rw [hc1]; rfl
  have x5 : (c1 5) = (c 5) := by rw [hc1]; rfl
  have x6 : (c1 17) = 1 := by rw [hc1]; rfl
  have x10 : (c1 13) = (c 13) := by rw [hc1]; rfl
  have x12 : (c1 14) = (c 14) := by rw [hc1]; rfl
  have x13 : (c1 15) = (c 15) := by rw [hc1]; rfl
  rw [← hc1] at h2
  obtain ⟨s3, t3, g1, g2, k3, k4, f1, f2, p1, p2, c3, p3, p4, p5⟩ := R_outp hi k2 kt2 (hN.f F2 G2) (by omega) (hK.f F2 G2) h2 (by omega)
  refine g1 _ (br_u (by rw [h.est', c2]; rfl) (fun t9 f9 => ?_))
  obtain rfl := f9.trans d2.symm
  refine g2 _ ?_
  obtain ⟨o1, o2, o3, o4, o5, o6, o7, o8, o9, o10, o11, o12⟩ := p4
  obtain ⟨l1, l2, l3⟩ := p5
  have v33 : s2 11 i 33 = 0 := by rw [R2]; simp only [vu_g, Nat.reduceEqDiff, reduceIte]
  have v33' : s3 11 i 33 = 0 := by
    have : s3 11 i 33 = _ := l1
    rw [this]
    split
    · exact v33
    · rfl
  have hst3 : (c3 0) = 2 ∨ (c3 0) = 3 := by omega
  refine ⟨⟨p1.up (by omega), p2, ?_, ?_, Or.inr ⟨c3, p3, RCl.mk ?_ ?_ ?_ ?_ ?_, by omega⟩⟩, ?_⟩
  · rw [f1.row (k := 40) (fun _ => by simp [mF]), f2.row (k := 66) (fun _ => by simp [mF]), F2.row (k := 40) fun _ => rfl, G2.row (k := 66) fun _ => rfl]; exact hh
  · rw [f1 _ _ _ (by simp [mF]), F2 _ _ _ rfl]; exact hrm
  · intro _
    exact ⟨fun w => absurd v33' w, fun w => by omega⟩
  · intro _ w
    exact absurd v33' w
  · intro w; omega
  · intro _ _ _
    exact v33'
  · by_cases z : (c3 3) = (c1 3)
    · have e3 := o11 z
      have y1 : (c3 15) = (c1 15) := by rw [e3]
      omega
    · have := o12 (by omega)
      omega
  · rw [p3.cpe, h.cpe]; omega
