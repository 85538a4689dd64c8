/-! what was sent once more: the relation behind it -/
set_option maxRecDepth 100000
abbrev crep (c : CK) (ss' : Nat) : CK := (cup (cup (cup c 11 ss') 10 (ss' + 3 * (c 9))) 15 (4096 - (c 14)))
theorem RCn.rep {σ τ σ' τ' : St} {t i ss' : Nat} {c : CK} {du tm tm' : Int32} (h : RCn σ τ t i c) (hst : 2 ≤ (c 0)) (hux : (c 2) < (c 4)) (hss : 2 * (c 9) ≤ ss' ∧ ss' ≤ 40000)
    (hC : σ' 11 i = (va_up (va_up (va_up (va_up (va_up (va_up (va_up (va_up (va_up (σ 11 i) 18 du) 15 (nI ss')) 34 0) 29 1) 30 tm) 21 (nI (4096 - (c 14)))) 22 0) 14 (nI (ss' + 3 * (c 9)))) 19 1))
    (hM : τ' 15 i = (va_up (va_up (va_up (va_up (va_up (va_up (va_up (va_up (va_up (τ 15 i) 24 du) 12 (nI ss')) 39 0) 37 (nI (4096 - (c 14)))) 17 0) 21 1) 22 tm') 11 (nI (ss' + 3 * (c 9)))) 18 1))
    (hr : crows σ σ' i) (hr' : mrows τ τ' i) (etmm : ∃ z : Nat, tm = nI z ∧ tm' = nI z ∧ t ≤ z ∧ z ≤ t + 60000) : RCn σ' τ' t i (crep c ss') := by
  have q2 := h.ax
  have q3 := h.xe
  have q5 := h.f1
  have q6 := h.fin
  have q7 := h.d1
  have q11 := h.ms2
  have n1 : (c 0) = 1 → du = 0 ∧ (1 : Int32) = 0 := fun z => absurd z (by omega)
  have n2 : (c 9) ≤ ss' + 3 * (c 9) := by omega
  have n3 : ss' + 3 * (c 9) ≤ 65535 := by omega
  have n4 := hss.1
  have n5 : ss' ≤ 65535 := by omega
  have n6 : (c 0) = 4 ∨ (c 0) = 6 → (c 2) = (c 1) + (c 5) + 1 ∧ (1 : Int32) = 0 := by
    intro z
    have := (q6 z).1
    omega
  have n7 : (1 : Int32) ≠ 0 → 2 ≤ (c 0) → (c 2) < (c 1) + (c 5) + (c 17) := by omega
  have n8 : (1 : Int32) ≠ 0 → ∃ z : Nat, tm = nI z ∧ tm' = nI z ∧ t ≤ z ∧ z ≤ t + 60000 := fun _ => etmm
  have n9 : 4096 - (c 14) ≤ 4096 := Nat.sub_le _ _
  obtain ⟨h12, h13, h42, h43, h44, h90⟩ := hr
  obtain ⟨g71, g72, g73, g51⟩ := hr'
  unfold crep
  obtain ⟨est, est', s1, s8, eip, ept, eiss, enx, ews, ewa, eun, eun', eat, eat', emx, emx', eba, eba', ua, ax, xe, syn, sy2, bu, bb, ewn, ewn', wn6, ems, ems', ms1, ms2, ecw, ecw', cw1, cw2, ess, ess', ss1, ss2, ert, ert', rt1, rt2, etr, etr', tr8, edu, erc, ehd, ehd', hd4, eft, etd, etd', td4, esk, esk', sk6, eow, efc, efn, eL, ehl, ebl, hL, bml, bmb, bmL, h5, epl, pl6, eab, eal, L6, ed, ed', d1, ef, ef', f1, fst, fin, eto, etm, tin, eti, etn, ets, eme, esr, eac, erow, ethr⟩ := id (h)
  apply RCn.mk <;> (try rw [hC]) <;> (try rw [hM]) <;> (try rw [h12]) <;> (try rw [h13]) <;> (try rw [h42]) <;> (try rw [h43]) <;> (try rw [h44]) <;> (try rw [h90]) <;> (try rw [g71]) <;> (try rw [g72]) <;> (try rw [g73]) <;> (try rw [g51]) <;> (try simp only [vu_g, cup_g, Nat.reduceEqDiff, reduceIte]) <;> (try assumption)
  all_goals rfl
/-- the window grows, or nothing happens but the count -/
theorem RCn.dup {σ τ σ' τ' : St} {t i cw' : Nat} {c : CK} {du : Int32} (h : RCn σ τ t i c) (hst : 2 ≤ (c 0)) (hcw : (c 9) ≤ cw' ∧ cw' ≤ 65535)
    (hC : σ' 11 i = (va_up (va_up (σ 11 i) 18 du) 14 (nI cw'))) (hM : τ' 15 i = (va_up (va_up (τ 15 i) 24 du) 11 (nI cw')))
    (hr : crows σ σ' i) (hr' : mrows τ τ' i) : RCn σ' τ' t i (cup c 10 cw') := by
  have n1 : (c 0) = 1 → du = 0 ∧ (σ 11 i 19) = 0 := fun z => absurd z (by omega)
  have n2 := hcw.1
  have n3 := hcw.2
  obtain ⟨h12, h13, h42, h43, h44, h90⟩ := hr
  obtain ⟨g71, g72, g73, g51⟩ := hr'
  obtain ⟨est, est', s1, s8, eip, ept, eiss, enx, ews, ewa, eun, eun', eat, eat', emx, emx', eba, eba', ua, ax, xe, syn, sy2, bu, bb, ewn, ewn', wn6, ems, ems', ms1, ms2, ecw, ecw', cw1, cw2, ess, ess', ss1, ss2, ert, ert', rt1, rt2, etr, etr', tr8, edu, erc, ehd, ehd', hd4, eft, etd, etd', td4, esk, esk', sk6, eow, efc, efn, eL, ehl, ebl, hL, bml, bmb, bmL, h5, epl, pl6, eab, eal, L6, ed, ed', d1, ef, ef', f1, fst, fin, eto, etm, tin, eti, etn, ets, eme, esr, eac, erow, ethr⟩ := id (h)
  apply RCn.mk <;> (try rw [hC]) <;> (try rw [hM]) <;> (try rw [h12]) <;> (try rw [h13]) <;> (try rw [h42]) <;> (try rw [h43]) <;> (try rw [h44]) <;> (try rw [h90]) <;> (try rw [g71]) <;> (try rw [g72]) <;> (try rw [g73]) <;> (try rw [g51]) <;> (try simp only [vu_g, cup_g, Nat.reduceEqDiff, reduceIte]) <;> (try assumption)
  all_goals rfl
/-- a window is taken over -/
theorem RCn.win {σ τ σ' τ' : St} {t i wn' : Nat} {c : CK} {a b : Int32} (h : RCn σ τ t i c) (hwn : wn' ≤ 65535)
    (hC : σ' 11 i = (va_up (va_up (va_up (σ 11 i) 12 (nI wn')) 7 a) 8 b)) (hM : τ' 15 i = (va_up (va_up (va_up (τ 15 i) 7 (nI wn')) 8 a) 9 b))
    (hr : crows σ σ' i) (hr' : mrows τ τ' i) : RCn σ' τ' t i (cup c 8 wn') := by
  obtain ⟨h12, h13, h42, h43, h44, h90⟩ := hr
  obtain ⟨g71, g72, g73, g51⟩ := hr'
  obtain ⟨est, est', s1, s8, eip, ept, eiss, enx, ews, ewa, eun, eun', eat, eat', emx, emx', eba, eba', ua, ax, xe, syn, sy2, bu, bb, ewn, ewn', wn6, ems, ems', ms1, ms2, ecw, ecw', cw1, cw2, ess, ess', ss1, ss2, ert, ert', rt1, rt2, etr, etr', tr8, edu, erc, ehd, ehd', hd4, eft, etd, etd', td4, esk, esk', sk6, eow, efc, efn, eL, ehl, ebl, hL, bml, bmb, bmL, h5, epl, pl6, eab, eal, L6, ed, ed', d1, ef, ef', f1, fst, fin, eto, etm, tin, eti, etn, ets, eme, esr, eac, erow, ethr⟩ := id (h)
  apply RCn.mk <;> (try rw [hC]) <;> (try rw [hM]) <;> (try rw [h12]) <;> (try rw [h13]) <;> (try rw [h42]) <;> (try rw [h43]) <;> (try rw [h44]) <;> (try rw [h90]) <;> (try rw [g71]) <;> (try rw [g72]) <;> (try rw [g73]) <;> (try rw [g51]) <;> (try simp only [vu_g, cup_g, Nat.reduceEqDiff, reduceIte]) <;> (try assumption)
  all_goals rfl
/-- the tries begin anew -/
theorem RCn.try0 {σ τ σ' τ' : St} {t i : Nat} {c : CK} (h : RCn σ τ t i c)
    (hC : σ' 11 i = (va_up (σ 11 i) 17 0)) (hM : τ' 15 i = (va_up (τ 15 i) 23 0))
    (hr : crows σ σ' i) (hr' : mrows τ τ' i) : RCn σ' τ' t i (cup c 13 0) := by
  have n1 : (0 : Nat) ≤ 8 := by omega
  obtain ⟨h12, h13, h42, h43, h44, h90⟩ := hr
  obtain ⟨g71, g72, g73, g51⟩ := hr'
  obtain ⟨est, est', s1, s8, eip, ept, eiss, enx, ews, ewa, eun, eun', eat, eat', emx, emx', eba, eba', ua, ax, xe, syn, sy2, bu, bb, ewn, ewn', wn6, ems, ems', ms1, ms2, ecw, ecw', cw1, cw2, ess, ess', ss1, ss2, ert, ert', rt1, rt2, etr, etr', tr8, edu, erc, ehd, ehd', hd4, eft, etd, etd', td4, esk, esk', sk6, eow, efc, efn, eL, ehl, ebl, hL, bml, bmb, bmL, h5, epl, pl6, eab, eal, L6, ed, ed', d1, ef, ef', f1, fst, fin, eto, etm, tin, eti, etn, ets, eme, esr, eac, erow, ethr⟩ := id (h)
  apply RCn.mk <;> (try rw [hC]) <;> (try rw [hM]) <;> (try rw [h12]) <;> (try rw [h13]) <;> (try rw [h42]) <;> (try rw [h43]) <;> (try rw [h44]) <;> (try rw [h90]) <;> (try rw [g71]) <;> (try rw [g72]) <;> (try rw [g73]) <;> (try rw [g51]) <;> (try simp only [vu_g, cup_g, Nat.reduceEqDiff, reduceIte]) <;> (try assumption)
  all_goals rfl
