/-! a FIN of ours that was acknowledged -/
set_option maxRecDepth 100000
theorem RCn.fin46 {σ τ σ' τ' : St} {t i st' : Nat} {c : CK} {v w : Int32} (h : RCn σ τ t i c) (hst : (c 0) = 3 ∧ st' = 4 ∨ (c 0) = 5 ∧ st' = 6) (hu : (c 2) = (c 1) + (c 5) + 1)
    (hC : σ' 11 i = (va_up (va_up (va_up (σ 11 i) 2 (nI st')) 33 1) 31 v)) (hM : τ' 15 i = (va_up (va_up (τ 15 i) 0 (nI st')) 45 w))
    (hr : crows σ σ' i) (hr' : mrows τ τ' i) : RCn σ' τ' t i (cup c 0 st') := by
  have q1 := h.tin
  have q2 := h.d1
  have q3 := h.fst
  have q4 := h.bu
  have q6 : (σ 11 i 29) = 0 := by
    by_cases z : (σ 11 i 29) = 0
    · exact z
    · have := q1 z (by omega)
      omega
  have n1 : 1 ≤ st' := by omega
  have n2 : st' ≤ 8 := by omega
  have n3 : st' = 1 → (c 2) = 0 ∧ (c 3) = 1 ∧ (c 4) = 1 ∧ (c 1) = 1 ∧ (c 5) = 0 ∧ (c 17) = 0 ∧ (c 18) = 0 := by omega
  have n4 : st' = 1 → (σ 11 i 18) = 0 ∧ (σ 11 i 19) = 0 := fun z => absurd z (by omega)
  have n5 : 2 ≤ st' → (c 1) ≤ (c 2) := fun _ => q4 (by omega)
  have n6 : (τ 15 i 41) = if 5 ≤ st' then 1 else 0 := by
    rw [h.eft]
    by_cases z : 5 ≤ (c 0)
    · rw [if_pos z, if_pos (by omega)]
    · rw [if_neg z, if_neg (by omega)]
  have n7 : (c 18) = 1 ↔ st' = 3 ∨ st' = 4 ∨ st' = 5 ∨ st' = 6 ∨ st' = 8 := by omega
  have n8 : st' = 4 ∨ st' = 6 → (c 2) = (c 1) + (c 5) + 1 ∧ (σ 11 i 29) = 0 := fun _ => ⟨hu, q6⟩
  have n9 : (σ 11 i 29) ≠ 0 → 2 ≤ st' → (c 2) < (c 1) + (c 5) + (c 17) := fun z => absurd q6 z
  have n10 : 2 ≤ st' → ∃ ac : Nat, (σ 11 i 32) = nI ac ∧ (τ 15 i 44) = nI ac ∧ ac ≤ t := fun _ => h.eac (by omega)
  obtain ⟨h12, h13, h42, h43, h44, h90⟩ := hr
  obtain ⟨g71, g72, g73, g51⟩ := hr'
  obtain ⟨est, est', s1, s8, eip, ept, eiss, enx, ews, ewa, eun, eun', eat, eat', emx, emx', eba, eba', ua, ax, xe, syn, sy2, bu, bb, ewn, ewn', wn6, ems, ems', ms1, ms2, ecw, ecw', cw1, cw2, ess, ess', ss1, ss2, ert, ert', rt1, rt2, etr, etr', tr8, edu, erc, ehd, ehd', hd4, eft, etd, etd', td4, esk, esk', sk6, eow, efc, efn, eL, ehl, ebl, hL, bml, bmb, bmL, h5, epl, pl6, eab, eal, L6, ed, ed', d1, ef, ef', f1, fst, fin, eto, etm, tin, eti, etn, ets, eme, esr, eac, erow, ethr⟩ := id (h)
  apply RCn.mk <;> (try rw [hC]) <;> (try rw [hM]) <;> (try rw [h12]) <;> (try rw [h13]) <;> (try rw [h42]) <;> (try rw [h43]) <;> (try rw [h44]) <;> (try rw [h90]) <;> (try rw [g71]) <;> (try rw [g72]) <;> (try rw [g73]) <;> (try rw [g51]) <;> (try simp only [vu_g, cup_g, Nat.reduceEqDiff, reduceIte]) <;> (try assumption)
  all_goals rfl
