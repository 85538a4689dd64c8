/-! sending a part of the answer -/
set_option maxRecDepth 100000
/-- the numbers behind a part that was sent -/
abbrev cpart (c : CK) (dn fi : Nat) : CK := (cup (cup (cup (cup (cup c 3 ((c 3) + dn + fi)) 4 (max (c 4) ((c 3) + dn + fi))) 0 (if fi = 1 ∧ (c 18) = 0 then (if (c 0) = 7 then 8 else 3) else (c 0))) 18 (max (c 18) fi)) 15 (4096 - (c 14)))
theorem RCn.part {σ τ σ' τ' : St} {t i dn fi : Nat} {c : CK} {tg tn ts tm lf tg' tn' ts' tm' : Int32} (h : RCn σ τ t i c) (hst : 2 ≤ (c 0)) (hst4 : (c 0) ≠ 4 ∧ (c 0) ≠ 6) (hfi : fi ≤ 1) (hn1 : 1 ≤ dn + fi) (hdn : (c 3) + dn ≤ (c 1) + (c 5)) (hfd : fi = 1 → (c 17) = 1 ∧ (c 3) + dn = (c 1) + (c 5))
    (hC : σ' 11 i = (va_up (va_up (va_up (va_up (va_up (va_up (va_up (va_up (va_up (va_up (va_up (va_up (σ 11 i) 34 tg) 36 tn) 37 ts) 10 ((τ 15 i 3) + nI ((c 3) + dn + fi))) 11 ((τ 15 i 3) + nI (max (c 4) ((c 3) + dn + fi)))) 28 (nI (max (c 18) fi))) 33 lf) 2 (nI (if fi = 1 ∧ (c 18) = 0 then (if (c 0) = 7 then 8 else 3) else (c 0)))) 29 1) 30 tm) 21 (nI (4096 - (c 14)))) 22 0))
    (hM : τ' 15 i = (va_up (va_up (va_up (va_up (va_up (va_up (va_up (va_up (va_up (va_up (va_up (τ 15 i) 39 0) 37 (nI (4096 - (c 14)))) 17 tg') 19 tn') 20 ts') 21 1) 22 tm') 31 (nI (max (c 18) fi))) 0 (nI (if fi = 1 ∧ (c 18) = 0 then (if (c 0) = 7 then 8 else 3) else (c 0)))) 5 ((τ 15 i 3) + nI ((c 3) + dn + fi))) 6 ((τ 15 i 3) + nI (max (c 4) ((c 3) + dn + fi)))))
    (hr : crows σ σ' i) (hr' : mrows τ τ' i) (etg : tg = tg') (etnn : tn = tn') (etss : ∃ z : Nat, ts = nI z ∧ ts' = nI z ∧ z ≤ t) (etmm : ∃ z : Nat, tm = nI z ∧ tm' = nI z ∧ t ≤ z ∧ z ≤ t + 60000) : RCn σ' τ' t i (cpart c dn fi) := by
  have q1 := h.ua
  have q2 := h.ax
  have q3 := h.xe
  have q4 := h.bu hst
  have q5 := h.fst
  have q6 := h.f1
  have q7 := h.d1
  have q8 := h.s8
  have hst27 : (c 18) = 0 → (c 0) = 2 ∨ (c 0) = 7 := by
    intro z
    have : ¬ (c 18) = 1 := by omega
    have := fun q => this (q5.mpr q)
    omega
  -- the new state
  obtain ⟨st', est'', hs0⟩ : ∃ st' : Nat, (if fi = 1 ∧ (c 18) = 0 then (if (c 0) = 7 then 8 else 3) else (c 0)) = st' ∧ (fi = 1 ∧ (c 18) = 0 ∧ ((c 0) = 7 ∧ st' = 8 ∨ (c 0) = 2 ∧ st' = 3) ∨ ¬ (fi = 1 ∧ (c 18) = 0) ∧ st' = (c 0)) := by
    refine ⟨_, rfl, ?_⟩
    by_cases c1 : fi = 1 ∧ (c 18) = 0
    · rw [if_pos c1]
      rcases hst27 c1.2 with z | z
      · exact Or.inl ⟨c1.1, c1.2, Or.inr ⟨z, by rw [if_neg (by omega)]⟩⟩
      · exact Or.inl ⟨c1.1, c1.2, Or.inl ⟨z, by rw [if_pos z]⟩⟩
    · rw [if_neg c1]
      exact Or.inr ⟨c1, rfl⟩
  have n1 : 1 ≤ st' := by omega
  have n2 : st' ≤ 8 := by omega
  have n3 : (c 2) ≤ (c 3) + dn + fi := by omega
  have n4 : (c 3) + dn + fi ≤ max (c 4) ((c 3) + dn + fi) := by omega
  have n5 : max (c 4) ((c 3) + dn + fi) ≤ (c 1) + (c 5) + max (c 18) fi := by omega
  have n6 : st' = 1 → (c 2) = 0 ∧ (c 3) + dn + fi = 1 ∧ max (c 4) ((c 3) + dn + fi) = 1 ∧ (c 1) = 1 ∧ (c 5) = 0 ∧ (c 17) = 0 ∧ max (c 18) fi = 0 := by omega
  have n7 : 2 ≤ st' → (c 1) ≤ (c 2) := fun _ => q4
  have n15 : st' = 1 → (σ 11 i 18) = 0 ∧ (σ 11 i 19) = 0 := fun z => absurd z (by omega)
  have n8 : max (c 18) fi ≤ (c 17) := by omega
  have n9 : max (c 18) fi = 1 ↔ st' = 3 ∨ st' = 4 ∨ st' = 5 ∨ st' = 6 ∨ st' = 8 := by omega
  have n10 : st' = 4 ∨ st' = 6 → (c 2) = (c 1) + (c 5) + 1 ∧ (1 : Int32) = 0 := by omega
  have n11 : (1 : Int32) ≠ 0 → 2 ≤ st' → (c 2) < (c 1) + (c 5) + (c 17) := by omega
  have n12 : (τ 15 i 41) = if 5 ≤ st' then 1 else 0 := by
    rw [h.eft]
    by_cases c1 : 5 ≤ (c 0)
    · rw [if_pos c1, if_pos (by omega)]
    · rw [if_neg c1, if_neg (by omega)]
  have n13 : (1 : Int32) ≠ 0 → ∃ z : Nat, tm = nI z ∧ tm' = nI z ∧ t ≤ z ∧ z ≤ t + 60000 := fun _ => etmm
  have n14 : 2 ≤ st' → ∃ ac : Nat, (σ 11 i 32) = nI ac ∧ (τ 15 i 44) = nI ac ∧ ac ≤ t := fun _ => h.eac hst
  rw [est''] at hC hM
  obtain ⟨h12, h13, h42, h43, h44, h90⟩ := hr
  obtain ⟨g71, g72, g73, g51⟩ := hr'
  unfold cpart
  rw [est'']
  obtain ⟨est, est', s1, s8, eip, ept, eiss, enx, ews, ewa, eun, eun', eat, eat', emx, emx', eba, eba', ua, ax, xe, syn, sy2, bu, bb, ewn, ewn', wn6, ems, ems', ms1, ms2, ecw, ecw', cw1, cw2, ess, ess', ss1, ss2, ert, ert', rt1, rt2, etr, etr', tr8, edu, erc, ehd, ehd', hd4, eft, etd, etd', td4, esk, esk', sk6, eow, efc, efn, eL, ehl, ebl, hL, bml, bmb, bmL, h5, epl, pl6, eab, eal, L6, ed, ed', d1, ef, ef', f1, fst, fin, eto, etm, tin, eti, etn, ets, eme, esr, eac, erow, ethr⟩ := id (h)
  apply RCn.mk <;> (try rw [hC]) <;> (try rw [hM]) <;> (try rw [h12]) <;> (try rw [h13]) <;> (try rw [h42]) <;> (try rw [h43]) <;> (try rw [h44]) <;> (try rw [h90]) <;> (try rw [g71]) <;> (try rw [g72]) <;> (try rw [g73]) <;> (try rw [g51]) <;> (try simp only [vu_g, cup_g, Nat.reduceEqDiff, reduceIte]) <;> (try assumption)
  all_goals first | rfl | exact Nat.sub_le _ _
