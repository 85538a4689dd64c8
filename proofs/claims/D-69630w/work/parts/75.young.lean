/-! the first acknowledgement of a connection -/
set_option maxRecDepth 100000
theorem RCn.young {σ τ σ' τ' : St} {t i ts sr sp rt' : Nat} {c : CK} {g : Bool} (h : RCn σ τ t i c) (hst : (c 0) = 1) (htt : t ≤ 100000000) (hts : ts ≤ t) (hsr : (σ 11 i 35) ≠ 0 → sr ≤ t ∧ sp ≤ t)
    (hrt : rt' = if g then mRT (mSR ((σ 11 i 35)) sr (t - ts)) (mSP ((σ 11 i 35)) sr sp (t - ts)) else (c 12))
    (hC : σ' 11 i = (va_up (va_up (va_up (msC (va_up (va_up (σ 11 i) 2 2) 9 ((τ 15 i 3) + nI 1)) g t ts sr sp) 17 0) 29 0) 32 (nI t))) (hM : τ' 15 i = (va_up (va_up (va_up (rnM (τ 15 i) ((τ 15 i 3)) g c 1 t ts sr sp rt') 0 2) 43 (nI t)) 44 (nI t)))
    (hr : crows σ σ' i) (hr' : mrows τ τ' i) : RCn σ' τ' t i (cup (cup (cup (cup c 0 2) 2 1) 13 0) 12 rt') := by
  obtain ⟨y1, y2, y3, y4, y5, y6, y7⟩ := h.syn hst
  obtain ⟨y8, y9⟩ := h.sy2 hst
  have hrt2 : 1000 ≤ rt' ∧ rt' ≤ 60000 := by
    rw [hrt]
    split
    · exact mRT_le _ _
    · exact ⟨h.rt1, h.rt2⟩
  have e0 : (τ 15 i 18) = 0 := by rw [← h.erc]; exact y9
  have ecw : cwM ((τ 15 i 18)) (c 0) (c 10) (c 11) (c 9) 1 = (c 10) := by unfold cwM; rw [if_pos e0, if_pos hst]
  unfold msC at hC
  unfold rnM msM at hM
  rw [ecw, y1, y2, y3] at hM
  simp only [vu_g, Nat.reduceEqDiff, reduceIte] at hC hM
  rw [← h.eme] at hM
  generalize hSR : mSR ((σ 11 i 35)) sr (t - ts) = SR at hC hM hrt
  generalize hSP : mSP ((σ 11 i 35)) sr sp (t - ts) = SP at hC hM hrt
  have bSR : SR ≤ t := by rw [← hSR]; exact mSR_le (fun z => (hsr z).1) (by omega)
  have bSP : SP ≤ t := by rw [← hSP]; exact mSP_le hsr (by omega)
  have n0 : (2 : Int32) = nI 2 := rfl
  have n1 : (1 : Nat) ≤ (c 3) := by omega
  have n2 : (2 : Nat) = 1 → (1 : Nat) = 0 ∧ (c 3) = 1 ∧ (c 4) = 1 ∧ (c 1) = 1 ∧ (c 5) = 0 ∧ (c 17) = 0 ∧ (c 18) = 0 := by omega
  have n4 : 2 ≤ 2 → (c 1) ≤ 1 := by omega
  have n8 := hrt2.1
  have n9 := hrt2.2
  have n11 : ∀ j, 1 ≤ (c 1) + j → j < (c 5) → (σ 44 i) j = if j < (c 6) then (τ 71 i) j else (τ 51 0) ((c 7) + (j - (c 6))) := fun j a b => absurd b (by omega)
  have n12 : (τ 15 i 41) = if 5 ≤ 2 then 1 else 0 := by rw [h.eft, if_neg (by omega), if_neg (by omega)]
  have n15 : gmv g 0 ((σ 11 i 34)) = gmv g 0 ((τ 15 i 17)) := by rw [h.eti]
  have n17 : gmv g 1 ((σ 11 i 35)) ≠ 0 → ∃ sr sp : Nat, gmv g (nI SR) ((σ 11 i 38)) = nI sr ∧ gmv g (nI SR) ((τ 15 i 14)) = nI sr ∧ gmv g (nI SP) ((σ 11 i 39)) = nI sp ∧ gmv g (nI SP) ((τ 15 i 15)) = nI sp ∧ sr ≤ t ∧ sp ≤ t := by
    intro z
    cases g with
    | true => exact ⟨SR, SP, rfl, rfl, rfl, rfl, bSR, bSP⟩
    | false => exact h.esr z
  have n18 : gmv g (nI (mRT SR SP)) ((σ 11 i 16)) = nI rt' := by
    rw [hrt]
    cases g with
    | true => rfl
    | false => exact h.ert
  have n19 : gmv g (nI (mRT SR SP)) ((τ 15 i 13)) = nI rt' := by
    rw [hrt]
    cases g with
    | true => rfl
    | false => exact h.ert'
  have n20 : 2 ≤ 2 → ∃ ac : Nat, nI t = nI ac ∧ nI t = nI ac ∧ ac ≤ t := fun _ => ⟨t, rfl, rfl, Nat.le_refl _⟩
  have n21 : (c 18) = 1 ↔ 2 = 3 ∨ 2 = 4 ∨ 2 = 5 ∨ 2 = 6 ∨ 2 = 8 := by omega
  have m1 : (nI 0 : Int32) = 0 := rfl
  obtain ⟨h12, h13, h42, h43, h44, h90⟩ := hr
  obtain ⟨g71, g72, g73, g51⟩ := hr'
  obtain ⟨est, est', s1, s8, eip, ept, eiss, enx, ews, ewa, eun, eun', eat, eat', emx, emx', eba, eba', ua, ax, xe, syn, sy2, bu, bb, ewn, ewn', wn6, ems, ems', ms1, ms2, ecw, ecw', cw1, cw2, ess, ess', ss1, ss2, ert, ert', rt1, rt2, etr, etr', tr8, edu, erc, ehd, ehd', hd4, eft, etd, etd', td4, esk, esk', sk6, eow, efc, efn, eL, ehl, ebl, hL, bml, bmb, bmL, h5, epl, pl6, eab, eal, L6, ed, ed', d1, ef, ef', f1, fst, fin, eto, etm, tin, eti, etn, ets, eme, esr, eac, erow, ethr⟩ := id (h)
  have a1 : (τ 15 i 5) = (τ 15 i 3) + nI 1 := by rw [eat', y2]
  have zz : max 1 (0 + 1) = 1 := rfl
  apply RCn.mk <;> (try rw [hC]) <;> (try rw [hM]) <;> (try rw [h12]) <;> (try rw [h13]) <;> (try rw [h42]) <;> (try rw [h43]) <;> (try rw [h44]) <;> (try rw [h90]) <;> (try rw [g71]) <;> (try rw [g72]) <;> (try rw [g73]) <;> (try rw [g51]) <;> (try simp only [vu_g, cup_g, Nat.reduceEqDiff, reduceIte]) <;> (try assumption)
  all_goals first | rfl | decide | omega | (rw [y2]; rfl) | (intro z; exact absurd rfl z) | (intro z; exact z.elim) | (intro z; exact (z.elim id id).elim) | (simp; omega) | skip
