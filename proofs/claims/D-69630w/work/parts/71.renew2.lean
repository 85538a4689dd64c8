/-! a new acknowledgement: side by side -/
set_option maxRecDepth 100000
theorem cwM_eq {rc : Int32} {st cw ss ms y : Nat} (h : st ≠ 1) : cwM rc st cw ss ms y = cwN rc cw ss ms y := by
  unfold cwM
  rw [if_neg h]
  by_cases c : rc = 0
  · rw [if_pos c, c]
  · rw [if_neg c]
    unfold cwN
    rw [if_neg c]
/-- the numbers behind a new acknowledgement -/
abbrev crenew (c : CK) (y cw' rt' : Nat) : CK := (cup (cup (cup (cup (cup c 2 ((c 2) + y)) 3 (max (c 3) ((c 2) + y))) 13 0) 10 cw') 12 rt')
theorem RCn.renew {σ τ σ' τ' : St} {t i y ts sr sp rt' cw' : Nat} {c : CK} {g : Bool} (h : RCn σ τ t i c) (hst : 2 ≤ (c 0)) (hy1 : 1 ≤ y) (hyx : (c 2) + y ≤ (c 4)) (htt : t ≤ 100000000) (hts : ts ≤ t) (hsr : (σ 11 i 35) ≠ 0 → sr ≤ t ∧ sp ≤ t)
    (hrt : rt' = if g then mRT (mSR ((σ 11 i 35)) sr (t - ts)) (mSP ((σ 11 i 35)) sr sp (t - ts)) else (c 12)) (hcw : cw' = cwN ((σ 11 i 19)) (c 10) (c 11) (c 9) y)
    (hC : σ' 11 i = rnC (σ 11 i) ((τ 15 i 3)) g c y t ts sr sp rt') (hM : τ' 15 i = rnM (τ 15 i) ((τ 15 i 3)) g c y t ts sr sp rt')
    (hr : crows σ σ' i) (hr' : mrows τ τ' i) : RCn σ' τ' t i (crenew c y cw' rt') := by
  have q1 := h.ua
  have q2 := h.ax
  have q3 := h.xe
  have q4 := h.bu hst
  have q5 := h.f1
  have q6 := h.fin
  have q7 := h.eab
  have q8 := h.cw1
  have q9 := h.ss1
  have q10 := h.ss2
  have q11 := h.ms2
  have q12 := h.d1
  have hrt2 : 1000 ≤ rt' ∧ rt' ≤ 60000 := by
    rw [hrt]
    split
    · exact mRT_le _ _
    · exact ⟨h.rt1, h.rt2⟩
  have hcw2 : (c 9) ≤ cw' ∧ cw' ≤ 65535 := by
    rw [hcw]
    exact cwN_le q8 q9 q10 (by omega)
  unfold rnC msC at hC
  unfold rnM msM at hM
  rw [cwM_eq (by omega), ← h.erc, ← hcw] at hM
  rw [← hcw] at hC
  simp only [vu_g, Nat.reduceEqDiff, reduceIte] at hC hM
  rw [← h.eme] at hM
  generalize hSR : mSR ((σ 11 i 35)) sr (t - ts) = SR at hC hM hrt
  generalize hSP : mSP ((σ 11 i 35)) sr sp (t - ts) = SP at hC hM hrt
  have bSR : SR ≤ t := by rw [← hSR]; exact mSR_le (fun z => (hsr z).1) (by omega)
  have bSP : SP ≤ t := by rw [← hSP]; exact mSP_le hsr (by omega)
  have n1 : (c 2) + y ≤ max (c 3) ((c 2) + y) := by omega
  have n2 : max (c 3) ((c 2) + y) ≤ (c 4) := by omega
  have n3 : (c 0) = 1 → (c 2) + y = 0 ∧ max (c 3) ((c 2) + y) = 1 ∧ (c 4) = 1 ∧ (c 1) = 1 ∧ (c 5) = 0 ∧ (c 17) = 0 ∧ (c 18) = 0 := by omega
  have n4 : 2 ≤ (c 0) → (c 1) ≤ (c 2) + y := by omega
  have n5 : (c 0) = 1 → (0 : Int32) = 0 ∧ (0 : Int32) = 0 := fun _ => ⟨rfl, rfl⟩
  have n6 := hcw2.1
  have n7 := hcw2.2
  have n8 := hrt2.1
  have n9 := hrt2.2
  have n10 : (0 : Nat) ≤ 8 := by omega
  have n11 : ∀ j, (c 2) + y ≤ (c 1) + j → j < (c 5) → (σ 44 i) j = if j < (c 6) then (τ 71 i) j else (τ 51 0) ((c 7) + (j - (c 6))) := fun j a b => q7 j (by omega) b
  have n12 : (c 0) = 4 ∨ (c 0) = 6 → (c 2) + y = (c 1) + (c 5) + 1 ∧ (if (c 4) = (c 2) + y then (0 : Int32) else 1) = 0 := by
    intro z
    have := (q6 z).1
    omega
  have n13 : (if (c 4) = (c 2) + y then (0 : Int32) else 1) ≠ 0 → ∃ tm : Nat, (if (c 4) = (c 2) + y then (σ 11 i 30) else nI (t + rt')) = nI tm ∧ (if (c 4) = (c 2) + y then (τ 15 i 22) else nI (t + rt')) = nI tm ∧ t ≤ tm ∧ tm ≤ t + 60000 := by
    intro z
    by_cases c1 : (c 4) = (c 2) + y
    · rw [if_pos c1] at z; exact absurd rfl z
    · rw [if_neg c1, if_neg c1]
      exact ⟨t + rt', rfl, rfl, by omega, by omega⟩
  have n14 : (if (c 4) = (c 2) + y then (0 : Int32) else 1) ≠ 0 → 2 ≤ (c 0) → (c 2) + y < (c 1) + (c 5) + (c 17) := by
    intro z _
    by_cases c1 : (c 4) = (c 2) + y
    · rw [if_pos c1] at z; exact absurd rfl z
    · omega
  have n15 : gmv g 0 ((σ 11 i 34)) = gmv g 0 ((τ 15 i 17)) := by rw [h.eti]
  have n16 : gmv g 1 ((σ 11 i 35)) = gmv g 1 ((σ 11 i 35)) := rfl
  have n17 : gmv g 1 ((σ 11 i 35)) ≠ 0 → ∃ sr sp : Nat, gmv g (nI SR) ((σ 11 i 38)) = nI sr ∧ gmv g (nI SR) ((τ 15 i 14)) = nI sr ∧ gmv g (nI SP) ((σ 11 i 39)) = nI sp ∧ gmv g (nI SP) ((τ 15 i 15)) = nI sp ∧ sr ≤ t ∧ sp ≤ t := by
    intro z
    cases g with
    | true => exact ⟨SR, SP, rfl, rfl, rfl, rfl, bSR, bSP⟩
    | false => exact h.esr z
  have n18 : gmv g (nI (mRT SR SP)) ((σ 11 i 16)) = nI rt' := by
    rw [hrt]
    cases g with
    | true => rfl
    | false => exact h.ert
  have n19 : gmv g (nI (mRT SR SP)) ((τ 15 i 13)) = nI rt' := by
    rw [hrt]
    cases g with
    | true => rfl
    | false => exact h.ert'
  have n20 : 2 ≤ (c 0) → ∃ ac : Nat, nI t = nI ac ∧ nI t = nI ac ∧ ac ≤ t := fun _ => ⟨t, rfl, rfl, Nat.le_refl _⟩
  obtain ⟨h12, h13, h42, h43, h44, h90⟩ := hr
  obtain ⟨g71, g72, g73, g51⟩ := hr'
  unfold crenew
  obtain ⟨est, est', s1, s8, eip, ept, eiss, enx, ews, ewa, eun, eun', eat, eat', emx, emx', eba, eba', ua, ax, xe, syn, sy2, bu, bb, ewn, ewn', wn6, ems, ems', ms1, ms2, ecw, ecw', cw1, cw2, ess, ess', ss1, ss2, ert, ert', rt1, rt2, etr, etr', tr8, edu, erc, ehd, ehd', hd4, eft, etd, etd', td4, esk, esk', sk6, eow, efc, efn, eL, ehl, ebl, hL, bml, bmb, bmL, h5, epl, pl6, eab, eal, L6, ed, ed', d1, ef, ef', f1, fst, fin, eto, etm, tin, eti, etn, ets, eme, esr, eac, erow, ethr⟩ := id (h)
  apply RCn.mk <;> (try rw [hC]) <;> (try rw [hM]) <;> (try rw [h12]) <;> (try rw [h13]) <;> (try rw [h42]) <;> (try rw [h43]) <;> (try rw [h44]) <;> (try rw [h90]) <;> (try rw [g71]) <;> (try rw [g72]) <;> (try rw [g73]) <;> (try rw [g51]) <;> (try simp only [vu_g, cup_g, Nat.reduceEqDiff, reduceIte]) <;> (try assumption)
  all_goals first | rfl | (intro _; exact ⟨rfl, rfl⟩) | (intro _; trivial) | (intro _; exact ⟨trivial, trivial⟩)
theorem RK.fresh {σ τ σ' τ' : St} {v : Int32} (h : RK σ τ) (a0 : (σ' 0 0 13) = (σ 0 0 13)) (a1 : (σ' 6 0 2) = (σ 6 0 2)) (a8 : ∀ j, j ≠ 7 → j ≠ 8 → σ' 8 0 j = σ 8 0 j) (b8 : ∀ j, j ≠ 6 → j ≠ 7 → τ' 56 0 j = τ 56 0 j) (e7 : σ' 8 0 7 = σ 8 0 7 + 1) (e8 : σ' 8 0 8 = σ 8 0 8 + v) (e6' : τ' 56 0 6 = τ 56 0 6 + 1) (e7' : τ' 56 0 7 = τ 56 0 7 + v) : RK σ' τ' := by
  obtain ⟨h0, h1, h2, h3, h4, h5, h6, h7⟩ := h
  unfold RK
  rw [a0, a1, e7, e8, e6', e7', a8 3 (by decide) (by decide), a8 4 (by decide) (by decide), a8 5 (by decide) (by decide), a8 6 (by decide) (by decide), b8 0 (by decide) (by decide), b8 1 (by decide) (by decide), b8 2 (by decide) (by decide), b8 3 (by decide) (by decide), b8 4 (by decide) (by decide), b8 5 (by decide) (by decide), h6, h7]
  exact ⟨h0, h1, h2, h3, h4, h5, rfl, rfl⟩
/-- behind a new acknowledgement: what is said of the component's row -/
def RnwP (σ : St) (t l b i : Nat) (c : CK) (y : Nat) (σ' τ' : St) : Prop := NB σ' τ' t l b ∧ RK σ' τ' ∧ ∃ cw' rt' : Nat, RCn σ' τ' t i (crenew c y cw' rt') ∧ (σ' 11 i 33) = (σ 11 i 33) ∧ (σ' 11 i 31) = (σ 11 i 31) ∧ (σ' 11 i 32) = nI t
theorem R_renew {σ τ : St} {t l b i y : Nat} {c : CK} (hi : i < 16) (ok : okS σ) (ok' : okS τ) (htt : t ≤ 100000000) (hN : NB σ τ t l b) (hK : RK σ τ) (h : RCn σ τ t i c) (hst : 2 ≤ (c 0)) (hy1 : 1 ≤ y) (hyx : (c 2) + y ≤ (c 4)) (eack : (τ 14 0 35) = (τ 15 i 3) + nI ((c 2) + y)) :
    RunV σ τ (w11_renew σ i ((τ 15 i 3) + nI ((c 2) + y)) (nI y)) (w14_fresh τ i) (rnF i) (mF [56] [] [] [(15, i, [4, 5, 11, 13, 14, 15, 16, 17, 18, 21, 22, 23, 24, 44])]) (RnwP σ t l b i c y) := by
  obtain ⟨s0, o0, n1, n2, n3, nl, n4, n5, n6⟩ := id hN
  have now1 : (σ 2 0 4) = nI t := n1.2.1.1
  have now2 : (τ 14 0 10) = nI t := n1.2.1.2.1
  obtain ⟨ts, ts1, ts2, ts3⟩ := h.ets
  obtain ⟨sr, sp, hsr⟩ : ∃ sr sp : Nat, (σ 11 i 35) ≠ 0 → (σ 11 i 38) = nI sr ∧ (τ 15 i 14) = nI sr ∧ (σ 11 i 39) = nI sp ∧ (τ 15 i 15) = nI sp ∧ sr ≤ t ∧ sp ≤ t := by
    by_cases z : (σ 11 i 35) = 0
    · exact ⟨0, 0, fun q => absurd z q⟩
    · obtain ⟨sr, sp, hh⟩ := h.esr z
      exact ⟨sr, sp, fun _ => hh⟩
  have q1 := h.ua
  have q2 := h.ax
  have q3 := h.xe
  have q4 := h.bu hst
  have q5 := h.f1
  have q6 := h.d1
  have q7 := h.bb
  have q8 := h.L6
  have hj : w11_renew σ i ((τ 15 i 3) + nI ((c 2) + y)) (nI y) (fun σ' => w14_fresh τ i (fun τ' => RnwP σ t l b i c y σ' τ')) := by
    refine s11_renew (c := c) (t := t) (ts := ts) (sr := sr) (sp := sp) ok htt now1 ts1 ts3 (fun z => ⟨(hsr z).1, (hsr z).2.2.1, (hsr z).2.2.2.2.1, (hsr z).2.2.2.2.2⟩) h.eat h.emx h.ems h.ecw h.ess h.ert hy1 hyx q2 (by omega) (by omega) ⟨h.ms1, h.ms2⟩ ⟨h.cw1, h.cw2⟩ h.ss2 h.rt2 (fun s1 ok1 f1 h7 h8 hC => ?_)
    refine s14_fresh (c := c) (t := t) (ts := ts) (sr := sr) (sp := sp) (I := (τ 15 i 3)) ok' htt now2 ts2 ts3 (fun z => by
      rw [← h.eme] at z
      exact ⟨(hsr z).2.1, (hsr z).2.2.2.1, (hsr z).2.2.2.2.1, (hsr z).2.2.2.2.2⟩) eack h.est' h.s8 h.eun' h.eat' h.emx' h.ems' h.ecw' h.ess' h.ert' hy1 hyx q2 (by omega) (by omega) ⟨h.ms1, h.ms2⟩ ⟨h.cw1, h.cw2⟩ h.ss2 h.rt2 (fun t1 okt1 g1 k6 k7 hM => ?_)
    rw [← h.eti, ← h.etn, ← h.eme] at hM
    generalize hg : gms ((σ 11 i 34)) ((τ 15 i 3) + nI ((c 2) + y)) ((σ 11 i 36)) = g at hC hM
    have F1 : Fr (mF [] [] [(8, [7, 8]), (11, [9, 10, 14, 16, 17, 18, 19, 29, 30, 32, 34, 35, 38, 39])] []) σ s1 := f1.sub (mF_sub rfl sub_nil rfl (sud_c (Or.inl ⟨_, List.mem_of_getElem? (i := 1) rfl, rfl⟩) sud_nil))
    have G1 : Fr (mF [] [] [(56, [6, 7]), (15, [4, 5, 11, 13, 14, 15, 16, 17, 18, 21, 22, 23, 24, 44])] []) τ t1 := g1.sub (mF_sub rfl sub_nil rfl (sud_c (Or.inl ⟨_, List.mem_of_getElem? (i := 1) rfl, rfl⟩) sud_nil))
    refine ⟨hN.f F1 G1, RK.fresh hK (F1 _ _ _ rfl) (F1 _ _ _ rfl) (fun j a b => F1 _ _ _ (by simp [mF, a, b])) (fun j a b => G1 _ _ _ (by simp [mF, a, b])) h7 h8 k6 k7, _, _, h.renew hst hy1 hyx htt ts3 (fun z => ⟨(hsr z).2.2.2.2.1, (hsr z).2.2.2.2.2⟩) rfl rfl hC hM (crows.f F1) (mrows.f G1), F1 _ _ _ rfl, F1 _ _ _ rfl, ?_⟩
    rw [hC]
    unfold rnC msC
    simp only [vu_g, Nat.reduceEqDiff, reduceIte]
  obtain ⟨σ', h, k1, f1, g1⟩ := e11_renew hi ok hj
  obtain ⟨τ', h, k2, f2, g2⟩ := e14_fresh hi ok' h
  exact ⟨σ', τ', g1, g2, k1, k2, f1, f2, h⟩
