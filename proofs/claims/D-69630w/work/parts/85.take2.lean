/-! bytes that are taken out: side by side -/
set_option maxRecDepth 100000
theorem RCn.tak {σ τ σ' τ' : St} {t i n : Nat} {c : CK} {o : Int32} {B T : Nat → Int32} (h : RCn σ τ t i c) (hn : n ≤ (c 14))
    (hC : σ' 11 i = (va_up (σ 11 i) 22 o)) (hM : τ' 15 i = (va_up (va_up (τ 15 i) 35 ((τ 15 i 35) + nI n)) 39 o))
    (h12 : σ' 12 i = (va_up (σ 12 i) 2 (nI ((c 14) - n)))) (h13 : σ' 13 i = σ 13 i) (h42 : σ' 42 i = B) (h43 : σ' 43 i = T) (h44 : σ' 44 i = σ 44 i) (h90 : σ' 90 (i + 1) = σ 90 (i + 1)) (g71 : τ' 71 i = τ 71 i) (g72 : τ' 72 i = B) (g73 : τ' 73 i = T) (g51 : τ' 51 0 = τ 51 0) : RCn σ' τ' t i (cup c 14 ((c 14) - n)) := by
  have n1 : (τ 15 i 36) = (τ 15 i 35) + nI n + nI ((c 14) - n) + (τ 15 i 41) := by
    rw [so_5, show n + ((c 14) - n) = (c 14) by omega]
    exact h.ehd'
  have q := h.hd4
  have n2 : (c 14) - n ≤ 4096 := by omega
  obtain ⟨est, est', s1, s8, eip, ept, eiss, enx, ews, ewa, eun, eun', eat, eat', emx, emx', eba, eba', ua, ax, xe, syn, sy2, bu, bb, ewn, ewn', wn6, ems, ems', ms1, ms2, ecw, ecw', cw1, cw2, ess, ess', ss1, ss2, ert, ert', rt1, rt2, etr, etr', tr8, edu, erc, ehd, ehd', hd4, eft, etd, etd', td4, esk, esk', sk6, eow, efc, efn, eL, ehl, ebl, hL, bml, bmb, bmL, h5, epl, pl6, eab, eal, L6, ed, ed', d1, ef, ef', f1, fst, fin, eto, etm, tin, eti, etn, ets, eme, esr, eac, erow, ethr⟩ := id (h)
  apply RCn.mk <;> (try rw [hC]) <;> (try rw [hM]) <;> (try rw [h12]) <;> (try rw [h13]) <;> (try rw [h42]) <;> (try rw [h43]) <;> (try rw [h44]) <;> (try rw [h90]) <;> (try rw [g71]) <;> (try rw [g72]) <;> (try rw [g73]) <;> (try rw [g51]) <;> (try simp only [vu_g, cup_g, Nat.reduceEqDiff, reduceIte]) <;> (try assumption)
  all_goals rfl
/-- the numbers of what is left out -/
theorem RCn.skp {σ τ σ' τ' : St} {t i s : Nat} {c : CK} (h : RCn σ τ t i c) (hs : s ≤ 65536)
    (hC : σ' 11 i = σ 11 i) (hM : τ' 15 i = (va_up (τ 15 i) 38 (nI s)))
    (h12 : σ' 12 i = (va_up (σ 12 i) 3 (nI s))) (h13 : σ' 13 i = σ 13 i) (h42 : σ' 42 i = σ 42 i) (h43 : σ' 43 i = σ 43 i) (h44 : σ' 44 i = σ 44 i) (h90 : σ' 90 (i + 1) = σ 90 (i + 1)) (hr' : mrows τ τ' i) : RCn σ' τ' t i (cup c 16 s) := by
  obtain ⟨g71, g72, g73, g51⟩ := hr'
  obtain ⟨est, est', s1, s8, eip, ept, eiss, enx, ews, ewa, eun, eun', eat, eat', emx, emx', eba, eba', ua, ax, xe, syn, sy2, bu, bb, ewn, ewn', wn6, ems, ems', ms1, ms2, ecw, ecw', cw1, cw2, ess, ess', ss1, ss2, ert, ert', rt1, rt2, etr, etr', tr8, edu, erc, ehd, ehd', hd4, eft, etd, etd', td4, esk, esk', sk6, eow, efc, efn, eL, ehl, ebl, hL, bml, bmb, bmL, h5, epl, pl6, eab, eal, L6, ed, ed', d1, ef, ef', f1, fst, fin, eto, etm, tin, eti, etn, ets, eme, esr, eac, erow, ethr⟩ := id (h)
  apply RCn.mk <;> (try rw [hC]) <;> (try rw [hM]) <;> (try rw [h12]) <;> (try rw [h13]) <;> (try rw [h42]) <;> (try rw [h43]) <;> (try rw [h44]) <;> (try rw [h90]) <;> (try rw [g71]) <;> (try rw [g72]) <;> (try rw [g73]) <;> (try rw [g51]) <;> (try simp only [vu_g, cup_g, Nat.reduceEqDiff, reduceIte]) <;> (try assumption)
  all_goals rfl
/-- while requests are looked at: the component does not yet know whether it owes an acknowledgement -/
def RCq (σ τ : St) (t i : Nat) (c : CK) : Prop := RCn (up3 σ 11 i 22 ((τ 15 i 39))) τ t i c ∧ (τ 15 i 39) = if (c 15) + 2048 ≤ 4096 - (c 14) then 1 else (σ 11 i 22)
theorem RCq.v {σ τ : St} {i j : Nat} (h : j ≠ 22) : (up3 σ 11 i 22 ((τ 15 i 39))) 11 i j = σ 11 i j := by rw [up3_g, if_neg (by omega)]
theorem RCq.of {σ τ : St} {t i : Nat} {c : CK} (h : RCn σ τ t i c) (hl : 4096 - (c 14) < (c 15) + 2048) : RCq σ τ t i c := by
  refine ⟨?_, ?_⟩
  · rw [← h.eow, up_self rfl]
    exact h
  · rw [if_neg (by omega)]
    exact h.eow.symm
/-- the component's state behind bytes that were taken -/
def tkC (σ : St) (i n hd : Nat) : St := up3 (row3 (row3 σ 42 i (shB (σ 42 i) n)) 43 i (shT (σ 43 i) n)) 12 i 2 (nI (hd - n))
theorem tkC_u {σ : St} {i n hd : Nat} {v : Int32} : up3 (tkC σ i n hd) 12 i 3 v = tkC (up3 σ 12 i 3 v) i n hd := by
  have e42 : up3 σ 12 i 3 v 42 i = σ 42 i := by rw [up3_r, if_neg (by omega)]
  have e43 : up3 σ 12 i 3 v 43 i = σ 43 i := by rw [up3_r, if_neg (by omega)]
  unfold tkC
  rw [e42, e43]
  funext k' i'
  by_cases c12 : k' = 12 ∧ i' = i
  · rw [up3_r, if_pos c12, up3_r, if_pos ⟨rfl, rfl⟩, row3_o (by omega), row3_o (by omega), up3_r, if_pos c12, row3_o (by omega), row3_o (by omega), up3_r, if_pos ⟨rfl, rfl⟩, vu_comm (by decide)]
  · rw [up3_r, if_neg c12, up3_r, if_neg c12, up3_r, if_neg c12, row3_r, row3_r, row3_r, row3_r, up3_r, if_neg c12]
abbrev tkF (i : Nat) : Nat → Nat → Nat → Bool := mF [] [(42, i), (43, i)] [] [(12, i, [2])]
abbrev tkG (i : Nat) : Nat → Nat → Nat → Bool := mF [] [(72, i), (73, i)] [] [(15, i, [35, 39])]
theorem R_take {σ τ : St} {t i n : Nat} {c : CK} (hi : i < 16) (ok : okS σ) (ok' : okS τ) (h : RCq σ τ t i c) (hn : n ≤ (c 14)) :
    RunV σ τ (w12_take σ i (nI n)) (w14_take τ i (nI n)) (tkF i) (tkG i) (fun σ' τ' => RCq σ' τ' t i (cup c 14 ((c 14) - n)) ∧ σ' = tkC σ i n (c 14)) := by
  obtain ⟨hR, hO⟩ := h
  have q1 := hR.hd4
  have q2 := hR.td4
  have eh : (σ 12 i 2) = nI (c 14) := by have := hR.ehd; rwa [up3_g, if_neg (by omega)] at this
  have er : σ 42 i = τ 72 i := by have := hR.erow; rwa [up3_r, if_neg (by omega)] at this
  have et : σ 43 i = τ 73 i := by have := hR.ethr; rwa [up3_r, if_neg (by omega)] at this
  obtain ⟨σ', hσ, k1, f1, g1⟩ := e12_take (Q := fun s => s = _) hi ok (s12_take hn q1 eh rfl)
  obtain ⟨τ', hτ, k2, f2, g2⟩ := e14_take (Q := fun s => s = _) hi ok' (s14_take hn q1 q2 hR.ehd' hR.etd' rfl)
  have F : Fr (mF [42, 43] [] [(12, [2])] []) σ σ' := f1.sub (mF_sub rfl (sub_c (Or.inl rfl) (sub_c (Or.inl rfl) sub_nil)) rfl (sud_c (Or.inl ⟨_, List.mem_of_getElem? (i := 0) rfl, rfl⟩) sud_nil))
  have G : Fr (mF [72, 73] [] [(15, [35, 39])] []) τ τ' := f2.sub (mF_sub rfl (sub_c (Or.inl rfl) (sub_c (Or.inl rfl) sub_nil)) rfl (sud_c (Or.inl ⟨_, List.mem_of_getElem? (i := 0) rfl, rfl⟩) sud_nil))
  have m15 : τ' 15 i = (va_up (va_up (τ 15 i) 35 ((τ 15 i 35) + nI n)) 39 (if (c 15) + 2048 ≤ 4096 - ((c 14) - n) then 1 else (τ 15 i 39))) := by rw [hτ, row3_s]
  have m39 : (τ' 15 i 39) = if (c 15) + 2048 ≤ 4096 - ((c 14) - n) then 1 else (τ 15 i 39) := by rw [m15]; simp only [vu_g, Nat.reduceEqDiff, reduceIte]
  have s42 : σ' 42 i = shB (σ 42 i) n := by rw [hσ, up3_r, if_neg (by omega), row3_o (by omega), row3_s]
  refine ⟨σ', τ', g1, g2, k1, k2, f1, f2, ⟨?_, ?_⟩, hσ⟩
  · refine hR.tak (o := (τ' 15 i 39)) (B := shB (τ 72 i) n) (T := shT (τ 73 i) n) hn ?_ ?_ ?_ ?_ ?_ ?_ ?_ ?_ ?_ ?_ ?_ ?_
    · rw [up3_r, if_pos ⟨rfl, rfl⟩, up3_r, if_pos ⟨rfl, rfl⟩, vu_vu, F.row fun _ => rfl]
    · rw [m39]; exact m15
    · rw [up3_r, if_neg (by omega), up3_r, if_neg (by omega), hσ, up3_r, if_pos ⟨rfl, rfl⟩, row3_o (by omega), row3_o (by omega)]
    · rw [up3_r, if_neg (by omega), up3_r, if_neg (by omega)]; exact F.row fun _ => rfl
    · rw [up3_r, if_neg (by omega), s42, er]
    · rw [up3_r, if_neg (by omega), hσ, up3_r, if_neg (by omega), row3_s, et]
    · rw [up3_r, if_neg (by omega), up3_r, if_neg (by omega)]; exact F.row fun _ => rfl
    · rw [up3_r, if_neg (by omega), up3_r, if_neg (by omega)]; exact F.row fun _ => rfl
    · exact G.row fun _ => rfl
    · rw [hτ, row3_o (by omega), row3_o (by omega), row3_s]
    · rw [hτ, row3_o (by omega), row3_s]
    · exact G.row fun _ => rfl
  · rw [m39, hO, F _ _ _ rfl]
    simp only [cup_g, Nat.reduceEqDiff, reduceIte]
    by_cases c1 : (c 15) + 2048 ≤ 4096 - ((c 14) - n)
    · rw [if_pos c1, if_pos c1]
    · rw [if_neg c1, if_neg c1, if_neg (by omega)]
/-- the model leaves bytes out -/
abbrev mskip (τ : St) (i : Nat) (P : St → Prop) : Prop := w15_held τ i (fun r1 => (((imin (τ 15 i 38) r1) ≤ 0 → P τ) ∧ (¬ (imin (τ 15 i 38) r1) ≤ 0 → (∀ σ4, σ4 = up3 τ 15 i 38 ((τ 15 i 38) - (imin (τ 15 i 38) r1)) → (w14_take σ4 i (imin (τ 15 i 38) r1) (fun σ5 => P σ5))))))
abbrev lvF (i : Nat) : Nat → Nat → Nat → Bool := mF [] [(42, i), (43, i)] [] [(12, i, [2, 3])]
abbrev lvG (i : Nat) : Nat → Nat → Nat → Bool := mF [] [(72, i), (73, i)] [] [(15, i, [35, 38, 39])]
theorem R_leave {σ τ : St} {t i : Nat} {c : CK} (hi : i < 16) (ok : okS σ) (ok' : okS τ) (h : RCq σ τ t i c) :
    RunV σ τ (w12_leaveOut σ i) (mskip τ i) (lvF i) (lvG i) (fun σ' τ' => RCq σ' τ' t i (cup (cup c 14 ((c 14) - min (c 16) (c 14))) 16 ((c 16) - min (c 16) (c 14)))) := by
  obtain ⟨hR, hO⟩ := id h
  have q1 := hR.hd4
  have q2 := hR.sk6
  have eh : (σ 12 i 2) = nI (c 14) := by have := hR.ehd; rwa [up3_g, if_neg (by omega)] at this
  have es : (σ 12 i 3) = nI (c 16) := by have := hR.esk; rwa [up3_g, if_neg (by omega)] at this
  generalize hn : min (c 16) (c 14) = n
  have emin : imin ((σ 12 i 3)) ((σ 12 i 2)) = nI n := by rw [es, eh, imin_n (by omega) (by omega), hn]
  by_cases c1 : n = 0
  · refine ⟨σ, τ, fun Q hq => ?_, fun P hp => ?_, ok, ok', Fr.rf, Fr.rf, ?_⟩
    · unfold w12_leaveOut
      rw [emin, c1]
      refine br_t (by decide) (fun s1 e1 => ?_)
      have : s1 = σ := by rw [e1]; exact up_self (by show _ = _ - (0 : Int32); rw [Int32.sub_zero])
      rw [this]
      exact hq
    · refine s15_held hR.ehd' ?_
      rw [hR.esk', imin_n (by omega) (by omega), hn, c1]
      exact br_t (by decide) hp
    · have e1 : (cup (cup c 14 ((c 14) - n)) 16 ((c 16) - n)) = c := by
        funext j
        simp only [cup_g]
        by_cases z1 : j = 16
        · rw [if_pos z1, z1, c1]; rfl
        · rw [if_neg z1]
          by_cases z2 : j = 14
          · rw [if_pos z2, z2, c1]; rfl
          · rw [if_neg z2]
      rw [e1]
      exact h
  · -- bytes are taken: the model counts first, the component last
    generalize ht4 : up3 τ 15 i 38 (nI ((c 16) - n)) = t4
    have okt4 : okS t4 := by rw [← ht4]; exact ok_n ok' rfl
    generalize hs4 : up3 σ 12 i 3 (nI ((c 16) - n)) = s4
    have oks4 : okS s4 := by rw [← hs4]; exact ok_n ok rfl
    have G4 : Fr (mF [] [] [(15, [38])] []) τ t4 := by rw [← ht4]; exact fr_u rfl
    have F4 : Fr (mF [] [] [(12, [3])] []) σ s4 := by rw [← hs4]; exact fr_u rfl
    have r4 : t4 15 i = (va_up (τ 15 i) 38 (nI ((c 16) - n))) := by rw [← ht4, up3_r, if_pos ⟨rfl, rfl⟩]
    have w4 : ∀ j, j ≠ 38 → t4 15 i j = τ 15 i j := fun j hj => G4 _ _ _ (by simp [mF, hj])
    have h4 : RCq s4 t4 t i (cup c 16 ((c 16) - n)) := by
      have e39 : (t4 15 i 39) = (τ 15 i 39) := G4 _ _ _ rfl
      refine ⟨hR.skp (by omega) ?_ r4 ?_ ?_ ?_ ?_ ?_ ?_ (mrows.f G4), ?_⟩
      · rw [up3_r, if_pos ⟨rfl, rfl⟩, up3_r, if_pos ⟨rfl, rfl⟩, e39, F4.row fun _ => rfl]
      · rw [up3_r, if_neg (by omega), up3_r, if_neg (by omega), ← hs4, up3_r, if_pos ⟨rfl, rfl⟩]
      · rw [up3_r, if_neg (by omega), up3_r, if_neg (by omega)]; exact F4.row fun _ => rfl
      · rw [up3_r, if_neg (by omega), up3_r, if_neg (by omega)]; exact F4.row fun _ => rfl
      · rw [up3_r, if_neg (by omega), up3_r, if_neg (by omega)]; exact F4.row fun _ => rfl
      · rw [up3_r, if_neg (by omega), up3_r, if_neg (by omega)]; exact F4.row fun _ => rfl
      · rw [up3_r, if_neg (by omega), up3_r, if_neg (by omega)]; exact F4.row fun _ => rfl
      · rw [e39, F4 _ _ _ rfl]; exact hO
    obtain ⟨σ5, τ5, g1, g2, k1, k2, f1, f2, h5, h42⟩ := R_take (n := n) hi oks4 okt4 h4 (by simp only [cup_g, Nat.reduceEqDiff, reduceIte]; omega)
    have ec : (cup (cup c 16 ((c 16) - n)) 14 ((c 14) - n)) = (cup (cup c 14 ((c 14) - n)) 16 ((c 16) - n)) := by
      funext j
      simp only [cup_g]
      by_cases z1 : j = 16
      · rw [if_pos z1, if_neg (by omega), if_pos z1]
      · rw [if_neg z1, if_neg z1]
    simp only [cup_g, Nat.reduceEqDiff, reduceIte] at h42
    rw [← hs4, ← tkC_u] at h42
    refine ⟨σ5, τ5, fun Q hq => ?_, fun P hp => ?_, k1, k2, ?_, ?_, ?_⟩
    · unfold w12_leaveOut
      rw [emin]
      refine br_f (nI_nle (by omega) (by omega)) (s12_take (by omega) q1 eh (fun s3 e3 => ?_))
      have x3 : (tkC σ i n (c 14)) 12 i 3 = nI (c 16) := by
        unfold tkC
        rw [up3_g, if_neg (by omega), row3_o (by omega), row3_o (by omega)]
        exact es
      have e3' : s3 = up3 (tkC σ i n (c 14)) 12 i 3 ((tkC σ i n (c 14)) 12 i 3 - nI n) := e3
      rw [x3, pk_sub (by omega), ← h42] at e3'
      rw [e3']
      exact hq
    · refine s15_held hR.ehd' ?_
      rw [hR.esk', imin_n (by omega) (by omega), hn]
      refine br_f (nI_nle (by omega) (by omega)) (fun t5 e5 => ?_)
      rw [pk_sub (by omega), ht4] at e5
      rw [e5]
      exact g2 _ hp
    · have a : Fr (mF [] [] [] [(12, i, [3])]) σ s4 := by rw [← hs4]; exact fr_u (by simp [mF])
      exact (a.sub (mF_sub rfl sub_nil rfl (sud_c (Or.inr ⟨_, List.mem_of_getElem? (i := 0) rfl, rfl⟩) sud_nil))).tr (f1.sub (mF_sub rfl (sub_c (Or.inr (List.mem_of_getElem? (i := 0) rfl)) (sub_c (Or.inr (List.mem_of_getElem? (i := 1) rfl)) sub_nil)) rfl (sud_c (Or.inr ⟨_, List.mem_of_getElem? (i := 0) rfl, rfl⟩) sud_nil)))
    · have a : Fr (mF [] [] [] [(15, i, [38])]) τ t4 := by rw [← ht4]; exact fr_u (by simp [mF])
      exact (a.sub (mF_sub rfl sub_nil rfl (sud_c (Or.inr ⟨_, List.mem_of_getElem? (i := 0) rfl, rfl⟩) sud_nil))).tr (f2.sub (mF_sub rfl (sub_c (Or.inr (List.mem_of_getElem? (i := 0) rfl)) (sub_c (Or.inr (List.mem_of_getElem? (i := 1) rfl)) sub_nil)) rfl (sud_c (Or.inr ⟨_, List.mem_of_getElem? (i := 0) rfl, rfl⟩) sud_nil)))
    · rw [← ec]
      simp only [cup_g, Nat.reduceEqDiff, reduceIte] at h5
      exact h5
