/-! requests of a connection: the relation behind an answer -/
set_option maxRecDepth 100000
theorem RCn.ans {σ τ σ' τ' : St} {t i L' h' p' d' s' : Nat} {c : CK} (h : RCn σ τ t i c) (hst : (c 0) = 2 ∨ (c 0) = 7) (hd0 : (c 17) = 0) (hle : (c 3) = (c 1) + (c 5)) (hfl : (c 3) = (c 2))
    (hC : σ' 11 i = (va_up (va_up (σ 11 i) 26 ((σ 11 i 10))) 27 (nI d'))) (hM : τ' 15 i = (va_up (va_up (va_up (va_up (va_up (va_up (τ 15 i) 29 ((τ 15 i 5))) 26 (nI h')) 30 (nI d')) 27 (nI p')) 28 (nI (L' - h'))) 38 (nI s')))
    (h12 : σ' 12 i = (va_up (σ 12 i) 3 (nI s'))) (h13 : σ' 13 i = (va_up (σ 13 i) 1 (nI L'))) (h42 : σ' 42 i = σ 42 i) (h43 : σ' 43 i = σ 43 i) (k90 : σ' 90 (i + 1) 0 = 66047) (g72 : τ' 72 i = τ 72 i) (g73 : τ' 73 i = τ 73 i)
    (keab : ∀ j, j < L' → σ' 44 i j = if j < h' then τ' 71 i j else τ' 51 0 (p' + (j - h'))) (kb : 1 ≤ h' ∧ h' ≤ L' ∧ h' ≤ 512 ∧ p' + (L' - h') ≤ 65535 ∧ L' ≤ 66047) (hbb : (c 3) + L' + 2 < 1000000000) (hs6 : s' ≤ 65536) (hd1 : d' ≤ 1) : RCn σ' τ' t i (cup (cup (cup (cup (cup (cup (cup (cup c 1 (c 3)) 5 L') 6 h') 7 p') 17 d') 16 s') 19 (c 3)) 20 L') := by
  have q1 := h.f1
  have q2 := h.fst
  have q3 := h.xe
  have q4 := h.tin
  obtain ⟨b1, b2, b3, b4, b5⟩ := kb
  have tm0 : (σ 11 i 29) = 0 := by
    by_cases z : (σ 11 i 29) = 0
    · exact z
    · have := q4 z (by omega); omega
  have n1 : (c 4) ≤ (c 3) + L' + (c 18) := by omega
  have n2 : (c 0) = 1 → (c 2) = 0 ∧ (c 3) = 1 ∧ (c 4) = 1 ∧ (c 3) = 1 ∧ L' = 0 ∧ d' = 0 ∧ (c 18) = 0 := by omega
  have n3 : 2 ≤ (c 0) → (c 3) ≤ (c 2) := by omega
  have n4 : (c 3) + L' = (c 3) + L' := rfl
  have n5 : (c 3) ≤ (c 3) := Nat.le_refl _
  have n6 : 0 < L' → (c 3) = (c 3) := fun _ => rfl
  have n7 : ∀ j, (c 2) ≤ (c 3) + j → j < L' → σ' 44 i j = if j < h' then τ' 71 i j else τ' 51 0 (p' + (j - h')) := fun j _ hj => keab j hj
  have n8 : 0 < L' → σ' 90 (i + 1) 0 = 66047 := fun _ => k90
  have n9 : (c 18) ≤ d' := by omega
  have n10 : (c 0) = 4 ∨ (c 0) = 6 → (c 2) = (c 3) + L' + 1 ∧ (σ 11 i 29) = 0 := by omega
  have n11 : (σ 11 i 29) ≠ 0 → 2 ≤ (c 0) → (c 2) < (c 3) + L' + d' := fun z => absurd tm0 z
  obtain ⟨est, est', s1, s8, eip, ept, eiss, enx, ews, ewa, eun, eun', eat, eat', emx, emx', eba, eba', ua, ax, xe, syn, sy2, bu, bb, ewn, ewn', wn6, ems, ems', ms1, ms2, ecw, ecw', cw1, cw2, ess, ess', ss1, ss2, ert, ert', rt1, rt2, etr, etr', tr8, edu, erc, ehd, ehd', hd4, eft, etd, etd', td4, esk, esk', sk6, eow, efc, efn, eL, ehl, ebl, hL, bml, bmb, bmL, h5, epl, pl6, eab, eal, L6, ed, ed', d1, ef, ef', f1, fst, fin, eto, etm, tin, eti, etn, ets, eme, esr, eac, erow, ethr⟩ := id (h)
  apply RCn.mk <;> (try rw [hC]) <;> (try rw [hM]) <;> (try rw [h12]) <;> (try rw [h13]) <;> (try rw [h42]) <;> (try rw [h43]) <;> (try rw [h44]) <;> (try rw [h90]) <;> (try rw [g71]) <;> (try rw [g72]) <;> (try rw [g73]) <;> (try rw [g51]) <;> (try simp only [vu_g, cup_g, Nat.reduceEqDiff, reduceIte]) <;> (try assumption)
  all_goals first | rfl | (intro _; trivial)
theorem RCn.clo {σ τ σ' τ' : St} {t i : Nat} {c : CK} (h : RCn σ τ t i c) (hst : (c 0) = 2 ∨ (c 0) = 7) (hd0 : (c 17) = 0) (hle : (c 3) = (c 1) + (c 5)) (hfl : (c 3) = (c 2))
    (hC : σ' 11 i = (va_up (va_up (σ 11 i) 26 ((σ 11 i 10))) 27 1)) (hM : τ' 15 i = (va_up (τ 15 i) 30 1))
    (h12 : σ' 12 i = σ 12 i) (h13 : σ' 13 i = (va_up (σ 13 i) 1 0)) (h42 : σ' 42 i = σ 42 i) (h43 : σ' 43 i = σ 43 i) (hr' : mrows τ τ' i) : RCn σ' τ' t i (cup (cup (cup c 1 (c 3)) 5 0) 17 1) := by
  obtain ⟨g71, g72, g73, g51⟩ := hr'
  have q1 := h.f1
  have q2 := h.fst
  have q3 := h.xe
  have q4 := h.tin
  have q5 := h.bb
  have q6 := h.bml
  have q7 := h.bmb
  have tm0 : (σ 11 i 29) = 0 := by
    by_cases z : (σ 11 i 29) = 0
    · exact z
    · have := q4 z (by omega); omega
  have n1 : (c 4) ≤ (c 3) + 0 + (c 18) := by omega
  have n2 : (c 0) = 1 → (c 2) = 0 ∧ (c 3) = 1 ∧ (c 4) = 1 ∧ (c 3) = 1 ∧ (0 : Nat) = 0 ∧ (1 : Nat) = 0 ∧ (c 18) = 0 := by omega
  have n3 : 2 ≤ (c 0) → (c 3) ≤ (c 2) := by omega
  have n4 : (c 19) + (c 20) = (c 3) + 0 := by omega
  have n5 : (c 19) ≤ (c 3) := by omega
  have n6 : 0 < 0 → (c 19) = (c 3) := by omega
  have n7 : ∀ j, (c 2) ≤ (c 3) + j → j < 0 → σ' 44 i j = if j < (c 6) then τ 71 i j else τ 51 0 ((c 7) + (j - (c 6))) := fun j _ hj => by omega
  have n8 : 0 < 0 → σ' 90 (i + 1) 0 = 66047 := by omega
  have n9 : (c 18) ≤ 1 := by omega
  have n10 : (c 0) = 4 ∨ (c 0) = 6 → (c 2) = (c 3) + 0 + 1 ∧ (σ 11 i 29) = 0 := by omega
  have n11 : (σ 11 i 29) ≠ 0 → 2 ≤ (c 0) → (c 2) < (c 3) + 0 + 1 := fun z => absurd tm0 z
  have n12 : (c 3) + 0 + 2 < 1000000000 := by omega
  have n13 : (0 : Int32) = nI 0 := rfl
  have n14 : (1 : Int32) = nI 1 := rfl
  have n15 : 0 ≤ 66047 := by omega
  have n16 : 1 ≤ 1 := by omega
  obtain ⟨est, est', s1, s8, eip, ept, eiss, enx, ews, ewa, eun, eun', eat, eat', emx, emx', eba, eba', ua, ax, xe, syn, sy2, bu, bb, ewn, ewn', wn6, ems, ems', ms1, ms2, ecw, ecw', cw1, cw2, ess, ess', ss1, ss2, ert, ert', rt1, rt2, etr, etr', tr8, edu, erc, ehd, ehd', hd4, eft, etd, etd', td4, esk, esk', sk6, eow, efc, efn, eL, ehl, ebl, hL, bml, bmb, bmL, h5, epl, pl6, eab, eal, L6, ed, ed', d1, ef, ef', f1, fst, fin, eto, etm, tin, eti, etn, ets, eme, esr, eac, erow, ethr⟩ := id (h)
  have ns : ¬ (c 0) = 1 := fun z => by rcases hst with y | y <;> rw [y] at z <;> exact absurd z (by decide)
  apply RCn.mk <;> (try rw [hC]) <;> (try rw [hM]) <;> (try rw [h12]) <;> (try rw [h13]) <;> (try rw [h42]) <;> (try rw [h43]) <;> (try rw [h44]) <;> (try rw [h90]) <;> (try rw [g71]) <;> (try rw [g72]) <;> (try rw [g73]) <;> (try rw [g51]) <;> (try simp only [vu_g, cup_g, Nat.reduceEqDiff, reduceIte]) <;> (try assumption)
  all_goals first | rfl | exact fun z => absurd z ns | (intro z; exact absurd z (Nat.lt_irrefl 0)) | (intro _ z; exact absurd z (Nat.lt_irrefl 0)) | (intro _ _ z; exact absurd z (Nat.lt_irrefl 0)) | (intro _ z; exact absurd z (Nat.not_lt_zero _)) | simp | skip
/-- the newlines ahead of a request -/
theorem R_skip {t i : Nat} (hi : i < 16) : ∀ (m : Nat) (σ τ : St) (c : CK), (c 14) = m → okS σ → okS τ → RCq σ τ t i c → ((c 16) = 0 ∨ (c 14) = 0) →
    ∃ (σ' τ' : St) (hd' : Nat), okS σ' ∧ okS τ' ∧ Fr (tkF i) σ σ' ∧ Fr (tkG i) τ τ' ∧ (∀ (x3 : Int32) (Q : Int32 → St → Prop) (K : St → Prop), K σ' → ∃ z, w9_look_L3 i i x3 Q K z σ 1) ∧ (∀ (Q : Int32 → St → Prop) (K : St → Prop), K τ' → ∃ z, w14_oneRequest_L0 i Q K z τ) ∧ RCq σ' τ' t i (cup c 14 hd') ∧ hd' ≤ (c 14) := by
  intro m
  induction m using Nat.strongRecOn with
  | _ m ih =>
    intro σ τ c hm ok ok' h hsk
    obtain ⟨hR, hO⟩ := id h
    have q1 := hR.hd4
    have q2 := hR.sk6
    have eh : (σ 12 i 2) = nI (c 14) := by have := hR.ehd; rwa [up3_g, if_neg (by omega)] at this
    have er : σ 42 i = τ 72 i := by have := hR.erow; rwa [up3_r, if_neg (by omega)] at this
    have e1 : (cup c 14 (c 14)) = c := by
      funext j
      simp only [cup_g]
      by_cases z1 : j = 14
      · rw [if_pos z1, z1]
      · rw [if_neg z1]
    have ho := hR.ehd'
    have hmh : mheld τ i (c 14) := ho
    have hu0 := ub_lt (τ 72 i 0)
    have hu1 := ub_lt (τ 72 i 1)
    -- the component: from the bytes
    have stop : (((c 14) = 0 ∨ ub (τ 72 i 0) ≠ 10) ∧ ((c 14) ≤ 1 ∨ ub (τ 72 i 0) ≠ 13 ∨ ub (τ 72 i 1) ≠ 10)) → ∀ (x3 : Int32) (Q : Int32 → St → Prop) (K : St → Prop), K σ → ∃ z, w9_look_L3 i i x3 Q K z σ 1 := by
      intro hs x3 Q K hK
      have j34 : w9_look_J34 σ i i x3 1 Q (fun σz x4z => w9_look_L3 i i x3 Q K 1 σz x4z) := by
        unfold w9_look_J34
        rw [eh, show (0 : Int32).toNatClampNeg = 0 by decide, show (1 : Int32).toNatClampNeg = 1 by decide]
        by_cases c1 : (c 14) ≤ 1
        · exact br_t (nI_le (b := 1) c1 (by omega)) (br_t rfl hK)
        · refine br_f (nI_ge (a := 1) (by omega) (by omega)) ⟨vin (n := 0) (by omega) (by omega), fun hby => ?_⟩
          have q13 := by_eq (v := 13) hby (by omega)
          by_cases c2 : ub (σ 42 i 0) = 13
          · refine br_u (q13.mpr c2) ⟨vin (n := 1) (by omega) (by omega), fun hby2 => ?_⟩
            have q10 := by_eq (v := 10) hby2 (by omega)
            refine br_v (fun z => ?_) (br_t rfl hK)
            have z := q10.mp z
            rw [er] at c2 z
            omega
          · exact br_v (fun z => c2 (q13.mp z)) (br_t rfl hK)
      refine ⟨2, br_f (by decide) ?_⟩
      rw [eh, show (0 : Int32).toNatClampNeg = 0 by decide]
      by_cases c1 : (c 14) = 0
      · exact br_t (by rw [c1]; decide) j34
      · refine br_f (nI_nle (by omega) (by omega)) ⟨vin (n := 0) (by omega) (by omega), fun hby => br_v (fun z => ?_) j34⟩
        have z := (by_eq (v := 10) hby (by omega)).mp z
        rw [er] at z
        omega
    by_cases hs0 : (c 16) = 0
    rotate_left
    · have hd0 : (c 14) = 0 := by omega
      refine ⟨σ, τ, (c 14), ok, ok', Fr.rf, Fr.rf, stop ⟨Or.inl hd0, Or.inl (by omega)⟩, fun Q K hK => ⟨1, br_v (by rw [hR.esk']; exact nI_ne0 (by omega) (by omega)) hK⟩, by rw [e1]; exact h, Nat.le_refl _⟩
    have sk0 : (τ 15 i 38) = 0 := by rw [hR.esk', hs0]; rfl
    -- one more
    have more : ∀ n : Nat, 1 ≤ n → n ≤ (c 14) → (∀ (x3 : Int32) (Q : Int32 → St → Prop) (K : St → Prop) (z : Nat), w12_take σ i (nI n) (fun σ2 => w9_look_L3 i i x3 Q K z σ2 1) → w9_look_L3 i i x3 Q K (z + 1) σ 1) → (∀ (Q : Int32 → St → Prop) (K : St → Prop) (z : Nat), w14_take τ i (nI n) (fun σ2 => w14_oneRequest_L0 i Q K z σ2) → w14_oneRequest_L0 i Q K (z + 1) τ) → ∃ (σ' τ' : St) (hd' : Nat), okS σ' ∧ okS τ' ∧ Fr (tkF i) σ σ' ∧ Fr (tkG i) τ τ' ∧ (∀ (x3 : Int32) (Q : Int32 → St → Prop) (K : St → Prop), K σ' → ∃ z, w9_look_L3 i i x3 Q K z σ 1) ∧ (∀ (Q : Int32 → St → Prop) (K : St → Prop), K τ' → ∃ z, w14_oneRequest_L0 i Q K z τ) ∧ RCq σ' τ' t i (cup c 14 hd') ∧ hd' ≤ (c 14) := by
      intro n n1 n2 hc hm2
      obtain ⟨σ1, τ1, g1, g2, k1, k2, f1, f2, h1, _⟩ := R_take hi ok ok' h n2
      obtain ⟨σ', τ', hd', y1, y2, y3, y4, y5, y6, y7, y8⟩ := ih ((c 14) - n) (by omega) σ1 τ1 (cup c 14 ((c 14) - n)) rfl k1 k2 h1 (Or.inl hs0)
      refine ⟨σ', τ', hd', y1, y2, f1.tr y3, f2.tr y4, fun x3 Q K hK => ?_, fun Q K hK => ?_, ?_, ?_⟩
      · obtain ⟨z, hz⟩ := y5 x3 Q K hK
        exact ⟨z + 1, hc x3 Q K z (g1 _ hz)⟩
      · obtain ⟨z, hz⟩ := y6 Q K hK
        exact ⟨z + 1, hm2 Q K z (g2 _ hz)⟩
      · have e2 : (cup (cup c 14 ((c 14) - n)) 14 hd') = (cup c 14 hd') := by
          funext j
          simp only [cup_g]
          by_cases z1 : j = 14
          · rw [if_pos z1, if_pos z1]
          · rw [if_neg z1, if_neg z1, if_neg z1]
        rw [← e2]
        exact y7
      · simp only [cup_g, Nat.reduceEqDiff, reduceIte] at y8
        omega
    have b0 : ∀ (R : Int32 → Prop), (0 < (c 14) → R (nI (ub (τ 72 i 0)))) → (¬ 0 < (c 14) → R (-1)) → w14_byteAt τ i 0 R := fun R r1 r0 => s14_byteAt (k := 0) hmh q1 (by omega) r1 r0
    have b1 : ∀ (R : Int32 → Prop), (1 < (c 14) → R (nI (ub (τ 72 i 1)))) → (¬ 1 < (c 14) → R (-1)) → w14_byteAt τ i 1 R := fun R r1 r0 => s14_byteAt (k := 1) hmh q1 (by omega) r1 r0
    have z10 : ∀ u : Nat, u < 256 → (nI u = 10 ↔ u = 10) := fun u hu => nI_eq (b := 10) (by omega) (by omega)
    have z13 : ∀ u : Nat, u < 256 → (nI u = 13 ↔ u = 13) := fun u hu => nI_eq (b := 13) (by omega) (by omega)
    by_cases c1 : 0 < (c 14) ∧ ub (τ 72 i 0) = 10
    · refine more 1 (Nat.le_refl _) (by omega) (fun x3 Q K z hz => br_f (by decide) ?_) (fun Q K z hz => br_u sk0 (b0 _ (fun _ => br_t ((z10 _ hu0).mpr c1.2) (b0 _ (fun _ => br_u ((z10 _ hu0).mpr c1.2) hz) (fun y => absurd c1.1 y))) (fun y => absurd c1.1 y)))
      rw [eh, show (0 : Int32).toNatClampNeg = 0 by decide]
      exact br_f (nI_nle (by omega) (by omega)) ⟨vin (n := 0) (by omega) (by omega), fun hby => br_u ((by_eq (v := 10) hby (by omega)).mpr (by rw [er]; exact c1.2)) hz⟩
    by_cases c2 : 1 < (c 14) ∧ ub (τ 72 i 0) = 13 ∧ ub (τ 72 i 1) = 10
    · have n10 : ¬ nI (ub (τ 72 i 0)) = 10 := fun y => by have := (z10 _ hu0).mp y; omega
      refine more 2 (by omega) (by omega) (fun x3 Q K z hz => br_f (by decide) ?_) (fun Q K z hz => br_u sk0 (b0 _ (fun _ => br_f n10 (b0 _ (fun _ => br_u ((z13 _ hu0).mpr c2.2.1) (b1 _ (fun _ => br_u ((z10 _ hu1).mpr c2.2.2) (b0 _ (fun _ => br_v n10 hz) (fun y => absurd (by omega) y))) (fun y => absurd c2.1 y))) (fun y => absurd (by omega) y))) (fun y => absurd (by omega) y)))
      rw [eh, show (0 : Int32).toNatClampNeg = 0 by decide]
      refine br_f (nI_nle (by omega) (by omega)) ⟨vin (n := 0) (by omega) (by omega), fun hby => br_v (fun y => ?_) ?_⟩
      · have y := (by_eq (v := 10) hby (by omega)).mp y
        rw [er] at y
        omega
      · unfold w9_look_J34
        rw [eh, show (0 : Int32).toNatClampNeg = 0 by decide, show (1 : Int32).toNatClampNeg = 1 by decide]
        exact br_f (nI_ge (a := 1) (by omega) (by omega)) ⟨vin (n := 0) (by omega) (by omega), fun hby => br_u ((by_eq (v := 13) hby (by omega)).mpr (by rw [er]; exact c2.2.1)) ⟨vin (n := 1) (by omega) (by omega), fun hby2 => br_u ((by_eq (v := 10) hby2 (by omega)).mpr (by rw [er]; exact c2.2.2)) hz⟩⟩
    -- nothing more
    refine ⟨σ, τ, (c 14), ok, ok', Fr.rf, Fr.rf, stop ⟨by omega, by omega⟩, fun Q K hK => ⟨1, br_u sk0 ?_⟩, by rw [e1]; exact h, Nat.le_refl _⟩
    refine b0 _ (fun y => br_f (fun z => c1 ⟨y, (z10 _ hu0).mp z⟩) (b0 _ (fun _ => ?_) (fun z => absurd y z))) (fun y => br_f (by decide) (b0 _ (fun z => absurd z y) (fun _ => br_v (by decide) hK)))
    by_cases c3 : ub (τ 72 i 0) = 13
    · refine br_u ((z13 _ hu0).mpr c3) (b1 _ (fun y1 => br_v (fun z => c2 ⟨y1, c3, (z10 _ hu1).mp z⟩) hK) (fun _ => br_v (by decide) hK))
    · exact br_v (fun z => c3 ((z13 _ hu0).mp z)) hK
