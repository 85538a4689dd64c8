/-! on with a connection: requests, what is to be sent, what is owed -/
set_option maxRecDepth 100000
theorem s14_requests {τ τ1 : St} {i : Nat} {Q : St → Prop} (hl : ∀ P : St → Prop, P τ1 → mskip τ i P) (hq : ((τ1 15 i 0) = 2 → (w14_requests_J55 τ1 i Q (fun σz x2z => w14_requests_L2 i Q (fun σ7 => Q σ7) 1 σz x2z))) ∧ (¬ (τ1 15 i 0) = 2 → ((¬ (τ1 15 i 0) = 7 → (w14_requests_J89 τ1 i 0 Q (fun σz x2z => w14_requests_L2 i Q (fun σ7 => Q σ7) 1 σz x2z))) ∧ ((τ1 15 i 0) = 7 → (w14_requests_J55 τ1 i Q (fun σz x2z => w14_requests_L2 i Q (fun σ7 => Q σ7) 1 σz x2z)))))) : w14_requests τ i Q :=
  ⟨2, br_f (by decide) (hl (fun σ5 => (((σ5 15 i 0) = 2 → (w14_requests_J55 σ5 i Q (fun σz x2z => w14_requests_L2 i Q (fun σ7 => Q σ7) 1 σz x2z))) ∧ (¬ (σ5 15 i 0) = 2 → ((¬ (σ5 15 i 0) = 7 → (w14_requests_J89 σ5 i 0 Q (fun σz x2z => w14_requests_L2 i Q (fun σ7 => Q σ7) 1 σz x2z))) ∧ ((σ5 15 i 0) = 7 → (w14_requests_J55 σ5 i Q (fun σz x2z => w14_requests_L2 i Q (fun σ7 => Q σ7) 1 σz x2z))))))) hq)⟩
/-- the requests of both, and that the component knows what it owes -/
theorem R_reqs {σ τ : St} {t l b i : Nat} {c : CK} (hi : i < 16) (ok : okS σ) (ok' : okS τ) (hN : NB σ τ t l b) (hI : LkI σ τ i) (h : RCn σ τ t i c) (hL : LV σ τ t i c) (hst : 2 ≤ (c 0)) (hbb : (c 1) + (c 5) < 900000000) :
    ∃ (σ' τ' : St) (c' : CK), (∀ Q, w11_goOn_J51 σ' i Q → w11_goOn σ i Q) ∧ (∀ Q, Q τ' → w14_requests τ i Q) ∧ okS σ' ∧ okS τ' ∧ NB σ' τ' t l b ∧ RK σ' τ' ∧ σ' 40 0 = τ' 66 0 ∧ (σ' 90 (i + 1) 0 = 0 ∨ σ' 90 (i + 1) 0 = 66047) ∧ RCn σ' τ' t i c' ∧ (c' 0) = (c 0) ∧ (c' 2) = (c 2) ∧ (c' 3) = (c 3) ∧ (c' 4) = (c 4) ∧ (c' 18) = (c 18) ∧ ((c' 15) + 2048 ≤ 4096 - (c' 14) → (σ' 11 i 22) = 1) ∧ ((c' 17) = (c 17) ∧ (c' 1) = (c 1) ∧ (c' 5) = (c 5) ∨ (c' 1) = (c 3) ∧ (0 < (c' 5) ∨ (c' 17) = 1) ∧ (c' 5) ≤ 66047) ∧ (σ' 11 i 32) = (σ 11 i 32) ∧ (σ' 11 i 33) = (σ 11 i 33) ∧ (σ' 11 i 31) = (σ 11 i 31) ∧ (τ' 15 i 45) = (τ 15 i 45) := by
  have hq0 := RCq.of h hL.mtd
  obtain ⟨σ1, τ1, gC1, gM1, ok1, okt1, f1, g1, h1⟩ := R_leave hi ok ok' hq0
  have F1 : Fr (mF [42, 43] [] [(12, [2, 3])] []) σ σ1 := f1.sub (mF_sub rfl (sub_c (Or.inl rfl) (sub_c (Or.inl rfl) sub_nil)) rfl (sud_c (Or.inl ⟨_, List.mem_of_getElem? (i := 0) rfl, rfl⟩) sud_nil))
  have G1 : Fr (mF [72, 73] [] [(15, [35, 38, 39])] []) τ τ1 := g1.sub (mF_sub rfl (sub_c (Or.inl rfl) (sub_c (Or.inl rfl) sub_nil)) rfl (sud_c (Or.inl ⟨_, List.mem_of_getElem? (i := 0) rfl, rfl⟩) sud_nil))
  generalize hc1 : (cup (cup c 14 ((c 14) - min (c 16) (c 14))) 16 ((c 16) - min (c 16) (c 14))) = c1 at h1
  have k0 : (c1 0) = (c 0) ∧ (c1 2) = (c 2) ∧ (c1 3) = (c 3) ∧ (c1 4) = (c 4) ∧ (c1 18) = (c 18) ∧ (c1 17) = (c 17) ∧ (c1 1) = (c 1) ∧ (c1 5) = (c 5) ∧ (c1 15) = (c 15) := by rw [← hc1]; exact ⟨rfl, rfl, rfl, rfl, rfl, rfl, rfl, rfl, rfl⟩
  have k1 : (c1 16) = 0 ∨ (c1 14) = 0 := by rw [← hc1]; simp only [cup_g, Nat.reduceEqDiff, reduceIte]; omega
  obtain ⟨k2, k3, k4, k5, k6, k7, k8, k9, k10⟩ := k0
  have hF1 := h1.cf
  have hN1 : NB σ1 τ1 t l b := hN.f F1 G1
  have hI1 : LkI σ1 τ1 i := LkI.mk (hI.rk.f F1 G1) (by rw [F1.row (k := 40) fun _ => rfl, G1.row (k := 66) fun _ => rfl]; exact hI.hd) (hI.st.f F1 G1) (by rw [F1 _ _ _ rfl]; exact hI.rm) (by rw [F1 _ _ _ rfl]; exact hI.fr)
  have s8 := h.s8
  -- what is owed
  have tail : ∀ (σ2 τ2 : St) (c2 : CK), okS σ2 → okS τ2 → NB σ2 τ2 t l b → RK σ2 τ2 → σ2 40 0 = τ2 66 0 → (σ2 90 (i + 1) 0 = 0 ∨ σ2 90 (i + 1) 0 = 66047) → RCq σ2 τ2 t i c2 → (c2 0) = (c 0) → (c2 2) = (c 2) → (c2 3) = (c 3) → (c2 4) = (c 4) → (c2 18) = (c 18) → ((c2 17) = (c 17) ∧ (c2 1) = (c 1) ∧ (c2 5) = (c 5) ∨ (c2 1) = (c 3) ∧ (0 < (c2 5) ∨ (c2 17) = 1) ∧ (c2 5) ≤ 66047) → (σ2 11 i 32) = (σ 11 i 32) → (σ2 11 i 33) = (σ 11 i 33) → (σ2 11 i 31) = (σ 11 i 31) → (τ2 15 i 45) = (τ 15 i 45) → (∀ Q, w11_goOn_J28 σ2 i Q → w11_goOn σ i Q) → (∀ Q, Q τ2 → w14_requests τ i Q) →
      ∃ (σ' τ' : St) (c' : CK), (∀ Q, w11_goOn_J51 σ' i Q → w11_goOn σ i Q) ∧ (∀ Q, Q τ' → w14_requests τ i Q) ∧ okS σ' ∧ okS τ' ∧ NB σ' τ' t l b ∧ RK σ' τ' ∧ σ' 40 0 = τ' 66 0 ∧ (σ' 90 (i + 1) 0 = 0 ∨ σ' 90 (i + 1) 0 = 66047) ∧ RCn σ' τ' t i c' ∧ (c' 0) = (c 0) ∧ (c' 2) = (c 2) ∧ (c' 3) = (c 3) ∧ (c' 4) = (c 4) ∧ (c' 18) = (c 18) ∧ ((c' 15) + 2048 ≤ 4096 - (c' 14) → (σ' 11 i 22) = 1) ∧ ((c' 17) = (c 17) ∧ (c' 1) = (c 1) ∧ (c' 5) = (c 5) ∨ (c' 1) = (c 3) ∧ (0 < (c' 5) ∨ (c' 17) = 1) ∧ (c' 5) ≤ 66047) ∧ (σ' 11 i 32) = (σ 11 i 32) ∧ (σ' 11 i 33) = (σ 11 i 33) ∧ (σ' 11 i 31) = (σ 11 i 31) ∧ (τ' 15 i 45) = (τ 15 i 45) := by
    intro σ2 τ2 c2 ok2 okt2 hN2 rk2 hh2 rm2 h2 e1 e2 e3 e4 e5 e6 e7 e8 e9 e10 gC gM
    have hF2 := h2.cf
    obtain ⟨hR2, hO2⟩ := h2
    have q1 := hR2.hd4
    have q2 := hR2.td4
    have etd : (σ2 11 i 21) = nI (c2 15) := by have := hR2.etd; rwa [up3_g, if_neg (by omega)] at this
    have ebo : bo ((τ2 15 i 39)) := ok_bo okt2 rfl
    have F3 : Fr (mF [] [] [(11, [22])] []) σ2 (up3 σ2 11 i 22 ((τ2 15 i 39))) := fr_u rfl
    refine ⟨up3 σ2 11 i 22 ((τ2 15 i 39)), τ2, c2, fun Q hq => gC Q ?_, gM, ok_z ok2 rfl ebo, okt2, hN2.f F3 (Fr.rf (M := mF [] [] [] [])), rk2.f F3 (Fr.rf (M := mF [] [] [] [])), by rw [F3.row (k := 40) fun _ => rfl]; exact hh2, by rw [F3 _ _ _ rfl]; exact rm2, hR2, e1, e2, e3, e4, e5, fun z => ?_, e6, by rw [F3 _ _ _ rfl]; exact e7, by rw [F3 _ _ _ rfl]; exact e8, by rw [F3 _ _ _ rfl]; exact e9, e10⟩
    · show (4096 - (σ2 12 i 2) - (σ2 11 i 21) < 2048 → _) ∧ _
      rw [hF2.eh, etd, show (4096 : Int32) - nI (c2 14) = nI (4096 - (c2 14)) from pk_sub (a := 4096) q1]
      have ecmp : nI (4096 - (c2 14)) - nI (c2 15) < 2048 ↔ ¬ (c2 15) + 2048 ≤ 4096 - (c2 14) := by
        rw [Int32.lt_iff_toInt_lt, sub_toInt (by omega) (by omega)]
        show ((4096 - (c2 14) : Nat) : Int) - ((c2 15) : Int) < 2048 ↔ _
        omega
      by_cases cc : (c2 15) + 2048 ≤ 4096 - (c2 14)
      · rw [hO2, if_pos cc] at hq
        exact br_f (fun z => (ecmp.mp z) cc) (fun s13 e13 => by rw [e13]; exact hq)
      · rw [hO2, if_neg cc, up_self rfl] at hq
        exact br_t (ecmp.mpr cc) hq
    · rw [up3_g, if_pos ⟨rfl, rfl, rfl⟩, hO2, if_pos z]
  have eR := h1.1.est'
  by_cases c27 : (c1 0) = 2 ∨ (c1 0) = 7
  · obtain ⟨σ2, τ2, gC2, gM2, ok2, okt2, f2, g2, rk2, hh2, rm2, c2, h2, y1, y2, y3, y4, y5, y6, y7, y8⟩ := R_look hi ok1 okt1 h1 hI1 c27 k1 (by rw [k8, k9]; exact hbb)
    have F2 : Fr (mF [40, 41, 42, 43, 44, 90] [] [(8, [5]), (9, [2, 3, 4, 5, 6, 7, 8, 9, 10, 11, 12, 13, 14, 15, 16, 18]), (11, [26, 27]), (12, [2, 3]), (13, [1])] []) σ1 σ2 := f2.sub (mF_sub rfl (sub_c (Or.inl rfl) (sub_c (Or.inl rfl) (sub_c (Or.inl rfl) (sub_c (Or.inl rfl) sub_nil)))) rfl (sud_c (Or.inl ⟨_, List.mem_of_getElem? (i := 2) rfl, rfl⟩) (sud_c (Or.inl ⟨_, List.mem_of_getElem? (i := 3) rfl, rfl⟩) (sud_c (Or.inl ⟨_, List.mem_of_getElem? (i := 4) rfl, rfl⟩) sud_nil))))
    have G2 : Fr (mF [56, 66, 67, 71, 72, 73] [] [(14, [42, 43, 44, 45, 46, 47, 48, 49, 50, 51, 52, 53, 54, 55, 56, 57, 59, 60, 61, 62]), (15, [26, 27, 28, 29, 30, 35, 38, 39])] []) τ1 τ2 := g2.sub (mF_sub rfl (sub_c (Or.inl rfl) (sub_c (Or.inl rfl) (sub_c (Or.inl rfl) sub_nil))) rfl (sud_c (Or.inl ⟨_, List.mem_of_getElem? (i := 1) rfl, rfl⟩) sud_nil))
    refine tail σ2 τ2 c2 ok2 okt2 (hN1.f F2 G2) rk2 hh2 rm2 h2 (by rw [y1, k2]) (by rw [y2, k3]) (by rw [y3, k4]) (by rw [y4, k5]) (by rw [y5, k6]) ?_ ?_ ?_ ?_ ?_ (fun Q hq => gC1 _ ?_) (fun Q hq => s14_requests gM1 ?_)
    · rw [k7, k8, k9, k4] at y8; exact y8
    · rw [F2 _ _ _ rfl, F1 _ _ _ rfl]
    · rw [F2 _ _ _ rfl, F1 _ _ _ rfl]
    · rw [F2 _ _ _ rfl, F1 _ _ _ rfl]
    · rw [G2 _ _ _ rfl, G1 _ _ _ rfl]
    · rw [hF1.e2]
      by_cases c2' : (c1 0) = 2
      · exact br_t (by rw [c2']; rfl) (gC2 _ hq)
      · have c7 : (c1 0) = 7 := c27.resolve_left c2'
        exact br_f (by rw [c7]; decide) (br_u (by rw [c7]; rfl) (gC2 _ hq))
    · rw [eR]
      by_cases c2' : (c1 0) = 2
      · exact br_t (by rw [c2']; rfl) (gM2 _ _ (br_t rfl hq))
      · have c7 : (c1 0) = 7 := c27.resolve_left c2'
        exact br_f (by rw [c7]; decide) (br_u (by rw [c7]; rfl) (gM2 _ _ (br_t rfl hq)))
  · have n2 : ¬ nI (c1 0) = 2 := fun z => c27 (Or.inl ((nI_eq (b := 2) (by omega) (by omega)).mp z))
    have n7 : ¬ nI (c1 0) = 7 := fun z => c27 (Or.inr ((nI_eq (b := 7) (by omega) (by omega)).mp z))
    refine tail σ1 τ1 c1 ok1 okt1 hN1 hI1.rk hI1.hd hI1.rm h1 k2 k3 k4 k5 k6 (Or.inl ⟨k7, k8, k9⟩) (F1 _ _ _ rfl) (F1 _ _ _ rfl) (F1 _ _ _ rfl) (G1 _ _ _ rfl) (fun Q hq => gC1 _ ?_) (fun Q hq => s14_requests gM1 ?_)
    · rw [hF1.e2]
      exact br_f n2 (br_v n7 hq)
    · rw [eR]
      exact br_f n2 (br_v n7 (br_t rfl (br_t rfl hq)))
