/-! what waits is asked for again, or given up -/
set_option maxRecDepth 100000
def wdue (σ : St) (k : Nat) : Int32 := (σ 4 (hrw σ k) 1) + 1000 * (σ 4 (hrw σ k) 2)
theorem s3_act_L {σ : St} {k : Nat} {Q : St → Prop} {K : Int32 → Prop} (hk : k < 8) (hp : ∀ k, k < 8 → hrw σ k < 8) (h1 : wdue σ k = (σ 2 0 4)) (h0 : ∀ i, i < k → wdue σ i ≠ (σ 2 0 4)) (hK : K (nI k)) : ∀ (m j : Nat), j + m = k → w3_act_L2 σ Q K (m + 1) (nI j) := by
  intro m
  induction m with
  | zero =>
    intro j hj
    have e : j = k := by omega
    subst e
    refine ⟨vin (by omega) (by omega), ?_⟩
    rw [cl (by omega)]
    exact ⟨hp _ hk, br_t h1 hK⟩
  | succ m ih =>
    intro j hj
    refine ⟨vin (by omega) (by omega), ?_⟩
    rw [cl (by omega)]
    refine ⟨hp _ (by omega), br_f (h0 j (by omega)) ?_⟩
    rw [nI_1]
    exact ih (j + 1) (by omega)
theorem R_again {σ τ : St} {t s o w k : Nat} {q r : Nat → Nat} (ok : okS σ) (ok' : okS τ) (hN : RN σ τ t s o) (hs : s < 2147480000) (hX : RWx σ τ t o w q r) (hk : k < w) (h1 : wdue σ k = (σ 2 0 4)) (h0 : ∀ i, i < k → wdue σ i ≠ (σ 2 0 4)) :
    RunV σ τ (w3_act σ) (w14_askAgain τ (q k)) (mF [23, 25, 26, 31, 32] [] [(2, [3]), (3, [9]), (4, [2])] []) (mF [57, 58, 59, 60] [] [(14, [18, 23])] [(17, q k, [0, 4])]) (fun σ' τ' => ∃ s', RN σ' τ' t s' o ∧ s' + WS τ' ≤ s + WS τ ∧ WS τ' + 1 ≤ WS τ ∧ (τ' 14 0 18) = (τ 14 0 18)) := by
  obtain ⟨hM, hV, hH, hW, hA, hP⟩ := id hN
  obtain ⟨w1, w2, w3, w4, w5, w6, w7, w8⟩ := id hX
  obtain ⟨b1, b2, b3, b4, b5⟩ := w5 k hk
  obtain ⟨p1, p2, p3, p4, u, a, l, u1, a1, l1, a2, a3, l2, u2, u3, pb⟩ := id b5
  have hp8 := hP.1 k (by omega)
  have hj : w3_act σ (fun σ' => w14_askAgain τ (q k) (fun τ' => ∃ s', RN σ' τ' t s' o ∧ s' + WS τ' ≤ s + WS τ ∧ WS τ' + 1 ≤ WS τ ∧ (τ' 14 0 18) = (τ 14 0 18))) := by
    refine ⟨k + 1, s3_act_L (by omega) hP.1 h1 h0 ?_ k 0 (by omega)⟩
    refine ⟨vin (by omega) (by omega), ?_⟩
    rw [cl (by omega)]
    refine ⟨hp8, ?_⟩
    show (¬ σ 4 (hrw σ k) 2 = 3 → _) ∧ (σ 4 (hrw σ k) 2 = 3 → _)
    rw [p3, a1]
    have ea : nI a = 3 ↔ a = 3 := nI_eq (b := 3) (by omega) (by decide)
    unfold w14_askAgain
    rw [a1]
    have v0 : wv τ (q k) = 4 - a := by
      unfold wv
      rw [if_neg (by rw [b2]; decide), a1, cl (by omega)]
    by_cases c : a = 3
    · refine br_u (ea.mpr c) (s3_remove w1 hk w2 hP (fun s6 f6 h9 hh => br_u (ea.mpr c) (fun t3 e3 => ?_)))
      have f2 : Fr (mF [] [] [] [(17, q k, [0])]) τ t3 := by rw [e3]; exact fr_u (by simp [mF])
      have g17 : ∀ j, j ≠ q k → t3 17 j = τ 17 j := fun j hj => by rw [e3, up3_r, if_neg (fun z => hj z.2)]
      have u17 : t3 17 (q k) 0 = 0 := by rw [e3, up3_g, if_pos ⟨rfl, rfl, rfl⟩]
      have hW2 : RW s6 t3 t o := RW_del hX hk hh h9 (f2 14 0 25 rfl) (f6.kind fun _ _ => rfl) (f6.kind fun _ _ => rfl) g17 (f2.kind fun _ _ => rfl) u17
      refine ⟨s, ⟨hM.c (f6 _ _ _ rfl) (f6 _ _ _ rfl) (f6 _ _ _ rfl) (f6 _ _ _ rfl) (f6 _ _ _ rfl) (f6 _ _ _ rfl) (f6.row fun _ => rfl) (f2 _ _ _ rfl) (f2 _ _ _ rfl) (f2 _ _ _ rfl) (f2 _ _ _ rfl) (f2 _ _ _ rfl), hV.c (f6 _ _ _ rfl) (f6 _ _ _ rfl) (f6.kind fun _ _ => rfl) (f6.row fun _ => rfl) (f6.row fun _ => rfl) (f2 _ _ _ rfl) (f2 _ _ _ rfl) (f2.row fun _ => rfl) (f2.row fun _ => rfl) (f2.row fun _ => rfl), hH.c (f6 _ _ _ rfl) (f6.row fun _ => rfl) (f6.row fun _ => rfl) (f6.row fun _ => rfl) (f2.kind fun _ _ => rfl), hW2, hA.c (f6.row fun _ => rfl) (f6.row fun _ => rfl), RPm_rm hP w1 hk hh⟩, ?_, ?_, f2 _ _ _ rfl⟩
      · have e1 := WS_at (τ := τ) (τ' := t3) (j := q k) b1 g17
        have e2 : wv t3 (q k) = 0 := by unfold wv; rw [if_pos u17]
        omega
      · have e1 := WS_at (τ := τ) (τ' := t3) (j := q k) b1 g17
        have e2 : wv t3 (q k) = 0 := by unfold wv; rw [if_pos u17]
        omega
    · refine br_v (fun z => c (ea.mp z)) ⟨vin (by omega) (by omega), hp8, fun s7 e7 => ?_⟩
      have e7 : s7 = up3 σ 4 (hrw σ k) 2 (nI a + 1) := by rw [← a1, ← p3]; exact e7
      rw [nI_1] at e7
      have f7 : Fr (mF [] [] [] [(4, hrw σ k, [2])]) σ s7 := by rw [e7]; exact fr_u (by simp [mF])
      have h31 : s7 31 0 = σ 31 0 := f7.row fun _ => rfl
      rw [h31]
      refine ⟨vin (by omega) (by omega), hp8, ?_⟩
      show w3_tell s7 1 34 0 0 (s7 4 (hrw σ k) 0) _
      rw [show s7 4 (hrw σ k) 0 = τ 17 (q k) 1 by rw [e7, up3_g, if_neg (by omega)]; exact p1]
      generalize ht1 : up3 τ 17 (q k) 4 (nI (a + 1)) = t1
      have f1 : Fr (mF [] [] [] [(17, q k, [4])]) τ t1 := by rw [← ht1]; exact fr_u (by simp [mF])
      have g17 : ∀ j, j ≠ q k → t1 17 j = τ 17 j := fun j hj => by rw [← ht1, up3_r, if_neg (fun z => hj z.2)]
      have t17 : ∀ j, t1 17 (q k) j = if j = 4 then nI (a + 1) else τ 17 (q k) j := fun j => by
        rw [← ht1, up3_g]
        by_cases c : j = 4
        · rw [if_pos ⟨rfl, rfl, c⟩, if_pos c]
        · rw [if_neg (fun z => c z.2.2), if_neg c]
      have s4 : ∀ j, s7 4 (hrw σ k) j = if j = 2 then nI (a + 1) else σ 4 (hrw σ k) j := fun j => by
        rw [e7, up3_g]
        by_cases c : j = 2
        · rw [if_pos ⟨rfl, rfl, c⟩, if_pos c]
        · rw [if_neg (fun z => c z.2.2), if_neg c]
      have hX1 : RWx s7 t1 t o w q r := by
        refine RW_at hX hP hk h31 (f7 _ _ _ rfl) (f1 _ _ _ rfl) (fun p hp => ⟨by rw [e7, up3_r, if_neg (fun z => hp z.2)], f7.row fun _ => rfl⟩) (fun j hj => ⟨g17 j hj, f1.row fun _ => rfl⟩) (by rw [t17, if_neg (by decide)]; exact b2) (by rw [t17, if_neg (by decide)]) (by rw [t17, if_neg (by decide)]) ?_
        unfold wpair
        rw [s4, s4, s4, s4, t17, t17, t17, t17]
        simp only [if_true, show ¬ (0 = 2) by decide, show ¬ (1 = 2) by decide, show ¬ (4 = 2) by decide, show ¬ (1 = 4) by decide, show ¬ (3 = 4) by decide, show ¬ (2 = 4) by decide, if_false]
        refine ⟨p1, p2, trivial, p4, u, a + 1, l, u1, rfl, l1, by omega, by omega, l2, u2, by omega, fun i hi => ?_⟩
        rw [f7.row (k := 35) (fun _ => rfl), f1.row (k := 68) (fun _ => rfl)]
        exact pb i hi
      have hN1 : RN s7 t1 t s o := ⟨hM.c (f7 _ _ _ rfl) (f7 _ _ _ rfl) (f7 _ _ _ rfl) (f7 _ _ _ rfl) (f7 _ _ _ rfl) (f7 _ _ _ rfl) (f7.row fun _ => rfl) (f1 _ _ _ rfl) (f1 _ _ _ rfl) (f1 _ _ _ rfl) (f1 _ _ _ rfl) (f1 _ _ _ rfl), hV.c (f7 _ _ _ rfl) (f7 _ _ _ rfl) (f7.kind fun _ _ => rfl) (f7.row fun _ => rfl) (f7.row fun _ => rfl) (f1 _ _ _ rfl) (f1 _ _ _ rfl) (f1.row fun _ => rfl) (f1.row fun _ => rfl) (f1.row fun _ => rfl), hH.c (f7 _ _ _ rfl) (f7.row fun _ => rfl) (f7.row fun _ => rfl) (f7.row fun _ => rfl) (f1.kind fun _ _ => rfl), hX1.w, hA.c (f7.row fun _ => rfl) (f7.row fun _ => rfl), hP.c h31⟩
      have okS1 : okS s7 := by rw [e7]; exact ok_n ok rfl
      have okT1 : okS t1 := by rw [← ht1]; exact ok_n ok' rfl
      obtain ⟨σ', τ', g1, g2, k1, k2, x1, x2, hV3, hst⟩ := R_ask (x := τ 17 (q k) 1) okS1 okT1 hN1.1 hN1.2.1 hN1.2.2.2.2.1 hs
      refine g1 _ (br_v (fun z => c (ea.mp z)) (fun t2 e2 => ?_))
      rw [nI_1, ht1] at e2
      subst e2
      rw [t17, if_neg (by decide)]
      obtain ⟨hN3, hws⟩ := hN1.sent x1 x2 hV3
      have e1 := WS_at (τ := τ) (τ' := t2) (j := q k) b1 g17
      have e2 : wv t2 (q k) = 4 - (a + 1) := by
        unfold wv
        rw [t17 0, if_neg (show ¬ (0 = 4) by decide), if_neg (by rw [b2]; decide), t17 4, if_pos rfl, cl (by omega)]
      exact g2 _ ⟨s + 1, hN3, by omega, by omega, hst.trans (f1 _ _ _ rfl)⟩
  obtain ⟨σ', h, k1, f1, g1⟩ := e3_act ok hj
  obtain ⟨τ', h, k2, f2, g2⟩ := e14_askAgain b1 ok' h
  exact ⟨σ', τ', g1, g2, k1, k2, f1, f2, h⟩
