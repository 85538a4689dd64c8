/-! a packet goes to its hop, or waits for it: the two side by side -/
set_option maxRecDepth 100000
def sm (g : Nat → Nat) : Nat → Nat
  | 0 => 0
  | n + 1 => sm g n + g n
theorem sm_ext {g g' : Nat → Nat} {n : Nat} (h : ∀ j, j < n → g' j = g j) : sm g' n = sm g n := by
  induction n with
  | zero => rfl
  | succ n ih => simp only [sm]; rw [ih (fun j hj => h j (by omega)), h n (by omega)]
theorem sm_up {g g' : Nat → Nat} {n k : Nat} (hk : k < n) (h : ∀ j, j < n → j ≠ k → g' j = g j) : sm g' n + g k = sm g n + g' k := by
  induction n with
  | zero => omega
  | succ n ih =>
    simp only [sm]
    by_cases e : k = n
    · subst e
      rw [sm_ext (g := g) (fun j hj => h j (by omega) (by omega))]
      omega
    · have := ih (by omega) (fun j hj hj2 => h j (by omega) hj2)
      have := h n (by omega) (fun z => e z.symm)
      omega
/-- what may still be asked for a packet that waits -/
def wv (τ : St) (j : Nat) : Nat := if (τ 17 j 0) = 0 then 0 else 4 - ((τ 17 j 4)).toNatClampNeg
def WS (τ : St) : Nat := sm (wv τ) 8
theorem WS_c {τ τ' : St} (h : τ' 17 = τ 17) : WS τ' = WS τ := sm_ext (fun j _ => by unfold wv; rw [h])
theorem hrw_c {σ σ' : St} (h : σ' 31 0 = σ 31 0) (k : Nat) : hrw σ' k = hrw σ k := by unfold hrw; rw [h]
theorem RPm.c {σ σ' : St} (h1 : σ' 31 0 = σ 31 0) (h : RPm σ) : RPm σ' := by
  unfold RPm hrw
  rw [h1]
  exact h
theorem RA.c {σ σ' : St} (h1 : (σ' 33 0) = (σ 33 0)) (h2 : (σ' 34 0) = (σ 34 0)) (h : RA σ) : RA σ' := by
  unfold RA
  rw [h1, h2]
  exact h
/-- behind a frame that went out: only what was sent has changed -/
theorem RN.sent {σ τ σ' τ' : St} {t s s' o : Nat} (h : RN σ τ t s o) (f1 : Fr (mF [23, 25, 26, 32] [] [(2, [3])] []) σ σ') (f2 : Fr (mF [57, 58, 59, 60] [] [(14, [18, 23])] []) τ τ') (hV : RV σ' τ' t s') : RN σ' τ' t s' o ∧ WS τ' = WS τ := by
  obtain ⟨hM, _, hH, hW, hA, hP⟩ := h
  refine ⟨⟨hM.c (f1 0 0 12 rfl) (f1 3 0 1 rfl) (f1 5 0 1 rfl) (f1 8 0 2 rfl) (f1 3 0 3 rfl) (f1 3 0 2 rfl) (f1.row fun _ => rfl) (f2 14 0 5 rfl) (f2 14 0 7 rfl) (f2 14 0 6 rfl) (f2 14 0 8 rfl) (f2 14 0 9 rfl), hV, hH.c (f1 3 0 7 rfl) (f1.row fun _ => rfl) (f1.row fun _ => rfl) (f1.row fun _ => rfl) (f2.kind fun _ _ => rfl), hW.c (f1 3 0 9 rfl) (f1.row fun _ => rfl) (f1.kind fun _ _ => rfl) (f1.kind fun _ _ => rfl) (f2 14 0 25 rfl) (f2.kind fun _ _ => rfl) (f2.kind fun _ _ => rfl), hA.c (f1.row fun _ => rfl) (f1.row fun _ => rfl), hP.c (f1.row fun _ => rfl)⟩, WS_c (f2.kind fun _ _ => rfl)⟩
/-- the post of what may send one packet -/
def HopP (τ : St) (t s o : Nat) (σ' τ' : St) : Prop := ∃ s' o' : Nat, RN σ' τ' t s' o' ∧ s ≤ s' ∧ s' + WS τ' ≤ s + WS τ + 4 ∧ o ≤ o' ∧ o' ≤ o + 1 ∧ (τ' 14 0 18) = (τ 14 0 18)
theorem fr_sub1 {σ σ' : St} (f : Fr (mF [23, 25, 26] [] [(2, [3])] []) σ σ') : Fr (mF [23, 25, 26, 32] [] [(2, [3])] []) σ σ' := f.sub (mF_sub rfl sub_nil rfl sud_nil)
/-- the pieces of RW, at their numbers -/
def RWx (σ τ : St) (t o w : Nat) (q r : Nat → Nat) : Prop := w ≤ 8 ∧ (σ 3 0 9) = nI w ∧ (τ 14 0 25) = nI o ∧ cnt (fun j => (τ 17 j 0)) 8 = w ∧ (∀ k, k < w → q k < 8 ∧ (τ 17 (q k) 0) = 1 ∧ (τ 17 (q k) 5) = nI (r k) ∧ r k ≤ o ∧ wpair σ τ t (hrw σ k) (q k)) ∧ (∀ k k', k < k' → k' < w → r k < r k') ∧ (∀ j, j < 8 → (τ 17 j 0) ≠ 0 → ∃ k, k < w ∧ q k = j) ∧ ∀ k k', k < w → k' < w → k ≠ k' → (τ 17 (q k) 1) ≠ (τ 17 (q k') 1)
theorem RW.x {σ τ : St} {t o : Nat} (h : RW σ τ t o) : ∃ w q r, RWx σ τ t o w q r := by
  obtain ⟨w, h1, h2, h3, h4, q, r, h5, h6, h7, h8⟩ := h
  exact ⟨w, q, r, h1, h2, h3, h4, h5, h6, h7, h8⟩
theorem RWx.w {σ τ : St} {t o w : Nat} {q r : Nat → Nat} (h : RWx σ τ t o w q r) : RW σ τ t o := by
  obtain ⟨h1, h2, h3, h4, h5, h6, h7, h8⟩ := h
  exact ⟨w, h1, h2, h3, h4, q, r, h5, h6, h7, h8⟩
theorem RWx.qi {σ τ : St} {t o w : Nat} {q r : Nat → Nat} (h : RWx σ τ t o w q r) {k k' : Nat} (h1 : k < w) (h2 : k' < w) (e : q k = q k') : k = k' := by
  by_cases c : k = k'
  · exact c
  · exact absurd (by rw [e]) (h.2.2.2.2.2.2.2 k k' h1 h2 c)
/-- the k-th of what waits has changed -/
theorem RW_at {σ τ σ' τ' : St} {t o w k : Nat} {q r : Nat → Nat} (h : RWx σ τ t o w q r) (hP : RPm σ) (hk : k < w) (h31 : σ' 31 0 = σ 31 0) (h9 : (σ' 3 0 9) = (σ 3 0 9)) (h25 : (τ' 14 0 25) = (τ 14 0 25)) (hc : ∀ p, p ≠ hrw σ k → σ' 4 p = σ 4 p ∧ σ' 35 p = σ 35 p) (hm : ∀ j, j ≠ q k → τ' 17 j = τ 17 j ∧ τ' 68 j = τ 68 j) (hu : (τ' 17 (q k) 0) = 1) (hh : (τ' 17 (q k) 1) = (τ 17 (q k) 1)) (ho : (τ' 17 (q k) 5) = (τ 17 (q k) 5)) (hp : wpair σ' τ' t (hrw σ k) (q k)) : RWx σ' τ' t o w q r := by
  have hx := h
  obtain ⟨h1, h2, h3, h4, h5, h6, h7, h8⟩ := h
  have hho : ∀ k', k' < w → (τ' 17 (q k') 1) = (τ 17 (q k') 1) := by
    intro k' hk'
    by_cases e : q k' = q k
    · rw [e]; exact hh
    · rw [(hm _ e).1]
  have huu : ∀ j, j < 8 → ((τ' 17 j 0) = 0 ↔ (τ 17 j 0) = 0) := by
    intro j hj
    by_cases e : j = q k
    · subst e
      rw [hu, (h5 k hk).2.1]
    · rw [(hm _ e).1]
  refine ⟨h1, h9.trans h2, h25.trans h3, (cnt_ext huu).trans h4, fun k' hk' => ?_, h6, fun j hj hj2 => h7 j hj (fun z => hj2 ((huu j hj).mpr z)), fun k' k'' a b c => by rw [hho k' a, hho k'' b]; exact h8 k' k'' a b c⟩
  obtain ⟨a1, a2, a3, a4, a5⟩ := h5 k' hk'
  rw [hrw_c h31]
  by_cases e : k' = k
  · subst e
    exact ⟨a1, hu, ho.trans a3, a4, hp⟩
  · have e1 : q k' ≠ q k := fun z => e (hx.qi hk' hk z)
    have e2 : hrw σ k' ≠ hrw σ k := fun z => e (hP.2 k' k (by omega) (by omega) z)
    obtain ⟨m1, m2⟩ := hm _ e1
    obtain ⟨c1, c2⟩ := hc _ e2
    exact ⟨a1, by rw [m1]; exact a2, by rw [m1]; exact a3, a4, a5.c c1 c2 m1 m2⟩
/-- one more waits -/
theorem RW_new {σ τ σ' τ' : St} {t o w j : Nat} {q r : Nat → Nat} {x : Int32} (h : RWx σ τ t o w q r) (hP : RPm σ) (hw : w < 8) (hj : j < 8) (hj0 : (τ 17 j 0) = 0) (hx : ∀ i, i < 8 → ¬ ((τ 17 i 0) ≠ 0 ∧ (τ 17 i 1) = x)) (h31 : σ' 31 0 = σ 31 0) (h9 : (σ' 3 0 9) = nI (w + 1)) (h25 : (τ' 14 0 25) = nI (o + 1)) (hc : ∀ p, p ≠ hrw σ w → σ' 4 p = σ 4 p ∧ σ' 35 p = σ 35 p) (hm : ∀ j', j' ≠ j → τ' 17 j' = τ 17 j' ∧ τ' 68 j' = τ 68 j') (hu : (τ' 17 j 0) = 1) (hh : (τ' 17 j 1) = x) (ho : (τ' 17 j 5) = nI (o + 1)) (hp : wpair σ' τ' t (hrw σ w) j) : RW σ' τ' t (o + 1) := by
  obtain ⟨h1, h2, h3, h4, h5, h6, h7, h8⟩ := h
  have hqj : ∀ k, k < w → q k ≠ j := fun k hk e => by
    have := (h5 k hk).2.1
    rw [e, hj0] at this
    exact absurd this (by decide)
  refine ⟨w + 1, by omega, h9, h25, ?_, fun k => if k = w then j else q k, fun k => if k = w then o + 1 else r k, fun k hk => ?_, fun k k' a b => ?_, fun i hi hi2 => ?_, fun k k' a b c => ?_⟩
  · rw [← h4]
    refine cnt_up hj hj0 (by rw [hu]; decide) (fun i hi e => by rw [(hm i e).1])
  · by_cases e : k = w
    · subst e
      simp only [if_true]
      rw [hrw_c h31]
      exact ⟨hj, hu, ho, Nat.le_refl _, hp⟩
    · simp only [if_neg e]
      obtain ⟨a1, a2, a3, a4, a5⟩ := h5 k (by omega)
      obtain ⟨m1, m2⟩ := hm _ (hqj k (by omega))
      obtain ⟨c1, c2⟩ := hc _ (fun z => e (hP.2 k w (by omega) (by omega) z))
      rw [hrw_c h31]
      exact ⟨a1, by rw [m1]; exact a2, by rw [m1]; exact a3, by omega, a5.c c1 c2 m1 m2⟩
  · simp only [if_neg (show ¬ k = w by omega)]
    by_cases e : k' = w
    · simp only [if_pos e]
      have := (h5 k (by omega)).2.2.2.1
      omega
    · simp only [if_neg e]
      exact h6 k k' a (by omega)
  · by_cases e : i = j
    · exact ⟨w, by omega, by simp [e]⟩
    · obtain ⟨k, hk, rfl⟩ := h7 i hi (by rw [(hm i e).1] at hi2; exact hi2)
      exact ⟨k, by omega, by simp only [if_neg (show ¬ k = w by omega)]⟩
  · have key : ∀ k, k < w → (τ' 17 (q k) 1) ≠ x := fun k hk z => by
      rw [(hm _ (hqj k hk)).1] at z
      exact hx (q k) (h5 k hk).1 ⟨by rw [(h5 k hk).2.1]; decide, z⟩
    by_cases e : k = w
    · have e' : ¬ k' = w := by omega
      simp only [if_pos e, if_neg e', hh]
      exact (key k' (by omega)).symm
    · by_cases e' : k' = w
      · simp only [if_pos e', if_neg e, hh]
        exact key k (by omega)
      · simp only [if_neg e, if_neg e']
        rw [(hm _ (hqj k (by omega))).1, (hm _ (hqj k' (by omega))).1]
        exact h8 k k' (by omega) (by omega) c
theorem WS_at {τ τ' : St} {j : Nat} (hj : j < 8) (hm : ∀ j', j' ≠ j → τ' 17 j' = τ 17 j') : WS τ' + wv τ j = WS τ + wv τ' j := sm_up hj (fun i _ e => by unfold wv; rw [hm i e])
set_option maxHeartbeats 4000000 in
theorem j_hop {σ τ : St} {t s o n c : Nat} {x : Int32} (ok : okS σ) (ok' : okS τ) (hN : RN σ τ t s o) (hs : s < 2147480000) (ho : o < 2147480000) (ht : t < 2147480000) (hn : n = 20 + c) (hn2 : n ≤ 1500) (hd : ∀ j, j < n → σ 36 0 j = τ 57 0 (14 + j)) : w3_send_J26 σ 36 0 (nI n) x (fun σ' => w14_ipOut_J140 τ (nI c) x (fun τ' => HopP τ t s o σ' τ')) := by
  obtain ⟨hM, hV, hH, hW, hA, hP⟩ := id hN
  obtain ⟨z, z1, z2, z3, z4⟩ := id hH
  have hfz := fnd_le (σ 28 0) z x
  have e20 : (20 : Int32) + nI c = nI n := by rw [hn]; exact nI_add 20 c
  have hentry : ∀ (Q : Option Nat → Prop), (fnd (σ 28 0) z x < z → Q (some (fnd (σ 28 0) z x))) → (fnd (σ 28 0) z x = z → Q none) → w14_entry τ x Q := fun Q a b => s14_entry z1 (fun k hk => ⟨(z3 k hk).1, (z3 k hk).2.1⟩) z4 a b
  have tm : fnd (σ 28 0) z x < z → (σ 2 0 4 - σ 29 0 (fnd (σ 28 0) z x) = τ 14 0 10 - τ 16 (fnd (σ 28 0) z x) 4) := fun h => by rw [hV.1, hV.2.1, (z3 _ h).2.2.1]
  -- the hop is not known now
  have slow : (∀ Q, Q none → w14_counting τ x Q) → ∃ z3, w3_send_L66 σ 36 0 (nI n) x (fun σ' => w14_ipOut_J140 τ (nI c) x (fun τ' => HopP τ t s o σ' τ')) (fun x5_4 => w3_send_J96 σ 36 0 (nI n) x x5_4 (fun σ' => w14_ipOut_J140 τ (nI c) x (fun τ' => HopP τ t s o σ' τ'))) z3 0 := by
    intro hcn
    obtain ⟨w, q, r, hX⟩ := hW.x
    obtain ⟨w1, w2, w3, w4, w5, w6, w7, w8⟩ := id hX
    obtain ⟨fa, fb⟩ := RW_find (x := x) w5 w7 w8
    have hsc := (scan_le (fun j => decide (σ 4 (hrw σ j) 0 ≠ x)) w 0).2
    refine ⟨w + 1, s3_send_L w2 w1 hP.1 w 0 (by omega) ?_⟩
    generalize hk : scan (fun j => decide (σ 4 (hrw σ j) 0 ≠ x)) w 0 = k at fa fb hsc
    by_cases c8 : k = 8
    · -- no room
      refine br_u (by rw [c8]; rfl) (hcn _ (po_n rfl ?_))
      have hno := fb (by omega)
      refine s14_packet (fun j hj hu hh => absurd ⟨hu, hh⟩ (hno j hj)) (fun _ => po_n rfl ⟨9, s14_ipOut_L200 (fun j hj hu => ?_) 8 0 rfl (fun _ => po_n rfl ?_)⟩)
      · exact absurd hu (cnt_all (by rw [w4]; omega) j hj)
      · exact ⟨s, o, hN, Nat.le_refl _, by omega, Nat.le_refl _, by omega, rfl⟩
    · have hk8 : k < 8 := by omega
      have hp8 := hP.1 k hk8
      refine br_v (fun z => c8 ((nI_eq (b := 8) (by omega) (by decide)).mp z)) ⟨vin hk8 (by omega), ?_⟩
      rw [cl (by omega)]
      refine ⟨hp8, ?_⟩
      show w19_copy σ 36 0 0 35 (hrw σ k) 0 (nI n) _
      refine s19_copy (a := 0) (b := 0) (by omega) (by decide) (by omega) (by omega) (by omega) (by show _ ≤ 1500; omega) (by show _ ≤ 1500; omega) ?_
      generalize hs6 : row3 σ 35 (hrw σ k) (va_cpy (σ 36 0) (σ 35 (hrw σ k)) 0 0 n) = s6
      intro s7 e7
      have e7 : s7 = up3 s6 4 (hrw σ k) 4 (nI n) := e7
      have q9 : s7 3 0 9 = nI w := by rw [e7, up3_g, if_neg (by omega), ← hs6, row3_g, if_neg (by omega)]; exact w2
      rw [q9]
      by_cases cw : k < w
      · -- it waits already
        refine br_f (nI_ge cw (by omega)) (hcn _ (po_n rfl ?_))
        refine s14_packet (fun j hj hu hh => ?_) (fun h => absurd ⟨by rw [(w5 k cw).2.1]; decide, ?_⟩ (h (q k) (w5 k cw).1))
        rotate_left
        · have h1 := scan_stop (fun j => decide (σ 4 (hrw σ j) 0 ≠ x)) w 0 (by rw [hk]; omega)
          rw [hk] at h1
          rw [← (w5 k cw).2.2.2.2.1]
          exact Decidable.not_not.mp (of_decide_eq_false h1)
        have ej := fa cw j hj hu hh
        subst ej
        refine po_s rfl ⟨hj, 1, br_f (by decide) (po_s rfl ⟨hj, ?_⟩)⟩
        refine po_s rfl ⟨hj, fun t1 f1 t2 f2 t3 f3 => ?_⟩
        rw [e20] at f3
        refine ⟨n + 1, s14_ipOut_L271 hn2 n 0 t3 (by rw [f3, up3_g, if_pos ⟨rfl, rfl, rfl⟩]) (by omega) (br_u rfl ?_)⟩
        generalize ht4 : row3 t3 68 (q k) (va_cpy (t3 57 0) (t3 68 (q k)) (14 + 0) 0 n) = t4
        have g17 : ∀ j', t4 17 j' = t3 17 j' := fun j' => by rw [← ht4, row3_o (by omega)]
        have g57 : t3 57 0 = τ 57 0 := by rw [f3, up3_i (by omega), f2, up3_i (by omega), f1, up3_i (by omega)]
        obtain ⟨p1, p2, p3, p4, u, a, l, p5, p6, p7, p8, p9, p10, p11, p12, p13⟩ := (w5 k cw).2.2.2.2
        have v4 : ∀ i, i ≠ 4 → s7 4 (hrw σ k) i = σ 4 (hrw σ k) i := fun i hi => by rw [e7, up3_j (by omega), ← hs6, row3_o (by omega)]
        have v17 : ∀ i, i ≠ 0 → i ≠ 1 → i ≠ 2 → t4 17 (q k) i = τ 17 (q k) i := fun i h0 h1 h2 => by rw [g17, f3, up3_j (by omega), f2, up3_j (by omega), f1, up3_j (by omega)]
        have hh4 : t4 17 (q k) 1 = x := by rw [g17, f3, up3_g, if_neg (by omega), f2, up3_g, if_pos ⟨rfl, rfl, rfl⟩]
        have hu4 : t4 17 (q k) 0 = 1 := by rw [g17, f3, up3_g, if_neg (by omega), f2, up3_g, if_neg (by omega), f1, up3_g, if_pos ⟨rfl, rfl, rfl⟩]
        have hm4 : ∀ j', j' ≠ q k → t4 17 j' = τ 17 j' ∧ t4 68 j' = τ 68 j' := fun j' e => ⟨by rw [g17, f3, up3_i (by omega), f2, up3_i (by omega), f1, up3_i (by omega)], by rw [← ht4, row3_o (by omega), f3, up3_i (by omega), f2, up3_i (by omega), f1, up3_i (by omega)]⟩
        have hX' : RWx s7 t4 t o w q r := by
          refine RW_at hX hP cw ?_ (by rw [q9, w2]) ?_ (fun p e => ⟨?_, ?_⟩) hm4 hu4 (by rw [hh4, hh]) (v17 5 (by decide) (by decide) (by decide)) ⟨?_, ?_, ?_, ?_, u, a, n, ?_, ?_, ?_, p8, p9, hn2, p11, p12, fun i hi => ?_⟩
          · rw [e7, up3_i (by omega), ← hs6, row3_o (by omega)]
          · rw [← ht4, row3_g, if_neg (by omega), f3, up3_g, if_neg (by omega), f2, up3_g, if_neg (by omega), f1, up3_g, if_neg (by omega)]
          · rw [e7, up3_i (by omega), ← hs6, row3_o (by omega)]
          · rw [e7, up3_i (by omega), ← hs6, row3_o (by omega)]
          · rw [v4 0 (by decide), p1, hh4, hh]
          · rw [v4 1 (by decide), p2, v17 3 (by decide) (by decide) (by decide)]
          · rw [v4 2 (by decide), p3, v17 4 (by decide) (by decide) (by decide)]
          · rw [e7, up3_g, if_pos ⟨rfl, rfl, rfl⟩, g17, f3, up3_g, if_pos ⟨rfl, rfl, rfl⟩]
          · rw [v17 3 (by decide) (by decide) (by decide)]; exact p5
          · rw [v17 4 (by decide) (by decide) (by decide)]; exact p6
          · rw [g17, f3, up3_g, if_pos ⟨rfl, rfl, rfl⟩]
          · rw [e7, up3_i (by omega), ← hs6, row3_s, ← ht4, row3_s, pk_cpy_in (by omega) (by omega), pk_cpy_in (by omega) (by omega), g57]
            have := hd i hi
            rw [show 0 + (i - 0) = i by omega, show 14 + 0 + (i - 0) = 14 + i by omega]
            exact this
        have b1 : ∀ k' i', k' ≠ 4 → k' ≠ 35 → s7 k' i' = σ k' i' := fun k' i' h1 h2 => by rw [e7, up3_i (by omega), ← hs6, row3_o (by omega)]
        have b2 : ∀ k' i', k' ≠ 17 → k' ≠ 68 → t4 k' i' = τ k' i' := fun k' i' h1 h2 => by rw [← ht4, row3_o (by omega), f3, up3_i (by omega), f2, up3_i (by omega), f1, up3_i (by omega)]
        have hws : WS t4 = WS τ := by
          have h9 := WS_at (τ := τ) (τ' := t4) hj (fun j' e => (hm4 j' e).1)
          have e9 : wv t4 (q k) = wv τ (q k) := by
            unfold wv
            rw [hu4, (w5 k cw).2.1, v17 4 (by decide) (by decide) (by decide)]
          omega
        refine ⟨s, o, ⟨hM.c (by rw [b1 _ _ (by decide) (by decide)]) (by rw [b1 _ _ (by decide) (by decide)]) (by rw [b1 _ _ (by decide) (by decide)]) (by rw [b1 _ _ (by decide) (by decide)]) (by rw [b1 _ _ (by decide) (by decide)]) (by rw [b1 _ _ (by decide) (by decide)]) (b1 _ _ (by decide) (by decide)) (by rw [b2 _ _ (by decide) (by decide)]) (by rw [b2 _ _ (by decide) (by decide)]) (by rw [b2 _ _ (by decide) (by decide)]) (by rw [b2 _ _ (by decide) (by decide)]) (by rw [b2 _ _ (by decide) (by decide)]), hV.c (by rw [b1 _ _ (by decide) (by decide)]) (by rw [b1 _ _ (by decide) (by decide)]) (funext fun i => b1 _ _ (by decide) (by decide)) (b1 _ _ (by decide) (by decide)) (b1 _ _ (by decide) (by decide)) (by rw [b2 _ _ (by decide) (by decide)]) (by rw [b2 _ _ (by decide) (by decide)]) (b2 _ _ (by decide) (by decide)) (b2 _ _ (by decide) (by decide)) (b2 _ _ (by decide) (by decide)), hH.c (by rw [b1 _ _ (by decide) (by decide)]) (b1 _ _ (by decide) (by decide)) (b1 _ _ (by decide) (by decide)) (b1 _ _ (by decide) (by decide)) (funext fun i => b2 _ _ (by decide) (by decide)), hX'.w, hA.c (b1 _ _ (by decide) (by decide)) (b1 _ _ (by decide) (by decide)), hP.c (b1 _ _ (by decide) (by decide))⟩, Nat.le_refl _, by omega, Nat.le_refl _, by omega, by rw [b2 _ _ (by decide) (by decide)]⟩
      · -- it is the first to wait
        have ek : k = w := by omega
        subst ek
        refine br_t (nI_le (by omega) (by omega)) (fun s8 e8 s9 e9 s10 e10 s11 e11 => ?_)
        have e9 : s9 = up3 s8 4 (hrw σ k) 0 x := e9
        have e10 : s10 = up3 s9 4 (hrw σ k) 1 (s9 2 0 4) := e10
        have e11 : s11 = up3 s10 4 (hrw σ k) 2 1 := e11
        have hno := fb rfl
        have b8' : s8 = up3 s7 3 0 9 (nI (k + 1)) := by rw [e8, nI_1]
        have b1 : ∀ k' i', k' ≠ 3 → k' ≠ 4 → k' ≠ 35 → s11 k' i' = σ k' i' := fun k' i' h0 h1 h2 => by rw [e11, up3_i (by omega), e10, up3_i (by omega), e9, up3_i (by omega), b8', up3_i (by omega), e7, up3_i (by omega), ← hs6, row3_o (by omega)]
        have b3 : ∀ i, i ≠ 9 → s11 3 0 i = σ 3 0 i := fun i h => by rw [e11, up3_j (by omega), e10, up3_j (by omega), e9, up3_j (by omega), b8', up3_j (by omega), e7, up3_j (by omega), ← hs6, row3_o (by omega)]
        have hnow : s9 2 0 4 = σ 2 0 4 := by rw [e9, up3_j (by omega), b8', up3_j (by omega), e7, up3_j (by omega), ← hs6, row3_o (by omega)]
        have ok6 : okS s6 := by rw [← hs6]; exact ok_rowb ok (tyk_a 35 2 (by decide) (by decide)) (by_cpy (fun j => ok_by ok (tyk_a 36 2 (by decide) (by decide)) j) (fun j => ok_by ok (tyk_a 35 2 (by decide) (by decide)) j))
        have ok11 : okS s11 := by rw [e11, e10, e9, b8', e7]; exact ok_n (ok_n (ok_n (ok_n (ok_n ok6 (by decide)) (by decide)) (by decide)) (by decide)) (by decide)
        have hM11 : ∀ τ', RM σ τ' → RM s11 τ' := fun τ' h => h.c (by rw [b1 _ _ (by decide) (by decide) (by decide)]) (b3 _ (by decide)) (by rw [b1 _ _ (by decide) (by decide) (by decide)]) (by rw [b1 _ _ (by decide) (by decide) (by decide)]) (b3 _ (by decide)) (b3 _ (by decide)) (b1 _ _ (by decide) (by decide) (by decide)) rfl rfl rfl rfl rfl
        have hV11 : ∀ τ', RV σ τ' t s → RV s11 τ' t s := fun τ' h => h.c (by rw [b1 _ _ (by decide) (by decide) (by decide)]) (by rw [b1 _ _ (by decide) (by decide) (by decide)]) (funext fun i => b1 _ _ (by decide) (by decide) (by decide)) (b1 _ _ (by decide) (by decide) (by decide)) (b1 _ _ (by decide) (by decide) (by decide)) rfl rfl rfl rfl rfl
        have hA11 : RA s11 := hA.c (b1 _ _ (by decide) (by decide) (by decide)) (b1 _ _ (by decide) (by decide) (by decide))
        obtain ⟨σ', g1, k1, f1, hU⟩ := U_ask (t := t) (x := x) ok11 hA11 (hV11 τ hV).2.2.1 hs
        refine g1 _ (hcn _ (po_n rfl ?_))
        refine s14_packet (fun j hj hu hh => absurd ⟨hu, hh⟩ (hno j hj)) (fun _ => po_n rfl ⟨9, s14_ipOut_L200 (fun j hj hu => ?_) 8 0 rfl (fun hall => ?_)⟩)
        rotate_left
        · exfalso
          have h9 : cnt (fun j => τ 17 j 0) 8 = 8 := by
            simp only [cnt]
            rw [if_neg (hall 0 (by omega) (by omega)), if_neg (hall 1 (by omega) (by omega)), if_neg (hall 2 (by omega) (by omega)), if_neg (hall 3 (by omega) (by omega)), if_neg (hall 4 (by omega) (by omega)), if_neg (hall 5 (by omega) (by omega)), if_neg (hall 6 (by omega) (by omega)), if_neg (hall 7 (by omega) (by omega))]
          omega
        refine po_s rfl ⟨hj, fun t1 f1' t2 f2' t3 f3' => ?_⟩
        rw [e20] at f3'
        refine ⟨n + 1, s14_ipOut_L271 hn2 n 0 t3 (by rw [f3', up3_g, if_pos ⟨rfl, rfl, rfl⟩]) (by omega) (br_v (by decide) ?_)⟩
        generalize ht4 : row3 t3 68 j (va_cpy (t3 57 0) (t3 68 j) (14 + 0) 0 n) = t4
        intro t5 f5 t6 f6 t7 f7 t8 f8
        have hor : t6 14 0 25 = nI o := by rw [f6, up3_g, if_neg (by omega), f5, up3_g, if_neg (by omega), ← ht4, row3_g, if_neg (by omega), f3', up3_g, if_neg (by omega), f2', up3_g, if_neg (by omega), f1', up3_g, if_neg (by omega)]; exact w3
        have ho7 : t7 14 0 25 = nI (o + 1) := by rw [f7, up3_g, if_pos ⟨rfl, rfl, rfl⟩, hor, nI_1]
        have hn4 : t4 14 0 10 = nI t := by rw [← ht4, row3_g, if_neg (by omega), f3', up3_g, if_neg (by omega), f2', up3_g, if_neg (by omega), f1', up3_g, if_neg (by omega)]; exact hV.2.1
        rw [ho7] at f8
        rw [hn4] at f5
        have g57 : t3 57 0 = τ 57 0 := by rw [f3', up3_i (by omega), f2', up3_i (by omega), f1', up3_i (by omega)]
        have ok4 : okS t4 := by
          rw [← ht4]
          refine ok_rowb ?_ (tyk_a 68 2 (by decide) (by decide)) (by_cpy ?_ ?_)
          · rw [f3', f2', f1']; exact ok_n (ok_n (ok_z ok' (by decide) (Or.inr rfl)) (by decide)) (by decide)
          · rw [g57]; exact fun j => ok_by ok' (tyk_a 57 2 (by decide) (by decide)) j
          · rw [f3', up3_i (by omega), f2', up3_i (by omega), f1', up3_i (by omega)]; exact fun j => ok_by ok' (tyk_a 68 2 (by decide) (by decide)) j
        have ok8 : okS t8 := by rw [f8, f7, f6, f5]; exact ok_n (ok_n (ok_n (ok_n ok4 (by decide)) (by decide)) (by decide)) (by decide)
        have c1 : ∀ k' i', k' ≠ 14 → k' ≠ 17 → k' ≠ 68 → t8 k' i' = τ k' i' := fun k' i' h0 h1 h2 => by rw [f8, up3_i (by omega), f7, up3_i (by omega), f6, up3_i (by omega), f5, up3_i (by omega), ← ht4, row3_o (by omega), f3', up3_i (by omega), f2', up3_i (by omega), f1', up3_i (by omega)]
        have c14 : ∀ i, i ≠ 25 → t8 14 0 i = τ 14 0 i := fun i h => by rw [f8, up3_j (by omega), f7, up3_j (by omega), f6, up3_j (by omega), f5, up3_j (by omega), ← ht4, row3_o (by omega), f3', up3_j (by omega), f2', up3_j (by omega), f1', up3_j (by omega)]
        have hM8 : RM s11 t8 := (hM11 τ hM).c rfl rfl rfl rfl rfl rfl rfl (c14 _ (by decide)) (c14 _ (by decide)) (c14 _ (by decide)) (c14 _ (by decide)) (c14 _ (by decide))
        have hV8 : RV s11 t8 t s := (hV11 τ hV).c rfl rfl rfl rfl rfl (c14 _ (by decide)) (c14 _ (by decide)) (c1 _ _ (by decide) (by decide) (by decide)) (c1 _ _ (by decide) (by decide) (by decide)) (c1 _ _ (by decide) (by decide) (by decide))
        have hm8 : ∀ j', j' ≠ j → t8 17 j' = τ 17 j' ∧ t8 68 j' = τ 68 j' := fun j' e => ⟨by rw [f8, up3_i (by omega), f7, up3_i (by omega), f6, up3_i (by omega), f5, up3_i (by omega), ← ht4, row3_o (by omega), f3', up3_i (by omega), f2', up3_i (by omega), f1', up3_i (by omega)], by rw [f8, up3_i (by omega), f7, up3_i (by omega), f6, up3_i (by omega), f5, up3_i (by omega), ← ht4, row3_o (by omega), f3', up3_i (by omega), f2', up3_i (by omega), f1', up3_i (by omega)]⟩
        have v17 : t8 17 j 0 = 1 ∧ t8 17 j 1 = x ∧ t8 17 j 2 = nI n ∧ t8 17 j 3 = nI t ∧ t8 17 j 4 = nI 1 ∧ t8 17 j 5 = nI (o + 1) := by
          rw [f8, f7, f6, f5, ← ht4, f3', f2', f1']
          simp [up3_g, row3_g]
          rfl
        have v4 : s11 4 (hrw σ k) 0 = x ∧ s11 4 (hrw σ k) 1 = nI t ∧ s11 4 (hrw σ k) 2 = nI 1 ∧ s11 4 (hrw σ k) 4 = nI n := by
          rw [e11, e10, hnow, hV.1, e9, b8', e7, ← hs6]
          simp [up3_g, row3_g]
          rfl
        have hX' : RW s11 t8 t (o + 1) := by
          refine RW_new hX hP hk8 hj hu hno (b1 _ _ (by decide) (by decide) (by decide)) ?_ ?_ (fun p e => ⟨?_, ?_⟩) hm8 v17.1 v17.2.1 v17.2.2.2.2.2 ⟨by rw [v4.1, v17.2.1], by rw [v4.2.1, v17.2.2.2.1], by rw [v4.2.2.1, v17.2.2.2.2.1], by rw [v4.2.2.2, v17.2.2.1], t, 1, n, v17.2.2.2.1, v17.2.2.2.2.1, v17.2.2.1, by omega, by omega, hn2, Nat.le_refl _, by omega, fun i hi => ?_⟩
          · rw [e11, up3_j (by omega), e10, up3_j (by omega), e9, up3_j (by omega), b8', up3_g, if_pos ⟨rfl, rfl, rfl⟩]
          · rw [f8, up3_j (by omega)]; exact ho7
          · rw [e11, up3_i (by omega), e10, up3_i (by omega), e9, up3_i (by omega), b8', up3_i (by omega), e7, up3_i (by omega), ← hs6, row3_o (by omega)]
          · rw [e11, up3_i (by omega), e10, up3_i (by omega), e9, up3_i (by omega), b8', up3_i (by omega), e7, up3_i (by omega), ← hs6, row3_o (by omega)]
          · rw [e11, up3_i (by omega), e10, up3_i (by omega), e9, up3_i (by omega), b8', up3_i (by omega), e7, up3_i (by omega), ← hs6, row3_s, f8, up3_i (by omega), f7, up3_i (by omega), f6, up3_i (by omega), f5, up3_i (by omega), ← ht4, row3_s, pk_cpy_in (by omega) (by omega), pk_cpy_in (by omega) (by omega), g57]
            have := hd i hi
            rw [show 0 + (i - 0) = i by omega, show 14 + 0 + (i - 0) = 14 + i by omega]
            exact this
        have hws : WS t8 = WS τ + 3 := by
          have h9 := WS_at (τ := τ) (τ' := t8) hj (fun j' e => (hm8 j' e).1)
          have e9 : wv t8 j = 3 := by
            unfold wv
            rw [v17.1, v17.2.2.2.2.1]
            rfl
          have e10 : wv τ j = 0 := by
            unfold wv
            rw [if_pos hu]
          omega
        obtain ⟨τ', g2, k2, f2, hV', hst⟩ := hU t8 ok8 hM8 hV8
        refine g2 _ ?_
        have hN8 : RN s11 t8 t s (o + 1) := ⟨hM8, hV8, hH.c (b3 _ (by decide)) (b1 _ _ (by decide) (by decide) (by decide)) (b1 _ _ (by decide) (by decide) (by decide)) (b1 _ _ (by decide) (by decide) (by decide)) (funext fun i => c1 _ _ (by decide) (by decide) (by decide)), hX', hA11, hP.c (b1 _ _ (by decide) (by decide) (by decide))⟩
        obtain ⟨r1, r2⟩ := hN8.sent f1 f2 hV'
        exact ⟨s + 1, o + 1, r1, by omega, by omega, by omega, by omega, by rw [hst]; exact c14 _ (by decide)⟩
  -- is it known?
  have hcount : (fnd (σ 28 0) z x = z ∨ (fnd (σ 28 0) z x < z ∧ 60000 ≤ σ 2 0 4 - σ 29 0 (fnd (σ 28 0) z x))) → ∀ Q, Q none → w14_counting τ x Q := by
    intro h Q hQ
    refine hentry _ (fun h1 => ?_) (fun _ => po_n rfl hQ)
    rcases h with h | ⟨_, h⟩
    · omega
    · rw [tm h1] at h
      exact po_s rfl ⟨by omega, br_t h hQ⟩
  show w3_find σ x _
  refine s3_find z2 z1 (fun h1 => ?_) (fun h0 => ?_)
  rotate_left
  · exact br_t (by decide) (br_t rfl (slow (hcount (Or.inl h0))))
  refine br_f (nI_pos (by omega)) ⟨vin (by omega) (by omega), ?_⟩
  rw [cl (by omega)]
  by_cases cf : 60000 ≤ σ 2 0 4 - σ 29 0 (fnd (σ 28 0) z x)
  · exact br_t cf (br_t rfl (slow (hcount (Or.inr ⟨h1, cf⟩))))
  refine br_f cf (br_f (by decide) (s3_find z2 z1 (fun _ => ?_) (fun h0 => by omega)))
  rw [show (6 : Int32) * nI (fnd (σ 28 0) z x) = nI (6 * fnd (σ 28 0) z x) from pk_mul 6 _]
  obtain ⟨σ', τ', g1, g2, k1, k2, f1, f2, hV', hst⟩ := R_send (σ := σ) (τ := τ) (k1 := 30) (i1 := 0) (k4 := 36) (i4 := 0) (a := 6 * fnd (σ 28 0) z x) (n := n) (kind := 2048) (th := τ 16 (fnd (σ 28 0) z x) 2) (tl := τ 16 (fnd (σ 28 0) z x) 3) ok ok' (by decide) (by decide) hV hs hM.2.2.2.2.2.2.1 (by show _ ≤ 96; omega) (by omega) (by show _ ≤ 1500; omega) hn2 (by decide) (by decide) (fun j hj => (z3 _ h1).2.2.2 j hj) hd
  refine g1 _ (hentry _ (fun _ => po_s rfl ⟨by omega, br_f (by rw [← tm h1]; exact cf) (po_s rfl ⟨by omega, ?_⟩)⟩) (fun h0 => by omega))
  rw [e20]
  refine g2 _ ?_
  obtain ⟨r1, r2⟩ := hN.sent (fr_sub1 f1) f2 hV'
  exact ⟨s + 1, o, r1, by omega, by omega, Nat.le_refl _, by omega, hst⟩
