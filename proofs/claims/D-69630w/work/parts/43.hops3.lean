/-! a packet goes to its hop, or waits for it -/
set_option maxRecDepth 100000
/-- the net of both sides: machine, frames, cache, what waits -/
def RN (σ τ : St) (t s o : Nat) : Prop := RM σ τ ∧ RV σ τ t s ∧ RH σ τ ∧ RW σ τ t o ∧ RA σ ∧ RPm σ
theorem s3_send_L {σ : St} {k2 i2 w : Nat} {x3 x4 : Int32} {Q : St → Prop} {K : Int32 → Prop} (hw : (σ 3 0 9) = nI w) (hw2 : w ≤ 8) (hp : ∀ k, k < 8 → hrw σ k < 8) : ∀ (m j : Nat), j + m = w → K (nI (scan (fun j => decide (σ 4 (hrw σ j) 0 ≠ x4)) m j)) → w3_send_L66 σ k2 i2 x3 x4 Q K (m + 1) (nI j) := by
  intro m
  induction m with
  | zero => intro j hj hK; exact br_t (by rw [hw]; exact nI_le (by omega) (by omega)) hK
  | succ m ih =>
    intro j hj hK
    refine br_f (by rw [hw]; exact nI_ge (by omega) (by omega)) ⟨vin (by omega) (by omega), ?_⟩
    rw [cl (by omega)]
    refine ⟨hp j (by omega), ?_⟩
    show (σ 4 (hrw σ j) 0 = x4 → _) ∧ (¬ σ 4 (hrw σ j) 0 = x4 → _)
    by_cases c : σ 4 (hrw σ j) 0 = x4
    · rw [scan_f _ (by simpa using c)] at hK
      exact br_t c hK
    · rw [scan_t _ (by simpa using c)] at hK
      refine br_f c ?_
      rw [nI_1]
      exact ih (j + 1) (by omega) hK
/-- the model looks for the packet of a hop -/
theorem s14_packet_L {τ : St} {x : Int32} {Q : Option Nat → Prop} {K33 : Int32 → Prop} {K46 : Prop} (hK : ∀ j, j < 8 → (τ 17 j 0) ≠ 0 → (τ 17 j 1) = x → K33 (nI j)) : ∀ (m j : Nat), j + m = 8 → ((∀ i, j ≤ i → i < 8 → ¬ ((τ 17 i 0) ≠ 0 ∧ (τ 17 i 1) = x)) → K46) → w14_packet_L2 τ x Q K33 K46 (m + 1) (nI j) := by
  intro m
  induction m with
  | zero => intro j hj h0; exact br_t (nI_le (a := 8) (by omega) (by omega)) (h0 (fun i h1 h2 => by omega))
  | succ m ih =>
    intro j hj h0
    refine br_f (nI_ge (b := 8) (by omega) (by decide)) ⟨vin (by omega) (by omega), fun _ => ?_⟩
    rw [cl (by omega), nI_1]
    have next : ¬ ((τ 17 j 0) ≠ 0 ∧ (τ 17 j 1) = x) → w14_packet_L2 τ x Q K33 K46 (m + 1) (nI (j + 1)) := fun hn => ih (j + 1) (by omega) (fun h => h0 (fun i h1 h2 => by
      by_cases e : i = j
      · rw [e]; exact hn
      · exact h i (by omega) h2))
    by_cases c : (τ 17 j 0) = 0
    · exact br_t c (next (fun z => z.1 c))
    · refine br_f c ⟨vin (by omega) (by omega), ?_⟩
      by_cases c2 : (τ 17 j 1) = x
      · exact br_u c2 (hK j (by omega) c c2)
      · exact br_v c2 (next (fun z => c2 z.2))
theorem s14_packet {τ : St} {x : Int32} {Q : Option Nat → Prop} (h1 : ∀ j, j < 8 → (τ 17 j 0) ≠ 0 → (τ 17 j 1) = x → Q (some j)) (h0 : (∀ i, i < 8 → ¬ ((τ 17 i 0) ≠ 0 ∧ (τ 17 i 1) = x)) → Q none) : w14_packet τ x Q := by
  refine ⟨9, s14_packet_L (fun j hj hu hh => ?_) 8 0 rfl (fun h => h0 (fun i hi => h i (by omega) hi))⟩
  refine ⟨vin (by omega) (by omega), ?_⟩
  rw [cl (by omega)]
  exact h1 j hj hu hh
/-- the model looks for a free place -/
theorem s14_ipOut_L200 {τ : St} {x3 x4 x7 : Int32} {Q : St → Prop} {K : Option Nat → Prop} (hK : ∀ j, j < 8 → (τ 17 j 0) = 0 → K (some j)) : ∀ (m j : Nat), j + m = 8 → ((∀ i, j ≤ i → i < 8 → (τ 17 i 0) ≠ 0) → K none) → w14_ipOut_L200 τ x3 x4 x7 Q K (m + 1) none (nI j) := by
  intro m
  induction m with
  | zero => intro j hj h0; exact br_t (nI_le (a := 8) (by omega) (by omega)) (h0 (fun i h1 h2 => by omega))
  | succ m ih =>
    intro j hj h0
    refine br_f (nI_ge (b := 8) (by omega) (by decide)) (po_n rfl ⟨vin (by omega) (by omega), fun _ => ?_⟩)
    rw [cl (by omega), nI_1]
    by_cases c : (τ 17 j 0) = 0
    · refine br_u c ⟨vin (by omega) (by omega), ?_⟩
      cases m with
      | zero => exact br_t (nI_le (a := 8) (by omega) (by omega)) (hK j (by omega) c)
      | succ m =>
        by_cases h9 : 8 ≤ nI (j + 1)
        · exact br_t h9 (hK j (by omega) c)
        · exact br_f h9 (po_s rfl ⟨by omega, hK j (by omega) c⟩)
    · exact br_v c (ih (j + 1) (by omega) (fun h => h0 (fun i h1 h2 => by
        by_cases e : i = j
        · rw [e]; exact c
        · exact h i (by omega) h2)))
theorem s14_ipOut_L271 {x4 x7 : Int32} {j0 l : Nat} {Q : St → Prop} {K : St → Prop} (hl : l ≤ 1500) : ∀ (m j : Nat) (σ : St), (σ 17 j0 2) = nI l → j + m = l → K (row3 σ 68 j0 (va_cpy (σ 57 0) (σ 68 j0) (14 + j) j m)) → w14_ipOut_L271 x4 j0 x7 Q K (m + 1) σ (nI j) := by
  intro m
  induction m with
  | zero =>
    intro j σ hs hj hK
    rw [cpy_0, row3_self] at hK
    exact br_t (by rw [hs]; exact nI_le (by omega) (by omega)) hK
  | succ m ih =>
    intro j σ hs hj hK
    refine br_f (by rw [hs]; exact nI_ge (by omega) (by omega)) ?_
    rw [show (14 : Int32) + nI j = nI (14 + j) from nI_add 14 j]
    refine ⟨vin (by omega) (by omega), fun hb => ⟨vin (by omega) (by omega), fun s1 e1 => ?_⟩⟩
    rw [cl (by omega), cl (by omega)] at e1
    rw [cl (by omega)] at hb
    rw [show (σ 57 0 (14 + j)).toInt8.toInt32 = σ 57 0 (14 + j) from hb, up3_as] at e1
    subst e1
    rw [nI_1]
    refine ih (j + 1) _ (by rw [row3_g, if_neg (by omega)]; exact hs) (by omega) ?_
    rw [row3_s, row3_row3, row3_o (k' := 57) (by omega), ← Nat.add_assoc, cpy_s]
    exact hK
/-- where the component's row has a hop: its place is that of the model's packet -/
theorem RW_find {σ τ : St} {t o w : Nat} {q r : Nat → Nat} {x : Int32} (hq : ∀ k, k < w → q k < 8 ∧ (τ 17 (q k) 0) = 1 ∧ (τ 17 (q k) 5) = nI (r k) ∧ r k ≤ o ∧ wpair σ τ t (hrw σ k) (q k)) (hs : ∀ j, j < 8 → (τ 17 j 0) ≠ 0 → ∃ k, k < w ∧ q k = j) (hd : ∀ k k', k < w → k' < w → k ≠ k' → (τ 17 (q k) 1) ≠ (τ 17 (q k') 1)) :
    (scan (fun j => decide (σ 4 (hrw σ j) 0 ≠ x)) w 0 < w → ∀ j, j < 8 → (τ 17 j 0) ≠ 0 → (τ 17 j 1) = x → j = q (scan (fun j => decide (σ 4 (hrw σ j) 0 ≠ x)) w 0)) ∧ (scan (fun j => decide (σ 4 (hrw σ j) 0 ≠ x)) w 0 = w → ∀ i, i < 8 → ¬ ((τ 17 i 0) ≠ 0 ∧ (τ 17 i 1) = x)) := by
  refine ⟨fun h j hj hu hx => ?_, fun h i hi z => ?_⟩
  · obtain ⟨k, hk, rfl⟩ := hs j hj hu
    have h1 := scan_stop (fun j => decide (σ 4 (hrw σ j) 0 ≠ x)) w 0 (by rw [Nat.zero_add]; exact h)
    have h2 : σ 4 (hrw σ (scan (fun j => decide (σ 4 (hrw σ j) 0 ≠ x)) w 0)) 0 = x := Decidable.not_not.mp (of_decide_eq_false h1)
    rw [(hq _ h).2.2.2.2.1] at h2
    by_cases e : k = scan (fun j => decide (σ 4 (hrw σ j) 0 ≠ x)) w 0
    · rw [← e]
    · exact absurd (hx.trans h2.symm) (hd k _ hk h e)
  · obtain ⟨k, hk, rfl⟩ := hs i hi z.1
    have h1 := scan_all _ w 0 k (Nat.zero_le _) (by rw [h]; exact hk)
    have h2 : σ 4 (hrw σ k) 0 ≠ x := of_decide_eq_true h1
    exact h2 ((hq k hk).2.2.2.2.1.trans z.2)
