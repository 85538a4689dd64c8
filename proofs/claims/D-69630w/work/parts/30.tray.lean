/-! feed, end -/
set_option maxRecDepth 100000
def RT (σ τ : St) : Prop := ∃ t : Nat, t ≤ 65540 ∧ (σ 0 0 1) = nI t ∧ (τ 14 0 1) = nI t ∧ (σ 20 0) = (τ 50 0)
theorem RT.c {σ τ σ' τ' : St} (h1 : (σ' 0 0 1) = (σ 0 0 1)) (h2 : (σ' 20 0) = (σ 20 0)) (h3 : (τ' 14 0 1) = (τ 14 0 1)) (h4 : (τ' 50 0) = (τ 50 0)) (h : RT σ τ) : RT σ' τ' := by
  unfold RT
  rw [h1, h2, h3, h4]
  exact h
/-- two runs side by side: what they answer and where they come to -/
def RunI (σ τ : St) (C M : (Int32 → St → Prop) → Prop) (A B : Nat → Nat → Nat → Bool) (P : Int32 → St → St → Prop) : Prop :=
  ∃ (r : Int32) (σ' τ' : St), (∀ Q, Q r σ' → C Q) ∧ (∀ Q, Q r τ' → M Q) ∧ okS σ' ∧ okS τ' ∧ Fr A σ σ' ∧ Fr B τ τ' ∧ P r σ' τ'
def RunV (σ τ : St) (C M : (St → Prop) → Prop) (A B : Nat → Nat → Nat → Bool) (P : St → St → Prop) : Prop :=
  ∃ (σ' τ' : St), (∀ Q, Q σ' → C Q) ∧ (∀ Q, Q τ' → M Q) ∧ okS σ' ∧ okS τ' ∧ Fr A σ σ' ∧ Fr B τ τ' ∧ P σ' τ'
theorem j_feed {σ τ : St} (ok : okS σ) (ok' : okS τ) (hT : RT σ τ) (a b c d e : Int32) : w0_feed σ a b c d e (fun r σ' => w14_feed τ a b c d e (fun r' τ' => r = r' ∧ RT σ' τ')) := by
  obtain ⟨t, ht, h1, h2, h3⟩ := hT
  have key : ∀ (x : Nat), nI t + nI x = nI (t + x) := fun x => nI_add t x
  unfold w0_feed w14_feed
  rw [h1, h2]
  have hle : nI t + 20 ≤ 65540 ↔ t + 20 ≤ 65540 := by
    have h9 := nI_leI (a := t + 20) (b := 65540) (by omega) (by omega)
    rwa [← nI_add] at h9
  by_cases hc : t + 20 ≤ 65540
  · refine br_t (hle.mpr hc) ?_
    have hlen : ∀ s : St, alen s 20 0 = 65540 := fun s => rfl
    have e0 : ∀ (s : St) (f : Nat → Int32), row3 s 20 0 f 0 0 1 = s 0 0 1 := fun s f => by rw [row3_g, if_neg (by decide)]
    refine s19_putFour (by rw [hlen]; omega) (by omega) (by decide) ?_
    rw [e0, h1, show (4 : Int32) = nI 4 from rfl, key]
    refine s19_putFour (by rw [hlen]; omega) (by omega) (by decide) ?_
    rw [e0, e0, h1, show (8 : Int32) = nI 8 from rfl, key]
    refine s19_putFour (by rw [hlen]; omega) (by omega) (by decide) ?_
    rw [e0, e0, e0, h1, show (12 : Int32) = nI 12 from rfl, key]
    refine s19_putFour (by rw [hlen]; omega) (by omega) (by decide) ?_
    rw [e0, e0, e0, e0, h1, show (16 : Int32) = nI 16 from rfl, key]
    refine s19_putFour (by rw [hlen]; omega) (by omega) (by decide) ?_
    intro s1 hs1
    rw [e0, e0, e0, e0, e0, h1, show (20 : Int32) = nI 20 from rfl, key] at hs1
    refine br_t (hle.mpr hc) ?_
    have e5 : ∀ (s : St) (x : Int32), up3 s 14 0 1 x 50 0 = s 50 0 := fun s x => up3_i (by decide)
    have e6 : ∀ (s : St) (x : Int32), up3 s 14 0 1 x 14 0 1 = x := fun s x => by rw [up3_g, if_pos ⟨rfl, rfl, rfl⟩]
    refine s14_word h2 (by omega) ?_
    refine s14_word (a := t + 4) (e6 _ _) (by omega) ?_
    refine s14_word (a := t + 8) (by rw [e6]) (by omega) ?_
    refine s14_word (a := t + 12) (by rw [e6]) (by omega) ?_
    refine s14_word (a := t + 16) (by rw [e6]) (by omega) ?_
    simp only [row3_s, row3_row3] at hs1
    rw [hs1]
    refine ⟨by rw [up3_g, if_pos ⟨rfl, rfl, rfl⟩, e6], t + 20, hc, by rw [up3_g, if_pos ⟨rfl, rfl, rfl⟩], by rw [e6], ?_⟩
    rw [up3_i (by decide), row3_s]
    simp only [e5, row3_s, h3]
  · exact br_f (fun z => hc (hle.mp z)) (br_f (fun z => hc (hle.mp z)) ⟨rfl, t, ht, h1, h2, h3⟩)
theorem R_feed {σ τ : St} (ok : okS σ) (ok' : okS τ) (hT : RT σ τ) (a b c d e : Int32) : RunI σ τ (w0_feed σ a b c d e) (w14_feed τ a b c d e) (mF [20] [] [(0, [1])] []) (mF [50] [] [(14, [1])] []) (fun _ => RT) := by
  obtain ⟨r, σ', h, k1, f1, g1⟩ := e0_feed ok (j_feed ok ok' hT a b c d e)
  obtain ⟨r', τ', ⟨rfl, h⟩, k2, f2, g2⟩ := e14_feed ok' h
  exact ⟨r, σ', τ', g1, g2, k1, k2, f1, f2, h⟩
theorem j_end {σ τ : St} (hT : RT σ τ) (n : Int32) : w0_end σ n (fun r σ' => w14_end τ n (fun r' τ' => r = r' ∧ RT σ' τ')) := by
  obtain ⟨t, ht, h1, h2, h3⟩ := hT
  unfold w0_end w14_end
  rw [h1, h2]
  by_cases c1 : n < 0
  · exact br_t c1 (br_t c1 ⟨rfl, t, ht, h1, h2, h3⟩)
  · refine br_f c1 ?_
    by_cases c2 : n ≤ nI t
    · obtain ⟨x, hx, rfl⟩ := nI_of c1
      have hx2 := (nI_leI (by omega) (by omega)).mp c2
      refine br_t c2 (fun s1 e1 => br_f c1 (br_t c2 (fun s2 e2 => ⟨rfl, x, by omega, ?_, ?_, ?_⟩)))
      · rw [e1, up3_g, if_pos ⟨rfl, rfl, rfl⟩]
      · rw [e2, up3_g, if_pos ⟨rfl, rfl, rfl⟩]
      · rw [e1, e2, up3_i (by decide), up3_i (by decide)]
        exact h3
    · exact br_f c2 (br_f c1 (br_f c2 ⟨rfl, t, ht, h1, h2, h3⟩))
theorem R_end {σ τ : St} (ok : okS σ) (ok' : okS τ) (hT : RT σ τ) (n : Int32) : RunI σ τ (w0_end σ n) (w14_end τ n) (mF [] [] [(0, [1])] []) (mF [] [] [(14, [1])] []) (fun _ => RT) := by
  obtain ⟨r, σ', h, k1, f1, g1⟩ := e0_end ok (j_end hT n)
  obtain ⟨r', τ', ⟨rfl, h⟩, k2, f2, g2⟩ := e14_end ok' h
  exact ⟨r, σ', τ', g1, g2, k1, k2, f1, f2, h⟩
