/-! the two as they are made -/
set_option maxRecDepth 100000
def sig0 : St := fun k _ j => if k = 1 ∧ j = 3 then nI 22 else if (k = 31 ∧ j < 8) ∨ (k = 37 ∧ j < 4) then nI j else if k = 33 ∧ j < 6 then -1 else 0
def tau0 : St := fun _ _ _ => 0
theorem sig0_0 {k i j : Nat} (h1 : k ≠ 1) (h2 : k ≠ 31) (h3 : k ≠ 37) (h4 : k ≠ 33) : sig0 k i j = 0 := by
  unfold sig0
  rw [if_neg (by omega), if_neg (by omega), if_neg (by omega)]
theorem sig0_r {k i : Nat} (h1 : k ≠ 1) (h2 : k ≠ 31) (h3 : k ≠ 37) (h4 : k ≠ 33) : sig0 k i = fun _ => 0 := funext fun _ => sig0_0 h1 h2 h3 h4
theorem sig0_31 {j : Nat} (h : j < 8) : sig0 31 0 j = nI j := by
  unfold sig0
  rw [if_neg (by omega), if_pos (by omega)]
theorem sig0_37 {j : Nat} (h : j < 4) : sig0 37 0 j = nI j := by
  unfold sig0
  rw [if_neg (by omega), if_pos (by omega)]
theorem sig0_33 {j : Nat} (h : j < 6) : sig0 33 0 j = -1 := by
  unfold sig0
  rw [if_neg (by omega), if_neg (by omega), if_pos (by omega)]
theorem ok0 : okS tau0 := fun _ _ _ => ⟨fun _ => Or.inl rfl, fun _ => rfl⟩
theorem ok1 : okS sig0 := by
  intro k i j
  by_cases c : k = 1 ∨ k = 31 ∨ k = 37
  · have : tyk k j = 0 := by
      rcases c with c | c | c
      · subst c
        unfold tyk
        rw [if_pos (by decide)]
        rfl
      · subst c; exact tyk_a 31 0 (by decide) (by decide) j
      · subst c; exact tyk_a 37 0 (by decide) (by decide) j
    rw [this]
    exact ⟨fun h => absurd h (by decide), fun h => absurd h (by decide)⟩
  · by_cases c2 : k = 33
    · subst c2
      rw [tyk_a 33 2 (by decide) (by decide) j]
      refine ⟨fun h => absurd h (by decide), fun _ => ?_⟩
      by_cases c3 : j < 6
      · unfold sig0
        rw [if_neg (by omega), if_neg (by omega), if_pos (by omega)]
        rfl
      · unfold sig0
        rw [if_neg (by omega), if_neg (by omega), if_neg (by omega)]
        rfl
    · rw [sig0_0 (by omega) (by omega) (by omega) c2]
      exact ⟨fun _ => Or.inl rfl, fun _ => rfl⟩
theorem GR0 : GR 0 sig0 tau0 := by
  have hr : ∀ k, k < 8 → hrw sig0 k = k := fun k hk => by unfold hrw; rw [show sig0 31 0 k = nI k from sig0_31 hk, cl (by omega)]
  have fr : ∀ k, k < 4 → frw sig0 k = k := fun k hk => by unfold frw; rw [show sig0 37 0 k = nI k from sig0_37 hk, cl (by omega)]
  have z : ∀ k i j, k ≠ 1 → k ≠ 31 → k ≠ 37 → k ≠ 33 → sig0 k i j = 0 := fun k i j a b c d => sig0_0 a b c d
  refine GR.mk ⟨0, by omega, ?_, rfl, ?_⟩ ⟨0, by omega, ?_, rfl, fun j hj => by omega⟩ rfl rfl (PB.mk ⟨fun k hk => by rw [hr k hk]; exact hk, fun k k' h1 h2 e => by rw [hr k h1, hr k' h2] at e; exact e⟩ ⟨fun k hk => by rw [fr k hk]; exact hk, fun k k' h1 h2 e => by rw [fr k h1, fr k' h2] at e; exact e⟩ ⟨fun j hj => sig0_33 hj, fun j hj => z _ _ _ (by decide) (by decide) (by decide) (by decide)⟩ (fun i hi => ⟨?_, ?_, 0, rfl, by omega⟩) (fun i hi => Or.inl (z _ _ _ (by decide) (by decide) (by decide) (by decide))) ?_ ?_) (z _ _ _ (by decide) (by decide) (by decide) (by decide)) rfl (fun h => absurd (z _ _ _ (by decide) (by decide) (by decide) (by decide)) h)
  · exact z _ _ _ (by decide) (by decide) (by decide) (by decide)
  · exact sig0_r (by decide) (by decide) (by decide) (by decide)
  · exact z _ _ _ (by decide) (by decide) (by decide) (by decide)
  · exact sig0_r (by decide) (by decide) (by decide) (by decide)
  · exact sig0_r (by decide) (by decide) (by decide) (by decide)
  · exact sig0_r (by decide) (by decide) (by decide) (by decide)
  · unfold SG
    rw [z 10 0 7 (by decide) (by decide) (by decide) (by decide)]
    decide
