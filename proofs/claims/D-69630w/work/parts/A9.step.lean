/-! one thing that is due -/
set_option maxRecDepth 100000
theorem least {P : Nat → Prop} : ∀ n : Nat, (∃ k, k < n ∧ P k) → ∃ k, k < n ∧ P k ∧ ∀ j, j < k → ¬ P j := by
  intro n
  induction n with
  | zero => intro ⟨k, hk, _⟩; omega
  | succ n ih =>
    intro h
    by_cases c : ∃ k, k < n ∧ P k
    · obtain ⟨k, h1, h2, h3⟩ := ih c
      exact ⟨k, by omega, h2, h3⟩
    · obtain ⟨k, h1, h2⟩ := h
      have : k = n := by
        by_cases e : k = n
        · exact e
        · exact absurd ⟨k, by omega, h2⟩ c
      subst this
      exact ⟨k, h1, h2, fun j hj hp => c ⟨j, hj, hp⟩⟩
def CPs (τ : St) : Nat := sm (cp τ) 16 + cnt (fun j => (τ 18 j 0)) 4
theorem WS_le (τ : St) : WS τ ≤ 32 := by
  have h : ∀ n, sm (wv τ) n ≤ 4 * n := by
    intro n
    induction n with
    | zero => exact Nat.le_refl _
    | succ n ih =>
      have : wv τ n ≤ 4 := by unfold wv; split <;> omega
      show sm (wv τ) n + wv τ n ≤ _
      omega
  exact h 8
def MS (τ : St) : Nat := 100 * CPs τ + WS τ
theorem CPs_c {τ τ' : St} (h15 : τ' 15 = τ 15) (h18 : τ' 18 = τ 18) : CPs τ' = CPs τ := by
  unfold CPs
  rw [h18, sm_ext (g := cp τ) (g' := cp τ') (fun j _ => by unfold cp; rw [h15])]
theorem aD_h {σ : St} {w : Nat} : aD σ w ≤ hD σ w := Int32.le_trans (mnw_x _ _ _) (imin_l _ _)
theorem due_c {σ σ' : St} (f : Fr (mF [] [] [(2, [4])] []) σ σ') : wdue σ' = wdue σ ∧ (∀ w, hD σ' w = hD σ w) ∧ fD σ' = fD σ ∧ tD σ' = tD σ ∧ lD σ' = lD σ := by
  have e4 : σ' 4 = σ 4 := f.kind fun _ _ => rfl
  have e31 : σ' 31 0 = σ 31 0 := f.row fun _ => rfl
  have e6 : σ' 6 = σ 6 := f.kind fun _ _ => rfl
  have e7 : σ' 7 = σ 7 := f.kind fun _ _ => rfl
  have e37 : σ' 37 0 = σ 37 0 := f.row fun _ => rfl
  have e11 : σ' 11 = σ 11 := f.kind fun _ _ => rfl
  have w1 : wdue σ' = wdue σ := by
    funext k
    unfold wdue hrw
    rw [e4, e31]
  refine ⟨w1, fun w => by unfold hD; rw [w1], ?_, ?_, ?_⟩
  · unfold fD frw; rw [e6, e7, e37]
  · funext i; unfold tD; rw [e11]
  · funext i; unfold lD; rw [e11]
theorem s0_act_L {σ : St} {d : Int32} {p : Nat} {Q : St → Prop} {K : Int32 → Prop} (hp : p < 16) (hP : tD σ p = d ∨ lD σ p = d) (hlt : ∀ i, i < p → ¬ (tD σ i = d ∨ lD σ i = d)) (hK : K (nI p)) : ∀ (m j : Nat), j + m = p → w0_act_L44 σ d Q K (m + 1) (nI j) := by
  intro m
  induction m with
  | zero =>
    intro j hj
    obtain rfl : j = p := by omega
    refine ⟨vin (by omega) (by omega), ?_⟩
    rw [cl (by omega)]
    refine s11_timerDue ?_
    by_cases c : tD σ j = d
    · exact br_t c hK
    · exact br_f c ⟨vin (by omega) (by omega), s11_lifeDue (br_t (hP.resolve_left c) hK)⟩
  | succ m ih =>
    intro j hj
    refine ⟨vin (by omega) (by omega), ?_⟩
    rw [cl (by omega), nI_1]
    have hn := hlt j (by omega)
    exact s11_timerDue (br_f (fun z => hn (Or.inl z)) ⟨vin (by omega) (by omega), s11_lifeDue (br_f (fun z => hn (Or.inr z)) (ih (j + 1) (by omega)))⟩)
/-- the model, when something is due -/
theorem J296_1 {τ τ2 : St} {T D t : Nat} {x5 x6 : Int32} {Q : St → Prop} {K : St → Int32 → Prop} (hT : T ≤ 100000000) (hDT : D ≤ T) (htD : t ≤ D) (now : (τ 14 0 10) = nI t) (e2 : τ2 = up3 τ 14 0 10 (nI D)) (h : ((¬ x5 = 0 → ((¬ x5 = 1 → ((¬ x5 = 2 → (vp_in x6 16 ∧ (w14_lifeEnds τ2 x6.toNatClampNeg (fun σ20 => (K σ20 1))))) ∧ (x5 = 2 → (vp_in x6 16 ∧ (w14_runOut τ2 x6.toNatClampNeg (fun σ22 => (K σ22 1))))))) ∧ (x5 = 1 → (vp_in x6 4 ∧ (∀ σ24, σ24 = up3 τ2 18 x6.toNatClampNeg 0 0 → (K σ24 1)))))) ∧ (x5 = 0 → (vp_in x6 8 ∧ (w14_askAgain τ2 x6.toNatClampNeg (fun σ26 => (K σ26 1))))))) : (0 < lg_cmp (lN D) (nI T).toInt64 → w14_passTo_J296 τ (nI T) (lN D) x5 x6 0 Q K) ∧ (¬ 0 < lg_cmp (lN D) (nI T).toInt64 → w14_passTo_J296 τ (nI T) (lN D) x5 x6 1 Q K) := by
  rw [nI_l (by omega)]
  refine br_f (fun z => by have := (lcmp_gt (by omega) (by omega)).mp z; omega) (br_f (by decide) (fun s e => ?_))
  have en : (lmax ((τ 14 0 10).toInt64) (lN D)).toInt32 = nI D := by
    rw [show τ 14 0 10 = nI t from now, nI_l (by omega)]
    unfold lmax
    rw [if_neg (fun z => by have := (pk_lLT (by omega) (by omega)).mp z; omega)]
    exact lN_i D
  rw [en, ← e2] at e
  rw [e]
  exact h
