/-! the lines of a head -/
set_option maxRecDepth 100000
/-- each line of a head of n bytes ends, and the last alone is empty -/
def HL (N : Nat → Nat) (n : Nat) : Prop := ∀ g, (g = 0 ∨ N (g - 1) = 10) → g < n → ∃ e, g ≤ e ∧ e < n ∧ N e = 10 ∧ (∀ j, g ≤ j → j < e → N j ≠ 10) ∧ (emp N g e ↔ e + 1 = n)
theorem hE_HL {N : Nat → Nat} {hd n : Nat} (h : hE N hd 0 0 = n) (hn : 0 < n) : HL N n := fun g h1 h2 => (hE_ln hd 0 0 n h hn (Nat.le_refl _) (fun j a b => by omega)).2 g (Nat.zero_le _) h1 h2
def LR (σ τ : St) (i n f e : Nat) : Prop :=
  ∃ σ' τ', okS σ' ∧ okS τ' ∧ Fr fiF σ σ' ∧ Fr fiG τ τ' ∧
    (((∀ (Q : Int32 → St → Prop) (K1 K2 : St → Prop), K1 σ' → ∃ z, w9_answer_L97 i i Q K1 K2 z σ (nI e) (nI f)) ∧ (∀ (Q : St → Prop) (K : St → Int32 → Prop) (x5 x6 : Int32), K τ' 0 → ∃ z, w14_answer_L127 i x5 x6 Q K z τ (nI (f - 1)) 1)) ∨
    ((∀ (Q : Int32 → St → Prop) (K1 K2 : St → Prop), K2 σ' → ∃ z, w9_answer_L97 i i Q K1 K2 z σ (nI e) (nI f)) ∧ (∀ (Q : St → Prop) (K : St → Int32 → Prop) (x5 x6 : Int32), K τ' 1 → ∃ z, w14_answer_L127 i x5 x6 Q K z τ (nI (f - 1)) 1) ∧ PS σ' τ' 4100))
theorem LR_l {N : Nat → Nat} {i n : Nat} (hn : n ≤ 4096) (hL : HL N n) : ∀ (m f e : Nat) (σ τ : St) (k : Nat), n - f = m → 1 ≤ f → f < n → N (f - 1) = 10 → f ≤ e → e < n → N e = 10 → (∀ j, f ≤ j → j < e → N j ≠ 10) → (emp N f e ↔ e + 1 = n) → okS σ → okS τ → nC σ = N → nM τ = N → τ 14 0 42 = nI n → PS σ τ k → k ≤ f → LR σ τ i n f e := by
  intro m
  induction m using Nat.strongRecOn with
  | _ m ih =>
    intro f e σ τ k hm hf1 hfn hNf hfe hen hNe hno hemp ok ok' h1 h2 h42 hP hk
    have tl1 := te_le (N := N) hfe
    have tl2 := te_emp (N := N) hfe
    have ef : nI (f - 1) + 1 = nI f := by rw [nI_1, show f - 1 + 1 = f by omega]
    -- the model, as far as the text of the line
    have mo : ∀ (Q : St → Prop) (K : St → Int32 → Prop) (x5 x6 : Int32) (z : Nat), ((te N f e ≤ f → w14_answer_L127 i x5 x6 Q K z τ (nI e) 1) ∧ (¬ te N f e ≤ f → w14_field τ (nI f) (nI (te N f e)) (fun r24 σ24 => (w14_answer_L127 i x5 x6 Q K z σ24 (nI e) r24)))) → w14_answer_L127 i x5 x6 Q K (z + 1) τ (nI (f - 1)) 1 := by
      intro Q K x5 x6 z hz
      refine br_f (by decide) ?_
      rw [ef, h42]
      refine br_f (nI_ge (by omega) (by omega)) (s14_lineEnd hfe (by omega) (by rw [h2]; exact hNe) (by rw [h2]; exact hno) (s14_shown hfe (by omega) ?_))
      rw [h2]
      by_cases c : te N f e ≤ f
      · exact br_t (nI_le c (by omega)) (hz.1 c)
      · exact br_f (nI_ge (by omega) (by omega)) (hz.2 c)
    by_cases c : emp N f e
    · -- the last line
      have hlast := hemp.mp c
      refine ⟨σ, τ, ok, ok', Fr.rf, Fr.rf, Or.inr ⟨fun Q K1 K2 hK => ⟨1, ?_⟩, fun Q K x5 x6 hK => ⟨2, mo Q K x5 x6 1 ⟨fun _ => ?_, fun z => absurd (tl2.mpr c) z⟩⟩, hP.up (by omega)⟩⟩
      · refine s9_textEnd hfe (by omega) ?_
        rw [h1]
        exact br_t (nI_le (tl2.mpr c) (by omega)) hK
      · refine br_f (by decide) (br_t ?_ hK)
        rw [h42, nI_1]
        exact nI_le (by omega) (by omega)
    have c' : ¬ te N f e ≤ f := fun z => c (tl2.mp z)
    obtain ⟨r, σ1, τ1, g1, g2, k1, k2, f1, f2, hr⟩ := R_field (e := te N f e) ok ok' (by rw [h1, h2]) hP (by omega) tl1.1 (by omega)
    have co : ∀ (Q : Int32 → St → Prop) (K1 K2 : St → Prop) (z : Nat), (¬ r = 0 → (w9_lineEnd σ1 (nI (e + 1)) (fun r19 => (w9_answer_L97 i i Q K1 K2 z σ1 r19 (nI (e + 1)))))) ∧ (r = 0 → K1 σ1) → w9_answer_L97 i i Q K1 K2 (z + 1) σ (nI e) (nI f) := by
      intro Q K1 K2 z hz
      refine s9_textEnd hfe (by omega) ?_
      rw [h1]
      refine br_f (nI_ge (by omega) (by omega)) (s9_textEnd hfe (by omega) ?_)
      rw [h1]
      refine g1 _ ?_
      rw [nI_1]
      exact hz
    rcases hr with z0 | ⟨z1, hP1⟩
    · subst z0
      refine ⟨σ1, τ1, k1, k2, f1, f2, Or.inl ⟨fun Q K1 K2 hK => ⟨1, co Q K1 K2 0 (br_u rfl hK)⟩, fun Q K x5 x6 hK => ⟨2, mo Q K x5 x6 1 ⟨fun z => absurd z c', fun _ => g2 _ (br_t rfl hK)⟩⟩⟩⟩
    subst z1
    have en : e + 1 < n := by
      rcases Nat.lt_or_ge (e + 1) n with z | z
      · exact z
      · exact absurd (hemp.mpr (by omega)) c
    obtain ⟨e', a1, a2, a3, a4, a5⟩ := hL (e + 1) (Or.inr (by rw [Nat.add_sub_cancel]; exact hNe)) en
    have n1 : nC σ1 = N := by rw [← h1]; unfold nC; rw [f1.row (k := 40) fun _ => rfl]
    have n2 : nM τ1 = N := by rw [← h2]; unfold nM; rw [f2.row (k := 66) fun _ => rfl]
    obtain ⟨σ', τ', ok1, ok2, F', G', hres⟩ := ih (n - (e + 1)) (by omega) (e + 1) e' σ1 τ1 (k + 1) rfl (by omega) en (by rw [Nat.add_sub_cancel]; exact hNe) a1 a2 a3 a4 a5 k1 k2 n1 n2 (by rw [f2 _ _ _ rfl]; exact h42) hP1 (by omega)
    rw [Nat.add_sub_cancel] at hres
    refine ⟨σ', τ', ok1, ok2, f1.tr F', f2.tr G', ?_⟩
    rcases hres with ⟨q1, q2⟩ | ⟨q1, q2, q3⟩
    · refine Or.inl ⟨fun Q K1 K2 hK => ?_, fun Q K x5 x6 hK => ?_⟩
      · obtain ⟨z, hz⟩ := q1 Q K1 K2 hK
        exact ⟨z + 1, co Q K1 K2 z (br_v (by decide) (s9_lineEnd a1 (by omega) (by rw [n1]; exact a3) (by rw [n1]; exact a4) hz))⟩
      · obtain ⟨z, hz⟩ := q2 Q K x5 x6 hK
        exact ⟨z + 1, mo Q K x5 x6 z ⟨fun z => absurd z c', fun _ => g2 _ hz⟩⟩
    · refine Or.inr ⟨fun Q K1 K2 hK => ?_, fun Q K x5 x6 hK => ?_, q3⟩
      · obtain ⟨z, hz⟩ := q1 Q K1 K2 hK
        exact ⟨z + 1, co Q K1 K2 z (br_v (by decide) (s9_lineEnd a1 (by omega) (by rw [n1]; exact a3) (by rw [n1]; exact a4) hz))⟩
      · obtain ⟨z, hz⟩ := q2 Q K x5 x6 hK
        exact ⟨z + 1, mo Q K x5 x6 z ⟨fun z => absurd z c', fun _ => g2 _ hz⟩⟩
