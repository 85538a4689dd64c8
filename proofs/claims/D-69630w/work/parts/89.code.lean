/-! codes of names, blanks, digits -/
set_option maxRecDepth 100000
/-- a code of a name -/
abbrev sgn (u : Nat) : Prop := u = 45 ∨ u = 95 ∨ u = 46 ∨ u = 33 ∨ u = 35 ∨ u = 36 ∨ u = 37 ∨ u = 38 ∨ u = 39 ∨ u = 42 ∨ u = 43 ∨ u = 94 ∨ u = 96 ∨ u = 124 ∨ u = 126
abbrev ltr (u : Nat) : Prop := 97 ≤ u ∧ u ≤ 122 ∨ 65 ≤ u ∧ u ≤ 90
abbrev dgt (u : Nat) : Prop := 48 ≤ u ∧ u ≤ 57
abbrev nmc (u : Nat) : Prop := ltr u ∨ dgt u ∨ sgn u
abbrev blnk (u : Nat) : Prop := u = 32 ∨ u = 9
theorem s9_isBlank {σ : St} {x : Int32} {Q : Int32 → Prop} (h : by8 x) (h1 : blnk (ub x) → Q 1) (h0 : ¬ blnk (ub x) → Q 0) : w9_isBlank σ x Q := by
  have q1 := by_eq (v := 32) h (by omega)
  have q2 := by_eq (v := 9) h (by omega)
  by_cases c1 : ub x = 32
  · exact br_t (q1.mpr c1) (h1 (Or.inl c1))
  · refine br_f (fun z => c1 (q1.mp z)) ?_
    by_cases c2 : ub x = 9
    · exact br_u (q2.mpr c2) (h1 (Or.inr c2))
    · exact br_v (fun z => c2 (q2.mp z)) (h0 (fun z => z.elim c1 c2))
theorem s14_isBlank {σ : St} {u : Nat} {Q : Int32 → Prop} (hu : u < 256) (h1 : blnk u → Q 1) (h0 : ¬ blnk u → Q 0) : w14_isBlank σ (nI u) Q := by
  have q1 := nI_eq (a := u) (b := 32) (by omega) (by omega)
  have q2 := nI_eq (a := u) (b := 9) (by omega) (by omega)
  by_cases c1 : u = 32
  · exact br_t (q1.mpr c1) (h1 (Or.inl c1))
  · refine br_f (fun z => c1 (q1.mp z)) ?_
    by_cases c2 : u = 9
    · exact br_u (q2.mpr c2) (h1 (Or.inr c2))
    · exact br_v (fun z => c2 (q2.mp z)) (h0 (fun z => z.elim c1 c2))
theorem s14_isDigit {σ : St} {u : Nat} {Q : Int32 → Prop} (hu : u < 256) (h1 : dgt u → Q 1) (h0 : ¬ dgt u → Q 0) : w14_isDigit σ (nI u) Q := by
  unfold dgt at h1 h0
  by_cases c1 : u < 48
  · exact br_t (nI_lt (b := 48) c1 (by omega)) (h0 (by omega))
  · refine br_f (nI_nlt (b := 48) (by omega) (by omega)) ?_
    by_cases c2 : 57 < u
    · exact br_t (nI_lt (a := 57) c2 (by omega)) (h0 (by omega))
    · exact br_f (nI_nlt (a := 57) (by omega) (by omega)) (h1 (by omega))
/-- where a code stands in a text -/
theorem sJ_indexOf_L {t : Nat} {x : Nat} {Q : Int32 → Prop} {K1 : Int32 → Prop} {K0 : Prop} (ht : t < 83) (hx : x < 128) : ∀ (m j : Nat), j + m = sn t → (∀ k, k < sn t → sc t k = x → K1 (nI k)) → ((∀ k, j ≤ k → k < sn t → sc t k ≠ x) → K0) → wJ2_indexOfChar_L7 t (nI (sn t)) (nI x) Q K1 K0 (m + 1) (nI j) := by
  intro m
  have h1 := sn_le t ht
  induction m with
  | zero => intro j hj _ h0; exact br_t (nI_le (by omega) (by omega)) (h0 (fun k _ _ => by omega))
  | succ m ih =>
    intro j hj hy h0
    obtain ⟨s2, s3, s4⟩ := sc_lt t ht j (by omega)
    have e1 : sby t (nI j) = nI (sc t j) := by unfold sby; rw [cl (by omega)]; exact s4
    refine br_f (nI_ge (by omega) (by omega)) ⟨vin (show j < sn t by omega) (by omega), ?_⟩
    rw [e1, nI_1]
    by_cases c : sc t j = x
    · exact br_u (by rw [c]) (hy j (by omega) c)
    · refine br_v (fun z => c ((nI_eq (by omega) (by omega)).mp z)) (ih (j + 1) (by omega) hy (fun z => h0 (fun k a b => ?_)))
      by_cases ck : k = j
      · rw [ck]; exact c
      · exact z k (by omega) b
theorem sJ_indexOf {t x : Nat} {Q : Int32 → Prop} (ht : t < 83) (hs : 0 < sn t) (hx : x < 128) (h1 : (∃ k, k < sn t ∧ sc t k = x) → ∀ k : Nat, k < 31 → Q (nI k)) (h0 : (∀ k, k < sn t → sc t k ≠ x) → Q (-1)) : wJ1_indexOf t (nI x) Q := by
  have hl := sn_le t ht
  refine br_f (by decide) (br_u rfl (br_f (by decide) (sJ_length ?_)))
  refine br_f (nI_nlt (b := 0) (by omega) (by omega)) (br_f (nI_nlt (a := 255) (by omega) (by omega)) (br_v (by decide) ?_))
  have em : imax 0 0 = 0 := by decide
  have en : imin (nI (sn t)) (slI t) = nI (sn t) := by
    show imin (nI (sn t)) (nI (sn t)) = _
    rw [imin_n (by omega) (by omega), Nat.min_self]
  rw [em, en]
  refine br_t (nI_lt (a := 0) hs (by omega)) ?_
  have e8 : (nI x).toInt8.toInt32 = nI x := by
    have : ∀ x, x < 128 → (nI x).toInt8.toInt32 = nI x := by decide +kernel
    exact this x hx
  show ∃ z1, wJ2_indexOfChar_L7 t _ (nI x).toInt8.toInt32 _ _ _ z1 0
  rw [e8]
  refine ⟨sn t + 1, sJ_indexOf_L ht hx (sn t) 0 (by omega) (fun k a b => h1 ⟨k, a, b⟩ k (by omega)) (fun z => h0 (fun k a => z k (by omega) a))⟩
theorem sgn_i {u : Nat} : (∃ k, k < sn 4 ∧ sc 4 k = u) ↔ sgn u := by
  constructor
  · rintro ⟨k, h1, h2⟩
    have : ∀ k, k < sn 4 → sgn (sc 4 k) := by decide
    rw [← h2]
    exact this k h1
  · intro h
    unfold sgn at h
    rcases h with h | h | h | h | h | h | h | h | h | h | h | h | h | h | h
    · exact ⟨0, by decide, by rw [h]; decide⟩
    · exact ⟨1, by decide, by rw [h]; decide⟩
    · exact ⟨2, by decide, by rw [h]; decide⟩
    · exact ⟨3, by decide, by rw [h]; decide⟩
    · exact ⟨4, by decide, by rw [h]; decide⟩
    · exact ⟨5, by decide, by rw [h]; decide⟩
    · exact ⟨6, by decide, by rw [h]; decide⟩
    · exact ⟨7, by decide, by rw [h]; decide⟩
    · exact ⟨8, by decide, by rw [h]; decide⟩
    · exact ⟨9, by decide, by rw [h]; decide⟩
    · exact ⟨10, by decide, by rw [h]; decide⟩
    · exact ⟨11, by decide, by rw [h]; decide⟩
    · exact ⟨12, by decide, by rw [h]; decide⟩
    · exact ⟨13, by decide, by rw [h]; decide⟩
    · exact ⟨14, by decide, by rw [h]; decide⟩
theorem u16 : ∀ v, v < 128 → ((nI v).toUInt32 % 65536).toInt32 = nI v := by decide +kernel
theorem s9_isNameCode {σ : St} {x : Int32} {Q : Int32 → Prop} (h : by8 x) (h1 : nmc (ub x) → Q 1) (h0 : ¬ nmc (ub x) → Q 0) : w9_isNameCode σ x Q := by
  refine s9_isIn (a := 97) (b := 122) h (by omega) (by omega) (fun c => br_v (by decide) (h1 (Or.inl (Or.inl c)))) (fun c1 => br_u rfl ?_)
  refine s9_isIn (a := 65) (b := 90) h (by omega) (by omega) (fun c => br_v (by decide) (h1 (Or.inl (Or.inr c)))) (fun c2 => br_u rfl ?_)
  refine s9_isIn (a := 48) (b := 57) h (by omega) (by omega) (fun c => br_v (by decide) (h1 (Or.inr (Or.inl c)))) (fun c3 => br_u rfl ?_)
  have nl : ¬ ltr (ub x) := fun z => z.elim c1 c2
  rcases by_ub h with ⟨d, e⟩ | ⟨d, e⟩
  · generalize ub x = u at *
    subst e
    by_cases c4 : u = 0
    · refine br_t (by rw [c4]; decide) (h0 (fun z => z.elim nl (fun z => z.elim c3 (fun z => ?_))))
      subst c4
      exact absurd z (by decide)
    · refine br_f (nI_nle (by omega) (by omega)) ?_
      rw [u16 _ d]
      refine sJ_indexOf (by decide) (by decide) d (fun hk k hk2 => br_f (nI_nlt (b := 0) (by omega) (by omega)) (h1 (Or.inr (Or.inr (sgn_i.mp hk))))) (fun hk => br_t (by decide) (h0 (fun z => z.elim nl (fun z => z.elim c3 (fun z => ?_)))))
      obtain ⟨k, a, b⟩ := sgn_i.mpr z
      exact hk k a b
  · refine br_t (Int32.le_of_lt e) (h0 (fun z => z.elim nl (fun z => z.elim c3 (fun z => ?_))))
    unfold sgn at z
    omega
theorem s14_nmc_t {σ : St} {u : Nat} {x2 : Int32} {Q : Int32 → Prop} (hu : u < 256) (h1 : (ltr u ∨ dgt u ∨ x2 ≠ 0) → Q 1) (h0 : ¬ (ltr u ∨ dgt u ∨ x2 ≠ 0) → Q 0) : (nI (sml u) < 97 → w14_isNameCode_J113 σ (nI u) x2 Q) ∧ (¬ nI (sml u) < 97 → ((nI (sml u) ≤ 122 → Q 1) ∧ (¬ nI (sml u) ≤ 122 → w14_isNameCode_J113 σ (nI u) x2 Q))) := by
  have hs := sml_lt hu
  have hl : ltr u ↔ 97 ≤ sml u ∧ sml u ≤ 122 := by
    unfold ltr sml
    split <;> omega
  have j : ¬ ltr u → w14_isNameCode_J113 σ (nI u) x2 Q := by
    intro nl
    refine s14_isDigit hu (fun d => br_v (by decide) (h1 (Or.inr (Or.inl d)))) (fun d => br_u rfl ?_)
    by_cases c : x2 = 0
    · exact br_t c (h0 (fun z => z.elim nl (fun z => z.elim d (fun z => z c))))
    · exact br_f c (h1 (Or.inr (Or.inr c)))
  by_cases c1 : sml u < 97
  · exact br_t (nI_lt (b := 97) c1 (by omega)) (j (fun z => by have := hl.mp z; omega))
  · refine br_f (nI_nlt (b := 97) (by omega) (by omega)) ?_
    by_cases c2 : sml u ≤ 122
    · exact br_t (nI_le (b := 122) c2 (by omega)) (h1 (Or.inl (hl.mpr ⟨by omega, c2⟩)))
    · exact br_f (nI_ge (a := 122) (by omega) (by omega)) (j (fun z => by have := hl.mp z; omega))
theorem s14_isNameCode {σ : St} {u : Nat} {Q : Int32 → Prop} (hu : u < 256) (h1 : nmc u → Q 1) (h0 : ¬ nmc u → Q 0) : w14_isNameCode σ (nI u) Q := by
  have one : sgn u → (nI (sml u) < 97 → w14_isNameCode_J113 σ (nI u) 1 Q) ∧ (¬ nI (sml u) < 97 → ((nI (sml u) ≤ 122 → Q 1) ∧ (¬ nI (sml u) ≤ 122 → w14_isNameCode_J113 σ (nI u) 1 Q))) := fun s => s14_nmc_t hu (fun _ => h1 (Or.inr (Or.inr s))) (fun z => absurd (Or.inr (Or.inr (by decide))) z)
  refine s14_small hu ?_
  by_cases c45 : u = 45
  · exact br_t ((nI_eq (b := 45) (by omega) (by omega)).mpr c45) (one (by unfold sgn; omega))
  refine br_f (fun z => c45 ((nI_eq (b := 45) (by omega) (by omega)).mp z)) ?_
  by_cases c95 : u = 95
  · exact br_t ((nI_eq (b := 95) (by omega) (by omega)).mpr c95) (one (by unfold sgn; omega))
  refine br_f (fun z => c95 ((nI_eq (b := 95) (by omega) (by omega)).mp z)) ?_
  by_cases c46 : u = 46
  · exact br_t ((nI_eq (b := 46) (by omega) (by omega)).mpr c46) (one (by unfold sgn; omega))
  refine br_f (fun z => c46 ((nI_eq (b := 46) (by omega) (by omega)).mp z)) ?_
  by_cases c33 : u = 33
  · exact br_t ((nI_eq (b := 33) (by omega) (by omega)).mpr c33) (one (by unfold sgn; omega))
  refine br_f (fun z => c33 ((nI_eq (b := 33) (by omega) (by omega)).mp z)) ?_
  by_cases c35 : u = 35
  · exact br_t ((nI_eq (b := 35) (by omega) (by omega)).mpr c35) (one (by unfold sgn; omega))
  refine br_f (fun z => c35 ((nI_eq (b := 35) (by omega) (by omega)).mp z)) ?_
  by_cases c36 : u = 36
  · exact br_t ((nI_eq (b := 36) (by omega) (by omega)).mpr c36) (one (by unfold sgn; omega))
  refine br_f (fun z => c36 ((nI_eq (b := 36) (by omega) (by omega)).mp z)) ?_
  by_cases c37 : u = 37
  · exact br_t ((nI_eq (b := 37) (by omega) (by omega)).mpr c37) (one (by unfold sgn; omega))
  refine br_f (fun z => c37 ((nI_eq (b := 37) (by omega) (by omega)).mp z)) ?_
  by_cases c38 : u = 38
  · exact br_t ((nI_eq (b := 38) (by omega) (by omega)).mpr c38) (one (by unfold sgn; omega))
  refine br_f (fun z => c38 ((nI_eq (b := 38) (by omega) (by omega)).mp z)) ?_
  by_cases c39 : u = 39
  · exact br_t ((nI_eq (b := 39) (by omega) (by omega)).mpr c39) (one (by unfold sgn; omega))
  refine br_f (fun z => c39 ((nI_eq (b := 39) (by omega) (by omega)).mp z)) ?_
  by_cases c42 : u = 42
  · exact br_t ((nI_eq (b := 42) (by omega) (by omega)).mpr c42) (one (by unfold sgn; omega))
  refine br_f (fun z => c42 ((nI_eq (b := 42) (by omega) (by omega)).mp z)) ?_
  by_cases c43 : u = 43
  · exact br_t ((nI_eq (b := 43) (by omega) (by omega)).mpr c43) (one (by unfold sgn; omega))
  refine br_f (fun z => c43 ((nI_eq (b := 43) (by omega) (by omega)).mp z)) ?_
  by_cases c94 : u = 94
  · exact br_t ((nI_eq (b := 94) (by omega) (by omega)).mpr c94) (one (by unfold sgn; omega))
  refine br_f (fun z => c94 ((nI_eq (b := 94) (by omega) (by omega)).mp z)) ?_
  by_cases c96 : u = 96
  · exact br_t ((nI_eq (b := 96) (by omega) (by omega)).mpr c96) (one (by unfold sgn; omega))
  refine br_f (fun z => c96 ((nI_eq (b := 96) (by omega) (by omega)).mp z)) ?_
  by_cases c124 : u = 124
  · exact br_t ((nI_eq (b := 124) (by omega) (by omega)).mpr c124) (one (by unfold sgn; omega))
  refine br_f (fun z => c124 ((nI_eq (b := 124) (by omega) (by omega)).mp z)) ?_
  by_cases c126 : u = 126
  · exact br_u ((nI_eq (b := 126) (by omega) (by omega)).mpr c126) (one (by unfold sgn; omega))
  refine br_v (fun z => c126 ((nI_eq (b := 126) (by omega) (by omega)).mp z)) ?_
  have ns : ¬ sgn u := by unfold sgn; omega
  exact s14_nmc_t hu (fun z => h1 (z.elim Or.inl (fun z => z.elim (fun z => Or.inr (Or.inl z)) (fun z => absurd rfl z)))) (fun z => h0 (fun y => z (y.elim Or.inl (fun y => y.elim (fun y => Or.inr (Or.inl y)) (fun y => absurd y ns)))))
