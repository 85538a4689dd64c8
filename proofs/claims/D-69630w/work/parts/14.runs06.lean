/-! runs -/
set_option maxRecDepth 100000
/-! WebHostModel.fragment(IIIIIZ)V -/
set_option maxHeartbeats 4000000 in
theorem e14_fragment_L17 {σ : St} {x1 : Int32} {x2 : Int32} {x3 : Int32} {x4 : Int32} {x5 : Int32} {x6 : Int32} {x7 : Int32} {Q : St → Prop} {K84 : Option Nat → Option Nat → Prop} (ok : okS σ) :
    ∀ (n : Nat) {p8 : Option Nat} {p9 : Option Nat} {x10 : Int32}, w14_fragment_L17 σ x1 x2 x3 x4 x5 x6 x7 Q K84 n p8 p9 x10 → (∃ (p8' : Option Nat) (p9' : Option Nat), K84 p8' p9' ∧ ∀ (Q9 : St → Prop) (K9_84 : Option Nat → Option Nat → Prop), K9_84 p8' p9' → w14_fragment_L17 σ x1 x2 x3 x4 x5 x6 x7 Q9 K9_84 n p8 p9 x10) := by
  intro n
  induction n with
  | zero =>
    intro p8 p9 x10 h
    exact False.elim h
  | succ n ih =>
    intro p8 p9 x10 h
    have rb : ∀ (Q9 : St → Prop) (K9_84 : Option Nat → Option Nat → Prop), w14_fragment_L17 σ x1 x2 x3 x4 x5 x6 x7 Q9 K9_84 (n + 1) p8 p9 x10 → w14_fragment_L17 σ x1 x2 x3 x4 x5 x6 x7 Q9 K9_84 (n + 1) p8 p9 x10 := fun _ _ z => z
    by_cases hc : x10 < 0
    · have h := h.1 hc
      have rb := fun Q9 K9_84 z => rb Q9 K9_84 (br_t hc z)
      exact ⟨p8, p9, h, fun Q9 K9_84 hq => rb Q9 K9_84 hq⟩
    have h := h.2 hc
    have rb := fun Q9 K9_84 z => rb Q9 K9_84 (br_f hc z)
    obtain ⟨hc, h⟩ := h
    have rb := fun Q9 K9_84 z => rb Q9 K9_84 (And.intro hc z)
    have hq2 := vp_lt hc
    have h := h ((ok 18 x10.toNatClampNeg 0).1 (by decide))
    have rb := fun Q9 K9_84 z => rb Q9 K9_84 (im_n z)
    by_cases hc : (σ 18 x10.toNatClampNeg 0) = 0
    · have h := h.2 hc
      have rb := fun Q9 K9_84 z => rb Q9 K9_84 (br_u hc z)
      rcases ih h with ⟨p8, p9, h, rc⟩
      · exact ⟨p8, p9, h, fun Q9 K9_84 hq => rb Q9 K9_84 (rc Q9 K9_84 hq)⟩
    have h := h.1 hc
    have rb := fun Q9 K9_84 z => rb Q9 K9_84 (br_v hc z)
    by_cases hc : (σ 18 x10.toNatClampNeg 1) = x1
    · have h := h.2 hc
      have rb := fun Q9 K9_84 z => rb Q9 K9_84 (br_u hc z)
      by_cases hc : (σ 18 x10.toNatClampNeg 2) = x7
      · have h := h.2 hc
        have rb := fun Q9 K9_84 z => rb Q9 K9_84 (br_u hc z)
        by_cases hc : (σ 18 x10.toNatClampNeg 3) = x2
        · have h := h.2 hc
          have rb := fun Q9 K9_84 z => rb Q9 K9_84 (br_u hc z)
          rcases ih h with ⟨p8, p9, h, rc⟩
          · exact ⟨p8, p9, h, fun Q9 K9_84 hq => rb Q9 K9_84 (rc Q9 K9_84 hq)⟩
        have h := h.1 hc
        have rb := fun Q9 K9_84 z => rb Q9 K9_84 (br_v hc z)
        rcases ih h with ⟨p8, p9, h, rc⟩
        · exact ⟨p8, p9, h, fun Q9 K9_84 hq => rb Q9 K9_84 (rc Q9 K9_84 hq)⟩
      have h := h.1 hc
      have rb := fun Q9 K9_84 z => rb Q9 K9_84 (br_v hc z)
      rcases ih h with ⟨p8, p9, h, rc⟩
      · exact ⟨p8, p9, h, fun Q9 K9_84 hq => rb Q9 K9_84 (rc Q9 K9_84 hq)⟩
    have h := h.1 hc
    have rb := fun Q9 K9_84 z => rb Q9 K9_84 (br_v hc z)
    rcases ih h with ⟨p8, p9, h, rc⟩
    · exact ⟨p8, p9, h, fun Q9 K9_84 hq => rb Q9 K9_84 (rc Q9 K9_84 hq)⟩
set_option maxHeartbeats 4000000 in
theorem e14_fragment_L161 {x1 : Int32} {x2 : Int32} {x3 : Int32} {x4 : Int32} {x5 : Int32} {x6 : Int32} {o8 : Nat} {Q : St → Prop} {K184 : St → Prop} (ho8 : o8 < 4) :
    ∀ (n : Nat) {σ : St} {x10 : Int32} (ok : okS σ), w14_fragment_L161 x1 x2 x3 x4 x5 x6 o8 Q K184 n σ x10 → (∃ (σ' : St), K184 σ' ∧ okS σ' ∧ Fr (mF [] [(70, o8)] [] []) σ σ' ∧ ∀ (Q9 : St → Prop) (K9_184 : St → Prop), K9_184 σ' → w14_fragment_L161 x1 x2 x3 x4 x5 x6 o8 Q9 K9_184 n σ x10) := by
  intro n
  induction n with
  | zero =>
    intro σ x10 ok h
    exact False.elim h
  | succ n ih =>
    intro σ x10 ok h
    have fr : Fr (mF [] [(70, o8)] [] []) σ σ := Fr.rf
    have rb : ∀ (Q9 : St → Prop) (K9_184 : St → Prop), w14_fragment_L161 x1 x2 x3 x4 x5 x6 o8 Q9 K9_184 (n + 1) σ x10 → w14_fragment_L161 x1 x2 x3 x4 x5 x6 o8 Q9 K9_184 (n + 1) σ x10 := fun _ _ z => z
    by_cases hc : 4096 ≤ x10
    · have h := h.1 hc
      have rb := fun Q9 K9_184 z => rb Q9 K9_184 (br_t hc z)
      exact ⟨σ, h, ok, fr, fun Q9 K9_184 hq => rb Q9 K9_184 hq⟩
    have h := h.2 hc
    have rb := fun Q9 K9_184 z => rb Q9 K9_184 (br_f hc z)
    obtain ⟨hc, h⟩ := h
    have rb := fun Q9 K9_184 z => rb Q9 K9_184 (And.intro hc z)
    obtain ⟨σ15, e9⟩ : ∃ s : St, s = up3 σ 70 o8 x10.toNatClampNeg 0 := ⟨_, rfl⟩
    have h := h σ15 e9
    have rb := fun Q9 K9_184 z => rb Q9 K9_184 (nm_n e9 z)
    have ok : okS σ15 := by rw [e9]; exact (ok_z ok (tyk_a 70 1 (by decide) (by decide) _) (Or.inl rfl))
    have fr : Fr (mF [] [(70, o8)] [] []) σ σ15 := by rw [e9]; exact (Fr.up fr (mF_B (List.mem_of_getElem? (i := 0) rfl)))
    rcases ih ok h with ⟨σ', h, ok, fr9, rc⟩
    · exact ⟨σ', h, ok, fr.tr fr9, fun Q9 K9_184 hq => rb Q9 K9_184 (rc Q9 K9_184 hq)⟩
set_option maxHeartbeats 4000000 in
theorem e14_fragment_L306 {x1 : Int32} {x2 : Int32} {x3 : Int32} {x4 : Int32} {x5 : Int32} {o8 : Nat} {Q : St → Prop} {K363 : St → Prop} (ho8 : o8 < 4) :
    ∀ (n : Nat) {σ : St} {x12 : Int32} (ok : okS σ), w14_fragment_L306 x1 x2 x3 x4 x5 o8 Q K363 n σ x12 → (∃ (σ' : St), K363 σ' ∧ okS σ' ∧ Fr (mF [] [(69, o8), (70, o8)] [] []) σ σ' ∧ ∀ (Q9 : St → Prop) (K9_363 : St → Prop), K9_363 σ' → w14_fragment_L306 x1 x2 x3 x4 x5 o8 Q9 K9_363 n σ x12) := by
  intro n
  induction n with
  | zero =>
    intro σ x12 ok h
    exact False.elim h
  | succ n ih =>
    intro σ x12 ok h
    have fr : Fr (mF [] [(69, o8), (70, o8)] [] []) σ σ := Fr.rf
    have rb : ∀ (Q9 : St → Prop) (K9_363 : St → Prop), w14_fragment_L306 x1 x2 x3 x4 x5 o8 Q9 K9_363 (n + 1) σ x12 → w14_fragment_L306 x1 x2 x3 x4 x5 o8 Q9 K9_363 (n + 1) σ x12 := fun _ _ z => z
    by_cases hc : x5 ≤ x12
    · have h := h.1 hc
      have rb := fun Q9 K9_363 z => rb Q9 K9_363 (br_t hc z)
      exact ⟨σ, h, ok, fr, fun Q9 K9_363 hq => rb Q9 K9_363 hq⟩
    have h := h.2 hc
    have rb := fun Q9 K9_363 z => rb Q9 K9_363 (br_f hc z)
    obtain ⟨hc, h⟩ := h
    have rb := fun Q9 K9_363 z => rb Q9 K9_363 (And.intro hc z)
    have h := h ((ok 70 o8 _).1 (tyk_a 70 1 (by decide) (by decide) _))
    have rb := fun Q9 K9_363 z => rb Q9 K9_363 (im_n z)
    by_cases hc : (σ 70 o8 (x3 + x12).toNatClampNeg) = 0
    · have h := h.2 hc
      have rb := fun Q9 K9_363 z => rb Q9 K9_363 (br_u hc z)
      obtain ⟨hc, h⟩ := h
      have rb := fun Q9 K9_363 z => rb Q9 K9_363 (And.intro hc z)
      obtain ⟨σ18, e9⟩ : ∃ s : St, s = up3 σ 70 o8 (x3 + x12).toNatClampNeg 1 := ⟨_, rfl⟩
      have h := h σ18 e9
      have rb := fun Q9 K9_363 z => rb Q9 K9_363 (nm_n e9 z)
      have ok : okS σ18 := by rw [e9]; exact (ok_z ok (tyk_a 70 1 (by decide) (by decide) _) (Or.inr rfl))
      have fr : Fr (mF [] [(69, o8), (70, o8)] [] []) σ σ18 := by rw [e9]; exact (Fr.up fr (mF_B (List.mem_of_getElem? (i := 1) rfl)))
      obtain ⟨hc, h⟩ := h
      have rb := fun Q9 K9_363 z => rb Q9 K9_363 (And.intro hc z)
      have h := h ((ok 50 0 _).2 (tyk_a 50 2 (by decide) (by decide) _))
      have rb := fun Q9 K9_363 z => rb Q9 K9_363 (im_n z)
      obtain ⟨hc, h⟩ := h
      have rb := fun Q9 K9_363 z => rb Q9 K9_363 (And.intro hc z)
      obtain ⟨σ19, e9⟩ : ∃ s : St, s = up3 σ18 69 o8 (x3 + x12).toNatClampNeg (σ18 50 0 (x4 + x12).toNatClampNeg).toInt8.toInt32 := ⟨_, rfl⟩
      have h := h σ19 e9
      have rb := fun Q9 K9_363 z => rb Q9 K9_363 (nm_n e9 z)
      have ok : okS σ19 := by rw [e9]; exact (ok_b ok (tyk_a 69 2 (by decide) (by decide) _))
      have fr : Fr (mF [] [(69, o8), (70, o8)] [] []) σ σ19 := by rw [e9]; exact (Fr.up fr (mF_B (List.mem_of_getElem? (i := 0) rfl)))
      rcases ih ok h with ⟨σ', h, ok, fr9, rc⟩
      · exact ⟨σ', h, ok, fr.tr fr9, fun Q9 K9_363 hq => rb Q9 K9_363 (rc Q9 K9_363 hq)⟩
    have h := h.1 hc
    have rb := fun Q9 K9_363 z => rb Q9 K9_363 (br_v hc z)
    rcases ih ok h with ⟨σ', h, ok, fr9, rc⟩
    · exact ⟨σ', h, ok, fr.tr fr9, fun Q9 K9_363 hq => rb Q9 K9_363 (rc Q9 K9_363 hq)⟩
set_option maxHeartbeats 4000000 in
theorem e14_fragment_L375 {σ : St} {x1 : Int32} {x2 : Int32} {o8 : Nat} {Q : St → Prop} {K396 : Prop} {K403 : Prop} (ho8 : o8 < 4) (ok : okS σ) :
    ∀ (n : Nat) {x12 : Int32}, w14_fragment_L375 σ x1 x2 o8 Q K396 K403 n x12 → (K396 ∧ ∀ (Q9 : St → Prop) (K9_396 : Prop) (K9_403 : Prop), K9_396 → w14_fragment_L375 σ x1 x2 o8 Q9 K9_396 K9_403 n x12) ∨ (K403 ∧ ∀ (Q9 : St → Prop) (K9_396 : Prop) (K9_403 : Prop), K9_403 → w14_fragment_L375 σ x1 x2 o8 Q9 K9_396 K9_403 n x12) := by
  intro n
  induction n with
  | zero =>
    intro x12 h
    exact False.elim h
  | succ n ih =>
    intro x12 h
    have rb : ∀ (Q9 : St → Prop) (K9_396 : Prop) (K9_403 : Prop), w14_fragment_L375 σ x1 x2 o8 Q9 K9_396 K9_403 (n + 1) x12 → w14_fragment_L375 σ x1 x2 o8 Q9 K9_396 K9_403 (n + 1) x12 := fun _ _ _ z => z
    by_cases hc : (σ 18 o8 4) ≤ x12
    · have h := h.1 hc
      have rb := fun Q9 K9_396 K9_403 z => rb Q9 K9_396 K9_403 (br_t hc z)
      exact (Or.inr ⟨h, fun Q9 K9_396 K9_403 hq => rb Q9 K9_396 K9_403 hq⟩)
    have h := h.2 hc
    have rb := fun Q9 K9_396 K9_403 z => rb Q9 K9_396 K9_403 (br_f hc z)
    obtain ⟨hc, h⟩ := h
    have rb := fun Q9 K9_396 K9_403 z => rb Q9 K9_396 K9_403 (And.intro hc z)
    have h := h ((ok 70 o8 _).1 (tyk_a 70 1 (by decide) (by decide) _))
    have rb := fun Q9 K9_396 K9_403 z => rb Q9 K9_396 K9_403 (im_n z)
    by_cases hc : (σ 70 o8 x12.toNatClampNeg) = 0
    · have h := h.2 hc
      have rb := fun Q9 K9_396 K9_403 z => rb Q9 K9_396 K9_403 (br_u hc z)
      exact (Or.inl ⟨h, fun Q9 K9_396 K9_403 hq => rb Q9 K9_396 K9_403 hq⟩)
    have h := h.1 hc
    have rb := fun Q9 K9_396 K9_403 z => rb Q9 K9_396 K9_403 (br_v hc z)
    rcases ih h with ⟨h, rc⟩ | ⟨h, rc⟩
    · exact (Or.inl ⟨h, fun Q9 K9_396 K9_403 hq => rb Q9 K9_396 K9_403 (rc Q9 K9_396 K9_403 hq)⟩)
    · exact (Or.inr ⟨h, fun Q9 K9_396 K9_403 hq => rb Q9 K9_396 K9_403 (rc Q9 K9_396 K9_403 hq)⟩)
set_option maxHeartbeats 4000000 in
theorem e14_fragment_L422 {x1 : Int32} {x2 : Int32} {o8 : Nat} {Q : St → Prop} {K453 : St → Prop} (ho8 : o8 < 4) :
    ∀ (n : Nat) {σ : St} {x12 : Int32} (ok : okS σ), w14_fragment_L422 x1 x2 o8 Q K453 n σ x12 → (∃ (σ' : St), K453 σ' ∧ okS σ' ∧ Fr (mF [64] [] [] []) σ σ' ∧ ∀ (Q9 : St → Prop) (K9_453 : St → Prop), K9_453 σ' → w14_fragment_L422 x1 x2 o8 Q9 K9_453 n σ x12) := by
  intro n
  induction n with
  | zero =>
    intro σ x12 ok h
    exact False.elim h
  | succ n ih =>
    intro σ x12 ok h
    have fr : Fr (mF [64] [] [] []) σ σ := Fr.rf
    have rb : ∀ (Q9 : St → Prop) (K9_453 : St → Prop), w14_fragment_L422 x1 x2 o8 Q9 K9_453 (n + 1) σ x12 → w14_fragment_L422 x1 x2 o8 Q9 K9_453 (n + 1) σ x12 := fun _ _ z => z
    by_cases hc : (σ 18 o8 4) ≤ x12
    · have h := h.1 hc
      have rb := fun Q9 K9_453 z => rb Q9 K9_453 (br_t hc z)
      exact ⟨σ, h, ok, fr, fun Q9 K9_453 hq => rb Q9 K9_453 hq⟩
    have h := h.2 hc
    have rb := fun Q9 K9_453 z => rb Q9 K9_453 (br_f hc z)
    obtain ⟨hc, h⟩ := h
    have rb := fun Q9 K9_453 z => rb Q9 K9_453 (And.intro hc z)
    have h := h ((ok 69 o8 _).2 (tyk_a 69 2 (by decide) (by decide) _))
    have rb := fun Q9 K9_453 z => rb Q9 K9_453 (im_n z)
    obtain ⟨hc, h⟩ := h
    have rb := fun Q9 K9_453 z => rb Q9 K9_453 (And.intro hc z)
    obtain ⟨σ27, e9⟩ : ∃ s : St, s = up3 σ 64 0 x12.toNatClampNeg (σ 69 o8 x12.toNatClampNeg).toInt8.toInt32 := ⟨_, rfl⟩
    have h := h σ27 e9
    have rb := fun Q9 K9_453 z => rb Q9 K9_453 (nm_n e9 z)
    have ok : okS σ27 := by rw [e9]; exact (ok_b ok (tyk_a 64 2 (by decide) (by decide) _))
    have fr : Fr (mF [64] [] [] []) σ σ27 := by rw [e9]; exact (Fr.up fr (mF_A rfl))
    rcases ih ok h with ⟨σ', h, ok, fr9, rc⟩
    · exact ⟨σ', h, ok, fr.tr fr9, fun Q9 K9_453 hq => rb Q9 K9_453 (rc Q9 K9_453 hq)⟩
set_option maxHeartbeats 4000000 in
theorem e14_fragment_J279 {σ : St} {x1 : Int32} {x2 : Int32} {x3 : Int32} {x4 : Int32} {x5 : Int32} {x6 : Int32} {o8 : Nat} {x10 : Int32} {x11 : Int32} {Q : St → Prop} (ho8 : o8 < 4) (ok : okS σ) (h : w14_fragment_J279 σ x1 x2 x3 x4 x5 x6 o8 x10 x11 Q) : (∃ (σ' : St), Q σ' ∧ okS σ' ∧ Fr (mF [56, 57, 58, 59, 60, 64, 66, 67, 68, 71, 72, 73] [(69, o8), (70, o8)] [(14, [12, 18, 23, 24, 25, 30, 32, 33, 34, 35, 36, 37, 38, 39, 40, 42, 43, 44, 45, 46, 47, 48, 49, 50, 51, 52, 53, 54, 55, 56, 57, 59, 60, 61, 62]), (15, [0, 1, 2, 3, 4, 5, 6, 7, 8, 9, 10, 11, 12, 13, 14, 15, 16, 17, 18, 19, 20, 21, 22, 23, 24, 26, 27, 28, 29, 30, 31, 34, 35, 36, 37, 38, 39, 40, 41, 42, 43, 44, 45]), (17, [0, 1, 2, 3, 4, 5])] [(18, o8, [0, 4])]) σ σ' ∧ ∀ (Q9 : St → Prop), Q9 σ' → w14_fragment_J279 σ x1 x2 x3 x4 x5 x6 o8 x10 x11 Q9) := by
  have fr : Fr (mF [56, 57, 58, 59, 60, 64, 66, 67, 68, 71, 72, 73] [(69, o8), (70, o8)] [(14, [12, 18, 23, 24, 25, 30, 32, 33, 34, 35, 36, 37, 38, 39, 40, 42, 43, 44, 45, 46, 47, 48, 49, 50, 51, 52, 53, 54, 55, 56, 57, 59, 60, 61, 62]), (15, [0, 1, 2, 3, 4, 5, 6, 7, 8, 9, 10, 11, 12, 13, 14, 15, 16, 17, 18, 19, 20, 21, 22, 23, 24, 26, 27, 28, 29, 30, 31, 34, 35, 36, 37, 38, 39, 40, 41, 42, 43, 44, 45]), (17, [0, 1, 2, 3, 4, 5])] [(18, o8, [0, 4])]) σ σ := Fr.rf
  have rb : ∀ (Q9 : St → Prop), w14_fragment_J279 σ x1 x2 x3 x4 x5 x6 o8 x10 x11 Q9 → w14_fragment_J279 σ x1 x2 x3 x4 x5 x6 o8 x10 x11 Q9 := fun _ z => z
  by_cases hc : x11 = 0
  · have h := h.1 hc
    have rb := fun Q9 z => rb Q9 (br_t hc z)
    by_cases hc : x6 = 0
    · have h := h.2 hc
      have rb := fun Q9 z => rb Q9 (br_u hc z)
      obtain ⟨σ32, e9⟩ : ∃ s : St, s = up3 σ 18 o8 4 x10 := ⟨_, rfl⟩
      have h := h σ32 e9
      have rb := fun Q9 z => rb Q9 (nm_n e9 z)
      have ok : okS σ32 := by rw [e9]; exact (ok_n ok (by decide))
      have fr : Fr (mF [56, 57, 58, 59, 60, 64, 66, 67, 68, 71, 72, 73] [(69, o8), (70, o8)] [(14, [12, 18, 23, 24, 25, 30, 32, 33, 34, 35, 36, 37, 38, 39, 40, 42, 43, 44, 45, 46, 47, 48, 49, 50, 51, 52, 53, 54, 55, 56, 57, 59, 60, 61, 62]), (15, [0, 1, 2, 3, 4, 5, 6, 7, 8, 9, 10, 11, 12, 13, 14, 15, 16, 17, 18, 19, 20, 21, 22, 23, 24, 26, 27, 28, 29, 30, 31, 34, 35, 36, 37, 38, 39, 40, 41, 42, 43, 44, 45]), (17, [0, 1, 2, 3, 4, 5])] [(18, o8, [0, 4])]) σ σ32 := by rw [e9]; exact (Fr.up fr (mF_D (List.mem_of_getElem? (i := 0) rfl) rfl))
      obtain ⟨n9, h⟩ := h
      rcases e14_fragment_L306 ho8 n9 ok h with ⟨σ34, h, ok, fr9, rc⟩
      · have rb := fun Q9 z => rb Q9 (Exists.intro n9 (rc _ _ z))
        have fr := fr.tr (fr9.sub (mF_sub rfl (sub_c (Or.inr (List.mem_of_getElem? (i := 0) rfl)) (sub_c (Or.inr (List.mem_of_getElem? (i := 1) rfl)) sub_nil)) rfl sud_nil))
        by_cases hc : 0 ≤ (σ34 18 o8 4)
        · have h := h.1 hc
          have rb := fun Q9 z => rb Q9 (br_t hc z)
          obtain ⟨n9, h⟩ := h
          rcases e14_fragment_L375 ho8 ok n9 h with ⟨h, rc⟩ | ⟨h, rc⟩
          · have rb := fun Q9 z => rb Q9 (Exists.intro n9 (rc _ _ _ z))
            exact ⟨σ34, h, ok, fr, fun Q9 hq => rb Q9 hq⟩
          · have rb := fun Q9 z => rb Q9 (Exists.intro n9 (rc _ _ _ z))
            obtain ⟨σ38, e9⟩ : ∃ s : St, s = up3 σ34 18 o8 0 0 := ⟨_, rfl⟩
            have h := h σ38 e9
            have rb := fun Q9 z => rb Q9 (nm_n e9 z)
            have ok : okS σ38 := by rw [e9]; exact (ok_z ok (by decide) (Or.inl rfl))
            have fr : Fr (mF [56, 57, 58, 59, 60, 64, 66, 67, 68, 71, 72, 73] [(69, o8), (70, o8)] [(14, [12, 18, 23, 24, 25, 30, 32, 33, 34, 35, 36, 37, 38, 39, 40, 42, 43, 44, 45, 46, 47, 48, 49, 50, 51, 52, 53, 54, 55, 56, 57, 59, 60, 61, 62]), (15, [0, 1, 2, 3, 4, 5, 6, 7, 8, 9, 10, 11, 12, 13, 14, 15, 16, 17, 18, 19, 20, 21, 22, 23, 24, 26, 27, 28, 29, 30, 31, 34, 35, 36, 37, 38, 39, 40, 41, 42, 43, 44, 45]), (17, [0, 1, 2, 3, 4, 5])] [(18, o8, [0, 4])]) σ σ38 := by rw [e9]; exact (Fr.up fr (mF_D (List.mem_of_getElem? (i := 0) rfl) rfl))
            obtain ⟨hc, h⟩ := h
            have rb := fun Q9 z => rb Q9 (And.intro hc z)
            obtain ⟨hc, h⟩ := h
            have rb := fun Q9 z => rb Q9 (And.intro hc z)
            obtain ⟨σ39, e9⟩ : ∃ s : St, s = up3 σ38 56 0 (1 : Int32).toNatClampNeg ((σ38 56 0 (1 : Int32).toNatClampNeg) + 1) := ⟨_, rfl⟩
            have h := h σ39 e9
            have rb := fun Q9 z => rb Q9 (nm_n e9 z)
            have ok : okS σ39 := by rw [e9]; exact (ok_n ok (tyk_a 56 0 (by decide) (by decide) _))
            have fr : Fr (mF [56, 57, 58, 59, 60, 64, 66, 67, 68, 71, 72, 73] [(69, o8), (70, o8)] [(14, [12, 18, 23, 24, 25, 30, 32, 33, 34, 35, 36, 37, 38, 39, 40, 42, 43, 44, 45, 46, 47, 48, 49, 50, 51, 52, 53, 54, 55, 56, 57, 59, 60, 61, 62]), (15, [0, 1, 2, 3, 4, 5, 6, 7, 8, 9, 10, 11, 12, 13, 14, 15, 16, 17, 18, 19, 20, 21, 22, 23, 24, 26, 27, 28, 29, 30, 31, 34, 35, 36, 37, 38, 39, 40, 41, 42, 43, 44, 45]), (17, [0, 1, 2, 3, 4, 5])] [(18, o8, [0, 4])]) σ σ39 := by rw [e9]; exact (Fr.up fr (mF_A rfl))
            obtain ⟨n9, h⟩ := h
            rcases e14_fragment_L422 ho8 n9 ok h with ⟨σ41, h, ok, fr9, rc⟩
            · have rb := fun Q9 z => rb Q9 (Exists.intro n9 (rc _ _ z))
              have fr := fr.tr (fr9.sub (mF_sub rfl sub_nil rfl sud_nil))
              obtain ⟨σ42, e9⟩ : ∃ s : St, s = up3 σ41 14 0 30 x1 := ⟨_, rfl⟩
              have h := h σ42 e9
              have rb := fun Q9 z => rb Q9 (nm_n e9 z)
              have ok : okS σ42 := by rw [e9]; exact (ok_n ok (by decide))
              have fr : Fr (mF [56, 57, 58, 59, 60, 64, 66, 67, 68, 71, 72, 73] [(69, o8), (70, o8)] [(14, [12, 18, 23, 24, 25, 30, 32, 33, 34, 35, 36, 37, 38, 39, 40, 42, 43, 44, 45, 46, 47, 48, 49, 50, 51, 52, 53, 54, 55, 56, 57, 59, 60, 61, 62]), (15, [0, 1, 2, 3, 4, 5, 6, 7, 8, 9, 10, 11, 12, 13, 14, 15, 16, 17, 18, 19, 20, 21, 22, 23, 24, 26, 27, 28, 29, 30, 31, 34, 35, 36, 37, 38, 39, 40, 41, 42, 43, 44, 45]), (17, [0, 1, 2, 3, 4, 5])] [(18, o8, [0, 4])]) σ σ42 := by rw [e9]; exact (Fr.up fr (mF_C (List.mem_of_getElem? (i := 0) rfl) rfl))
              obtain ⟨σ43, h, ok, fr9, rc⟩ := e14_taken ok h
              have fr := fr.tr (fr9.sub (mF_sub rfl sub_nil rfl sud_nil))
              have rb := fun Q9 z => rb Q9 (rc _ z)
              exact ⟨σ43, h, ok, fr, fun Q9 hq => rb Q9 hq⟩
        have h := h.2 hc
        have rb := fun Q9 z => rb Q9 (br_f hc z)
        exact ⟨σ34, h, ok, fr, fun Q9 hq => rb Q9 hq⟩
    have h := h.1 hc
    have rb := fun Q9 z => rb Q9 (br_v hc z)
    obtain ⟨n9, h⟩ := h
    rcases e14_fragment_L306 ho8 n9 ok h with ⟨σ21, h, ok, fr9, rc⟩
    · have rb := fun Q9 z => rb Q9 (Exists.intro n9 (rc _ _ z))
      have fr := fr.tr (fr9.sub (mF_sub rfl (sub_c (Or.inr (List.mem_of_getElem? (i := 0) rfl)) (sub_c (Or.inr (List.mem_of_getElem? (i := 1) rfl)) sub_nil)) rfl sud_nil))
      by_cases hc : 0 ≤ (σ21 18 o8 4)
      · have h := h.1 hc
        have rb := fun Q9 z => rb Q9 (br_t hc z)
        obtain ⟨n9, h⟩ := h
        rcases e14_fragment_L375 ho8 ok n9 h with ⟨h, rc⟩ | ⟨h, rc⟩
        · have rb := fun Q9 z => rb Q9 (Exists.intro n9 (rc _ _ _ z))
          exact ⟨σ21, h, ok, fr, fun Q9 hq => rb Q9 hq⟩
        · have rb := fun Q9 z => rb Q9 (Exists.intro n9 (rc _ _ _ z))
          obtain ⟨σ25, e9⟩ : ∃ s : St, s = up3 σ21 18 o8 0 0 := ⟨_, rfl⟩
          have h := h σ25 e9
          have rb := fun Q9 z => rb Q9 (nm_n e9 z)
          have ok : okS σ25 := by rw [e9]; exact (ok_z ok (by decide) (Or.inl rfl))
          have fr : Fr (mF [56, 57, 58, 59, 60, 64, 66, 67, 68, 71, 72, 73] [(69, o8), (70, o8)] [(14, [12, 18, 23, 24, 25, 30, 32, 33, 34, 35, 36, 37, 38, 39, 40, 42, 43, 44, 45, 46, 47, 48, 49, 50, 51, 52, 53, 54, 55, 56, 57, 59, 60, 61, 62]), (15, [0, 1, 2, 3, 4, 5, 6, 7, 8, 9, 10, 11, 12, 13, 14, 15, 16, 17, 18, 19, 20, 21, 22, 23, 24, 26, 27, 28, 29, 30, 31, 34, 35, 36, 37, 38, 39, 40, 41, 42, 43, 44, 45]), (17, [0, 1, 2, 3, 4, 5])] [(18, o8, [0, 4])]) σ σ25 := by rw [e9]; exact (Fr.up fr (mF_D (List.mem_of_getElem? (i := 0) rfl) rfl))
          obtain ⟨hc, h⟩ := h
          have rb := fun Q9 z => rb Q9 (And.intro hc z)
          obtain ⟨hc, h⟩ := h
          have rb := fun Q9 z => rb Q9 (And.intro hc z)
          obtain ⟨σ26, e9⟩ : ∃ s : St, s = up3 σ25 56 0 (1 : Int32).toNatClampNeg ((σ25 56 0 (1 : Int32).toNatClampNeg) + 1) := ⟨_, rfl⟩
          have h := h σ26 e9
          have rb := fun Q9 z => rb Q9 (nm_n e9 z)
          have ok : okS σ26 := by rw [e9]; exact (ok_n ok (tyk_a 56 0 (by decide) (by decide) _))
          have fr : Fr (mF [56, 57, 58, 59, 60, 64, 66, 67, 68, 71, 72, 73] [(69, o8), (70, o8)] [(14, [12, 18, 23, 24, 25, 30, 32, 33, 34, 35, 36, 37, 38, 39, 40, 42, 43, 44, 45, 46, 47, 48, 49, 50, 51, 52, 53, 54, 55, 56, 57, 59, 60, 61, 62]), (15, [0, 1, 2, 3, 4, 5, 6, 7, 8, 9, 10, 11, 12, 13, 14, 15, 16, 17, 18, 19, 20, 21, 22, 23, 24, 26, 27, 28, 29, 30, 31, 34, 35, 36, 37, 38, 39, 40, 41, 42, 43, 44, 45]), (17, [0, 1, 2, 3, 4, 5])] [(18, o8, [0, 4])]) σ σ26 := by rw [e9]; exact (Fr.up fr (mF_A rfl))
          obtain ⟨n9, h⟩ := h
          rcases e14_fragment_L422 ho8 n9 ok h with ⟨σ29, h, ok, fr9, rc⟩
          · have rb := fun Q9 z => rb Q9 (Exists.intro n9 (rc _ _ z))
            have fr := fr.tr (fr9.sub (mF_sub rfl sub_nil rfl sud_nil))
            obtain ⟨σ30, e9⟩ : ∃ s : St, s = up3 σ29 14 0 30 x1 := ⟨_, rfl⟩
            have h := h σ30 e9
            have rb := fun Q9 z => rb Q9 (nm_n e9 z)
            have ok : okS σ30 := by rw [e9]; exact (ok_n ok (by decide))
            have fr : Fr (mF [56, 57, 58, 59, 60, 64, 66, 67, 68, 71, 72, 73] [(69, o8), (70, o8)] [(14, [12, 18, 23, 24, 25, 30, 32, 33, 34, 35, 36, 37, 38, 39, 40, 42, 43, 44, 45, 46, 47, 48, 49, 50, 51, 52, 53, 54, 55, 56, 57, 59, 60, 61, 62]), (15, [0, 1, 2, 3, 4, 5, 6, 7, 8, 9, 10, 11, 12, 13, 14, 15, 16, 17, 18, 19, 20, 21, 22, 23, 24, 26, 27, 28, 29, 30, 31, 34, 35, 36, 37, 38, 39, 40, 41, 42, 43, 44, 45]), (17, [0, 1, 2, 3, 4, 5])] [(18, o8, [0, 4])]) σ σ30 := by rw [e9]; exact (Fr.up fr (mF_C (List.mem_of_getElem? (i := 0) rfl) rfl))
            obtain ⟨σ31, h, ok, fr9, rc⟩ := e14_taken ok h
            have fr := fr.tr (fr9.sub (mF_sub rfl sub_nil rfl sud_nil))
            have rb := fun Q9 z => rb Q9 (rc _ z)
            exact ⟨σ31, h, ok, fr, fun Q9 hq => rb Q9 hq⟩
      have h := h.2 hc
      have rb := fun Q9 z => rb Q9 (br_f hc z)
      exact ⟨σ21, h, ok, fr, fun Q9 hq => rb Q9 hq⟩
  have h := h.2 hc
  have rb := fun Q9 z => rb Q9 (br_f hc z)
  obtain ⟨σ44, e9⟩ : ∃ s : St, s = up3 σ 18 o8 0 0 := ⟨_, rfl⟩
  have h := h σ44 e9
  have rb := fun Q9 z => rb Q9 (nm_n e9 z)
  have ok : okS σ44 := by rw [e9]; exact (ok_z ok (by decide) (Or.inl rfl))
  have fr : Fr (mF [56, 57, 58, 59, 60, 64, 66, 67, 68, 71, 72, 73] [(69, o8), (70, o8)] [(14, [12, 18, 23, 24, 25, 30, 32, 33, 34, 35, 36, 37, 38, 39, 40, 42, 43, 44, 45, 46, 47, 48, 49, 50, 51, 52, 53, 54, 55, 56, 57, 59, 60, 61, 62]), (15, [0, 1, 2, 3, 4, 5, 6, 7, 8, 9, 10, 11, 12, 13, 14, 15, 16, 17, 18, 19, 20, 21, 22, 23, 24, 26, 27, 28, 29, 30, 31, 34, 35, 36, 37, 38, 39, 40, 41, 42, 43, 44, 45]), (17, [0, 1, 2, 3, 4, 5])] [(18, o8, [0, 4])]) σ σ44 := by rw [e9]; exact (Fr.up fr (mF_D (List.mem_of_getElem? (i := 0) rfl) rfl))
  exact ⟨σ44, h, ok, fr, fun Q9 hq => rb Q9 hq⟩
set_option maxHeartbeats 4000000 in
theorem e14_fragment_L242 {σ : St} {x1 : Int32} {x2 : Int32} {x3 : Int32} {x4 : Int32} {x5 : Int32} {x6 : Int32} {o8 : Nat} {x10 : Int32} {Q : St → Prop} {K279 : Int32 → Prop} (ho8 : o8 < 4) (ok : okS σ) :
    ∀ (n : Nat) {x11 : Int32} {x12 : Int32}, w14_fragment_L242 σ x1 x2 x3 x4 x5 x6 o8 x10 Q K279 n x11 x12 → (∃ (x11' : Int32), K279 x11' ∧ ∀ (Q9 : St → Prop) (K9_279 : Int32 → Prop), K9_279 x11' → w14_fragment_L242 σ x1 x2 x3 x4 x5 x6 o8 x10 Q9 K9_279 n x11 x12) := by
  intro n
  induction n with
  | zero =>
    intro x11 x12 h
    exact False.elim h
  | succ n ih =>
    intro x11 x12 h
    have rb : ∀ (Q9 : St → Prop) (K9_279 : Int32 → Prop), w14_fragment_L242 σ x1 x2 x3 x4 x5 x6 o8 x10 Q9 K9_279 (n + 1) x11 x12 → w14_fragment_L242 σ x1 x2 x3 x4 x5 x6 o8 x10 Q9 K9_279 (n + 1) x11 x12 := fun _ _ z => z
    by_cases hc : 4096 ≤ x12
    · have h := h.1 hc
      have rb := fun Q9 K9_279 z => rb Q9 K9_279 (br_t hc z)
      exact ⟨x11, h, fun Q9 K9_279 hq => rb Q9 K9_279 hq⟩
    have h := h.2 hc
    have rb := fun Q9 K9_279 z => rb Q9 K9_279 (br_f hc z)
    by_cases hc : x11 = 0
    · have h := h.2 hc
      have rb := fun Q9 K9_279 z => rb Q9 K9_279 (br_u hc z)
      obtain ⟨hc, h⟩ := h
      have rb := fun Q9 K9_279 z => rb Q9 K9_279 (And.intro hc z)
      have h := h ((ok 70 o8 _).1 (tyk_a 70 1 (by decide) (by decide) _))
      have rb := fun Q9 K9_279 z => rb Q9 K9_279 (im_n z)
      by_cases hc : (σ 70 o8 x12.toNatClampNeg) = 0
      · have h := h.1 hc
        have rb := fun Q9 K9_279 z => rb Q9 K9_279 (br_t hc z)
        rcases ih h with ⟨x11, h, rc⟩
        · exact ⟨x11, h, fun Q9 K9_279 hq => rb Q9 K9_279 (rc Q9 K9_279 hq)⟩
      have h := h.2 hc
      have rb := fun Q9 K9_279 z => rb Q9 K9_279 (br_f hc z)
      rcases ih h with ⟨x11, h, rc⟩
      · exact ⟨x11, h, fun Q9 K9_279 hq => rb Q9 K9_279 (rc Q9 K9_279 hq)⟩
    have h := h.1 hc
    have rb := fun Q9 K9_279 z => rb Q9 K9_279 (br_v hc z)
    rcases ih h with ⟨x11, h, rc⟩
    · exact ⟨x11, h, fun Q9 K9_279 hq => rb Q9 K9_279 (rc Q9 K9_279 hq)⟩
set_option maxHeartbeats 4000000 in
theorem e14_fragment_J184 {σ : St} {x1 : Int32} {x2 : Int32} {x3 : Int32} {x4 : Int32} {x5 : Int32} {x6 : Int32} {o8 : Nat} {Q : St → Prop} (ho8 : o8 < 4) (ok : okS σ) (h : w14_fragment_J184 σ x1 x2 x3 x4 x5 x6 o8 Q) : (∃ (σ' : St), Q σ' ∧ okS σ' ∧ Fr (mF [56, 57, 58, 59, 60, 64, 66, 67, 68, 71, 72, 73] [(69, o8), (70, o8)] [(14, [12, 18, 23, 24, 25, 30, 32, 33, 34, 35, 36, 37, 38, 39, 40, 42, 43, 44, 45, 46, 47, 48, 49, 50, 51, 52, 53, 54, 55, 56, 57, 59, 60, 61, 62]), (15, [0, 1, 2, 3, 4, 5, 6, 7, 8, 9, 10, 11, 12, 13, 14, 15, 16, 17, 18, 19, 20, 21, 22, 23, 24, 26, 27, 28, 29, 30, 31, 34, 35, 36, 37, 38, 39, 40, 41, 42, 43, 44, 45]), (17, [0, 1, 2, 3, 4, 5])] [(18, o8, [0, 4])]) σ σ' ∧ ∀ (Q9 : St → Prop), Q9 σ' → w14_fragment_J184 σ x1 x2 x3 x4 x5 x6 o8 Q9) := by
  have fr : Fr (mF [56, 57, 58, 59, 60, 64, 66, 67, 68, 71, 72, 73] [(69, o8), (70, o8)] [(14, [12, 18, 23, 24, 25, 30, 32, 33, 34, 35, 36, 37, 38, 39, 40, 42, 43, 44, 45, 46, 47, 48, 49, 50, 51, 52, 53, 54, 55, 56, 57, 59, 60, 61, 62]), (15, [0, 1, 2, 3, 4, 5, 6, 7, 8, 9, 10, 11, 12, 13, 14, 15, 16, 17, 18, 19, 20, 21, 22, 23, 24, 26, 27, 28, 29, 30, 31, 34, 35, 36, 37, 38, 39, 40, 41, 42, 43, 44, 45]), (17, [0, 1, 2, 3, 4, 5])] [(18, o8, [0, 4])]) σ σ := Fr.rf
  have rb : ∀ (Q9 : St → Prop), w14_fragment_J184 σ x1 x2 x3 x4 x5 x6 o8 Q9 → w14_fragment_J184 σ x1 x2 x3 x4 x5 x6 o8 Q9 := fun _ z => z
  by_cases hc : (σ 18 o8 4) < 0
  · have h := h.1 hc
    have rb := fun Q9 z => rb Q9 (br_t hc z)
    by_cases hc : x6 = 0
    · have h := h.2 hc
      have rb := fun Q9 z => rb Q9 (br_u hc z)
      obtain ⟨n9, h⟩ := h
      rcases e14_fragment_L242 ho8 ok n9 h with ⟨x11_46, h, rc⟩
      · have rb := fun Q9 z => rb Q9 (Exists.intro n9 (rc _ _ z))
        obtain ⟨σ9, h, ok, fr9, rc⟩ := e14_fragment_J279 ho8 ok h
        exact ⟨σ9, h, ok, fr.tr (fr9.sub (mF_sub rfl (sub_c (Or.inr (List.mem_of_getElem? (i := 0) rfl)) (sub_c (Or.inr (List.mem_of_getElem? (i := 1) rfl)) sub_nil)) rfl (sud_c (Or.inr ⟨_, List.mem_of_getElem? (i := 0) rfl, rfl⟩) sud_nil))), fun Q9 hq => rb Q9 (rc Q9 hq)⟩
    have h := h.1 hc
    have rb := fun Q9 z => rb Q9 (br_v hc z)
    obtain ⟨σ9, h, ok, fr9, rc⟩ := e14_fragment_J279 ho8 ok h
    exact ⟨σ9, h, ok, fr.tr (fr9.sub (mF_sub rfl (sub_c (Or.inr (List.mem_of_getElem? (i := 0) rfl)) (sub_c (Or.inr (List.mem_of_getElem? (i := 1) rfl)) sub_nil)) rfl (sud_c (Or.inr ⟨_, List.mem_of_getElem? (i := 0) rfl, rfl⟩) sud_nil))), fun Q9 hq => rb Q9 (rc Q9 hq)⟩
  have h := h.2 hc
  have rb := fun Q9 z => rb Q9 (br_f hc z)
  by_cases hc : x6 = 0
  · have h := h.1 hc
    have rb := fun Q9 z => rb Q9 (br_t hc z)
    by_cases hc : (x3 + x5) = (σ 18 o8 4)
    · have h := h.1 hc
      have rb := fun Q9 z => rb Q9 (br_t hc z)
      by_cases hc : x6 = 0
      · have h := h.2 hc
        have rb := fun Q9 z => rb Q9 (br_u hc z)
        obtain ⟨n9, h⟩ := h
        rcases e14_fragment_L242 ho8 ok n9 h with ⟨x11_48, h, rc⟩
        · have rb := fun Q9 z => rb Q9 (Exists.intro n9 (rc _ _ z))
          obtain ⟨σ9, h, ok, fr9, rc⟩ := e14_fragment_J279 ho8 ok h
          exact ⟨σ9, h, ok, fr.tr (fr9.sub (mF_sub rfl (sub_c (Or.inr (List.mem_of_getElem? (i := 0) rfl)) (sub_c (Or.inr (List.mem_of_getElem? (i := 1) rfl)) sub_nil)) rfl (sud_c (Or.inr ⟨_, List.mem_of_getElem? (i := 0) rfl, rfl⟩) sud_nil))), fun Q9 hq => rb Q9 (rc Q9 hq)⟩
      have h := h.1 hc
      have rb := fun Q9 z => rb Q9 (br_v hc z)
      obtain ⟨σ9, h, ok, fr9, rc⟩ := e14_fragment_J279 ho8 ok h
      exact ⟨σ9, h, ok, fr.tr (fr9.sub (mF_sub rfl (sub_c (Or.inr (List.mem_of_getElem? (i := 0) rfl)) (sub_c (Or.inr (List.mem_of_getElem? (i := 1) rfl)) sub_nil)) rfl (sud_c (Or.inr ⟨_, List.mem_of_getElem? (i := 0) rfl, rfl⟩) sud_nil))), fun Q9 hq => rb Q9 (rc Q9 hq)⟩
    have h := h.2 hc
    have rb := fun Q9 z => rb Q9 (br_f hc z)
    by_cases hc : x6 = 0
    · have h := h.2 hc
      have rb := fun Q9 z => rb Q9 (br_u hc z)
      obtain ⟨n9, h⟩ := h
      rcases e14_fragment_L242 ho8 ok n9 h with ⟨x11_50, h, rc⟩
      · have rb := fun Q9 z => rb Q9 (Exists.intro n9 (rc _ _ z))
        obtain ⟨σ9, h, ok, fr9, rc⟩ := e14_fragment_J279 ho8 ok h
        exact ⟨σ9, h, ok, fr.tr (fr9.sub (mF_sub rfl (sub_c (Or.inr (List.mem_of_getElem? (i := 0) rfl)) (sub_c (Or.inr (List.mem_of_getElem? (i := 1) rfl)) sub_nil)) rfl (sud_c (Or.inr ⟨_, List.mem_of_getElem? (i := 0) rfl, rfl⟩) sud_nil))), fun Q9 hq => rb Q9 (rc Q9 hq)⟩
    have h := h.1 hc
    have rb := fun Q9 z => rb Q9 (br_v hc z)
    obtain ⟨σ9, h, ok, fr9, rc⟩ := e14_fragment_J279 ho8 ok h
    exact ⟨σ9, h, ok, fr.tr (fr9.sub (mF_sub rfl (sub_c (Or.inr (List.mem_of_getElem? (i := 0) rfl)) (sub_c (Or.inr (List.mem_of_getElem? (i := 1) rfl)) sub_nil)) rfl (sud_c (Or.inr ⟨_, List.mem_of_getElem? (i := 0) rfl, rfl⟩) sud_nil))), fun Q9 hq => rb Q9 (rc Q9 hq)⟩
  have h := h.2 hc
  have rb := fun Q9 z => rb Q9 (br_f hc z)
  by_cases hc : (x3 + x5) ≤ (σ 18 o8 4)
  · have h := h.1 hc
    have rb := fun Q9 z => rb Q9 (br_t hc z)
    by_cases hc : x6 = 0
    · have h := h.2 hc
      have rb := fun Q9 z => rb Q9 (br_u hc z)
      obtain ⟨n9, h⟩ := h
      rcases e14_fragment_L242 ho8 ok n9 h with ⟨x11_52, h, rc⟩
      · have rb := fun Q9 z => rb Q9 (Exists.intro n9 (rc _ _ z))
        obtain ⟨σ9, h, ok, fr9, rc⟩ := e14_fragment_J279 ho8 ok h
        exact ⟨σ9, h, ok, fr.tr (fr9.sub (mF_sub rfl (sub_c (Or.inr (List.mem_of_getElem? (i := 0) rfl)) (sub_c (Or.inr (List.mem_of_getElem? (i := 1) rfl)) sub_nil)) rfl (sud_c (Or.inr ⟨_, List.mem_of_getElem? (i := 0) rfl, rfl⟩) sud_nil))), fun Q9 hq => rb Q9 (rc Q9 hq)⟩
    have h := h.1 hc
    have rb := fun Q9 z => rb Q9 (br_v hc z)
    obtain ⟨σ9, h, ok, fr9, rc⟩ := e14_fragment_J279 ho8 ok h
    exact ⟨σ9, h, ok, fr.tr (fr9.sub (mF_sub rfl (sub_c (Or.inr (List.mem_of_getElem? (i := 0) rfl)) (sub_c (Or.inr (List.mem_of_getElem? (i := 1) rfl)) sub_nil)) rfl (sud_c (Or.inr ⟨_, List.mem_of_getElem? (i := 0) rfl, rfl⟩) sud_nil))), fun Q9 hq => rb Q9 (rc Q9 hq)⟩
  have h := h.2 hc
  have rb := fun Q9 z => rb Q9 (br_f hc z)
  by_cases hc : x6 = 0
  · have h := h.2 hc
    have rb := fun Q9 z => rb Q9 (br_u hc z)
    obtain ⟨n9, h⟩ := h
    rcases e14_fragment_L242 ho8 ok n9 h with ⟨x11_54, h, rc⟩
    · have rb := fun Q9 z => rb Q9 (Exists.intro n9 (rc _ _ z))
      obtain ⟨σ9, h, ok, fr9, rc⟩ := e14_fragment_J279 ho8 ok h
      exact ⟨σ9, h, ok, fr.tr (fr9.sub (mF_sub rfl (sub_c (Or.inr (List.mem_of_getElem? (i := 0) rfl)) (sub_c (Or.inr (List.mem_of_getElem? (i := 1) rfl)) sub_nil)) rfl (sud_c (Or.inr ⟨_, List.mem_of_getElem? (i := 0) rfl, rfl⟩) sud_nil))), fun Q9 hq => rb Q9 (rc Q9 hq)⟩
  have h := h.1 hc
  have rb := fun Q9 z => rb Q9 (br_v hc z)
  obtain ⟨σ9, h, ok, fr9, rc⟩ := e14_fragment_J279 ho8 ok h
  exact ⟨σ9, h, ok, fr.tr (fr9.sub (mF_sub rfl (sub_c (Or.inr (List.mem_of_getElem? (i := 0) rfl)) (sub_c (Or.inr (List.mem_of_getElem? (i := 1) rfl)) sub_nil)) rfl (sud_c (Or.inr ⟨_, List.mem_of_getElem? (i := 0) rfl, rfl⟩) sud_nil))), fun Q9 hq => rb Q9 (rc Q9 hq)⟩
set_option maxHeartbeats 4000000 in
theorem e14_fragment {σ : St} {x1 : Int32} {x2 : Int32} {x3 : Int32} {x4 : Int32} {x5 : Int32} {x6 : Int32} {Q : St → Prop} (ok : okS σ) (h : w14_fragment σ x1 x2 x3 x4 x5 x6 Q) : (∃ (σ' : St), Q σ' ∧ okS σ' ∧ Fr (mF [56, 57, 58, 59, 60, 64, 66, 67, 68, 69, 70, 71, 72, 73] [] [(14, [12, 18, 23, 24, 25, 30, 32, 33, 34, 35, 36, 37, 38, 39, 40, 42, 43, 44, 45, 46, 47, 48, 49, 50, 51, 52, 53, 54, 55, 56, 57, 59, 60, 61, 62]), (15, [0, 1, 2, 3, 4, 5, 6, 7, 8, 9, 10, 11, 12, 13, 14, 15, 16, 17, 18, 19, 20, 21, 22, 23, 24, 26, 27, 28, 29, 30, 31, 34, 35, 36, 37, 38, 39, 40, 41, 42, 43, 44, 45]), (17, [0, 1, 2, 3, 4, 5]), (18, [0, 1, 2, 3, 4, 5, 6])] []) σ σ' ∧ ∀ (Q9 : St → Prop), Q9 σ' → w14_fragment σ x1 x2 x3 x4 x5 x6 Q9) := by
  have fr : Fr (mF [56, 57, 58, 59, 60, 64, 66, 67, 68, 69, 70, 71, 72, 73] [] [(14, [12, 18, 23, 24, 25, 30, 32, 33, 34, 35, 36, 37, 38, 39, 40, 42, 43, 44, 45, 46, 47, 48, 49, 50, 51, 52, 53, 54, 55, 56, 57, 59, 60, 61, 62]), (15, [0, 1, 2, 3, 4, 5, 6, 7, 8, 9, 10, 11, 12, 13, 14, 15, 16, 17, 18, 19, 20, 21, 22, 23, 24, 26, 27, 28, 29, 30, 31, 34, 35, 36, 37, 38, 39, 40, 41, 42, 43, 44, 45]), (17, [0, 1, 2, 3, 4, 5]), (18, [0, 1, 2, 3, 4, 5, 6])] []) σ σ := Fr.rf
  have rb : ∀ (Q9 : St → Prop), w14_fragment σ x1 x2 x3 x4 x5 x6 Q9 → w14_fragment σ x1 x2 x3 x4 x5 x6 Q9 := fun _ z => z
  obtain ⟨r1, h, rc⟩ := e14_trayHalf ok h
  have rb := fun Q9 z => rb Q9 (rc _ z)
  obtain ⟨n9, h⟩ := h
  rcases e14_fragment_L17 ok n9 h with ⟨p8_4, p9_4, h, rc⟩
  · have rb := fun Q9 z => rb Q9 (Exists.intro n9 (rc _ _ z))
    rcases opt_or p8_4 with hp | ⟨i5, hp⟩
    · have h := h.1 hp
      have rb := fun Q9 z => rb Q9 (po_n hp z)
      rcases opt_or p9_4 with hp | ⟨i6, hp⟩
      · have h := h.1 hp
        have rb := fun Q9 z => rb Q9 (po_n hp z)
        exact ⟨σ, h, ok, fr, fun Q9 hq => rb Q9 hq⟩
      obtain ⟨hq6, h⟩ := h.2 i6 hp
      have rb := fun Q9 z => rb Q9 (po_s hp (And.intro hq6 z))
      obtain ⟨σ7, e9⟩ : ∃ s : St, s = up3 σ 18 i6 0 1 := ⟨_, rfl⟩
      have h := h σ7 e9
      have rb := fun Q9 z => rb Q9 (nm_n e9 z)
      have ok : okS σ7 := by rw [e9]; exact (ok_z ok (by decide) (Or.inr rfl))
      have fr : Fr (mF [56, 57, 58, 59, 60, 64, 66, 67, 68, 69, 70, 71, 72, 73] [] [(14, [12, 18, 23, 24, 25, 30, 32, 33, 34, 35, 36, 37, 38, 39, 40, 42, 43, 44, 45, 46, 47, 48, 49, 50, 51, 52, 53, 54, 55, 56, 57, 59, 60, 61, 62]), (15, [0, 1, 2, 3, 4, 5, 6, 7, 8, 9, 10, 11, 12, 13, 14, 15, 16, 17, 18, 19, 20, 21, 22, 23, 24, 26, 27, 28, 29, 30, 31, 34, 35, 36, 37, 38, 39, 40, 41, 42, 43, 44, 45]), (17, [0, 1, 2, 3, 4, 5]), (18, [0, 1, 2, 3, 4, 5, 6])] []) σ σ7 := by rw [e9]; exact (Fr.up fr (mF_C (List.mem_of_getElem? (i := 3) rfl) rfl))
      obtain ⟨σ8, e9⟩ : ∃ s : St, s = up3 σ7 18 i6 1 x1 := ⟨_, rfl⟩
      have h := h σ8 e9
      have rb := fun Q9 z => rb Q9 (nm_n e9 z)
      have ok : okS σ8 := by rw [e9]; exact (ok_n ok (by decide))
      have fr : Fr (mF [56, 57, 58, 59, 60, 64, 66, 67, 68, 69, 70, 71, 72, 73] [] [(14, [12, 18, 23, 24, 25, 30, 32, 33, 34, 35, 36, 37, 38, 39, 40, 42, 43, 44, 45, 46, 47, 48, 49, 50, 51, 52, 53, 54, 55, 56, 57, 59, 60, 61, 62]), (15, [0, 1, 2, 3, 4, 5, 6, 7, 8, 9, 10, 11, 12, 13, 14, 15, 16, 17, 18, 19, 20, 21, 22, 23, 24, 26, 27, 28, 29, 30, 31, 34, 35, 36, 37, 38, 39, 40, 41, 42, 43, 44, 45]), (17, [0, 1, 2, 3, 4, 5]), (18, [0, 1, 2, 3, 4, 5, 6])] []) σ σ8 := by rw [e9]; exact (Fr.up fr (mF_C (List.mem_of_getElem? (i := 3) rfl) rfl))
      obtain ⟨σ9, e9⟩ : ∃ s : St, s = up3 σ8 18 i6 2 r1 := ⟨_, rfl⟩
      have h := h σ9 e9
      have rb := fun Q9 z => rb Q9 (nm_n e9 z)
      have ok : okS σ9 := by rw [e9]; exact (ok_n ok (by decide))
      have fr : Fr (mF [56, 57, 58, 59, 60, 64, 66, 67, 68, 69, 70, 71, 72, 73] [] [(14, [12, 18, 23, 24, 25, 30, 32, 33, 34, 35, 36, 37, 38, 39, 40, 42, 43, 44, 45, 46, 47, 48, 49, 50, 51, 52, 53, 54, 55, 56, 57, 59, 60, 61, 62]), (15, [0, 1, 2, 3, 4, 5, 6, 7, 8, 9, 10, 11, 12, 13, 14, 15, 16, 17, 18, 19, 20, 21, 22, 23, 24, 26, 27, 28, 29, 30, 31, 34, 35, 36, 37, 38, 39, 40, 41, 42, 43, 44, 45]), (17, [0, 1, 2, 3, 4, 5]), (18, [0, 1, 2, 3, 4, 5, 6])] []) σ σ9 := by rw [e9]; exact (Fr.up fr (mF_C (List.mem_of_getElem? (i := 3) rfl) rfl))
      obtain ⟨σ10, e9⟩ : ∃ s : St, s = up3 σ9 18 i6 3 x2 := ⟨_, rfl⟩
      have h := h σ10 e9
      have rb := fun Q9 z => rb Q9 (nm_n e9 z)
      have ok : okS σ10 := by rw [e9]; exact (ok_n ok (by decide))
      have fr : Fr (mF [56, 57, 58, 59, 60, 64, 66, 67, 68, 69, 70, 71, 72, 73] [] [(14, [12, 18, 23, 24, 25, 30, 32, 33, 34, 35, 36, 37, 38, 39, 40, 42, 43, 44, 45, 46, 47, 48, 49, 50, 51, 52, 53, 54, 55, 56, 57, 59, 60, 61, 62]), (15, [0, 1, 2, 3, 4, 5, 6, 7, 8, 9, 10, 11, 12, 13, 14, 15, 16, 17, 18, 19, 20, 21, 22, 23, 24, 26, 27, 28, 29, 30, 31, 34, 35, 36, 37, 38, 39, 40, 41, 42, 43, 44, 45]), (17, [0, 1, 2, 3, 4, 5]), (18, [0, 1, 2, 3, 4, 5, 6])] []) σ σ10 := by rw [e9]; exact (Fr.up fr (mF_C (List.mem_of_getElem? (i := 3) rfl) rfl))
      obtain ⟨σ11, e9⟩ : ∃ s : St, s = up3 σ10 18 i6 4 (-1) := ⟨_, rfl⟩
      have h := h σ11 e9
      have rb := fun Q9 z => rb Q9 (nm_n e9 z)
      have ok : okS σ11 := by rw [e9]; exact (ok_n ok (by decide))
      have fr : Fr (mF [56, 57, 58, 59, 60, 64, 66, 67, 68, 69, 70, 71, 72, 73] [] [(14, [12, 18, 23, 24, 25, 30, 32, 33, 34, 35, 36, 37, 38, 39, 40, 42, 43, 44, 45, 46, 47, 48, 49, 50, 51, 52, 53, 54, 55, 56, 57, 59, 60, 61, 62]), (15, [0, 1, 2, 3, 4, 5, 6, 7, 8, 9, 10, 11, 12, 13, 14, 15, 16, 17, 18, 19, 20, 21, 22, 23, 24, 26, 27, 28, 29, 30, 31, 34, 35, 36, 37, 38, 39, 40, 41, 42, 43, 44, 45]), (17, [0, 1, 2, 3, 4, 5]), (18, [0, 1, 2, 3, 4, 5, 6])] []) σ σ11 := by rw [e9]; exact (Fr.up fr (mF_C (List.mem_of_getElem? (i := 3) rfl) rfl))
      obtain ⟨σ12, e9⟩ : ∃ s : St, s = up3 σ11 18 i6 5 (σ11 14 0 10) := ⟨_, rfl⟩
      have h := h σ12 e9
      have rb := fun Q9 z => rb Q9 (nm_n e9 z)
      have ok : okS σ12 := by rw [e9]; exact (ok_n ok (by decide))
      have fr : Fr (mF [56, 57, 58, 59, 60, 64, 66, 67, 68, 69, 70, 71, 72, 73] [] [(14, [12, 18, 23, 24, 25, 30, 32, 33, 34, 35, 36, 37, 38, 39, 40, 42, 43, 44, 45, 46, 47, 48, 49, 50, 51, 52, 53, 54, 55, 56, 57, 59, 60, 61, 62]), (15, [0, 1, 2, 3, 4, 5, 6, 7, 8, 9, 10, 11, 12, 13, 14, 15, 16, 17, 18, 19, 20, 21, 22, 23, 24, 26, 27, 28, 29, 30, 31, 34, 35, 36, 37, 38, 39, 40, 41, 42, 43, 44, 45]), (17, [0, 1, 2, 3, 4, 5]), (18, [0, 1, 2, 3, 4, 5, 6])] []) σ σ12 := by rw [e9]; exact (Fr.up fr (mF_C (List.mem_of_getElem? (i := 3) rfl) rfl))
      obtain ⟨σ13, e9⟩ : ∃ s : St, s = up3 σ12 14 0 25 ((σ12 14 0 25) + 1) := ⟨_, rfl⟩
      have h := h σ13 e9
      have rb := fun Q9 z => rb Q9 (nm_n e9 z)
      have ok : okS σ13 := by rw [e9]; exact (ok_n ok (by decide))
      have fr : Fr (mF [56, 57, 58, 59, 60, 64, 66, 67, 68, 69, 70, 71, 72, 73] [] [(14, [12, 18, 23, 24, 25, 30, 32, 33, 34, 35, 36, 37, 38, 39, 40, 42, 43, 44, 45, 46, 47, 48, 49, 50, 51, 52, 53, 54, 55, 56, 57, 59, 60, 61, 62]), (15, [0, 1, 2, 3, 4, 5, 6, 7, 8, 9, 10, 11, 12, 13, 14, 15, 16, 17, 18, 19, 20, 21, 22, 23, 24, 26, 27, 28, 29, 30, 31, 34, 35, 36, 37, 38, 39, 40, 41, 42, 43, 44, 45]), (17, [0, 1, 2, 3, 4, 5]), (18, [0, 1, 2, 3, 4, 5, 6])] []) σ σ13 := by rw [e9]; exact (Fr.up fr (mF_C (List.mem_of_getElem? (i := 0) rfl) rfl))
      obtain ⟨σ14, e9⟩ : ∃ s : St, s = up3 σ13 18 i6 6 (σ13 14 0 25) := ⟨_, rfl⟩
      have h := h σ14 e9
      have rb := fun Q9 z => rb Q9 (nm_n e9 z)
      have ok : okS σ14 := by rw [e9]; exact (ok_n ok (by decide))
      have fr : Fr (mF [56, 57, 58, 59, 60, 64, 66, 67, 68, 69, 70, 71, 72, 73] [] [(14, [12, 18, 23, 24, 25, 30, 32, 33, 34, 35, 36, 37, 38, 39, 40, 42, 43, 44, 45, 46, 47, 48, 49, 50, 51, 52, 53, 54, 55, 56, 57, 59, 60, 61, 62]), (15, [0, 1, 2, 3, 4, 5, 6, 7, 8, 9, 10, 11, 12, 13, 14, 15, 16, 17, 18, 19, 20, 21, 22, 23, 24, 26, 27, 28, 29, 30, 31, 34, 35, 36, 37, 38, 39, 40, 41, 42, 43, 44, 45]), (17, [0, 1, 2, 3, 4, 5]), (18, [0, 1, 2, 3, 4, 5, 6])] []) σ σ14 := by rw [e9]; exact (Fr.up fr (mF_C (List.mem_of_getElem? (i := 3) rfl) rfl))
      obtain ⟨n9, h⟩ := h
      rcases e14_fragment_L161 hq6 n9 ok h with ⟨σ17, h, ok, fr9, rc⟩
      · have rb := fun Q9 z => rb Q9 (Exists.intro n9 (rc _ _ z))
        have fr := fr.tr (fr9.sub (mF_sub rfl (sub_c (Or.inl rfl) sub_nil) rfl sud_nil))
        obtain ⟨σ9, h, ok, fr9, rc⟩ := e14_fragment_J184 hq6 ok h
        exact ⟨σ9, h, ok, fr.tr (fr9.sub (mF_sub rfl (sub_c (Or.inl rfl) (sub_c (Or.inl rfl) sub_nil)) rfl (sud_c (Or.inl ⟨_, List.mem_of_getElem? (i := 3) rfl, rfl⟩) sud_nil))), fun Q9 hq => rb Q9 (rc Q9 hq)⟩
    obtain ⟨hq5, h⟩ := h.2 i5 hp
    have rb := fun Q9 z => rb Q9 (po_s hp (And.intro hq5 z))
    obtain ⟨σ9, h, ok, fr9, rc⟩ := e14_fragment_J184 hq5 ok h
    exact ⟨σ9, h, ok, fr.tr (fr9.sub (mF_sub rfl (sub_c (Or.inl rfl) (sub_c (Or.inl rfl) sub_nil)) rfl (sud_c (Or.inl ⟨_, List.mem_of_getElem? (i := 3) rfl, rfl⟩) sud_nil))), fun Q9 hq => rb Q9 (rc Q9 hq)⟩
/-! WebHost$Connection.arrive(LWebHost$Segment;)V -/
set_option maxHeartbeats 4000000 in
theorem e11_arrive {σ : St} {o0 : Nat} {Q : St → Prop} (ho0 : o0 < 16) (ok : okS σ) (h : w11_arrive σ o0 Q) : (∃ (σ' : St), Q σ' ∧ okS σ' ∧ Fr (mF [23, 25, 26, 32, 35, 36, 40, 41] [(42, o0), (43, o0), (44, o0), (90, (o0 + 1))] [(2, [3]), (3, [9]), (4, [0, 1, 2, 4]), (5, [2]), (8, [3, 4, 5, 7, 8]), (9, [2, 3, 4, 5, 6, 7, 8, 9, 10, 11, 12, 13, 14, 15, 16, 18])] [(11, o0, [2, 6, 7, 8, 9, 10, 11, 12, 14, 15, 16, 17, 18, 19, 21, 22, 23, 24, 26, 27, 28, 29, 30, 31, 32, 33, 34, 35, 36, 37, 38, 39]), (12, o0, [2, 3]), (13, o0, [1])]) σ σ' ∧ ∀ (Q9 : St → Prop), Q9 σ' → w11_arrive σ o0 Q9) := by
  have fr : Fr (mF [23, 25, 26, 32, 35, 36, 40, 41] [(42, o0), (43, o0), (44, o0), (90, (o0 + 1))] [(2, [3]), (3, [9]), (4, [0, 1, 2, 4]), (5, [2]), (8, [3, 4, 5, 7, 8]), (9, [2, 3, 4, 5, 6, 7, 8, 9, 10, 11, 12, 13, 14, 15, 16, 18])] [(11, o0, [2, 6, 7, 8, 9, 10, 11, 12, 14, 15, 16, 17, 18, 19, 21, 22, 23, 24, 26, 27, 28, 29, 30, 31, 32, 33, 34, 35, 36, 37, 38, 39]), (12, o0, [2, 3]), (13, o0, [1])]) σ σ := Fr.rf
  have rb : ∀ (Q9 : St → Prop), w11_arrive σ o0 Q9 → w11_arrive σ o0 Q9 := fun _ z => z
  obtain ⟨r1, h, rc⟩ := e11_isAcceptable ho0 ok h
  have rb := fun Q9 z => rb Q9 (rc _ z)
  by_cases hc : r1 = 0
  · have h := h.2 hc
    have rb := fun Q9 z => rb Q9 (br_u hc z)
    obtain ⟨r20, h, rc⟩ := e10_has ok h
    have rb := fun Q9 z => rb Q9 (rc _ z)
    by_cases hc : r20 = 0
    · have h := h.1 hc
      have rb := fun Q9 z => rb Q9 (br_t hc z)
      by_cases hc : (σ 11 o0 2) = 6
      · have h := h.2 hc
        have rb := fun Q9 z => rb Q9 (br_u hc z)
        obtain ⟨r22, h, rc⟩ := e10_has ok h
        have rb := fun Q9 z => rb Q9 (rc _ z)
        by_cases hc : r22 = 0
        · have h := h.1 hc
          have rb := fun Q9 z => rb Q9 (br_t hc z)
          obtain ⟨σ23, h, ok, fr9, rc⟩ := e11_acknowledge ho0 ok h
          have fr := fr.tr (fr9.sub (mF_sub rfl sub_nil rfl (sud_c (Or.inr ⟨_, List.mem_of_getElem? (i := 0) rfl, rfl⟩) sud_nil)))
          have rb := fun Q9 z => rb Q9 (rc _ z)
          exact ⟨σ23, h, ok, fr, fun Q9 hq => rb Q9 hq⟩
        have h := h.2 hc
        have rb := fun Q9 z => rb Q9 (br_f hc z)
        obtain ⟨σ24, h, ok, fr9, rc⟩ := e11_live ho0 ok h
        have fr := fr.tr (fr9.sub (mF_sub rfl sub_nil rfl (sud_c (Or.inr ⟨_, List.mem_of_getElem? (i := 0) rfl, rfl⟩) sud_nil)))
        have rb := fun Q9 z => rb Q9 (rc _ z)
        obtain ⟨σ25, h, ok, fr9, rc⟩ := e11_acknowledge ho0 ok h
        have fr := fr.tr (fr9.sub (mF_sub rfl sub_nil rfl (sud_c (Or.inr ⟨_, List.mem_of_getElem? (i := 0) rfl, rfl⟩) sud_nil)))
        have rb := fun Q9 z => rb Q9 (rc _ z)
        exact ⟨σ25, h, ok, fr, fun Q9 hq => rb Q9 hq⟩
      have h := h.1 hc
      have rb := fun Q9 z => rb Q9 (br_v hc z)
      obtain ⟨σ21, h, ok, fr9, rc⟩ := e11_acknowledge ho0 ok h
      have fr := fr.tr (fr9.sub (mF_sub rfl sub_nil rfl (sud_c (Or.inr ⟨_, List.mem_of_getElem? (i := 0) rfl, rfl⟩) sud_nil)))
      have rb := fun Q9 z => rb Q9 (rc _ z)
      exact ⟨σ21, h, ok, fr, fun Q9 hq => rb Q9 hq⟩
    have h := h.2 hc
    have rb := fun Q9 z => rb Q9 (br_f hc z)
    exact ⟨σ, h, ok, fr, fun Q9 hq => rb Q9 hq⟩
  have h := h.1 hc
  have rb := fun Q9 z => rb Q9 (br_v hc z)
  obtain ⟨r2, h, rc⟩ := e10_has ok h
  have rb := fun Q9 z => rb Q9 (rc _ z)
  by_cases hc : r2 = 0
  · have h := h.1 hc
    have rb := fun Q9 z => rb Q9 (br_t hc z)
    obtain ⟨r3, h, rc⟩ := e10_has ok h
    have rb := fun Q9 z => rb Q9 (rc _ z)
    by_cases hc : r3 = 0
    · have h := h.1 hc
      have rb := fun Q9 z => rb Q9 (br_t hc z)
      obtain ⟨r4, h, rc⟩ := e10_has ok h
      have rb := fun Q9 z => rb Q9 (rc _ z)
      by_cases hc : r4 = 0
      · have h := h.1 hc
        have rb := fun Q9 z => rb Q9 (br_t hc z)
        exact ⟨σ, h, ok, fr, fun Q9 hq => rb Q9 hq⟩
      have h := h.2 hc
      have rb := fun Q9 z => rb Q9 (br_f hc z)
      obtain ⟨r5, σ5, h, ok, fr9, rc⟩ := e11_takeAck ho0 ok h
      have fr := fr.tr (fr9.sub (mF_sub rfl sub_nil rfl (sud_c (Or.inr ⟨_, List.mem_of_getElem? (i := 0) rfl, rfl⟩) sud_nil)))
      have rb := fun Q9 z => rb Q9 (rc _ z)
      by_cases hc : r5 = 0
      · have h := h.1 hc
        have rb := fun Q9 z => rb Q9 (br_t hc z)
        exact ⟨σ5, h, ok, fr, fun Q9 hq => rb Q9 hq⟩
      have h := h.2 hc
      have rb := fun Q9 z => rb Q9 (br_f hc z)
      by_cases hc : (σ5 11 o0 2) = 0
      · have h := h.2 hc
        have rb := fun Q9 z => rb Q9 (br_u hc z)
        exact ⟨σ5, h, ok, fr, fun Q9 hq => rb Q9 hq⟩
      have h := h.1 hc
      have rb := fun Q9 z => rb Q9 (br_v hc z)
      by_cases hc : (σ5 11 o0 2) = 2
      · have h := h.1 hc
        have rb := fun Q9 z => rb Q9 (br_t hc z)
        obtain ⟨σ6, h, ok, fr9, rc⟩ := e11_takeData ho0 ok h
        have fr := fr.tr (fr9.sub (mF_sub rfl (sub_c (Or.inr (List.mem_of_getElem? (i := 0) rfl)) (sub_c (Or.inr (List.mem_of_getElem? (i := 1) rfl)) sub_nil)) rfl (sud_c (Or.inr ⟨_, List.mem_of_getElem? (i := 0) rfl, rfl⟩) (sud_c (Or.inr ⟨_, List.mem_of_getElem? (i := 1) rfl, rfl⟩) sud_nil))))
        have rb := fun Q9 z => rb Q9 (rc _ z)
        obtain ⟨σ7, h, ok, fr9, rc⟩ := e11_goOn ho0 ok h
        have fr := fr.tr (fr9.sub (mF_sub rfl (sub_c (Or.inr (List.mem_of_getElem? (i := 0) rfl)) (sub_c (Or.inr (List.mem_of_getElem? (i := 1) rfl)) (sub_c (Or.inr (List.mem_of_getElem? (i := 2) rfl)) (sub_c (Or.inr (List.mem_of_getElem? (i := 3) rfl)) sub_nil)))) rfl (sud_c (Or.inr ⟨_, List.mem_of_getElem? (i := 0) rfl, rfl⟩) (sud_c (Or.inr ⟨_, List.mem_of_getElem? (i := 1) rfl, rfl⟩) (sud_c (Or.inr ⟨_, List.mem_of_getElem? (i := 2) rfl, rfl⟩) sud_nil)))))
        have rb := fun Q9 z => rb Q9 (rc _ z)
        exact ⟨σ7, h, ok, fr, fun Q9 hq => rb Q9 hq⟩
      have h := h.2 hc
      have rb := fun Q9 z => rb Q9 (br_f hc z)
      by_cases hc : (σ5 11 o0 2) = 3
      · have h := h.1 hc
        have rb := fun Q9 z => rb Q9 (br_t hc z)
        obtain ⟨σ8, h, ok, fr9, rc⟩ := e11_takeData ho0 ok h
        have fr := fr.tr (fr9.sub (mF_sub rfl (sub_c (Or.inr (List.mem_of_getElem? (i := 0) rfl)) (sub_c (Or.inr (List.mem_of_getElem? (i := 1) rfl)) sub_nil)) rfl (sud_c (Or.inr ⟨_, List.mem_of_getElem? (i := 0) rfl, rfl⟩) (sud_c (Or.inr ⟨_, List.mem_of_getElem? (i := 1) rfl, rfl⟩) sud_nil))))
        have rb := fun Q9 z => rb Q9 (rc _ z)
        obtain ⟨σ9, h, ok, fr9, rc⟩ := e11_goOn ho0 ok h
        have fr := fr.tr (fr9.sub (mF_sub rfl (sub_c (Or.inr (List.mem_of_getElem? (i := 0) rfl)) (sub_c (Or.inr (List.mem_of_getElem? (i := 1) rfl)) (sub_c (Or.inr (List.mem_of_getElem? (i := 2) rfl)) (sub_c (Or.inr (List.mem_of_getElem? (i := 3) rfl)) sub_nil)))) rfl (sud_c (Or.inr ⟨_, List.mem_of_getElem? (i := 0) rfl, rfl⟩) (sud_c (Or.inr ⟨_, List.mem_of_getElem? (i := 1) rfl, rfl⟩) (sud_c (Or.inr ⟨_, List.mem_of_getElem? (i := 2) rfl, rfl⟩) sud_nil)))))
        have rb := fun Q9 z => rb Q9 (rc _ z)
        exact ⟨σ9, h, ok, fr, fun Q9 hq => rb Q9 hq⟩
      have h := h.2 hc
      have rb := fun Q9 z => rb Q9 (br_f hc z)
      by_cases hc : (σ5 11 o0 2) = 4
      · have h := h.2 hc
        have rb := fun Q9 z => rb Q9 (br_u hc z)
        obtain ⟨σ15, h, ok, fr9, rc⟩ := e11_takeData ho0 ok h
        have fr := fr.tr (fr9.sub (mF_sub rfl (sub_c (Or.inr (List.mem_of_getElem? (i := 0) rfl)) (sub_c (Or.inr (List.mem_of_getElem? (i := 1) rfl)) sub_nil)) rfl (sud_c (Or.inr ⟨_, List.mem_of_getElem? (i := 0) rfl, rfl⟩) (sud_c (Or.inr ⟨_, List.mem_of_getElem? (i := 1) rfl, rfl⟩) sud_nil))))
        have rb := fun Q9 z => rb Q9 (rc _ z)
        obtain ⟨σ16, h, ok, fr9, rc⟩ := e11_goOn ho0 ok h
        have fr := fr.tr (fr9.sub (mF_sub rfl (sub_c (Or.inr (List.mem_of_getElem? (i := 0) rfl)) (sub_c (Or.inr (List.mem_of_getElem? (i := 1) rfl)) (sub_c (Or.inr (List.mem_of_getElem? (i := 2) rfl)) (sub_c (Or.inr (List.mem_of_getElem? (i := 3) rfl)) sub_nil)))) rfl (sud_c (Or.inr ⟨_, List.mem_of_getElem? (i := 0) rfl, rfl⟩) (sud_c (Or.inr ⟨_, List.mem_of_getElem? (i := 1) rfl, rfl⟩) (sud_c (Or.inr ⟨_, List.mem_of_getElem? (i := 2) rfl, rfl⟩) sud_nil)))))
        have rb := fun Q9 z => rb Q9 (rc _ z)
        exact ⟨σ16, h, ok, fr, fun Q9 hq => rb Q9 hq⟩
      have h := h.1 hc
      have rb := fun Q9 z => rb Q9 (br_v hc z)
      by_cases hc : (σ5 11 o0 2) = 6
      · have h := h.2 hc
        have rb := fun Q9 z => rb Q9 (br_u hc z)
        obtain ⟨r11, h, rc⟩ := e10_has ok h
        have rb := fun Q9 z => rb Q9 (rc _ z)
        by_cases hc : r11 = 0
        · have h := h.1 hc
          have rb := fun Q9 z => rb Q9 (br_t hc z)
          obtain ⟨σ12, h, ok, fr9, rc⟩ := e11_goOn ho0 ok h
          have fr := fr.tr (fr9.sub (mF_sub rfl (sub_c (Or.inr (List.mem_of_getElem? (i := 0) rfl)) (sub_c (Or.inr (List.mem_of_getElem? (i := 1) rfl)) (sub_c (Or.inr (List.mem_of_getElem? (i := 2) rfl)) (sub_c (Or.inr (List.mem_of_getElem? (i := 3) rfl)) sub_nil)))) rfl (sud_c (Or.inr ⟨_, List.mem_of_getElem? (i := 0) rfl, rfl⟩) (sud_c (Or.inr ⟨_, List.mem_of_getElem? (i := 1) rfl, rfl⟩) (sud_c (Or.inr ⟨_, List.mem_of_getElem? (i := 2) rfl, rfl⟩) sud_nil)))))
          have rb := fun Q9 z => rb Q9 (rc _ z)
          exact ⟨σ12, h, ok, fr, fun Q9 hq => rb Q9 hq⟩
        have h := h.2 hc
        have rb := fun Q9 z => rb Q9 (br_f hc z)
        obtain ⟨σ13, h, ok, fr9, rc⟩ := e11_live ho0 ok h
        have fr := fr.tr (fr9.sub (mF_sub rfl sub_nil rfl (sud_c (Or.inr ⟨_, List.mem_of_getElem? (i := 0) rfl, rfl⟩) sud_nil)))
        have rb := fun Q9 z => rb Q9 (rc _ z)
        obtain ⟨σ14, h, ok, fr9, rc⟩ := e11_goOn ho0 ok h
        have fr := fr.tr (fr9.sub (mF_sub rfl (sub_c (Or.inr (List.mem_of_getElem? (i := 0) rfl)) (sub_c (Or.inr (List.mem_of_getElem? (i := 1) rfl)) (sub_c (Or.inr (List.mem_of_getElem? (i := 2) rfl)) (sub_c (Or.inr (List.mem_of_getElem? (i := 3) rfl)) sub_nil)))) rfl (sud_c (Or.inr ⟨_, List.mem_of_getElem? (i := 0) rfl, rfl⟩) (sud_c (Or.inr ⟨_, List.mem_of_getElem? (i := 1) rfl, rfl⟩) (sud_c (Or.inr ⟨_, List.mem_of_getElem? (i := 2) rfl, rfl⟩) sud_nil)))))
        have rb := fun Q9 z => rb Q9 (rc _ z)
        exact ⟨σ14, h, ok, fr, fun Q9 hq => rb Q9 hq⟩
      have h := h.1 hc
      have rb := fun Q9 z => rb Q9 (br_v hc z)
      obtain ⟨σ10, h, ok, fr9, rc⟩ := e11_goOn ho0 ok h
      have fr := fr.tr (fr9.sub (mF_sub rfl (sub_c (Or.inr (List.mem_of_getElem? (i := 0) rfl)) (sub_c (Or.inr (List.mem_of_getElem? (i := 1) rfl)) (sub_c (Or.inr (List.mem_of_getElem? (i := 2) rfl)) (sub_c (Or.inr (List.mem_of_getElem? (i := 3) rfl)) sub_nil)))) rfl (sud_c (Or.inr ⟨_, List.mem_of_getElem? (i := 0) rfl, rfl⟩) (sud_c (Or.inr ⟨_, List.mem_of_getElem? (i := 1) rfl, rfl⟩) (sud_c (Or.inr ⟨_, List.mem_of_getElem? (i := 2) rfl, rfl⟩) sud_nil)))))
      have rb := fun Q9 z => rb Q9 (rc _ z)
      exact ⟨σ10, h, ok, fr, fun Q9 hq => rb Q9 hq⟩
    have h := h.2 hc
    have rb := fun Q9 z => rb Q9 (br_f hc z)
    obtain ⟨σ17, h, ok, fr9, rc⟩ := e8_reset ok h
    have fr := fr.tr (fr9.sub (mF_sub rfl sub_nil rfl sud_nil))
    have rb := fun Q9 z => rb Q9 (rc _ z)
    obtain ⟨σ18, h, ok, fr9, rc⟩ := e11_gone ho0 ok h
    have fr := fr.tr (fr9.sub (mF_sub rfl sub_nil rfl (sud_c (Or.inr ⟨_, List.mem_of_getElem? (i := 0) rfl, rfl⟩) sud_nil)))
    have rb := fun Q9 z => rb Q9 (rc _ z)
    exact ⟨σ18, h, ok, fr, fun Q9 hq => rb Q9 hq⟩
  have h := h.2 hc
  have rb := fun Q9 z => rb Q9 (br_f hc z)
  obtain ⟨σ19, h, ok, fr9, rc⟩ := e11_gone ho0 ok h
  have fr := fr.tr (fr9.sub (mF_sub rfl sub_nil rfl (sud_c (Or.inr ⟨_, List.mem_of_getElem? (i := 0) rfl, rfl⟩) sud_nil)))
  have rb := fun Q9 z => rb Q9 (rc _ z)
  exact ⟨σ19, h, ok, fr, fun Q9 hq => rb Q9 hq⟩
/-! WebHostModel.ipIn()V -/
set_option maxHeartbeats 4000000 in
theorem e14_ipIn_J274 {σ : St} {x2 : Int32} {x4 : Int32} {x5 : Int32} {x6 : Int32} {x7 : Int32} {x8 : Int32} {Q : St → Prop} (ok : okS σ) (h : w14_ipIn_J274 σ x2 x4 x5 x6 x7 x8 Q) : (∃ (σ' : St), Q σ' ∧ okS σ' ∧ Fr (mF [56, 57, 58, 59, 60, 64, 66, 67, 68, 69, 70, 71, 72, 73] [] [(14, [12, 18, 23, 24, 25, 30, 32, 33, 34, 35, 36, 37, 38, 39, 40, 42, 43, 44, 45, 46, 47, 48, 49, 50, 51, 52, 53, 54, 55, 56, 57, 59, 60, 61, 62]), (15, [0, 1, 2, 3, 4, 5, 6, 7, 8, 9, 10, 11, 12, 13, 14, 15, 16, 17, 18, 19, 20, 21, 22, 23, 24, 26, 27, 28, 29, 30, 31, 34, 35, 36, 37, 38, 39, 40, 41, 42, 43, 44, 45]), (17, [0, 1, 2, 3, 4, 5]), (18, [0, 1, 2, 3, 4, 5, 6])] []) σ σ' ∧ ∀ (Q9 : St → Prop), Q9 σ' → w14_ipIn_J274 σ x2 x4 x5 x6 x7 x8 Q9) := by
  have fr : Fr (mF [56, 57, 58, 59, 60, 64, 66, 67, 68, 69, 70, 71, 72, 73] [] [(14, [12, 18, 23, 24, 25, 30, 32, 33, 34, 35, 36, 37, 38, 39, 40, 42, 43, 44, 45, 46, 47, 48, 49, 50, 51, 52, 53, 54, 55, 56, 57, 59, 60, 61, 62]), (15, [0, 1, 2, 3, 4, 5, 6, 7, 8, 9, 10, 11, 12, 13, 14, 15, 16, 17, 18, 19, 20, 21, 22, 23, 24, 26, 27, 28, 29, 30, 31, 34, 35, 36, 37, 38, 39, 40, 41, 42, 43, 44, 45]), (17, [0, 1, 2, 3, 4, 5]), (18, [0, 1, 2, 3, 4, 5, 6])] []) σ σ := Fr.rf
  have rb : ∀ (Q9 : St → Prop), w14_ipIn_J274 σ x2 x4 x5 x6 x7 x8 Q9 → w14_ipIn_J274 σ x2 x4 x5 x6 x7 x8 Q9 := fun _ z => z
  by_cases hc : (x5 + x7) ≤ 4096
  · have h := h.1 hc
    have rb := fun Q9 z => rb Q9 (br_t hc z)
    obtain ⟨σ9, h, ok, fr9, rc⟩ := e14_fragment ok h
    have fr := fr.tr (fr9.sub (mF_sub rfl sub_nil rfl sud_nil))
    have rb := fun Q9 z => rb Q9 (rc _ z)
    exact ⟨σ9, h, ok, fr, fun Q9 hq => rb Q9 hq⟩
  have h := h.2 hc
  have rb := fun Q9 z => rb Q9 (br_f hc z)
  exact ⟨σ, h, ok, fr, fun Q9 hq => rb Q9 hq⟩
set_option maxHeartbeats 4000000 in
theorem e14_ipIn_L209 {x2 : Int32} {x4 : Int32} {x7 : Int32} {x8 : Int32} {Q : St → Prop} {K241 : St → Prop} :
    ∀ (n : Nat) {σ : St} {x9 : Int32} (ok : okS σ), w14_ipIn_L209 x2 x4 x7 x8 Q K241 n σ x9 → (∃ (σ' : St), K241 σ' ∧ okS σ' ∧ Fr (mF [64] [] [] []) σ σ' ∧ ∀ (Q9 : St → Prop) (K9_241 : St → Prop), K9_241 σ' → w14_ipIn_L209 x2 x4 x7 x8 Q9 K9_241 n σ x9) := by
  intro n
  induction n with
  | zero =>
    intro σ x9 ok h
    exact False.elim h
  | succ n ih =>
    intro σ x9 ok h
    have fr : Fr (mF [64] [] [] []) σ σ := Fr.rf
    have rb : ∀ (Q9 : St → Prop) (K9_241 : St → Prop), w14_ipIn_L209 x2 x4 x7 x8 Q9 K9_241 (n + 1) σ x9 → w14_ipIn_L209 x2 x4 x7 x8 Q9 K9_241 (n + 1) σ x9 := fun _ _ z => z
    by_cases hc : x7 ≤ x9
    · have h := h.1 hc
      have rb := fun Q9 K9_241 z => rb Q9 K9_241 (br_t hc z)
      exact ⟨σ, h, ok, fr, fun Q9 K9_241 hq => rb Q9 K9_241 hq⟩
    have h := h.2 hc
    have rb := fun Q9 K9_241 z => rb Q9 K9_241 (br_f hc z)
    obtain ⟨hc, h⟩ := h
    have rb := fun Q9 K9_241 z => rb Q9 K9_241 (And.intro hc z)
    have h := h ((ok 50 0 _).2 (tyk_a 50 2 (by decide) (by decide) _))
    have rb := fun Q9 K9_241 z => rb Q9 K9_241 (im_n z)
    obtain ⟨hc, h⟩ := h
    have rb := fun Q9 K9_241 z => rb Q9 K9_241 (And.intro hc z)
    obtain ⟨σ10, e9⟩ : ∃ s : St, s = up3 σ 64 0 x9.toNatClampNeg (σ 50 0 ((14 + x2) + x9).toNatClampNeg).toInt8.toInt32 := ⟨_, rfl⟩
    have h := h σ10 e9
    have rb := fun Q9 K9_241 z => rb Q9 K9_241 (nm_n e9 z)
    have ok : okS σ10 := by rw [e9]; exact (ok_b ok (tyk_a 64 2 (by decide) (by decide) _))
    have fr : Fr (mF [64] [] [] []) σ σ10 := by rw [e9]; exact (Fr.up fr (mF_A rfl))
    rcases ih ok h with ⟨σ', h, ok, fr9, rc⟩
    · exact ⟨σ', h, ok, fr.tr fr9, fun Q9 K9_241 hq => rb Q9 K9_241 (rc Q9 K9_241 hq)⟩
set_option maxHeartbeats 4000000 in
theorem e14_ipIn_J157 {σ : St} {x2 : Int32} {x3 : Int32} {x4 : Int32} {x5 : Int32} {xs0 : Int32} {Q : St → Prop} (ok : okS σ) (h : w14_ipIn_J157 σ x2 x3 x4 x5 xs0 Q) : (∃ (σ' : St), Q σ' ∧ okS σ' ∧ Fr (mF [56, 57, 58, 59, 60, 64, 66, 67, 68, 69, 70, 71, 72, 73] [] [(14, [12, 18, 23, 24, 25, 30, 32, 33, 34, 35, 36, 37, 38, 39, 40, 42, 43, 44, 45, 46, 47, 48, 49, 50, 51, 52, 53, 54, 55, 56, 57, 59, 60, 61, 62]), (15, [0, 1, 2, 3, 4, 5, 6, 7, 8, 9, 10, 11, 12, 13, 14, 15, 16, 17, 18, 19, 20, 21, 22, 23, 24, 26, 27, 28, 29, 30, 31, 34, 35, 36, 37, 38, 39, 40, 41, 42, 43, 44, 45]), (17, [0, 1, 2, 3, 4, 5]), (18, [0, 1, 2, 3, 4, 5, 6])] []) σ σ' ∧ ∀ (Q9 : St → Prop), Q9 σ' → w14_ipIn_J157 σ x2 x3 x4 x5 xs0 Q9) := by
  have fr : Fr (mF [56, 57, 58, 59, 60, 64, 66, 67, 68, 69, 70, 71, 72, 73] [] [(14, [12, 18, 23, 24, 25, 30, 32, 33, 34, 35, 36, 37, 38, 39, 40, 42, 43, 44, 45, 46, 47, 48, 49, 50, 51, 52, 53, 54, 55, 56, 57, 59, 60, 61, 62]), (15, [0, 1, 2, 3, 4, 5, 6, 7, 8, 9, 10, 11, 12, 13, 14, 15, 16, 17, 18, 19, 20, 21, 22, 23, 24, 26, 27, 28, 29, 30, 31, 34, 35, 36, 37, 38, 39, 40, 41, 42, 43, 44, 45]), (17, [0, 1, 2, 3, 4, 5]), (18, [0, 1, 2, 3, 4, 5, 6])] []) σ σ := Fr.rf
  have rb : ∀ (Q9 : St → Prop), w14_ipIn_J157 σ x2 x3 x4 x5 xs0 Q9 → w14_ipIn_J157 σ x2 x3 x4 x5 xs0 Q9 := fun _ z => z
  obtain ⟨hc, h⟩ := h
  have rb := fun Q9 z => rb Q9 (And.intro hc z)
  have h := h ((ok 50 0 _).2 (tyk_a 50 2 (by decide) (by decide) _))
  have rb := fun Q9 z => rb Q9 (im_n z)
  by_cases hc : xs0 = 0
  · have h := h.2 hc
    have rb := fun Q9 z => rb Q9 (br_u hc z)
    by_cases hc : x5 = 0
    · have h := h.2 hc
      have rb := fun Q9 z => rb Q9 (br_u hc z)
      by_cases hc : (x3 - x2) ≤ 4096
      · have h := h.1 hc
        have rb := fun Q9 z => rb Q9 (br_t hc z)
        obtain ⟨n9, h⟩ := h
        rcases e14_ipIn_L209 n9 ok h with ⟨σ12, h, ok, fr9, rc⟩
        · have rb := fun Q9 z => rb Q9 (Exists.intro n9 (rc _ _ z))
          have fr := fr.tr (fr9.sub (mF_sub rfl sub_nil rfl sud_nil))
          obtain ⟨σ13, e9⟩ : ∃ s : St, s = up3 σ12 14 0 30 x4 := ⟨_, rfl⟩
          have h := h σ13 e9
          have rb := fun Q9 z => rb Q9 (nm_n e9 z)
          have ok : okS σ13 := by rw [e9]; exact (ok_n ok (by decide))
          have fr : Fr (mF [56, 57, 58, 59, 60, 64, 66, 67, 68, 69, 70, 71, 72, 73] [] [(14, [12, 18, 23, 24, 25, 30, 32, 33, 34, 35, 36, 37, 38, 39, 40, 42, 43, 44, 45, 46, 47, 48, 49, 50, 51, 52, 53, 54, 55, 56, 57, 59, 60, 61, 62]), (15, [0, 1, 2, 3, 4, 5, 6, 7, 8, 9, 10, 11, 12, 13, 14, 15, 16, 17, 18, 19, 20, 21, 22, 23, 24, 26, 27, 28, 29, 30, 31, 34, 35, 36, 37, 38, 39, 40, 41, 42, 43, 44, 45]), (17, [0, 1, 2, 3, 4, 5]), (18, [0, 1, 2, 3, 4, 5, 6])] []) σ σ13 := by rw [e9]; exact (Fr.up fr (mF_C (List.mem_of_getElem? (i := 0) rfl) rfl))
          obtain ⟨σ14, h, ok, fr9, rc⟩ := e14_taken ok h
          have fr := fr.tr (fr9.sub (mF_sub rfl sub_nil rfl sud_nil))
          have rb := fun Q9 z => rb Q9 (rc _ z)
          exact ⟨σ14, h, ok, fr, fun Q9 hq => rb Q9 hq⟩
      have h := h.2 hc
      have rb := fun Q9 z => rb Q9 (br_f hc z)
      obtain ⟨σ15, e9⟩ : ∃ s : St, s = up3 σ 14 0 18 ((σ 14 0 18) + 1) := ⟨_, rfl⟩
      have h := h σ15 e9
      have rb := fun Q9 z => rb Q9 (nm_n e9 z)
      have ok : okS σ15 := by rw [e9]; exact (ok_n ok (by decide))
      have fr : Fr (mF [56, 57, 58, 59, 60, 64, 66, 67, 68, 69, 70, 71, 72, 73] [] [(14, [12, 18, 23, 24, 25, 30, 32, 33, 34, 35, 36, 37, 38, 39, 40, 42, 43, 44, 45, 46, 47, 48, 49, 50, 51, 52, 53, 54, 55, 56, 57, 59, 60, 61, 62]), (15, [0, 1, 2, 3, 4, 5, 6, 7, 8, 9, 10, 11, 12, 13, 14, 15, 16, 17, 18, 19, 20, 21, 22, 23, 24, 26, 27, 28, 29, 30, 31, 34, 35, 36, 37, 38, 39, 40, 41, 42, 43, 44, 45]), (17, [0, 1, 2, 3, 4, 5]), (18, [0, 1, 2, 3, 4, 5, 6])] []) σ σ15 := by rw [e9]; exact (Fr.up fr (mF_C (List.mem_of_getElem? (i := 0) rfl) rfl))
      exact ⟨σ15, h, ok, fr, fun Q9 hq => rb Q9 hq⟩
    have h := h.1 hc
    have rb := fun Q9 z => rb Q9 (br_v hc z)
    by_cases hc : xs0 = 0
    · have h := h.1 hc
      have rb := fun Q9 z => rb Q9 (br_t hc z)
      obtain ⟨σ9, h, ok, fr9, rc⟩ := e14_ipIn_J274 ok h
      exact ⟨σ9, h, ok, fr.tr (fr9.sub (mF_sub rfl sub_nil rfl sud_nil)), fun Q9 hq => rb Q9 (rc Q9 hq)⟩
    have h := h.2 hc
    have rb := fun Q9 z => rb Q9 (br_f hc z)
    by_cases hc : (x3 - x2) = 0
    · have h := h.1 hc
      have rb := fun Q9 z => rb Q9 (br_t hc z)
      exact ⟨σ, h, ok, fr, fun Q9 hq => rb Q9 hq⟩
    have h := h.2 hc
    have rb := fun Q9 z => rb Q9 (br_f hc z)
    by_cases hc : ((x3 - x2) - (x3 - x2) / 8 * 8) = 0
    · have h := h.2 hc
      have rb := fun Q9 z => rb Q9 (br_u hc z)
      obtain ⟨σ9, h, ok, fr9, rc⟩ := e14_ipIn_J274 ok h
      exact ⟨σ9, h, ok, fr.tr (fr9.sub (mF_sub rfl sub_nil rfl sud_nil)), fun Q9 hq => rb Q9 (rc Q9 hq)⟩
    have h := h.1 hc
    have rb := fun Q9 z => rb Q9 (br_v hc z)
    exact ⟨σ, h, ok, fr, fun Q9 hq => rb Q9 hq⟩
  have h := h.1 hc
  have rb := fun Q9 z => rb Q9 (br_v hc z)
  by_cases hc : xs0 = 0
  · have h := h.1 hc
    have rb := fun Q9 z => rb Q9 (br_t hc z)
    obtain ⟨σ9, h, ok, fr9, rc⟩ := e14_ipIn_J274 ok h
    exact ⟨σ9, h, ok, fr.tr (fr9.sub (mF_sub rfl sub_nil rfl sud_nil)), fun Q9 hq => rb Q9 (rc Q9 hq)⟩
  have h := h.2 hc
  have rb := fun Q9 z => rb Q9 (br_f hc z)
  by_cases hc : (x3 - x2) = 0
  · have h := h.1 hc
    have rb := fun Q9 z => rb Q9 (br_t hc z)
    exact ⟨σ, h, ok, fr, fun Q9 hq => rb Q9 hq⟩
  have h := h.2 hc
  have rb := fun Q9 z => rb Q9 (br_f hc z)
  by_cases hc : ((x3 - x2) - (x3 - x2) / 8 * 8) = 0
  · have h := h.2 hc
    have rb := fun Q9 z => rb Q9 (br_u hc z)
    obtain ⟨σ9, h, ok, fr9, rc⟩ := e14_ipIn_J274 ok h
    exact ⟨σ9, h, ok, fr.tr (fr9.sub (mF_sub rfl sub_nil rfl sud_nil)), fun Q9 hq => rb Q9 (rc Q9 hq)⟩
  have h := h.1 hc
  have rb := fun Q9 z => rb Q9 (br_v hc z)
  exact ⟨σ, h, ok, fr, fun Q9 hq => rb Q9 hq⟩
set_option maxHeartbeats 4000000 in
theorem e14_ipIn {σ : St} {Q : St → Prop} (ok : okS σ) (h : w14_ipIn σ Q) : (∃ (σ' : St), Q σ' ∧ okS σ' ∧ Fr (mF [56, 57, 58, 59, 60, 64, 66, 67, 68, 69, 70, 71, 72, 73] [] [(14, [12, 18, 23, 24, 25, 30, 32, 33, 34, 35, 36, 37, 38, 39, 40, 42, 43, 44, 45, 46, 47, 48, 49, 50, 51, 52, 53, 54, 55, 56, 57, 59, 60, 61, 62]), (15, [0, 1, 2, 3, 4, 5, 6, 7, 8, 9, 10, 11, 12, 13, 14, 15, 16, 17, 18, 19, 20, 21, 22, 23, 24, 26, 27, 28, 29, 30, 31, 34, 35, 36, 37, 38, 39, 40, 41, 42, 43, 44, 45]), (17, [0, 1, 2, 3, 4, 5]), (18, [0, 1, 2, 3, 4, 5, 6])] []) σ σ' ∧ ∀ (Q9 : St → Prop), Q9 σ' → w14_ipIn σ Q9) := by
  have fr : Fr (mF [56, 57, 58, 59, 60, 64, 66, 67, 68, 69, 70, 71, 72, 73] [] [(14, [12, 18, 23, 24, 25, 30, 32, 33, 34, 35, 36, 37, 38, 39, 40, 42, 43, 44, 45, 46, 47, 48, 49, 50, 51, 52, 53, 54, 55, 56, 57, 59, 60, 61, 62]), (15, [0, 1, 2, 3, 4, 5, 6, 7, 8, 9, 10, 11, 12, 13, 14, 15, 16, 17, 18, 19, 20, 21, 22, 23, 24, 26, 27, 28, 29, 30, 31, 34, 35, 36, 37, 38, 39, 40, 41, 42, 43, 44, 45]), (17, [0, 1, 2, 3, 4, 5]), (18, [0, 1, 2, 3, 4, 5, 6])] []) σ σ := Fr.rf
  have rb : ∀ (Q9 : St → Prop), w14_ipIn σ Q9 → w14_ipIn σ Q9 := fun _ z => z
  by_cases hc : ((σ 14 0 1) - 14) < 20
  · have h := h.1 hc
    have rb := fun Q9 z => rb Q9 (br_t hc z)
    exact ⟨σ, h, ok, fr, fun Q9 hq => rb Q9 hq⟩
  have h := h.2 hc
  have rb := fun Q9 z => rb Q9 (br_f hc z)
  obtain ⟨hc, h⟩ := h
  have rb := fun Q9 z => rb Q9 (And.intro hc z)
  have h := h ((ok 50 0 _).2 (tyk_a 50 2 (by decide) (by decide) _))
  have rb := fun Q9 z => rb Q9 (im_n z)
  by_cases hc : ((σ 50 0 (14 : Int32).toNatClampNeg) &&& 240) = 64
  · have h := h.1 hc
    have rb := fun Q9 z => rb Q9 (br_t hc z)
    obtain ⟨hc, h⟩ := h
    have rb := fun Q9 z => rb Q9 (And.intro hc z)
    have h := h ((ok 50 0 _).2 (tyk_a 50 2 (by decide) (by decide) _))
    have rb := fun Q9 z => rb Q9 (im_n z)
    obtain ⟨r1, h, rc⟩ := e14_trayHalf ok h
    have rb := fun Q9 z => rb Q9 (rc _ z)
    by_cases hc : (4 * ((σ 50 0 (14 : Int32).toNatClampNeg) &&& 15)) < 20
    · have h := h.1 hc
      have rb := fun Q9 z => rb Q9 (br_t hc z)
      exact ⟨σ, h, ok, fr, fun Q9 hq => rb Q9 hq⟩
    have h := h.2 hc
    have rb := fun Q9 z => rb Q9 (br_f hc z)
    by_cases hc : r1 < (4 * ((σ 50 0 (14 : Int32).toNatClampNeg) &&& 15))
    · have h := h.1 hc
      have rb := fun Q9 z => rb Q9 (br_t hc z)
      exact ⟨σ, h, ok, fr, fun Q9 hq => rb Q9 hq⟩
    have h := h.2 hc
    have rb := fun Q9 z => rb Q9 (br_f hc z)
    by_cases hc : ((σ 14 0 1) - 14) < r1
    · have h := h.1 hc
      have rb := fun Q9 z => rb Q9 (br_t hc z)
      exact ⟨σ, h, ok, fr, fun Q9 hq => rb Q9 hq⟩
    have h := h.2 hc
    have rb := fun Q9 z => rb Q9 (br_f hc z)
    obtain ⟨r2, h, rc⟩ := e14_added (by decide) ok h
    have rb := fun Q9 z => rb Q9 (rc _ z)
    obtain ⟨r3, h, rc⟩ := e14_sixteen ok h
    have rb := fun Q9 z => rb Q9 (rc _ z)
    by_cases hc : r3 = 0
    · have h := h.1 hc
      have rb := fun Q9 z => rb Q9 (br_t hc z)
      obtain ⟨r4, h, rc⟩ := e14_trayWord ok h
      have rb := fun Q9 z => rb Q9 (rc _ z)
      obtain ⟨r5, h, rc⟩ := e14_trayWord ok h
      have rb := fun Q9 z => rb Q9 (rc _ z)
      by_cases hc : r5 = (σ 14 0 5)
      · have h := h.2 hc
        have rb := fun Q9 z => rb Q9 (br_u hc z)
        by_cases hc : r4 = (σ 14 0 5)
        · have h := h.1 hc
          have rb := fun Q9 z => rb Q9 (br_t hc z)
          exact ⟨σ, h, ok, fr, fun Q9 hq => rb Q9 hq⟩
        have h := h.2 hc
        have rb := fun Q9 z => rb Q9 (br_f hc z)
        obtain ⟨r6, h, rc⟩ := e14_isHost ok h
        have rb := fun Q9 z => rb Q9 (rc _ z)
        by_cases hc : r6 = 0
        · have h := h.2 hc
          have rb := fun Q9 z => rb Q9 (br_u hc z)
          exact ⟨σ, h, ok, fr, fun Q9 hq => rb Q9 hq⟩
        have h := h.1 hc
        have rb := fun Q9 z => rb Q9 (br_v hc z)
        obtain ⟨r7, h, rc⟩ := e14_trayHalf ok h
        have rb := fun Q9 z => rb Q9 (rc _ z)
        obtain ⟨r8, h, rc⟩ := e14_trayHalf ok h
        have rb := fun Q9 z => rb Q9 (rc _ z)
        by_cases hc : (r8 &&& 8192) = 0
        · have h := h.1 hc
          have rb := fun Q9 z => rb Q9 (br_t hc z)
          obtain ⟨σ9, h, ok, fr9, rc⟩ := e14_ipIn_J157 ok h
          exact ⟨σ9, h, ok, fr.tr (fr9.sub (mF_sub rfl sub_nil rfl sud_nil)), fun Q9 hq => rb Q9 (rc Q9 hq)⟩
        have h := h.2 hc
        have rb := fun Q9 z => rb Q9 (br_f hc z)
        obtain ⟨σ9, h, ok, fr9, rc⟩ := e14_ipIn_J157 ok h
        exact ⟨σ9, h, ok, fr.tr (fr9.sub (mF_sub rfl sub_nil rfl sud_nil)), fun Q9 hq => rb Q9 (rc Q9 hq)⟩
      have h := h.1 hc
      have rb := fun Q9 z => rb Q9 (br_v hc z)
      exact ⟨σ, h, ok, fr, fun Q9 hq => rb Q9 hq⟩
    have h := h.2 hc
    have rb := fun Q9 z => rb Q9 (br_f hc z)
    exact ⟨σ, h, ok, fr, fun Q9 hq => rb Q9 hq⟩
  have h := h.2 hc
  have rb := fun Q9 z => rb Q9 (br_f hc z)
  exact ⟨σ, h, ok, fr, fun Q9 hq => rb Q9 hq⟩
/-! WebHost.take()V -/
set_option maxHeartbeats 4000000 in
theorem e0_take_L94 {σ : St} {Q : St → Prop} {K118 : Int32 → Prop} (ok : okS σ) :
    ∀ (n : Nat) {x2 : Int32}, w0_take_L94 σ Q K118 n x2 → (∃ (x2' : Int32), K118 x2' ∧ ∀ (Q9 : St → Prop) (K9_118 : Int32 → Prop), K9_118 x2' → w0_take_L94 σ Q9 K9_118 n x2) := by
  intro n
  induction n with
  | zero =>
    intro x2 h
    exact False.elim h
  | succ n ih =>
    intro x2 h
    have rb : ∀ (Q9 : St → Prop) (K9_118 : Int32 → Prop), w0_take_L94 σ Q9 K9_118 (n + 1) x2 → w0_take_L94 σ Q9 K9_118 (n + 1) x2 := fun _ _ z => z
    by_cases hc : 16 ≤ x2
    · have h := h.1 hc
      have rb := fun Q9 K9_118 z => rb Q9 K9_118 (br_t hc z)
      exact ⟨x2, h, fun Q9 K9_118 hq => rb Q9 K9_118 hq⟩
    have h := h.2 hc
    have rb := fun Q9 K9_118 z => rb Q9 K9_118 (br_f hc z)
    obtain ⟨hc, h⟩ := h
    have rb := fun Q9 K9_118 z => rb Q9 K9_118 (And.intro hc z)
    have hq6 := vp_lt hc
    by_cases hc : (σ 11 x2.toNatClampNeg 2) = 0
    · have h := h.1 hc
      have rb := fun Q9 K9_118 z => rb Q9 K9_118 (br_t hc z)
      exact ⟨x2, h, fun Q9 K9_118 hq => rb Q9 K9_118 hq⟩
    have h := h.2 hc
    have rb := fun Q9 K9_118 z => rb Q9 K9_118 (br_f hc z)
    rcases ih h with ⟨x2, h, rc⟩
    · exact ⟨x2, h, fun Q9 K9_118 hq => rb Q9 K9_118 (rc Q9 K9_118 hq)⟩
set_option maxHeartbeats 4000000 in
theorem e0_take_J118 {σ : St} {x2 : Int32} {Q : St → Prop} (ok : okS σ) (h : w0_take_J118 σ x2 Q) : (∃ (σ' : St), Q σ' ∧ okS σ' ∧ Fr (mF [23, 25, 26, 32, 35, 36, 43] [] [(11, [2, 3, 4, 5, 6, 7, 8, 9, 10, 11, 12, 13, 14, 15, 16, 17, 18, 19, 21, 22, 23, 26, 27, 28, 29, 30, 32, 33, 34, 35, 36, 37]), (12, [2, 3]), (13, [1]), (2, [3]), (3, [9]), (4, [0, 1, 2, 4]), (5, [2]), (8, [6])] []) σ σ' ∧ ∀ (Q9 : St → Prop), Q9 σ' → w0_take_J118 σ x2 Q9) := by
  have fr : Fr (mF [23, 25, 26, 32, 35, 36, 43] [] [(11, [2, 3, 4, 5, 6, 7, 8, 9, 10, 11, 12, 13, 14, 15, 16, 17, 18, 19, 21, 22, 23, 26, 27, 28, 29, 30, 32, 33, 34, 35, 36, 37]), (12, [2, 3]), (13, [1]), (2, [3]), (3, [9]), (4, [0, 1, 2, 4]), (5, [2]), (8, [6])] []) σ σ := Fr.rf
  have rb : ∀ (Q9 : St → Prop), w0_take_J118 σ x2 Q9 → w0_take_J118 σ x2 Q9 := fun _ z => z
  by_cases hc : x2 = 16
  · have h := h.2 hc
    have rb := fun Q9 z => rb Q9 (br_u hc z)
    exact ⟨σ, h, ok, fr, fun Q9 hq => rb Q9 hq⟩
  have h := h.1 hc
  have rb := fun Q9 z => rb Q9 (br_v hc z)
  obtain ⟨σ9, e9⟩ : ∃ s : St, s = up3 σ 8 0 6 ((σ 8 0 6) + 1) := ⟨_, rfl⟩
  have h := h σ9 e9
  have rb := fun Q9 z => rb Q9 (nm_n e9 z)
  have ok : okS σ9 := by rw [e9]; exact (ok_n ok (by decide))
  have fr : Fr (mF [23, 25, 26, 32, 35, 36, 43] [] [(11, [2, 3, 4, 5, 6, 7, 8, 9, 10, 11, 12, 13, 14, 15, 16, 17, 18, 19, 21, 22, 23, 26, 27, 28, 29, 30, 32, 33, 34, 35, 36, 37]), (12, [2, 3]), (13, [1]), (2, [3]), (3, [9]), (4, [0, 1, 2, 4]), (5, [2]), (8, [6])] []) σ σ9 := by rw [e9]; exact (Fr.up fr (mF_C (List.mem_of_getElem? (i := 7) rfl) rfl))
  obtain ⟨hc, h⟩ := h
  have rb := fun Q9 z => rb Q9 (And.intro hc z)
  have hq10 := vp_lt hc
  obtain ⟨σ11, h, ok, fr9, rc⟩ := e11_begin hq10 ok h
  have fr := fr.tr (fr9.sub (mF_sub rfl (sub_c (Or.inl rfl) sub_nil) rfl (sud_c (Or.inl ⟨_, List.mem_of_getElem? (i := 0) rfl, rfl⟩) (sud_c (Or.inl ⟨_, List.mem_of_getElem? (i := 1) rfl, rfl⟩) (sud_c (Or.inl ⟨_, List.mem_of_getElem? (i := 2) rfl, rfl⟩) sud_nil)))))
  have rb := fun Q9 z => rb Q9 (rc _ z)
  exact ⟨σ11, h, ok, fr, fun Q9 hq => rb Q9 hq⟩
set_option maxHeartbeats 4000000 in
theorem e0_take_J23 {σ : St} {xs0 : Int32} {Q : St → Prop} (ok : okS σ) (h : w0_take_J23 σ xs0 Q) : (∃ (σ' : St), Q σ' ∧ okS σ' ∧ Fr (mF [23, 25, 26, 32, 35, 36, 40, 41, 42, 43, 44, 90] [] [(11, [2, 3, 4, 5, 6, 7, 8, 9, 10, 11, 12, 13, 14, 15, 16, 17, 18, 19, 21, 22, 23, 24, 26, 27, 28, 29, 30, 31, 32, 33, 34, 35, 36, 37, 38, 39]), (12, [2, 3]), (13, [1]), (2, [3]), (3, [9]), (4, [0, 1, 2, 4]), (5, [2]), (8, [3, 4, 5, 6, 7, 8]), (9, [2, 3, 4, 5, 6, 7, 8, 9, 10, 11, 12, 13, 14, 15, 16, 18])] []) σ σ' ∧ ∀ (Q9 : St → Prop), Q9 σ' → w0_take_J23 σ xs0 Q9) := by
  have fr : Fr (mF [23, 25, 26, 32, 35, 36, 40, 41, 42, 43, 44, 90] [] [(11, [2, 3, 4, 5, 6, 7, 8, 9, 10, 11, 12, 13, 14, 15, 16, 17, 18, 19, 21, 22, 23, 24, 26, 27, 28, 29, 30, 31, 32, 33, 34, 35, 36, 37, 38, 39]), (12, [2, 3]), (13, [1]), (2, [3]), (3, [9]), (4, [0, 1, 2, 4]), (5, [2]), (8, [3, 4, 5, 6, 7, 8]), (9, [2, 3, 4, 5, 6, 7, 8, 9, 10, 11, 12, 13, 14, 15, 16, 18])] []) σ σ := Fr.rf
  have rb : ∀ (Q9 : St → Prop), w0_take_J23 σ xs0 Q9 → w0_take_J23 σ xs0 Q9 := fun _ z => z
  by_cases hc : xs0 < 0
  · have h := h.1 hc
    have rb := fun Q9 z => rb Q9 (br_t hc z)
    obtain ⟨r1, h, rc⟩ := e10_has ok h
    have rb := fun Q9 z => rb Q9 (rc _ z)
    by_cases hc : r1 = 0
    · have h := h.1 hc
      have rb := fun Q9 z => rb Q9 (br_t hc z)
      by_cases hc : (σ 10 0 2) = 80
      · have h := h.2 hc
        have rb := fun Q9 z => rb Q9 (br_u hc z)
        obtain ⟨r3, h, rc⟩ := e10_has ok h
        have rb := fun Q9 z => rb Q9 (rc _ z)
        by_cases hc : r3 = 0
        · have h := h.1 hc
          have rb := fun Q9 z => rb Q9 (br_t hc z)
          obtain ⟨r4, h, rc⟩ := e10_has ok h
          have rb := fun Q9 z => rb Q9 (rc _ z)
          by_cases hc : r4 = 0
          · have h := h.1 hc
            have rb := fun Q9 z => rb Q9 (br_t hc z)
            exact ⟨σ, h, ok, fr, fun Q9 hq => rb Q9 hq⟩
          have h := h.2 hc
          have rb := fun Q9 z => rb Q9 (br_f hc z)
          obtain ⟨r5, h, rc⟩ := e10_has ok h
          have rb := fun Q9 z => rb Q9 (rc _ z)
          by_cases hc : r5 = 0
          · have h := h.1 hc
            have rb := fun Q9 z => rb Q9 (br_t hc z)
            obtain ⟨n9, h⟩ := h
            rcases e0_take_L94 ok n9 h with ⟨x2_8, h, rc⟩
            · have rb := fun Q9 z => rb Q9 (Exists.intro n9 (rc _ _ z))
              obtain ⟨σ9, h, ok, fr9, rc⟩ := e0_take_J118 ok h
              exact ⟨σ9, h, ok, fr.tr (fr9.sub (mF_sub rfl sub_nil rfl sud_nil)), fun Q9 hq => rb Q9 (rc Q9 hq)⟩
          have h := h.2 hc
          have rb := fun Q9 z => rb Q9 (br_f hc z)
          exact ⟨σ, h, ok, fr, fun Q9 hq => rb Q9 hq⟩
        have h := h.2 hc
        have rb := fun Q9 z => rb Q9 (br_f hc z)
        obtain ⟨σ12, h, ok, fr9, rc⟩ := e8_reset ok h
        have fr := fr.tr (fr9.sub (mF_sub rfl sub_nil rfl sud_nil))
        have rb := fun Q9 z => rb Q9 (rc _ z)
        exact ⟨σ12, h, ok, fr, fun Q9 hq => rb Q9 hq⟩
      have h := h.1 hc
      have rb := fun Q9 z => rb Q9 (br_v hc z)
      obtain ⟨σ2, h, ok, fr9, rc⟩ := e8_reset ok h
      have fr := fr.tr (fr9.sub (mF_sub rfl sub_nil rfl sud_nil))
      have rb := fun Q9 z => rb Q9 (rc _ z)
      exact ⟨σ2, h, ok, fr, fun Q9 hq => rb Q9 hq⟩
    have h := h.2 hc
    have rb := fun Q9 z => rb Q9 (br_f hc z)
    exact ⟨σ, h, ok, fr, fun Q9 hq => rb Q9 hq⟩
  have h := h.2 hc
  have rb := fun Q9 z => rb Q9 (br_f hc z)
  obtain ⟨hc, h⟩ := h
  have rb := fun Q9 z => rb Q9 (And.intro hc z)
  have hq13 := vp_lt hc
  obtain ⟨σ14, h, ok, fr9, rc⟩ := e11_arrive hq13 ok h
  have fr := fr.tr (fr9.sub (mF_sub rfl (sub_c (Or.inl rfl) (sub_c (Or.inl rfl) (sub_c (Or.inl rfl) (sub_c (Or.inl rfl) sub_nil)))) rfl (sud_c (Or.inl ⟨_, List.mem_of_getElem? (i := 0) rfl, rfl⟩) (sud_c (Or.inl ⟨_, List.mem_of_getElem? (i := 1) rfl, rfl⟩) (sud_c (Or.inl ⟨_, List.mem_of_getElem? (i := 2) rfl, rfl⟩) sud_nil)))))
  have rb := fun Q9 z => rb Q9 (rc _ z)
  exact ⟨σ14, h, ok, fr, fun Q9 hq => rb Q9 hq⟩
set_option maxHeartbeats 4000000 in
theorem e0_take {σ : St} {Q : St → Prop} (ok : okS σ) (h : w0_take σ Q) : (∃ (σ' : St), Q σ' ∧ okS σ' ∧ Fr (mF [23, 25, 26, 32, 35, 36, 40, 41, 42, 43, 44, 90] [] [(11, [2, 3, 4, 5, 6, 7, 8, 9, 10, 11, 12, 13, 14, 15, 16, 17, 18, 19, 21, 22, 23, 24, 26, 27, 28, 29, 30, 31, 32, 33, 34, 35, 36, 37, 38, 39]), (12, [2, 3]), (13, [1]), (2, [3]), (3, [9]), (4, [0, 1, 2, 4]), (5, [2]), (8, [3, 4, 5, 6, 7, 8]), (9, [2, 3, 4, 5, 6, 7, 8, 9, 10, 11, 12, 13, 14, 15, 16, 18])] []) σ σ' ∧ ∀ (Q9 : St → Prop), Q9 σ' → w0_take σ Q9) := by
  have fr : Fr (mF [23, 25, 26, 32, 35, 36, 40, 41, 42, 43, 44, 90] [] [(11, [2, 3, 4, 5, 6, 7, 8, 9, 10, 11, 12, 13, 14, 15, 16, 17, 18, 19, 21, 22, 23, 24, 26, 27, 28, 29, 30, 31, 32, 33, 34, 35, 36, 37, 38, 39]), (12, [2, 3]), (13, [1]), (2, [3]), (3, [9]), (4, [0, 1, 2, 4]), (5, [2]), (8, [3, 4, 5, 6, 7, 8]), (9, [2, 3, 4, 5, 6, 7, 8, 9, 10, 11, 12, 13, 14, 15, 16, 18])] []) σ σ := Fr.rf
  have rb : ∀ (Q9 : St → Prop), w0_take σ Q9 → w0_take σ Q9 := fun _ z => z
  by_cases hc : (σ 10 0 2) = 80
  · have h := h.2 hc
    have rb := fun Q9 z => rb Q9 (br_u hc z)
    obtain ⟨r15, h, rc⟩ := e0_find ok h
    have rb := fun Q9 z => rb Q9 (rc _ z)
    obtain ⟨σ9, h, ok, fr9, rc⟩ := e0_take_J23 ok h
    exact ⟨σ9, h, ok, fr.tr (fr9.sub (mF_sub rfl sub_nil rfl sud_nil)), fun Q9 hq => rb Q9 (rc Q9 hq)⟩
  have h := h.1 hc
  have rb := fun Q9 z => rb Q9 (br_v hc z)
  obtain ⟨σ9, h, ok, fr9, rc⟩ := e0_take_J23 ok h
  exact ⟨σ9, h, ok, fr.tr (fr9.sub (mF_sub rfl sub_nil rfl sud_nil)), fun Q9 hq => rb Q9 (rc Q9 hq)⟩
/-! WebHostModel.frameIn()V -/
set_option maxHeartbeats 4000000 in
theorem e14_frameIn_J74 {σ : St} {Q : St → Prop} (ok : okS σ) (h : w14_frameIn_J74 σ Q) : (∃ (σ' : St), Q σ' ∧ okS σ' ∧ Fr (mF [56, 57, 58, 59, 60, 64, 66, 67, 68, 69, 70, 71, 72, 73] [] [(14, [12, 18, 23, 24, 25, 30, 32, 33, 34, 35, 36, 37, 38, 39, 40, 42, 43, 44, 45, 46, 47, 48, 49, 50, 51, 52, 53, 54, 55, 56, 57, 59, 60, 61, 62]), (15, [0, 1, 2, 3, 4, 5, 6, 7, 8, 9, 10, 11, 12, 13, 14, 15, 16, 17, 18, 19, 20, 21, 22, 23, 24, 26, 27, 28, 29, 30, 31, 34, 35, 36, 37, 38, 39, 40, 41, 42, 43, 44, 45]), (16, [0, 1, 2, 3, 4]), (17, [0, 1, 2, 3, 4, 5]), (18, [0, 1, 2, 3, 4, 5, 6])] []) σ σ' ∧ ∀ (Q9 : St → Prop), Q9 σ' → w14_frameIn_J74 σ Q9) := by
  have fr : Fr (mF [56, 57, 58, 59, 60, 64, 66, 67, 68, 69, 70, 71, 72, 73] [] [(14, [12, 18, 23, 24, 25, 30, 32, 33, 34, 35, 36, 37, 38, 39, 40, 42, 43, 44, 45, 46, 47, 48, 49, 50, 51, 52, 53, 54, 55, 56, 57, 59, 60, 61, 62]), (15, [0, 1, 2, 3, 4, 5, 6, 7, 8, 9, 10, 11, 12, 13, 14, 15, 16, 17, 18, 19, 20, 21, 22, 23, 24, 26, 27, 28, 29, 30, 31, 34, 35, 36, 37, 38, 39, 40, 41, 42, 43, 44, 45]), (16, [0, 1, 2, 3, 4]), (17, [0, 1, 2, 3, 4, 5]), (18, [0, 1, 2, 3, 4, 5, 6])] []) σ σ := Fr.rf
  have rb : ∀ (Q9 : St → Prop), w14_frameIn_J74 σ Q9 → w14_frameIn_J74 σ Q9 := fun _ z => z
  obtain ⟨r3, h, rc⟩ := e14_trayHalf ok h
  have rb := fun Q9 z => rb Q9 (rc _ z)
  by_cases hc : r3 = 2054
  · have h := h.2 hc
    have rb := fun Q9 z => rb Q9 (br_u hc z)
    obtain ⟨σ6, h, ok, fr9, rc⟩ := e14_arp ok h
    have fr := fr.tr (fr9.sub (mF_sub rfl sub_nil rfl sud_nil))
    have rb := fun Q9 z => rb Q9 (rc _ z)
    exact ⟨σ6, h, ok, fr, fun Q9 hq => rb Q9 hq⟩
  have h := h.1 hc
  have rb := fun Q9 z => rb Q9 (br_v hc z)
  obtain ⟨r4, h, rc⟩ := e14_trayHalf ok h
  have rb := fun Q9 z => rb Q9 (rc _ z)
  by_cases hc : r4 = 2048
  · have h := h.2 hc
    have rb := fun Q9 z => rb Q9 (br_u hc z)
    obtain ⟨σ5, h, ok, fr9, rc⟩ := e14_ipIn ok h
    have fr := fr.tr (fr9.sub (mF_sub rfl sub_nil rfl sud_nil))
    have rb := fun Q9 z => rb Q9 (rc _ z)
    exact ⟨σ5, h, ok, fr, fun Q9 hq => rb Q9 hq⟩
  have h := h.1 hc
  have rb := fun Q9 z => rb Q9 (br_v hc z)
  exact ⟨σ, h, ok, fr, fun Q9 hq => rb Q9 hq⟩
set_option maxHeartbeats 4000000 in
theorem e14_frameIn_J39 {σ : St} {xs0 : Int32} {Q : St → Prop} (ok : okS σ) (h : w14_frameIn_J39 σ xs0 Q) : (∃ (σ' : St), Q σ' ∧ okS σ' ∧ Fr (mF [56, 57, 58, 59, 60, 64, 66, 67, 68, 69, 70, 71, 72, 73] [] [(14, [12, 18, 23, 24, 25, 30, 32, 33, 34, 35, 36, 37, 38, 39, 40, 42, 43, 44, 45, 46, 47, 48, 49, 50, 51, 52, 53, 54, 55, 56, 57, 59, 60, 61, 62]), (15, [0, 1, 2, 3, 4, 5, 6, 7, 8, 9, 10, 11, 12, 13, 14, 15, 16, 17, 18, 19, 20, 21, 22, 23, 24, 26, 27, 28, 29, 30, 31, 34, 35, 36, 37, 38, 39, 40, 41, 42, 43, 44, 45]), (16, [0, 1, 2, 3, 4]), (17, [0, 1, 2, 3, 4, 5]), (18, [0, 1, 2, 3, 4, 5, 6])] []) σ σ' ∧ ∀ (Q9 : St → Prop), Q9 σ' → w14_frameIn_J39 σ xs0 Q9) := by
  have fr : Fr (mF [56, 57, 58, 59, 60, 64, 66, 67, 68, 69, 70, 71, 72, 73] [] [(14, [12, 18, 23, 24, 25, 30, 32, 33, 34, 35, 36, 37, 38, 39, 40, 42, 43, 44, 45, 46, 47, 48, 49, 50, 51, 52, 53, 54, 55, 56, 57, 59, 60, 61, 62]), (15, [0, 1, 2, 3, 4, 5, 6, 7, 8, 9, 10, 11, 12, 13, 14, 15, 16, 17, 18, 19, 20, 21, 22, 23, 24, 26, 27, 28, 29, 30, 31, 34, 35, 36, 37, 38, 39, 40, 41, 42, 43, 44, 45]), (16, [0, 1, 2, 3, 4]), (17, [0, 1, 2, 3, 4, 5]), (18, [0, 1, 2, 3, 4, 5, 6])] []) σ σ := Fr.rf
  have rb : ∀ (Q9 : St → Prop), w14_frameIn_J39 σ xs0 Q9 → w14_frameIn_J39 σ xs0 Q9 := fun _ z => z
  obtain ⟨r2, h, rc⟩ := e14_trayHalf ok h
  have rb := fun Q9 z => rb Q9 (rc _ z)
  by_cases hc : r2 = 65535
  · have h := h.2 hc
    have rb := fun Q9 z => rb Q9 (br_u hc z)
    obtain ⟨r7, h, rc⟩ := e14_trayWord ok h
    have rb := fun Q9 z => rb Q9 (rc _ z)
    by_cases hc : r7 = (-1)
    · have h := h.2 hc
      have rb := fun Q9 z => rb Q9 (br_u hc z)
      by_cases hc : xs0 = 0
      · have h := h.2 hc
        have rb := fun Q9 z => rb Q9 (br_u hc z)
        by_cases hc : (1 : Int32) = 0
        · have h := h.2 hc
          have rb := fun Q9 z => rb Q9 (br_u hc z)
          exact ⟨σ, h, ok, fr, fun Q9 hq => rb Q9 hq⟩
        have h := h.1 hc
        have rb := fun Q9 z => rb Q9 (br_v hc z)
        obtain ⟨σ9, h, ok, fr9, rc⟩ := e14_frameIn_J74 ok h
        exact ⟨σ9, h, ok, fr.tr (fr9.sub (mF_sub rfl sub_nil rfl sud_nil)), fun Q9 hq => rb Q9 (rc Q9 hq)⟩
      have h := h.1 hc
      have rb := fun Q9 z => rb Q9 (br_v hc z)
      obtain ⟨σ9, h, ok, fr9, rc⟩ := e14_frameIn_J74 ok h
      exact ⟨σ9, h, ok, fr.tr (fr9.sub (mF_sub rfl sub_nil rfl sud_nil)), fun Q9 hq => rb Q9 (rc Q9 hq)⟩
    have h := h.1 hc
    have rb := fun Q9 z => rb Q9 (br_v hc z)
    by_cases hc : xs0 = 0
    · have h := h.2 hc
      have rb := fun Q9 z => rb Q9 (br_u hc z)
      by_cases hc : (0 : Int32) = 0
      · have h := h.2 hc
        have rb := fun Q9 z => rb Q9 (br_u hc z)
        exact ⟨σ, h, ok, fr, fun Q9 hq => rb Q9 hq⟩
      have h := h.1 hc
      have rb := fun Q9 z => rb Q9 (br_v hc z)
      obtain ⟨σ9, h, ok, fr9, rc⟩ := e14_frameIn_J74 ok h
      exact ⟨σ9, h, ok, fr.tr (fr9.sub (mF_sub rfl sub_nil rfl sud_nil)), fun Q9 hq => rb Q9 (rc Q9 hq)⟩
    have h := h.1 hc
    have rb := fun Q9 z => rb Q9 (br_v hc z)
    obtain ⟨σ9, h, ok, fr9, rc⟩ := e14_frameIn_J74 ok h
    exact ⟨σ9, h, ok, fr.tr (fr9.sub (mF_sub rfl sub_nil rfl sud_nil)), fun Q9 hq => rb Q9 (rc Q9 hq)⟩
  have h := h.1 hc
  have rb := fun Q9 z => rb Q9 (br_v hc z)
  by_cases hc : xs0 = 0
  · have h := h.2 hc
    have rb := fun Q9 z => rb Q9 (br_u hc z)
    by_cases hc : (0 : Int32) = 0
    · have h := h.2 hc
      have rb := fun Q9 z => rb Q9 (br_u hc z)
      exact ⟨σ, h, ok, fr, fun Q9 hq => rb Q9 hq⟩
    have h := h.1 hc
    have rb := fun Q9 z => rb Q9 (br_v hc z)
    obtain ⟨σ9, h, ok, fr9, rc⟩ := e14_frameIn_J74 ok h
    exact ⟨σ9, h, ok, fr.tr (fr9.sub (mF_sub rfl sub_nil rfl sud_nil)), fun Q9 hq => rb Q9 (rc Q9 hq)⟩
  have h := h.1 hc
  have rb := fun Q9 z => rb Q9 (br_v hc z)
  obtain ⟨σ9, h, ok, fr9, rc⟩ := e14_frameIn_J74 ok h
  exact ⟨σ9, h, ok, fr.tr (fr9.sub (mF_sub rfl sub_nil rfl sud_nil)), fun Q9 hq => rb Q9 (rc Q9 hq)⟩
set_option maxHeartbeats 4000000 in
theorem e14_frameIn {σ : St} {Q : St → Prop} (ok : okS σ) (h : w14_frameIn σ Q) : (∃ (σ' : St), Q σ' ∧ okS σ' ∧ Fr (mF [56, 57, 58, 59, 60, 64, 66, 67, 68, 69, 70, 71, 72, 73] [] [(14, [12, 18, 23, 24, 25, 30, 32, 33, 34, 35, 36, 37, 38, 39, 40, 42, 43, 44, 45, 46, 47, 48, 49, 50, 51, 52, 53, 54, 55, 56, 57, 59, 60, 61, 62]), (15, [0, 1, 2, 3, 4, 5, 6, 7, 8, 9, 10, 11, 12, 13, 14, 15, 16, 17, 18, 19, 20, 21, 22, 23, 24, 26, 27, 28, 29, 30, 31, 34, 35, 36, 37, 38, 39, 40, 41, 42, 43, 44, 45]), (16, [0, 1, 2, 3, 4]), (17, [0, 1, 2, 3, 4, 5]), (18, [0, 1, 2, 3, 4, 5, 6])] []) σ σ' ∧ ∀ (Q9 : St → Prop), Q9 σ' → w14_frameIn σ Q9) := by
  have fr : Fr (mF [56, 57, 58, 59, 60, 64, 66, 67, 68, 69, 70, 71, 72, 73] [] [(14, [12, 18, 23, 24, 25, 30, 32, 33, 34, 35, 36, 37, 38, 39, 40, 42, 43, 44, 45, 46, 47, 48, 49, 50, 51, 52, 53, 54, 55, 56, 57, 59, 60, 61, 62]), (15, [0, 1, 2, 3, 4, 5, 6, 7, 8, 9, 10, 11, 12, 13, 14, 15, 16, 17, 18, 19, 20, 21, 22, 23, 24, 26, 27, 28, 29, 30, 31, 34, 35, 36, 37, 38, 39, 40, 41, 42, 43, 44, 45]), (16, [0, 1, 2, 3, 4]), (17, [0, 1, 2, 3, 4, 5]), (18, [0, 1, 2, 3, 4, 5, 6])] []) σ σ := Fr.rf
  have rb : ∀ (Q9 : St → Prop), w14_frameIn σ Q9 → w14_frameIn σ Q9 := fun _ z => z
  by_cases hc : 14 ≤ (σ 14 0 1)
  · have h := h.1 hc
    have rb := fun Q9 z => rb Q9 (br_t hc z)
    obtain ⟨r1, h, rc⟩ := e14_trayHalf ok h
    have rb := fun Q9 z => rb Q9 (rc _ z)
    by_cases hc : r1 = (σ 14 0 8)
    · have h := h.2 hc
      have rb := fun Q9 z => rb Q9 (br_u hc z)
      obtain ⟨r8, h, rc⟩ := e14_trayWord ok h
      have rb := fun Q9 z => rb Q9 (rc _ z)
      by_cases hc : r8 = (σ 14 0 9)
      · have h := h.2 hc
        have rb := fun Q9 z => rb Q9 (br_u hc z)
        obtain ⟨σ9, h, ok, fr9, rc⟩ := e14_frameIn_J39 ok h
        exact ⟨σ9, h, ok, fr.tr (fr9.sub (mF_sub rfl sub_nil rfl sud_nil)), fun Q9 hq => rb Q9 (rc Q9 hq)⟩
      have h := h.1 hc
      have rb := fun Q9 z => rb Q9 (br_v hc z)
      obtain ⟨σ9, h, ok, fr9, rc⟩ := e14_frameIn_J39 ok h
      exact ⟨σ9, h, ok, fr.tr (fr9.sub (mF_sub rfl sub_nil rfl sud_nil)), fun Q9 hq => rb Q9 (rc Q9 hq)⟩
    have h := h.1 hc
    have rb := fun Q9 z => rb Q9 (br_v hc z)
    obtain ⟨σ9, h, ok, fr9, rc⟩ := e14_frameIn_J39 ok h
    exact ⟨σ9, h, ok, fr.tr (fr9.sub (mF_sub rfl sub_nil rfl sud_nil)), fun Q9 hq => rb Q9 (rc Q9 hq)⟩
  have h := h.2 hc
  have rb := fun Q9 z => rb Q9 (br_f hc z)
  exact ⟨σ, h, ok, fr, fun Q9 hq => rb Q9 hq⟩
/-! WebHost.datagram([BIIII)V -/
set_option maxHeartbeats 4000000 in
theorem e0_datagram {σ : St} {k1 : Nat} {i1 : Nat} {x2 : Int32} {x3 : Int32} {x4 : Int32} {x5 : Int32} {Q : St → Prop} (hk1 : abc k1 i1 = true) (ok : okS σ) (h : w0_datagram σ k1 i1 x2 x3 x4 x5 Q) : (∃ (σ' : St), Q σ' ∧ okS σ' ∧ Fr (mF [23, 25, 26, 32, 35, 36, 40, 41, 42, 43, 44, 90] [] [(10, [0, 1, 2, 3, 4, 5, 6, 7, 8, 9, 10, 107]), (11, [2, 3, 4, 5, 6, 7, 8, 9, 10, 11, 12, 13, 14, 15, 16, 17, 18, 19, 21, 22, 23, 24, 26, 27, 28, 29, 30, 31, 32, 33, 34, 35, 36, 37, 38, 39]), (12, [2, 3]), (13, [1]), (2, [3]), (3, [9]), (4, [0, 1, 2, 4]), (5, [2]), (8, [3, 4, 5, 6, 7, 8]), (9, [2, 3, 4, 5, 6, 7, 8, 9, 10, 11, 12, 13, 14, 15, 16, 18])] []) σ σ' ∧ ∀ (Q9 : St → Prop), Q9 σ' → w0_datagram σ k1 i1 x2 x3 x4 x5 Q9) := by
  have fr : Fr (mF [23, 25, 26, 32, 35, 36, 40, 41, 42, 43, 44, 90] [] [(10, [0, 1, 2, 3, 4, 5, 6, 7, 8, 9, 10, 107]), (11, [2, 3, 4, 5, 6, 7, 8, 9, 10, 11, 12, 13, 14, 15, 16, 17, 18, 19, 21, 22, 23, 24, 26, 27, 28, 29, 30, 31, 32, 33, 34, 35, 36, 37, 38, 39]), (12, [2, 3]), (13, [1]), (2, [3]), (3, [9]), (4, [0, 1, 2, 4]), (5, [2]), (8, [3, 4, 5, 6, 7, 8]), (9, [2, 3, 4, 5, 6, 7, 8, 9, 10, 11, 12, 13, 14, 15, 16, 18])] []) σ σ := Fr.rf
  have rb : ∀ (Q9 : St → Prop), w0_datagram σ k1 i1 x2 x3 x4 x5 Q9 → w0_datagram σ k1 i1 x2 x3 x4 x5 Q9 := fun _ z => z
  by_cases hc : x5 = 1
  · have h := h.2 hc
    have rb := fun Q9 z => rb Q9 (br_u hc z)
    obtain ⟨σ3, h, ok, fr9, rc⟩ := e0_echo hk1 ok h
    have fr := fr.tr (fr9.sub (mF_sub rfl sub_nil rfl sud_nil))
    have rb := fun Q9 z => rb Q9 (rc _ z)
    exact ⟨σ3, h, ok, fr, fun Q9 hq => rb Q9 hq⟩
  have h := h.1 hc
  have rb := fun Q9 z => rb Q9 (br_v hc z)
  by_cases hc : x5 = 6
  · have h := h.2 hc
    have rb := fun Q9 z => rb Q9 (br_u hc z)
    obtain ⟨r1, σ1, h, ok, fr9, rc⟩ := e10_read hk1 ok h
    have fr := fr.tr (fr9.sub (mF_sub rfl sub_nil rfl sud_nil))
    have rb := fun Q9 z => rb Q9 (rc _ z)
    by_cases hc : r1 = 0
    · have h := h.1 hc
      have rb := fun Q9 z => rb Q9 (br_t hc z)
      exact ⟨σ1, h, ok, fr, fun Q9 hq => rb Q9 hq⟩
    have h := h.2 hc
    have rb := fun Q9 z => rb Q9 (br_f hc z)
    obtain ⟨σ2, h, ok, fr9, rc⟩ := e0_take ok h
    have fr := fr.tr (fr9.sub (mF_sub rfl sub_nil rfl sud_nil))
    have rb := fun Q9 z => rb Q9 (rc _ z)
    exact ⟨σ2, h, ok, fr, fun Q9 hq => rb Q9 hq⟩
  have h := h.1 hc
  have rb := fun Q9 z => rb Q9 (br_v hc z)
  exact ⟨σ, h, ok, fr, fun Q9 hq => rb Q9 hq⟩
/-! WebHostModel.arrive(I)I -/
set_option maxHeartbeats 4000000 in
theorem e14_arrive {σ : St} {x1 : Int32} {Q : Int32 → St → Prop} (ok : okS σ) (h : w14_arrive σ x1 Q) : (∃ (r : Int32) (σ' : St), Q r σ' ∧ okS σ' ∧ Fr (mF [56, 57, 58, 59, 60, 64, 66, 67, 68, 69, 70, 71, 72, 73] [] [(14, [1, 10, 12, 18, 23, 24, 25, 30, 32, 33, 34, 35, 36, 37, 38, 39, 40, 42, 43, 44, 45, 46, 47, 48, 49, 50, 51, 52, 53, 54, 55, 56, 57, 59, 60, 61, 62]), (15, [0, 1, 2, 3, 4, 5, 6, 7, 8, 9, 10, 11, 12, 13, 14, 15, 16, 17, 18, 19, 20, 21, 22, 23, 24, 26, 27, 28, 29, 30, 31, 34, 35, 36, 37, 38, 39, 40, 41, 42, 43, 44, 45]), (16, [0, 1, 2, 3, 4]), (17, [0, 1, 2, 3, 4, 5]), (18, [0, 1, 2, 3, 4, 5, 6])] []) σ σ' ∧ ∀ (Q9 : Int32 → St → Prop), Q9 r σ' → w14_arrive σ x1 Q9) := by
  have fr : Fr (mF [56, 57, 58, 59, 60, 64, 66, 67, 68, 69, 70, 71, 72, 73] [] [(14, [1, 10, 12, 18, 23, 24, 25, 30, 32, 33, 34, 35, 36, 37, 38, 39, 40, 42, 43, 44, 45, 46, 47, 48, 49, 50, 51, 52, 53, 54, 55, 56, 57, 59, 60, 61, 62]), (15, [0, 1, 2, 3, 4, 5, 6, 7, 8, 9, 10, 11, 12, 13, 14, 15, 16, 17, 18, 19, 20, 21, 22, 23, 24, 26, 27, 28, 29, 30, 31, 34, 35, 36, 37, 38, 39, 40, 41, 42, 43, 44, 45]), (16, [0, 1, 2, 3, 4]), (17, [0, 1, 2, 3, 4, 5]), (18, [0, 1, 2, 3, 4, 5, 6])] []) σ σ := Fr.rf
  have rb : ∀ (Q9 : Int32 → St → Prop), w14_arrive σ x1 Q9 → w14_arrive σ x1 Q9 := fun _ z => z
  obtain ⟨r1, h, rc⟩ := e14_refused ok h
  have rb := fun Q9 z => rb Q9 (rc _ z)
  by_cases hc : 0 ≤ r1
  · have h := h.1 hc
    have rb := fun Q9 z => rb Q9 (br_t hc z)
    by_cases hc : (σ 14 0 1) = 0
    · have h := h.1 hc
      have rb := fun Q9 z => rb Q9 (br_t hc z)
      exact ⟨(-3), σ, h, ok, fr, fun Q9 hq => rb Q9 hq⟩
    have h := h.2 hc
    have rb := fun Q9 z => rb Q9 (br_f hc z)
    by_cases hc : (σ 14 0 1) ≤ 1514
    · have h := h.1 hc
      have rb := fun Q9 z => rb Q9 (br_t hc z)
      obtain ⟨σ2, h, ok, fr9, rc⟩ := e14_passTo ok h
      have fr := fr.tr (fr9.sub (mF_sub rfl sub_nil rfl sud_nil))
      have rb := fun Q9 z => rb Q9 (rc _ z)
      obtain ⟨hc, h⟩ := h
      have rb := fun Q9 z => rb Q9 (And.intro hc z)
      obtain ⟨hc, h⟩ := h
      have rb := fun Q9 z => rb Q9 (And.intro hc z)
      obtain ⟨σ3, e9⟩ : ∃ s : St, s = up3 σ2 56 0 (0 : Int32).toNatClampNeg ((σ2 56 0 (0 : Int32).toNatClampNeg) + 1) := ⟨_, rfl⟩
      have h := h σ3 e9
      have rb := fun Q9 z => rb Q9 (nm_n e9 z)
      have ok : okS σ3 := by rw [e9]; exact (ok_n ok (tyk_a 56 0 (by decide) (by decide) _))
      have fr : Fr (mF [56, 57, 58, 59, 60, 64, 66, 67, 68, 69, 70, 71, 72, 73] [] [(14, [1, 10, 12, 18, 23, 24, 25, 30, 32, 33, 34, 35, 36, 37, 38, 39, 40, 42, 43, 44, 45, 46, 47, 48, 49, 50, 51, 52, 53, 54, 55, 56, 57, 59, 60, 61, 62]), (15, [0, 1, 2, 3, 4, 5, 6, 7, 8, 9, 10, 11, 12, 13, 14, 15, 16, 17, 18, 19, 20, 21, 22, 23, 24, 26, 27, 28, 29, 30, 31, 34, 35, 36, 37, 38, 39, 40, 41, 42, 43, 44, 45]), (16, [0, 1, 2, 3, 4]), (17, [0, 1, 2, 3, 4, 5]), (18, [0, 1, 2, 3, 4, 5, 6])] []) σ σ3 := by rw [e9]; exact (Fr.up fr (mF_A rfl))
      obtain ⟨σ4, h, ok, fr9, rc⟩ := e14_frameIn ok h
      have fr := fr.tr (fr9.sub (mF_sub rfl sub_nil rfl sud_nil))
      have rb := fun Q9 z => rb Q9 (rc _ z)
      obtain ⟨σ5, e9⟩ : ∃ s : St, s = up3 σ4 14 0 1 0 := ⟨_, rfl⟩
      have h := h σ5 e9
      have rb := fun Q9 z => rb Q9 (nm_n e9 z)
      have ok : okS σ5 := by rw [e9]; exact (ok_n ok (by decide))
      have fr : Fr (mF [56, 57, 58, 59, 60, 64, 66, 67, 68, 69, 70, 71, 72, 73] [] [(14, [1, 10, 12, 18, 23, 24, 25, 30, 32, 33, 34, 35, 36, 37, 38, 39, 40, 42, 43, 44, 45, 46, 47, 48, 49, 50, 51, 52, 53, 54, 55, 56, 57, 59, 60, 61, 62]), (15, [0, 1, 2, 3, 4, 5, 6, 7, 8, 9, 10, 11, 12, 13, 14, 15, 16, 17, 18, 19, 20, 21, 22, 23, 24, 26, 27, 28, 29, 30, 31, 34, 35, 36, 37, 38, 39, 40, 41, 42, 43, 44, 45]), (16, [0, 1, 2, 3, 4]), (17, [0, 1, 2, 3, 4, 5]), (18, [0, 1, 2, 3, 4, 5, 6])] []) σ σ5 := by rw [e9]; exact (Fr.up fr (mF_C (List.mem_of_getElem? (i := 0) rfl) rfl))
      exact ⟨((σ5 14 0 23) - (σ 14 0 23)), σ5, h, ok, fr, fun Q9 hq => rb Q9 hq⟩
    have h := h.2 hc
    have rb := fun Q9 z => rb Q9 (br_f hc z)
    exact ⟨(-3), σ, h, ok, fr, fun Q9 hq => rb Q9 hq⟩
  have h := h.2 hc
  have rb := fun Q9 z => rb Q9 (br_f hc z)
  exact ⟨r1, σ, h, ok, fr, fun Q9 hq => rb Q9 hq⟩
/-! WebHost.packet(II)V -/
set_option maxHeartbeats 4000000 in
theorem e0_packet_J215 {σ : St} {x1 : Int32} {x3 : Int32} {x4 : Int32} {x5 : Int32} {x7 : Int32} {x8 : Int32} {x9 : Int32} {Q : St → Prop} (ok : okS σ) (h : w0_packet_J215 σ x1 x3 x4 x5 x7 x8 x9 Q) : (∃ (σ' : St), Q σ' ∧ okS σ' ∧ Fr (mF [23, 25, 26, 32, 35, 36, 37, 38, 39, 40, 41, 42, 43, 44, 90] [] [(10, [0, 1, 2, 3, 4, 5, 6, 7, 8, 9, 10, 107]), (11, [2, 3, 4, 5, 6, 7, 8, 9, 10, 11, 12, 13, 14, 15, 16, 17, 18, 19, 21, 22, 23, 24, 26, 27, 28, 29, 30, 31, 32, 33, 34, 35, 36, 37, 38, 39]), (12, [2, 3]), (13, [1]), (2, [3]), (3, [9]), (4, [0, 1, 2, 4]), (5, [2]), (6, [1, 2]), (7, [0, 1, 2, 3, 6, 7]), (8, [3, 4, 5, 6, 7, 8]), (9, [2, 3, 4, 5, 6, 7, 8, 9, 10, 11, 12, 13, 14, 15, 16, 18])] []) σ σ' ∧ ∀ (Q9 : St → Prop), Q9 σ' → w0_packet_J215 σ x1 x3 x4 x5 x7 x8 x9 Q9) := by
  have fr : Fr (mF [23, 25, 26, 32, 35, 36, 37, 38, 39, 40, 41, 42, 43, 44, 90] [] [(10, [0, 1, 2, 3, 4, 5, 6, 7, 8, 9, 10, 107]), (11, [2, 3, 4, 5, 6, 7, 8, 9, 10, 11, 12, 13, 14, 15, 16, 17, 18, 19, 21, 22, 23, 24, 26, 27, 28, 29, 30, 31, 32, 33, 34, 35, 36, 37, 38, 39]), (12, [2, 3]), (13, [1]), (2, [3]), (3, [9]), (4, [0, 1, 2, 4]), (5, [2]), (6, [1, 2]), (7, [0, 1, 2, 3, 6, 7]), (8, [3, 4, 5, 6, 7, 8]), (9, [2, 3, 4, 5, 6, 7, 8, 9, 10, 11, 12, 13, 14, 15, 16, 18])] []) σ σ := Fr.rf
  have rb : ∀ (Q9 : St → Prop), w0_packet_J215 σ x1 x3 x4 x5 x7 x8 x9 Q9 → w0_packet_J215 σ x1 x3 x4 x5 x7 x8 x9 Q9 := fun _ z => z
  obtain ⟨r8, h, rc⟩ := e19_two (by decide) ok h
  have rb := fun Q9 z => rb Q9 (rc _ z)
  obtain ⟨p9, σ9, h, ok, fr9, rc⟩ := e6_take (by decide) ok h
  have fr := fr.tr (fr9.sub (mF_sub rfl sub_nil rfl sud_nil))
  have rb := fun Q9 z => rb Q9 (rc _ z)
  rcases opt_or p9 with hp | ⟨i10, hp⟩
  · have h := h.1 hp
    have rb := fun Q9 z => rb Q9 (po_n hp z)
    exact ⟨σ9, h, ok, fr, fun Q9 hq => rb Q9 hq⟩
  obtain ⟨hq10, h⟩ := h.2 i10 hp
  have rb := fun Q9 z => rb Q9 (po_s hp (And.intro hq10 z))
  obtain ⟨σ11, h, ok, fr9, rc⟩ := e0_datagram (ok38 hq10) ok h
  have fr := fr.tr (fr9.sub (mF_sub rfl sub_nil rfl sud_nil))
  have rb := fun Q9 z => rb Q9 (rc _ z)
  exact ⟨σ11, h, ok, fr, fun Q9 hq => rb Q9 hq⟩
set_option maxHeartbeats 4000000 in
theorem e0_packet_J168 {σ : St} {x1 : Int32} {x3 : Int32} {x4 : Int32} {x5 : Int32} {x7 : Int32} {xs0 : Int32} {Q : St → Prop} (ok : okS σ) (h : w0_packet_J168 σ x1 x3 x4 x5 x7 xs0 Q) : (∃ (σ' : St), Q σ' ∧ okS σ' ∧ Fr (mF [23, 25, 26, 32, 35, 36, 37, 38, 39, 40, 41, 42, 43, 44, 90] [] [(10, [0, 1, 2, 3, 4, 5, 6, 7, 8, 9, 10, 107]), (11, [2, 3, 4, 5, 6, 7, 8, 9, 10, 11, 12, 13, 14, 15, 16, 17, 18, 19, 21, 22, 23, 24, 26, 27, 28, 29, 30, 31, 32, 33, 34, 35, 36, 37, 38, 39]), (12, [2, 3]), (13, [1]), (2, [3]), (3, [9]), (4, [0, 1, 2, 4]), (5, [2]), (6, [1, 2]), (7, [0, 1, 2, 3, 6, 7]), (8, [3, 4, 5, 6, 7, 8]), (9, [2, 3, 4, 5, 6, 7, 8, 9, 10, 11, 12, 13, 14, 15, 16, 18])] []) σ σ' ∧ ∀ (Q9 : St → Prop), Q9 σ' → w0_packet_J168 σ x1 x3 x4 x5 x7 xs0 Q9) := by
  have fr : Fr (mF [23, 25, 26, 32, 35, 36, 37, 38, 39, 40, 41, 42, 43, 44, 90] [] [(10, [0, 1, 2, 3, 4, 5, 6, 7, 8, 9, 10, 107]), (11, [2, 3, 4, 5, 6, 7, 8, 9, 10, 11, 12, 13, 14, 15, 16, 17, 18, 19, 21, 22, 23, 24, 26, 27, 28, 29, 30, 31, 32, 33, 34, 35, 36, 37, 38, 39]), (12, [2, 3]), (13, [1]), (2, [3]), (3, [9]), (4, [0, 1, 2, 4]), (5, [2]), (6, [1, 2]), (7, [0, 1, 2, 3, 6, 7]), (8, [3, 4, 5, 6, 7, 8]), (9, [2, 3, 4, 5, 6, 7, 8, 9, 10, 11, 12, 13, 14, 15, 16, 18])] []) σ σ := Fr.rf
  have rb : ∀ (Q9 : St → Prop), w0_packet_J168 σ x1 x3 x4 x5 x7 xs0 Q9 → w0_packet_J168 σ x1 x3 x4 x5 x7 xs0 Q9 := fun _ z => z
  obtain ⟨hc, h⟩ := h
  have rb := fun Q9 z => rb Q9 (And.intro hc z)
  have h := h ((ok 20 0 _).2 (tyk_a 20 2 (by decide) (by decide) _))
  have rb := fun Q9 z => rb Q9 (im_n z)
  by_cases hc : x7 = 0
  · have h := h.2 hc
    have rb := fun Q9 z => rb Q9 (br_u hc z)
    by_cases hc : xs0 = 0
    · have h := h.1 hc
      have rb := fun Q9 z => rb Q9 (br_t hc z)
      obtain ⟨σ9, h, ok, fr9, rc⟩ := e0_packet_J215 ok h
      exact ⟨σ9, h, ok, fr.tr (fr9.sub (mF_sub rfl sub_nil rfl sud_nil)), fun Q9 hq => rb Q9 (rc Q9 hq)⟩
    have h := h.2 hc
    have rb := fun Q9 z => rb Q9 (br_f hc z)
    obtain ⟨σ12, h, ok, fr9, rc⟩ := e0_datagram (by decide) ok h
    have fr := fr.tr (fr9.sub (mF_sub rfl sub_nil rfl sud_nil))
    have rb := fun Q9 z => rb Q9 (rc _ z)
    exact ⟨σ12, h, ok, fr, fun Q9 hq => rb Q9 hq⟩
  have h := h.1 hc
  have rb := fun Q9 z => rb Q9 (br_v hc z)
  obtain ⟨σ9, h, ok, fr9, rc⟩ := e0_packet_J215 ok h
  exact ⟨σ9, h, ok, fr.tr (fr9.sub (mF_sub rfl sub_nil rfl sud_nil)), fun Q9 hq => rb Q9 (rc Q9 hq)⟩
set_option maxHeartbeats 4000000 in
theorem e0_packet {σ : St} {x1 : Int32} {x2 : Int32} {Q : St → Prop} (ok : okS σ) (h : w0_packet σ x1 x2 Q) : (∃ (σ' : St), Q σ' ∧ okS σ' ∧ Fr (mF [23, 25, 26, 32, 35, 36, 37, 38, 39, 40, 41, 42, 43, 44, 90] [] [(10, [0, 1, 2, 3, 4, 5, 6, 7, 8, 9, 10, 107]), (11, [2, 3, 4, 5, 6, 7, 8, 9, 10, 11, 12, 13, 14, 15, 16, 17, 18, 19, 21, 22, 23, 24, 26, 27, 28, 29, 30, 31, 32, 33, 34, 35, 36, 37, 38, 39]), (12, [2, 3]), (13, [1]), (2, [3]), (3, [9]), (4, [0, 1, 2, 4]), (5, [2]), (6, [1, 2]), (7, [0, 1, 2, 3, 6, 7]), (8, [3, 4, 5, 6, 7, 8]), (9, [2, 3, 4, 5, 6, 7, 8, 9, 10, 11, 12, 13, 14, 15, 16, 18])] []) σ σ' ∧ ∀ (Q9 : St → Prop), Q9 σ' → w0_packet σ x1 x2 Q9) := by
  have fr : Fr (mF [23, 25, 26, 32, 35, 36, 37, 38, 39, 40, 41, 42, 43, 44, 90] [] [(10, [0, 1, 2, 3, 4, 5, 6, 7, 8, 9, 10, 107]), (11, [2, 3, 4, 5, 6, 7, 8, 9, 10, 11, 12, 13, 14, 15, 16, 17, 18, 19, 21, 22, 23, 24, 26, 27, 28, 29, 30, 31, 32, 33, 34, 35, 36, 37, 38, 39]), (12, [2, 3]), (13, [1]), (2, [3]), (3, [9]), (4, [0, 1, 2, 4]), (5, [2]), (6, [1, 2]), (7, [0, 1, 2, 3, 6, 7]), (8, [3, 4, 5, 6, 7, 8]), (9, [2, 3, 4, 5, 6, 7, 8, 9, 10, 11, 12, 13, 14, 15, 16, 18])] []) σ σ := Fr.rf
  have rb : ∀ (Q9 : St → Prop), w0_packet σ x1 x2 Q9 → w0_packet σ x1 x2 Q9 := fun _ z => z
  by_cases hc : x2 < 20
  · have h := h.1 hc
    have rb := fun Q9 z => rb Q9 (br_t hc z)
    exact ⟨σ, h, ok, fr, fun Q9 hq => rb Q9 hq⟩
  have h := h.2 hc
  have rb := fun Q9 z => rb Q9 (br_f hc z)
  obtain ⟨hc, h⟩ := h
  have rb := fun Q9 z => rb Q9 (And.intro hc z)
  have h := h ((ok 20 0 _).2 (tyk_a 20 2 (by decide) (by decide) _))
  have rb := fun Q9 z => rb Q9 (im_n z)
  by_cases hc : (((σ 20 0 x1.toNatClampNeg) >>> ((4 : Int32) &&& 31)) &&& 15) = 4
  · have h := h.1 hc
    have rb := fun Q9 z => rb Q9 (br_t hc z)
    obtain ⟨hc, h⟩ := h
    have rb := fun Q9 z => rb Q9 (And.intro hc z)
    have h := h ((ok 20 0 _).2 (tyk_a 20 2 (by decide) (by decide) _))
    have rb := fun Q9 z => rb Q9 (im_n z)
    obtain ⟨r1, h, rc⟩ := e19_two (by decide) ok h
    have rb := fun Q9 z => rb Q9 (rc _ z)
    by_cases hc : (((σ 20 0 x1.toNatClampNeg) &&& 15) * 4) < 20
    · have h := h.1 hc
      have rb := fun Q9 z => rb Q9 (br_t hc z)
      exact ⟨σ, h, ok, fr, fun Q9 hq => rb Q9 hq⟩
    have h := h.2 hc
    have rb := fun Q9 z => rb Q9 (br_f hc z)
    by_cases hc : r1 < (((σ 20 0 x1.toNatClampNeg) &&& 15) * 4)
    · have h := h.1 hc
      have rb := fun Q9 z => rb Q9 (br_t hc z)
      exact ⟨σ, h, ok, fr, fun Q9 hq => rb Q9 hq⟩
    have h := h.2 hc
    have rb := fun Q9 z => rb Q9 (br_f hc z)
    by_cases hc : x2 < r1
    · have h := h.1 hc
      have rb := fun Q9 z => rb Q9 (br_t hc z)
      exact ⟨σ, h, ok, fr, fun Q9 hq => rb Q9 hq⟩
    have h := h.2 hc
    have rb := fun Q9 z => rb Q9 (br_f hc z)
    obtain ⟨r2, h, rc⟩ := e19_added (by decide) ok h
    have rb := fun Q9 z => rb Q9 (rc _ z)
    obtain ⟨r3, h, rc⟩ := e19_folded ok h
    have rb := fun Q9 z => rb Q9 (rc _ z)
    by_cases hc : r3 = 0
    · have h := h.1 hc
      have rb := fun Q9 z => rb Q9 (br_t hc z)
      obtain ⟨r4, h, rc⟩ := e19_four (by decide) ok h
      have rb := fun Q9 z => rb Q9 (rc _ z)
      obtain ⟨r5, h, rc⟩ := e19_four (by decide) ok h
      have rb := fun Q9 z => rb Q9 (rc _ z)
      by_cases hc : r5 = (σ 0 0 12)
      · have h := h.2 hc
        have rb := fun Q9 z => rb Q9 (br_u hc z)
        by_cases hc : r4 = (σ 0 0 12)
        · have h := h.1 hc
          have rb := fun Q9 z => rb Q9 (br_t hc z)
          exact ⟨σ, h, ok, fr, fun Q9 hq => rb Q9 hq⟩
        have h := h.2 hc
        have rb := fun Q9 z => rb Q9 (br_f hc z)
        obtain ⟨r6, h, rc⟩ := e19_isUsual ok h
        have rb := fun Q9 z => rb Q9 (rc _ z)
        by_cases hc : r6 = 0
        · have h := h.2 hc
          have rb := fun Q9 z => rb Q9 (br_u hc z)
          exact ⟨σ, h, ok, fr, fun Q9 hq => rb Q9 hq⟩
        have h := h.1 hc
        have rb := fun Q9 z => rb Q9 (br_v hc z)
        obtain ⟨r7, h, rc⟩ := e19_two (by decide) ok h
        have rb := fun Q9 z => rb Q9 (rc _ z)
        by_cases hc : (r7 &&& 8192) = 0
        · have h := h.2 hc
          have rb := fun Q9 z => rb Q9 (br_u hc z)
          obtain ⟨σ9, h, ok, fr9, rc⟩ := e0_packet_J168 ok h
          exact ⟨σ9, h, ok, fr.tr (fr9.sub (mF_sub rfl sub_nil rfl sud_nil)), fun Q9 hq => rb Q9 (rc Q9 hq)⟩
        have h := h.1 hc
        have rb := fun Q9 z => rb Q9 (br_v hc z)
        obtain ⟨σ9, h, ok, fr9, rc⟩ := e0_packet_J168 ok h
        exact ⟨σ9, h, ok, fr.tr (fr9.sub (mF_sub rfl sub_nil rfl sud_nil)), fun Q9 hq => rb Q9 (rc Q9 hq)⟩
      have h := h.1 hc
      have rb := fun Q9 z => rb Q9 (br_v hc z)
      exact ⟨σ, h, ok, fr, fun Q9 hq => rb Q9 hq⟩
    have h := h.2 hc
    have rb := fun Q9 z => rb Q9 (br_f hc z)
    exact ⟨σ, h, ok, fr, fun Q9 hq => rb Q9 hq⟩
  have h := h.2 hc
  have rb := fun Q9 z => rb Q9 (br_f hc z)
  exact ⟨σ, h, ok, fr, fun Q9 hq => rb Q9 hq⟩
/-! WebHost.frame(I)V -/
set_option maxHeartbeats 4000000 in
theorem e0_frame {σ : St} {x1 : Int32} {Q : St → Prop} (ok : okS σ) (h : w0_frame σ x1 Q) : (∃ (σ' : St), Q σ' ∧ okS σ' ∧ Fr (mF [23, 25, 26, 28, 29, 30, 31, 32, 35, 36, 37, 38, 39, 40, 41, 42, 43, 44, 90] [] [(10, [0, 1, 2, 3, 4, 5, 6, 7, 8, 9, 10, 107]), (11, [2, 3, 4, 5, 6, 7, 8, 9, 10, 11, 12, 13, 14, 15, 16, 17, 18, 19, 21, 22, 23, 24, 26, 27, 28, 29, 30, 31, 32, 33, 34, 35, 36, 37, 38, 39]), (12, [2, 3]), (13, [1]), (2, [3]), (3, [7, 9]), (4, [0, 1, 2, 4]), (5, [2]), (6, [1, 2]), (7, [0, 1, 2, 3, 6, 7]), (8, [3, 4, 5, 6, 7, 8]), (9, [2, 3, 4, 5, 6, 7, 8, 9, 10, 11, 12, 13, 14, 15, 16, 18])] []) σ σ' ∧ ∀ (Q9 : St → Prop), Q9 σ' → w0_frame σ x1 Q9) := by
  have fr : Fr (mF [23, 25, 26, 28, 29, 30, 31, 32, 35, 36, 37, 38, 39, 40, 41, 42, 43, 44, 90] [] [(10, [0, 1, 2, 3, 4, 5, 6, 7, 8, 9, 10, 107]), (11, [2, 3, 4, 5, 6, 7, 8, 9, 10, 11, 12, 13, 14, 15, 16, 17, 18, 19, 21, 22, 23, 24, 26, 27, 28, 29, 30, 31, 32, 33, 34, 35, 36, 37, 38, 39]), (12, [2, 3]), (13, [1]), (2, [3]), (3, [7, 9]), (4, [0, 1, 2, 4]), (5, [2]), (6, [1, 2]), (7, [0, 1, 2, 3, 6, 7]), (8, [3, 4, 5, 6, 7, 8]), (9, [2, 3, 4, 5, 6, 7, 8, 9, 10, 11, 12, 13, 14, 15, 16, 18])] []) σ σ := Fr.rf
  have rb : ∀ (Q9 : St → Prop), w0_frame σ x1 Q9 → w0_frame σ x1 Q9 := fun _ z => z
  by_cases hc : x1 < 14
  · have h := h.1 hc
    have rb := fun Q9 z => rb Q9 (br_t hc z)
    exact ⟨σ, h, ok, fr, fun Q9 hq => rb Q9 hq⟩
  have h := h.2 hc
  have rb := fun Q9 z => rb Q9 (br_f hc z)
  obtain ⟨r1, h, rc⟩ := e2_isForUs (by decide) ok h
  have rb := fun Q9 z => rb Q9 (rc _ z)
  by_cases hc : r1 = 0
  · have h := h.2 hc
    have rb := fun Q9 z => rb Q9 (br_u hc z)
    exact ⟨σ, h, ok, fr, fun Q9 hq => rb Q9 hq⟩
  have h := h.1 hc
  have rb := fun Q9 z => rb Q9 (br_v hc z)
  obtain ⟨r2, h, rc⟩ := e19_two (by decide) ok h
  have rb := fun Q9 z => rb Q9 (rc _ z)
  by_cases hc : r2 = 2054
  · have h := h.2 hc
    have rb := fun Q9 z => rb Q9 (br_u hc z)
    obtain ⟨σ4, h, ok, fr9, rc⟩ := e3_arrive (by decide) ok h
    have fr := fr.tr (fr9.sub (mF_sub rfl sub_nil rfl sud_nil))
    have rb := fun Q9 z => rb Q9 (rc _ z)
    exact ⟨σ4, h, ok, fr, fun Q9 hq => rb Q9 hq⟩
  have h := h.1 hc
  have rb := fun Q9 z => rb Q9 (br_v hc z)
  by_cases hc : r2 = 2048
  · have h := h.2 hc
    have rb := fun Q9 z => rb Q9 (br_u hc z)
    obtain ⟨σ3, h, ok, fr9, rc⟩ := e0_packet ok h
    have fr := fr.tr (fr9.sub (mF_sub rfl sub_nil rfl sud_nil))
    have rb := fun Q9 z => rb Q9 (rc _ z)
    exact ⟨σ3, h, ok, fr, fun Q9 hq => rb Q9 hq⟩
  have h := h.1 hc
  have rb := fun Q9 z => rb Q9 (br_v hc z)
  exact ⟨σ, h, ok, fr, fun Q9 hq => rb Q9 hq⟩
/-! WebHost.arrive(I)I -/
set_option maxHeartbeats 4000000 in
theorem e0_arrive {σ : St} {x1 : Int32} {Q : Int32 → St → Prop} (ok : okS σ) (h : w0_arrive σ x1 Q) : (∃ (r : Int32) (σ' : St), Q r σ' ∧ okS σ' ∧ Fr (mF [23, 25, 26, 28, 29, 30, 31, 32, 35, 36, 37, 38, 39, 40, 41, 42, 43, 44, 90] [] [(0, [1, 13]), (10, [0, 1, 2, 3, 4, 5, 6, 7, 8, 9, 10, 107]), (11, [2, 3, 4, 5, 6, 7, 8, 9, 10, 11, 12, 13, 14, 15, 16, 17, 18, 19, 21, 22, 23, 24, 26, 27, 28, 29, 30, 31, 32, 33, 34, 35, 36, 37, 38, 39]), (12, [2, 3]), (13, [1]), (2, [3, 4]), (3, [7, 9]), (4, [0, 1, 2, 4]), (5, [2]), (6, [1, 2]), (7, [0, 1, 2, 3, 6, 7]), (8, [3, 4, 5, 6, 7, 8]), (9, [2, 3, 4, 5, 6, 7, 8, 9, 10, 11, 12, 13, 14, 15, 16, 18])] []) σ σ' ∧ ∀ (Q9 : Int32 → St → Prop), Q9 r σ' → w0_arrive σ x1 Q9) := by
  have fr : Fr (mF [23, 25, 26, 28, 29, 30, 31, 32, 35, 36, 37, 38, 39, 40, 41, 42, 43, 44, 90] [] [(0, [1, 13]), (10, [0, 1, 2, 3, 4, 5, 6, 7, 8, 9, 10, 107]), (11, [2, 3, 4, 5, 6, 7, 8, 9, 10, 11, 12, 13, 14, 15, 16, 17, 18, 19, 21, 22, 23, 24, 26, 27, 28, 29, 30, 31, 32, 33, 34, 35, 36, 37, 38, 39]), (12, [2, 3]), (13, [1]), (2, [3, 4]), (3, [7, 9]), (4, [0, 1, 2, 4]), (5, [2]), (6, [1, 2]), (7, [0, 1, 2, 3, 6, 7]), (8, [3, 4, 5, 6, 7, 8]), (9, [2, 3, 4, 5, 6, 7, 8, 9, 10, 11, 12, 13, 14, 15, 16, 18])] []) σ σ := Fr.rf
  have rb : ∀ (Q9 : Int32 → St → Prop), w0_arrive σ x1 Q9 → w0_arrive σ x1 Q9 := fun _ z => z
  obtain ⟨r1, h, rc⟩ := e0_refusal ok h
  have rb := fun Q9 z => rb Q9 (rc _ z)
  by_cases hc : 0 ≤ r1
  · have h := h.1 hc
    have rb := fun Q9 z => rb Q9 (br_t hc z)
    by_cases hc : (σ 0 0 1) = 0
    · have h := h.1 hc
      have rb := fun Q9 z => rb Q9 (br_t hc z)
      exact ⟨(-3), σ, h, ok, fr, fun Q9 hq => rb Q9 hq⟩
    have h := h.2 hc
    have rb := fun Q9 z => rb Q9 (br_f hc z)
    by_cases hc : (σ 0 0 1) ≤ 1514
    · have h := h.1 hc
      have rb := fun Q9 z => rb Q9 (br_t hc z)
      obtain ⟨σ2, h, ok, fr9, rc⟩ := e0_goOn ok h
      have fr := fr.tr (fr9.sub (mF_sub rfl sub_nil rfl sud_nil))
      have rb := fun Q9 z => rb Q9 (rc _ z)
      obtain ⟨σ3, e9⟩ : ∃ s : St, s = up3 σ2 0 0 13 ((σ2 0 0 13) + 1) := ⟨_, rfl⟩
      have h := h σ3 e9
      have rb := fun Q9 z => rb Q9 (nm_n e9 z)
      have ok : okS σ3 := by rw [e9]; exact (ok_n ok (by decide))
      have fr : Fr (mF [23, 25, 26, 28, 29, 30, 31, 32, 35, 36, 37, 38, 39, 40, 41, 42, 43, 44, 90] [] [(0, [1, 13]), (10, [0, 1, 2, 3, 4, 5, 6, 7, 8, 9, 10, 107]), (11, [2, 3, 4, 5, 6, 7, 8, 9, 10, 11, 12, 13, 14, 15, 16, 17, 18, 19, 21, 22, 23, 24, 26, 27, 28, 29, 30, 31, 32, 33, 34, 35, 36, 37, 38, 39]), (12, [2, 3]), (13, [1]), (2, [3, 4]), (3, [7, 9]), (4, [0, 1, 2, 4]), (5, [2]), (6, [1, 2]), (7, [0, 1, 2, 3, 6, 7]), (8, [3, 4, 5, 6, 7, 8]), (9, [2, 3, 4, 5, 6, 7, 8, 9, 10, 11, 12, 13, 14, 15, 16, 18])] []) σ σ3 := by rw [e9]; exact (Fr.up fr (mF_C (List.mem_of_getElem? (i := 0) rfl) rfl))
      obtain ⟨σ4, e9⟩ : ∃ s : St, s = up3 σ3 0 0 1 0 := ⟨_, rfl⟩
      have h := h σ4 e9
      have rb := fun Q9 z => rb Q9 (nm_n e9 z)
      have ok : okS σ4 := by rw [e9]; exact (ok_n ok (by decide))
      have fr : Fr (mF [23, 25, 26, 28, 29, 30, 31, 32, 35, 36, 37, 38, 39, 40, 41, 42, 43, 44, 90] [] [(0, [1, 13]), (10, [0, 1, 2, 3, 4, 5, 6, 7, 8, 9, 10, 107]), (11, [2, 3, 4, 5, 6, 7, 8, 9, 10, 11, 12, 13, 14, 15, 16, 17, 18, 19, 21, 22, 23, 24, 26, 27, 28, 29, 30, 31, 32, 33, 34, 35, 36, 37, 38, 39]), (12, [2, 3]), (13, [1]), (2, [3, 4]), (3, [7, 9]), (4, [0, 1, 2, 4]), (5, [2]), (6, [1, 2]), (7, [0, 1, 2, 3, 6, 7]), (8, [3, 4, 5, 6, 7, 8]), (9, [2, 3, 4, 5, 6, 7, 8, 9, 10, 11, 12, 13, 14, 15, 16, 18])] []) σ σ4 := by rw [e9]; exact (Fr.up fr (mF_C (List.mem_of_getElem? (i := 0) rfl) rfl))
      obtain ⟨σ5, h, ok, fr9, rc⟩ := e0_frame ok h
      have fr := fr.tr (fr9.sub (mF_sub rfl sub_nil rfl sud_nil))
      have rb := fun Q9 z => rb Q9 (rc _ z)
      exact ⟨((σ5 2 0 3) - (σ 2 0 3)), σ5, h, ok, fr, fun Q9 hq => rb Q9 hq⟩
    have h := h.2 hc
    have rb := fun Q9 z => rb Q9 (br_f hc z)
    exact ⟨(-3), σ, h, ok, fr, fun Q9 hq => rb Q9 hq⟩
  have h := h.2 hc
  have rb := fun Q9 z => rb Q9 (br_f hc z)
  exact ⟨r1, σ, h, ok, fr, fun Q9 hq => rb Q9 hq⟩
