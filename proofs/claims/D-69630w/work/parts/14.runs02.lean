/-! runs -/
set_option maxRecDepth 100000
/-! WebHost$Answer.number(I)V -/
set_option maxHeartbeats 4000000 in
theorem e13_number_L2 {σ : St} {o0 : Nat} {x1 : Int32} {Q : St → Prop} {K18 : Int32 → Prop} (ho0 : o0 < 16) (ok : okS σ) :
    ∀ (n : Nat) {x2 : Int32}, w13_number_L2 σ o0 x1 Q K18 n x2 → (∃ (x2' : Int32), K18 x2' ∧ ∀ (Q9 : St → Prop) (K9_18 : Int32 → Prop), K9_18 x2' → w13_number_L2 σ o0 x1 Q9 K9_18 n x2) := by
  intro n
  induction n with
  | zero =>
    intro x2 h
    exact False.elim h
  | succ n ih =>
    intro x2 h
    have rb : ∀ (Q9 : St → Prop) (K9_18 : Int32 → Prop), w13_number_L2 σ o0 x1 Q9 K9_18 (n + 1) x2 → w13_number_L2 σ o0 x1 Q9 K9_18 (n + 1) x2 := fun _ _ z => z
    obtain ⟨hc, h⟩ := h
    have rb := fun Q9 K9_18 z => rb Q9 K9_18 (And.intro hc z)
    by_cases hc : (x1 / x2) ≤ 9
    · have h := h.1 hc
      have rb := fun Q9 K9_18 z => rb Q9 K9_18 (br_t hc z)
      exact ⟨x2, h, fun Q9 K9_18 hq => rb Q9 K9_18 hq⟩
    have h := h.2 hc
    have rb := fun Q9 K9_18 z => rb Q9 K9_18 (br_f hc z)
    rcases ih h with ⟨x2, h, rc⟩
    · exact ⟨x2, h, fun Q9 K9_18 hq => rb Q9 K9_18 (rc Q9 K9_18 hq)⟩
set_option maxHeartbeats 4000000 in
theorem e13_number_L18 {o0 : Nat} {x1 : Int32} {Q : St → Prop} {K43 : St → Prop} (ho0 : o0 < 16) :
    ∀ (n : Nat) {σ : St} {x2 : Int32} (ok : okS σ), w13_number_L18 o0 x1 Q K43 n σ x2 → (∃ (σ' : St), K43 σ' ∧ okS σ' ∧ Fr (mF [] [(44, o0)] [] [(13, o0, [1])]) σ σ' ∧ ∀ (Q9 : St → Prop) (K9_43 : St → Prop), K9_43 σ' → w13_number_L18 o0 x1 Q9 K9_43 n σ x2) := by
  intro n
  induction n with
  | zero =>
    intro σ x2 ok h
    exact False.elim h
  | succ n ih =>
    intro σ x2 ok h
    have fr : Fr (mF [] [(44, o0)] [] [(13, o0, [1])]) σ σ := Fr.rf
    have rb : ∀ (Q9 : St → Prop) (K9_43 : St → Prop), w13_number_L18 o0 x1 Q9 K9_43 (n + 1) σ x2 → w13_number_L18 o0 x1 Q9 K9_43 (n + 1) σ x2 := fun _ _ z => z
    by_cases hc : x2 ≤ 0
    · have h := h.1 hc
      have rb := fun Q9 K9_43 z => rb Q9 K9_43 (br_t hc z)
      exact ⟨σ, h, ok, fr, fun Q9 K9_43 hq => rb Q9 K9_43 hq⟩
    have h := h.2 hc
    have rb := fun Q9 K9_43 z => rb Q9 K9_43 (br_f hc z)
    obtain ⟨hc, h⟩ := h
    have rb := fun Q9 K9_43 z => rb Q9 K9_43 (And.intro hc z)
    obtain ⟨σ3, h, ok, fr9, rc⟩ := e13_put ho0 ok h
    have fr := fr.tr (fr9.sub (mF_sub rfl (sub_c (Or.inr (List.mem_of_getElem? (i := 0) rfl)) sub_nil) rfl (sud_c (Or.inr ⟨_, List.mem_of_getElem? (i := 0) rfl, rfl⟩) sud_nil)))
    have rb := fun Q9 K9_43 z => rb Q9 K9_43 (rc _ z)
    rcases ih ok h with ⟨σ', h, ok, fr9, rc⟩
    · exact ⟨σ', h, ok, fr.tr fr9, fun Q9 K9_43 hq => rb Q9 K9_43 (rc Q9 K9_43 hq)⟩
set_option maxHeartbeats 4000000 in
theorem e13_number {σ : St} {o0 : Nat} {x1 : Int32} {Q : St → Prop} (ho0 : o0 < 16) (ok : okS σ) (h : w13_number σ o0 x1 Q) : (∃ (σ' : St), Q σ' ∧ okS σ' ∧ Fr (mF [] [(44, o0)] [] [(13, o0, [1])]) σ σ' ∧ ∀ (Q9 : St → Prop), Q9 σ' → w13_number σ o0 x1 Q9) := by
  have fr : Fr (mF [] [(44, o0)] [] [(13, o0, [1])]) σ σ := Fr.rf
  have rb : ∀ (Q9 : St → Prop), w13_number σ o0 x1 Q9 → w13_number σ o0 x1 Q9 := fun _ z => z
  obtain ⟨n9, h⟩ := h
  rcases e13_number_L2 ho0 ok n9 h with ⟨x2_2, h, rc⟩
  · have rb := fun Q9 z => rb Q9 (Exists.intro n9 (rc _ _ z))
    obtain ⟨n9, h⟩ := h
    rcases e13_number_L18 ho0 n9 ok h with ⟨σ5, h, ok, fr9, rc⟩
    · have rb := fun Q9 z => rb Q9 (Exists.intro n9 (rc _ _ z))
      have fr := fr.tr (fr9.sub (mF_sub rfl (sub_c (Or.inr (List.mem_of_getElem? (i := 0) rfl)) sub_nil) rfl (sud_c (Or.inr ⟨_, List.mem_of_getElem? (i := 0) rfl, rfl⟩) sud_nil)))
      exact ⟨σ5, h, ok, fr, fun Q9 hq => rb Q9 hq⟩
/-! WebHost$Net.four([BI)I -/
set_option maxHeartbeats 4000000 in
theorem e19_four {σ : St} {k0 : Nat} {i0 : Nat} {x1 : Int32} {Q : Int32 → Prop} (hk0 : abc k0 i0 = true) (ok : okS σ) (h : w19_four σ k0 i0 x1 Q) : (∃ r : Int32, Q r ∧ ∀ (Q9 : Int32 → Prop), Q9 r → w19_four σ k0 i0 x1 Q9) := by
  have rb : ∀ (Q9 : Int32 → Prop), w19_four σ k0 i0 x1 Q9 → w19_four σ k0 i0 x1 Q9 := fun _ z => z
  obtain ⟨r1, h, rc⟩ := e19_two hk0 ok h
  have rb := fun Q9 z => rb Q9 (rc _ z)
  obtain ⟨r2, h, rc⟩ := e19_two hk0 ok h
  have rb := fun Q9 z => rb Q9 (rc _ z)
  exact ⟨((r1 <<< ((16 : Int32) &&& 31)) ||| r2), h, fun Q9 hq => rb Q9 hq⟩
/-! WebHost$Net.putFour([BII)V -/
set_option maxHeartbeats 4000000 in
theorem e19_putFour {σ : St} {k0 : Nat} {i0 : Nat} {x1 : Int32} {x2 : Int32} {Q : St → Prop} (hk0 : abc k0 i0 = true) (ok : okS σ) (h : w19_putFour σ k0 i0 x1 x2 Q) : (∃ (σ' : St), Q σ' ∧ okS σ' ∧ Fr (mR k0 i0) σ σ' ∧ ∀ (Q9 : St → Prop), Q9 σ' → w19_putFour σ k0 i0 x1 x2 Q9) := by
  have fr : Fr (mR k0 i0) σ σ := Fr.rf
  have rb : ∀ (Q9 : St → Prop), w19_putFour σ k0 i0 x1 x2 Q9 → w19_putFour σ k0 i0 x1 x2 Q9 := fun _ z => z
  obtain ⟨σ1, h, ok, fr9, rc⟩ := e19_putTwo hk0 ok h
  have fr := fr.tr (fr9.sub (fun _ _ _ h => h))
  have rb := fun Q9 z => rb Q9 (rc _ z)
  obtain ⟨σ2, h, ok, fr9, rc⟩ := e19_putTwo hk0 ok h
  have fr := fr.tr (fr9.sub (fun _ _ _ h => h))
  have rb := fun Q9 z => rb Q9 (rc _ z)
  exact ⟨σ2, h, ok, fr, fun Q9 hq => rb Q9 hq⟩
/-! java/lang/String.checkIndex(II)V -/
set_option maxHeartbeats 4000000 in
theorem eJ1_checkIndex {x0 : Int32} {x1 : Int32} {Q : Prop} (h : wJ1_checkIndex x0 x1 Q) : (Q ∧ ∀ (Q9 : Prop), Q9 → wJ1_checkIndex x0 x1 Q9) := by
  have rb : ∀ (Q9 : Prop), wJ1_checkIndex x0 x1 Q9 → wJ1_checkIndex x0 x1 Q9 := fun _ z => z
  obtain ⟨r2, h, rc⟩ := eJ3_checkIndex h
  have rb := fun Q9 z => rb Q9 (rc _ z)
  exact ⟨h, fun Q9 hq => rb Q9 hq⟩
/-! java/lang/StringLatin1.indexOf([BIII)I -/
set_option maxHeartbeats 4000000 in
theorem eJ2_indexOf {t0 : Nat} {x1 : Int32} {x2 : Int32} {x3 : Int32} {Q : Int32 → Prop} (ht0 : t0 < nS) (h : wJ2_indexOf t0 x1 x2 x3 Q) : (∃ r : Int32, Q r ∧ ∀ (Q9 : Int32 → Prop), Q9 r → wJ2_indexOf t0 x1 x2 x3 Q9) := by
  have rb : ∀ (Q9 : Int32 → Prop), wJ2_indexOf t0 x1 x2 x3 Q9 → wJ2_indexOf t0 x1 x2 x3 Q9 := fun _ z => z
  obtain ⟨r1, h, rc⟩ := eJ2_canEncode h
  have rb := fun Q9 z => rb Q9 (rc _ z)
  by_cases hc : r1 = 0
  · have h := h.2 hc
    have rb := fun Q9 z => rb Q9 (br_u hc z)
    exact ⟨(-1), h, fun Q9 hq => rb Q9 hq⟩
  have h := h.1 hc
  have rb := fun Q9 z => rb Q9 (br_v hc z)
  by_cases hc : (imax x2 0) < (imin x3 (slI t0))
  · have h := h.1 hc
    have rb := fun Q9 z => rb Q9 (br_t hc z)
    obtain ⟨r2, h, rc⟩ := eJ2_indexOfChar ht0 h
    have rb := fun Q9 z => rb Q9 (rc _ z)
    exact ⟨r2, h, fun Q9 hq => rb Q9 hq⟩
  have h := h.2 hc
  have rb := fun Q9 z => rb Q9 (br_f hc z)
  exact ⟨(-1), h, fun Q9 hq => rb Q9 hq⟩
/-! java/lang/String.length()I -/
set_option maxHeartbeats 4000000 in
theorem eJ1_length {t0 : Nat} {Q : Int32 → Prop} (ht0 : t0 < nS) (h : wJ1_length t0 Q) : (∃ r : Int32, Q r ∧ ∀ (Q9 : Int32 → Prop), Q9 r → wJ1_length t0 Q9) := by
  have rb : ∀ (Q9 : Int32 → Prop), wJ1_length t0 Q9 → wJ1_length t0 Q9 := fun _ z => z
  obtain ⟨r1, h, rc⟩ := eJ1_coder ht0 h
  have rb := fun Q9 z => rb Q9 (rc _ z)
  exact ⟨((slI t0) >>> (r1 &&& 31)), h, fun Q9 hq => rb Q9 hq⟩
/-! WebHostModel.at(II)I -/
set_option maxHeartbeats 4000000 in
theorem e14_at {σ : St} {x1 : Int32} {x2 : Int32} {Q : Int32 → Prop} (ok : okS σ) (h : w14_at σ x1 x2 Q) : (∃ r : Int32, Q r ∧ ∀ (Q9 : Int32 → Prop), Q9 r → w14_at σ x1 x2 Q9) := by
  have rb : ∀ (Q9 : Int32 → Prop), w14_at σ x1 x2 Q9 → w14_at σ x1 x2 Q9 := fun _ z => z
  obtain ⟨r1, h, rc⟩ := e14_slot ok h
  have rb := fun Q9 z => rb Q9 (rc _ z)
  by_cases hc : r1 < 0
  · have h := h.1 hc
    have rb := fun Q9 z => rb Q9 (br_t hc z)
    exact ⟨(-1), h, fun Q9 hq => rb Q9 hq⟩
  have h := h.2 hc
  have rb := fun Q9 z => rb Q9 (br_f hc z)
  by_cases hc : x2 < 0
  · have h := h.1 hc
    have rb := fun Q9 z => rb Q9 (br_t hc z)
    exact ⟨(-1), h, fun Q9 hq => rb Q9 hq⟩
  have h := h.2 hc
  have rb := fun Q9 z => rb Q9 (br_f hc z)
  obtain ⟨hc, h⟩ := h
  have rb := fun Q9 z => rb Q9 (And.intro hc z)
  by_cases hc : x2 < (σ 59 0 r1.toNatClampNeg)
  · have h := h.1 hc
    have rb := fun Q9 z => rb Q9 (br_t hc z)
    obtain ⟨hc, h⟩ := h
    have rb := fun Q9 z => rb Q9 (And.intro hc z)
    have h := h ((ok 58 0 _).2 (tyk_a 58 2 (by decide) (by decide) _))
    have rb := fun Q9 z => rb Q9 (im_n z)
    exact ⟨((σ 58 0 ((r1 * 1514) + x2).toNatClampNeg) &&& 255), h, fun Q9 hq => rb Q9 hq⟩
  have h := h.2 hc
  have rb := fun Q9 z => rb Q9 (br_f hc z)
  exact ⟨(-1), h, fun Q9 hq => rb Q9 hq⟩
/-! WebHostModel.byteAt(LWebHostModel$Connection;I)I -/
set_option maxHeartbeats 4000000 in
theorem e14_byteAt {σ : St} {o0 : Nat} {x1 : Int32} {Q : Int32 → Prop} (ho0 : o0 < 16) (ok : okS σ) (h : w14_byteAt σ o0 x1 Q) : (∃ r : Int32, Q r ∧ ∀ (Q9 : Int32 → Prop), Q9 r → w14_byteAt σ o0 x1 Q9) := by
  have rb : ∀ (Q9 : Int32 → Prop), w14_byteAt σ o0 x1 Q9 → w14_byteAt σ o0 x1 Q9 := fun _ z => z
  obtain ⟨r1, h, rc⟩ := e15_held ho0 ok h
  have rb := fun Q9 z => rb Q9 (rc _ z)
  by_cases hc : r1 ≤ x1
  · have h := h.1 hc
    have rb := fun Q9 z => rb Q9 (br_t hc z)
    exact ⟨(-1), h, fun Q9 hq => rb Q9 hq⟩
  have h := h.2 hc
  have rb := fun Q9 z => rb Q9 (br_f hc z)
  obtain ⟨hc, h⟩ := h
  have rb := fun Q9 z => rb Q9 (And.intro hc z)
  have h := h ((ok 72 o0 _).2 (tyk_a 72 2 (by decide) (by decide) _))
  have rb := fun Q9 z => rb Q9 (im_n z)
  exact ⟨((σ 72 o0 x1.toNatClampNeg) &&& 255), h, fun Q9 hq => rb Q9 hq⟩
/-! WebHostModel.contentLength(II)V -/
set_option maxHeartbeats 4000000 in
theorem e14_contentLength_L37 {σ : St} {x2 : Int32} {Q : St → Prop} {K80 : Int32 → Int32 → Prop} (ok : okS σ) :
    ∀ (n : Nat) {x3 : Int32} {x4 : Int32} {x5 : Int32}, w14_contentLength_L37 σ x2 Q K80 n x3 x4 x5 → (∃ (x3' : Int32) (x4' : Int32), K80 x3' x4' ∧ ∀ (Q9 : St → Prop) (K9_80 : Int32 → Int32 → Prop), K9_80 x3' x4' → w14_contentLength_L37 σ x2 Q9 K9_80 n x3 x4 x5) := by
  intro n
  induction n with
  | zero =>
    intro x3 x4 x5 h
    exact False.elim h
  | succ n ih =>
    intro x3 x4 x5 h
    have rb : ∀ (Q9 : St → Prop) (K9_80 : Int32 → Int32 → Prop), w14_contentLength_L37 σ x2 Q9 K9_80 (n + 1) x3 x4 x5 → w14_contentLength_L37 σ x2 Q9 K9_80 (n + 1) x3 x4 x5 := fun _ _ z => z
    by_cases hc : x2 ≤ x5
    · have h := h.1 hc
      have rb := fun Q9 K9_80 z => rb Q9 K9_80 (br_t hc z)
      exact ⟨x3, x4, h, fun Q9 K9_80 hq => rb Q9 K9_80 hq⟩
    have h := h.2 hc
    have rb := fun Q9 K9_80 z => rb Q9 K9_80 (br_f hc z)
    by_cases hc : x4 = 0
    · have h := h.1 hc
      have rb := fun Q9 K9_80 z => rb Q9 K9_80 (br_t hc z)
      exact ⟨x3, x4, h, fun Q9 K9_80 hq => rb Q9 K9_80 hq⟩
    have h := h.2 hc
    have rb := fun Q9 K9_80 z => rb Q9 K9_80 (br_f hc z)
    obtain ⟨r2, h, rc⟩ := e14_headAt ok h
    have rb := fun Q9 K9_80 z => rb Q9 K9_80 (rc _ z)
    obtain ⟨r3, h, rc⟩ := e14_isDigit ok h
    have rb := fun Q9 K9_80 z => rb Q9 K9_80 (rc _ z)
    obtain ⟨r4, h, rc⟩ := e14_headAt ok h
    have rb := fun Q9 K9_80 z => rb Q9 K9_80 (rc _ z)
    rcases ih h with ⟨x3, x4, h, rc⟩
    · exact ⟨x3, x4, h, fun Q9 K9_80 hq => rb Q9 K9_80 (rc Q9 K9_80 hq)⟩
set_option maxHeartbeats 4000000 in
theorem e14_contentLength_J80 {σ : St} {x3 : Int32} {x4 : Int32} {Q : St → Prop} (ok : okS σ) (h : w14_contentLength_J80 σ x3 x4 Q) : (∃ (σ' : St), Q σ' ∧ okS σ' ∧ Fr (mF [] [] [(14, [51, 52, 53])] []) σ σ' ∧ ∀ (Q9 : St → Prop), Q9 σ' → w14_contentLength_J80 σ x3 x4 Q9) := by
  have fr : Fr (mF [] [] [(14, [51, 52, 53])] []) σ σ := Fr.rf
  have rb : ∀ (Q9 : St → Prop), w14_contentLength_J80 σ x3 x4 Q9 → w14_contentLength_J80 σ x3 x4 Q9 := fun _ z => z
  by_cases hc : x4 = 0
  · have h := h.2 hc
    have rb := fun Q9 z => rb Q9 (br_u hc z)
    obtain ⟨σ9, e9⟩ : ∃ s : St, s = up3 σ 14 0 52 1 := ⟨_, rfl⟩
    have h := h σ9 e9
    have rb := fun Q9 z => rb Q9 (nm_n e9 z)
    have ok : okS σ9 := by rw [e9]; exact (ok_z ok (by decide) (Or.inr rfl))
    have fr : Fr (mF [] [] [(14, [51, 52, 53])] []) σ σ9 := by rw [e9]; exact (Fr.up fr (mF_C (List.mem_of_getElem? (i := 0) rfl) rfl))
    exact ⟨σ9, h, ok, fr, fun Q9 hq => rb Q9 hq⟩
  have h := h.1 hc
  have rb := fun Q9 z => rb Q9 (br_v hc z)
  by_cases hc : x3 ≤ 65536
  · have h := h.1 hc
    have rb := fun Q9 z => rb Q9 (br_t hc z)
    obtain ⟨σ7, e9⟩ : ∃ s : St, s = up3 σ 14 0 51 x3 := ⟨_, rfl⟩
    have h := h σ7 e9
    have rb := fun Q9 z => rb Q9 (nm_n e9 z)
    have ok : okS σ7 := by rw [e9]; exact (ok_n ok (by decide))
    have fr : Fr (mF [] [] [(14, [51, 52, 53])] []) σ σ7 := by rw [e9]; exact (Fr.up fr (mF_C (List.mem_of_getElem? (i := 0) rfl) rfl))
    exact ⟨σ7, h, ok, fr, fun Q9 hq => rb Q9 hq⟩
  have h := h.2 hc
  have rb := fun Q9 z => rb Q9 (br_f hc z)
  obtain ⟨σ8, e9⟩ : ∃ s : St, s = up3 σ 14 0 53 1 := ⟨_, rfl⟩
  have h := h σ8 e9
  have rb := fun Q9 z => rb Q9 (nm_n e9 z)
  have ok : okS σ8 := by rw [e9]; exact (ok_z ok (by decide) (Or.inr rfl))
  have fr : Fr (mF [] [] [(14, [51, 52, 53])] []) σ σ8 := by rw [e9]; exact (Fr.up fr (mF_C (List.mem_of_getElem? (i := 0) rfl) rfl))
  exact ⟨σ8, h, ok, fr, fun Q9 hq => rb Q9 hq⟩
set_option maxHeartbeats 4000000 in
theorem e14_contentLength {σ : St} {x1 : Int32} {x2 : Int32} {Q : St → Prop} (ok : okS σ) (h : w14_contentLength σ x1 x2 Q) : (∃ (σ' : St), Q σ' ∧ okS σ' ∧ Fr (mF [] [] [(14, [49, 51, 52, 53])] []) σ σ' ∧ ∀ (Q9 : St → Prop), Q9 σ' → w14_contentLength σ x1 x2 Q9) := by
  have fr : Fr (mF [] [] [(14, [49, 51, 52, 53])] []) σ σ := Fr.rf
  have rb : ∀ (Q9 : St → Prop), w14_contentLength σ x1 x2 Q9 → w14_contentLength σ x1 x2 Q9 := fun _ z => z
  obtain ⟨σ1, e9⟩ : ∃ s : St, s = up3 σ 14 0 49 ((σ 14 0 49) + 1) := ⟨_, rfl⟩
  have h := h σ1 e9
  have rb := fun Q9 z => rb Q9 (nm_n e9 z)
  have ok : okS σ1 := by rw [e9]; exact (ok_n ok (by decide))
  have fr : Fr (mF [] [] [(14, [49, 51, 52, 53])] []) σ σ1 := by rw [e9]; exact (Fr.up fr (mF_C (List.mem_of_getElem? (i := 0) rfl) rfl))
  by_cases hc : (x2 - x1) < 1
  · have h := h.1 hc
    have rb := fun Q9 z => rb Q9 (br_t hc z)
    obtain ⟨n9, h⟩ := h
    rcases e14_contentLength_L37 ok n9 h with ⟨x3_6, x4_6, h, rc⟩
    · have rb := fun Q9 z => rb Q9 (Exists.intro n9 (rc _ _ z))
      obtain ⟨σ9, h, ok, fr9, rc⟩ := e14_contentLength_J80 ok h
      exact ⟨σ9, h, ok, fr.tr (fr9.sub (mF_sub rfl sub_nil rfl sud_nil)), fun Q9 hq => rb Q9 (rc Q9 hq)⟩
  have h := h.2 hc
  have rb := fun Q9 z => rb Q9 (br_f hc z)
  by_cases hc : 9 < (x2 - x1)
  · have h := h.1 hc
    have rb := fun Q9 z => rb Q9 (br_t hc z)
    obtain ⟨n9, h⟩ := h
    rcases e14_contentLength_L37 ok n9 h with ⟨x3_11, x4_11, h, rc⟩
    · have rb := fun Q9 z => rb Q9 (Exists.intro n9 (rc _ _ z))
      obtain ⟨σ9, h, ok, fr9, rc⟩ := e14_contentLength_J80 ok h
      exact ⟨σ9, h, ok, fr.tr (fr9.sub (mF_sub rfl sub_nil rfl sud_nil)), fun Q9 hq => rb Q9 (rc Q9 hq)⟩
  have h := h.2 hc
  have rb := fun Q9 z => rb Q9 (br_f hc z)
  obtain ⟨n9, h⟩ := h
  rcases e14_contentLength_L37 ok n9 h with ⟨x3_13, x4_13, h, rc⟩
  · have rb := fun Q9 z => rb Q9 (Exists.intro n9 (rc _ _ z))
    obtain ⟨σ9, h, ok, fr9, rc⟩ := e14_contentLength_J80 ok h
    exact ⟨σ9, h, ok, fr.tr (fr9.sub (mF_sub rfl sub_nil rfl sud_nil)), fun Q9 hq => rb Q9 (rc Q9 hq)⟩
/-! WebHostModel.counting(I)LWebHostModel$Entry; -/
set_option maxHeartbeats 4000000 in
theorem e14_counting {σ : St} {x1 : Int32} {Q : Option Nat → Prop} (ok : okS σ) (h : w14_counting σ x1 Q) : (∃ r : Option Nat, Q r ∧ ∀ (Q9 : Option Nat → Prop), Q9 r → w14_counting σ x1 Q9) := by
  have rb : ∀ (Q9 : Option Nat → Prop), w14_counting σ x1 Q9 → w14_counting σ x1 Q9 := fun _ z => z
  obtain ⟨p1, h, rc⟩ := e14_entry ok h
  have rb := fun Q9 z => rb Q9 (rc _ z)
  rcases opt_or p1 with hp | ⟨i2, hp⟩
  · have h := h.1 hp
    have rb := fun Q9 z => rb Q9 (po_n hp z)
    exact ⟨none, h, fun Q9 hq => rb Q9 hq⟩
  obtain ⟨hq2, h⟩ := h.2 i2 hp
  have rb := fun Q9 z => rb Q9 (po_s hp (And.intro hq2 z))
  by_cases hc : 60000 ≤ ((σ 14 0 10) - (σ 16 i2 4))
  · have h := h.1 hc
    have rb := fun Q9 z => rb Q9 (br_t hc z)
    exact ⟨none, h, fun Q9 hq => rb Q9 hq⟩
  have h := h.2 hc
  have rb := fun Q9 z => rb Q9 (br_f hc z)
  exact ⟨(some i2), h, fun Q9 hq => rb Q9 hq⟩
/-! WebHostModel.dataWithin(LWebHostModel$Connection;I)I -/
set_option maxHeartbeats 4000000 in
theorem e14_dataWithin {σ : St} {o0 : Nat} {x1 : Int32} {Q : Int32 → Prop} (ho0 : o0 < 16) (ok : okS σ) (h : w14_dataWithin σ o0 x1 Q) : (∃ r : Int32, Q r ∧ ∀ (Q9 : Int32 → Prop), Q9 r → w14_dataWithin σ o0 x1 Q9) := by
  have rb : ∀ (Q9 : Int32 → Prop), w14_dataWithin σ o0 x1 Q9 → w14_dataWithin σ o0 x1 Q9 := fun _ z => z
  obtain ⟨r1, h, rc⟩ := e15_behind ho0 ok h
  have rb := fun Q9 z => rb Q9 (rc _ z)
  exact ⟨(imax 0 (imin (imin (σ 15 o0 10) (r1 - (σ 15 o0 5))) x1)), h, fun Q9 hq => rb Q9 hq⟩
/-! WebHostModel.extent()I -/
set_option maxHeartbeats 4000000 in
theorem e14_extent_J17 {σ : St} {xs0 : Int32} {xs1 : Int32} {Q : Int32 → Prop} (ok : okS σ) (h : w14_extent_J17 σ xs0 xs1 Q) : (∃ r : Int32, Q r ∧ ∀ (Q9 : Int32 → Prop), Q9 r → w14_extent_J17 σ xs0 xs1 Q9) := by
  have rb : ∀ (Q9 : Int32 → Prop), w14_extent_J17 σ xs0 xs1 Q9 → w14_extent_J17 σ xs0 xs1 Q9 := fun _ z => z
  obtain ⟨r2, h, rc⟩ := e14_is ok h
  have rb := fun Q9 z => rb Q9 (rc _ z)
  by_cases hc : r2 = 0
  · have h := h.1 hc
    have rb := fun Q9 z => rb Q9 (br_t hc z)
    exact ⟨((xs1 + xs0) + 0), h, fun Q9 hq => rb Q9 hq⟩
  have h := h.2 hc
  have rb := fun Q9 z => rb Q9 (br_f hc z)
  exact ⟨((xs1 + xs0) + 1), h, fun Q9 hq => rb Q9 hq⟩
set_option maxHeartbeats 4000000 in
theorem e14_extent {σ : St} {Q : Int32 → Prop} (ok : okS σ) (h : w14_extent σ Q) : (∃ r : Int32, Q r ∧ ∀ (Q9 : Int32 → Prop), Q9 r → w14_extent σ Q9) := by
  have rb : ∀ (Q9 : Int32 → Prop), w14_extent σ Q9 → w14_extent σ Q9 := fun _ z => z
  obtain ⟨r1, h, rc⟩ := e14_is ok h
  have rb := fun Q9 z => rb Q9 (rc _ z)
  by_cases hc : r1 = 0
  · have h := h.1 hc
    have rb := fun Q9 z => rb Q9 (br_t hc z)
    obtain ⟨r9, h, rc⟩ := e14_extent_J17 ok h
    exact ⟨r9, h, fun Q9 hq => rb Q9 (rc Q9 hq)⟩
  have h := h.2 hc
  have rb := fun Q9 z => rb Q9 (br_f hc z)
  obtain ⟨r9, h, rc⟩ := e14_extent_J17 ok h
  exact ⟨r9, h, fun Q9 hq => rb Q9 (rc Q9 hq)⟩
/-! WebHostModel.feed(IIIII)I -/
set_option maxHeartbeats 4000000 in
theorem e14_feed {σ : St} {x1 : Int32} {x2 : Int32} {x3 : Int32} {x4 : Int32} {x5 : Int32} {Q : Int32 → St → Prop} (ok : okS σ) (h : w14_feed σ x1 x2 x3 x4 x5 Q) : (∃ (r : Int32) (σ' : St), Q r σ' ∧ okS σ' ∧ Fr (mF [50] [] [(14, [1])] []) σ σ' ∧ ∀ (Q9 : Int32 → St → Prop), Q9 r σ' → w14_feed σ x1 x2 x3 x4 x5 Q9) := by
  have fr : Fr (mF [50] [] [(14, [1])] []) σ σ := Fr.rf
  have rb : ∀ (Q9 : Int32 → St → Prop), w14_feed σ x1 x2 x3 x4 x5 Q9 → w14_feed σ x1 x2 x3 x4 x5 Q9 := fun _ z => z
  by_cases hc : ((σ 14 0 1) + 20) ≤ 65540
  · have h := h.1 hc
    have rb := fun Q9 z => rb Q9 (br_t hc z)
    obtain ⟨σ1, h, ok, fr9, rc⟩ := e14_word ok h
    have fr := fr.tr (fr9.sub (mF_sub rfl sub_nil rfl sud_nil))
    have rb := fun Q9 z => rb Q9 (rc _ z)
    obtain ⟨σ2, h, ok, fr9, rc⟩ := e14_word ok h
    have fr := fr.tr (fr9.sub (mF_sub rfl sub_nil rfl sud_nil))
    have rb := fun Q9 z => rb Q9 (rc _ z)
    obtain ⟨σ3, h, ok, fr9, rc⟩ := e14_word ok h
    have fr := fr.tr (fr9.sub (mF_sub rfl sub_nil rfl sud_nil))
    have rb := fun Q9 z => rb Q9 (rc _ z)
    obtain ⟨σ4, h, ok, fr9, rc⟩ := e14_word ok h
    have fr := fr.tr (fr9.sub (mF_sub rfl sub_nil rfl sud_nil))
    have rb := fun Q9 z => rb Q9 (rc _ z)
    obtain ⟨σ5, h, ok, fr9, rc⟩ := e14_word ok h
    have fr := fr.tr (fr9.sub (mF_sub rfl sub_nil rfl sud_nil))
    have rb := fun Q9 z => rb Q9 (rc _ z)
    exact ⟨(σ5 14 0 1), σ5, h, ok, fr, fun Q9 hq => rb Q9 hq⟩
  have h := h.2 hc
  have rb := fun Q9 z => rb Q9 (br_f hc z)
  exact ⟨(-1), σ, h, ok, fr, fun Q9 hq => rb Q9 hq⟩
/-! WebHostModel.files()I -/
set_option maxHeartbeats 4000000 in
theorem e14_files_L167 {σ : St} {x1 : Int32} {x2 : Int32} {x3 : Int32} {Q : Int32 → Prop} {K192 : Int32 → Prop} (ok : okS σ) :
    ∀ (n : Nat) {x4 : Int32}, w14_files_L167 σ x1 x2 x3 Q K192 n x4 → (∃ (x4' : Int32), K192 x4' ∧ ∀ (Q9 : Int32 → Prop) (K9_192 : Int32 → Prop), K9_192 x4' → w14_files_L167 σ x1 x2 x3 Q9 K9_192 n x4) := by
  intro n
  induction n with
  | zero =>
    intro x4 h
    exact False.elim h
  | succ n ih =>
    intro x4 h
    have rb : ∀ (Q9 : Int32 → Prop) (K9_192 : Int32 → Prop), w14_files_L167 σ x1 x2 x3 Q9 K9_192 (n + 1) x4 → w14_files_L167 σ x1 x2 x3 Q9 K9_192 (n + 1) x4 := fun _ _ z => z
    by_cases hc : 48 ≤ x4
    · have h := h.1 hc
      have rb := fun Q9 K9_192 z => rb Q9 K9_192 (br_t hc z)
      exact ⟨x4, h, fun Q9 K9_192 hq => rb Q9 K9_192 hq⟩
    have h := h.2 hc
    have rb := fun Q9 K9_192 z => rb Q9 K9_192 (br_f hc z)
    obtain ⟨hc, h⟩ := h
    have rb := fun Q9 K9_192 z => rb Q9 K9_192 (And.intro hc z)
    have h := h ((ok 51 0 _).2 (tyk_a 51 2 (by decide) (by decide) _))
    have rb := fun Q9 K9_192 z => rb Q9 K9_192 (im_n z)
    by_cases hc : (σ 51 0 (x3 + x4).toNatClampNeg) = 0
    · have h := h.1 hc
      have rb := fun Q9 K9_192 z => rb Q9 K9_192 (br_t hc z)
      exact ⟨x4, h, fun Q9 K9_192 hq => rb Q9 K9_192 hq⟩
    have h := h.2 hc
    have rb := fun Q9 K9_192 z => rb Q9 K9_192 (br_f hc z)
    rcases ih h with ⟨x4, h, rc⟩
    · exact ⟨x4, h, fun Q9 K9_192 hq => rb Q9 K9_192 (rc Q9 K9_192 hq)⟩
set_option maxHeartbeats 4000000 in
theorem e14_files_L220 {σ : St} {x1 : Int32} {x2 : Int32} {x3 : Int32} {x4 : Int32} {Q : Int32 → Prop} {K259 : Prop} {K267 : Prop} {K275 : Prop} (ok : okS σ) :
    ∀ (n : Nat) {x5 : Int32}, w14_files_L220 σ x1 x2 x3 x4 Q K259 K267 K275 n x5 → (K259 ∧ ∀ (Q9 : Int32 → Prop) (K9_259 : Prop) (K9_267 : Prop) (K9_275 : Prop), K9_259 → w14_files_L220 σ x1 x2 x3 x4 Q9 K9_259 K9_267 K9_275 n x5) ∨ (K267 ∧ ∀ (Q9 : Int32 → Prop) (K9_259 : Prop) (K9_267 : Prop) (K9_275 : Prop), K9_267 → w14_files_L220 σ x1 x2 x3 x4 Q9 K9_259 K9_267 K9_275 n x5) ∨ (K275 ∧ ∀ (Q9 : Int32 → Prop) (K9_259 : Prop) (K9_267 : Prop) (K9_275 : Prop), K9_275 → w14_files_L220 σ x1 x2 x3 x4 Q9 K9_259 K9_267 K9_275 n x5) := by
  intro n
  induction n with
  | zero =>
    intro x5 h
    exact False.elim h
  | succ n ih =>
    intro x5 h
    have rb : ∀ (Q9 : Int32 → Prop) (K9_259 : Prop) (K9_267 : Prop) (K9_275 : Prop), w14_files_L220 σ x1 x2 x3 x4 Q9 K9_259 K9_267 K9_275 (n + 1) x5 → w14_files_L220 σ x1 x2 x3 x4 Q9 K9_259 K9_267 K9_275 (n + 1) x5 := fun _ _ _ _ z => z
    by_cases hc : 48 ≤ x5
    · have h := h.1 hc
      have rb := fun Q9 K9_259 K9_267 K9_275 z => rb Q9 K9_259 K9_267 K9_275 (br_t hc z)
      exact (Or.inr (Or.inr ⟨h, fun Q9 K9_259 K9_267 K9_275 hq => rb Q9 K9_259 K9_267 K9_275 hq⟩))
    have h := h.2 hc
    have rb := fun Q9 K9_259 K9_267 K9_275 z => rb Q9 K9_259 K9_267 K9_275 (br_f hc z)
    obtain ⟨hc, h⟩ := h
    have rb := fun Q9 K9_259 K9_267 K9_275 z => rb Q9 K9_259 K9_267 K9_275 (And.intro hc z)
    have h := h ((ok 51 0 _).2 (tyk_a 51 2 (by decide) (by decide) _))
    have rb := fun Q9 K9_259 K9_267 K9_275 z => rb Q9 K9_259 K9_267 K9_275 (im_n z)
    by_cases hc : x4 ≤ x5
    · have h := h.1 hc
      have rb := fun Q9 K9_259 K9_267 K9_275 z => rb Q9 K9_259 K9_267 K9_275 (br_t hc z)
      by_cases hc : (σ 51 0 (x3 + x5).toNatClampNeg) = 0
      · have h := h.1 hc
        have rb := fun Q9 K9_259 K9_267 K9_275 z => rb Q9 K9_259 K9_267 K9_275 (br_t hc z)
        rcases ih h with ⟨h, rc⟩ | ⟨h, rc⟩ | ⟨h, rc⟩
        · exact (Or.inl ⟨h, fun Q9 K9_259 K9_267 K9_275 hq => rb Q9 K9_259 K9_267 K9_275 (rc Q9 K9_259 K9_267 K9_275 hq)⟩)
        · exact (Or.inr (Or.inl ⟨h, fun Q9 K9_259 K9_267 K9_275 hq => rb Q9 K9_259 K9_267 K9_275 (rc Q9 K9_259 K9_267 K9_275 hq)⟩))
        · exact (Or.inr (Or.inr ⟨h, fun Q9 K9_259 K9_267 K9_275 hq => rb Q9 K9_259 K9_267 K9_275 (rc Q9 K9_259 K9_267 K9_275 hq)⟩))
      have h := h.2 hc
      have rb := fun Q9 K9_259 K9_267 K9_275 z => rb Q9 K9_259 K9_267 K9_275 (br_f hc z)
      exact (Or.inr (Or.inl ⟨h, fun Q9 K9_259 K9_267 K9_275 hq => rb Q9 K9_259 K9_267 K9_275 hq⟩))
    have h := h.2 hc
    have rb := fun Q9 K9_259 K9_267 K9_275 z => rb Q9 K9_259 K9_267 K9_275 (br_f hc z)
    by_cases hc : (σ 51 0 (x3 + x5).toNatClampNeg) < 33
    · have h := h.1 hc
      have rb := fun Q9 K9_259 K9_267 K9_275 z => rb Q9 K9_259 K9_267 K9_275 (br_t hc z)
      exact (Or.inr (Or.inl ⟨h, fun Q9 K9_259 K9_267 K9_275 hq => rb Q9 K9_259 K9_267 K9_275 hq⟩))
    have h := h.2 hc
    have rb := fun Q9 K9_259 K9_267 K9_275 z => rb Q9 K9_259 K9_267 K9_275 (br_f hc z)
    by_cases hc : (σ 51 0 (x3 + x5).toNatClampNeg) ≤ 126
    · have h := h.1 hc
      have rb := fun Q9 K9_259 K9_267 K9_275 z => rb Q9 K9_259 K9_267 K9_275 (br_t hc z)
      rcases ih h with ⟨h, rc⟩ | ⟨h, rc⟩ | ⟨h, rc⟩
      · exact (Or.inl ⟨h, fun Q9 K9_259 K9_267 K9_275 hq => rb Q9 K9_259 K9_267 K9_275 (rc Q9 K9_259 K9_267 K9_275 hq)⟩)
      · exact (Or.inr (Or.inl ⟨h, fun Q9 K9_259 K9_267 K9_275 hq => rb Q9 K9_259 K9_267 K9_275 (rc Q9 K9_259 K9_267 K9_275 hq)⟩))
      · exact (Or.inr (Or.inr ⟨h, fun Q9 K9_259 K9_267 K9_275 hq => rb Q9 K9_259 K9_267 K9_275 (rc Q9 K9_259 K9_267 K9_275 hq)⟩))
    have h := h.2 hc
    have rb := fun Q9 K9_259 K9_267 K9_275 z => rb Q9 K9_259 K9_267 K9_275 (br_f hc z)
    exact (Or.inl ⟨h, fun Q9 K9_259 K9_267 K9_275 hq => rb Q9 K9_259 K9_267 K9_275 hq⟩)
set_option maxHeartbeats 4000000 in
theorem e14_files_L331 {σ : St} {x1 : Int32} {x2 : Int32} {x3 : Int32} {x5 : Int32} {Q : Int32 → Prop} {K384 : Int32 → Prop} (ok : okS σ) :
    ∀ (n : Nat) {x6 : Int32} {x7 : Int32}, w14_files_L331 σ x1 x2 x3 x5 Q K384 n x6 x7 → (∃ (x6' : Int32), K384 x6' ∧ ∀ (Q9 : Int32 → Prop) (K9_384 : Int32 → Prop), K9_384 x6' → w14_files_L331 σ x1 x2 x3 x5 Q9 K9_384 n x6 x7) := by
  intro n
  induction n with
  | zero =>
    intro x6 x7 h
    exact False.elim h
  | succ n ih =>
    intro x6 x7 h
    have rb : ∀ (Q9 : Int32 → Prop) (K9_384 : Int32 → Prop), w14_files_L331 σ x1 x2 x3 x5 Q9 K9_384 (n + 1) x6 x7 → w14_files_L331 σ x1 x2 x3 x5 Q9 K9_384 (n + 1) x6 x7 := fun _ _ z => z
    by_cases hc : 48 ≤ x7
    · have h := h.1 hc
      have rb := fun Q9 K9_384 z => rb Q9 K9_384 (br_t hc z)
      exact ⟨x6, h, fun Q9 K9_384 hq => rb Q9 K9_384 hq⟩
    have h := h.2 hc
    have rb := fun Q9 K9_384 z => rb Q9 K9_384 (br_f hc z)
    by_cases hc : x6 = 0
    · have h := h.1 hc
      have rb := fun Q9 K9_384 z => rb Q9 K9_384 (br_t hc z)
      rcases ih h with ⟨x6, h, rc⟩
      · exact ⟨x6, h, fun Q9 K9_384 hq => rb Q9 K9_384 (rc Q9 K9_384 hq)⟩
    have h := h.2 hc
    have rb := fun Q9 K9_384 z => rb Q9 K9_384 (br_f hc z)
    obtain ⟨hc, h⟩ := h
    have rb := fun Q9 K9_384 z => rb Q9 K9_384 (And.intro hc z)
    have h := h ((ok 51 0 _).2 (tyk_a 51 2 (by decide) (by decide) _))
    have rb := fun Q9 K9_384 z => rb Q9 K9_384 (im_n z)
    obtain ⟨hc, h⟩ := h
    have rb := fun Q9 K9_384 z => rb Q9 K9_384 (And.intro hc z)
    have h := h ((ok 51 0 _).2 (tyk_a 51 2 (by decide) (by decide) _))
    have rb := fun Q9 K9_384 z => rb Q9 K9_384 (im_n z)
    by_cases hc : (σ 51 0 (x3 + x7).toNatClampNeg) = (σ 51 0 ((8 + (64 * x5)) + x7).toNatClampNeg)
    · have h := h.2 hc
      have rb := fun Q9 K9_384 z => rb Q9 K9_384 (br_u hc z)
      rcases ih h with ⟨x6, h, rc⟩
      · exact ⟨x6, h, fun Q9 K9_384 hq => rb Q9 K9_384 (rc Q9 K9_384 hq)⟩
    have h := h.1 hc
    have rb := fun Q9 K9_384 z => rb Q9 K9_384 (br_v hc z)
    rcases ih h with ⟨x6, h, rc⟩
    · exact ⟨x6, h, fun Q9 K9_384 hq => rb Q9 K9_384 (rc Q9 K9_384 hq)⟩
set_option maxHeartbeats 4000000 in
theorem e14_files_L319 {σ : St} {x1 : Int32} {x2 : Int32} {x3 : Int32} {Q : Int32 → Prop} {K389 : Prop} {K397 : Prop} (ok : okS σ) :
    ∀ (n : Nat) {x5 : Int32}, w14_files_L319 σ x1 x2 x3 Q K389 K397 n x5 → (K389 ∧ ∀ (Q9 : Int32 → Prop) (K9_389 : Prop) (K9_397 : Prop), K9_389 → w14_files_L319 σ x1 x2 x3 Q9 K9_389 K9_397 n x5) ∨ (K397 ∧ ∀ (Q9 : Int32 → Prop) (K9_389 : Prop) (K9_397 : Prop), K9_397 → w14_files_L319 σ x1 x2 x3 Q9 K9_389 K9_397 n x5) := by
  intro n
  induction n with
  | zero =>
    intro x5 h
    exact False.elim h
  | succ n ih =>
    intro x5 h
    have rb : ∀ (Q9 : Int32 → Prop) (K9_389 : Prop) (K9_397 : Prop), w14_files_L319 σ x1 x2 x3 Q9 K9_389 K9_397 (n + 1) x5 → w14_files_L319 σ x1 x2 x3 Q9 K9_389 K9_397 (n + 1) x5 := fun _ _ _ z => z
    by_cases hc : x2 ≤ x5
    · have h := h.1 hc
      have rb := fun Q9 K9_389 K9_397 z => rb Q9 K9_389 K9_397 (br_t hc z)
      exact (Or.inr ⟨h, fun Q9 K9_389 K9_397 hq => rb Q9 K9_389 K9_397 hq⟩)
    have h := h.2 hc
    have rb := fun Q9 K9_389 K9_397 z => rb Q9 K9_389 K9_397 (br_f hc z)
    obtain ⟨n9, h⟩ := h
    rcases e14_files_L331 ok n9 h with ⟨x6_13, h, rc⟩
    · have rb := fun Q9 K9_389 K9_397 z => rb Q9 K9_389 K9_397 (Exists.intro n9 (rc _ _ z))
      by_cases hc : x6_13 = 0
      · have h := h.1 hc
        have rb := fun Q9 K9_389 K9_397 z => rb Q9 K9_389 K9_397 (br_t hc z)
        rcases ih h with ⟨h, rc⟩ | ⟨h, rc⟩
        · exact (Or.inl ⟨h, fun Q9 K9_389 K9_397 hq => rb Q9 K9_389 K9_397 (rc Q9 K9_389 K9_397 hq)⟩)
        · exact (Or.inr ⟨h, fun Q9 K9_389 K9_397 hq => rb Q9 K9_389 K9_397 (rc Q9 K9_389 K9_397 hq)⟩)
      have h := h.2 hc
      have rb := fun Q9 K9_389 K9_397 z => rb Q9 K9_389 K9_397 (br_f hc z)
      exact (Or.inl ⟨h, fun Q9 K9_389 K9_397 hq => rb Q9 K9_389 K9_397 hq⟩)
set_option maxHeartbeats 4000000 in
theorem e14_files_J192 {σ : St} {x1 : Int32} {x2 : Int32} {x3 : Int32} {x4 : Int32} {Q : Int32 → Prop} {K151 : Int32 → Prop} {K215 : Prop} {K259 : Prop} {K267 : Prop} {K314 : Prop} {K389 : Prop} (ok : okS σ) (h : w14_files_J192 σ x1 x2 x3 x4 Q K151 K215 K259 K267 K314 K389) : (∃ (x2' : Int32), K151 x2' ∧ ∀ (Q9 : Int32 → Prop) (K9_151 : Int32 → Prop) (K9_215 : Prop) (K9_259 : Prop) (K9_267 : Prop) (K9_314 : Prop) (K9_389 : Prop), K9_151 x2' → w14_files_J192 σ x1 x2 x3 x4 Q9 K9_151 K9_215 K9_259 K9_267 K9_314 K9_389) ∨ (K215 ∧ ∀ (Q9 : Int32 → Prop) (K9_151 : Int32 → Prop) (K9_215 : Prop) (K9_259 : Prop) (K9_267 : Prop) (K9_314 : Prop) (K9_389 : Prop), K9_215 → w14_files_J192 σ x1 x2 x3 x4 Q9 K9_151 K9_215 K9_259 K9_267 K9_314 K9_389) ∨ (K259 ∧ ∀ (Q9 : Int32 → Prop) (K9_151 : Int32 → Prop) (K9_215 : Prop) (K9_259 : Prop) (K9_267 : Prop) (K9_314 : Prop) (K9_389 : Prop), K9_259 → w14_files_J192 σ x1 x2 x3 x4 Q9 K9_151 K9_215 K9_259 K9_267 K9_314 K9_389) ∨ (K267 ∧ ∀ (Q9 : Int32 → Prop) (K9_151 : Int32 → Prop) (K9_215 : Prop) (K9_259 : Prop) (K9_267 : Prop) (K9_314 : Prop) (K9_389 : Prop), K9_267 → w14_files_J192 σ x1 x2 x3 x4 Q9 K9_151 K9_215 K9_259 K9_267 K9_314 K9_389) ∨ (K314 ∧ ∀ (Q9 : Int32 → Prop) (K9_151 : Int32 → Prop) (K9_215 : Prop) (K9_259 : Prop) (K9_267 : Prop) (K9_314 : Prop) (K9_389 : Prop), K9_314 → w14_files_J192 σ x1 x2 x3 x4 Q9 K9_151 K9_215 K9_259 K9_267 K9_314 K9_389) ∨ (K389 ∧ ∀ (Q9 : Int32 → Prop) (K9_151 : Int32 → Prop) (K9_215 : Prop) (K9_259 : Prop) (K9_267 : Prop) (K9_314 : Prop) (K9_389 : Prop), K9_389 → w14_files_J192 σ x1 x2 x3 x4 Q9 K9_151 K9_215 K9_259 K9_267 K9_314 K9_389) := by
  have rb : ∀ (Q9 : Int32 → Prop) (K9_151 : Int32 → Prop) (K9_215 : Prop) (K9_259 : Prop) (K9_267 : Prop) (K9_314 : Prop) (K9_389 : Prop), w14_files_J192 σ x1 x2 x3 x4 Q9 K9_151 K9_215 K9_259 K9_267 K9_314 K9_389 → w14_files_J192 σ x1 x2 x3 x4 Q9 K9_151 K9_215 K9_259 K9_267 K9_314 K9_389 := fun _ _ _ _ _ _ _ z => z
  by_cases hc : x4 = 0
  · have h := h.1 hc
    have rb := fun Q9 K9_151 K9_215 K9_259 K9_267 K9_314 K9_389 z => rb Q9 K9_151 K9_215 K9_259 K9_267 K9_314 K9_389 (br_t hc z)
    exact (Or.inr (Or.inl ⟨h, fun Q9 K9_151 K9_215 K9_259 K9_267 K9_314 K9_389 hq => rb Q9 K9_151 K9_215 K9_259 K9_267 K9_314 K9_389 hq⟩))
  have h := h.2 hc
  have rb := fun Q9 K9_151 K9_215 K9_259 K9_267 K9_314 K9_389 z => rb Q9 K9_151 K9_215 K9_259 K9_267 K9_314 K9_389 (br_f hc z)
  by_cases hc : x4 = 48
  · have h := h.1 hc
    have rb := fun Q9 K9_151 K9_215 K9_259 K9_267 K9_314 K9_389 z => rb Q9 K9_151 K9_215 K9_259 K9_267 K9_314 K9_389 (br_t hc z)
    exact (Or.inr (Or.inl ⟨h, fun Q9 K9_151 K9_215 K9_259 K9_267 K9_314 K9_389 hq => rb Q9 K9_151 K9_215 K9_259 K9_267 K9_314 K9_389 hq⟩))
  have h := h.2 hc
  have rb := fun Q9 K9_151 K9_215 K9_259 K9_267 K9_314 K9_389 z => rb Q9 K9_151 K9_215 K9_259 K9_267 K9_314 K9_389 (br_f hc z)
  obtain ⟨hc, h⟩ := h
  have rb := fun Q9 K9_151 K9_215 K9_259 K9_267 K9_314 K9_389 z => rb Q9 K9_151 K9_215 K9_259 K9_267 K9_314 K9_389 (And.intro hc z)
  have h := h ((ok 51 0 _).2 (tyk_a 51 2 (by decide) (by decide) _))
  have rb := fun Q9 K9_151 K9_215 K9_259 K9_267 K9_314 K9_389 z => rb Q9 K9_151 K9_215 K9_259 K9_267 K9_314 K9_389 (im_n z)
  by_cases hc : (σ 51 0 x3.toNatClampNeg) = 47
  · have h := h.1 hc
    have rb := fun Q9 K9_151 K9_215 K9_259 K9_267 K9_314 K9_389 z => rb Q9 K9_151 K9_215 K9_259 K9_267 K9_314 K9_389 (br_t hc z)
    obtain ⟨n9, h⟩ := h
    rcases e14_files_L220 ok n9 h with ⟨h, rc⟩ | ⟨h, rc⟩ | ⟨h, rc⟩
    · have rb := fun Q9 K9_151 K9_215 K9_259 K9_267 K9_314 K9_389 z => rb Q9 K9_151 K9_215 K9_259 K9_267 K9_314 K9_389 (Exists.intro n9 (rc _ _ _ _ z))
      exact (Or.inr (Or.inr (Or.inl ⟨h, fun Q9 K9_151 K9_215 K9_259 K9_267 K9_314 K9_389 hq => rb Q9 K9_151 K9_215 K9_259 K9_267 K9_314 K9_389 hq⟩)))
    · have rb := fun Q9 K9_151 K9_215 K9_259 K9_267 K9_314 K9_389 z => rb Q9 K9_151 K9_215 K9_259 K9_267 K9_314 K9_389 (Exists.intro n9 (rc _ _ _ _ z))
      exact (Or.inr (Or.inr (Or.inr (Or.inl ⟨h, fun Q9 K9_151 K9_215 K9_259 K9_267 K9_314 K9_389 hq => rb Q9 K9_151 K9_215 K9_259 K9_267 K9_314 K9_389 hq⟩))))
    · have rb := fun Q9 K9_151 K9_215 K9_259 K9_267 K9_314 K9_389 z => rb Q9 K9_151 K9_215 K9_259 K9_267 K9_314 K9_389 (Exists.intro n9 (rc _ _ _ _ z))
      obtain ⟨r9, h, rc⟩ := e14_imageWord ok h
      have rb := fun Q9 K9_151 K9_215 K9_259 K9_267 K9_314 K9_389 z => rb Q9 K9_151 K9_215 K9_259 K9_267 K9_314 K9_389 (rc _ z)
      obtain ⟨r10, h, rc⟩ := e14_imageWord ok h
      have rb := fun Q9 K9_151 K9_215 K9_259 K9_267 K9_314 K9_389 z => rb Q9 K9_151 K9_215 K9_259 K9_267 K9_314 K9_389 (rc _ z)
      by_cases hc : 0 < (lg_cmp (r9 + r10) ((σ 14 0 3).toInt64))
      · have h := h.1 hc
        have rb := fun Q9 K9_151 K9_215 K9_259 K9_267 K9_314 K9_389 z => rb Q9 K9_151 K9_215 K9_259 K9_267 K9_314 K9_389 (br_t hc z)
        exact (Or.inr (Or.inr (Or.inr (Or.inr (Or.inl ⟨h, fun Q9 K9_151 K9_215 K9_259 K9_267 K9_314 K9_389 hq => rb Q9 K9_151 K9_215 K9_259 K9_267 K9_314 K9_389 hq⟩)))))
      have h := h.2 hc
      have rb := fun Q9 K9_151 K9_215 K9_259 K9_267 K9_314 K9_389 z => rb Q9 K9_151 K9_215 K9_259 K9_267 K9_314 K9_389 (br_f hc z)
      obtain ⟨r11, h, rc⟩ := e14_imageWord ok h
      have rb := fun Q9 K9_151 K9_215 K9_259 K9_267 K9_314 K9_389 z => rb Q9 K9_151 K9_215 K9_259 K9_267 K9_314 K9_389 (rc _ z)
      by_cases hc : (lg_cmp r11 0) = 0
      · have h := h.1 hc
        have rb := fun Q9 K9_151 K9_215 K9_259 K9_267 K9_314 K9_389 z => rb Q9 K9_151 K9_215 K9_259 K9_267 K9_314 K9_389 (br_t hc z)
        obtain ⟨n9, h⟩ := h
        rcases e14_files_L319 ok n9 h with ⟨h, rc⟩ | ⟨h, rc⟩
        · have rb := fun Q9 K9_151 K9_215 K9_259 K9_267 K9_314 K9_389 z => rb Q9 K9_151 K9_215 K9_259 K9_267 K9_314 K9_389 (Exists.intro n9 (rc _ _ _ z))
          exact (Or.inr (Or.inr (Or.inr (Or.inr (Or.inr ⟨h, fun Q9 K9_151 K9_215 K9_259 K9_267 K9_314 K9_389 hq => rb Q9 K9_151 K9_215 K9_259 K9_267 K9_314 K9_389 hq⟩)))))
        · have rb := fun Q9 K9_151 K9_215 K9_259 K9_267 K9_314 K9_389 z => rb Q9 K9_151 K9_215 K9_259 K9_267 K9_314 K9_389 (Exists.intro n9 (rc _ _ _ z))
          exact (Or.inl ⟨x2 + 1, h, fun Q9 K9_151 K9_215 K9_259 K9_267 K9_314 K9_389 hq => rb Q9 K9_151 K9_215 K9_259 K9_267 K9_314 K9_389 hq⟩)
      have h := h.2 hc
      have rb := fun Q9 K9_151 K9_215 K9_259 K9_267 K9_314 K9_389 z => rb Q9 K9_151 K9_215 K9_259 K9_267 K9_314 K9_389 (br_f hc z)
      exact (Or.inr (Or.inr (Or.inr (Or.inr (Or.inl ⟨h, fun Q9 K9_151 K9_215 K9_259 K9_267 K9_314 K9_389 hq => rb Q9 K9_151 K9_215 K9_259 K9_267 K9_314 K9_389 hq⟩)))))
  have h := h.2 hc
  have rb := fun Q9 K9_151 K9_215 K9_259 K9_267 K9_314 K9_389 z => rb Q9 K9_151 K9_215 K9_259 K9_267 K9_314 K9_389 (br_f hc z)
  exact (Or.inr (Or.inl ⟨h, fun Q9 K9_151 K9_215 K9_259 K9_267 K9_314 K9_389 hq => rb Q9 K9_151 K9_215 K9_259 K9_267 K9_314 K9_389 hq⟩))
set_option maxHeartbeats 4000000 in
theorem e14_files_L151 {σ : St} {x1 : Int32} {Q : Int32 → Prop} {K215 : Prop} {K259 : Prop} {K267 : Prop} {K314 : Prop} {K389 : Prop} {K403 : Prop} (ok : okS σ) :
    ∀ (n : Nat) {x2 : Int32}, w14_files_L151 σ x1 Q K215 K259 K267 K314 K389 K403 n x2 → (K215 ∧ ∀ (Q9 : Int32 → Prop) (K9_215 : Prop) (K9_259 : Prop) (K9_267 : Prop) (K9_314 : Prop) (K9_389 : Prop) (K9_403 : Prop), K9_215 → w14_files_L151 σ x1 Q9 K9_215 K9_259 K9_267 K9_314 K9_389 K9_403 n x2) ∨ (K259 ∧ ∀ (Q9 : Int32 → Prop) (K9_215 : Prop) (K9_259 : Prop) (K9_267 : Prop) (K9_314 : Prop) (K9_389 : Prop) (K9_403 : Prop), K9_259 → w14_files_L151 σ x1 Q9 K9_215 K9_259 K9_267 K9_314 K9_389 K9_403 n x2) ∨ (K267 ∧ ∀ (Q9 : Int32 → Prop) (K9_215 : Prop) (K9_259 : Prop) (K9_267 : Prop) (K9_314 : Prop) (K9_389 : Prop) (K9_403 : Prop), K9_267 → w14_files_L151 σ x1 Q9 K9_215 K9_259 K9_267 K9_314 K9_389 K9_403 n x2) ∨ (K314 ∧ ∀ (Q9 : Int32 → Prop) (K9_215 : Prop) (K9_259 : Prop) (K9_267 : Prop) (K9_314 : Prop) (K9_389 : Prop) (K9_403 : Prop), K9_314 → w14_files_L151 σ x1 Q9 K9_215 K9_259 K9_267 K9_314 K9_389 K9_403 n x2) ∨ (K389 ∧ ∀ (Q9 : Int32 → Prop) (K9_215 : Prop) (K9_259 : Prop) (K9_267 : Prop) (K9_314 : Prop) (K9_389 : Prop) (K9_403 : Prop), K9_389 → w14_files_L151 σ x1 Q9 K9_215 K9_259 K9_267 K9_314 K9_389 K9_403 n x2) ∨ (K403 ∧ ∀ (Q9 : Int32 → Prop) (K9_215 : Prop) (K9_259 : Prop) (K9_267 : Prop) (K9_314 : Prop) (K9_389 : Prop) (K9_403 : Prop), K9_403 → w14_files_L151 σ x1 Q9 K9_215 K9_259 K9_267 K9_314 K9_389 K9_403 n x2) := by
  intro n
  induction n with
  | zero =>
    intro x2 h
    exact False.elim h
  | succ n ih =>
    intro x2 h
    have rb : ∀ (Q9 : Int32 → Prop) (K9_215 : Prop) (K9_259 : Prop) (K9_267 : Prop) (K9_314 : Prop) (K9_389 : Prop) (K9_403 : Prop), w14_files_L151 σ x1 Q9 K9_215 K9_259 K9_267 K9_314 K9_389 K9_403 (n + 1) x2 → w14_files_L151 σ x1 Q9 K9_215 K9_259 K9_267 K9_314 K9_389 K9_403 (n + 1) x2 := fun _ _ _ _ _ _ _ z => z
    by_cases hc : x1 ≤ x2
    · have h := h.1 hc
      have rb := fun Q9 K9_215 K9_259 K9_267 K9_314 K9_389 K9_403 z => rb Q9 K9_215 K9_259 K9_267 K9_314 K9_389 K9_403 (br_t hc z)
      exact (Or.inr (Or.inr (Or.inr (Or.inr (Or.inr ⟨h, fun Q9 K9_215 K9_259 K9_267 K9_314 K9_389 K9_403 hq => rb Q9 K9_215 K9_259 K9_267 K9_314 K9_389 K9_403 hq⟩)))))
    have h := h.2 hc
    have rb := fun Q9 K9_215 K9_259 K9_267 K9_314 K9_389 K9_403 z => rb Q9 K9_215 K9_259 K9_267 K9_314 K9_389 K9_403 (br_f hc z)
    obtain ⟨n9, h⟩ := h
    rcases e14_files_L167 ok n9 h with ⟨x4_4, h, rc⟩
    · have rb := fun Q9 K9_215 K9_259 K9_267 K9_314 K9_389 K9_403 z => rb Q9 K9_215 K9_259 K9_267 K9_314 K9_389 K9_403 (Exists.intro n9 (rc _ _ z))
      rcases e14_files_J192 ok h with ⟨x2, h, rc⟩ | ⟨h, rc⟩ | ⟨h, rc⟩ | ⟨h, rc⟩ | ⟨h, rc⟩ | ⟨h, rc⟩
      · rcases ih h with ⟨h, rd⟩ | ⟨h, rd⟩ | ⟨h, rd⟩ | ⟨h, rd⟩ | ⟨h, rd⟩ | ⟨h, rd⟩
        · exact (Or.inl ⟨h, fun Q9 K9_215 K9_259 K9_267 K9_314 K9_389 K9_403 hq => rb Q9 K9_215 K9_259 K9_267 K9_314 K9_389 K9_403 (rc _ _ _ _ _ _ _ (rd Q9 K9_215 K9_259 K9_267 K9_314 K9_389 K9_403 hq))⟩)
        · exact (Or.inr (Or.inl ⟨h, fun Q9 K9_215 K9_259 K9_267 K9_314 K9_389 K9_403 hq => rb Q9 K9_215 K9_259 K9_267 K9_314 K9_389 K9_403 (rc _ _ _ _ _ _ _ (rd Q9 K9_215 K9_259 K9_267 K9_314 K9_389 K9_403 hq))⟩))
        · exact (Or.inr (Or.inr (Or.inl ⟨h, fun Q9 K9_215 K9_259 K9_267 K9_314 K9_389 K9_403 hq => rb Q9 K9_215 K9_259 K9_267 K9_314 K9_389 K9_403 (rc _ _ _ _ _ _ _ (rd Q9 K9_215 K9_259 K9_267 K9_314 K9_389 K9_403 hq))⟩)))
        · exact (Or.inr (Or.inr (Or.inr (Or.inl ⟨h, fun Q9 K9_215 K9_259 K9_267 K9_314 K9_389 K9_403 hq => rb Q9 K9_215 K9_259 K9_267 K9_314 K9_389 K9_403 (rc _ _ _ _ _ _ _ (rd Q9 K9_215 K9_259 K9_267 K9_314 K9_389 K9_403 hq))⟩))))
        · exact (Or.inr (Or.inr (Or.inr (Or.inr (Or.inl ⟨h, fun Q9 K9_215 K9_259 K9_267 K9_314 K9_389 K9_403 hq => rb Q9 K9_215 K9_259 K9_267 K9_314 K9_389 K9_403 (rc _ _ _ _ _ _ _ (rd Q9 K9_215 K9_259 K9_267 K9_314 K9_389 K9_403 hq))⟩)))))
        · exact (Or.inr (Or.inr (Or.inr (Or.inr (Or.inr ⟨h, fun Q9 K9_215 K9_259 K9_267 K9_314 K9_389 K9_403 hq => rb Q9 K9_215 K9_259 K9_267 K9_314 K9_389 K9_403 (rc _ _ _ _ _ _ _ (rd Q9 K9_215 K9_259 K9_267 K9_314 K9_389 K9_403 hq))⟩)))))
      · exact (Or.inl ⟨h, fun Q9 K9_215 K9_259 K9_267 K9_314 K9_389 K9_403 hq => rb Q9 K9_215 K9_259 K9_267 K9_314 K9_389 K9_403 (rc _ _ _ _ _ _ _ hq)⟩)
      · exact (Or.inr (Or.inl ⟨h, fun Q9 K9_215 K9_259 K9_267 K9_314 K9_389 K9_403 hq => rb Q9 K9_215 K9_259 K9_267 K9_314 K9_389 K9_403 (rc _ _ _ _ _ _ _ hq)⟩))
      · exact (Or.inr (Or.inr (Or.inl ⟨h, fun Q9 K9_215 K9_259 K9_267 K9_314 K9_389 K9_403 hq => rb Q9 K9_215 K9_259 K9_267 K9_314 K9_389 K9_403 (rc _ _ _ _ _ _ _ hq)⟩)))
      · exact (Or.inr (Or.inr (Or.inr (Or.inl ⟨h, fun Q9 K9_215 K9_259 K9_267 K9_314 K9_389 K9_403 hq => rb Q9 K9_215 K9_259 K9_267 K9_314 K9_389 K9_403 (rc _ _ _ _ _ _ _ hq)⟩))))
      · exact (Or.inr (Or.inr (Or.inr (Or.inr (Or.inl ⟨h, fun Q9 K9_215 K9_259 K9_267 K9_314 K9_389 K9_403 hq => rb Q9 K9_215 K9_259 K9_267 K9_314 K9_389 K9_403 (rc _ _ _ _ _ _ _ hq)⟩)))))
set_option maxHeartbeats 4000000 in
theorem e14_files {σ : St} {Q : Int32 → Prop} (ok : okS σ) (h : w14_files σ Q) : (∃ r : Int32, Q r ∧ ∀ (Q9 : Int32 → Prop), Q9 r → w14_files σ Q9) := by
  have rb : ∀ (Q9 : Int32 → Prop), w14_files σ Q9 → w14_files σ Q9 := fun _ z => z
  by_cases hc : (σ 14 0 3) < 12
  · have h := h.1 hc
    have rb := fun Q9 z => rb Q9 (br_t hc z)
    exact ⟨(-1), h, fun Q9 hq => rb Q9 hq⟩
  have h := h.2 hc
  have rb := fun Q9 z => rb Q9 (br_f hc z)
  obtain ⟨hc, h⟩ := h
  have rb := fun Q9 z => rb Q9 (And.intro hc z)
  have h := h ((ok 51 0 _).2 (tyk_a 51 2 (by decide) (by decide) _))
  have rb := fun Q9 z => rb Q9 (im_n z)
  by_cases hc : (σ 51 0 (0 : Int32).toNatClampNeg) = 83
  · have h := h.2 hc
    have rb := fun Q9 z => rb Q9 (br_u hc z)
    obtain ⟨hc, h⟩ := h
    have rb := fun Q9 z => rb Q9 (And.intro hc z)
    have h := h ((ok 51 0 _).2 (tyk_a 51 2 (by decide) (by decide) _))
    have rb := fun Q9 z => rb Q9 (im_n z)
    by_cases hc : (σ 51 0 (1 : Int32).toNatClampNeg) = 84
    · have h := h.2 hc
      have rb := fun Q9 z => rb Q9 (br_u hc z)
      obtain ⟨hc, h⟩ := h
      have rb := fun Q9 z => rb Q9 (And.intro hc z)
      have h := h ((ok 51 0 _).2 (tyk_a 51 2 (by decide) (by decide) _))
      have rb := fun Q9 z => rb Q9 (im_n z)
      by_cases hc : (σ 51 0 (2 : Int32).toNatClampNeg) = 79
      · have h := h.2 hc
        have rb := fun Q9 z => rb Q9 (br_u hc z)
        obtain ⟨hc, h⟩ := h
        have rb := fun Q9 z => rb Q9 (And.intro hc z)
        have h := h ((ok 51 0 _).2 (tyk_a 51 2 (by decide) (by decide) _))
        have rb := fun Q9 z => rb Q9 (im_n z)
        by_cases hc : (σ 51 0 (3 : Int32).toNatClampNeg) = 82
        · have h := h.2 hc
          have rb := fun Q9 z => rb Q9 (br_u hc z)
          obtain ⟨hc, h⟩ := h
          have rb := fun Q9 z => rb Q9 (And.intro hc z)
          have h := h ((ok 51 0 _).2 (tyk_a 51 2 (by decide) (by decide) _))
          have rb := fun Q9 z => rb Q9 (im_n z)
          by_cases hc : (σ 51 0 (6 : Int32).toNatClampNeg) = 0
          · have h := h.2 hc
            have rb := fun Q9 z => rb Q9 (br_u hc z)
            obtain ⟨hc, h⟩ := h
            have rb := fun Q9 z => rb Q9 (And.intro hc z)
            have h := h ((ok 51 0 _).2 (tyk_a 51 2 (by decide) (by decide) _))
            have rb := fun Q9 z => rb Q9 (im_n z)
            by_cases hc : (σ 51 0 (7 : Int32).toNatClampNeg) = 0
            · have h := h.1 hc
              have rb := fun Q9 z => rb Q9 (br_t hc z)
              obtain ⟨hc, h⟩ := h
              have rb := fun Q9 z => rb Q9 (And.intro hc z)
              have h := h ((ok 51 0 _).2 (tyk_a 51 2 (by decide) (by decide) _))
              have rb := fun Q9 z => rb Q9 (im_n z)
              obtain ⟨hc, h⟩ := h
              have rb := fun Q9 z => rb Q9 (And.intro hc z)
              have h := h ((ok 51 0 _).2 (tyk_a 51 2 (by decide) (by decide) _))
              have rb := fun Q9 z => rb Q9 (im_n z)
              by_cases hc : 64 < ((((σ 51 0 (4 : Int32).toNatClampNeg) &&& 255) <<< ((8 : Int32) &&& 31)) ||| ((σ 51 0 (5 : Int32).toNatClampNeg) &&& 255))
              · have h := h.1 hc
                have rb := fun Q9 z => rb Q9 (br_t hc z)
                exact ⟨(-1), h, fun Q9 hq => rb Q9 hq⟩
              have h := h.2 hc
              have rb := fun Q9 z => rb Q9 (br_f hc z)
              by_cases hc : (σ 14 0 3) < (12 + (64 * ((((σ 51 0 (4 : Int32).toNatClampNeg) &&& 255) <<< ((8 : Int32) &&& 31)) ||| ((σ 51 0 (5 : Int32).toNatClampNeg) &&& 255))))
              · have h := h.1 hc
                have rb := fun Q9 z => rb Q9 (br_t hc z)
                exact ⟨(-1), h, fun Q9 hq => rb Q9 hq⟩
              have h := h.2 hc
              have rb := fun Q9 z => rb Q9 (br_f hc z)
              obtain ⟨r1, h, rc⟩ := e14_check ok h
              have rb := fun Q9 z => rb Q9 (rc _ z)
              obtain ⟨r2, h, rc⟩ := e14_imageWord ok h
              have rb := fun Q9 z => rb Q9 (rc _ z)
              by_cases hc : r1 = r2.toInt32
              · have h := h.1 hc
                have rb := fun Q9 z => rb Q9 (br_t hc z)
                obtain ⟨n9, h⟩ := h
                rcases e14_files_L151 ok n9 h with ⟨h, rc⟩ | ⟨h, rc⟩ | ⟨h, rc⟩ | ⟨h, rc⟩ | ⟨h, rc⟩ | ⟨h, rc⟩
                · have rb := fun Q9 z => rb Q9 (Exists.intro n9 (rc _ _ _ _ _ _ _ z))
                  exact ⟨(-1), h, fun Q9 hq => rb Q9 hq⟩
                · have rb := fun Q9 z => rb Q9 (Exists.intro n9 (rc _ _ _ _ _ _ _ z))
                  exact ⟨(-1), h, fun Q9 hq => rb Q9 hq⟩
                · have rb := fun Q9 z => rb Q9 (Exists.intro n9 (rc _ _ _ _ _ _ _ z))
                  exact ⟨(-1), h, fun Q9 hq => rb Q9 hq⟩
                · have rb := fun Q9 z => rb Q9 (Exists.intro n9 (rc _ _ _ _ _ _ _ z))
                  exact ⟨(-1), h, fun Q9 hq => rb Q9 hq⟩
                · have rb := fun Q9 z => rb Q9 (Exists.intro n9 (rc _ _ _ _ _ _ _ z))
                  exact ⟨(-1), h, fun Q9 hq => rb Q9 hq⟩
                · have rb := fun Q9 z => rb Q9 (Exists.intro n9 (rc _ _ _ _ _ _ _ z))
                  exact ⟨((((σ 51 0 (4 : Int32).toNatClampNeg) &&& 255) <<< ((8 : Int32) &&& 31)) ||| ((σ 51 0 (5 : Int32).toNatClampNeg) &&& 255)), h, fun Q9 hq => rb Q9 hq⟩
              have h := h.2 hc
              have rb := fun Q9 z => rb Q9 (br_f hc z)
              exact ⟨(-1), h, fun Q9 hq => rb Q9 hq⟩
            have h := h.2 hc
            have rb := fun Q9 z => rb Q9 (br_f hc z)
            exact ⟨(-1), h, fun Q9 hq => rb Q9 hq⟩
          have h := h.1 hc
          have rb := fun Q9 z => rb Q9 (br_v hc z)
          exact ⟨(-1), h, fun Q9 hq => rb Q9 hq⟩
        have h := h.1 hc
        have rb := fun Q9 z => rb Q9 (br_v hc z)
        exact ⟨(-1), h, fun Q9 hq => rb Q9 hq⟩
      have h := h.1 hc
      have rb := fun Q9 z => rb Q9 (br_v hc z)
      exact ⟨(-1), h, fun Q9 hq => rb Q9 hq⟩
    have h := h.1 hc
    have rb := fun Q9 z => rb Q9 (br_v hc z)
    exact ⟨(-1), h, fun Q9 hq => rb Q9 hq⟩
  have h := h.1 hc
  have rb := fun Q9 z => rb Q9 (br_v hc z)
  exact ⟨(-1), h, fun Q9 hq => rb Q9 hq⟩
/-! WebHostModel.fresh(LWebHostModel$Connection;)V -/
set_option maxHeartbeats 4000000 in
theorem e14_fresh_J198 {σ : St} {o1 : Nat} {Q : St → Prop} (ho1 : o1 < 16) (ok : okS σ) (h : w14_fresh_J198 σ o1 Q) : (∃ (σ' : St), Q σ' ∧ okS σ' ∧ Fr (mF [] [] [] [(15, o1, [21, 22, 24, 44])]) σ σ' ∧ ∀ (Q9 : St → Prop), Q9 σ' → w14_fresh_J198 σ o1 Q9) := by
  have fr : Fr (mF [] [] [] [(15, o1, [21, 22, 24, 44])]) σ σ := Fr.rf
  have rb : ∀ (Q9 : St → Prop), w14_fresh_J198 σ o1 Q9 → w14_fresh_J198 σ o1 Q9 := fun _ z => z
  obtain ⟨σ6, e9⟩ : ∃ s : St, s = up3 σ 15 o1 24 0 := ⟨_, rfl⟩
  have h := h σ6 e9
  have rb := fun Q9 z => rb Q9 (nm_n e9 z)
  have ok : okS σ6 := by rw [e9]; exact (ok_n ok (by decide))
  have fr : Fr (mF [] [] [] [(15, o1, [21, 22, 24, 44])]) σ σ6 := by rw [e9]; exact (Fr.up fr (mF_D (List.mem_of_getElem? (i := 0) rfl) rfl))
  obtain ⟨σ7, e9⟩ : ∃ s : St, s = up3 σ6 15 o1 44 (σ6 14 0 10) := ⟨_, rfl⟩
  have h := h σ7 e9
  have rb := fun Q9 z => rb Q9 (nm_n e9 z)
  have ok : okS σ7 := by rw [e9]; exact (ok_n ok (by decide))
  have fr : Fr (mF [] [] [] [(15, o1, [21, 22, 24, 44])]) σ σ7 := by rw [e9]; exact (Fr.up fr (mF_D (List.mem_of_getElem? (i := 0) rfl) rfl))
  obtain ⟨σ8, e9⟩ : ∃ s : St, s = up3 σ7 15 o1 21 0 := ⟨_, rfl⟩
  have h := h σ8 e9
  have rb := fun Q9 z => rb Q9 (nm_n e9 z)
  have ok : okS σ8 := by rw [e9]; exact (ok_z ok (by decide) (Or.inl rfl))
  have fr : Fr (mF [] [] [] [(15, o1, [21, 22, 24, 44])]) σ σ8 := by rw [e9]; exact (Fr.up fr (mF_D (List.mem_of_getElem? (i := 0) rfl) rfl))
  obtain ⟨r9, h, rc⟩ := e14_before ok h
  have rb := fun Q9 z => rb Q9 (rc _ z)
  by_cases hc : r9 = 0
  · have h := h.1 hc
    have rb := fun Q9 z => rb Q9 (br_t hc z)
    exact ⟨σ8, h, ok, fr, fun Q9 hq => rb Q9 hq⟩
  have h := h.2 hc
  have rb := fun Q9 z => rb Q9 (br_f hc z)
  obtain ⟨σ10, h, ok, fr9, rc⟩ := e14_timerSet ho1 ok h
  have fr := fr.tr (fr9.sub (mF_sub rfl sub_nil rfl (sud_c (Or.inr ⟨_, List.mem_of_getElem? (i := 0) rfl, rfl⟩) sud_nil)))
  have rb := fun Q9 z => rb Q9 (rc _ z)
  exact ⟨σ10, h, ok, fr, fun Q9 hq => rb Q9 hq⟩
set_option maxHeartbeats 4000000 in
theorem e14_fresh_J111 {σ : St} {o1 : Nat} {x2 : Int32} {Q : St → Prop} (ho1 : o1 < 16) (ok : okS σ) (h : w14_fresh_J111 σ o1 x2 Q) : (∃ (σ' : St), Q σ' ∧ okS σ' ∧ Fr (mF [] [] [] [(15, o1, [11, 18, 21, 22, 24, 44])]) σ σ' ∧ ∀ (Q9 : St → Prop), Q9 σ' → w14_fresh_J111 σ o1 x2 Q9) := by
  have fr : Fr (mF [] [] [] [(15, o1, [11, 18, 21, 22, 24, 44])]) σ σ := Fr.rf
  have rb : ∀ (Q9 : St → Prop), w14_fresh_J111 σ o1 x2 Q9 → w14_fresh_J111 σ o1 x2 Q9 := fun _ z => z
  have h := h ((ok 15 o1 18).1 (by decide))
  have rb := fun Q9 z => rb Q9 (im_n z)
  by_cases hc : (σ 15 o1 18) = 0
  · have h := h.1 hc
    have rb := fun Q9 z => rb Q9 (br_t hc z)
    by_cases hc : (σ 15 o1 0) = 1
    · have h := h.1 hc
      have rb := fun Q9 z => rb Q9 (br_t hc z)
      obtain ⟨σ9, h, ok, fr9, rc⟩ := e14_fresh_J198 ho1 ok h
      exact ⟨σ9, h, ok, fr.tr (fr9.sub (mF_sub rfl sub_nil rfl (sud_c (Or.inr ⟨_, List.mem_of_getElem? (i := 0) rfl, rfl⟩) sud_nil))), fun Q9 hq => rb Q9 (rc Q9 hq)⟩
    have h := h.2 hc
    have rb := fun Q9 z => rb Q9 (br_f hc z)
    by_cases hc : (σ 15 o1 12) ≤ (σ 15 o1 11)
    · have h := h.1 hc
      have rb := fun Q9 z => rb Q9 (br_t hc z)
      obtain ⟨hc, h⟩ := h
      have rb := fun Q9 z => rb Q9 (And.intro hc z)
      obtain ⟨σ11, e9⟩ : ∃ s : St, s = up3 σ 15 o1 11 (imin 65535 ((σ 15 o1 11) + (imax 1 (((σ 15 o1 10) * (σ 15 o1 10)) / (σ 15 o1 11))))) := ⟨_, rfl⟩
      have h := h σ11 e9
      have rb := fun Q9 z => rb Q9 (nm_n e9 z)
      have ok : okS σ11 := by rw [e9]; exact (ok_n ok (by decide))
      have fr : Fr (mF [] [] [] [(15, o1, [11, 18, 21, 22, 24, 44])]) σ σ11 := by rw [e9]; exact (Fr.up fr (mF_D (List.mem_of_getElem? (i := 0) rfl) rfl))
      obtain ⟨σ9, h, ok, fr9, rc⟩ := e14_fresh_J198 ho1 ok h
      exact ⟨σ9, h, ok, fr.tr (fr9.sub (mF_sub rfl sub_nil rfl (sud_c (Or.inr ⟨_, List.mem_of_getElem? (i := 0) rfl, rfl⟩) sud_nil))), fun Q9 hq => rb Q9 (rc Q9 hq)⟩
    have h := h.2 hc
    have rb := fun Q9 z => rb Q9 (br_f hc z)
    obtain ⟨σ12, e9⟩ : ∃ s : St, s = up3 σ 15 o1 11 (imin 65535 ((σ 15 o1 11) + (imin x2 (σ 15 o1 10)))) := ⟨_, rfl⟩
    have h := h σ12 e9
    have rb := fun Q9 z => rb Q9 (nm_n e9 z)
    have ok : okS σ12 := by rw [e9]; exact (ok_n ok (by decide))
    have fr : Fr (mF [] [] [] [(15, o1, [11, 18, 21, 22, 24, 44])]) σ σ12 := by rw [e9]; exact (Fr.up fr (mF_D (List.mem_of_getElem? (i := 0) rfl) rfl))
    obtain ⟨σ9, h, ok, fr9, rc⟩ := e14_fresh_J198 ho1 ok h
    exact ⟨σ9, h, ok, fr.tr (fr9.sub (mF_sub rfl sub_nil rfl (sud_c (Or.inr ⟨_, List.mem_of_getElem? (i := 0) rfl, rfl⟩) sud_nil))), fun Q9 hq => rb Q9 (rc Q9 hq)⟩
  have h := h.2 hc
  have rb := fun Q9 z => rb Q9 (br_f hc z)
  obtain ⟨σ13, e9⟩ : ∃ s : St, s = up3 σ 15 o1 18 0 := ⟨_, rfl⟩
  have h := h σ13 e9
  have rb := fun Q9 z => rb Q9 (nm_n e9 z)
  have ok : okS σ13 := by rw [e9]; exact (ok_z ok (by decide) (Or.inl rfl))
  have fr : Fr (mF [] [] [] [(15, o1, [11, 18, 21, 22, 24, 44])]) σ σ13 := by rw [e9]; exact (Fr.up fr (mF_D (List.mem_of_getElem? (i := 0) rfl) rfl))
  obtain ⟨σ14, e9⟩ : ∃ s : St, s = up3 σ13 15 o1 11 (σ13 15 o1 12) := ⟨_, rfl⟩
  have h := h σ14 e9
  have rb := fun Q9 z => rb Q9 (nm_n e9 z)
  have ok : okS σ14 := by rw [e9]; exact (ok_n ok (by decide))
  have fr : Fr (mF [] [] [] [(15, o1, [11, 18, 21, 22, 24, 44])]) σ σ14 := by rw [e9]; exact (Fr.up fr (mF_D (List.mem_of_getElem? (i := 0) rfl) rfl))
  obtain ⟨σ9, h, ok, fr9, rc⟩ := e14_fresh_J198 ho1 ok h
  exact ⟨σ9, h, ok, fr.tr (fr9.sub (mF_sub rfl sub_nil rfl (sud_c (Or.inr ⟨_, List.mem_of_getElem? (i := 0) rfl, rfl⟩) sud_nil))), fun Q9 hq => rb Q9 (rc Q9 hq)⟩
set_option maxHeartbeats 4000000 in
theorem e14_fresh_J67 {σ : St} {o1 : Nat} {x2 : Int32} {Q : St → Prop} (ho1 : o1 < 16) (ok : okS σ) (h : w14_fresh_J67 σ o1 x2 Q) : (∃ (σ' : St), Q σ' ∧ okS σ' ∧ Fr (mF [] [] [] [(15, o1, [11, 13, 14, 15, 16, 17, 18, 21, 22, 23, 24, 44])]) σ σ' ∧ ∀ (Q9 : St → Prop), Q9 σ' → w14_fresh_J67 σ o1 x2 Q9) := by
  have fr : Fr (mF [] [] [] [(15, o1, [11, 13, 14, 15, 16, 17, 18, 21, 22, 23, 24, 44])]) σ σ := Fr.rf
  have rb : ∀ (Q9 : St → Prop), w14_fresh_J67 σ o1 x2 Q9 → w14_fresh_J67 σ o1 x2 Q9 := fun _ z => z
  obtain ⟨σ5, e9⟩ : ∃ s : St, s = up3 σ 15 o1 23 0 := ⟨_, rfl⟩
  have h := h σ5 e9
  have rb := fun Q9 z => rb Q9 (nm_n e9 z)
  have ok : okS σ5 := by rw [e9]; exact (ok_n ok (by decide))
  have fr : Fr (mF [] [] [] [(15, o1, [11, 13, 14, 15, 16, 17, 18, 21, 22, 23, 24, 44])]) σ σ5 := by rw [e9]; exact (Fr.up fr (mF_D (List.mem_of_getElem? (i := 0) rfl) rfl))
  have h := h ((ok 15 o1 17).1 (by decide))
  have rb := fun Q9 z => rb Q9 (im_n z)
  by_cases hc : (σ5 15 o1 17) = 0
  · have h := h.1 hc
    have rb := fun Q9 z => rb Q9 (br_t hc z)
    obtain ⟨σ9, h, ok, fr9, rc⟩ := e14_fresh_J111 ho1 ok h
    exact ⟨σ9, h, ok, fr.tr (fr9.sub (mF_sub rfl sub_nil rfl (sud_c (Or.inr ⟨_, List.mem_of_getElem? (i := 0) rfl, rfl⟩) sud_nil))), fun Q9 hq => rb Q9 (rc Q9 hq)⟩
  have h := h.2 hc
  have rb := fun Q9 z => rb Q9 (br_f hc z)
  obtain ⟨r15, h, rc⟩ := e14_isBehind ok h
  have rb := fun Q9 z => rb Q9 (rc _ z)
  by_cases hc : r15 = 0
  · have h := h.1 hc
    have rb := fun Q9 z => rb Q9 (br_t hc z)
    obtain ⟨σ9, h, ok, fr9, rc⟩ := e14_fresh_J111 ho1 ok h
    exact ⟨σ9, h, ok, fr.tr (fr9.sub (mF_sub rfl sub_nil rfl (sud_c (Or.inr ⟨_, List.mem_of_getElem? (i := 0) rfl, rfl⟩) sud_nil))), fun Q9 hq => rb Q9 (rc Q9 hq)⟩
  have h := h.2 hc
  have rb := fun Q9 z => rb Q9 (br_f hc z)
  obtain ⟨σ16, e9⟩ : ∃ s : St, s = up3 σ5 15 o1 17 0 := ⟨_, rfl⟩
  have h := h σ16 e9
  have rb := fun Q9 z => rb Q9 (nm_n e9 z)
  have ok : okS σ16 := by rw [e9]; exact (ok_z ok (by decide) (Or.inl rfl))
  have fr : Fr (mF [] [] [] [(15, o1, [11, 13, 14, 15, 16, 17, 18, 21, 22, 23, 24, 44])]) σ σ16 := by rw [e9]; exact (Fr.up fr (mF_D (List.mem_of_getElem? (i := 0) rfl) rfl))
  obtain ⟨σ17, h, ok, fr9, rc⟩ := e14_measure ho1 ok h
  have fr := fr.tr (fr9.sub (mF_sub rfl sub_nil rfl (sud_c (Or.inr ⟨_, List.mem_of_getElem? (i := 0) rfl, rfl⟩) sud_nil)))
  have rb := fun Q9 z => rb Q9 (rc _ z)
  obtain ⟨σ9, h, ok, fr9, rc⟩ := e14_fresh_J111 ho1 ok h
  exact ⟨σ9, h, ok, fr.tr (fr9.sub (mF_sub rfl sub_nil rfl (sud_c (Or.inr ⟨_, List.mem_of_getElem? (i := 0) rfl, rfl⟩) sud_nil))), fun Q9 hq => rb Q9 (rc Q9 hq)⟩
set_option maxHeartbeats 4000000 in
theorem e14_fresh {σ : St} {o1 : Nat} {Q : St → Prop} (ho1 : o1 < 16) (ok : okS σ) (h : w14_fresh σ o1 Q) : (∃ (σ' : St), Q σ' ∧ okS σ' ∧ Fr (mF [56] [] [] [(15, o1, [4, 5, 11, 13, 14, 15, 16, 17, 18, 21, 22, 23, 24, 44])]) σ σ' ∧ ∀ (Q9 : St → Prop), Q9 σ' → w14_fresh σ o1 Q9) := by
  have fr : Fr (mF [56] [] [] [(15, o1, [4, 5, 11, 13, 14, 15, 16, 17, 18, 21, 22, 23, 24, 44])]) σ σ := Fr.rf
  have rb : ∀ (Q9 : St → Prop), w14_fresh σ o1 Q9 → w14_fresh σ o1 Q9 := fun _ z => z
  obtain ⟨hc, h⟩ := h
  have rb := fun Q9 z => rb Q9 (And.intro hc z)
  obtain ⟨hc, h⟩ := h
  have rb := fun Q9 z => rb Q9 (And.intro hc z)
  obtain ⟨σ1, e9⟩ : ∃ s : St, s = up3 σ 56 0 (6 : Int32).toNatClampNeg ((σ 56 0 (6 : Int32).toNatClampNeg) + 1) := ⟨_, rfl⟩
  have h := h σ1 e9
  have rb := fun Q9 z => rb Q9 (nm_n e9 z)
  have ok : okS σ1 := by rw [e9]; exact (ok_n ok (tyk_a 56 0 (by decide) (by decide) _))
  have fr : Fr (mF [56] [] [] [(15, o1, [4, 5, 11, 13, 14, 15, 16, 17, 18, 21, 22, 23, 24, 44])]) σ σ1 := by rw [e9]; exact (Fr.up fr (mF_A rfl))
  obtain ⟨hc, h⟩ := h
  have rb := fun Q9 z => rb Q9 (And.intro hc z)
  obtain ⟨hc, h⟩ := h
  have rb := fun Q9 z => rb Q9 (And.intro hc z)
  obtain ⟨σ2, e9⟩ : ∃ s : St, s = up3 σ1 56 0 (7 : Int32).toNatClampNeg ((σ1 56 0 (7 : Int32).toNatClampNeg) + ((σ 14 0 35) - (σ 15 o1 4))) := ⟨_, rfl⟩
  have h := h σ2 e9
  have rb := fun Q9 z => rb Q9 (nm_n e9 z)
  have ok : okS σ2 := by rw [e9]; exact (ok_n ok (tyk_a 56 0 (by decide) (by decide) _))
  have fr : Fr (mF [56] [] [] [(15, o1, [4, 5, 11, 13, 14, 15, 16, 17, 18, 21, 22, 23, 24, 44])]) σ σ2 := by rw [e9]; exact (Fr.up fr (mF_A rfl))
  obtain ⟨σ3, e9⟩ : ∃ s : St, s = up3 σ2 15 o1 4 (σ2 14 0 35) := ⟨_, rfl⟩
  have h := h σ3 e9
  have rb := fun Q9 z => rb Q9 (nm_n e9 z)
  have ok : okS σ3 := by rw [e9]; exact (ok_n ok (by decide))
  have fr : Fr (mF [56] [] [] [(15, o1, [4, 5, 11, 13, 14, 15, 16, 17, 18, 21, 22, 23, 24, 44])]) σ σ3 := by rw [e9]; exact (Fr.up fr (mF_D (List.mem_of_getElem? (i := 0) rfl) rfl))
  obtain ⟨r4, h, rc⟩ := e14_before ok h
  have rb := fun Q9 z => rb Q9 (rc _ z)
  by_cases hc : r4 = 0
  · have h := h.1 hc
    have rb := fun Q9 z => rb Q9 (br_t hc z)
    obtain ⟨σ9, h, ok, fr9, rc⟩ := e14_fresh_J67 ho1 ok h
    exact ⟨σ9, h, ok, fr.tr (fr9.sub (mF_sub rfl sub_nil rfl (sud_c (Or.inr ⟨_, List.mem_of_getElem? (i := 0) rfl, rfl⟩) sud_nil))), fun Q9 hq => rb Q9 (rc Q9 hq)⟩
  have h := h.2 hc
  have rb := fun Q9 z => rb Q9 (br_f hc z)
  obtain ⟨σ18, e9⟩ : ∃ s : St, s = up3 σ3 15 o1 5 (σ3 15 o1 4) := ⟨_, rfl⟩
  have h := h σ18 e9
  have rb := fun Q9 z => rb Q9 (nm_n e9 z)
  have ok : okS σ18 := by rw [e9]; exact (ok_n ok (by decide))
  have fr : Fr (mF [56] [] [] [(15, o1, [4, 5, 11, 13, 14, 15, 16, 17, 18, 21, 22, 23, 24, 44])]) σ σ18 := by rw [e9]; exact (Fr.up fr (mF_D (List.mem_of_getElem? (i := 0) rfl) rfl))
  obtain ⟨σ9, h, ok, fr9, rc⟩ := e14_fresh_J67 ho1 ok h
  exact ⟨σ9, h, ok, fr.tr (fr9.sub (mF_sub rfl sub_nil rfl (sud_c (Or.inr ⟨_, List.mem_of_getElem? (i := 0) rfl, rfl⟩) sud_nil))), fun Q9 hq => rb Q9 (rc Q9 hq)⟩
/-! WebHostModel.hexadecimal(I)I -/
set_option maxHeartbeats 4000000 in
theorem e14_hexadecimal {σ : St} {x0 : Int32} {Q : Int32 → Prop} (ok : okS σ) (h : w14_hexadecimal σ x0 Q) : (∃ r : Int32, Q r ∧ ∀ (Q9 : Int32 → Prop), Q9 r → w14_hexadecimal σ x0 Q9) := by
  have rb : ∀ (Q9 : Int32 → Prop), w14_hexadecimal σ x0 Q9 → w14_hexadecimal σ x0 Q9 := fun _ z => z
  obtain ⟨r1, h, rc⟩ := e14_isDigit ok h
  have rb := fun Q9 z => rb Q9 (rc _ z)
  by_cases hc : r1 = 0
  · have h := h.1 hc
    have rb := fun Q9 z => rb Q9 (br_t hc z)
    obtain ⟨r2, h, rc⟩ := e14_small ok h
    have rb := fun Q9 z => rb Q9 (rc _ z)
    by_cases hc : r2 < 97
    · have h := h.1 hc
      have rb := fun Q9 z => rb Q9 (br_t hc z)
      exact ⟨(-1), h, fun Q9 hq => rb Q9 hq⟩
    have h := h.2 hc
    have rb := fun Q9 z => rb Q9 (br_f hc z)
    obtain ⟨r3, h, rc⟩ := e14_small ok h
    have rb := fun Q9 z => rb Q9 (rc _ z)
    by_cases hc : 102 < r3
    · have h := h.1 hc
      have rb := fun Q9 z => rb Q9 (br_t hc z)
      exact ⟨(-1), h, fun Q9 hq => rb Q9 hq⟩
    have h := h.2 hc
    have rb := fun Q9 z => rb Q9 (br_f hc z)
    obtain ⟨r4, h, rc⟩ := e14_small ok h
    have rb := fun Q9 z => rb Q9 (rc _ z)
    exact ⟨((r4 - 97) + 10), h, fun Q9 hq => rb Q9 hq⟩
  have h := h.2 hc
  have rb := fun Q9 z => rb Q9 (br_f hc z)
  exact ⟨(x0 - 48), h, fun Q9 hq => rb Q9 hq⟩
/-! WebHostModel.isNameCode(I)Z -/
set_option maxHeartbeats 4000000 in
theorem e14_isNameCode_J113 {σ : St} {x0 : Int32} {x2 : Int32} {Q : Int32 → Prop} (ok : okS σ) (h : w14_isNameCode_J113 σ x0 x2 Q) : (∃ r : Int32, Q r ∧ ∀ (Q9 : Int32 → Prop), Q9 r → w14_isNameCode_J113 σ x0 x2 Q9) := by
  have rb : ∀ (Q9 : Int32 → Prop), w14_isNameCode_J113 σ x0 x2 Q9 → w14_isNameCode_J113 σ x0 x2 Q9 := fun _ z => z
  obtain ⟨r2, h, rc⟩ := e14_isDigit ok h
  have rb := fun Q9 z => rb Q9 (rc _ z)
  by_cases hc : r2 = 0
  · have h := h.2 hc
    have rb := fun Q9 z => rb Q9 (br_u hc z)
    by_cases hc : x2 = 0
    · have h := h.1 hc
      have rb := fun Q9 z => rb Q9 (br_t hc z)
      exact ⟨0, h, fun Q9 hq => rb Q9 hq⟩
    have h := h.2 hc
    have rb := fun Q9 z => rb Q9 (br_f hc z)
    exact ⟨1, h, fun Q9 hq => rb Q9 hq⟩
  have h := h.1 hc
  have rb := fun Q9 z => rb Q9 (br_v hc z)
  exact ⟨1, h, fun Q9 hq => rb Q9 hq⟩
set_option maxHeartbeats 4000000 in
theorem e14_isNameCode {σ : St} {x0 : Int32} {Q : Int32 → Prop} (ok : okS σ) (h : w14_isNameCode σ x0 Q) : (∃ r : Int32, Q r ∧ ∀ (Q9 : Int32 → Prop), Q9 r → w14_isNameCode σ x0 Q9) := by
  have rb : ∀ (Q9 : Int32 → Prop), w14_isNameCode σ x0 Q9 → w14_isNameCode σ x0 Q9 := fun _ z => z
  obtain ⟨r1, h, rc⟩ := e14_small ok h
  have rb := fun Q9 z => rb Q9 (rc _ z)
  by_cases hc : x0 = 45
  · have h := h.1 hc
    have rb := fun Q9 z => rb Q9 (br_t hc z)
    by_cases hc : r1 < 97
    · have h := h.1 hc
      have rb := fun Q9 z => rb Q9 (br_t hc z)
      obtain ⟨r9, h, rc⟩ := e14_isNameCode_J113 ok h
      exact ⟨r9, h, fun Q9 hq => rb Q9 (rc Q9 hq)⟩
    have h := h.2 hc
    have rb := fun Q9 z => rb Q9 (br_f hc z)
    by_cases hc : r1 ≤ 122
    · have h := h.1 hc
      have rb := fun Q9 z => rb Q9 (br_t hc z)
      exact ⟨1, h, fun Q9 hq => rb Q9 hq⟩
    have h := h.2 hc
    have rb := fun Q9 z => rb Q9 (br_f hc z)
    obtain ⟨r9, h, rc⟩ := e14_isNameCode_J113 ok h
    exact ⟨r9, h, fun Q9 hq => rb Q9 (rc Q9 hq)⟩
  have h := h.2 hc
  have rb := fun Q9 z => rb Q9 (br_f hc z)
  by_cases hc : x0 = 95
  · have h := h.1 hc
    have rb := fun Q9 z => rb Q9 (br_t hc z)
    by_cases hc : r1 < 97
    · have h := h.1 hc
      have rb := fun Q9 z => rb Q9 (br_t hc z)
      obtain ⟨r9, h, rc⟩ := e14_isNameCode_J113 ok h
      exact ⟨r9, h, fun Q9 hq => rb Q9 (rc Q9 hq)⟩
    have h := h.2 hc
    have rb := fun Q9 z => rb Q9 (br_f hc z)
    by_cases hc : r1 ≤ 122
    · have h := h.1 hc
      have rb := fun Q9 z => rb Q9 (br_t hc z)
      exact ⟨1, h, fun Q9 hq => rb Q9 hq⟩
    have h := h.2 hc
    have rb := fun Q9 z => rb Q9 (br_f hc z)
    obtain ⟨r9, h, rc⟩ := e14_isNameCode_J113 ok h
    exact ⟨r9, h, fun Q9 hq => rb Q9 (rc Q9 hq)⟩
  have h := h.2 hc
  have rb := fun Q9 z => rb Q9 (br_f hc z)
  by_cases hc : x0 = 46
  · have h := h.1 hc
    have rb := fun Q9 z => rb Q9 (br_t hc z)
    by_cases hc : r1 < 97
    · have h := h.1 hc
      have rb := fun Q9 z => rb Q9 (br_t hc z)
      obtain ⟨r9, h, rc⟩ := e14_isNameCode_J113 ok h
      exact ⟨r9, h, fun Q9 hq => rb Q9 (rc Q9 hq)⟩
    have h := h.2 hc
    have rb := fun Q9 z => rb Q9 (br_f hc z)
    by_cases hc : r1 ≤ 122
    · have h := h.1 hc
      have rb := fun Q9 z => rb Q9 (br_t hc z)
      exact ⟨1, h, fun Q9 hq => rb Q9 hq⟩
    have h := h.2 hc
    have rb := fun Q9 z => rb Q9 (br_f hc z)
    obtain ⟨r9, h, rc⟩ := e14_isNameCode_J113 ok h
    exact ⟨r9, h, fun Q9 hq => rb Q9 (rc Q9 hq)⟩
  have h := h.2 hc
  have rb := fun Q9 z => rb Q9 (br_f hc z)
  by_cases hc : x0 = 33
  · have h := h.1 hc
    have rb := fun Q9 z => rb Q9 (br_t hc z)
    by_cases hc : r1 < 97
    · have h := h.1 hc
      have rb := fun Q9 z => rb Q9 (br_t hc z)
      obtain ⟨r9, h, rc⟩ := e14_isNameCode_J113 ok h
      exact ⟨r9, h, fun Q9 hq => rb Q9 (rc Q9 hq)⟩
    have h := h.2 hc
    have rb := fun Q9 z => rb Q9 (br_f hc z)
    by_cases hc : r1 ≤ 122
    · have h := h.1 hc
      have rb := fun Q9 z => rb Q9 (br_t hc z)
      exact ⟨1, h, fun Q9 hq => rb Q9 hq⟩
    have h := h.2 hc
    have rb := fun Q9 z => rb Q9 (br_f hc z)
    obtain ⟨r9, h, rc⟩ := e14_isNameCode_J113 ok h
    exact ⟨r9, h, fun Q9 hq => rb Q9 (rc Q9 hq)⟩
  have h := h.2 hc
  have rb := fun Q9 z => rb Q9 (br_f hc z)
  by_cases hc : x0 = 35
  · have h := h.1 hc
    have rb := fun Q9 z => rb Q9 (br_t hc z)
    by_cases hc : r1 < 97
    · have h := h.1 hc
      have rb := fun Q9 z => rb Q9 (br_t hc z)
      obtain ⟨r9, h, rc⟩ := e14_isNameCode_J113 ok h
      exact ⟨r9, h, fun Q9 hq => rb Q9 (rc Q9 hq)⟩
    have h := h.2 hc
    have rb := fun Q9 z => rb Q9 (br_f hc z)
    by_cases hc : r1 ≤ 122
    · have h := h.1 hc
      have rb := fun Q9 z => rb Q9 (br_t hc z)
      exact ⟨1, h, fun Q9 hq => rb Q9 hq⟩
    have h := h.2 hc
    have rb := fun Q9 z => rb Q9 (br_f hc z)
    obtain ⟨r9, h, rc⟩ := e14_isNameCode_J113 ok h
    exact ⟨r9, h, fun Q9 hq => rb Q9 (rc Q9 hq)⟩
  have h := h.2 hc
  have rb := fun Q9 z => rb Q9 (br_f hc z)
  by_cases hc : x0 = 36
  · have h := h.1 hc
    have rb := fun Q9 z => rb Q9 (br_t hc z)
    by_cases hc : r1 < 97
    · have h := h.1 hc
      have rb := fun Q9 z => rb Q9 (br_t hc z)
      obtain ⟨r9, h, rc⟩ := e14_isNameCode_J113 ok h
      exact ⟨r9, h, fun Q9 hq => rb Q9 (rc Q9 hq)⟩
    have h := h.2 hc
    have rb := fun Q9 z => rb Q9 (br_f hc z)
    by_cases hc : r1 ≤ 122
    · have h := h.1 hc
      have rb := fun Q9 z => rb Q9 (br_t hc z)
      exact ⟨1, h, fun Q9 hq => rb Q9 hq⟩
    have h := h.2 hc
    have rb := fun Q9 z => rb Q9 (br_f hc z)
    obtain ⟨r9, h, rc⟩ := e14_isNameCode_J113 ok h
    exact ⟨r9, h, fun Q9 hq => rb Q9 (rc Q9 hq)⟩
  have h := h.2 hc
  have rb := fun Q9 z => rb Q9 (br_f hc z)
  by_cases hc : x0 = 37
  · have h := h.1 hc
    have rb := fun Q9 z => rb Q9 (br_t hc z)
    by_cases hc : r1 < 97
    · have h := h.1 hc
      have rb := fun Q9 z => rb Q9 (br_t hc z)
      obtain ⟨r9, h, rc⟩ := e14_isNameCode_J113 ok h
      exact ⟨r9, h, fun Q9 hq => rb Q9 (rc Q9 hq)⟩
    have h := h.2 hc
    have rb := fun Q9 z => rb Q9 (br_f hc z)
    by_cases hc : r1 ≤ 122
    · have h := h.1 hc
      have rb := fun Q9 z => rb Q9 (br_t hc z)
      exact ⟨1, h, fun Q9 hq => rb Q9 hq⟩
    have h := h.2 hc
    have rb := fun Q9 z => rb Q9 (br_f hc z)
    obtain ⟨r9, h, rc⟩ := e14_isNameCode_J113 ok h
    exact ⟨r9, h, fun Q9 hq => rb Q9 (rc Q9 hq)⟩
  have h := h.2 hc
  have rb := fun Q9 z => rb Q9 (br_f hc z)
  by_cases hc : x0 = 38
  · have h := h.1 hc
    have rb := fun Q9 z => rb Q9 (br_t hc z)
    by_cases hc : r1 < 97
    · have h := h.1 hc
      have rb := fun Q9 z => rb Q9 (br_t hc z)
      obtain ⟨r9, h, rc⟩ := e14_isNameCode_J113 ok h
      exact ⟨r9, h, fun Q9 hq => rb Q9 (rc Q9 hq)⟩
    have h := h.2 hc
    have rb := fun Q9 z => rb Q9 (br_f hc z)
    by_cases hc : r1 ≤ 122
    · have h := h.1 hc
      have rb := fun Q9 z => rb Q9 (br_t hc z)
      exact ⟨1, h, fun Q9 hq => rb Q9 hq⟩
    have h := h.2 hc
    have rb := fun Q9 z => rb Q9 (br_f hc z)
    obtain ⟨r9, h, rc⟩ := e14_isNameCode_J113 ok h
    exact ⟨r9, h, fun Q9 hq => rb Q9 (rc Q9 hq)⟩
  have h := h.2 hc
  have rb := fun Q9 z => rb Q9 (br_f hc z)
  by_cases hc : x0 = 39
  · have h := h.1 hc
    have rb := fun Q9 z => rb Q9 (br_t hc z)
    by_cases hc : r1 < 97
    · have h := h.1 hc
      have rb := fun Q9 z => rb Q9 (br_t hc z)
      obtain ⟨r9, h, rc⟩ := e14_isNameCode_J113 ok h
      exact ⟨r9, h, fun Q9 hq => rb Q9 (rc Q9 hq)⟩
    have h := h.2 hc
    have rb := fun Q9 z => rb Q9 (br_f hc z)
    by_cases hc : r1 ≤ 122
    · have h := h.1 hc
      have rb := fun Q9 z => rb Q9 (br_t hc z)
      exact ⟨1, h, fun Q9 hq => rb Q9 hq⟩
    have h := h.2 hc
    have rb := fun Q9 z => rb Q9 (br_f hc z)
    obtain ⟨r9, h, rc⟩ := e14_isNameCode_J113 ok h
    exact ⟨r9, h, fun Q9 hq => rb Q9 (rc Q9 hq)⟩
  have h := h.2 hc
  have rb := fun Q9 z => rb Q9 (br_f hc z)
  by_cases hc : x0 = 42
  · have h := h.1 hc
    have rb := fun Q9 z => rb Q9 (br_t hc z)
    by_cases hc : r1 < 97
    · have h := h.1 hc
      have rb := fun Q9 z => rb Q9 (br_t hc z)
      obtain ⟨r9, h, rc⟩ := e14_isNameCode_J113 ok h
      exact ⟨r9, h, fun Q9 hq => rb Q9 (rc Q9 hq)⟩
    have h := h.2 hc
    have rb := fun Q9 z => rb Q9 (br_f hc z)
    by_cases hc : r1 ≤ 122
    · have h := h.1 hc
      have rb := fun Q9 z => rb Q9 (br_t hc z)
      exact ⟨1, h, fun Q9 hq => rb Q9 hq⟩
    have h := h.2 hc
    have rb := fun Q9 z => rb Q9 (br_f hc z)
    obtain ⟨r9, h, rc⟩ := e14_isNameCode_J113 ok h
    exact ⟨r9, h, fun Q9 hq => rb Q9 (rc Q9 hq)⟩
  have h := h.2 hc
  have rb := fun Q9 z => rb Q9 (br_f hc z)
  by_cases hc : x0 = 43
  · have h := h.1 hc
    have rb := fun Q9 z => rb Q9 (br_t hc z)
    by_cases hc : r1 < 97
    · have h := h.1 hc
      have rb := fun Q9 z => rb Q9 (br_t hc z)
      obtain ⟨r9, h, rc⟩ := e14_isNameCode_J113 ok h
      exact ⟨r9, h, fun Q9 hq => rb Q9 (rc Q9 hq)⟩
    have h := h.2 hc
    have rb := fun Q9 z => rb Q9 (br_f hc z)
    by_cases hc : r1 ≤ 122
    · have h := h.1 hc
      have rb := fun Q9 z => rb Q9 (br_t hc z)
      exact ⟨1, h, fun Q9 hq => rb Q9 hq⟩
    have h := h.2 hc
    have rb := fun Q9 z => rb Q9 (br_f hc z)
    obtain ⟨r9, h, rc⟩ := e14_isNameCode_J113 ok h
    exact ⟨r9, h, fun Q9 hq => rb Q9 (rc Q9 hq)⟩
  have h := h.2 hc
  have rb := fun Q9 z => rb Q9 (br_f hc z)
  by_cases hc : x0 = 94
  · have h := h.1 hc
    have rb := fun Q9 z => rb Q9 (br_t hc z)
    by_cases hc : r1 < 97
    · have h := h.1 hc
      have rb := fun Q9 z => rb Q9 (br_t hc z)
      obtain ⟨r9, h, rc⟩ := e14_isNameCode_J113 ok h
      exact ⟨r9, h, fun Q9 hq => rb Q9 (rc Q9 hq)⟩
    have h := h.2 hc
    have rb := fun Q9 z => rb Q9 (br_f hc z)
    by_cases hc : r1 ≤ 122
    · have h := h.1 hc
      have rb := fun Q9 z => rb Q9 (br_t hc z)
      exact ⟨1, h, fun Q9 hq => rb Q9 hq⟩
    have h := h.2 hc
    have rb := fun Q9 z => rb Q9 (br_f hc z)
    obtain ⟨r9, h, rc⟩ := e14_isNameCode_J113 ok h
    exact ⟨r9, h, fun Q9 hq => rb Q9 (rc Q9 hq)⟩
  have h := h.2 hc
  have rb := fun Q9 z => rb Q9 (br_f hc z)
  by_cases hc : x0 = 96
  · have h := h.1 hc
    have rb := fun Q9 z => rb Q9 (br_t hc z)
    by_cases hc : r1 < 97
    · have h := h.1 hc
      have rb := fun Q9 z => rb Q9 (br_t hc z)
      obtain ⟨r9, h, rc⟩ := e14_isNameCode_J113 ok h
      exact ⟨r9, h, fun Q9 hq => rb Q9 (rc Q9 hq)⟩
    have h := h.2 hc
    have rb := fun Q9 z => rb Q9 (br_f hc z)
    by_cases hc : r1 ≤ 122
    · have h := h.1 hc
      have rb := fun Q9 z => rb Q9 (br_t hc z)
      exact ⟨1, h, fun Q9 hq => rb Q9 hq⟩
    have h := h.2 hc
    have rb := fun Q9 z => rb Q9 (br_f hc z)
    obtain ⟨r9, h, rc⟩ := e14_isNameCode_J113 ok h
    exact ⟨r9, h, fun Q9 hq => rb Q9 (rc Q9 hq)⟩
  have h := h.2 hc
  have rb := fun Q9 z => rb Q9 (br_f hc z)
  by_cases hc : x0 = 124
  · have h := h.1 hc
    have rb := fun Q9 z => rb Q9 (br_t hc z)
    by_cases hc : r1 < 97
    · have h := h.1 hc
      have rb := fun Q9 z => rb Q9 (br_t hc z)
      obtain ⟨r9, h, rc⟩ := e14_isNameCode_J113 ok h
      exact ⟨r9, h, fun Q9 hq => rb Q9 (rc Q9 hq)⟩
    have h := h.2 hc
    have rb := fun Q9 z => rb Q9 (br_f hc z)
    by_cases hc : r1 ≤ 122
    · have h := h.1 hc
      have rb := fun Q9 z => rb Q9 (br_t hc z)
      exact ⟨1, h, fun Q9 hq => rb Q9 hq⟩
    have h := h.2 hc
    have rb := fun Q9 z => rb Q9 (br_f hc z)
    obtain ⟨r9, h, rc⟩ := e14_isNameCode_J113 ok h
    exact ⟨r9, h, fun Q9 hq => rb Q9 (rc Q9 hq)⟩
  have h := h.2 hc
  have rb := fun Q9 z => rb Q9 (br_f hc z)
  by_cases hc : x0 = 126
  · have h := h.2 hc
    have rb := fun Q9 z => rb Q9 (br_u hc z)
    by_cases hc : r1 < 97
    · have h := h.1 hc
      have rb := fun Q9 z => rb Q9 (br_t hc z)
      obtain ⟨r9, h, rc⟩ := e14_isNameCode_J113 ok h
      exact ⟨r9, h, fun Q9 hq => rb Q9 (rc Q9 hq)⟩
    have h := h.2 hc
    have rb := fun Q9 z => rb Q9 (br_f hc z)
    by_cases hc : r1 ≤ 122
    · have h := h.1 hc
      have rb := fun Q9 z => rb Q9 (br_t hc z)
      exact ⟨1, h, fun Q9 hq => rb Q9 hq⟩
    have h := h.2 hc
    have rb := fun Q9 z => rb Q9 (br_f hc z)
    obtain ⟨r9, h, rc⟩ := e14_isNameCode_J113 ok h
    exact ⟨r9, h, fun Q9 hq => rb Q9 (rc Q9 hq)⟩
  have h := h.1 hc
  have rb := fun Q9 z => rb Q9 (br_v hc z)
  by_cases hc : r1 < 97
  · have h := h.1 hc
    have rb := fun Q9 z => rb Q9 (br_t hc z)
    obtain ⟨r9, h, rc⟩ := e14_isNameCode_J113 ok h
    exact ⟨r9, h, fun Q9 hq => rb Q9 (rc Q9 hq)⟩
  have h := h.2 hc
  have rb := fun Q9 z => rb Q9 (br_f hc z)
  by_cases hc : r1 ≤ 122
  · have h := h.1 hc
    have rb := fun Q9 z => rb Q9 (br_t hc z)
    exact ⟨1, h, fun Q9 hq => rb Q9 hq⟩
  have h := h.2 hc
  have rb := fun Q9 z => rb Q9 (br_f hc z)
  obtain ⟨r9, h, rc⟩ := e14_isNameCode_J113 ok h
  exact ⟨r9, h, fun Q9 hq => rb Q9 (rc Q9 hq)⟩
/-! WebHostModel.length(I)I -/
set_option maxHeartbeats 4000000 in
theorem e14_length {σ : St} {x1 : Int32} {Q : Int32 → Prop} (ok : okS σ) (h : w14_length σ x1 Q) : (∃ r : Int32, Q r ∧ ∀ (Q9 : Int32 → Prop), Q9 r → w14_length σ x1 Q9) := by
  have rb : ∀ (Q9 : Int32 → Prop), w14_length σ x1 Q9 → w14_length σ x1 Q9 := fun _ z => z
  obtain ⟨r1, h, rc⟩ := e14_slot ok h
  have rb := fun Q9 z => rb Q9 (rc _ z)
  by_cases hc : 0 ≤ r1
  · have h := h.1 hc
    have rb := fun Q9 z => rb Q9 (br_t hc z)
    obtain ⟨r2, h, rc⟩ := e14_slot ok h
    have rb := fun Q9 z => rb Q9 (rc _ z)
    obtain ⟨hc, h⟩ := h
    have rb := fun Q9 z => rb Q9 (And.intro hc z)
    exact ⟨(σ 59 0 r2.toNatClampNeg), h, fun Q9 hq => rb Q9 hq⟩
  have h := h.2 hc
  have rb := fun Q9 z => rb Q9 (br_f hc z)
  exact ⟨(-1), h, fun Q9 hq => rb Q9 hq⟩
/-! WebHostModel.lies(LWebHostModel$Connection;II)Z -/
set_option maxHeartbeats 4000000 in
theorem e14_lies {σ : St} {o0 : Nat} {x1 : Int32} {x2 : Int32} {Q : Int32 → Prop} (ho0 : o0 < 16) (ok : okS σ) (h : w14_lies σ o0 x1 x2 Q) : (∃ r : Int32, Q r ∧ ∀ (Q9 : Int32 → Prop), Q9 r → w14_lies σ o0 x1 x2 Q9) := by
  have rb : ∀ (Q9 : Int32 → Prop), w14_lies σ o0 x1 x2 Q9 → w14_lies σ o0 x1 x2 Q9 := fun _ z => z
  obtain ⟨r1, h, rc⟩ := e14_before ok h
  have rb := fun Q9 z => rb Q9 (rc _ z)
  by_cases hc : r1 = 0
  · have h := h.2 hc
    have rb := fun Q9 z => rb Q9 (br_u hc z)
    obtain ⟨r2, h, rc⟩ := e14_before ok h
    have rb := fun Q9 z => rb Q9 (rc _ z)
    by_cases hc : r2 = 0
    · have h := h.1 hc
      have rb := fun Q9 z => rb Q9 (br_t hc z)
      exact ⟨0, h, fun Q9 hq => rb Q9 hq⟩
    have h := h.2 hc
    have rb := fun Q9 z => rb Q9 (br_f hc z)
    exact ⟨1, h, fun Q9 hq => rb Q9 hq⟩
  have h := h.1 hc
  have rb := fun Q9 z => rb Q9 (br_v hc z)
  exact ⟨0, h, fun Q9 hq => rb Q9 hq⟩
/-! WebHostModel.line(LWebHostModel$Connection;)V -/
set_option maxHeartbeats 4000000 in
theorem e14_line {σ : St} {o1 : Nat} {Q : St → Prop} (ho1 : o1 < 16) (ok : okS σ) (h : w14_line σ o1 Q) : (∃ (σ' : St), Q σ' ∧ okS σ' ∧ Fr (mF [] [(71, o1)] [] [(15, o1, [26])]) σ σ' ∧ ∀ (Q9 : St → Prop), Q9 σ' → w14_line σ o1 Q9) := by
  have fr : Fr (mF [] [(71, o1)] [] [(15, o1, [26])]) σ σ := Fr.rf
  have rb : ∀ (Q9 : St → Prop), w14_line σ o1 Q9 → w14_line σ o1 Q9 := fun _ z => z
  obtain ⟨σ1, h, ok, fr9, rc⟩ := e14_code ho1 ok h
  have fr := fr.tr (fr9.sub (mF_sub rfl (sub_c (Or.inr (List.mem_of_getElem? (i := 0) rfl)) sub_nil) rfl (sud_c (Or.inr ⟨_, List.mem_of_getElem? (i := 0) rfl, rfl⟩) sud_nil)))
  have rb := fun Q9 z => rb Q9 (rc _ z)
  obtain ⟨σ2, h, ok, fr9, rc⟩ := e14_code ho1 ok h
  have fr := fr.tr (fr9.sub (mF_sub rfl (sub_c (Or.inr (List.mem_of_getElem? (i := 0) rfl)) sub_nil) rfl (sud_c (Or.inr ⟨_, List.mem_of_getElem? (i := 0) rfl, rfl⟩) sud_nil)))
  have rb := fun Q9 z => rb Q9 (rc _ z)
  exact ⟨σ2, h, ok, fr, fun Q9 hq => rb Q9 hq⟩
/-! WebHostModel.noted(LWebHostModel$Connection;I)V -/
set_option maxHeartbeats 4000000 in
theorem e14_noted {σ : St} {o1 : Nat} {x2 : Int32} {Q : St → Prop} (ho1 : o1 < 16) (ok : okS σ) (h : w14_noted σ o1 x2 Q) : (∃ (σ' : St), Q σ' ∧ okS σ' ∧ Fr (mF [56] [] [] [(15, o1, [17, 19, 20, 21, 22])]) σ σ' ∧ ∀ (Q9 : St → Prop), Q9 σ' → w14_noted σ o1 x2 Q9) := by
  have fr : Fr (mF [56] [] [] [(15, o1, [17, 19, 20, 21, 22])]) σ σ := Fr.rf
  have rb : ∀ (Q9 : St → Prop), w14_noted σ o1 x2 Q9 → w14_noted σ o1 x2 Q9 := fun _ z => z
  obtain ⟨r1, h, rc⟩ := e14_before ok h
  have rb := fun Q9 z => rb Q9 (rc _ z)
  by_cases hc : r1 = 0
  · have h := h.1 hc
    have rb := fun Q9 z => rb Q9 (br_t hc z)
    have h := h ((ok 15 o1 17).1 (by decide))
    have rb := fun Q9 z => rb Q9 (im_n z)
    by_cases hc : (σ 15 o1 17) = 0
    · have h := h.2 hc
      have rb := fun Q9 z => rb Q9 (br_u hc z)
      obtain ⟨σ3, e9⟩ : ∃ s : St, s = up3 σ 15 o1 17 1 := ⟨_, rfl⟩
      have h := h σ3 e9
      have rb := fun Q9 z => rb Q9 (nm_n e9 z)
      have ok : okS σ3 := by rw [e9]; exact (ok_z ok (by decide) (Or.inr rfl))
      have fr : Fr (mF [56] [] [] [(15, o1, [17, 19, 20, 21, 22])]) σ σ3 := by rw [e9]; exact (Fr.up fr (mF_D (List.mem_of_getElem? (i := 0) rfl) rfl))
      obtain ⟨σ4, e9⟩ : ∃ s : St, s = up3 σ3 15 o1 19 x2 := ⟨_, rfl⟩
      have h := h σ4 e9
      have rb := fun Q9 z => rb Q9 (nm_n e9 z)
      have ok : okS σ4 := by rw [e9]; exact (ok_n ok (by decide))
      have fr : Fr (mF [56] [] [] [(15, o1, [17, 19, 20, 21, 22])]) σ σ4 := by rw [e9]; exact (Fr.up fr (mF_D (List.mem_of_getElem? (i := 0) rfl) rfl))
      obtain ⟨σ5, e9⟩ : ∃ s : St, s = up3 σ4 15 o1 20 (σ4 14 0 10) := ⟨_, rfl⟩
      have h := h σ5 e9
      have rb := fun Q9 z => rb Q9 (nm_n e9 z)
      have ok : okS σ5 := by rw [e9]; exact (ok_n ok (by decide))
      have fr : Fr (mF [56] [] [] [(15, o1, [17, 19, 20, 21, 22])]) σ σ5 := by rw [e9]; exact (Fr.up fr (mF_D (List.mem_of_getElem? (i := 0) rfl) rfl))
      have h := h ((ok 15 o1 21).1 (by decide))
      have rb := fun Q9 z => rb Q9 (im_n z)
      by_cases hc : (σ5 15 o1 21) = 0
      · have h := h.2 hc
        have rb := fun Q9 z => rb Q9 (br_u hc z)
        obtain ⟨σ6, h, ok, fr9, rc⟩ := e14_timerSet ho1 ok h
        have fr := fr.tr (fr9.sub (mF_sub rfl sub_nil rfl (sud_c (Or.inr ⟨_, List.mem_of_getElem? (i := 0) rfl, rfl⟩) sud_nil)))
        have rb := fun Q9 z => rb Q9 (rc _ z)
        exact ⟨σ6, h, ok, fr, fun Q9 hq => rb Q9 hq⟩
      have h := h.1 hc
      have rb := fun Q9 z => rb Q9 (br_v hc z)
      exact ⟨σ5, h, ok, fr, fun Q9 hq => rb Q9 hq⟩
    have h := h.1 hc
    have rb := fun Q9 z => rb Q9 (br_v hc z)
    have h := h ((ok 15 o1 21).1 (by decide))
    have rb := fun Q9 z => rb Q9 (im_n z)
    by_cases hc : (σ 15 o1 21) = 0
    · have h := h.2 hc
      have rb := fun Q9 z => rb Q9 (br_u hc z)
      obtain ⟨σ2, h, ok, fr9, rc⟩ := e14_timerSet ho1 ok h
      have fr := fr.tr (fr9.sub (mF_sub rfl sub_nil rfl (sud_c (Or.inr ⟨_, List.mem_of_getElem? (i := 0) rfl, rfl⟩) sud_nil)))
      have rb := fun Q9 z => rb Q9 (rc _ z)
      exact ⟨σ2, h, ok, fr, fun Q9 hq => rb Q9 hq⟩
    have h := h.1 hc
    have rb := fun Q9 z => rb Q9 (br_v hc z)
    exact ⟨σ, h, ok, fr, fun Q9 hq => rb Q9 hq⟩
  have h := h.2 hc
  have rb := fun Q9 z => rb Q9 (br_f hc z)
  obtain ⟨hc, h⟩ := h
  have rb := fun Q9 z => rb Q9 (And.intro hc z)
  obtain ⟨hc, h⟩ := h
  have rb := fun Q9 z => rb Q9 (And.intro hc z)
  obtain ⟨σ7, e9⟩ : ∃ s : St, s = up3 σ 56 0 (3 : Int32).toNatClampNeg ((σ 56 0 (3 : Int32).toNatClampNeg) + 1) := ⟨_, rfl⟩
  have h := h σ7 e9
  have rb := fun Q9 z => rb Q9 (nm_n e9 z)
  have ok : okS σ7 := by rw [e9]; exact (ok_n ok (tyk_a 56 0 (by decide) (by decide) _))
  have fr : Fr (mF [56] [] [] [(15, o1, [17, 19, 20, 21, 22])]) σ σ7 := by rw [e9]; exact (Fr.up fr (mF_A rfl))
  obtain ⟨σ8, e9⟩ : ∃ s : St, s = up3 σ7 15 o1 17 0 := ⟨_, rfl⟩
  have h := h σ8 e9
  have rb := fun Q9 z => rb Q9 (nm_n e9 z)
  have ok : okS σ8 := by rw [e9]; exact (ok_z ok (by decide) (Or.inl rfl))
  have fr : Fr (mF [56] [] [] [(15, o1, [17, 19, 20, 21, 22])]) σ σ8 := by rw [e9]; exact (Fr.up fr (mF_D (List.mem_of_getElem? (i := 0) rfl) rfl))
  have h := h ((ok 15 o1 21).1 (by decide))
  have rb := fun Q9 z => rb Q9 (im_n z)
  by_cases hc : (σ8 15 o1 21) = 0
  · have h := h.2 hc
    have rb := fun Q9 z => rb Q9 (br_u hc z)
    obtain ⟨σ9, h, ok, fr9, rc⟩ := e14_timerSet ho1 ok h
    have fr := fr.tr (fr9.sub (mF_sub rfl sub_nil rfl (sud_c (Or.inr ⟨_, List.mem_of_getElem? (i := 0) rfl, rfl⟩) sud_nil)))
    have rb := fun Q9 z => rb Q9 (rc _ z)
    exact ⟨σ9, h, ok, fr, fun Q9 hq => rb Q9 hq⟩
  have h := h.1 hc
  have rb := fun Q9 z => rb Q9 (br_v hc z)
  exact ⟨σ8, h, ok, fr, fun Q9 hq => rb Q9 hq⟩
/-! WebHostModel.optionMss()I -/
set_option maxHeartbeats 4000000 in
theorem e14_optionMss_L3 {σ : St} {Q : Int32 → Prop} {K22 : Prop} {K47 : Prop} {K79 : Prop} {K93 : Int32 → Prop} {K119 : Prop} (ok : okS σ) :
    ∀ (n : Nat) {x1 : Int32}, w14_optionMss_L3 σ Q K22 K47 K79 K93 K119 n x1 → (K22 ∧ ∀ (Q9 : Int32 → Prop) (K9_22 : Prop) (K9_47 : Prop) (K9_79 : Prop) (K9_93 : Int32 → Prop) (K9_119 : Prop), K9_22 → w14_optionMss_L3 σ Q9 K9_22 K9_47 K9_79 K9_93 K9_119 n x1) ∨ (K47 ∧ ∀ (Q9 : Int32 → Prop) (K9_22 : Prop) (K9_47 : Prop) (K9_79 : Prop) (K9_93 : Int32 → Prop) (K9_119 : Prop), K9_47 → w14_optionMss_L3 σ Q9 K9_22 K9_47 K9_79 K9_93 K9_119 n x1) ∨ (K79 ∧ ∀ (Q9 : Int32 → Prop) (K9_22 : Prop) (K9_47 : Prop) (K9_79 : Prop) (K9_93 : Int32 → Prop) (K9_119 : Prop), K9_79 → w14_optionMss_L3 σ Q9 K9_22 K9_47 K9_79 K9_93 K9_119 n x1) ∨ (∃ (x1' : Int32), K93 x1' ∧ ∀ (Q9 : Int32 → Prop) (K9_22 : Prop) (K9_47 : Prop) (K9_79 : Prop) (K9_93 : Int32 → Prop) (K9_119 : Prop), K9_93 x1' → w14_optionMss_L3 σ Q9 K9_22 K9_47 K9_79 K9_93 K9_119 n x1) ∨ (K119 ∧ ∀ (Q9 : Int32 → Prop) (K9_22 : Prop) (K9_47 : Prop) (K9_79 : Prop) (K9_93 : Int32 → Prop) (K9_119 : Prop), K9_119 → w14_optionMss_L3 σ Q9 K9_22 K9_47 K9_79 K9_93 K9_119 n x1) := by
  intro n
  induction n with
  | zero =>
    intro x1 h
    exact False.elim h
  | succ n ih =>
    intro x1 h
    have rb : ∀ (Q9 : Int32 → Prop) (K9_22 : Prop) (K9_47 : Prop) (K9_79 : Prop) (K9_93 : Int32 → Prop) (K9_119 : Prop), w14_optionMss_L3 σ Q9 K9_22 K9_47 K9_79 K9_93 K9_119 (n + 1) x1 → w14_optionMss_L3 σ Q9 K9_22 K9_47 K9_79 K9_93 K9_119 (n + 1) x1 := fun _ _ _ _ _ _ z => z
    by_cases hc : (σ 14 0 40) ≤ x1
    · have h := h.1 hc
      have rb := fun Q9 K9_22 K9_47 K9_79 K9_93 K9_119 z => rb Q9 K9_22 K9_47 K9_79 K9_93 K9_119 (br_t hc z)
      exact (Or.inr (Or.inr (Or.inr (Or.inr ⟨h, fun Q9 K9_22 K9_47 K9_79 K9_93 K9_119 hq => rb Q9 K9_22 K9_47 K9_79 K9_93 K9_119 hq⟩))))
    have h := h.2 hc
    have rb := fun Q9 K9_22 K9_47 K9_79 K9_93 K9_119 z => rb Q9 K9_22 K9_47 K9_79 K9_93 K9_119 (br_f hc z)
    obtain ⟨hc, h⟩ := h
    have rb := fun Q9 K9_22 K9_47 K9_79 K9_93 K9_119 z => rb Q9 K9_22 K9_47 K9_79 K9_93 K9_119 (And.intro hc z)
    have h := h ((ok 64 0 _).2 (tyk_a 64 2 (by decide) (by decide) _))
    have rb := fun Q9 K9_22 K9_47 K9_79 K9_93 K9_119 z => rb Q9 K9_22 K9_47 K9_79 K9_93 K9_119 (im_n z)
    by_cases hc : (σ 64 0 x1.toNatClampNeg) = 0
    · have h := h.2 hc
      have rb := fun Q9 K9_22 K9_47 K9_79 K9_93 K9_119 z => rb Q9 K9_22 K9_47 K9_79 K9_93 K9_119 (br_u hc z)
      exact (Or.inl ⟨h, fun Q9 K9_22 K9_47 K9_79 K9_93 K9_119 hq => rb Q9 K9_22 K9_47 K9_79 K9_93 K9_119 hq⟩)
    have h := h.1 hc
    have rb := fun Q9 K9_22 K9_47 K9_79 K9_93 K9_119 z => rb Q9 K9_22 K9_47 K9_79 K9_93 K9_119 (br_v hc z)
    by_cases hc : (σ 64 0 x1.toNatClampNeg) = 1
    · have h := h.2 hc
      have rb := fun Q9 K9_22 K9_47 K9_79 K9_93 K9_119 z => rb Q9 K9_22 K9_47 K9_79 K9_93 K9_119 (br_u hc z)
      rcases ih h with ⟨h, rc⟩ | ⟨h, rc⟩ | ⟨h, rc⟩ | ⟨x1, h, rc⟩ | ⟨h, rc⟩
      · exact (Or.inl ⟨h, fun Q9 K9_22 K9_47 K9_79 K9_93 K9_119 hq => rb Q9 K9_22 K9_47 K9_79 K9_93 K9_119 (rc Q9 K9_22 K9_47 K9_79 K9_93 K9_119 hq)⟩)
      · exact (Or.inr (Or.inl ⟨h, fun Q9 K9_22 K9_47 K9_79 K9_93 K9_119 hq => rb Q9 K9_22 K9_47 K9_79 K9_93 K9_119 (rc Q9 K9_22 K9_47 K9_79 K9_93 K9_119 hq)⟩))
      · exact (Or.inr (Or.inr (Or.inl ⟨h, fun Q9 K9_22 K9_47 K9_79 K9_93 K9_119 hq => rb Q9 K9_22 K9_47 K9_79 K9_93 K9_119 (rc Q9 K9_22 K9_47 K9_79 K9_93 K9_119 hq)⟩)))
      · exact (Or.inr (Or.inr (Or.inr (Or.inl ⟨x1, h, fun Q9 K9_22 K9_47 K9_79 K9_93 K9_119 hq => rb Q9 K9_22 K9_47 K9_79 K9_93 K9_119 (rc Q9 K9_22 K9_47 K9_79 K9_93 K9_119 hq)⟩))))
      · exact (Or.inr (Or.inr (Or.inr (Or.inr ⟨h, fun Q9 K9_22 K9_47 K9_79 K9_93 K9_119 hq => rb Q9 K9_22 K9_47 K9_79 K9_93 K9_119 (rc Q9 K9_22 K9_47 K9_79 K9_93 K9_119 hq)⟩))))
    have h := h.1 hc
    have rb := fun Q9 K9_22 K9_47 K9_79 K9_93 K9_119 z => rb Q9 K9_22 K9_47 K9_79 K9_93 K9_119 (br_v hc z)
    by_cases hc : (x1 + 1) < (σ 14 0 40)
    · have h := h.1 hc
      have rb := fun Q9 K9_22 K9_47 K9_79 K9_93 K9_119 z => rb Q9 K9_22 K9_47 K9_79 K9_93 K9_119 (br_t hc z)
      obtain ⟨hc, h⟩ := h
      have rb := fun Q9 K9_22 K9_47 K9_79 K9_93 K9_119 z => rb Q9 K9_22 K9_47 K9_79 K9_93 K9_119 (And.intro hc z)
      have h := h ((ok 64 0 _).2 (tyk_a 64 2 (by decide) (by decide) _))
      have rb := fun Q9 K9_22 K9_47 K9_79 K9_93 K9_119 z => rb Q9 K9_22 K9_47 K9_79 K9_93 K9_119 (im_n z)
      by_cases hc : ((σ 64 0 (x1 + 1).toNatClampNeg) &&& 255) < 2
      · have h := h.1 hc
        have rb := fun Q9 K9_22 K9_47 K9_79 K9_93 K9_119 z => rb Q9 K9_22 K9_47 K9_79 K9_93 K9_119 (br_t hc z)
        exact (Or.inr (Or.inr (Or.inl ⟨h, fun Q9 K9_22 K9_47 K9_79 K9_93 K9_119 hq => rb Q9 K9_22 K9_47 K9_79 K9_93 K9_119 hq⟩)))
      have h := h.2 hc
      have rb := fun Q9 K9_22 K9_47 K9_79 K9_93 K9_119 z => rb Q9 K9_22 K9_47 K9_79 K9_93 K9_119 (br_f hc z)
      by_cases hc : (x1 + ((σ 64 0 (x1 + 1).toNatClampNeg) &&& 255)) ≤ (σ 14 0 40)
      · have h := h.1 hc
        have rb := fun Q9 K9_22 K9_47 K9_79 K9_93 K9_119 z => rb Q9 K9_22 K9_47 K9_79 K9_93 K9_119 (br_t hc z)
        by_cases hc : (σ 64 0 x1.toNatClampNeg) = 2
        · have h := h.2 hc
          have rb := fun Q9 K9_22 K9_47 K9_79 K9_93 K9_119 z => rb Q9 K9_22 K9_47 K9_79 K9_93 K9_119 (br_u hc z)
          by_cases hc : ((σ 64 0 (x1 + 1).toNatClampNeg) &&& 255) = 4
          · have h := h.2 hc
            have rb := fun Q9 K9_22 K9_47 K9_79 K9_93 K9_119 z => rb Q9 K9_22 K9_47 K9_79 K9_93 K9_119 (br_u hc z)
            exact (Or.inr (Or.inr (Or.inr (Or.inl ⟨x1, h, fun Q9 K9_22 K9_47 K9_79 K9_93 K9_119 hq => rb Q9 K9_22 K9_47 K9_79 K9_93 K9_119 hq⟩))))
          have h := h.1 hc
          have rb := fun Q9 K9_22 K9_47 K9_79 K9_93 K9_119 z => rb Q9 K9_22 K9_47 K9_79 K9_93 K9_119 (br_v hc z)
          rcases ih h with ⟨h, rc⟩ | ⟨h, rc⟩ | ⟨h, rc⟩ | ⟨x1, h, rc⟩ | ⟨h, rc⟩
          · exact (Or.inl ⟨h, fun Q9 K9_22 K9_47 K9_79 K9_93 K9_119 hq => rb Q9 K9_22 K9_47 K9_79 K9_93 K9_119 (rc Q9 K9_22 K9_47 K9_79 K9_93 K9_119 hq)⟩)
          · exact (Or.inr (Or.inl ⟨h, fun Q9 K9_22 K9_47 K9_79 K9_93 K9_119 hq => rb Q9 K9_22 K9_47 K9_79 K9_93 K9_119 (rc Q9 K9_22 K9_47 K9_79 K9_93 K9_119 hq)⟩))
          · exact (Or.inr (Or.inr (Or.inl ⟨h, fun Q9 K9_22 K9_47 K9_79 K9_93 K9_119 hq => rb Q9 K9_22 K9_47 K9_79 K9_93 K9_119 (rc Q9 K9_22 K9_47 K9_79 K9_93 K9_119 hq)⟩)))
          · exact (Or.inr (Or.inr (Or.inr (Or.inl ⟨x1, h, fun Q9 K9_22 K9_47 K9_79 K9_93 K9_119 hq => rb Q9 K9_22 K9_47 K9_79 K9_93 K9_119 (rc Q9 K9_22 K9_47 K9_79 K9_93 K9_119 hq)⟩))))
          · exact (Or.inr (Or.inr (Or.inr (Or.inr ⟨h, fun Q9 K9_22 K9_47 K9_79 K9_93 K9_119 hq => rb Q9 K9_22 K9_47 K9_79 K9_93 K9_119 (rc Q9 K9_22 K9_47 K9_79 K9_93 K9_119 hq)⟩))))
        have h := h.1 hc
        have rb := fun Q9 K9_22 K9_47 K9_79 K9_93 K9_119 z => rb Q9 K9_22 K9_47 K9_79 K9_93 K9_119 (br_v hc z)
        rcases ih h with ⟨h, rc⟩ | ⟨h, rc⟩ | ⟨h, rc⟩ | ⟨x1, h, rc⟩ | ⟨h, rc⟩
        · exact (Or.inl ⟨h, fun Q9 K9_22 K9_47 K9_79 K9_93 K9_119 hq => rb Q9 K9_22 K9_47 K9_79 K9_93 K9_119 (rc Q9 K9_22 K9_47 K9_79 K9_93 K9_119 hq)⟩)
        · exact (Or.inr (Or.inl ⟨h, fun Q9 K9_22 K9_47 K9_79 K9_93 K9_119 hq => rb Q9 K9_22 K9_47 K9_79 K9_93 K9_119 (rc Q9 K9_22 K9_47 K9_79 K9_93 K9_119 hq)⟩))
        · exact (Or.inr (Or.inr (Or.inl ⟨h, fun Q9 K9_22 K9_47 K9_79 K9_93 K9_119 hq => rb Q9 K9_22 K9_47 K9_79 K9_93 K9_119 (rc Q9 K9_22 K9_47 K9_79 K9_93 K9_119 hq)⟩)))
        · exact (Or.inr (Or.inr (Or.inr (Or.inl ⟨x1, h, fun Q9 K9_22 K9_47 K9_79 K9_93 K9_119 hq => rb Q9 K9_22 K9_47 K9_79 K9_93 K9_119 (rc Q9 K9_22 K9_47 K9_79 K9_93 K9_119 hq)⟩))))
        · exact (Or.inr (Or.inr (Or.inr (Or.inr ⟨h, fun Q9 K9_22 K9_47 K9_79 K9_93 K9_119 hq => rb Q9 K9_22 K9_47 K9_79 K9_93 K9_119 (rc Q9 K9_22 K9_47 K9_79 K9_93 K9_119 hq)⟩))))
      have h := h.2 hc
      have rb := fun Q9 K9_22 K9_47 K9_79 K9_93 K9_119 z => rb Q9 K9_22 K9_47 K9_79 K9_93 K9_119 (br_f hc z)
      exact (Or.inr (Or.inr (Or.inl ⟨h, fun Q9 K9_22 K9_47 K9_79 K9_93 K9_119 hq => rb Q9 K9_22 K9_47 K9_79 K9_93 K9_119 hq⟩)))
    have h := h.2 hc
    have rb := fun Q9 K9_22 K9_47 K9_79 K9_93 K9_119 z => rb Q9 K9_22 K9_47 K9_79 K9_93 K9_119 (br_f hc z)
    exact (Or.inr (Or.inl ⟨h, fun Q9 K9_22 K9_47 K9_79 K9_93 K9_119 hq => rb Q9 K9_22 K9_47 K9_79 K9_93 K9_119 hq⟩))
set_option maxHeartbeats 4000000 in
theorem e14_optionMss {σ : St} {Q : Int32 → Prop} (ok : okS σ) (h : w14_optionMss σ Q) : (∃ r : Int32, Q r ∧ ∀ (Q9 : Int32 → Prop), Q9 r → w14_optionMss σ Q9) := by
  have rb : ∀ (Q9 : Int32 → Prop), w14_optionMss σ Q9 → w14_optionMss σ Q9 := fun _ z => z
  obtain ⟨n9, h⟩ := h
  rcases e14_optionMss_L3 ok n9 h with ⟨h, rc⟩ | ⟨h, rc⟩ | ⟨h, rc⟩ | ⟨x1_5, h, rc⟩ | ⟨h, rc⟩
  · have rb := fun Q9 z => rb Q9 (Exists.intro n9 (rc _ _ _ _ _ _ z))
    exact ⟨536, h, fun Q9 hq => rb Q9 hq⟩
  · have rb := fun Q9 z => rb Q9 (Exists.intro n9 (rc _ _ _ _ _ _ z))
    exact ⟨536, h, fun Q9 hq => rb Q9 hq⟩
  · have rb := fun Q9 z => rb Q9 (Exists.intro n9 (rc _ _ _ _ _ _ z))
    exact ⟨536, h, fun Q9 hq => rb Q9 hq⟩
  · have rb := fun Q9 z => rb Q9 (Exists.intro n9 (rc _ _ _ _ _ _ z))
    obtain ⟨r7, h, rc⟩ := e14_half ok h
    have rb := fun Q9 z => rb Q9 (rc _ z)
    exact ⟨(imax 64 (imin 1460 r7)), h, fun Q9 hq => rb Q9 hq⟩
  · have rb := fun Q9 z => rb Q9 (Exists.intro n9 (rc _ _ _ _ _ _ z))
    exact ⟨536, h, fun Q9 hq => rb Q9 hq⟩
/-! WebHostModel.sayNumber(LWebHostModel$Connection;I)V -/
set_option maxHeartbeats 4000000 in
theorem e14_sayNumber_L2 {σ : St} {o1 : Nat} {x2 : Int32} {Q : St → Prop} {K18 : Int32 → Prop} (ho1 : o1 < 16) (ok : okS σ) :
    ∀ (n : Nat) {x3 : Int32}, w14_sayNumber_L2 σ o1 x2 Q K18 n x3 → (∃ (x3' : Int32), K18 x3' ∧ ∀ (Q9 : St → Prop) (K9_18 : Int32 → Prop), K9_18 x3' → w14_sayNumber_L2 σ o1 x2 Q9 K9_18 n x3) := by
  intro n
  induction n with
  | zero =>
    intro x3 h
    exact False.elim h
  | succ n ih =>
    intro x3 h
    have rb : ∀ (Q9 : St → Prop) (K9_18 : Int32 → Prop), w14_sayNumber_L2 σ o1 x2 Q9 K9_18 (n + 1) x3 → w14_sayNumber_L2 σ o1 x2 Q9 K9_18 (n + 1) x3 := fun _ _ z => z
    obtain ⟨hc, h⟩ := h
    have rb := fun Q9 K9_18 z => rb Q9 K9_18 (And.intro hc z)
    by_cases hc : (x2 / x3) < 10
    · have h := h.1 hc
      have rb := fun Q9 K9_18 z => rb Q9 K9_18 (br_t hc z)
      exact ⟨x3, h, fun Q9 K9_18 hq => rb Q9 K9_18 hq⟩
    have h := h.2 hc
    have rb := fun Q9 K9_18 z => rb Q9 K9_18 (br_f hc z)
    rcases ih h with ⟨x3, h, rc⟩
    · exact ⟨x3, h, fun Q9 K9_18 hq => rb Q9 K9_18 (rc Q9 K9_18 hq)⟩
set_option maxHeartbeats 4000000 in
theorem e14_sayNumber_L21 {o1 : Nat} {x2 : Int32} {Q : St → Prop} {K51 : St → Prop} (ho1 : o1 < 16) :
    ∀ (n : Nat) {σ : St} {x4 : Int32} (ok : okS σ), w14_sayNumber_L21 o1 x2 Q K51 n σ x4 → (∃ (σ' : St), K51 σ' ∧ okS σ' ∧ Fr (mF [] [(71, o1)] [] [(15, o1, [26])]) σ σ' ∧ ∀ (Q9 : St → Prop) (K9_51 : St → Prop), K9_51 σ' → w14_sayNumber_L21 o1 x2 Q9 K9_51 n σ x4) := by
  intro n
  induction n with
  | zero =>
    intro σ x4 ok h
    exact False.elim h
  | succ n ih =>
    intro σ x4 ok h
    have fr : Fr (mF [] [(71, o1)] [] [(15, o1, [26])]) σ σ := Fr.rf
    have rb : ∀ (Q9 : St → Prop) (K9_51 : St → Prop), w14_sayNumber_L21 o1 x2 Q9 K9_51 (n + 1) σ x4 → w14_sayNumber_L21 o1 x2 Q9 K9_51 (n + 1) σ x4 := fun _ _ z => z
    by_cases hc : x4 ≤ 0
    · have h := h.1 hc
      have rb := fun Q9 K9_51 z => rb Q9 K9_51 (br_t hc z)
      exact ⟨σ, h, ok, fr, fun Q9 K9_51 hq => rb Q9 K9_51 hq⟩
    have h := h.2 hc
    have rb := fun Q9 K9_51 z => rb Q9 K9_51 (br_f hc z)
    obtain ⟨hc, h⟩ := h
    have rb := fun Q9 K9_51 z => rb Q9 K9_51 (And.intro hc z)
    obtain ⟨σ3, h, ok, fr9, rc⟩ := e14_code ho1 ok h
    have fr := fr.tr (fr9.sub (mF_sub rfl (sub_c (Or.inr (List.mem_of_getElem? (i := 0) rfl)) sub_nil) rfl (sud_c (Or.inr ⟨_, List.mem_of_getElem? (i := 0) rfl, rfl⟩) sud_nil)))
    have rb := fun Q9 K9_51 z => rb Q9 K9_51 (rc _ z)
    rcases ih ok h with ⟨σ', h, ok, fr9, rc⟩
    · exact ⟨σ', h, ok, fr.tr fr9, fun Q9 K9_51 hq => rb Q9 K9_51 (rc Q9 K9_51 hq)⟩
set_option maxHeartbeats 4000000 in
theorem e14_sayNumber {σ : St} {o1 : Nat} {x2 : Int32} {Q : St → Prop} (ho1 : o1 < 16) (ok : okS σ) (h : w14_sayNumber σ o1 x2 Q) : (∃ (σ' : St), Q σ' ∧ okS σ' ∧ Fr (mF [] [(71, o1)] [] [(15, o1, [26])]) σ σ' ∧ ∀ (Q9 : St → Prop), Q9 σ' → w14_sayNumber σ o1 x2 Q9) := by
  have fr : Fr (mF [] [(71, o1)] [] [(15, o1, [26])]) σ σ := Fr.rf
  have rb : ∀ (Q9 : St → Prop), w14_sayNumber σ o1 x2 Q9 → w14_sayNumber σ o1 x2 Q9 := fun _ z => z
  obtain ⟨n9, h⟩ := h
  rcases e14_sayNumber_L2 ho1 ok n9 h with ⟨x3_2, h, rc⟩
  · have rb := fun Q9 z => rb Q9 (Exists.intro n9 (rc _ _ z))
    obtain ⟨n9, h⟩ := h
    rcases e14_sayNumber_L21 ho1 n9 ok h with ⟨σ5, h, ok, fr9, rc⟩
    · have rb := fun Q9 z => rb Q9 (Exists.intro n9 (rc _ _ z))
      have fr := fr.tr (fr9.sub (mF_sub rfl (sub_c (Or.inr (List.mem_of_getElem? (i := 0) rfl)) sub_nil) rfl (sud_c (Or.inr ⟨_, List.mem_of_getElem? (i := 0) rfl, rfl⟩) sud_nil)))
      exact ⟨σ5, h, ok, fr, fun Q9 hq => rb Q9 hq⟩
/-! WebHostModel.send(IIII)V -/
set_option maxHeartbeats 4000000 in
theorem e14_send_L55 {x5 : Int32} {Q : St → Prop} {K76 : St → Prop} :
    ∀ (n : Nat) {σ : St} {x6 : Int32} (ok : okS σ), w14_send_L55 x5 Q K76 n σ x6 → (∃ (σ' : St), K76 σ' ∧ okS σ' ∧ Fr (mF [57] [] [] []) σ σ' ∧ ∀ (Q9 : St → Prop) (K9_76 : St → Prop), K9_76 σ' → w14_send_L55 x5 Q9 K9_76 n σ x6) := by
  intro n
  induction n with
  | zero =>
    intro σ x6 ok h
    exact False.elim h
  | succ n ih =>
    intro σ x6 ok h
    have fr : Fr (mF [57] [] [] []) σ σ := Fr.rf
    have rb : ∀ (Q9 : St → Prop) (K9_76 : St → Prop), w14_send_L55 x5 Q9 K9_76 (n + 1) σ x6 → w14_send_L55 x5 Q9 K9_76 (n + 1) σ x6 := fun _ _ z => z
    by_cases hc : 60 ≤ x6
    · have h := h.1 hc
      have rb := fun Q9 K9_76 z => rb Q9 K9_76 (br_t hc z)
      exact ⟨σ, h, ok, fr, fun Q9 K9_76 hq => rb Q9 K9_76 hq⟩
    have h := h.2 hc
    have rb := fun Q9 K9_76 z => rb Q9 K9_76 (br_f hc z)
    obtain ⟨hc, h⟩ := h
    have rb := fun Q9 K9_76 z => rb Q9 K9_76 (And.intro hc z)
    obtain ⟨σ6, e9⟩ : ∃ s : St, s = up3 σ 57 0 x6.toNatClampNeg (0 : Int32).toInt8.toInt32 := ⟨_, rfl⟩
    have h := h σ6 e9
    have rb := fun Q9 K9_76 z => rb Q9 K9_76 (nm_n e9 z)
    have ok : okS σ6 := by rw [e9]; exact (ok_b ok (tyk_a 57 2 (by decide) (by decide) _))
    have fr : Fr (mF [57] [] [] []) σ σ6 := by rw [e9]; exact (Fr.up fr (mF_A rfl))
    rcases ih ok h with ⟨σ', h, ok, fr9, rc⟩
    · exact ⟨σ', h, ok, fr.tr fr9, fun Q9 K9_76 hq => rb Q9 K9_76 (rc Q9 K9_76 hq)⟩
set_option maxHeartbeats 4000000 in
theorem e14_send_L116 {x5 : Int32} {x6 : Int32} {Q : St → Prop} {K150 : St → Prop} :
    ∀ (n : Nat) {σ : St} {x7 : Int32} (ok : okS σ), w14_send_L116 x5 x6 Q K150 n σ x7 → (∃ (σ' : St), K150 σ' ∧ okS σ' ∧ Fr (mF [58] [] [] []) σ σ' ∧ ∀ (Q9 : St → Prop) (K9_150 : St → Prop), K9_150 σ' → w14_send_L116 x5 x6 Q9 K9_150 n σ x7) := by
  intro n
  induction n with
  | zero =>
    intro σ x7 ok h
    exact False.elim h
  | succ n ih =>
    intro σ x7 ok h
    have fr : Fr (mF [58] [] [] []) σ σ := Fr.rf
    have rb : ∀ (Q9 : St → Prop) (K9_150 : St → Prop), w14_send_L116 x5 x6 Q9 K9_150 (n + 1) σ x7 → w14_send_L116 x5 x6 Q9 K9_150 (n + 1) σ x7 := fun _ _ z => z
    by_cases hc : x5 ≤ x7
    · have h := h.1 hc
      have rb := fun Q9 K9_150 z => rb Q9 K9_150 (br_t hc z)
      exact ⟨σ, h, ok, fr, fun Q9 K9_150 hq => rb Q9 K9_150 hq⟩
    have h := h.2 hc
    have rb := fun Q9 K9_150 z => rb Q9 K9_150 (br_f hc z)
    obtain ⟨hc, h⟩ := h
    have rb := fun Q9 K9_150 z => rb Q9 K9_150 (And.intro hc z)
    have h := h ((ok 57 0 _).2 (tyk_a 57 2 (by decide) (by decide) _))
    have rb := fun Q9 K9_150 z => rb Q9 K9_150 (im_n z)
    obtain ⟨hc, h⟩ := h
    have rb := fun Q9 K9_150 z => rb Q9 K9_150 (And.intro hc z)
    obtain ⟨σ9, e9⟩ : ∃ s : St, s = up3 σ 58 0 ((x6 * 1514) + x7).toNatClampNeg (σ 57 0 x7.toNatClampNeg).toInt8.toInt32 := ⟨_, rfl⟩
    have h := h σ9 e9
    have rb := fun Q9 K9_150 z => rb Q9 K9_150 (nm_n e9 z)
    have ok : okS σ9 := by rw [e9]; exact (ok_b ok (tyk_a 58 2 (by decide) (by decide) _))
    have fr : Fr (mF [58] [] [] []) σ σ9 := by rw [e9]; exact (Fr.up fr (mF_A rfl))
    rcases ih ok h with ⟨σ', h, ok, fr9, rc⟩
    · exact ⟨σ', h, ok, fr.tr fr9, fun Q9 K9_150 hq => rb Q9 K9_150 (rc Q9 K9_150 hq)⟩
set_option maxHeartbeats 4000000 in
theorem e14_send {σ : St} {x1 : Int32} {x2 : Int32} {x3 : Int32} {x4 : Int32} {Q : St → Prop} (ok : okS σ) (h : w14_send σ x1 x2 x3 x4 Q) : (∃ (σ' : St), Q σ' ∧ okS σ' ∧ Fr (mF [57, 58, 59, 60] [] [(14, [18, 23])] []) σ σ' ∧ ∀ (Q9 : St → Prop), Q9 σ' → w14_send σ x1 x2 x3 x4 Q9) := by
  have fr : Fr (mF [57, 58, 59, 60] [] [(14, [18, 23])] []) σ σ := Fr.rf
  have rb : ∀ (Q9 : St → Prop), w14_send σ x1 x2 x3 x4 Q9 → w14_send σ x1 x2 x3 x4 Q9 := fun _ z => z
  obtain ⟨σ1, h, ok, fr9, rc⟩ := e14_put ok h
  have fr := fr.tr (fr9.sub (mF_sub rfl sub_nil rfl sud_nil))
  have rb := fun Q9 z => rb Q9 (rc _ z)
  obtain ⟨σ2, h, ok, fr9, rc⟩ := e14_put ok h
  have fr := fr.tr (fr9.sub (mF_sub rfl sub_nil rfl sud_nil))
  have rb := fun Q9 z => rb Q9 (rc _ z)
  obtain ⟨σ3, h, ok, fr9, rc⟩ := e14_put ok h
  have fr := fr.tr (fr9.sub (mF_sub rfl sub_nil rfl sud_nil))
  have rb := fun Q9 z => rb Q9 (rc _ z)
  obtain ⟨σ4, h, ok, fr9, rc⟩ := e14_put ok h
  have fr := fr.tr (fr9.sub (mF_sub rfl sub_nil rfl sud_nil))
  have rb := fun Q9 z => rb Q9 (rc _ z)
  obtain ⟨σ5, h, ok, fr9, rc⟩ := e14_put ok h
  have fr := fr.tr (fr9.sub (mF_sub rfl sub_nil rfl sud_nil))
  have rb := fun Q9 z => rb Q9 (rc _ z)
  obtain ⟨n9, h⟩ := h
  rcases e14_send_L55 n9 ok h with ⟨σ8, h, ok, fr9, rc⟩
  · have rb := fun Q9 z => rb Q9 (Exists.intro n9 (rc _ _ z))
    have fr := fr.tr (fr9.sub (mF_sub rfl sub_nil rfl sud_nil))
    by_cases hc : (imax (14 + x4) 60) ≤ 1514
    · have h := h.1 hc
      have rb := fun Q9 z => rb Q9 (br_t hc z)
      obtain ⟨n9, h⟩ := h
      rcases e14_send_L116 n9 ok h with ⟨σ11, h, ok, fr9, rc⟩
      · have rb := fun Q9 z => rb Q9 (Exists.intro n9 (rc _ _ z))
        have fr := fr.tr (fr9.sub (mF_sub rfl sub_nil rfl sud_nil))
        obtain ⟨hc, h⟩ := h
        have rb := fun Q9 z => rb Q9 (And.intro hc z)
        obtain ⟨σ12, e9⟩ : ∃ s : St, s = up3 σ11 59 0 ((σ8 14 0 23) - (σ8 14 0 23) / 32 * 32).toNatClampNeg (imax (14 + x4) 60) := ⟨_, rfl⟩
        have h := h σ12 e9
        have rb := fun Q9 z => rb Q9 (nm_n e9 z)
        have ok : okS σ12 := by rw [e9]; exact (ok_n ok (tyk_a 59 0 (by decide) (by decide) _))
        have fr : Fr (mF [57, 58, 59, 60] [] [(14, [18, 23])] []) σ σ12 := by rw [e9]; exact (Fr.up fr (mF_A rfl))
        obtain ⟨hc, h⟩ := h
        have rb := fun Q9 z => rb Q9 (And.intro hc z)
        obtain ⟨σ13, e9⟩ : ∃ s : St, s = up3 σ12 60 0 ((σ8 14 0 23) - (σ8 14 0 23) / 32 * 32).toNatClampNeg (σ12 14 0 10) := ⟨_, rfl⟩
        have h := h σ13 e9
        have rb := fun Q9 z => rb Q9 (nm_n e9 z)
        have ok : okS σ13 := by rw [e9]; exact (ok_n ok (tyk_a 60 0 (by decide) (by decide) _))
        have fr : Fr (mF [57, 58, 59, 60] [] [(14, [18, 23])] []) σ σ13 := by rw [e9]; exact (Fr.up fr (mF_A rfl))
        obtain ⟨σ14, e9⟩ : ∃ s : St, s = up3 σ13 14 0 23 ((σ13 14 0 23) + 1) := ⟨_, rfl⟩
        have h := h σ14 e9
        have rb := fun Q9 z => rb Q9 (nm_n e9 z)
        have ok : okS σ14 := by rw [e9]; exact (ok_n ok (by decide))
        have fr : Fr (mF [57, 58, 59, 60] [] [(14, [18, 23])] []) σ σ14 := by rw [e9]; exact (Fr.up fr (mF_C (List.mem_of_getElem? (i := 0) rfl) rfl))
        exact ⟨σ14, h, ok, fr, fun Q9 hq => rb Q9 hq⟩
    have h := h.2 hc
    have rb := fun Q9 z => rb Q9 (br_f hc z)
    obtain ⟨σ15, e9⟩ : ∃ s : St, s = up3 σ8 14 0 18 ((σ8 14 0 18) + 1) := ⟨_, rfl⟩
    have h := h σ15 e9
    have rb := fun Q9 z => rb Q9 (nm_n e9 z)
    have ok : okS σ15 := by rw [e9]; exact (ok_n ok (by decide))
    have fr : Fr (mF [57, 58, 59, 60] [] [(14, [18, 23])] []) σ σ15 := by rw [e9]; exact (Fr.up fr (mF_C (List.mem_of_getElem? (i := 0) rfl) rfl))
    exact ⟨σ15, h, ok, fr, fun Q9 hq => rb Q9 hq⟩
/-! WebHostModel.time(I)I -/
set_option maxHeartbeats 4000000 in
theorem e14_time {σ : St} {x1 : Int32} {Q : Int32 → Prop} (ok : okS σ) (h : w14_time σ x1 Q) : (∃ r : Int32, Q r ∧ ∀ (Q9 : Int32 → Prop), Q9 r → w14_time σ x1 Q9) := by
  have rb : ∀ (Q9 : Int32 → Prop), w14_time σ x1 Q9 → w14_time σ x1 Q9 := fun _ z => z
  obtain ⟨r1, h, rc⟩ := e14_slot ok h
  have rb := fun Q9 z => rb Q9 (rc _ z)
  by_cases hc : 0 ≤ r1
  · have h := h.1 hc
    have rb := fun Q9 z => rb Q9 (br_t hc z)
    obtain ⟨r2, h, rc⟩ := e14_slot ok h
    have rb := fun Q9 z => rb Q9 (rc _ z)
    obtain ⟨hc, h⟩ := h
    have rb := fun Q9 z => rb Q9 (And.intro hc z)
    exact ⟨(σ 60 0 r2.toNatClampNeg), h, fun Q9 hq => rb Q9 hq⟩
  have h := h.2 hc
  have rb := fun Q9 z => rb Q9 (br_f hc z)
  exact ⟨(-1), h, fun Q9 hq => rb Q9 hq⟩
/-! WebHostModel.trayWord(I)I -/
set_option maxHeartbeats 4000000 in
theorem e14_trayWord {σ : St} {x1 : Int32} {Q : Int32 → Prop} (ok : okS σ) (h : w14_trayWord σ x1 Q) : (∃ r : Int32, Q r ∧ ∀ (Q9 : Int32 → Prop), Q9 r → w14_trayWord σ x1 Q9) := by
  have rb : ∀ (Q9 : Int32 → Prop), w14_trayWord σ x1 Q9 → w14_trayWord σ x1 Q9 := fun _ z => z
  obtain ⟨r1, h, rc⟩ := e14_trayHalf ok h
  have rb := fun Q9 z => rb Q9 (rc _ z)
  obtain ⟨r2, h, rc⟩ := e14_trayHalf ok h
  have rb := fun Q9 z => rb Q9 (rc _ z)
  exact ⟨((r1 <<< ((16 : Int32) &&& 31)) ||| r2), h, fun Q9 hq => rb Q9 hq⟩
/-! WebHostModel.wholeWord(I)I -/
set_option maxHeartbeats 4000000 in
theorem e14_wholeWord {σ : St} {x1 : Int32} {Q : Int32 → Prop} (ok : okS σ) (h : w14_wholeWord σ x1 Q) : (∃ r : Int32, Q r ∧ ∀ (Q9 : Int32 → Prop), Q9 r → w14_wholeWord σ x1 Q9) := by
  have rb : ∀ (Q9 : Int32 → Prop), w14_wholeWord σ x1 Q9 → w14_wholeWord σ x1 Q9 := fun _ z => z
  obtain ⟨r1, h, rc⟩ := e14_half ok h
  have rb := fun Q9 z => rb Q9 (rc _ z)
  obtain ⟨r2, h, rc⟩ := e14_half ok h
  have rb := fun Q9 z => rb Q9 (rc _ z)
  exact ⟨((r1 <<< ((16 : Int32) &&& 31)) ||| r2), h, fun Q9 hq => rb Q9 hq⟩
/-! WebHostModel$Connection.left(I)I -/
set_option maxHeartbeats 4000000 in
theorem e15_left {σ : St} {o0 : Nat} {x1 : Int32} {Q : Int32 → Prop} (ho0 : o0 < 16) (ok : okS σ) (h : w15_left σ o0 x1 Q) : (∃ r : Int32, Q r ∧ ∀ (Q9 : Int32 → Prop), Q9 r → w15_left σ o0 x1 Q9) := by
  have rb : ∀ (Q9 : Int32 → Prop), w15_left σ o0 x1 Q9 → w15_left σ o0 x1 Q9 := fun _ z => z
  obtain ⟨r1, h, rc⟩ := e15_behind ho0 ok h
  have rb := fun Q9 z => rb Q9 (rc _ z)
  have h := h ((ok 15 o0 30).1 (by decide))
  have rb := fun Q9 z => rb Q9 (im_n z)
  by_cases hc : (σ 15 o0 30) = 0
  · have h := h.1 hc
    have rb := fun Q9 z => rb Q9 (br_t hc z)
    exact ⟨((r1 + 0) - x1), h, fun Q9 hq => rb Q9 hq⟩
  have h := h.2 hc
  have rb := fun Q9 z => rb Q9 (br_f hc z)
  exact ⟨((r1 + 1) - x1), h, fun Q9 hq => rb Q9 hq⟩
/-! WebHostModel$Connection.open()I -/
set_option maxHeartbeats 4000000 in
theorem e15_open {σ : St} {o0 : Nat} {Q : Int32 → Prop} (ho0 : o0 < 16) (ok : okS σ) (h : w15_open σ o0 Q) : (∃ r : Int32, Q r ∧ ∀ (Q9 : Int32 → Prop), Q9 r → w15_open σ o0 Q9) := by
  have rb : ∀ (Q9 : Int32 → Prop), w15_open σ o0 Q9 → w15_open σ o0 Q9 := fun _ z => z
  obtain ⟨r1, h, rc⟩ := e15_held ho0 ok h
  have rb := fun Q9 z => rb Q9 (rc _ z)
  exact ⟨(4096 - r1), h, fun Q9 hq => rb Q9 hq⟩
/-! WebHost.cached(I)Z -/
set_option maxHeartbeats 4000000 in
theorem e0_cached {σ : St} {x1 : Int32} {Q : Int32 → Prop} (ok : okS σ) (h : w0_cached σ x1 Q) : (∃ r : Int32, Q r ∧ ∀ (Q9 : Int32 → Prop), Q9 r → w0_cached σ x1 Q9) := by
  have rb : ∀ (Q9 : Int32 → Prop), w0_cached σ x1 Q9 → w0_cached σ x1 Q9 := fun _ z => z
  have h := h ((ok 0 0 11).1 (by decide))
  have rb := fun Q9 z => rb Q9 (im_n z)
  by_cases hc : (σ 0 0 11) = 0
  · have h := h.1 hc
    have rb := fun Q9 z => rb Q9 (br_t hc z)
    exact ⟨0, h, fun Q9 hq => rb Q9 hq⟩
  have h := h.2 hc
  have rb := fun Q9 z => rb Q9 (br_f hc z)
  obtain ⟨r1, h, rc⟩ := e3_knows ok h
  have rb := fun Q9 z => rb Q9 (rc _ z)
  by_cases hc : r1 = 0
  · have h := h.1 hc
    have rb := fun Q9 z => rb Q9 (br_t hc z)
    exact ⟨0, h, fun Q9 hq => rb Q9 hq⟩
  have h := h.2 hc
  have rb := fun Q9 z => rb Q9 (br_f hc z)
  exact ⟨1, h, fun Q9 hq => rb Q9 hq⟩
/-! WebHost.due()I -/
set_option maxHeartbeats 4000000 in
theorem e0_due_L20 {σ : St} {Q : Int32 → Prop} {K58 : Int32 → Prop} (ok : okS σ) :
    ∀ (n : Nat) {x1 : Int32} {x2 : Int32}, w0_due_L20 σ Q K58 n x1 x2 → (∃ (x1' : Int32), K58 x1' ∧ ∀ (Q9 : Int32 → Prop) (K9_58 : Int32 → Prop), K9_58 x1' → w0_due_L20 σ Q9 K9_58 n x1 x2) := by
  intro n
  induction n with
  | zero =>
    intro x1 x2 h
    exact False.elim h
  | succ n ih =>
    intro x1 x2 h
    have rb : ∀ (Q9 : Int32 → Prop) (K9_58 : Int32 → Prop), w0_due_L20 σ Q9 K9_58 (n + 1) x1 x2 → w0_due_L20 σ Q9 K9_58 (n + 1) x1 x2 := fun _ _ z => z
    by_cases hc : 16 ≤ x2
    · have h := h.1 hc
      have rb := fun Q9 K9_58 z => rb Q9 K9_58 (br_t hc z)
      exact ⟨x1, h, fun Q9 K9_58 hq => rb Q9 K9_58 hq⟩
    have h := h.2 hc
    have rb := fun Q9 K9_58 z => rb Q9 K9_58 (br_f hc z)
    obtain ⟨hc, h⟩ := h
    have rb := fun Q9 K9_58 z => rb Q9 K9_58 (And.intro hc z)
    have hq3 := vp_lt hc
    obtain ⟨r4, h, rc⟩ := e11_timerDue hq3 ok h
    have rb := fun Q9 K9_58 z => rb Q9 K9_58 (rc _ z)
    obtain ⟨hc, h⟩ := h
    have rb := fun Q9 K9_58 z => rb Q9 K9_58 (And.intro hc z)
    have hq5 := vp_lt hc
    obtain ⟨r6, h, rc⟩ := e11_lifeDue hq5 ok h
    have rb := fun Q9 K9_58 z => rb Q9 K9_58 (rc _ z)
    rcases ih h with ⟨x1, h, rc⟩
    · exact ⟨x1, h, fun Q9 K9_58 hq => rb Q9 K9_58 (rc Q9 K9_58 hq)⟩
set_option maxHeartbeats 4000000 in
theorem e0_due {σ : St} {Q : Int32 → Prop} (ok : okS σ) (h : w0_due σ Q) : (∃ r : Int32, Q r ∧ ∀ (Q9 : Int32 → Prop), Q9 r → w0_due σ Q9) := by
  have rb : ∀ (Q9 : Int32 → Prop), w0_due σ Q9 → w0_due σ Q9 := fun _ z => z
  obtain ⟨r1, h, rc⟩ := e3_due ok h
  have rb := fun Q9 z => rb Q9 (rc _ z)
  obtain ⟨r2, h, rc⟩ := e6_due ok h
  have rb := fun Q9 z => rb Q9 (rc _ z)
  obtain ⟨n9, h⟩ := h
  rcases e0_due_L20 ok n9 h with ⟨x1_8, h, rc⟩
  · have rb := fun Q9 z => rb Q9 (Exists.intro n9 (rc _ _ z))
    exact ⟨x1_8, h, fun Q9 hq => rb Q9 hq⟩
/-! WebHost.feed(IIIII)I -/
set_option maxHeartbeats 4000000 in
theorem e0_feed {σ : St} {x1 : Int32} {x2 : Int32} {x3 : Int32} {x4 : Int32} {x5 : Int32} {Q : Int32 → St → Prop} (ok : okS σ) (h : w0_feed σ x1 x2 x3 x4 x5 Q) : (∃ (r : Int32) (σ' : St), Q r σ' ∧ okS σ' ∧ Fr (mF [20] [] [(0, [1])] []) σ σ' ∧ ∀ (Q9 : Int32 → St → Prop), Q9 r σ' → w0_feed σ x1 x2 x3 x4 x5 Q9) := by
  have fr : Fr (mF [20] [] [(0, [1])] []) σ σ := Fr.rf
  have rb : ∀ (Q9 : Int32 → St → Prop), w0_feed σ x1 x2 x3 x4 x5 Q9 → w0_feed σ x1 x2 x3 x4 x5 Q9 := fun _ z => z
  by_cases hc : ((σ 0 0 1) + 20) ≤ 65540
  · have h := h.1 hc
    have rb := fun Q9 z => rb Q9 (br_t hc z)
    obtain ⟨σ1, h, ok, fr9, rc⟩ := e19_putFour (by decide) ok h
    have fr := fr.tr (fr9.sub (mF_mR (Or.inl rfl)))
    have rb := fun Q9 z => rb Q9 (rc _ z)
    obtain ⟨σ2, h, ok, fr9, rc⟩ := e19_putFour (by decide) ok h
    have fr := fr.tr (fr9.sub (mF_mR (Or.inl rfl)))
    have rb := fun Q9 z => rb Q9 (rc _ z)
    obtain ⟨σ3, h, ok, fr9, rc⟩ := e19_putFour (by decide) ok h
    have fr := fr.tr (fr9.sub (mF_mR (Or.inl rfl)))
    have rb := fun Q9 z => rb Q9 (rc _ z)
    obtain ⟨σ4, h, ok, fr9, rc⟩ := e19_putFour (by decide) ok h
    have fr := fr.tr (fr9.sub (mF_mR (Or.inl rfl)))
    have rb := fun Q9 z => rb Q9 (rc _ z)
    obtain ⟨σ5, h, ok, fr9, rc⟩ := e19_putFour (by decide) ok h
    have fr := fr.tr (fr9.sub (mF_mR (Or.inl rfl)))
    have rb := fun Q9 z => rb Q9 (rc _ z)
    obtain ⟨σ6, e9⟩ : ∃ s : St, s = up3 σ5 0 0 1 ((σ5 0 0 1) + 20) := ⟨_, rfl⟩
    have h := h σ6 e9
    have rb := fun Q9 z => rb Q9 (nm_n e9 z)
    have ok : okS σ6 := by rw [e9]; exact (ok_n ok (by decide))
    have fr : Fr (mF [20] [] [(0, [1])] []) σ σ6 := by rw [e9]; exact (Fr.up fr (mF_C (List.mem_of_getElem? (i := 0) rfl) rfl))
    exact ⟨(σ6 0 0 1), σ6, h, ok, fr, fun Q9 hq => rb Q9 hq⟩
  have h := h.2 hc
  have rb := fun Q9 z => rb Q9 (br_f hc z)
  exact ⟨(-1), σ, h, ok, fr, fun Q9 hq => rb Q9 hq⟩
/-! WebHost.length(I)I -/
set_option maxHeartbeats 4000000 in
theorem e0_length {σ : St} {x1 : Int32} {Q : Int32 → Prop} (ok : okS σ) (h : w0_length σ x1 Q) : (∃ r : Int32, Q r ∧ ∀ (Q9 : Int32 → Prop), Q9 r → w0_length σ x1 Q9) := by
  have rb : ∀ (Q9 : Int32 → Prop), w0_length σ x1 Q9 → w0_length σ x1 Q9 := fun _ z => z
  obtain ⟨r1, h, rc⟩ := e0_isKept ok h
  have rb := fun Q9 z => rb Q9 (rc _ z)
  by_cases hc : r1 = 0
  · have h := h.1 hc
    have rb := fun Q9 z => rb Q9 (br_t hc z)
    exact ⟨(-1), h, fun Q9 hq => rb Q9 hq⟩
  have h := h.2 hc
  have rb := fun Q9 z => rb Q9 (br_f hc z)
  obtain ⟨r2, h, rc⟩ := e2_length ok h
  have rb := fun Q9 z => rb Q9 (rc _ z)
  exact ⟨r2, h, fun Q9 hq => rb Q9 hq⟩
/-! WebHost.look(II)J -/
set_option maxHeartbeats 4000000 in
theorem e0_look {σ : St} {x1 : Int32} {x2 : Int32} {Q : Int64 → Prop} (ok : okS σ) (h : w0_look σ x1 x2 Q) : (∃ r : Int64, Q r ∧ ∀ (Q9 : Int64 → Prop), Q9 r → w0_look σ x1 x2 Q9) := by
  have rb : ∀ (Q9 : Int64 → Prop), w0_look σ x1 x2 Q9 → w0_look σ x1 x2 Q9 := fun _ z => z
  obtain ⟨r1, h, rc⟩ := e0_state ok h
  have rb := fun Q9 z => rb Q9 (rc _ z)
  by_cases hc : 1 ≤ r1
  · have h := h.1 hc
    have rb := fun Q9 z => rb Q9 (br_t hc z)
    obtain ⟨hc, h⟩ := h
    have rb := fun Q9 z => rb Q9 (And.intro hc z)
    have hq2 := vp_lt hc
    by_cases hc : x2 = 0
    · have h := h.1 hc
      have rb := fun Q9 z => rb Q9 (br_t hc z)
      exact ⟨(((σ 11 x1.toNatClampNeg 3).toInt64) &&& 4294967295), h, fun Q9 hq => rb Q9 hq⟩
    have h := h.2 hc
    have rb := fun Q9 z => rb Q9 (br_f hc z)
    by_cases hc : x2 = 1
    · have h := h.1 hc
      have rb := fun Q9 z => rb Q9 (br_t hc z)
      exact ⟨((σ 11 x1.toNatClampNeg 4).toInt64), h, fun Q9 hq => rb Q9 hq⟩
    have h := h.2 hc
    have rb := fun Q9 z => rb Q9 (br_f hc z)
    by_cases hc : x2 = 2
    · have h := h.1 hc
      have rb := fun Q9 z => rb Q9 (br_t hc z)
      exact ⟨(((σ 11 x1.toNatClampNeg 9).toInt64) &&& 4294967295), h, fun Q9 hq => rb Q9 hq⟩
    have h := h.2 hc
    have rb := fun Q9 z => rb Q9 (br_f hc z)
    by_cases hc : x2 = 3
    · have h := h.1 hc
      have rb := fun Q9 z => rb Q9 (br_t hc z)
      exact ⟨(((σ 11 x1.toNatClampNeg 10).toInt64) &&& 4294967295), h, fun Q9 hq => rb Q9 hq⟩
    have h := h.2 hc
    have rb := fun Q9 z => rb Q9 (br_f hc z)
    by_cases hc : x2 = 4
    · have h := h.1 hc
      have rb := fun Q9 z => rb Q9 (br_t hc z)
      exact ⟨(((σ 11 x1.toNatClampNeg 11).toInt64) &&& 4294967295), h, fun Q9 hq => rb Q9 hq⟩
    have h := h.2 hc
    have rb := fun Q9 z => rb Q9 (br_f hc z)
    by_cases hc : x2 = 5
    · have h := h.1 hc
      have rb := fun Q9 z => rb Q9 (br_t hc z)
      obtain ⟨r3, h, rc⟩ := e11_next hq2 ok h
      have rb := fun Q9 z => rb Q9 (rc _ z)
      exact ⟨(r3.toInt64 &&& 4294967295), h, fun Q9 hq => rb Q9 hq⟩
    have h := h.2 hc
    have rb := fun Q9 z => rb Q9 (br_f hc z)
    by_cases hc : x2 = 6
    · have h := h.1 hc
      have rb := fun Q9 z => rb Q9 (br_t hc z)
      exact ⟨((σ 11 x1.toNatClampNeg 12).toInt64), h, fun Q9 hq => rb Q9 hq⟩
    have h := h.2 hc
    have rb := fun Q9 z => rb Q9 (br_f hc z)
    by_cases hc : x2 = 7
    · have h := h.1 hc
      have rb := fun Q9 z => rb Q9 (br_t hc z)
      exact ⟨((σ 11 x1.toNatClampNeg 14).toInt64), h, fun Q9 hq => rb Q9 hq⟩
    have h := h.2 hc
    have rb := fun Q9 z => rb Q9 (br_f hc z)
    by_cases hc : x2 = 8
    · have h := h.1 hc
      have rb := fun Q9 z => rb Q9 (br_t hc z)
      exact ⟨((σ 11 x1.toNatClampNeg 15).toInt64), h, fun Q9 hq => rb Q9 hq⟩
    have h := h.2 hc
    have rb := fun Q9 z => rb Q9 (br_f hc z)
    by_cases hc : x2 = 9
    · have h := h.1 hc
      have rb := fun Q9 z => rb Q9 (br_t hc z)
      exact ⟨((σ 11 x1.toNatClampNeg 16).toInt64), h, fun Q9 hq => rb Q9 hq⟩
    have h := h.2 hc
    have rb := fun Q9 z => rb Q9 (br_f hc z)
    by_cases hc : x2 = 10
    · have h := h.1 hc
      have rb := fun Q9 z => rb Q9 (br_t hc z)
      exact ⟨((σ 11 x1.toNatClampNeg 13).toInt64), h, fun Q9 hq => rb Q9 hq⟩
    have h := h.2 hc
    have rb := fun Q9 z => rb Q9 (br_f hc z)
    by_cases hc : x2 = 11
    · have h := h.1 hc
      have rb := fun Q9 z => rb Q9 (br_t hc z)
      exact ⟨((σ 12 x1.toNatClampNeg 2).toInt64), h, fun Q9 hq => rb Q9 hq⟩
    have h := h.2 hc
    have rb := fun Q9 z => rb Q9 (br_f hc z)
    by_cases hc : x2 = 12
    · have h := h.1 hc
      have rb := fun Q9 z => rb Q9 (br_t hc z)
      obtain ⟨r4, h, rc⟩ := e11_left hq2 ok h
      have rb := fun Q9 z => rb Q9 (rc _ z)
      exact ⟨r4.toInt64, h, fun Q9 hq => rb Q9 hq⟩
    have h := h.2 hc
    have rb := fun Q9 z => rb Q9 (br_f hc z)
    by_cases hc : x2 = 13
    · have h := h.1 hc
      have rb := fun Q9 z => rb Q9 (br_t hc z)
      exact ⟨((σ 11 x1.toNatClampNeg 17).toInt64), h, fun Q9 hq => rb Q9 hq⟩
    have h := h.2 hc
    have rb := fun Q9 z => rb Q9 (br_f hc z)
    by_cases hc : x2 = 14
    · have h := h.1 hc
      have rb := fun Q9 z => rb Q9 (br_t hc z)
      exact ⟨((σ 11 x1.toNatClampNeg 18).toInt64), h, fun Q9 hq => rb Q9 hq⟩
    have h := h.2 hc
    have rb := fun Q9 z => rb Q9 (br_f hc z)
    exact ⟨4294967296, h, fun Q9 hq => rb Q9 hq⟩
  have h := h.2 hc
  have rb := fun Q9 z => rb Q9 (br_f hc z)
  exact ⟨4294967296, h, fun Q9 hq => rb Q9 hq⟩
/-! WebHost.time(I)I -/
set_option maxHeartbeats 4000000 in
theorem e0_time {σ : St} {x1 : Int32} {Q : Int32 → Prop} (ok : okS σ) (h : w0_time σ x1 Q) : (∃ r : Int32, Q r ∧ ∀ (Q9 : Int32 → Prop), Q9 r → w0_time σ x1 Q9) := by
  have rb : ∀ (Q9 : Int32 → Prop), w0_time σ x1 Q9 → w0_time σ x1 Q9 := fun _ z => z
  obtain ⟨r1, h, rc⟩ := e0_isKept ok h
  have rb := fun Q9 z => rb Q9 (rc _ z)
  by_cases hc : r1 = 0
  · have h := h.1 hc
    have rb := fun Q9 z => rb Q9 (br_t hc z)
    exact ⟨(-1), h, fun Q9 hq => rb Q9 hq⟩
  have h := h.2 hc
  have rb := fun Q9 z => rb Q9 (br_f hc z)
  obtain ⟨r2, h, rc⟩ := e2_time ok h
  have rb := fun Q9 z => rb Q9 (rc _ z)
  exact ⟨r2, h, fun Q9 hq => rb Q9 hq⟩
/-! WebHost$Store.isNamed(I[BII)Z -/
set_option maxHeartbeats 4000000 in
theorem e1_isNamed_L15 {σ : St} {x1 : Int32} {k2 : Nat} {i2 : Nat} {x3 : Int32} {x4 : Int32} {Q : Int32 → Prop} {K44 : Prop} {K52 : Prop} (hk2 : abc k2 i2 = true) (ok : okS σ) :
    ∀ (n : Nat) {x5 : Int32}, w1_isNamed_L15 σ x1 k2 i2 x3 x4 Q K44 K52 n x5 → (K44 ∧ ∀ (Q9 : Int32 → Prop) (K9_44 : Prop) (K9_52 : Prop), K9_44 → w1_isNamed_L15 σ x1 k2 i2 x3 x4 Q9 K9_44 K9_52 n x5) ∨ (K52 ∧ ∀ (Q9 : Int32 → Prop) (K9_44 : Prop) (K9_52 : Prop), K9_52 → w1_isNamed_L15 σ x1 k2 i2 x3 x4 Q9 K9_44 K9_52 n x5) := by
  intro n
  induction n with
  | zero =>
    intro x5 h
    exact False.elim h
  | succ n ih =>
    intro x5 h
    have rb : ∀ (Q9 : Int32 → Prop) (K9_44 : Prop) (K9_52 : Prop), w1_isNamed_L15 σ x1 k2 i2 x3 x4 Q9 K9_44 K9_52 (n + 1) x5 → w1_isNamed_L15 σ x1 k2 i2 x3 x4 Q9 K9_44 K9_52 (n + 1) x5 := fun _ _ _ z => z
    by_cases hc : x4 ≤ x5
    · have h := h.1 hc
      have rb := fun Q9 K9_44 K9_52 z => rb Q9 K9_44 K9_52 (br_t hc z)
      exact (Or.inr ⟨h, fun Q9 K9_44 K9_52 hq => rb Q9 K9_44 K9_52 hq⟩)
    have h := h.2 hc
    have rb := fun Q9 K9_44 K9_52 z => rb Q9 K9_44 K9_52 (br_f hc z)
    obtain ⟨hq2, h⟩ := h
    have rb := fun Q9 K9_44 K9_52 z => rb Q9 K9_44 K9_52 (And.intro hq2 z)
    obtain ⟨r3, h, rc⟩ := e1_entry ok h
    have rb := fun Q9 K9_44 K9_52 z => rb Q9 K9_44 K9_52 (rc _ z)
    obtain ⟨hc, h⟩ := h
    have rb := fun Q9 K9_44 K9_52 z => rb Q9 K9_44 K9_52 (And.intro hc z)
    have h := h ((ok ((σ 1 0 3).toNatClampNeg) ((σ 1 0 103).toNatClampNeg) _).2 ((ab_spec (abc_spec hq2).1).2.2.2.2.2.2.2 _))
    have rb := fun Q9 K9_44 K9_52 z => rb Q9 K9_44 K9_52 (im_n z)
    obtain ⟨hc, h⟩ := h
    have rb := fun Q9 K9_44 K9_52 z => rb Q9 K9_44 K9_52 (And.intro hc z)
    have h := h ((ok k2 i2 _).2 ((ab_spec (abc_spec hk2).1).2.2.2.2.2.2.2 _))
    have rb := fun Q9 K9_44 K9_52 z => rb Q9 K9_44 K9_52 (im_n z)
    by_cases hc : (σ ((σ 1 0 3).toNatClampNeg) ((σ 1 0 103).toNatClampNeg) (r3 + x5).toNatClampNeg) = (σ k2 i2 (x3 + x5).toNatClampNeg)
    · have h := h.1 hc
      have rb := fun Q9 K9_44 K9_52 z => rb Q9 K9_44 K9_52 (br_t hc z)
      rcases ih h with ⟨h, rc⟩ | ⟨h, rc⟩
      · exact (Or.inl ⟨h, fun Q9 K9_44 K9_52 hq => rb Q9 K9_44 K9_52 (rc Q9 K9_44 K9_52 hq)⟩)
      · exact (Or.inr ⟨h, fun Q9 K9_44 K9_52 hq => rb Q9 K9_44 K9_52 (rc Q9 K9_44 K9_52 hq)⟩)
    have h := h.2 hc
    have rb := fun Q9 K9_44 K9_52 z => rb Q9 K9_44 K9_52 (br_f hc z)
    exact (Or.inl ⟨h, fun Q9 K9_44 K9_52 hq => rb Q9 K9_44 K9_52 hq⟩)
set_option maxHeartbeats 4000000 in
theorem e1_isNamed {σ : St} {x1 : Int32} {k2 : Nat} {i2 : Nat} {x3 : Int32} {x4 : Int32} {Q : Int32 → Prop} (hk2 : abc k2 i2 = true) (ok : okS σ) (h : w1_isNamed σ x1 k2 i2 x3 x4 Q) : (∃ r : Int32, Q r ∧ ∀ (Q9 : Int32 → Prop), Q9 r → w1_isNamed σ x1 k2 i2 x3 x4 Q9) := by
  have rb : ∀ (Q9 : Int32 → Prop), w1_isNamed σ x1 k2 i2 x3 x4 Q9 → w1_isNamed σ x1 k2 i2 x3 x4 Q9 := fun _ z => z
  obtain ⟨r1, h, rc⟩ := e1_nameLength ok h
  have rb := fun Q9 z => rb Q9 (rc _ z)
  by_cases hc : r1 = x4
  · have h := h.1 hc
    have rb := fun Q9 z => rb Q9 (br_t hc z)
    obtain ⟨n9, h⟩ := h
    rcases e1_isNamed_L15 hk2 ok n9 h with ⟨h, rc⟩ | ⟨h, rc⟩
    · have rb := fun Q9 z => rb Q9 (Exists.intro n9 (rc _ _ _ z))
      exact ⟨0, h, fun Q9 hq => rb Q9 hq⟩
    · have rb := fun Q9 z => rb Q9 (Exists.intro n9 (rc _ _ _ z))
      exact ⟨1, h, fun Q9 hq => rb Q9 hq⟩
  have h := h.2 hc
  have rb := fun Q9 z => rb Q9 (br_f hc z)
  exact ⟨0, h, fun Q9 hq => rb Q9 hq⟩
/-! WebHost$Store.length(I)I -/
set_option maxHeartbeats 4000000 in
theorem e1_length {σ : St} {x1 : Int32} {Q : Int32 → Prop} (ok : okS σ) (h : w1_length σ x1 Q) : (∃ r : Int32, Q r ∧ ∀ (Q9 : Int32 → Prop), Q9 r → w1_length σ x1 Q9) := by
  have rb : ∀ (Q9 : Int32 → Prop), w1_length σ x1 Q9 → w1_length σ x1 Q9 := fun _ z => z
  obtain ⟨hq1, h⟩ := h
  have rb := fun Q9 z => rb Q9 (And.intro hq1 z)
  obtain ⟨r2, h, rc⟩ := e1_entry ok h
  have rb := fun Q9 z => rb Q9 (rc _ z)
  obtain ⟨r3, h, rc⟩ := e19_four hq1 ok h
  have rb := fun Q9 z => rb Q9 (rc _ z)
  exact ⟨r3, h, fun Q9 hq => rb Q9 hq⟩
/-! WebHost$Store.mark(I)I -/
set_option maxHeartbeats 4000000 in
theorem e1_mark {σ : St} {x1 : Int32} {Q : Int32 → Prop} (ok : okS σ) (h : w1_mark σ x1 Q) : (∃ r : Int32, Q r ∧ ∀ (Q9 : Int32 → Prop), Q9 r → w1_mark σ x1 Q9) := by
  have rb : ∀ (Q9 : Int32 → Prop), w1_mark σ x1 Q9 → w1_mark σ x1 Q9 := fun _ z => z
  obtain ⟨hq1, h⟩ := h
  have rb := fun Q9 z => rb Q9 (And.intro hq1 z)
  obtain ⟨r2, h, rc⟩ := e1_entry ok h
  have rb := fun Q9 z => rb Q9 (rc _ z)
  obtain ⟨r3, h, rc⟩ := e19_four hq1 ok h
  have rb := fun Q9 z => rb Q9 (rc _ z)
  exact ⟨r3, h, fun Q9 hq => rb Q9 hq⟩
/-! WebHost$Store.place(I)I -/
set_option maxHeartbeats 4000000 in
theorem e1_place {σ : St} {x1 : Int32} {Q : Int32 → Prop} (ok : okS σ) (h : w1_place σ x1 Q) : (∃ r : Int32, Q r ∧ ∀ (Q9 : Int32 → Prop), Q9 r → w1_place σ x1 Q9) := by
  have rb : ∀ (Q9 : Int32 → Prop), w1_place σ x1 Q9 → w1_place σ x1 Q9 := fun _ z => z
  obtain ⟨hq1, h⟩ := h
  have rb := fun Q9 z => rb Q9 (And.intro hq1 z)
  obtain ⟨r2, h, rc⟩ := e1_entry ok h
  have rb := fun Q9 z => rb Q9 (rc _ z)
  obtain ⟨r3, h, rc⟩ := e19_four hq1 ok h
  have rb := fun Q9 z => rb Q9 (rc _ z)
  exact ⟨r3, h, fun Q9 hq => rb Q9 hq⟩
/-! WebHost$Device.at(II)I -/
set_option maxHeartbeats 4000000 in
theorem e2_at {σ : St} {x1 : Int32} {x2 : Int32} {Q : Int32 → Prop} (ok : okS σ) (h : w2_at σ x1 x2 Q) : (∃ r : Int32, Q r ∧ ∀ (Q9 : Int32 → Prop), Q9 r → w2_at σ x1 x2 Q9) := by
  have rb : ∀ (Q9 : Int32 → Prop), w2_at σ x1 x2 Q9 → w2_at σ x1 x2 Q9 := fun _ z => z
  by_cases hc : x2 < 0
  · have h := h.1 hc
    have rb := fun Q9 z => rb Q9 (br_t hc z)
    exact ⟨(-1), h, fun Q9 hq => rb Q9 hq⟩
  have h := h.2 hc
  have rb := fun Q9 z => rb Q9 (br_f hc z)
  obtain ⟨r1, h, rc⟩ := e2_length ok h
  have rb := fun Q9 z => rb Q9 (rc _ z)
  by_cases hc : r1 ≤ x2
  · have h := h.1 hc
    have rb := fun Q9 z => rb Q9 (br_t hc z)
    exact ⟨(-1), h, fun Q9 hq => rb Q9 hq⟩
  have h := h.2 hc
  have rb := fun Q9 z => rb Q9 (br_f hc z)
  obtain ⟨r2, h, rc⟩ := e2_slot ok h
  have rb := fun Q9 z => rb Q9 (rc _ z)
  obtain ⟨hc, h⟩ := h
  have rb := fun Q9 z => rb Q9 (And.intro hc z)
  have hq3 := vp_lt hc
  obtain ⟨hc, h⟩ := h
  have rb := fun Q9 z => rb Q9 (And.intro hc z)
  have h := h ((ok 23 r2.toNatClampNeg _).2 (tyk_a 23 2 (by decide) (by decide) _))
  have rb := fun Q9 z => rb Q9 (im_n z)
  exact ⟨((σ 23 r2.toNatClampNeg x2.toNatClampNeg) &&& 255), h, fun Q9 hq => rb Q9 hq⟩
/-! WebHost$Device.begin(II)V -/
set_option maxHeartbeats 4000000 in
theorem e2_begin {σ : St} {x1 : Int32} {x2 : Int32} {Q : St → Prop} (ok : okS σ) (h : w2_begin σ x1 x2 Q) : (∃ (σ' : St), Q σ' ∧ okS σ' ∧ Fr (mF [27] [] [(2, [3, 4])] []) σ σ' ∧ ∀ (Q9 : St → Prop), Q9 σ' → w2_begin σ x1 x2 Q9) := by
  have fr : Fr (mF [27] [] [(2, [3, 4])] []) σ σ := Fr.rf
  have rb : ∀ (Q9 : St → Prop), w2_begin σ x1 x2 Q9 → w2_begin σ x1 x2 Q9 := fun _ z => z
  obtain ⟨σ1, e9⟩ : ∃ s : St, s = up3 σ 2 0 3 0 := ⟨_, rfl⟩
  have h := h σ1 e9
  have rb := fun Q9 z => rb Q9 (nm_n e9 z)
  have ok : okS σ1 := by rw [e9]; exact (ok_n ok (by decide))
  have fr : Fr (mF [27] [] [(2, [3, 4])] []) σ σ1 := by rw [e9]; exact (Fr.up fr (mF_C (List.mem_of_getElem? (i := 0) rfl) rfl))
  obtain ⟨σ2, e9⟩ : ∃ s : St, s = up3 σ1 2 0 4 0 := ⟨_, rfl⟩
  have h := h σ2 e9
  have rb := fun Q9 z => rb Q9 (nm_n e9 z)
  have ok : okS σ2 := by rw [e9]; exact (ok_n ok (by decide))
  have fr : Fr (mF [27] [] [(2, [3, 4])] []) σ σ2 := by rw [e9]; exact (Fr.up fr (mF_C (List.mem_of_getElem? (i := 0) rfl) rfl))
  obtain ⟨σ3, h, ok, fr9, rc⟩ := e19_putTwo (by decide) ok h
  have fr := fr.tr (fr9.sub (mF_mR (Or.inl rfl)))
  have rb := fun Q9 z => rb Q9 (rc _ z)
  obtain ⟨σ4, h, ok, fr9, rc⟩ := e19_putFour (by decide) ok h
  have fr := fr.tr (fr9.sub (mF_mR (Or.inl rfl)))
  have rb := fun Q9 z => rb Q9 (rc _ z)
  exact ⟨σ4, h, ok, fr, fun Q9 hq => rb Q9 hq⟩
/-! WebHost$Hops.release(II)V -/
set_option maxHeartbeats 4000000 in
theorem e3_release_L2 {σ : St} {x1 : Int32} {x2 : Int32} {Q : St → Prop} {K26 : Int32 → Prop} {K74 : Prop} (ok : okS σ) :
    ∀ (n : Nat) {x3 : Int32}, w3_release_L2 σ x1 x2 Q K26 K74 n x3 → (∃ (x3' : Int32), K26 x3' ∧ ∀ (Q9 : St → Prop) (K9_26 : Int32 → Prop) (K9_74 : Prop), K9_26 x3' → w3_release_L2 σ x1 x2 Q9 K9_26 K9_74 n x3) ∨ (K74 ∧ ∀ (Q9 : St → Prop) (K9_26 : Int32 → Prop) (K9_74 : Prop), K9_74 → w3_release_L2 σ x1 x2 Q9 K9_26 K9_74 n x3) := by
  intro n
  induction n with
  | zero =>
    intro x3 h
    exact False.elim h
  | succ n ih =>
    intro x3 h
    have rb : ∀ (Q9 : St → Prop) (K9_26 : Int32 → Prop) (K9_74 : Prop), w3_release_L2 σ x1 x2 Q9 K9_26 K9_74 (n + 1) x3 → w3_release_L2 σ x1 x2 Q9 K9_26 K9_74 (n + 1) x3 := fun _ _ _ z => z
    by_cases hc : (σ 3 0 9) ≤ x3
    · have h := h.1 hc
      have rb := fun Q9 K9_26 K9_74 z => rb Q9 K9_26 K9_74 (br_t hc z)
      exact (Or.inr ⟨h, fun Q9 K9_26 K9_74 hq => rb Q9 K9_26 K9_74 hq⟩)
    have h := h.2 hc
    have rb := fun Q9 K9_26 K9_74 z => rb Q9 K9_26 K9_74 (br_f hc z)
    obtain ⟨hc, h⟩ := h
    have rb := fun Q9 K9_26 K9_74 z => rb Q9 K9_26 K9_74 (And.intro hc z)
    obtain ⟨hq1, h⟩ := h
    have rb := fun Q9 K9_26 K9_74 z => rb Q9 K9_26 K9_74 (And.intro hq1 z)
    by_cases hc : (σ 4 ((σ 31 0 x3.toNatClampNeg).toNatClampNeg) 0) = x1
    · have h := h.1 hc
      have rb := fun Q9 K9_26 K9_74 z => rb Q9 K9_26 K9_74 (br_t hc z)
      exact (Or.inl ⟨x3, h, fun Q9 K9_26 K9_74 hq => rb Q9 K9_26 K9_74 hq⟩)
    have h := h.2 hc
    have rb := fun Q9 K9_26 K9_74 z => rb Q9 K9_26 K9_74 (br_f hc z)
    rcases ih h with ⟨x3, h, rc⟩ | ⟨h, rc⟩
    · exact (Or.inl ⟨x3, h, fun Q9 K9_26 K9_74 hq => rb Q9 K9_26 K9_74 (rc Q9 K9_26 K9_74 hq)⟩)
    · exact (Or.inr ⟨h, fun Q9 K9_26 K9_74 hq => rb Q9 K9_26 K9_74 (rc Q9 K9_26 K9_74 hq)⟩)
set_option maxHeartbeats 4000000 in
theorem e3_release {σ : St} {x1 : Int32} {x2 : Int32} {Q : St → Prop} (ok : okS σ) (h : w3_release σ x1 x2 Q) : (∃ (σ' : St), Q σ' ∧ okS σ' ∧ Fr (mF [23, 25, 26, 31] [] [(2, [3]), (3, [9])] []) σ σ' ∧ ∀ (Q9 : St → Prop), Q9 σ' → w3_release σ x1 x2 Q9) := by
  have fr : Fr (mF [23, 25, 26, 31] [] [(2, [3]), (3, [9])] []) σ σ := Fr.rf
  have rb : ∀ (Q9 : St → Prop), w3_release σ x1 x2 Q9 → w3_release σ x1 x2 Q9 := fun _ z => z
  obtain ⟨n9, h⟩ := h
  rcases e3_release_L2 ok n9 h with ⟨x3_3, h, rc⟩ | ⟨h, rc⟩
  · have rb := fun Q9 z => rb Q9 (Exists.intro n9 (rc _ _ _ z))
    obtain ⟨hc, h⟩ := h
    have rb := fun Q9 z => rb Q9 (And.intro hc z)
    obtain ⟨hq5, h⟩ := h
    have rb := fun Q9 z => rb Q9 (And.intro hq5 z)
    obtain ⟨σ6, h, ok, fr9, rc⟩ := e3_remove ok h
    have fr := fr.tr (fr9.sub (mF_sub rfl sub_nil rfl sud_nil))
    have rb := fun Q9 z => rb Q9 (rc _ z)
    obtain ⟨σ7, h, ok, fr9, rc⟩ := e2_send (by decide) (ok35 hq5) ok h
    have fr := fr.tr (fr9.sub (mF_sub rfl sub_nil rfl sud_nil))
    have rb := fun Q9 z => rb Q9 (rc _ z)
    exact ⟨σ7, h, ok, fr, fun Q9 hq => rb Q9 hq⟩
  · have rb := fun Q9 z => rb Q9 (Exists.intro n9 (rc _ _ _ z))
    exact ⟨σ, h, ok, fr, fun Q9 hq => rb Q9 hq⟩
/-! WebHost$Hops.tell(I[BII)V -/
set_option maxHeartbeats 4000000 in
theorem e3_tell_J125 {σ : St} {x1 : Int32} {x3 : Int32} {ks0 : Nat} {is0 : Nat} {Q : St → Prop} (hks0 : abc ks0 is0 = true) (ok : okS σ) (h : w3_tell_J125 σ x1 x3 ks0 is0 Q) : (∃ (σ' : St), Q σ' ∧ okS σ' ∧ Fr (mF [23, 25, 26] [] [(2, [3])] []) σ σ' ∧ ∀ (Q9 : St → Prop), Q9 σ' → w3_tell_J125 σ x1 x3 ks0 is0 Q9) := by
  have fr : Fr (mF [23, 25, 26] [] [(2, [3])] []) σ σ := Fr.rf
  have rb : ∀ (Q9 : St → Prop), w3_tell_J125 σ x1 x3 ks0 is0 Q9 → w3_tell_J125 σ x1 x3 ks0 is0 Q9 := fun _ z => z
  by_cases hc : x1 = 1
  · have h := h.2 hc
    have rb := fun Q9 z => rb Q9 (br_u hc z)
    obtain ⟨σ9, h, ok, fr9, rc⟩ := e2_send hks0 (by decide) ok h
    have fr := fr.tr (fr9.sub (mF_sub rfl sub_nil rfl sud_nil))
    have rb := fun Q9 z => rb Q9 (rc _ z)
    exact ⟨σ9, h, ok, fr, fun Q9 hq => rb Q9 hq⟩
  have h := h.1 hc
  have rb := fun Q9 z => rb Q9 (br_v hc z)
  obtain ⟨σ8, h, ok, fr9, rc⟩ := e2_send hks0 (by decide) ok h
  have fr := fr.tr (fr9.sub (mF_sub rfl sub_nil rfl sud_nil))
  have rb := fun Q9 z => rb Q9 (rc _ z)
  exact ⟨σ8, h, ok, fr, fun Q9 hq => rb Q9 hq⟩
set_option maxHeartbeats 4000000 in
theorem e3_tell_J86 {σ : St} {x1 : Int32} {k2 : Nat} {i2 : Nat} {x3 : Int32} {x4 : Int32} {xs0 : Int32} {ks1 : Nat} {is1 : Nat} {Q : St → Prop} (hk2 : abc k2 i2 = true) (hks1 : abc ks1 is1 = true) (ok : okS σ) (h : w3_tell_J86 σ x1 k2 i2 x3 x4 xs0 ks1 is1 Q) : (∃ (σ' : St), Q σ' ∧ okS σ' ∧ Fr (mF [23, 25, 26, 32] [] [(2, [3])] []) σ σ' ∧ ∀ (Q9 : St → Prop), Q9 σ' → w3_tell_J86 σ x1 k2 i2 x3 x4 xs0 ks1 is1 Q9) := by
  have fr : Fr (mF [23, 25, 26, 32] [] [(2, [3])] []) σ σ := Fr.rf
  have rb : ∀ (Q9 : St → Prop), w3_tell_J86 σ x1 k2 i2 x3 x4 xs0 ks1 is1 Q9 → w3_tell_J86 σ x1 k2 i2 x3 x4 xs0 ks1 is1 Q9 := fun _ z => z
  obtain ⟨σ6, h, ok, fr9, rc⟩ := e19_copy hks1 (by decide) ok h
  have fr := fr.tr (fr9.sub (mF_mR (Or.inl rfl)))
  have rb := fun Q9 z => rb Q9 (rc _ z)
  obtain ⟨σ7, h, ok, fr9, rc⟩ := e19_putFour (by decide) ok h
  have fr := fr.tr (fr9.sub (mF_mR (Or.inl rfl)))
  have rb := fun Q9 z => rb Q9 (rc _ z)
  by_cases hc : x1 = 1
  · have h := h.2 hc
    have rb := fun Q9 z => rb Q9 (br_u hc z)
    obtain ⟨σ9, h, ok, fr9, rc⟩ := e3_tell_J125 (by decide) ok h
    exact ⟨σ9, h, ok, fr.tr (fr9.sub (mF_sub rfl sub_nil rfl sud_nil)), fun Q9 hq => rb Q9 (rc Q9 hq)⟩
  have h := h.1 hc
  have rb := fun Q9 z => rb Q9 (br_v hc z)
  obtain ⟨σ9, h, ok, fr9, rc⟩ := e3_tell_J125 hk2 ok h
  exact ⟨σ9, h, ok, fr.tr (fr9.sub (mF_sub rfl sub_nil rfl sud_nil)), fun Q9 hq => rb Q9 (rc Q9 hq)⟩
set_option maxHeartbeats 4000000 in
theorem e3_tell {σ : St} {x1 : Int32} {k2 : Nat} {i2 : Nat} {x3 : Int32} {x4 : Int32} {Q : St → Prop} (hk2 : abc k2 i2 = true) (ok : okS σ) (h : w3_tell σ x1 k2 i2 x3 x4 Q) : (∃ (σ' : St), Q σ' ∧ okS σ' ∧ Fr (mF [23, 25, 26, 32] [] [(2, [3])] []) σ σ' ∧ ∀ (Q9 : St → Prop), Q9 σ' → w3_tell σ x1 k2 i2 x3 x4 Q9) := by
  have fr : Fr (mF [23, 25, 26, 32] [] [(2, [3])] []) σ σ := Fr.rf
  have rb : ∀ (Q9 : St → Prop), w3_tell σ x1 k2 i2 x3 x4 Q9 → w3_tell σ x1 k2 i2 x3 x4 Q9 := fun _ z => z
  obtain ⟨σ1, h, ok, fr9, rc⟩ := e19_putFour (by decide) ok h
  have fr := fr.tr (fr9.sub (mF_mR (Or.inl rfl)))
  have rb := fun Q9 z => rb Q9 (rc _ z)
  obtain ⟨σ2, h, ok, fr9, rc⟩ := e19_putTwo (by decide) ok h
  have fr := fr.tr (fr9.sub (mF_mR (Or.inl rfl)))
  have rb := fun Q9 z => rb Q9 (rc _ z)
  obtain ⟨σ3, h, ok, fr9, rc⟩ := e19_putTwo (by decide) ok h
  have fr := fr.tr (fr9.sub (mF_mR (Or.inl rfl)))
  have rb := fun Q9 z => rb Q9 (rc _ z)
  obtain ⟨σ4, h, ok, fr9, rc⟩ := e19_copy (by decide) (by decide) ok h
  have fr := fr.tr (fr9.sub (mF_mR (Or.inl rfl)))
  have rb := fun Q9 z => rb Q9 (rc _ z)
  obtain ⟨σ5, h, ok, fr9, rc⟩ := e19_putFour (by decide) ok h
  have fr := fr.tr (fr9.sub (mF_mR (Or.inl rfl)))
  have rb := fun Q9 z => rb Q9 (rc _ z)
  by_cases hc : x1 = 1
  · have h := h.2 hc
    have rb := fun Q9 z => rb Q9 (br_u hc z)
    by_cases hc : x1 = 1
    · have h := h.2 hc
      have rb := fun Q9 z => rb Q9 (br_u hc z)
      obtain ⟨σ9, h, ok, fr9, rc⟩ := e3_tell_J86 hk2 (by decide) ok h
      exact ⟨σ9, h, ok, fr.tr (fr9.sub (mF_sub rfl sub_nil rfl sud_nil)), fun Q9 hq => rb Q9 (rc Q9 hq)⟩
    have h := h.1 hc
    have rb := fun Q9 z => rb Q9 (br_v hc z)
    obtain ⟨σ9, h, ok, fr9, rc⟩ := e3_tell_J86 hk2 (by decide) ok h
    exact ⟨σ9, h, ok, fr.tr (fr9.sub (mF_sub rfl sub_nil rfl sud_nil)), fun Q9 hq => rb Q9 (rc Q9 hq)⟩
  have h := h.1 hc
  have rb := fun Q9 z => rb Q9 (br_v hc z)
  by_cases hc : x1 = 1
  · have h := h.2 hc
    have rb := fun Q9 z => rb Q9 (br_u hc z)
    obtain ⟨σ9, h, ok, fr9, rc⟩ := e3_tell_J86 hk2 hk2 ok h
    exact ⟨σ9, h, ok, fr.tr (fr9.sub (mF_sub rfl sub_nil rfl sud_nil)), fun Q9 hq => rb Q9 (rc Q9 hq)⟩
  have h := h.1 hc
  have rb := fun Q9 z => rb Q9 (br_v hc z)
  obtain ⟨σ9, h, ok, fr9, rc⟩ := e3_tell_J86 hk2 hk2 ok h
  exact ⟨σ9, h, ok, fr.tr (fr9.sub (mF_sub rfl sub_nil rfl sud_nil)), fun Q9 hq => rb Q9 (rc Q9 hq)⟩
/-! WebHost$Segment.read([BIIII)Z -/
set_option maxHeartbeats 4000000 in
theorem e10_read {σ : St} {k1 : Nat} {i1 : Nat} {x2 : Int32} {x3 : Int32} {x4 : Int32} {x5 : Int32} {Q : Int32 → St → Prop} (hk1 : abc k1 i1 = true) (ok : okS σ) (h : w10_read σ k1 i1 x2 x3 x4 x5 Q) : (∃ (r : Int32) (σ' : St), Q r σ' ∧ okS σ' ∧ Fr (mF [] [] [(10, [0, 1, 2, 3, 4, 5, 6, 7, 8, 9, 10, 107])] []) σ σ' ∧ ∀ (Q9 : Int32 → St → Prop), Q9 r σ' → w10_read σ k1 i1 x2 x3 x4 x5 Q9) := by
  have fr : Fr (mF [] [] [(10, [0, 1, 2, 3, 4, 5, 6, 7, 8, 9, 10, 107])] []) σ σ := Fr.rf
  have rb : ∀ (Q9 : Int32 → St → Prop), w10_read σ k1 i1 x2 x3 x4 x5 Q9 → w10_read σ k1 i1 x2 x3 x4 x5 Q9 := fun _ z => z
  by_cases hc : 20 ≤ x3
  · have h := h.1 hc
    have rb := fun Q9 z => rb Q9 (br_t hc z)
    obtain ⟨hc, h⟩ := h
    have rb := fun Q9 z => rb Q9 (And.intro hc z)
    have h := h ((ok k1 i1 _).2 ((ab_spec (abc_spec hk1).1).2.2.2.2.2.2.2 _))
    have rb := fun Q9 z => rb Q9 (im_n z)
    by_cases hc : ((((σ k1 i1 (x2 + 12).toNatClampNeg) >>> ((4 : Int32) &&& 31)) &&& 15) * 4) < 20
    · have h := h.1 hc
      have rb := fun Q9 z => rb Q9 (br_t hc z)
      exact ⟨0, σ, h, ok, fr, fun Q9 hq => rb Q9 hq⟩
    have h := h.2 hc
    have rb := fun Q9 z => rb Q9 (br_f hc z)
    by_cases hc : ((((σ k1 i1 (x2 + 12).toNatClampNeg) >>> ((4 : Int32) &&& 31)) &&& 15) * 4) ≤ x3
    · have h := h.1 hc
      have rb := fun Q9 z => rb Q9 (br_t hc z)
      obtain ⟨r1, h, rc⟩ := e19_added hk1 ok h
      have rb := fun Q9 z => rb Q9 (rc _ z)
      obtain ⟨r2, h, rc⟩ := e19_folded ok h
      have rb := fun Q9 z => rb Q9 (rc _ z)
      by_cases hc : r2 = 0
      · have h := h.1 hc
        have rb := fun Q9 z => rb Q9 (br_t hc z)
        obtain ⟨σ3, e9⟩ : ∃ s : St, s = up3 σ 10 0 0 x4 := ⟨_, rfl⟩
        have h := h σ3 e9
        have rb := fun Q9 z => rb Q9 (nm_n e9 z)
        have ok : okS σ3 := by rw [e9]; exact (ok_n ok (by decide))
        have fr : Fr (mF [] [] [(10, [0, 1, 2, 3, 4, 5, 6, 7, 8, 9, 10, 107])] []) σ σ3 := by rw [e9]; exact (Fr.up fr (mF_C (List.mem_of_getElem? (i := 0) rfl) rfl))
        obtain ⟨r4, h, rc⟩ := e19_two hk1 ok h
        have rb := fun Q9 z => rb Q9 (rc _ z)
        obtain ⟨σ5, e9⟩ : ∃ s : St, s = up3 σ3 10 0 1 r4 := ⟨_, rfl⟩
        have h := h σ5 e9
        have rb := fun Q9 z => rb Q9 (nm_n e9 z)
        have ok : okS σ5 := by rw [e9]; exact (ok_n ok (by decide))
        have fr : Fr (mF [] [] [(10, [0, 1, 2, 3, 4, 5, 6, 7, 8, 9, 10, 107])] []) σ σ5 := by rw [e9]; exact (Fr.up fr (mF_C (List.mem_of_getElem? (i := 0) rfl) rfl))
        obtain ⟨r6, h, rc⟩ := e19_two hk1 ok h
        have rb := fun Q9 z => rb Q9 (rc _ z)
        obtain ⟨σ7, e9⟩ : ∃ s : St, s = up3 σ5 10 0 2 r6 := ⟨_, rfl⟩
        have h := h σ7 e9
        have rb := fun Q9 z => rb Q9 (nm_n e9 z)
        have ok : okS σ7 := by rw [e9]; exact (ok_n ok (by decide))
        have fr : Fr (mF [] [] [(10, [0, 1, 2, 3, 4, 5, 6, 7, 8, 9, 10, 107])] []) σ σ7 := by rw [e9]; exact (Fr.up fr (mF_C (List.mem_of_getElem? (i := 0) rfl) rfl))
        obtain ⟨r8, h, rc⟩ := e19_four hk1 ok h
        have rb := fun Q9 z => rb Q9 (rc _ z)
        obtain ⟨σ9, e9⟩ : ∃ s : St, s = up3 σ7 10 0 3 r8 := ⟨_, rfl⟩
        have h := h σ9 e9
        have rb := fun Q9 z => rb Q9 (nm_n e9 z)
        have ok : okS σ9 := by rw [e9]; exact (ok_n ok (by decide))
        have fr : Fr (mF [] [] [(10, [0, 1, 2, 3, 4, 5, 6, 7, 8, 9, 10, 107])] []) σ σ9 := by rw [e9]; exact (Fr.up fr (mF_C (List.mem_of_getElem? (i := 0) rfl) rfl))
        obtain ⟨r10, h, rc⟩ := e19_four hk1 ok h
        have rb := fun Q9 z => rb Q9 (rc _ z)
        obtain ⟨σ11, e9⟩ : ∃ s : St, s = up3 σ9 10 0 4 r10 := ⟨_, rfl⟩
        have h := h σ11 e9
        have rb := fun Q9 z => rb Q9 (nm_n e9 z)
        have ok : okS σ11 := by rw [e9]; exact (ok_n ok (by decide))
        have fr : Fr (mF [] [] [(10, [0, 1, 2, 3, 4, 5, 6, 7, 8, 9, 10, 107])] []) σ σ11 := by rw [e9]; exact (Fr.up fr (mF_C (List.mem_of_getElem? (i := 0) rfl) rfl))
        obtain ⟨hc, h⟩ := h
        have rb := fun Q9 z => rb Q9 (And.intro hc z)
        have h := h ((ok k1 i1 _).2 ((ab_spec (abc_spec hk1).1).2.2.2.2.2.2.2 _))
        have rb := fun Q9 z => rb Q9 (im_n z)
        obtain ⟨σ12, e9⟩ : ∃ s : St, s = up3 σ11 10 0 5 ((σ11 k1 i1 (x2 + 13).toNatClampNeg) &&& 31) := ⟨_, rfl⟩
        have h := h σ12 e9
        have rb := fun Q9 z => rb Q9 (nm_n e9 z)
        have ok : okS σ12 := by rw [e9]; exact (ok_n ok (by decide))
        have fr : Fr (mF [] [] [(10, [0, 1, 2, 3, 4, 5, 6, 7, 8, 9, 10, 107])] []) σ σ12 := by rw [e9]; exact (Fr.up fr (mF_C (List.mem_of_getElem? (i := 0) rfl) rfl))
        obtain ⟨r13, h, rc⟩ := e19_two hk1 ok h
        have rb := fun Q9 z => rb Q9 (rc _ z)
        obtain ⟨σ14, e9⟩ : ∃ s : St, s = up3 σ12 10 0 6 r13 := ⟨_, rfl⟩
        have h := h σ14 e9
        have rb := fun Q9 z => rb Q9 (nm_n e9 z)
        have ok : okS σ14 := by rw [e9]; exact (ok_n ok (by decide))
        have fr : Fr (mF [] [] [(10, [0, 1, 2, 3, 4, 5, 6, 7, 8, 9, 10, 107])] []) σ σ14 := by rw [e9]; exact (Fr.up fr (mF_C (List.mem_of_getElem? (i := 0) rfl) rfl))
        obtain ⟨σ15, e9⟩ : ∃ s : St, s = up3 (up3 σ14 10 0 7 (nI k1)) 10 0 107 (nI i1) := ⟨_, rfl⟩
        have h := h σ15 e9
        have rb := fun Q9 z => rb Q9 (nm_n e9 z)
        have ok : okS σ15 := by rw [e9]; exact (ok_n (ok_n ok (by decide)) (by decide))
        have fr : Fr (mF [] [] [(10, [0, 1, 2, 3, 4, 5, 6, 7, 8, 9, 10, 107])] []) σ σ15 := by rw [e9]; exact (Fr.up (Fr.up fr (mF_C (List.mem_of_getElem? (i := 0) rfl) rfl)) (mF_C (List.mem_of_getElem? (i := 0) rfl) rfl))
        obtain ⟨σ16, e9⟩ : ∃ s : St, s = up3 σ15 10 0 8 (x2 + ((((σ k1 i1 (x2 + 12).toNatClampNeg) >>> ((4 : Int32) &&& 31)) &&& 15) * 4)) := ⟨_, rfl⟩
        have h := h σ16 e9
        have rb := fun Q9 z => rb Q9 (nm_n e9 z)
        have ok : okS σ16 := by rw [e9]; exact (ok_n ok (by decide))
        have fr : Fr (mF [] [] [(10, [0, 1, 2, 3, 4, 5, 6, 7, 8, 9, 10, 107])] []) σ σ16 := by rw [e9]; exact (Fr.up fr (mF_C (List.mem_of_getElem? (i := 0) rfl) rfl))
        obtain ⟨σ17, e9⟩ : ∃ s : St, s = up3 σ16 10 0 9 (x3 - ((((σ k1 i1 (x2 + 12).toNatClampNeg) >>> ((4 : Int32) &&& 31)) &&& 15) * 4)) := ⟨_, rfl⟩
        have h := h σ17 e9
        have rb := fun Q9 z => rb Q9 (nm_n e9 z)
        have ok : okS σ17 := by rw [e9]; exact (ok_n ok (by decide))
        have fr : Fr (mF [] [] [(10, [0, 1, 2, 3, 4, 5, 6, 7, 8, 9, 10, 107])] []) σ σ17 := by rw [e9]; exact (Fr.up fr (mF_C (List.mem_of_getElem? (i := 0) rfl) rfl))
        obtain ⟨r18, h, rc⟩ := e10_option ok h
        have rb := fun Q9 z => rb Q9 (rc _ z)
        obtain ⟨σ19, e9⟩ : ∃ s : St, s = up3 σ17 10 0 10 r18 := ⟨_, rfl⟩
        have h := h σ19 e9
        have rb := fun Q9 z => rb Q9 (nm_n e9 z)
        have ok : okS σ19 := by rw [e9]; exact (ok_n ok (by decide))
        have fr : Fr (mF [] [] [(10, [0, 1, 2, 3, 4, 5, 6, 7, 8, 9, 10, 107])] []) σ σ19 := by rw [e9]; exact (Fr.up fr (mF_C (List.mem_of_getElem? (i := 0) rfl) rfl))
        exact ⟨1, σ19, h, ok, fr, fun Q9 hq => rb Q9 hq⟩
      have h := h.2 hc
      have rb := fun Q9 z => rb Q9 (br_f hc z)
      exact ⟨0, σ, h, ok, fr, fun Q9 hq => rb Q9 hq⟩
    have h := h.2 hc
    have rb := fun Q9 z => rb Q9 (br_f hc z)
    exact ⟨0, σ, h, ok, fr, fun Q9 hq => rb Q9 hq⟩
  have h := h.2 hc
  have rb := fun Q9 z => rb Q9 (br_f hc z)
  exact ⟨0, σ, h, ok, fr, fun Q9 hq => rb Q9 hq⟩
/-! WebHost$Connection.isAcceptable(LWebHost$Segment;)Z -/
set_option maxHeartbeats 4000000 in
theorem e11_isAcceptable {σ : St} {o0 : Nat} {Q : Int32 → Prop} (ho0 : o0 < 16) (ok : okS σ) (h : w11_isAcceptable σ o0 Q) : (∃ r : Int32, Q r ∧ ∀ (Q9 : Int32 → Prop), Q9 r → w11_isAcceptable σ o0 Q9) := by
  have rb : ∀ (Q9 : Int32 → Prop), w11_isAcceptable σ o0 Q9 → w11_isAcceptable σ o0 Q9 := fun _ z => z
  obtain ⟨r1, h, rc⟩ := e12_window ho0 ok h
  have rb := fun Q9 z => rb Q9 (rc _ z)
  obtain ⟨r2, h, rc⟩ := e10_span ok h
  have rb := fun Q9 z => rb Q9 (rc _ z)
  by_cases hc : r1 = 0
  · have h := h.2 hc
    have rb := fun Q9 z => rb Q9 (br_u hc z)
    by_cases hc : r2 = 0
    · have h := h.2 hc
      have rb := fun Q9 z => rb Q9 (br_u hc z)
      by_cases hc : (σ 10 0 3) = (σ 11 o0 6)
      · have h := h.2 hc
        have rb := fun Q9 z => rb Q9 (br_u hc z)
        exact ⟨1, h, fun Q9 hq => rb Q9 hq⟩
      have h := h.1 hc
      have rb := fun Q9 z => rb Q9 (br_v hc z)
      exact ⟨0, h, fun Q9 hq => rb Q9 hq⟩
    have h := h.1 hc
    have rb := fun Q9 z => rb Q9 (br_v hc z)
    exact ⟨0, h, fun Q9 hq => rb Q9 hq⟩
  have h := h.1 hc
  have rb := fun Q9 z => rb Q9 (br_v hc z)
  obtain ⟨r3, h, rc⟩ := e11_isIn ho0 ok h
  have rb := fun Q9 z => rb Q9 (rc _ z)
  by_cases hc : r3 = 0
  · have h := h.2 hc
    have rb := fun Q9 z => rb Q9 (br_u hc z)
    by_cases hc : r2 ≤ 0
    · have h := h.1 hc
      have rb := fun Q9 z => rb Q9 (br_t hc z)
      exact ⟨0, h, fun Q9 hq => rb Q9 hq⟩
    have h := h.2 hc
    have rb := fun Q9 z => rb Q9 (br_f hc z)
    obtain ⟨r4, h, rc⟩ := e11_isIn ho0 ok h
    have rb := fun Q9 z => rb Q9 (rc _ z)
    by_cases hc : r4 = 0
    · have h := h.1 hc
      have rb := fun Q9 z => rb Q9 (br_t hc z)
      exact ⟨0, h, fun Q9 hq => rb Q9 hq⟩
    have h := h.2 hc
    have rb := fun Q9 z => rb Q9 (br_f hc z)
    exact ⟨1, h, fun Q9 hq => rb Q9 hq⟩
  have h := h.1 hc
  have rb := fun Q9 z => rb Q9 (br_v hc z)
  exact ⟨1, h, fun Q9 hq => rb Q9 hq⟩
/-! WebHost$Connection.isBusy()Z -/
set_option maxHeartbeats 4000000 in
theorem e11_isBusy {σ : St} {o0 : Nat} {Q : Int32 → Prop} (ho0 : o0 < 16) (ok : okS σ) (h : w11_isBusy σ o0 Q) : (∃ r : Int32, Q r ∧ ∀ (Q9 : Int32 → Prop), Q9 r → w11_isBusy σ o0 Q9) := by
  have rb : ∀ (Q9 : Int32 → Prop), w11_isBusy σ o0 Q9 → w11_isBusy σ o0 Q9 := fun _ z => z
  by_cases hc : (σ 11 o0 2) = 0
  · have h := h.1 hc
    have rb := fun Q9 z => rb Q9 (br_t hc z)
    exact ⟨0, h, fun Q9 hq => rb Q9 hq⟩
  have h := h.2 hc
  have rb := fun Q9 z => rb Q9 (br_f hc z)
  obtain ⟨r1, h, rc⟩ := e11_left ho0 ok h
  have rb := fun Q9 z => rb Q9 (rc _ z)
  by_cases hc : 0 < r1
  · have h := h.1 hc
    have rb := fun Q9 z => rb Q9 (br_t hc z)
    exact ⟨1, h, fun Q9 hq => rb Q9 hq⟩
  have h := h.2 hc
  have rb := fun Q9 z => rb Q9 (br_f hc z)
  by_cases hc : (σ 11 o0 11) = (σ 11 o0 9)
  · have h := h.1 hc
    have rb := fun Q9 z => rb Q9 (br_t hc z)
    exact ⟨0, h, fun Q9 hq => rb Q9 hq⟩
  have h := h.2 hc
  have rb := fun Q9 z => rb Q9 (br_f hc z)
  exact ⟨1, h, fun Q9 hq => rb Q9 hq⟩
/-! WebHost$Connection.restartTimer()V -/
set_option maxHeartbeats 4000000 in
theorem e11_restartTimer {σ : St} {o0 : Nat} {Q : St → Prop} (ho0 : o0 < 16) (ok : okS σ) (h : w11_restartTimer σ o0 Q) : (∃ (σ' : St), Q σ' ∧ okS σ' ∧ Fr (mF [] [] [] [(11, o0, [29, 30])]) σ σ' ∧ ∀ (Q9 : St → Prop), Q9 σ' → w11_restartTimer σ o0 Q9) := by
  have fr : Fr (mF [] [] [] [(11, o0, [29, 30])]) σ σ := Fr.rf
  have rb : ∀ (Q9 : St → Prop), w11_restartTimer σ o0 Q9 → w11_restartTimer σ o0 Q9 := fun _ z => z
  obtain ⟨σ1, e9⟩ : ∃ s : St, s = up3 σ 11 o0 29 0 := ⟨_, rfl⟩
  have h := h σ1 e9
  have rb := fun Q9 z => rb Q9 (nm_n e9 z)
  have ok : okS σ1 := by rw [e9]; exact (ok_z ok (by decide) (Or.inl rfl))
  have fr : Fr (mF [] [] [] [(11, o0, [29, 30])]) σ σ1 := by rw [e9]; exact (Fr.up fr (mF_D (List.mem_of_getElem? (i := 0) rfl) rfl))
  obtain ⟨σ2, h, ok, fr9, rc⟩ := e11_startTimer ho0 ok h
  have fr := fr.tr (fr9.sub (mF_sub rfl sub_nil rfl (sud_c (Or.inr ⟨_, List.mem_of_getElem? (i := 0) rfl, rfl⟩) sud_nil)))
  have rb := fun Q9 z => rb Q9 (rc _ z)
  exact ⟨σ2, h, ok, fr, fun Q9 hq => rb Q9 hq⟩
/-! WebHost$Connection.wait2()V -/
set_option maxHeartbeats 4000000 in
theorem e11_wait2 {σ : St} {o0 : Nat} {Q : St → Prop} (ho0 : o0 < 16) (ok : okS σ) (h : w11_wait2 σ o0 Q) : (∃ (σ' : St), Q σ' ∧ okS σ' ∧ Fr (mF [] [] [] [(11, o0, [2, 29, 31, 33])]) σ σ' ∧ ∀ (Q9 : St → Prop), Q9 σ' → w11_wait2 σ o0 Q9) := by
  have fr : Fr (mF [] [] [] [(11, o0, [2, 29, 31, 33])]) σ σ := Fr.rf
  have rb : ∀ (Q9 : St → Prop), w11_wait2 σ o0 Q9 → w11_wait2 σ o0 Q9 := fun _ z => z
  obtain ⟨σ1, e9⟩ : ∃ s : St, s = up3 σ 11 o0 2 6 := ⟨_, rfl⟩
  have h := h σ1 e9
  have rb := fun Q9 z => rb Q9 (nm_n e9 z)
  have ok : okS σ1 := by rw [e9]; exact (ok_n ok (by decide))
  have fr : Fr (mF [] [] [] [(11, o0, [2, 29, 31, 33])]) σ σ1 := by rw [e9]; exact (Fr.up fr (mF_D (List.mem_of_getElem? (i := 0) rfl) rfl))
  obtain ⟨σ2, e9⟩ : ∃ s : St, s = up3 σ1 11 o0 29 0 := ⟨_, rfl⟩
  have h := h σ2 e9
  have rb := fun Q9 z => rb Q9 (nm_n e9 z)
  have ok : okS σ2 := by rw [e9]; exact (ok_z ok (by decide) (Or.inl rfl))
  have fr : Fr (mF [] [] [] [(11, o0, [2, 29, 31, 33])]) σ σ2 := by rw [e9]; exact (Fr.up fr (mF_D (List.mem_of_getElem? (i := 0) rfl) rfl))
  obtain ⟨σ3, h, ok, fr9, rc⟩ := e11_live ho0 ok h
  have fr := fr.tr (fr9.sub (mF_sub rfl sub_nil rfl (sud_c (Or.inr ⟨_, List.mem_of_getElem? (i := 0) rfl, rfl⟩) sud_nil)))
  have rb := fun Q9 z => rb Q9 (rc _ z)
  exact ⟨σ3, h, ok, fr, fun Q9 hq => rb Q9 hq⟩
/-! java/lang/StringLatin1.charAt([BI)C -/
set_option maxHeartbeats 4000000 in
theorem eJ2_charAt {t0 : Nat} {x1 : Int32} {Q : Int32 → Prop} (ht0 : t0 < nS) (h : wJ2_charAt t0 x1 Q) : (∃ r : Int32, Q r ∧ ∀ (Q9 : Int32 → Prop), Q9 r → wJ2_charAt t0 x1 Q9) := by
  have rb : ∀ (Q9 : Int32 → Prop), wJ2_charAt t0 x1 Q9 → wJ2_charAt t0 x1 Q9 := fun _ z => z
  obtain ⟨h, rc⟩ := eJ1_checkIndex h
  have rb := fun Q9 z => rb Q9 (rc _ z)
  obtain ⟨hc, h⟩ := h
  have rb := fun Q9 z => rb Q9 (And.intro hc z)
  obtain ⟨hc, h⟩ := h
  have rb := fun Q9 z => rb Q9 (And.intro hc z)
  exact ⟨((((sby t0 x1) &&& 255).toUInt32 % 65536).toInt32), h, fun Q9 hq => rb Q9 hq⟩
/-! java/lang/String.indexOf(II)I -/
set_option maxHeartbeats 4000000 in
theorem eJ1_indexOf_2 {t0 : Nat} {x1 : Int32} {x2 : Int32} {Q : Int32 → Prop} (ht0 : t0 < nS) (h : wJ1_indexOf_2 t0 x1 x2 Q) : (∃ r : Int32, Q r ∧ ∀ (Q9 : Int32 → Prop), Q9 r → wJ1_indexOf_2 t0 x1 x2 Q9) := by
  have rb : ∀ (Q9 : Int32 → Prop), wJ1_indexOf_2 t0 x1 x2 Q9 → wJ1_indexOf_2 t0 x1 x2 Q9 := fun _ z => z
  obtain ⟨r1, h, rc⟩ := eJ1_isLatin1 ht0 h
  have rb := fun Q9 z => rb Q9 (rc _ z)
  by_cases hc : r1 = 0
  · have h := h.1 hc
    have rb := fun Q9 z => rb Q9 (br_t hc z)
    exact h.elim
  have h := h.2 hc
  have rb := fun Q9 z => rb Q9 (br_f hc z)
  obtain ⟨r2, h, rc⟩ := eJ1_length ht0 h
  have rb := fun Q9 z => rb Q9 (rc _ z)
  obtain ⟨r3, h, rc⟩ := eJ2_indexOf ht0 h
  have rb := fun Q9 z => rb Q9 (rc _ z)
  exact ⟨r3, h, fun Q9 hq => rb Q9 hq⟩
/-! WebHostModel.arpFrame(IIIIII)V -/
set_option maxHeartbeats 4000000 in
theorem e14_arpFrame {σ : St} {x1 : Int32} {x2 : Int32} {x3 : Int32} {x4 : Int32} {x5 : Int32} {x6 : Int32} {Q : St → Prop} (ok : okS σ) (h : w14_arpFrame σ x1 x2 x3 x4 x5 x6 Q) : (∃ (σ' : St), Q σ' ∧ okS σ' ∧ Fr (mF [57, 58, 59, 60] [] [(14, [18, 23])] []) σ σ' ∧ ∀ (Q9 : St → Prop), Q9 σ' → w14_arpFrame σ x1 x2 x3 x4 x5 x6 Q9) := by
  have fr : Fr (mF [57, 58, 59, 60] [] [(14, [18, 23])] []) σ σ := Fr.rf
  have rb : ∀ (Q9 : St → Prop), w14_arpFrame σ x1 x2 x3 x4 x5 x6 Q9 → w14_arpFrame σ x1 x2 x3 x4 x5 x6 Q9 := fun _ z => z
  obtain ⟨σ1, h, ok, fr9, rc⟩ := e14_put ok h
  have fr := fr.tr (fr9.sub (mF_sub rfl sub_nil rfl sud_nil))
  have rb := fun Q9 z => rb Q9 (rc _ z)
  obtain ⟨σ2, h, ok, fr9, rc⟩ := e14_put ok h
  have fr := fr.tr (fr9.sub (mF_sub rfl sub_nil rfl sud_nil))
  have rb := fun Q9 z => rb Q9 (rc _ z)
  obtain ⟨σ3, h, ok, fr9, rc⟩ := e14_put ok h
  have fr := fr.tr (fr9.sub (mF_sub rfl sub_nil rfl sud_nil))
  have rb := fun Q9 z => rb Q9 (rc _ z)
  obtain ⟨σ4, h, ok, fr9, rc⟩ := e14_put ok h
  have fr := fr.tr (fr9.sub (mF_sub rfl sub_nil rfl sud_nil))
  have rb := fun Q9 z => rb Q9 (rc _ z)
  obtain ⟨σ5, h, ok, fr9, rc⟩ := e14_put ok h
  have fr := fr.tr (fr9.sub (mF_sub rfl sub_nil rfl sud_nil))
  have rb := fun Q9 z => rb Q9 (rc _ z)
  obtain ⟨σ6, h, ok, fr9, rc⟩ := e14_put ok h
  have fr := fr.tr (fr9.sub (mF_sub rfl sub_nil rfl sud_nil))
  have rb := fun Q9 z => rb Q9 (rc _ z)
  obtain ⟨σ7, h, ok, fr9, rc⟩ := e14_put ok h
  have fr := fr.tr (fr9.sub (mF_sub rfl sub_nil rfl sud_nil))
  have rb := fun Q9 z => rb Q9 (rc _ z)
  obtain ⟨σ8, h, ok, fr9, rc⟩ := e14_put ok h
  have fr := fr.tr (fr9.sub (mF_sub rfl sub_nil rfl sud_nil))
  have rb := fun Q9 z => rb Q9 (rc _ z)
  obtain ⟨σ9, h, ok, fr9, rc⟩ := e14_put ok h
  have fr := fr.tr (fr9.sub (mF_sub rfl sub_nil rfl sud_nil))
  have rb := fun Q9 z => rb Q9 (rc _ z)
  obtain ⟨σ10, h, ok, fr9, rc⟩ := e14_send ok h
  have fr := fr.tr (fr9.sub (mF_sub rfl sub_nil rfl sud_nil))
  have rb := fun Q9 z => rb Q9 (rc _ z)
  exact ⟨σ10, h, ok, fr, fun Q9 hq => rb Q9 hq⟩
/-! WebHostModel.arrived(LWebHostModel$Connection;)V -/
set_option maxHeartbeats 4000000 in
theorem e14_arrived_L41 {o1 : Nat} {x2 : Int32} {x3 : Int32} {Q : St → Prop} {K131 : St → Prop} (ho1 : o1 < 16) :
    ∀ (n : Nat) {σ : St} {x4 : Int32} (ok : okS σ), w14_arrived_L41 o1 x2 x3 Q K131 n σ x4 → (∃ (σ' : St), K131 σ' ∧ okS σ' ∧ Fr (mF [] [(72, o1), (73, o1)] [] []) σ σ' ∧ ∀ (Q9 : St → Prop) (K9_131 : St → Prop), K9_131 σ' → w14_arrived_L41 o1 x2 x3 Q9 K9_131 n σ x4) := by
  intro n
  induction n with
  | zero =>
    intro σ x4 ok h
    exact False.elim h
  | succ n ih =>
    intro σ x4 ok h
    have fr : Fr (mF [] [(72, o1), (73, o1)] [] []) σ σ := Fr.rf
    have rb : ∀ (Q9 : St → Prop) (K9_131 : St → Prop), w14_arrived_L41 o1 x2 x3 Q9 K9_131 (n + 1) σ x4 → w14_arrived_L41 o1 x2 x3 Q9 K9_131 (n + 1) σ x4 := fun _ _ z => z
    by_cases hc : (σ 14 0 39) ≤ x4
    · have h := h.1 hc
      have rb := fun Q9 K9_131 z => rb Q9 K9_131 (br_t hc z)
      exact ⟨σ, h, ok, fr, fun Q9 K9_131 hq => rb Q9 K9_131 hq⟩
    have h := h.2 hc
    have rb := fun Q9 K9_131 z => rb Q9 K9_131 (br_f hc z)
    obtain ⟨r3, h, rc⟩ := e14_before ok h
    have rb := fun Q9 K9_131 z => rb Q9 K9_131 (rc _ z)
    by_cases hc : r3 = 0
    · have h := h.2 hc
      have rb := fun Q9 K9_131 z => rb Q9 K9_131 (br_u hc z)
      obtain ⟨r4, h, rc⟩ := e14_before ok h
      have rb := fun Q9 K9_131 z => rb Q9 K9_131 (rc _ z)
      by_cases hc : r4 = 0
      · have h := h.1 hc
        have rb := fun Q9 K9_131 z => rb Q9 K9_131 (br_t hc z)
        rcases ih ok h with ⟨σ', h, ok, fr9, rc⟩
        · exact ⟨σ', h, ok, fr.tr fr9, fun Q9 K9_131 hq => rb Q9 K9_131 (rc Q9 K9_131 hq)⟩
      have h := h.2 hc
      have rb := fun Q9 K9_131 z => rb Q9 K9_131 (br_f hc z)
      obtain ⟨hc, h⟩ := h
      have rb := fun Q9 K9_131 z => rb Q9 K9_131 (And.intro hc z)
      have h := h ((ok 73 o1 _).1 (tyk_a 73 1 (by decide) (by decide) _))
      have rb := fun Q9 K9_131 z => rb Q9 K9_131 (im_n z)
      by_cases hc : (σ 73 o1 (((σ 14 0 34) + x4) - (σ 15 o1 35)).toNatClampNeg) = 0
      · have h := h.2 hc
        have rb := fun Q9 K9_131 z => rb Q9 K9_131 (br_u hc z)
        obtain ⟨hc, h⟩ := h
        have rb := fun Q9 K9_131 z => rb Q9 K9_131 (And.intro hc z)
        obtain ⟨σ5, e9⟩ : ∃ s : St, s = up3 σ 73 o1 (((σ 14 0 34) + x4) - (σ 15 o1 35)).toNatClampNeg 1 := ⟨_, rfl⟩
        have h := h σ5 e9
        have rb := fun Q9 K9_131 z => rb Q9 K9_131 (nm_n e9 z)
        have ok : okS σ5 := by rw [e9]; exact (ok_z ok (tyk_a 73 1 (by decide) (by decide) _) (Or.inr rfl))
        have fr : Fr (mF [] [(72, o1), (73, o1)] [] []) σ σ5 := by rw [e9]; exact (Fr.up fr (mF_B (List.mem_of_getElem? (i := 1) rfl)))
        obtain ⟨hc, h⟩ := h
        have rb := fun Q9 K9_131 z => rb Q9 K9_131 (And.intro hc z)
        have h := h ((ok 64 0 _).2 (tyk_a 64 2 (by decide) (by decide) _))
        have rb := fun Q9 K9_131 z => rb Q9 K9_131 (im_n z)
        obtain ⟨hc, h⟩ := h
        have rb := fun Q9 K9_131 z => rb Q9 K9_131 (And.intro hc z)
        obtain ⟨σ6, e9⟩ : ∃ s : St, s = up3 σ5 72 o1 (((σ 14 0 34) + x4) - (σ 15 o1 35)).toNatClampNeg (σ5 64 0 ((σ5 14 0 38) + x4).toNatClampNeg).toInt8.toInt32 := ⟨_, rfl⟩
        have h := h σ6 e9
        have rb := fun Q9 K9_131 z => rb Q9 K9_131 (nm_n e9 z)
        have ok : okS σ6 := by rw [e9]; exact (ok_b ok (tyk_a 72 2 (by decide) (by decide) _))
        have fr : Fr (mF [] [(72, o1), (73, o1)] [] []) σ σ6 := by rw [e9]; exact (Fr.up fr (mF_B (List.mem_of_getElem? (i := 0) rfl)))
        rcases ih ok h with ⟨σ', h, ok, fr9, rc⟩
        · exact ⟨σ', h, ok, fr.tr fr9, fun Q9 K9_131 hq => rb Q9 K9_131 (rc Q9 K9_131 hq)⟩
      have h := h.1 hc
      have rb := fun Q9 K9_131 z => rb Q9 K9_131 (br_v hc z)
      rcases ih ok h with ⟨σ', h, ok, fr9, rc⟩
      · exact ⟨σ', h, ok, fr.tr fr9, fun Q9 K9_131 hq => rb Q9 K9_131 (rc Q9 K9_131 hq)⟩
    have h := h.1 hc
    have rb := fun Q9 K9_131 z => rb Q9 K9_131 (br_v hc z)
    rcases ih ok h with ⟨σ', h, ok, fr9, rc⟩
    · exact ⟨σ', h, ok, fr.tr fr9, fun Q9 K9_131 hq => rb Q9 K9_131 (rc Q9 K9_131 hq)⟩
set_option maxHeartbeats 4000000 in
theorem e14_arrived_L131 {o1 : Nat} {x2 : Int32} {x3 : Int32} {Q : St → Prop} {K176 : St → Prop} (ho1 : o1 < 16) :
    ∀ (n : Nat) {σ : St} (ok : okS σ), w14_arrived_L131 o1 x2 x3 Q K176 n σ → (∃ (σ' : St), K176 σ' ∧ okS σ' ∧ Fr (mF [] [] [] [(15, o1, [36])]) σ σ' ∧ ∀ (Q9 : St → Prop) (K9_176 : St → Prop), K9_176 σ' → w14_arrived_L131 o1 x2 x3 Q9 K9_176 n σ) := by
  intro n
  induction n with
  | zero =>
    intro σ ok h
    exact False.elim h
  | succ n ih =>
    intro σ ok h
    have fr : Fr (mF [] [] [] [(15, o1, [36])]) σ σ := Fr.rf
    have rb : ∀ (Q9 : St → Prop) (K9_176 : St → Prop), w14_arrived_L131 o1 x2 x3 Q9 K9_176 (n + 1) σ → w14_arrived_L131 o1 x2 x3 Q9 K9_176 (n + 1) σ := fun _ _ z => z
    by_cases hc : 4096 ≤ ((σ 15 o1 36) - (σ 15 o1 35))
    · have h := h.1 hc
      have rb := fun Q9 K9_176 z => rb Q9 K9_176 (br_t hc z)
      exact ⟨σ, h, ok, fr, fun Q9 K9_176 hq => rb Q9 K9_176 hq⟩
    have h := h.2 hc
    have rb := fun Q9 K9_176 z => rb Q9 K9_176 (br_f hc z)
    obtain ⟨hc, h⟩ := h
    have rb := fun Q9 K9_176 z => rb Q9 K9_176 (And.intro hc z)
    have h := h ((ok 73 o1 _).1 (tyk_a 73 1 (by decide) (by decide) _))
    have rb := fun Q9 K9_176 z => rb Q9 K9_176 (im_n z)
    by_cases hc : (σ 73 o1 ((σ 15 o1 36) - (σ 15 o1 35)).toNatClampNeg) = 0
    · have h := h.1 hc
      have rb := fun Q9 K9_176 z => rb Q9 K9_176 (br_t hc z)
      exact ⟨σ, h, ok, fr, fun Q9 K9_176 hq => rb Q9 K9_176 hq⟩
    have h := h.2 hc
    have rb := fun Q9 K9_176 z => rb Q9 K9_176 (br_f hc z)
    obtain ⟨σ9, e9⟩ : ∃ s : St, s = up3 σ 15 o1 36 ((σ 15 o1 36) + 1) := ⟨_, rfl⟩
    have h := h σ9 e9
    have rb := fun Q9 K9_176 z => rb Q9 K9_176 (nm_n e9 z)
    have ok : okS σ9 := by rw [e9]; exact (ok_n ok (by decide))
    have fr : Fr (mF [] [] [] [(15, o1, [36])]) σ σ9 := by rw [e9]; exact (Fr.up fr (mF_D (List.mem_of_getElem? (i := 0) rfl) rfl))
    rcases ih ok h with ⟨σ', h, ok, fr9, rc⟩
    · exact ⟨σ', h, ok, fr.tr fr9, fun Q9 K9_176 hq => rb Q9 K9_176 (rc Q9 K9_176 hq)⟩
set_option maxHeartbeats 4000000 in
theorem e14_arrived_J246 {σ : St} {o1 : Nat} {Q : St → Prop} (ho1 : o1 < 16) (ok : okS σ) (h : w14_arrived_J246 σ o1 Q) : (∃ (σ' : St), Q σ' ∧ okS σ' ∧ Fr (mF [] [] [] [(15, o1, [0, 36, 39, 41, 45])]) σ σ' ∧ ∀ (Q9 : St → Prop), Q9 σ' → w14_arrived_J246 σ o1 Q9) := by
  have fr : Fr (mF [] [] [] [(15, o1, [0, 36, 39, 41, 45])]) σ σ := Fr.rf
  have rb : ∀ (Q9 : St → Prop), w14_arrived_J246 σ o1 Q9 → w14_arrived_J246 σ o1 Q9 := fun _ z => z
  have h := h ((ok 15 o1 40).1 (by decide))
  have rb := fun Q9 z => rb Q9 (im_n z)
  by_cases hc : (σ 15 o1 40) = 0
  · have h := h.1 hc
    have rb := fun Q9 z => rb Q9 (br_t hc z)
    exact ⟨σ, h, ok, fr, fun Q9 hq => rb Q9 hq⟩
  have h := h.2 hc
  have rb := fun Q9 z => rb Q9 (br_f hc z)
  have h := h ((ok 15 o1 41).1 (by decide))
  have rb := fun Q9 z => rb Q9 (im_n z)
  by_cases hc : (σ 15 o1 41) = 0
  · have h := h.2 hc
    have rb := fun Q9 z => rb Q9 (br_u hc z)
    by_cases hc : (σ 15 o1 36) = (σ 15 o1 42)
    · have h := h.2 hc
      have rb := fun Q9 z => rb Q9 (br_u hc z)
      obtain ⟨σ14, e9⟩ : ∃ s : St, s = up3 σ 15 o1 41 1 := ⟨_, rfl⟩
      have h := h σ14 e9
      have rb := fun Q9 z => rb Q9 (nm_n e9 z)
      have ok : okS σ14 := by rw [e9]; exact (ok_z ok (by decide) (Or.inr rfl))
      have fr : Fr (mF [] [] [] [(15, o1, [0, 36, 39, 41, 45])]) σ σ14 := by rw [e9]; exact (Fr.up fr (mF_D (List.mem_of_getElem? (i := 0) rfl) rfl))
      obtain ⟨σ15, e9⟩ : ∃ s : St, s = up3 σ14 15 o1 36 ((σ14 15 o1 36) + 1) := ⟨_, rfl⟩
      have h := h σ15 e9
      have rb := fun Q9 z => rb Q9 (nm_n e9 z)
      have ok : okS σ15 := by rw [e9]; exact (ok_n ok (by decide))
      have fr : Fr (mF [] [] [] [(15, o1, [0, 36, 39, 41, 45])]) σ σ15 := by rw [e9]; exact (Fr.up fr (mF_D (List.mem_of_getElem? (i := 0) rfl) rfl))
      obtain ⟨σ16, e9⟩ : ∃ s : St, s = up3 σ15 15 o1 39 1 := ⟨_, rfl⟩
      have h := h σ16 e9
      have rb := fun Q9 z => rb Q9 (nm_n e9 z)
      have ok : okS σ16 := by rw [e9]; exact (ok_z ok (by decide) (Or.inr rfl))
      have fr : Fr (mF [] [] [] [(15, o1, [0, 36, 39, 41, 45])]) σ σ16 := by rw [e9]; exact (Fr.up fr (mF_D (List.mem_of_getElem? (i := 0) rfl) rfl))
      by_cases hc : (σ16 15 o1 0) = 2
      · have h := h.2 hc
        have rb := fun Q9 z => rb Q9 (br_u hc z)
        obtain ⟨σ21, e9⟩ : ∃ s : St, s = up3 σ16 15 o1 0 7 := ⟨_, rfl⟩
        have h := h σ21 e9
        have rb := fun Q9 z => rb Q9 (nm_n e9 z)
        have ok : okS σ21 := by rw [e9]; exact (ok_n ok (by decide))
        have fr : Fr (mF [] [] [] [(15, o1, [0, 36, 39, 41, 45])]) σ σ21 := by rw [e9]; exact (Fr.up fr (mF_D (List.mem_of_getElem? (i := 0) rfl) rfl))
        exact ⟨σ21, h, ok, fr, fun Q9 hq => rb Q9 hq⟩
      have h := h.1 hc
      have rb := fun Q9 z => rb Q9 (br_v hc z)
      by_cases hc : (σ16 15 o1 0) = 3
      · have h := h.2 hc
        have rb := fun Q9 z => rb Q9 (br_u hc z)
        obtain ⟨σ19, e9⟩ : ∃ s : St, s = up3 σ16 15 o1 0 5 := ⟨_, rfl⟩
        have h := h σ19 e9
        have rb := fun Q9 z => rb Q9 (nm_n e9 z)
        have ok : okS σ19 := by rw [e9]; exact (ok_n ok (by decide))
        have fr : Fr (mF [] [] [] [(15, o1, [0, 36, 39, 41, 45])]) σ σ19 := by rw [e9]; exact (Fr.up fr (mF_D (List.mem_of_getElem? (i := 0) rfl) rfl))
        obtain ⟨σ20, e9⟩ : ∃ s : St, s = up3 σ19 15 o1 45 (σ19 14 0 10) := ⟨_, rfl⟩
        have h := h σ20 e9
        have rb := fun Q9 z => rb Q9 (nm_n e9 z)
        have ok : okS σ20 := by rw [e9]; exact (ok_n ok (by decide))
        have fr : Fr (mF [] [] [] [(15, o1, [0, 36, 39, 41, 45])]) σ σ20 := by rw [e9]; exact (Fr.up fr (mF_D (List.mem_of_getElem? (i := 0) rfl) rfl))
        exact ⟨σ20, h, ok, fr, fun Q9 hq => rb Q9 hq⟩
      have h := h.1 hc
      have rb := fun Q9 z => rb Q9 (br_v hc z)
      obtain ⟨σ17, e9⟩ : ∃ s : St, s = up3 σ16 15 o1 0 6 := ⟨_, rfl⟩
      have h := h σ17 e9
      have rb := fun Q9 z => rb Q9 (nm_n e9 z)
      have ok : okS σ17 := by rw [e9]; exact (ok_n ok (by decide))
      have fr : Fr (mF [] [] [] [(15, o1, [0, 36, 39, 41, 45])]) σ σ17 := by rw [e9]; exact (Fr.up fr (mF_D (List.mem_of_getElem? (i := 0) rfl) rfl))
      obtain ⟨σ18, e9⟩ : ∃ s : St, s = up3 σ17 15 o1 45 (σ17 14 0 10) := ⟨_, rfl⟩
      have h := h σ18 e9
      have rb := fun Q9 z => rb Q9 (nm_n e9 z)
      have ok : okS σ18 := by rw [e9]; exact (ok_n ok (by decide))
      have fr : Fr (mF [] [] [] [(15, o1, [0, 36, 39, 41, 45])]) σ σ18 := by rw [e9]; exact (Fr.up fr (mF_D (List.mem_of_getElem? (i := 0) rfl) rfl))
      exact ⟨σ18, h, ok, fr, fun Q9 hq => rb Q9 hq⟩
    have h := h.1 hc
    have rb := fun Q9 z => rb Q9 (br_v hc z)
    exact ⟨σ, h, ok, fr, fun Q9 hq => rb Q9 hq⟩
  have h := h.1 hc
  have rb := fun Q9 z => rb Q9 (br_v hc z)
  exact ⟨σ, h, ok, fr, fun Q9 hq => rb Q9 hq⟩
set_option maxHeartbeats 4000000 in
theorem e14_arrived_J176 {σ : St} {o1 : Nat} {x2 : Int32} {x3 : Int32} {Q : St → Prop} (ho1 : o1 < 16) (ok : okS σ) (h : w14_arrived_J176 σ o1 x2 x3 Q) : (∃ (σ' : St), Q σ' ∧ okS σ' ∧ Fr (mF [] [] [] [(15, o1, [0, 36, 39, 40, 41, 42, 45])]) σ σ' ∧ ∀ (Q9 : St → Prop), Q9 σ' → w14_arrived_J176 σ o1 x2 x3 Q9) := by
  have fr : Fr (mF [] [] [] [(15, o1, [0, 36, 39, 40, 41, 42, 45])]) σ σ := Fr.rf
  have rb : ∀ (Q9 : St → Prop), w14_arrived_J176 σ o1 x2 x3 Q9 → w14_arrived_J176 σ o1 x2 x3 Q9 := fun _ z => z
  obtain ⟨r12, h, rc⟩ := e14_is ok h
  have rb := fun Q9 z => rb Q9 (rc _ z)
  by_cases hc : r12 = 0
  · have h := h.1 hc
    have rb := fun Q9 z => rb Q9 (br_t hc z)
    obtain ⟨r13, h, rc⟩ := e14_is ok h
    have rb := fun Q9 z => rb Q9 (rc _ z)
    by_cases hc : r13 = 0
    · have h := h.1 hc
      have rb := fun Q9 z => rb Q9 (br_t hc z)
      obtain ⟨σ9, h, ok, fr9, rc⟩ := e14_arrived_J246 ho1 ok h
      exact ⟨σ9, h, ok, fr.tr (fr9.sub (mF_sub rfl sub_nil rfl (sud_c (Or.inr ⟨_, List.mem_of_getElem? (i := 0) rfl, rfl⟩) sud_nil))), fun Q9 hq => rb Q9 (rc Q9 hq)⟩
    have h := h.2 hc
    have rb := fun Q9 z => rb Q9 (br_f hc z)
    obtain ⟨σ22, e9⟩ : ∃ s : St, s = up3 σ 15 o1 39 1 := ⟨_, rfl⟩
    have h := h σ22 e9
    have rb := fun Q9 z => rb Q9 (nm_n e9 z)
    have ok : okS σ22 := by rw [e9]; exact (ok_z ok (by decide) (Or.inr rfl))
    have fr : Fr (mF [] [] [] [(15, o1, [0, 36, 39, 40, 41, 42, 45])]) σ σ22 := by rw [e9]; exact (Fr.up fr (mF_D (List.mem_of_getElem? (i := 0) rfl) rfl))
    obtain ⟨σ9, h, ok, fr9, rc⟩ := e14_arrived_J246 ho1 ok h
    exact ⟨σ9, h, ok, fr.tr (fr9.sub (mF_sub rfl sub_nil rfl (sud_c (Or.inr ⟨_, List.mem_of_getElem? (i := 0) rfl, rfl⟩) sud_nil))), fun Q9 hq => rb Q9 (rc Q9 hq)⟩
  have h := h.2 hc
  have rb := fun Q9 z => rb Q9 (br_f hc z)
  have h := h ((ok 15 o1 40).1 (by decide))
  have rb := fun Q9 z => rb Q9 (im_n z)
  by_cases hc : (σ 15 o1 40) = 0
  · have h := h.2 hc
    have rb := fun Q9 z => rb Q9 (br_u hc z)
    obtain ⟨r25, h, rc⟩ := e14_before ok h
    have rb := fun Q9 z => rb Q9 (rc _ z)
    by_cases hc : r25 = 0
    · have h := h.2 hc
      have rb := fun Q9 z => rb Q9 (br_u hc z)
      obtain ⟨r28, h, rc⟩ := e14_before ok h
      have rb := fun Q9 z => rb Q9 (rc _ z)
      by_cases hc : r28 = 0
      · have h := h.1 hc
        have rb := fun Q9 z => rb Q9 (br_t hc z)
        obtain ⟨r29, h, rc⟩ := e14_is ok h
        have rb := fun Q9 z => rb Q9 (rc _ z)
        by_cases hc : r29 = 0
        · have h := h.1 hc
          have rb := fun Q9 z => rb Q9 (br_t hc z)
          obtain ⟨σ9, h, ok, fr9, rc⟩ := e14_arrived_J246 ho1 ok h
          exact ⟨σ9, h, ok, fr.tr (fr9.sub (mF_sub rfl sub_nil rfl (sud_c (Or.inr ⟨_, List.mem_of_getElem? (i := 0) rfl, rfl⟩) sud_nil))), fun Q9 hq => rb Q9 (rc Q9 hq)⟩
        have h := h.2 hc
        have rb := fun Q9 z => rb Q9 (br_f hc z)
        obtain ⟨σ30, e9⟩ : ∃ s : St, s = up3 σ 15 o1 39 1 := ⟨_, rfl⟩
        have h := h σ30 e9
        have rb := fun Q9 z => rb Q9 (nm_n e9 z)
        have ok : okS σ30 := by rw [e9]; exact (ok_z ok (by decide) (Or.inr rfl))
        have fr : Fr (mF [] [] [] [(15, o1, [0, 36, 39, 40, 41, 42, 45])]) σ σ30 := by rw [e9]; exact (Fr.up fr (mF_D (List.mem_of_getElem? (i := 0) rfl) rfl))
        obtain ⟨σ9, h, ok, fr9, rc⟩ := e14_arrived_J246 ho1 ok h
        exact ⟨σ9, h, ok, fr.tr (fr9.sub (mF_sub rfl sub_nil rfl (sud_c (Or.inr ⟨_, List.mem_of_getElem? (i := 0) rfl, rfl⟩) sud_nil))), fun Q9 hq => rb Q9 (rc Q9 hq)⟩
      have h := h.2 hc
      have rb := fun Q9 z => rb Q9 (br_f hc z)
      obtain ⟨σ31, e9⟩ : ∃ s : St, s = up3 σ 15 o1 40 1 := ⟨_, rfl⟩
      have h := h σ31 e9
      have rb := fun Q9 z => rb Q9 (nm_n e9 z)
      have ok : okS σ31 := by rw [e9]; exact (ok_z ok (by decide) (Or.inr rfl))
      have fr : Fr (mF [] [] [] [(15, o1, [0, 36, 39, 40, 41, 42, 45])]) σ σ31 := by rw [e9]; exact (Fr.up fr (mF_D (List.mem_of_getElem? (i := 0) rfl) rfl))
      obtain ⟨σ32, e9⟩ : ∃ s : St, s = up3 σ31 15 o1 42 ((σ 14 0 34) + (σ 14 0 39)) := ⟨_, rfl⟩
      have h := h σ32 e9
      have rb := fun Q9 z => rb Q9 (nm_n e9 z)
      have ok : okS σ32 := by rw [e9]; exact (ok_n ok (by decide))
      have fr : Fr (mF [] [] [] [(15, o1, [0, 36, 39, 40, 41, 42, 45])]) σ σ32 := by rw [e9]; exact (Fr.up fr (mF_D (List.mem_of_getElem? (i := 0) rfl) rfl))
      obtain ⟨r33, h, rc⟩ := e14_is ok h
      have rb := fun Q9 z => rb Q9 (rc _ z)
      by_cases hc : r33 = 0
      · have h := h.1 hc
        have rb := fun Q9 z => rb Q9 (br_t hc z)
        obtain ⟨σ9, h, ok, fr9, rc⟩ := e14_arrived_J246 ho1 ok h
        exact ⟨σ9, h, ok, fr.tr (fr9.sub (mF_sub rfl sub_nil rfl (sud_c (Or.inr ⟨_, List.mem_of_getElem? (i := 0) rfl, rfl⟩) sud_nil))), fun Q9 hq => rb Q9 (rc Q9 hq)⟩
      have h := h.2 hc
      have rb := fun Q9 z => rb Q9 (br_f hc z)
      obtain ⟨σ34, e9⟩ : ∃ s : St, s = up3 σ32 15 o1 39 1 := ⟨_, rfl⟩
      have h := h σ34 e9
      have rb := fun Q9 z => rb Q9 (nm_n e9 z)
      have ok : okS σ34 := by rw [e9]; exact (ok_z ok (by decide) (Or.inr rfl))
      have fr : Fr (mF [] [] [] [(15, o1, [0, 36, 39, 40, 41, 42, 45])]) σ σ34 := by rw [e9]; exact (Fr.up fr (mF_D (List.mem_of_getElem? (i := 0) rfl) rfl))
      obtain ⟨σ9, h, ok, fr9, rc⟩ := e14_arrived_J246 ho1 ok h
      exact ⟨σ9, h, ok, fr.tr (fr9.sub (mF_sub rfl sub_nil rfl (sud_c (Or.inr ⟨_, List.mem_of_getElem? (i := 0) rfl, rfl⟩) sud_nil))), fun Q9 hq => rb Q9 (rc Q9 hq)⟩
    have h := h.1 hc
    have rb := fun Q9 z => rb Q9 (br_v hc z)
    obtain ⟨r26, h, rc⟩ := e14_is ok h
    have rb := fun Q9 z => rb Q9 (rc _ z)
    by_cases hc : r26 = 0
    · have h := h.1 hc
      have rb := fun Q9 z => rb Q9 (br_t hc z)
      obtain ⟨σ9, h, ok, fr9, rc⟩ := e14_arrived_J246 ho1 ok h
      exact ⟨σ9, h, ok, fr.tr (fr9.sub (mF_sub rfl sub_nil rfl (sud_c (Or.inr ⟨_, List.mem_of_getElem? (i := 0) rfl, rfl⟩) sud_nil))), fun Q9 hq => rb Q9 (rc Q9 hq)⟩
    have h := h.2 hc
    have rb := fun Q9 z => rb Q9 (br_f hc z)
    obtain ⟨σ27, e9⟩ : ∃ s : St, s = up3 σ 15 o1 39 1 := ⟨_, rfl⟩
    have h := h σ27 e9
    have rb := fun Q9 z => rb Q9 (nm_n e9 z)
    have ok : okS σ27 := by rw [e9]; exact (ok_z ok (by decide) (Or.inr rfl))
    have fr : Fr (mF [] [] [] [(15, o1, [0, 36, 39, 40, 41, 42, 45])]) σ σ27 := by rw [e9]; exact (Fr.up fr (mF_D (List.mem_of_getElem? (i := 0) rfl) rfl))
    obtain ⟨σ9, h, ok, fr9, rc⟩ := e14_arrived_J246 ho1 ok h
    exact ⟨σ9, h, ok, fr.tr (fr9.sub (mF_sub rfl sub_nil rfl (sud_c (Or.inr ⟨_, List.mem_of_getElem? (i := 0) rfl, rfl⟩) sud_nil))), fun Q9 hq => rb Q9 (rc Q9 hq)⟩
  have h := h.1 hc
  have rb := fun Q9 z => rb Q9 (br_v hc z)
  obtain ⟨r23, h, rc⟩ := e14_is ok h
  have rb := fun Q9 z => rb Q9 (rc _ z)
  by_cases hc : r23 = 0
  · have h := h.1 hc
    have rb := fun Q9 z => rb Q9 (br_t hc z)
    obtain ⟨σ9, h, ok, fr9, rc⟩ := e14_arrived_J246 ho1 ok h
    exact ⟨σ9, h, ok, fr.tr (fr9.sub (mF_sub rfl sub_nil rfl (sud_c (Or.inr ⟨_, List.mem_of_getElem? (i := 0) rfl, rfl⟩) sud_nil))), fun Q9 hq => rb Q9 (rc Q9 hq)⟩
  have h := h.2 hc
  have rb := fun Q9 z => rb Q9 (br_f hc z)
  obtain ⟨σ24, e9⟩ : ∃ s : St, s = up3 σ 15 o1 39 1 := ⟨_, rfl⟩
  have h := h σ24 e9
  have rb := fun Q9 z => rb Q9 (nm_n e9 z)
  have ok : okS σ24 := by rw [e9]; exact (ok_z ok (by decide) (Or.inr rfl))
  have fr : Fr (mF [] [] [] [(15, o1, [0, 36, 39, 40, 41, 42, 45])]) σ σ24 := by rw [e9]; exact (Fr.up fr (mF_D (List.mem_of_getElem? (i := 0) rfl) rfl))
  obtain ⟨σ9, h, ok, fr9, rc⟩ := e14_arrived_J246 ho1 ok h
  exact ⟨σ9, h, ok, fr.tr (fr9.sub (mF_sub rfl sub_nil rfl (sud_c (Or.inr ⟨_, List.mem_of_getElem? (i := 0) rfl, rfl⟩) sud_nil))), fun Q9 hq => rb Q9 (rc Q9 hq)⟩
set_option maxHeartbeats 4000000 in
theorem e14_arrived {σ : St} {o1 : Nat} {Q : St → Prop} (ho1 : o1 < 16) (ok : okS σ) (h : w14_arrived σ o1 Q) : (∃ (σ' : St), Q σ' ∧ okS σ' ∧ Fr (mF [] [(72, o1), (73, o1)] [] [(15, o1, [0, 36, 39, 40, 41, 42, 44, 45])]) σ σ' ∧ ∀ (Q9 : St → Prop), Q9 σ' → w14_arrived σ o1 Q9) := by
  have fr : Fr (mF [] [(72, o1), (73, o1)] [] [(15, o1, [0, 36, 39, 40, 41, 42, 44, 45])]) σ σ := Fr.rf
  have rb : ∀ (Q9 : St → Prop), w14_arrived σ o1 Q9 → w14_arrived σ o1 Q9 := fun _ z => z
  obtain ⟨r1, h, rc⟩ := e14_takesData ho1 ok h
  have rb := fun Q9 z => rb Q9 (rc _ z)
  by_cases hc : r1 = 0
  · have h := h.2 hc
    have rb := fun Q9 z => rb Q9 (br_u hc z)
    exact ⟨σ, h, ok, fr, fun Q9 hq => rb Q9 hq⟩
  have h := h.1 hc
  have rb := fun Q9 z => rb Q9 (br_v hc z)
  obtain ⟨r2, h, rc⟩ := e15_open ho1 ok h
  have rb := fun Q9 z => rb Q9 (rc _ z)
  by_cases hc : (σ 14 0 39) ≤ 0
  · have h := h.1 hc
    have rb := fun Q9 z => rb Q9 (br_t hc z)
    obtain ⟨n9, h⟩ := h
    rcases e14_arrived_L41 ho1 n9 ok h with ⟨σ8, h, ok, fr9, rc⟩
    · have rb := fun Q9 z => rb Q9 (Exists.intro n9 (rc _ _ z))
      have fr := fr.tr (fr9.sub (mF_sub rfl (sub_c (Or.inr (List.mem_of_getElem? (i := 0) rfl)) (sub_c (Or.inr (List.mem_of_getElem? (i := 1) rfl)) sub_nil)) rfl sud_nil))
      obtain ⟨n9, h⟩ := h
      rcases e14_arrived_L131 ho1 n9 ok h with ⟨σ11, h, ok, fr9, rc⟩
      · have rb := fun Q9 z => rb Q9 (Exists.intro n9 (rc _ _ z))
        have fr := fr.tr (fr9.sub (mF_sub rfl sub_nil rfl (sud_c (Or.inr ⟨_, List.mem_of_getElem? (i := 0) rfl, rfl⟩) sud_nil)))
        obtain ⟨σ9, h, ok, fr9, rc⟩ := e14_arrived_J176 ho1 ok h
        exact ⟨σ9, h, ok, fr.tr (fr9.sub (mF_sub rfl sub_nil rfl (sud_c (Or.inr ⟨_, List.mem_of_getElem? (i := 0) rfl, rfl⟩) sud_nil))), fun Q9 hq => rb Q9 (rc Q9 hq)⟩
  have h := h.2 hc
  have rb := fun Q9 z => rb Q9 (br_f hc z)
  obtain ⟨σ35, e9⟩ : ∃ s : St, s = up3 σ 15 o1 39 1 := ⟨_, rfl⟩
  have h := h σ35 e9
  have rb := fun Q9 z => rb Q9 (nm_n e9 z)
  have ok : okS σ35 := by rw [e9]; exact (ok_z ok (by decide) (Or.inr rfl))
  have fr : Fr (mF [] [(72, o1), (73, o1)] [] [(15, o1, [0, 36, 39, 40, 41, 42, 44, 45])]) σ σ35 := by rw [e9]; exact (Fr.up fr (mF_D (List.mem_of_getElem? (i := 0) rfl) rfl))
  obtain ⟨σ36, e9⟩ : ∃ s : St, s = up3 σ35 15 o1 44 (σ35 14 0 10) := ⟨_, rfl⟩
  have h := h σ36 e9
  have rb := fun Q9 z => rb Q9 (nm_n e9 z)
  have ok : okS σ36 := by rw [e9]; exact (ok_n ok (by decide))
  have fr : Fr (mF [] [(72, o1), (73, o1)] [] [(15, o1, [0, 36, 39, 40, 41, 42, 44, 45])]) σ σ36 := by rw [e9]; exact (Fr.up fr (mF_D (List.mem_of_getElem? (i := 0) rfl) rfl))
  obtain ⟨n9, h⟩ := h
  rcases e14_arrived_L41 ho1 n9 ok h with ⟨σ38, h, ok, fr9, rc⟩
  · have rb := fun Q9 z => rb Q9 (Exists.intro n9 (rc _ _ z))
    have fr := fr.tr (fr9.sub (mF_sub rfl (sub_c (Or.inr (List.mem_of_getElem? (i := 0) rfl)) (sub_c (Or.inr (List.mem_of_getElem? (i := 1) rfl)) sub_nil)) rfl sud_nil))
    obtain ⟨n9, h⟩ := h
    rcases e14_arrived_L131 ho1 n9 ok h with ⟨σ40, h, ok, fr9, rc⟩
    · have rb := fun Q9 z => rb Q9 (Exists.intro n9 (rc _ _ z))
      have fr := fr.tr (fr9.sub (mF_sub rfl sub_nil rfl (sud_c (Or.inr ⟨_, List.mem_of_getElem? (i := 0) rfl, rfl⟩) sud_nil)))
      obtain ⟨σ9, h, ok, fr9, rc⟩ := e14_arrived_J176 ho1 ok h
      exact ⟨σ9, h, ok, fr.tr (fr9.sub (mF_sub rfl sub_nil rfl (sud_c (Or.inr ⟨_, List.mem_of_getElem? (i := 0) rfl, rfl⟩) sud_nil))), fun Q9 hq => rb Q9 (rc Q9 hq)⟩
/-! WebHostModel.boot(IIIII)I -/
set_option maxHeartbeats 4000000 in
theorem e14_boot_L120 {x7 : Int32} {x8 : Int32} {Q : Int32 → St → Prop} {K162 : St → Prop} :
    ∀ (n : Nat) {σ : St} {x9 : Int32} (ok : okS σ), w14_boot_L120 x7 x8 Q K162 n σ x9 → (∃ (σ' : St), K162 σ' ∧ okS σ' ∧ Fr (mF [52] [] [] []) σ σ' ∧ ∀ (Q9 : Int32 → St → Prop) (K9_162 : St → Prop), K9_162 σ' → w14_boot_L120 x7 x8 Q9 K9_162 n σ x9) := by
  intro n
  induction n with
  | zero =>
    intro σ x9 ok h
    exact False.elim h
  | succ n ih =>
    intro σ x9 ok h
    have fr : Fr (mF [52] [] [] []) σ σ := Fr.rf
    have rb : ∀ (Q9 : Int32 → St → Prop) (K9_162 : St → Prop), w14_boot_L120 x7 x8 Q9 K9_162 (n + 1) σ x9 → w14_boot_L120 x7 x8 Q9 K9_162 (n + 1) σ x9 := fun _ _ z => z
    by_cases hc : 48 ≤ x9
    · have h := h.1 hc
      have rb := fun Q9 K9_162 z => rb Q9 K9_162 (br_t hc z)
      exact ⟨σ, h, ok, fr, fun Q9 K9_162 hq => rb Q9 K9_162 hq⟩
    have h := h.2 hc
    have rb := fun Q9 K9_162 z => rb Q9 K9_162 (br_f hc z)
    obtain ⟨hc, h⟩ := h
    have rb := fun Q9 K9_162 z => rb Q9 K9_162 (And.intro hc z)
    have h := h ((ok 51 0 _).2 (tyk_a 51 2 (by decide) (by decide) _))
    have rb := fun Q9 K9_162 z => rb Q9 K9_162 (im_n z)
    obtain ⟨hc, h⟩ := h
    have rb := fun Q9 K9_162 z => rb Q9 K9_162 (And.intro hc z)
    obtain ⟨σ9, e9⟩ : ∃ s : St, s = up3 σ 52 0 ((48 * x8) + x9).toNatClampNeg (σ 51 0 ((8 + (64 * x8)) + x9).toNatClampNeg).toInt8.toInt32 := ⟨_, rfl⟩
    have h := h σ9 e9
    have rb := fun Q9 K9_162 z => rb Q9 K9_162 (nm_n e9 z)
    have ok : okS σ9 := by rw [e9]; exact (ok_b ok (tyk_a 52 2 (by decide) (by decide) _))
    have fr : Fr (mF [52] [] [] []) σ σ9 := by rw [e9]; exact (Fr.up fr (mF_A rfl))
    rcases ih ok h with ⟨σ', h, ok, fr9, rc⟩
    · exact ⟨σ', h, ok, fr.tr fr9, fun Q9 K9_162 hq => rb Q9 K9_162 (rc Q9 K9_162 hq)⟩
set_option maxHeartbeats 4000000 in
theorem e14_boot_L110 {x7 : Int32} {Q : Int32 → St → Prop} {K237 : St → Prop} :
    ∀ (n : Nat) {σ : St} {x8 : Int32} (ok : okS σ), w14_boot_L110 x7 Q K237 n σ x8 → (∃ (σ' : St), K237 σ' ∧ okS σ' ∧ Fr (mF [52, 53, 54, 55] [] [] []) σ σ' ∧ ∀ (Q9 : Int32 → St → Prop) (K9_237 : St → Prop), K9_237 σ' → w14_boot_L110 x7 Q9 K9_237 n σ x8) := by
  intro n
  induction n with
  | zero =>
    intro σ x8 ok h
    exact False.elim h
  | succ n ih =>
    intro σ x8 ok h
    have fr : Fr (mF [52, 53, 54, 55] [] [] []) σ σ := Fr.rf
    have rb : ∀ (Q9 : Int32 → St → Prop) (K9_237 : St → Prop), w14_boot_L110 x7 Q9 K9_237 (n + 1) σ x8 → w14_boot_L110 x7 Q9 K9_237 (n + 1) σ x8 := fun _ _ z => z
    by_cases hc : x7 ≤ x8
    · have h := h.1 hc
      have rb := fun Q9 K9_237 z => rb Q9 K9_237 (br_t hc z)
      exact ⟨σ, h, ok, fr, fun Q9 K9_237 hq => rb Q9 K9_237 hq⟩
    have h := h.2 hc
    have rb := fun Q9 K9_237 z => rb Q9 K9_237 (br_f hc z)
    obtain ⟨n9, h⟩ := h
    rcases e14_boot_L120 n9 ok h with ⟨σ11, h, ok, fr9, rc⟩
    · have rb := fun Q9 K9_237 z => rb Q9 K9_237 (Exists.intro n9 (rc _ _ z))
      have fr := fr.tr (fr9.sub (mF_sub rfl sub_nil rfl sud_nil))
      obtain ⟨r12, h, rc⟩ := e14_imageWord ok h
      have rb := fun Q9 K9_237 z => rb Q9 K9_237 (rc _ z)
      obtain ⟨hc, h⟩ := h
      have rb := fun Q9 K9_237 z => rb Q9 K9_237 (And.intro hc z)
      obtain ⟨σ13, e9⟩ : ∃ s : St, s = up3 σ11 53 0 x8.toNatClampNeg r12.toInt32 := ⟨_, rfl⟩
      have h := h σ13 e9
      have rb := fun Q9 K9_237 z => rb Q9 K9_237 (nm_n e9 z)
      have ok : okS σ13 := by rw [e9]; exact (ok_n ok (tyk_a 53 0 (by decide) (by decide) _))
      have fr : Fr (mF [52, 53, 54, 55] [] [] []) σ σ13 := by rw [e9]; exact (Fr.up fr (mF_A rfl))
      obtain ⟨r14, h, rc⟩ := e14_imageWord ok h
      have rb := fun Q9 K9_237 z => rb Q9 K9_237 (rc _ z)
      obtain ⟨hc, h⟩ := h
      have rb := fun Q9 K9_237 z => rb Q9 K9_237 (And.intro hc z)
      obtain ⟨σ15, e9⟩ : ∃ s : St, s = up3 σ13 54 0 x8.toNatClampNeg r14.toInt32 := ⟨_, rfl⟩
      have h := h σ15 e9
      have rb := fun Q9 K9_237 z => rb Q9 K9_237 (nm_n e9 z)
      have ok : okS σ15 := by rw [e9]; exact (ok_n ok (tyk_a 54 0 (by decide) (by decide) _))
      have fr : Fr (mF [52, 53, 54, 55] [] [] []) σ σ15 := by rw [e9]; exact (Fr.up fr (mF_A rfl))
      obtain ⟨r16, h, rc⟩ := e14_imageWord ok h
      have rb := fun Q9 K9_237 z => rb Q9 K9_237 (rc _ z)
      obtain ⟨hc, h⟩ := h
      have rb := fun Q9 K9_237 z => rb Q9 K9_237 (And.intro hc z)
      obtain ⟨σ17, e9⟩ : ∃ s : St, s = up3 σ15 55 0 x8.toNatClampNeg r16.toInt32 := ⟨_, rfl⟩
      have h := h σ17 e9
      have rb := fun Q9 K9_237 z => rb Q9 K9_237 (nm_n e9 z)
      have ok : okS σ17 := by rw [e9]; exact (ok_n ok (tyk_a 55 0 (by decide) (by decide) _))
      have fr : Fr (mF [52, 53, 54, 55] [] [] []) σ σ17 := by rw [e9]; exact (Fr.up fr (mF_A rfl))
      rcases ih ok h with ⟨σ', h, ok, fr9, rc⟩
      · exact ⟨σ', h, ok, fr.tr fr9, fun Q9 K9_237 hq => rb Q9 K9_237 (rc Q9 K9_237 hq)⟩
set_option maxHeartbeats 4000000 in
theorem e14_boot_L275 {x7 : Int32} {Q : Int32 → St → Prop} {K296 : St → Prop} :
    ∀ (n : Nat) {σ : St} {x8 : Int32} (ok : okS σ), w14_boot_L275 x7 Q K296 n σ x8 → (∃ (σ' : St), K296 σ' ∧ okS σ' ∧ Fr (mF [56] [] [] []) σ σ' ∧ ∀ (Q9 : Int32 → St → Prop) (K9_296 : St → Prop), K9_296 σ' → w14_boot_L275 x7 Q9 K9_296 n σ x8) := by
  intro n
  induction n with
  | zero =>
    intro σ x8 ok h
    exact False.elim h
  | succ n ih =>
    intro σ x8 ok h
    have fr : Fr (mF [56] [] [] []) σ σ := Fr.rf
    have rb : ∀ (Q9 : Int32 → St → Prop) (K9_296 : St → Prop), w14_boot_L275 x7 Q9 K9_296 (n + 1) σ x8 → w14_boot_L275 x7 Q9 K9_296 (n + 1) σ x8 := fun _ _ z => z
    by_cases hc : 8 ≤ x8
    · have h := h.1 hc
      have rb := fun Q9 K9_296 z => rb Q9 K9_296 (br_t hc z)
      exact ⟨σ, h, ok, fr, fun Q9 K9_296 hq => rb Q9 K9_296 hq⟩
    have h := h.2 hc
    have rb := fun Q9 K9_296 z => rb Q9 K9_296 (br_f hc z)
    obtain ⟨hc, h⟩ := h
    have rb := fun Q9 K9_296 z => rb Q9 K9_296 (And.intro hc z)
    obtain ⟨σ27, e9⟩ : ∃ s : St, s = up3 σ 56 0 x8.toNatClampNeg 0 := ⟨_, rfl⟩
    have h := h σ27 e9
    have rb := fun Q9 K9_296 z => rb Q9 K9_296 (nm_n e9 z)
    have ok : okS σ27 := by rw [e9]; exact (ok_n ok (tyk_a 56 0 (by decide) (by decide) _))
    have fr : Fr (mF [56] [] [] []) σ σ27 := by rw [e9]; exact (Fr.up fr (mF_A rfl))
    rcases ih ok h with ⟨σ', h, ok, fr9, rc⟩
    · exact ⟨σ', h, ok, fr.tr fr9, fun Q9 K9_296 hq => rb Q9 K9_296 (rc Q9 K9_296 hq)⟩
set_option maxHeartbeats 4000000 in
theorem e14_boot_L299 {x7 : Int32} {Q : Int32 → St → Prop} {K323 : St → Prop} :
    ∀ (n : Nat) {σ : St} {x8 : Int32} (ok : okS σ), w14_boot_L299 x7 Q K323 n σ x8 → (∃ (σ' : St), K323 σ' ∧ okS σ' ∧ Fr (mF [] [] [(15, [0])] []) σ σ' ∧ ∀ (Q9 : Int32 → St → Prop) (K9_323 : St → Prop), K9_323 σ' → w14_boot_L299 x7 Q9 K9_323 n σ x8) := by
  intro n
  induction n with
  | zero =>
    intro σ x8 ok h
    exact False.elim h
  | succ n ih =>
    intro σ x8 ok h
    have fr : Fr (mF [] [] [(15, [0])] []) σ σ := Fr.rf
    have rb : ∀ (Q9 : Int32 → St → Prop) (K9_323 : St → Prop), w14_boot_L299 x7 Q9 K9_323 (n + 1) σ x8 → w14_boot_L299 x7 Q9 K9_323 (n + 1) σ x8 := fun _ _ z => z
    by_cases hc : 16 ≤ x8
    · have h := h.1 hc
      have rb := fun Q9 K9_323 z => rb Q9 K9_323 (br_t hc z)
      exact ⟨σ, h, ok, fr, fun Q9 K9_323 hq => rb Q9 K9_323 hq⟩
    have h := h.2 hc
    have rb := fun Q9 K9_323 z => rb Q9 K9_323 (br_f hc z)
    obtain ⟨hc, h⟩ := h
    have rb := fun Q9 K9_323 z => rb Q9 K9_323 (And.intro hc z)
    have hq30 := vp_lt hc
    obtain ⟨σ31, e9⟩ : ∃ s : St, s = up3 σ 15 x8.toNatClampNeg 0 0 := ⟨_, rfl⟩
    have h := h σ31 e9
    have rb := fun Q9 K9_323 z => rb Q9 K9_323 (nm_n e9 z)
    have ok : okS σ31 := by rw [e9]; exact (ok_n ok (by decide))
    have fr : Fr (mF [] [] [(15, [0])] []) σ σ31 := by rw [e9]; exact (Fr.up fr (mF_C (List.mem_of_getElem? (i := 0) rfl) rfl))
    rcases ih ok h with ⟨σ', h, ok, fr9, rc⟩
    · exact ⟨σ', h, ok, fr.tr fr9, fun Q9 K9_323 hq => rb Q9 K9_323 (rc Q9 K9_323 hq)⟩
set_option maxHeartbeats 4000000 in
theorem e14_boot_L326 {x7 : Int32} {Q : Int32 → St → Prop} {K350 : St → Prop} :
    ∀ (n : Nat) {σ : St} {x8 : Int32} (ok : okS σ), w14_boot_L326 x7 Q K350 n σ x8 → (∃ (σ' : St), K350 σ' ∧ okS σ' ∧ Fr (mF [] [] [(16, [0])] []) σ σ' ∧ ∀ (Q9 : Int32 → St → Prop) (K9_350 : St → Prop), K9_350 σ' → w14_boot_L326 x7 Q9 K9_350 n σ x8) := by
  intro n
  induction n with
  | zero =>
    intro σ x8 ok h
    exact False.elim h
  | succ n ih =>
    intro σ x8 ok h
    have fr : Fr (mF [] [] [(16, [0])] []) σ σ := Fr.rf
    have rb : ∀ (Q9 : Int32 → St → Prop) (K9_350 : St → Prop), w14_boot_L326 x7 Q9 K9_350 (n + 1) σ x8 → w14_boot_L326 x7 Q9 K9_350 (n + 1) σ x8 := fun _ _ z => z
    by_cases hc : 16 ≤ x8
    · have h := h.1 hc
      have rb := fun Q9 K9_350 z => rb Q9 K9_350 (br_t hc z)
      exact ⟨σ, h, ok, fr, fun Q9 K9_350 hq => rb Q9 K9_350 hq⟩
    have h := h.2 hc
    have rb := fun Q9 K9_350 z => rb Q9 K9_350 (br_f hc z)
    obtain ⟨hc, h⟩ := h
    have rb := fun Q9 K9_350 z => rb Q9 K9_350 (And.intro hc z)
    have hq34 := vp_lt hc
    obtain ⟨σ35, e9⟩ : ∃ s : St, s = up3 σ 16 x8.toNatClampNeg 0 0 := ⟨_, rfl⟩
    have h := h σ35 e9
    have rb := fun Q9 K9_350 z => rb Q9 K9_350 (nm_n e9 z)
    have ok : okS σ35 := by rw [e9]; exact (ok_z ok (by decide) (Or.inl rfl))
    have fr : Fr (mF [] [] [(16, [0])] []) σ σ35 := by rw [e9]; exact (Fr.up fr (mF_C (List.mem_of_getElem? (i := 0) rfl) rfl))
    rcases ih ok h with ⟨σ', h, ok, fr9, rc⟩
    · exact ⟨σ', h, ok, fr.tr fr9, fun Q9 K9_350 hq => rb Q9 K9_350 (rc Q9 K9_350 hq)⟩
set_option maxHeartbeats 4000000 in
theorem e14_boot_L353 {x7 : Int32} {Q : Int32 → St → Prop} {K377 : St → Prop} :
    ∀ (n : Nat) {σ : St} {x8 : Int32} (ok : okS σ), w14_boot_L353 x7 Q K377 n σ x8 → (∃ (σ' : St), K377 σ' ∧ okS σ' ∧ Fr (mF [] [] [(17, [0])] []) σ σ' ∧ ∀ (Q9 : Int32 → St → Prop) (K9_377 : St → Prop), K9_377 σ' → w14_boot_L353 x7 Q9 K9_377 n σ x8) := by
  intro n
  induction n with
  | zero =>
    intro σ x8 ok h
    exact False.elim h
  | succ n ih =>
    intro σ x8 ok h
    have fr : Fr (mF [] [] [(17, [0])] []) σ σ := Fr.rf
    have rb : ∀ (Q9 : Int32 → St → Prop) (K9_377 : St → Prop), w14_boot_L353 x7 Q9 K9_377 (n + 1) σ x8 → w14_boot_L353 x7 Q9 K9_377 (n + 1) σ x8 := fun _ _ z => z
    by_cases hc : 8 ≤ x8
    · have h := h.1 hc
      have rb := fun Q9 K9_377 z => rb Q9 K9_377 (br_t hc z)
      exact ⟨σ, h, ok, fr, fun Q9 K9_377 hq => rb Q9 K9_377 hq⟩
    have h := h.2 hc
    have rb := fun Q9 K9_377 z => rb Q9 K9_377 (br_f hc z)
    obtain ⟨hc, h⟩ := h
    have rb := fun Q9 K9_377 z => rb Q9 K9_377 (And.intro hc z)
    have hq38 := vp_lt hc
    obtain ⟨σ39, e9⟩ : ∃ s : St, s = up3 σ 17 x8.toNatClampNeg 0 0 := ⟨_, rfl⟩
    have h := h σ39 e9
    have rb := fun Q9 K9_377 z => rb Q9 K9_377 (nm_n e9 z)
    have ok : okS σ39 := by rw [e9]; exact (ok_z ok (by decide) (Or.inl rfl))
    have fr : Fr (mF [] [] [(17, [0])] []) σ σ39 := by rw [e9]; exact (Fr.up fr (mF_C (List.mem_of_getElem? (i := 0) rfl) rfl))
    rcases ih ok h with ⟨σ', h, ok, fr9, rc⟩
    · exact ⟨σ', h, ok, fr.tr fr9, fun Q9 K9_377 hq => rb Q9 K9_377 (rc Q9 K9_377 hq)⟩
set_option maxHeartbeats 4000000 in
theorem e14_boot_L380 {x7 : Int32} {Q : Int32 → St → Prop} {K403 : St → Prop} :
    ∀ (n : Nat) {σ : St} {x8 : Int32} (ok : okS σ), w14_boot_L380 x7 Q K403 n σ x8 → (∃ (σ' : St), K403 σ' ∧ okS σ' ∧ Fr (mF [] [] [(18, [0])] []) σ σ' ∧ ∀ (Q9 : Int32 → St → Prop) (K9_403 : St → Prop), K9_403 σ' → w14_boot_L380 x7 Q9 K9_403 n σ x8) := by
  intro n
  induction n with
  | zero =>
    intro σ x8 ok h
    exact False.elim h
  | succ n ih =>
    intro σ x8 ok h
    have fr : Fr (mF [] [] [(18, [0])] []) σ σ := Fr.rf
    have rb : ∀ (Q9 : Int32 → St → Prop) (K9_403 : St → Prop), w14_boot_L380 x7 Q9 K9_403 (n + 1) σ x8 → w14_boot_L380 x7 Q9 K9_403 (n + 1) σ x8 := fun _ _ z => z
    by_cases hc : 4 ≤ x8
    · have h := h.1 hc
      have rb := fun Q9 K9_403 z => rb Q9 K9_403 (br_t hc z)
      exact ⟨σ, h, ok, fr, fun Q9 K9_403 hq => rb Q9 K9_403 hq⟩
    have h := h.2 hc
    have rb := fun Q9 K9_403 z => rb Q9 K9_403 (br_f hc z)
    obtain ⟨hc, h⟩ := h
    have rb := fun Q9 K9_403 z => rb Q9 K9_403 (And.intro hc z)
    have hq42 := vp_lt hc
    obtain ⟨σ43, e9⟩ : ∃ s : St, s = up3 σ 18 x8.toNatClampNeg 0 0 := ⟨_, rfl⟩
    have h := h σ43 e9
    have rb := fun Q9 K9_403 z => rb Q9 K9_403 (nm_n e9 z)
    have ok : okS σ43 := by rw [e9]; exact (ok_z ok (by decide) (Or.inl rfl))
    have fr : Fr (mF [] [] [(18, [0])] []) σ σ43 := by rw [e9]; exact (Fr.up fr (mF_C (List.mem_of_getElem? (i := 0) rfl) rfl))
    rcases ih ok h with ⟨σ', h, ok, fr9, rc⟩
    · exact ⟨σ', h, ok, fr.tr fr9, fun Q9 K9_403 hq => rb Q9 K9_403 (rc Q9 K9_403 hq)⟩
set_option maxHeartbeats 4000000 in
theorem e14_boot {σ : St} {x1 : Int32} {x2 : Int32} {x3 : Int32} {x4 : Int32} {x5 : Int32} {Q : Int32 → St → Prop} (ok : okS σ) (h : w14_boot σ x1 x2 x3 x4 x5 Q) : (∃ (r : Int32) (σ' : St), Q r σ' ∧ okS σ' ∧ Fr (mF [52, 53, 54, 55, 56] [] [(14, [4, 5, 6, 7, 8, 9, 10, 11, 12, 18, 23, 24, 25]), (15, [0]), (16, [0]), (17, [0]), (18, [0])] []) σ σ' ∧ ∀ (Q9 : Int32 → St → Prop), Q9 r σ' → w14_boot σ x1 x2 x3 x4 x5 Q9) := by
  have fr : Fr (mF [52, 53, 54, 55, 56] [] [(14, [4, 5, 6, 7, 8, 9, 10, 11, 12, 18, 23, 24, 25]), (15, [0]), (16, [0]), (17, [0]), (18, [0])] []) σ σ := Fr.rf
  have rb : ∀ (Q9 : Int32 → St → Prop), w14_boot σ x1 x2 x3 x4 x5 Q9 → w14_boot σ x1 x2 x3 x4 x5 Q9 := fun _ z => z
  by_cases hc : x2 < 8
  · have h := h.1 hc
    have rb := fun Q9 z => rb Q9 (br_t hc z)
    exact ⟨(-1), σ, h, ok, fr, fun Q9 hq => rb Q9 hq⟩
  have h := h.2 hc
  have rb := fun Q9 z => rb Q9 (br_f hc z)
  by_cases hc : 30 < x2
  · have h := h.1 hc
    have rb := fun Q9 z => rb Q9 (br_t hc z)
    exact ⟨(-1), σ, h, ok, fr, fun Q9 hq => rb Q9 hq⟩
  have h := h.2 hc
  have rb := fun Q9 z => rb Q9 (br_f hc z)
  obtain ⟨r1, h, rc⟩ := e14_isHost ok h
  have rb := fun Q9 z => rb Q9 (rc _ z)
  by_cases hc : r1 = 0
  · have h := h.2 hc
    have rb := fun Q9 z => rb Q9 (br_u hc z)
    exact ⟨(-1), σ, h, ok, fr, fun Q9 hq => rb Q9 hq⟩
  have h := h.1 hc
  have rb := fun Q9 z => rb Q9 (br_v hc z)
  by_cases hc : (x3 >>> ((32 - x2) &&& 31)) = (x1 >>> ((32 - x2) &&& 31))
  · have h := h.2 hc
    have rb := fun Q9 z => rb Q9 (br_u hc z)
    by_cases hc : x3 = x1
    · have h := h.1 hc
      have rb := fun Q9 z => rb Q9 (br_t hc z)
      exact ⟨(-2), σ, h, ok, fr, fun Q9 hq => rb Q9 hq⟩
    have h := h.2 hc
    have rb := fun Q9 z => rb Q9 (br_f hc z)
    by_cases hc : ((x4 >>> ((8 : Int32) &&& 31)) &&& 1) = 1
    · have h := h.2 hc
      have rb := fun Q9 z => rb Q9 (br_u hc z)
      exact ⟨(-2), σ, h, ok, fr, fun Q9 hq => rb Q9 hq⟩
    have h := h.1 hc
    have rb := fun Q9 z => rb Q9 (br_v hc z)
    obtain ⟨r2, h, rc⟩ := e14_files ok h
    have rb := fun Q9 z => rb Q9 (rc _ z)
    by_cases hc : 0 ≤ r2
    · have h := h.1 hc
      have rb := fun Q9 z => rb Q9 (br_t hc z)
      obtain ⟨σ3, e9⟩ : ∃ s : St, s = up3 σ 14 0 5 x1 := ⟨_, rfl⟩
      have h := h σ3 e9
      have rb := fun Q9 z => rb Q9 (nm_n e9 z)
      have ok : okS σ3 := by rw [e9]; exact (ok_n ok (by decide))
      have fr : Fr (mF [52, 53, 54, 55, 56] [] [(14, [4, 5, 6, 7, 8, 9, 10, 11, 12, 18, 23, 24, 25]), (15, [0]), (16, [0]), (17, [0]), (18, [0])] []) σ σ3 := by rw [e9]; exact (Fr.up fr (mF_C (List.mem_of_getElem? (i := 0) rfl) rfl))
      obtain ⟨σ4, e9⟩ : ∃ s : St, s = up3 σ3 14 0 6 x2 := ⟨_, rfl⟩
      have h := h σ4 e9
      have rb := fun Q9 z => rb Q9 (nm_n e9 z)
      have ok : okS σ4 := by rw [e9]; exact (ok_n ok (by decide))
      have fr : Fr (mF [52, 53, 54, 55, 56] [] [(14, [4, 5, 6, 7, 8, 9, 10, 11, 12, 18, 23, 24, 25]), (15, [0]), (16, [0]), (17, [0]), (18, [0])] []) σ σ4 := by rw [e9]; exact (Fr.up fr (mF_C (List.mem_of_getElem? (i := 0) rfl) rfl))
      obtain ⟨σ5, e9⟩ : ∃ s : St, s = up3 σ4 14 0 7 x3 := ⟨_, rfl⟩
      have h := h σ5 e9
      have rb := fun Q9 z => rb Q9 (nm_n e9 z)
      have ok : okS σ5 := by rw [e9]; exact (ok_n ok (by decide))
      have fr : Fr (mF [52, 53, 54, 55, 56] [] [(14, [4, 5, 6, 7, 8, 9, 10, 11, 12, 18, 23, 24, 25]), (15, [0]), (16, [0]), (17, [0]), (18, [0])] []) σ σ5 := by rw [e9]; exact (Fr.up fr (mF_C (List.mem_of_getElem? (i := 0) rfl) rfl))
      obtain ⟨σ6, e9⟩ : ∃ s : St, s = up3 σ5 14 0 8 (x4 &&& 65535) := ⟨_, rfl⟩
      have h := h σ6 e9
      have rb := fun Q9 z => rb Q9 (nm_n e9 z)
      have ok : okS σ6 := by rw [e9]; exact (ok_n ok (by decide))
      have fr : Fr (mF [52, 53, 54, 55, 56] [] [(14, [4, 5, 6, 7, 8, 9, 10, 11, 12, 18, 23, 24, 25]), (15, [0]), (16, [0]), (17, [0]), (18, [0])] []) σ σ6 := by rw [e9]; exact (Fr.up fr (mF_C (List.mem_of_getElem? (i := 0) rfl) rfl))
      obtain ⟨σ7, e9⟩ : ∃ s : St, s = up3 σ6 14 0 9 x5 := ⟨_, rfl⟩
      have h := h σ7 e9
      have rb := fun Q9 z => rb Q9 (nm_n e9 z)
      have ok : okS σ7 := by rw [e9]; exact (ok_n ok (by decide))
      have fr : Fr (mF [52, 53, 54, 55, 56] [] [(14, [4, 5, 6, 7, 8, 9, 10, 11, 12, 18, 23, 24, 25]), (15, [0]), (16, [0]), (17, [0]), (18, [0])] []) σ σ7 := by rw [e9]; exact (Fr.up fr (mF_C (List.mem_of_getElem? (i := 0) rfl) rfl))
      obtain ⟨σ8, e9⟩ : ∃ s : St, s = up3 σ7 14 0 11 r2 := ⟨_, rfl⟩
      have h := h σ8 e9
      have rb := fun Q9 z => rb Q9 (nm_n e9 z)
      have ok : okS σ8 := by rw [e9]; exact (ok_n ok (by decide))
      have fr : Fr (mF [52, 53, 54, 55, 56] [] [(14, [4, 5, 6, 7, 8, 9, 10, 11, 12, 18, 23, 24, 25]), (15, [0]), (16, [0]), (17, [0]), (18, [0])] []) σ σ8 := by rw [e9]; exact (Fr.up fr (mF_C (List.mem_of_getElem? (i := 0) rfl) rfl))
      obtain ⟨n9, h⟩ := h
      rcases e14_boot_L110 n9 ok h with ⟨σ19, h, ok, fr9, rc⟩
      · have rb := fun Q9 z => rb Q9 (Exists.intro n9 (rc _ _ z))
        have fr := fr.tr (fr9.sub (mF_sub rfl sub_nil rfl sud_nil))
        obtain ⟨σ20, e9⟩ : ∃ s : St, s = up3 σ19 14 0 4 1 := ⟨_, rfl⟩
        have h := h σ20 e9
        have rb := fun Q9 z => rb Q9 (nm_n e9 z)
        have ok : okS σ20 := by rw [e9]; exact (ok_z ok (by decide) (Or.inr rfl))
        have fr : Fr (mF [52, 53, 54, 55, 56] [] [(14, [4, 5, 6, 7, 8, 9, 10, 11, 12, 18, 23, 24, 25]), (15, [0]), (16, [0]), (17, [0]), (18, [0])] []) σ σ20 := by rw [e9]; exact (Fr.up fr (mF_C (List.mem_of_getElem? (i := 0) rfl) rfl))
        obtain ⟨σ21, e9⟩ : ∃ s : St, s = up3 σ20 14 0 10 0 := ⟨_, rfl⟩
        have h := h σ21 e9
        have rb := fun Q9 z => rb Q9 (nm_n e9 z)
        have ok : okS σ21 := by rw [e9]; exact (ok_n ok (by decide))
        have fr : Fr (mF [52, 53, 54, 55, 56] [] [(14, [4, 5, 6, 7, 8, 9, 10, 11, 12, 18, 23, 24, 25]), (15, [0]), (16, [0]), (17, [0]), (18, [0])] []) σ σ21 := by rw [e9]; exact (Fr.up fr (mF_C (List.mem_of_getElem? (i := 0) rfl) rfl))
        obtain ⟨σ22, e9⟩ : ∃ s : St, s = up3 σ21 14 0 23 0 := ⟨_, rfl⟩
        have h := h σ22 e9
        have rb := fun Q9 z => rb Q9 (nm_n e9 z)
        have ok : okS σ22 := by rw [e9]; exact (ok_n ok (by decide))
        have fr : Fr (mF [52, 53, 54, 55, 56] [] [(14, [4, 5, 6, 7, 8, 9, 10, 11, 12, 18, 23, 24, 25]), (15, [0]), (16, [0]), (17, [0]), (18, [0])] []) σ σ22 := by rw [e9]; exact (Fr.up fr (mF_C (List.mem_of_getElem? (i := 0) rfl) rfl))
        obtain ⟨σ23, e9⟩ : ∃ s : St, s = up3 σ22 14 0 24 0 := ⟨_, rfl⟩
        have h := h σ23 e9
        have rb := fun Q9 z => rb Q9 (nm_n e9 z)
        have ok : okS σ23 := by rw [e9]; exact (ok_n ok (by decide))
        have fr : Fr (mF [52, 53, 54, 55, 56] [] [(14, [4, 5, 6, 7, 8, 9, 10, 11, 12, 18, 23, 24, 25]), (15, [0]), (16, [0]), (17, [0]), (18, [0])] []) σ σ23 := by rw [e9]; exact (Fr.up fr (mF_C (List.mem_of_getElem? (i := 0) rfl) rfl))
        obtain ⟨σ24, e9⟩ : ∃ s : St, s = up3 σ23 14 0 12 0 := ⟨_, rfl⟩
        have h := h σ24 e9
        have rb := fun Q9 z => rb Q9 (nm_n e9 z)
        have ok : okS σ24 := by rw [e9]; exact (ok_n ok (by decide))
        have fr : Fr (mF [52, 53, 54, 55, 56] [] [(14, [4, 5, 6, 7, 8, 9, 10, 11, 12, 18, 23, 24, 25]), (15, [0]), (16, [0]), (17, [0]), (18, [0])] []) σ σ24 := by rw [e9]; exact (Fr.up fr (mF_C (List.mem_of_getElem? (i := 0) rfl) rfl))
        obtain ⟨σ25, e9⟩ : ∃ s : St, s = up3 σ24 14 0 18 0 := ⟨_, rfl⟩
        have h := h σ25 e9
        have rb := fun Q9 z => rb Q9 (nm_n e9 z)
        have ok : okS σ25 := by rw [e9]; exact (ok_n ok (by decide))
        have fr : Fr (mF [52, 53, 54, 55, 56] [] [(14, [4, 5, 6, 7, 8, 9, 10, 11, 12, 18, 23, 24, 25]), (15, [0]), (16, [0]), (17, [0]), (18, [0])] []) σ σ25 := by rw [e9]; exact (Fr.up fr (mF_C (List.mem_of_getElem? (i := 0) rfl) rfl))
        obtain ⟨σ26, e9⟩ : ∃ s : St, s = up3 σ25 14 0 25 0 := ⟨_, rfl⟩
        have h := h σ26 e9
        have rb := fun Q9 z => rb Q9 (nm_n e9 z)
        have ok : okS σ26 := by rw [e9]; exact (ok_n ok (by decide))
        have fr : Fr (mF [52, 53, 54, 55, 56] [] [(14, [4, 5, 6, 7, 8, 9, 10, 11, 12, 18, 23, 24, 25]), (15, [0]), (16, [0]), (17, [0]), (18, [0])] []) σ σ26 := by rw [e9]; exact (Fr.up fr (mF_C (List.mem_of_getElem? (i := 0) rfl) rfl))
        obtain ⟨n9, h⟩ := h
        rcases e14_boot_L275 n9 ok h with ⟨σ29, h, ok, fr9, rc⟩
        · have rb := fun Q9 z => rb Q9 (Exists.intro n9 (rc _ _ z))
          have fr := fr.tr (fr9.sub (mF_sub rfl sub_nil rfl sud_nil))
          obtain ⟨n9, h⟩ := h
          rcases e14_boot_L299 n9 ok h with ⟨σ33, h, ok, fr9, rc⟩
          · have rb := fun Q9 z => rb Q9 (Exists.intro n9 (rc _ _ z))
            have fr := fr.tr (fr9.sub (mF_sub rfl sub_nil rfl sud_nil))
            obtain ⟨n9, h⟩ := h
            rcases e14_boot_L326 n9 ok h with ⟨σ37, h, ok, fr9, rc⟩
            · have rb := fun Q9 z => rb Q9 (Exists.intro n9 (rc _ _ z))
              have fr := fr.tr (fr9.sub (mF_sub rfl sub_nil rfl sud_nil))
              obtain ⟨n9, h⟩ := h
              rcases e14_boot_L353 n9 ok h with ⟨σ41, h, ok, fr9, rc⟩
              · have rb := fun Q9 z => rb Q9 (Exists.intro n9 (rc _ _ z))
                have fr := fr.tr (fr9.sub (mF_sub rfl sub_nil rfl sud_nil))
                obtain ⟨n9, h⟩ := h
                rcases e14_boot_L380 n9 ok h with ⟨σ45, h, ok, fr9, rc⟩
                · have rb := fun Q9 z => rb Q9 (Exists.intro n9 (rc _ _ z))
                  have fr := fr.tr (fr9.sub (mF_sub rfl sub_nil rfl sud_nil))
                  exact ⟨r2, σ45, h, ok, fr, fun Q9 hq => rb Q9 hq⟩
    have h := h.2 hc
    have rb := fun Q9 z => rb Q9 (br_f hc z)
    exact ⟨(-3), σ, h, ok, fr, fun Q9 hq => rb Q9 hq⟩
  have h := h.1 hc
  have rb := fun Q9 z => rb Q9 (br_v hc z)
  exact ⟨(-2), σ, h, ok, fr, fun Q9 hq => rb Q9 hq⟩
/-! WebHostModel.cached(I)Z -/
set_option maxHeartbeats 4000000 in
theorem e14_cached {σ : St} {x1 : Int32} {Q : Int32 → Prop} (ok : okS σ) (h : w14_cached σ x1 Q) : (∃ r : Int32, Q r ∧ ∀ (Q9 : Int32 → Prop), Q9 r → w14_cached σ x1 Q9) := by
  have rb : ∀ (Q9 : Int32 → Prop), w14_cached σ x1 Q9 → w14_cached σ x1 Q9 := fun _ z => z
  have h := h ((ok 14 0 4).1 (by decide))
  have rb := fun Q9 z => rb Q9 (im_n z)
  by_cases hc : (σ 14 0 4) = 0
  · have h := h.1 hc
    have rb := fun Q9 z => rb Q9 (br_t hc z)
    exact ⟨0, h, fun Q9 hq => rb Q9 hq⟩
  have h := h.2 hc
  have rb := fun Q9 z => rb Q9 (br_f hc z)
  obtain ⟨p1, h, rc⟩ := e14_counting ok h
  have rb := fun Q9 z => rb Q9 (rc _ z)
  rcases opt_or p1 with hp | ⟨i2, hp⟩
  · have h := h.1 hp
    have rb := fun Q9 z => rb Q9 (po_n hp z)
    exact ⟨0, h, fun Q9 hq => rb Q9 hq⟩
  obtain ⟨hq2, h⟩ := h.2 i2 hp
  have rb := fun Q9 z => rb Q9 (po_s hp (And.intro hq2 z))
  exact ⟨1, h, fun Q9 hq => rb Q9 hq⟩
/-! WebHostModel.damage(II)Z -/
set_option maxHeartbeats 4000000 in
theorem e14_damage_L16 {σ : St} {x1 : Int32} {x2 : Int32} {Q : Int32 → St → Prop} {K71 : Prop} {K79 : Prop} (ok : okS σ) :
    ∀ (n : Nat) {x3 : Int32}, w14_damage_L16 σ x1 x2 Q K71 K79 n x3 → (K71 ∧ ∀ (Q9 : Int32 → St → Prop) (K9_71 : Prop) (K9_79 : Prop), K9_71 → w14_damage_L16 σ x1 x2 Q9 K9_71 K9_79 n x3) ∨ (K79 ∧ ∀ (Q9 : Int32 → St → Prop) (K9_71 : Prop) (K9_79 : Prop), K9_79 → w14_damage_L16 σ x1 x2 Q9 K9_71 K9_79 n x3) := by
  intro n
  induction n with
  | zero =>
    intro x3 h
    exact False.elim h
  | succ n ih =>
    intro x3 h
    have rb : ∀ (Q9 : Int32 → St → Prop) (K9_71 : Prop) (K9_79 : Prop), w14_damage_L16 σ x1 x2 Q9 K9_71 K9_79 (n + 1) x3 → w14_damage_L16 σ x1 x2 Q9 K9_71 K9_79 (n + 1) x3 := fun _ _ _ z => z
    by_cases hc : 16 ≤ x3
    · have h := h.1 hc
      have rb := fun Q9 K9_71 K9_79 z => rb Q9 K9_71 K9_79 (br_t hc z)
      exact (Or.inr ⟨h, fun Q9 K9_71 K9_79 hq => rb Q9 K9_71 K9_79 hq⟩)
    have h := h.2 hc
    have rb := fun Q9 K9_71 K9_79 z => rb Q9 K9_71 K9_79 (br_f hc z)
    have h := h ((ok 14 0 4).1 (by decide))
    have rb := fun Q9 K9_71 K9_79 z => rb Q9 K9_71 K9_79 (im_n z)
    by_cases hc : (σ 14 0 4) = 0
    · have h := h.1 hc
      have rb := fun Q9 K9_71 K9_79 z => rb Q9 K9_71 K9_79 (br_t hc z)
      exact (Or.inr ⟨h, fun Q9 K9_71 K9_79 hq => rb Q9 K9_71 K9_79 hq⟩)
    have h := h.2 hc
    have rb := fun Q9 K9_71 K9_79 z => rb Q9 K9_71 K9_79 (br_f hc z)
    obtain ⟨hc, h⟩ := h
    have rb := fun Q9 K9_71 K9_79 z => rb Q9 K9_71 K9_79 (And.intro hc z)
    have hq1 := vp_lt hc
    by_cases hc : (σ 15 x3.toNatClampNeg 0) = 0
    · have h := h.1 hc
      have rb := fun Q9 K9_71 K9_79 z => rb Q9 K9_71 K9_79 (br_t hc z)
      rcases ih h with ⟨h, rc⟩ | ⟨h, rc⟩
      · exact (Or.inl ⟨h, fun Q9 K9_71 K9_79 hq => rb Q9 K9_71 K9_79 (rc Q9 K9_71 K9_79 hq)⟩)
      · exact (Or.inr ⟨h, fun Q9 K9_71 K9_79 hq => rb Q9 K9_71 K9_79 (rc Q9 K9_71 K9_79 hq)⟩)
    have h := h.2 hc
    have rb := fun Q9 K9_71 K9_79 z => rb Q9 K9_71 K9_79 (br_f hc z)
    by_cases hc : (σ 15 x3.toNatClampNeg 4) = (σ 15 x3.toNatClampNeg 6)
    · have h := h.2 hc
      have rb := fun Q9 K9_71 K9_79 z => rb Q9 K9_71 K9_79 (br_u hc z)
      obtain ⟨r2, h, rc⟩ := e15_left hq1 ok h
      have rb := fun Q9 K9_71 K9_79 z => rb Q9 K9_71 K9_79 (rc _ z)
      by_cases hc : r2 ≤ 0
      · have h := h.1 hc
        have rb := fun Q9 K9_71 K9_79 z => rb Q9 K9_71 K9_79 (br_t hc z)
        rcases ih h with ⟨h, rc⟩ | ⟨h, rc⟩
        · exact (Or.inl ⟨h, fun Q9 K9_71 K9_79 hq => rb Q9 K9_71 K9_79 (rc Q9 K9_71 K9_79 hq)⟩)
        · exact (Or.inr ⟨h, fun Q9 K9_71 K9_79 hq => rb Q9 K9_71 K9_79 (rc Q9 K9_71 K9_79 hq)⟩)
      have h := h.2 hc
      have rb := fun Q9 K9_71 K9_79 z => rb Q9 K9_71 K9_79 (br_f hc z)
      exact (Or.inl ⟨h, fun Q9 K9_71 K9_79 hq => rb Q9 K9_71 K9_79 hq⟩)
    have h := h.1 hc
    have rb := fun Q9 K9_71 K9_79 z => rb Q9 K9_71 K9_79 (br_v hc z)
    exact (Or.inl ⟨h, fun Q9 K9_71 K9_79 hq => rb Q9 K9_71 K9_79 hq⟩)
set_option maxHeartbeats 4000000 in
theorem e14_damage {σ : St} {x1 : Int32} {x2 : Int32} {Q : Int32 → St → Prop} (ok : okS σ) (h : w14_damage σ x1 x2 Q) : (∃ (r : Int32) (σ' : St), Q r σ' ∧ okS σ' ∧ Fr (mF [51] [] [] []) σ σ' ∧ ∀ (Q9 : Int32 → St → Prop), Q9 r σ' → w14_damage σ x1 x2 Q9) := by
  have fr : Fr (mF [51] [] [] []) σ σ := Fr.rf
  have rb : ∀ (Q9 : Int32 → St → Prop), w14_damage σ x1 x2 Q9 → w14_damage σ x1 x2 Q9 := fun _ z => z
  by_cases hc : x1 < 0
  · have h := h.1 hc
    have rb := fun Q9 z => rb Q9 (br_t hc z)
    exact ⟨0, σ, h, ok, fr, fun Q9 hq => rb Q9 hq⟩
  have h := h.2 hc
  have rb := fun Q9 z => rb Q9 (br_f hc z)
  by_cases hc : x1 < (σ 14 0 3)
  · have h := h.1 hc
    have rb := fun Q9 z => rb Q9 (br_t hc z)
    obtain ⟨n9, h⟩ := h
    rcases e14_damage_L16 ok n9 h with ⟨h, rc⟩ | ⟨h, rc⟩
    · have rb := fun Q9 z => rb Q9 (Exists.intro n9 (rc _ _ _ z))
      exact ⟨0, σ, h, ok, fr, fun Q9 hq => rb Q9 hq⟩
    · have rb := fun Q9 z => rb Q9 (Exists.intro n9 (rc _ _ _ z))
      obtain ⟨hc, h⟩ := h
      have rb := fun Q9 z => rb Q9 (And.intro hc z)
      obtain ⟨σ6, e9⟩ : ∃ s : St, s = up3 σ 51 0 x1.toNatClampNeg x2.toInt8.toInt32.toInt8.toInt32 := ⟨_, rfl⟩
      have h := h σ6 e9
      have rb := fun Q9 z => rb Q9 (nm_n e9 z)
      have ok : okS σ6 := by rw [e9]; exact (ok_b ok (tyk_a 51 2 (by decide) (by decide) _))
      have fr : Fr (mF [51] [] [] []) σ σ6 := by rw [e9]; exact (Fr.up fr (mF_A rfl))
      exact ⟨1, σ6, h, ok, fr, fun Q9 hq => rb Q9 hq⟩
  have h := h.2 hc
  have rb := fun Q9 z => rb Q9 (br_f hc z)
  exact ⟨0, σ, h, ok, fr, fun Q9 hq => rb Q9 hq⟩
/-! WebHostModel.headBytes(LWebHostModel$Connection;)I -/
set_option maxHeartbeats 4000000 in
theorem e14_headBytes_J51 {σ : St} {o1 : Nat} {x3 : Int32} {x4 : Int32} {Q : Int32 → Prop} {K10 : Int32 → Int32 → Prop} {K63 : Int32 → Prop} (ho1 : o1 < 16) (ok : okS σ) (h : w14_headBytes_J51 σ o1 x3 x4 Q K10 K63) : (∃ (x2' : Int32) (x4' : Int32), K10 x2' x4' ∧ ∀ (Q9 : Int32 → Prop) (K9_10 : Int32 → Int32 → Prop) (K9_63 : Int32 → Prop), K9_10 x2' x4' → w14_headBytes_J51 σ o1 x3 x4 Q9 K9_10 K9_63) ∨ (∃ (x4' : Int32), K63 x4' ∧ ∀ (Q9 : Int32 → Prop) (K9_10 : Int32 → Int32 → Prop) (K9_63 : Int32 → Prop), K9_63 x4' → w14_headBytes_J51 σ o1 x3 x4 Q9 K9_10 K9_63) := by
  have rb : ∀ (Q9 : Int32 → Prop) (K9_10 : Int32 → Int32 → Prop) (K9_63 : Int32 → Prop), w14_headBytes_J51 σ o1 x3 x4 Q9 K9_10 K9_63 → w14_headBytes_J51 σ o1 x3 x4 Q9 K9_10 K9_63 := fun _ _ _ z => z
  by_cases hc : (1 : Int32) = 0
  · have h := h.1 hc
    have rb := fun Q9 K9_10 K9_63 z => rb Q9 K9_10 K9_63 (br_t hc z)
    exact (Or.inl ⟨x4 + 1, x4 + 1, h, fun Q9 K9_10 K9_63 hq => rb Q9 K9_10 K9_63 hq⟩)
  have h := h.2 hc
  have rb := fun Q9 K9_10 K9_63 z => rb Q9 K9_10 K9_63 (br_f hc z)
  exact (Or.inr ⟨x4, h, fun Q9 K9_10 K9_63 hq => rb Q9 K9_10 K9_63 hq⟩)
set_option maxHeartbeats 4000000 in
theorem e14_headBytes_J55 {σ : St} {o1 : Nat} {x3 : Int32} {x4 : Int32} {Q : Int32 → Prop} {K10 : Int32 → Int32 → Prop} {K63 : Int32 → Prop} (ho1 : o1 < 16) (ok : okS σ) (h : w14_headBytes_J55 σ o1 x3 x4 Q K10 K63) : (∃ (x2' : Int32) (x4' : Int32), K10 x2' x4' ∧ ∀ (Q9 : Int32 → Prop) (K9_10 : Int32 → Int32 → Prop) (K9_63 : Int32 → Prop), K9_10 x2' x4' → w14_headBytes_J55 σ o1 x3 x4 Q9 K9_10 K9_63) ∨ (∃ (x4' : Int32), K63 x4' ∧ ∀ (Q9 : Int32 → Prop) (K9_10 : Int32 → Int32 → Prop) (K9_63 : Int32 → Prop), K9_63 x4' → w14_headBytes_J55 σ o1 x3 x4 Q9 K9_10 K9_63) := by
  have rb : ∀ (Q9 : Int32 → Prop) (K9_10 : Int32 → Int32 → Prop) (K9_63 : Int32 → Prop), w14_headBytes_J55 σ o1 x3 x4 Q9 K9_10 K9_63 → w14_headBytes_J55 σ o1 x3 x4 Q9 K9_10 K9_63 := fun _ _ _ z => z
  by_cases hc : (0 : Int32) = 0
  · have h := h.1 hc
    have rb := fun Q9 K9_10 K9_63 z => rb Q9 K9_10 K9_63 (br_t hc z)
    exact (Or.inl ⟨x4 + 1, x4 + 1, h, fun Q9 K9_10 K9_63 hq => rb Q9 K9_10 K9_63 hq⟩)
  have h := h.2 hc
  have rb := fun Q9 K9_10 K9_63 z => rb Q9 K9_10 K9_63 (br_f hc z)
  exact (Or.inr ⟨x4, h, fun Q9 K9_10 K9_63 hq => rb Q9 K9_10 K9_63 hq⟩)
set_option maxHeartbeats 4000000 in
theorem e14_headBytes_L10 {σ : St} {o1 : Nat} {x3 : Int32} {Q : Int32 → Prop} {K63 : Int32 → Prop} {K79 : Prop} (ho1 : o1 < 16) (ok : okS σ) :
    ∀ (n : Nat) {x2 : Int32} {x4 : Int32}, w14_headBytes_L10 σ o1 x3 Q K63 K79 n x2 x4 → (∃ (x4' : Int32), K63 x4' ∧ ∀ (Q9 : Int32 → Prop) (K9_63 : Int32 → Prop) (K9_79 : Prop), K9_63 x4' → w14_headBytes_L10 σ o1 x3 Q9 K9_63 K9_79 n x2 x4) ∨ (K79 ∧ ∀ (Q9 : Int32 → Prop) (K9_63 : Int32 → Prop) (K9_79 : Prop), K9_79 → w14_headBytes_L10 σ o1 x3 Q9 K9_63 K9_79 n x2 x4) := by
  intro n
  induction n with
  | zero =>
    intro x2 x4 h
    exact False.elim h
  | succ n ih =>
    intro x2 x4 h
    have rb : ∀ (Q9 : Int32 → Prop) (K9_63 : Int32 → Prop) (K9_79 : Prop), w14_headBytes_L10 σ o1 x3 Q9 K9_63 K9_79 (n + 1) x2 x4 → w14_headBytes_L10 σ o1 x3 Q9 K9_63 K9_79 (n + 1) x2 x4 := fun _ _ _ z => z
    by_cases hc : x3 ≤ x4
    · have h := h.1 hc
      have rb := fun Q9 K9_63 K9_79 z => rb Q9 K9_63 K9_79 (br_t hc z)
      exact (Or.inr ⟨h, fun Q9 K9_63 K9_79 hq => rb Q9 K9_63 K9_79 hq⟩)
    have h := h.2 hc
    have rb := fun Q9 K9_63 K9_79 z => rb Q9 K9_63 K9_79 (br_f hc z)
    obtain ⟨r2, h, rc⟩ := e14_byteAt ho1 ok h
    have rb := fun Q9 K9_63 K9_79 z => rb Q9 K9_63 K9_79 (rc _ z)
    by_cases hc : r2 = 10
    · have h := h.2 hc
      have rb := fun Q9 K9_63 K9_79 z => rb Q9 K9_63 K9_79 (br_u hc z)
      by_cases hc : x4 = x2
      · have h := h.1 hc
        have rb := fun Q9 K9_63 K9_79 z => rb Q9 K9_63 K9_79 (br_t hc z)
        rcases e14_headBytes_J51 ho1 ok h with ⟨x2, x4, h, rc⟩ | ⟨x4, h, rc⟩
        · rcases ih h with ⟨x4, h, rd⟩ | ⟨h, rd⟩
          · exact (Or.inl ⟨x4, h, fun Q9 K9_63 K9_79 hq => rb Q9 K9_63 K9_79 (rc _ _ _ (rd Q9 K9_63 K9_79 hq))⟩)
          · exact (Or.inr ⟨h, fun Q9 K9_63 K9_79 hq => rb Q9 K9_63 K9_79 (rc _ _ _ (rd Q9 K9_63 K9_79 hq))⟩)
        · exact (Or.inl ⟨x4, h, fun Q9 K9_63 K9_79 hq => rb Q9 K9_63 K9_79 (rc _ _ _ hq)⟩)
      have h := h.2 hc
      have rb := fun Q9 K9_63 K9_79 z => rb Q9 K9_63 K9_79 (br_f hc z)
      by_cases hc : x4 = (x2 + 1)
      · have h := h.2 hc
        have rb := fun Q9 K9_63 K9_79 z => rb Q9 K9_63 K9_79 (br_u hc z)
        obtain ⟨r3, h, rc⟩ := e14_byteAt ho1 ok h
        have rb := fun Q9 K9_63 K9_79 z => rb Q9 K9_63 K9_79 (rc _ z)
        by_cases hc : r3 = 13
        · have h := h.2 hc
          have rb := fun Q9 K9_63 K9_79 z => rb Q9 K9_63 K9_79 (br_u hc z)
          rcases e14_headBytes_J51 ho1 ok h with ⟨x2, x4, h, rc⟩ | ⟨x4, h, rc⟩
          · rcases ih h with ⟨x4, h, rd⟩ | ⟨h, rd⟩
            · exact (Or.inl ⟨x4, h, fun Q9 K9_63 K9_79 hq => rb Q9 K9_63 K9_79 (rc _ _ _ (rd Q9 K9_63 K9_79 hq))⟩)
            · exact (Or.inr ⟨h, fun Q9 K9_63 K9_79 hq => rb Q9 K9_63 K9_79 (rc _ _ _ (rd Q9 K9_63 K9_79 hq))⟩)
          · exact (Or.inl ⟨x4, h, fun Q9 K9_63 K9_79 hq => rb Q9 K9_63 K9_79 (rc _ _ _ hq)⟩)
        have h := h.1 hc
        have rb := fun Q9 K9_63 K9_79 z => rb Q9 K9_63 K9_79 (br_v hc z)
        rcases e14_headBytes_J55 ho1 ok h with ⟨x2, x4, h, rc⟩ | ⟨x4, h, rc⟩
        · rcases ih h with ⟨x4, h, rd⟩ | ⟨h, rd⟩
          · exact (Or.inl ⟨x4, h, fun Q9 K9_63 K9_79 hq => rb Q9 K9_63 K9_79 (rc _ _ _ (rd Q9 K9_63 K9_79 hq))⟩)
          · exact (Or.inr ⟨h, fun Q9 K9_63 K9_79 hq => rb Q9 K9_63 K9_79 (rc _ _ _ (rd Q9 K9_63 K9_79 hq))⟩)
        · exact (Or.inl ⟨x4, h, fun Q9 K9_63 K9_79 hq => rb Q9 K9_63 K9_79 (rc _ _ _ hq)⟩)
      have h := h.1 hc
      have rb := fun Q9 K9_63 K9_79 z => rb Q9 K9_63 K9_79 (br_v hc z)
      rcases e14_headBytes_J55 ho1 ok h with ⟨x2, x4, h, rc⟩ | ⟨x4, h, rc⟩
      · rcases ih h with ⟨x4, h, rd⟩ | ⟨h, rd⟩
        · exact (Or.inl ⟨x4, h, fun Q9 K9_63 K9_79 hq => rb Q9 K9_63 K9_79 (rc _ _ _ (rd Q9 K9_63 K9_79 hq))⟩)
        · exact (Or.inr ⟨h, fun Q9 K9_63 K9_79 hq => rb Q9 K9_63 K9_79 (rc _ _ _ (rd Q9 K9_63 K9_79 hq))⟩)
      · exact (Or.inl ⟨x4, h, fun Q9 K9_63 K9_79 hq => rb Q9 K9_63 K9_79 (rc _ _ _ hq)⟩)
    have h := h.1 hc
    have rb := fun Q9 K9_63 K9_79 z => rb Q9 K9_63 K9_79 (br_v hc z)
    rcases ih h with ⟨x4, h, rc⟩ | ⟨h, rc⟩
    · exact (Or.inl ⟨x4, h, fun Q9 K9_63 K9_79 hq => rb Q9 K9_63 K9_79 (rc Q9 K9_63 K9_79 hq)⟩)
    · exact (Or.inr ⟨h, fun Q9 K9_63 K9_79 hq => rb Q9 K9_63 K9_79 (rc Q9 K9_63 K9_79 hq)⟩)
set_option maxHeartbeats 4000000 in
theorem e14_headBytes {σ : St} {o1 : Nat} {Q : Int32 → Prop} (ho1 : o1 < 16) (ok : okS σ) (h : w14_headBytes σ o1 Q) : (∃ r : Int32, Q r ∧ ∀ (Q9 : Int32 → Prop), Q9 r → w14_headBytes σ o1 Q9) := by
  have rb : ∀ (Q9 : Int32 → Prop), w14_headBytes σ o1 Q9 → w14_headBytes σ o1 Q9 := fun _ z => z
  obtain ⟨r1, h, rc⟩ := e15_held ho1 ok h
  have rb := fun Q9 z => rb Q9 (rc _ z)
  obtain ⟨n9, h⟩ := h
  rcases e14_headBytes_L10 ho1 ok n9 h with ⟨x4_5, h, rc⟩ | ⟨h, rc⟩
  · have rb := fun Q9 z => rb Q9 (Exists.intro n9 (rc _ _ _ z))
    exact ⟨(x4_5 + 1), h, fun Q9 hq => rb Q9 hq⟩
  · have rb := fun Q9 z => rb Q9 (Exists.intro n9 (rc _ _ _ z))
    exact ⟨0, h, fun Q9 hq => rb Q9 hq⟩
/-! WebHostModel.isAcceptable(LWebHostModel$Connection;)Z -/
set_option maxHeartbeats 4000000 in
theorem e14_isAcceptable {σ : St} {o1 : Nat} {Q : Int32 → Prop} (ho1 : o1 < 16) (ok : okS σ) (h : w14_isAcceptable σ o1 Q) : (∃ r : Int32, Q r ∧ ∀ (Q9 : Int32 → Prop), Q9 r → w14_isAcceptable σ o1 Q9) := by
  have rb : ∀ (Q9 : Int32 → Prop), w14_isAcceptable σ o1 Q9 → w14_isAcceptable σ o1 Q9 := fun _ z => z
  obtain ⟨r1, h, rc⟩ := e15_open ho1 ok h
  have rb := fun Q9 z => rb Q9 (rc _ z)
  obtain ⟨r2, h, rc⟩ := e14_extent ok h
  have rb := fun Q9 z => rb Q9 (rc _ z)
  by_cases hc : r1 = 0
  · have h := h.2 hc
    have rb := fun Q9 z => rb Q9 (br_u hc z)
    by_cases hc : r2 = 0
    · have h := h.2 hc
      have rb := fun Q9 z => rb Q9 (br_u hc z)
      by_cases hc : (σ 14 0 34) = (σ 15 o1 36)
      · have h := h.2 hc
        have rb := fun Q9 z => rb Q9 (br_u hc z)
        exact ⟨1, h, fun Q9 hq => rb Q9 hq⟩
      have h := h.1 hc
      have rb := fun Q9 z => rb Q9 (br_v hc z)
      exact ⟨0, h, fun Q9 hq => rb Q9 hq⟩
    have h := h.1 hc
    have rb := fun Q9 z => rb Q9 (br_v hc z)
    exact ⟨0, h, fun Q9 hq => rb Q9 hq⟩
  have h := h.1 hc
  have rb := fun Q9 z => rb Q9 (br_v hc z)
  obtain ⟨r3, h, rc⟩ := e14_lies ho1 ok h
  have rb := fun Q9 z => rb Q9 (rc _ z)
  by_cases hc : r3 = 0
  · have h := h.2 hc
    have rb := fun Q9 z => rb Q9 (br_u hc z)
    by_cases hc : r2 ≤ 0
    · have h := h.1 hc
      have rb := fun Q9 z => rb Q9 (br_t hc z)
      exact ⟨0, h, fun Q9 hq => rb Q9 hq⟩
    have h := h.2 hc
    have rb := fun Q9 z => rb Q9 (br_f hc z)
    obtain ⟨r4, h, rc⟩ := e14_lies ho1 ok h
    have rb := fun Q9 z => rb Q9 (rc _ z)
    by_cases hc : r4 = 0
    · have h := h.1 hc
      have rb := fun Q9 z => rb Q9 (br_t hc z)
      exact ⟨0, h, fun Q9 hq => rb Q9 hq⟩
    have h := h.2 hc
    have rb := fun Q9 z => rb Q9 (br_f hc z)
    exact ⟨1, h, fun Q9 hq => rb Q9 hq⟩
  have h := h.1 hc
  have rb := fun Q9 z => rb Q9 (br_v hc z)
  exact ⟨1, h, fun Q9 hq => rb Q9 hq⟩
/-! WebHostModel.isIdle(LWebHostModel$Connection;)Z -/
set_option maxHeartbeats 4000000 in
theorem e14_isIdle {σ : St} {o0 : Nat} {Q : Int32 → Prop} (ho0 : o0 < 16) (ok : okS σ) (h : w14_isIdle σ o0 Q) : (∃ r : Int32, Q r ∧ ∀ (Q9 : Int32 → Prop), Q9 r → w14_isIdle σ o0 Q9) := by
  have rb : ∀ (Q9 : Int32 → Prop), w14_isIdle σ o0 Q9 → w14_isIdle σ o0 Q9 := fun _ z => z
  by_cases hc : (σ 15 o0 0) = 2
  · have h := h.2 hc
    have rb := fun Q9 z => rb Q9 (br_u hc z)
    have h := h ((ok 15 o0 30).1 (by decide))
    have rb := fun Q9 z => rb Q9 (im_n z)
    by_cases hc : (σ 15 o0 30) = 0
    · have h := h.2 hc
      have rb := fun Q9 z => rb Q9 (br_u hc z)
      by_cases hc : (σ 15 o0 4) = (σ 15 o0 6)
      · have h := h.2 hc
        have rb := fun Q9 z => rb Q9 (br_u hc z)
        obtain ⟨r1, h, rc⟩ := e15_left ho0 ok h
        have rb := fun Q9 z => rb Q9 (rc _ z)
        by_cases hc : r1 = 0
        · have h := h.2 hc
          have rb := fun Q9 z => rb Q9 (br_u hc z)
          exact ⟨1, h, fun Q9 hq => rb Q9 hq⟩
        have h := h.1 hc
        have rb := fun Q9 z => rb Q9 (br_v hc z)
        exact ⟨0, h, fun Q9 hq => rb Q9 hq⟩
      have h := h.1 hc
      have rb := fun Q9 z => rb Q9 (br_v hc z)
      exact ⟨0, h, fun Q9 hq => rb Q9 hq⟩
    have h := h.1 hc
    have rb := fun Q9 z => rb Q9 (br_v hc z)
    exact ⟨0, h, fun Q9 hq => rb Q9 hq⟩
  have h := h.1 hc
  have rb := fun Q9 z => rb Q9 (br_v hc z)
  exact ⟨0, h, fun Q9 hq => rb Q9 hq⟩
/-! WebHostModel.look(II)J -/
set_option maxHeartbeats 4000000 in
theorem e14_look {σ : St} {x1 : Int32} {x2 : Int32} {Q : Int64 → Prop} (ok : okS σ) (h : w14_look σ x1 x2 Q) : (∃ r : Int64, Q r ∧ ∀ (Q9 : Int64 → Prop), Q9 r → w14_look σ x1 x2 Q9) := by
  have rb : ∀ (Q9 : Int64 → Prop), w14_look σ x1 x2 Q9 → w14_look σ x1 x2 Q9 := fun _ z => z
  obtain ⟨r1, h, rc⟩ := e14_state ok h
  have rb := fun Q9 z => rb Q9 (rc _ z)
  by_cases hc : 0 < r1
  · have h := h.1 hc
    have rb := fun Q9 z => rb Q9 (br_t hc z)
    obtain ⟨hc, h⟩ := h
    have rb := fun Q9 z => rb Q9 (And.intro hc z)
    have hq2 := vp_lt hc
    by_cases hc : x2 = 0
    · have h := h.1 hc
      have rb := fun Q9 z => rb Q9 (br_t hc z)
      exact ⟨(((σ 15 x1.toNatClampNeg 1).toInt64) &&& 4294967295), h, fun Q9 hq => rb Q9 hq⟩
    have h := h.2 hc
    have rb := fun Q9 z => rb Q9 (br_f hc z)
    by_cases hc : x2 = 1
    · have h := h.1 hc
      have rb := fun Q9 z => rb Q9 (br_t hc z)
      exact ⟨((σ 15 x1.toNatClampNeg 2).toInt64), h, fun Q9 hq => rb Q9 hq⟩
    have h := h.2 hc
    have rb := fun Q9 z => rb Q9 (br_f hc z)
    by_cases hc : x2 = 2
    · have h := h.1 hc
      have rb := fun Q9 z => rb Q9 (br_t hc z)
      exact ⟨(((σ 15 x1.toNatClampNeg 4).toInt64) &&& 4294967295), h, fun Q9 hq => rb Q9 hq⟩
    have h := h.2 hc
    have rb := fun Q9 z => rb Q9 (br_f hc z)
    by_cases hc : x2 = 3
    · have h := h.1 hc
      have rb := fun Q9 z => rb Q9 (br_t hc z)
      exact ⟨(((σ 15 x1.toNatClampNeg 5).toInt64) &&& 4294967295), h, fun Q9 hq => rb Q9 hq⟩
    have h := h.2 hc
    have rb := fun Q9 z => rb Q9 (br_f hc z)
    by_cases hc : x2 = 4
    · have h := h.1 hc
      have rb := fun Q9 z => rb Q9 (br_t hc z)
      exact ⟨(((σ 15 x1.toNatClampNeg 6).toInt64) &&& 4294967295), h, fun Q9 hq => rb Q9 hq⟩
    have h := h.2 hc
    have rb := fun Q9 z => rb Q9 (br_f hc z)
    by_cases hc : x2 = 5
    · have h := h.1 hc
      have rb := fun Q9 z => rb Q9 (br_t hc z)
      exact ⟨(((σ 15 x1.toNatClampNeg 36).toInt64) &&& 4294967295), h, fun Q9 hq => rb Q9 hq⟩
    have h := h.2 hc
    have rb := fun Q9 z => rb Q9 (br_f hc z)
    by_cases hc : x2 = 6
    · have h := h.1 hc
      have rb := fun Q9 z => rb Q9 (br_t hc z)
      exact ⟨((σ 15 x1.toNatClampNeg 7).toInt64), h, fun Q9 hq => rb Q9 hq⟩
    have h := h.2 hc
    have rb := fun Q9 z => rb Q9 (br_f hc z)
    by_cases hc : x2 = 7
    · have h := h.1 hc
      have rb := fun Q9 z => rb Q9 (br_t hc z)
      exact ⟨((σ 15 x1.toNatClampNeg 11).toInt64), h, fun Q9 hq => rb Q9 hq⟩
    have h := h.2 hc
    have rb := fun Q9 z => rb Q9 (br_f hc z)
    by_cases hc : x2 = 8
    · have h := h.1 hc
      have rb := fun Q9 z => rb Q9 (br_t hc z)
      exact ⟨((σ 15 x1.toNatClampNeg 12).toInt64), h, fun Q9 hq => rb Q9 hq⟩
    have h := h.2 hc
    have rb := fun Q9 z => rb Q9 (br_f hc z)
    by_cases hc : x2 = 9
    · have h := h.1 hc
      have rb := fun Q9 z => rb Q9 (br_t hc z)
      exact ⟨((σ 15 x1.toNatClampNeg 13).toInt64), h, fun Q9 hq => rb Q9 hq⟩
    have h := h.2 hc
    have rb := fun Q9 z => rb Q9 (br_f hc z)
    by_cases hc : x2 = 10
    · have h := h.1 hc
      have rb := fun Q9 z => rb Q9 (br_t hc z)
      exact ⟨((σ 15 x1.toNatClampNeg 10).toInt64), h, fun Q9 hq => rb Q9 hq⟩
    have h := h.2 hc
    have rb := fun Q9 z => rb Q9 (br_f hc z)
    by_cases hc : x2 = 11
    · have h := h.1 hc
      have rb := fun Q9 z => rb Q9 (br_t hc z)
      obtain ⟨r3, h, rc⟩ := e15_held hq2 ok h
      have rb := fun Q9 z => rb Q9 (rc _ z)
      exact ⟨r3.toInt64, h, fun Q9 hq => rb Q9 hq⟩
    have h := h.2 hc
    have rb := fun Q9 z => rb Q9 (br_f hc z)
    by_cases hc : x2 = 12
    · have h := h.1 hc
      have rb := fun Q9 z => rb Q9 (br_t hc z)
      by_cases hc : (σ 15 x1.toNatClampNeg 0) = 1
      · have h := h.2 hc
        have rb := fun Q9 z => rb Q9 (br_u hc z)
        exact ⟨0, h, fun Q9 hq => rb Q9 hq⟩
      have h := h.1 hc
      have rb := fun Q9 z => rb Q9 (br_v hc z)
      obtain ⟨r4, h, rc⟩ := e15_left hq2 ok h
      have rb := fun Q9 z => rb Q9 (rc _ z)
      exact ⟨r4.toInt64, h, fun Q9 hq => rb Q9 hq⟩
    have h := h.2 hc
    have rb := fun Q9 z => rb Q9 (br_f hc z)
    by_cases hc : x2 = 13
    · have h := h.1 hc
      have rb := fun Q9 z => rb Q9 (br_t hc z)
      exact ⟨((σ 15 x1.toNatClampNeg 23).toInt64), h, fun Q9 hq => rb Q9 hq⟩
    have h := h.2 hc
    have rb := fun Q9 z => rb Q9 (br_f hc z)
    by_cases hc : x2 = 14
    · have h := h.1 hc
      have rb := fun Q9 z => rb Q9 (br_t hc z)
      exact ⟨((σ 15 x1.toNatClampNeg 24).toInt64), h, fun Q9 hq => rb Q9 hq⟩
    have h := h.2 hc
    have rb := fun Q9 z => rb Q9 (br_f hc z)
    exact ⟨4294967296, h, fun Q9 hq => rb Q9 hq⟩
  have h := h.2 hc
  have rb := fun Q9 z => rb Q9 (br_f hc z)
  exact ⟨4294967296, h, fun Q9 hq => rb Q9 hq⟩
/-! WebHostModel.pays(LWebHostModel$Connection;)V -/
set_option maxHeartbeats 4000000 in
theorem e14_pays {σ : St} {o1 : Nat} {Q : St → Prop} (ho1 : o1 < 16) (ok : okS σ) (h : w14_pays σ o1 Q) : (∃ (σ' : St), Q σ' ∧ okS σ' ∧ Fr (mF [] [] [] [(15, o1, [37, 39])]) σ σ' ∧ ∀ (Q9 : St → Prop), Q9 σ' → w14_pays σ o1 Q9) := by
  have fr : Fr (mF [] [] [] [(15, o1, [37, 39])]) σ σ := Fr.rf
  have rb : ∀ (Q9 : St → Prop), w14_pays σ o1 Q9 → w14_pays σ o1 Q9 := fun _ z => z
  obtain ⟨σ1, e9⟩ : ∃ s : St, s = up3 σ 15 o1 39 0 := ⟨_, rfl⟩
  have h := h σ1 e9
  have rb := fun Q9 z => rb Q9 (nm_n e9 z)
  have ok : okS σ1 := by rw [e9]; exact (ok_z ok (by decide) (Or.inl rfl))
  have fr : Fr (mF [] [] [] [(15, o1, [37, 39])]) σ σ1 := by rw [e9]; exact (Fr.up fr (mF_D (List.mem_of_getElem? (i := 0) rfl) rfl))
  obtain ⟨r2, h, rc⟩ := e15_open ho1 ok h
  have rb := fun Q9 z => rb Q9 (rc _ z)
  obtain ⟨σ3, e9⟩ : ∃ s : St, s = up3 σ1 15 o1 37 r2 := ⟨_, rfl⟩
  have h := h σ3 e9
  have rb := fun Q9 z => rb Q9 (nm_n e9 z)
  have ok : okS σ3 := by rw [e9]; exact (ok_n ok (by decide))
  have fr : Fr (mF [] [] [] [(15, o1, [37, 39])]) σ σ3 := by rw [e9]; exact (Fr.up fr (mF_D (List.mem_of_getElem? (i := 0) rfl) rfl))
  exact ⟨σ3, h, ok, fr, fun Q9 hq => rb Q9 hq⟩
/-! WebHostModel.remember(III)V -/
set_option maxHeartbeats 4000000 in
theorem e14_remember_J48 {σ : St} {x1 : Int32} {x2 : Int32} {x3 : Int32} {o4 : Nat} {x5 : Int32} {xs0 : Int32} {Q : St → Prop} {K23 : Nat → Int32 → Prop} (ho4 : o4 < 16) (ok : okS σ) (h : w14_remember_J48 σ x1 x2 x3 o4 x5 xs0 Q K23) : (∃ (o4' : Nat) (x5' : Int32), K23 o4' x5' ∧ o4' < 16 ∧ ∀ (Q9 : St → Prop) (K9_23 : Nat → Int32 → Prop), K9_23 o4' x5' → w14_remember_J48 σ x1 x2 x3 o4 x5 xs0 Q9 K9_23) := by
  have fr : Fr (mF [] [] [] []) σ σ := Fr.rf
  have rb : ∀ (Q9 : St → Prop) (K9_23 : Nat → Int32 → Prop), w14_remember_J48 σ x1 x2 x3 o4 x5 xs0 Q9 K9_23 → w14_remember_J48 σ x1 x2 x3 o4 x5 xs0 Q9 K9_23 := fun _ _ z => z
  have h := h ((ok 16 o4 0).1 (by decide))
  have rb := fun Q9 K9_23 z => rb Q9 K9_23 (im_n z)
  by_cases hc : (σ 16 o4 0) = 0
  · have h := h.1 hc
    have rb := fun Q9 K9_23 z => rb Q9 K9_23 (br_t hc z)
    exact ⟨o4, x5 + 1, h, ho4, fun Q9 K9_23 hq => rb Q9 K9_23 hq⟩
  have h := h.2 hc
  have rb := fun Q9 K9_23 z => rb Q9 K9_23 (br_f hc z)
  by_cases hc : xs0 = 0
  · have h := h.2 hc
    have rb := fun Q9 K9_23 z => rb Q9 K9_23 (br_u hc z)
    obtain ⟨hc, h⟩ := h
    have rb := fun Q9 K9_23 z => rb Q9 K9_23 (And.intro hc z)
    have hq6 := vp_lt hc
    by_cases hc : (σ 16 o4 4) ≤ (σ 16 x5.toNatClampNeg 4)
    · have h := h.1 hc
      have rb := fun Q9 K9_23 z => rb Q9 K9_23 (br_t hc z)
      exact ⟨o4, x5 + 1, h, ho4, fun Q9 K9_23 hq => rb Q9 K9_23 hq⟩
    have h := h.2 hc
    have rb := fun Q9 K9_23 z => rb Q9 K9_23 (br_f hc z)
    obtain ⟨hc, h⟩ := h
    have rb := fun Q9 K9_23 z => rb Q9 K9_23 (And.intro hc z)
    have hq7 := vp_lt hc
    exact ⟨x5.toNatClampNeg, x5 + 1, h, hq7, fun Q9 K9_23 hq => rb Q9 K9_23 hq⟩
  have h := h.1 hc
  have rb := fun Q9 K9_23 z => rb Q9 K9_23 (br_v hc z)
  obtain ⟨hc, h⟩ := h
  have rb := fun Q9 K9_23 z => rb Q9 K9_23 (And.intro hc z)
  have hq5 := vp_lt hc
  exact ⟨x5.toNatClampNeg, x5 + 1, h, hq5, fun Q9 K9_23 hq => rb Q9 K9_23 hq⟩
set_option maxHeartbeats 4000000 in
theorem e14_remember_L23 {σ : St} {x1 : Int32} {x2 : Int32} {x3 : Int32} {Q : St → Prop} {K96 : Nat → Prop} (ok : okS σ) :
    ∀ (n : Nat) {o4 : Nat} {x5 : Int32} (ho4 : o4 < 16), w14_remember_L23 σ x1 x2 x3 Q K96 n o4 x5 → (∃ (o4' : Nat), K96 o4' ∧ o4' < 16 ∧ ∀ (Q9 : St → Prop) (K9_96 : Nat → Prop), K9_96 o4' → w14_remember_L23 σ x1 x2 x3 Q9 K9_96 n o4 x5) := by
  intro n
  induction n with
  | zero =>
    intro o4 x5 ho4 h
    exact False.elim h
  | succ n ih =>
    intro o4 x5 ho4 h
    have rb : ∀ (Q9 : St → Prop) (K9_96 : Nat → Prop), w14_remember_L23 σ x1 x2 x3 Q9 K9_96 (n + 1) o4 x5 → w14_remember_L23 σ x1 x2 x3 Q9 K9_96 (n + 1) o4 x5 := fun _ _ z => z
    by_cases hc : 16 ≤ x5
    · have h := h.1 hc
      have rb := fun Q9 K9_96 z => rb Q9 K9_96 (br_t hc z)
      exact ⟨o4, h, ho4, fun Q9 K9_96 hq => rb Q9 K9_96 hq⟩
    have h := h.2 hc
    have rb := fun Q9 K9_96 z => rb Q9 K9_96 (br_f hc z)
    obtain ⟨hc, h⟩ := h
    have rb := fun Q9 K9_96 z => rb Q9 K9_96 (And.intro hc z)
    have hq4 := vp_lt hc
    have h := h ((ok 16 x5.toNatClampNeg 0).1 (by decide))
    have rb := fun Q9 K9_96 z => rb Q9 K9_96 (im_n z)
    by_cases hc : (σ 16 x5.toNatClampNeg 0) = 0
    · have h := h.2 hc
      have rb := fun Q9 K9_96 z => rb Q9 K9_96 (br_u hc z)
      rcases e14_remember_J48 ho4 ok h with ⟨o4, x5, h, ho4, rc⟩
      · rcases ih ho4 h with ⟨o4, h, ho4, rd⟩
        · exact ⟨o4, h, ho4, fun Q9 K9_96 hq => rb Q9 K9_96 (rc _ _ (rd Q9 K9_96 hq))⟩
    have h := h.1 hc
    have rb := fun Q9 K9_96 z => rb Q9 K9_96 (br_v hc z)
    rcases e14_remember_J48 ho4 ok h with ⟨o4, x5, h, ho4, rc⟩
    · rcases ih ho4 h with ⟨o4, h, ho4, rd⟩
      · exact ⟨o4, h, ho4, fun Q9 K9_96 hq => rb Q9 K9_96 (rc _ _ (rd Q9 K9_96 hq))⟩
set_option maxHeartbeats 4000000 in
theorem e14_remember_L151 {x2 : Int32} {x3 : Int32} {o5 : Nat} {Q : St → Prop} {K185 : St → Prop} (ho5 : o5 < 8) :
    ∀ (n : Nat) {σ : St} {x6 : Int32} (ok : okS σ), w14_remember_L151 x2 x3 o5 Q K185 n σ x6 → (∃ (σ' : St), K185 σ' ∧ okS σ' ∧ Fr (mF [57] [] [] []) σ σ' ∧ ∀ (Q9 : St → Prop) (K9_185 : St → Prop), K9_185 σ' → w14_remember_L151 x2 x3 o5 Q9 K9_185 n σ x6) := by
  intro n
  induction n with
  | zero =>
    intro σ x6 ok h
    exact False.elim h
  | succ n ih =>
    intro σ x6 ok h
    have fr : Fr (mF [57] [] [] []) σ σ := Fr.rf
    have rb : ∀ (Q9 : St → Prop) (K9_185 : St → Prop), w14_remember_L151 x2 x3 o5 Q9 K9_185 (n + 1) σ x6 → w14_remember_L151 x2 x3 o5 Q9 K9_185 (n + 1) σ x6 := fun _ _ z => z
    by_cases hc : (σ 17 o5 2) ≤ x6
    · have h := h.1 hc
      have rb := fun Q9 K9_185 z => rb Q9 K9_185 (br_t hc z)
      exact ⟨σ, h, ok, fr, fun Q9 K9_185 hq => rb Q9 K9_185 hq⟩
    have h := h.2 hc
    have rb := fun Q9 K9_185 z => rb Q9 K9_185 (br_f hc z)
    obtain ⟨hc, h⟩ := h
    have rb := fun Q9 K9_185 z => rb Q9 K9_185 (And.intro hc z)
    have h := h ((ok 68 o5 _).2 (tyk_a 68 2 (by decide) (by decide) _))
    have rb := fun Q9 K9_185 z => rb Q9 K9_185 (im_n z)
    obtain ⟨hc, h⟩ := h
    have rb := fun Q9 K9_185 z => rb Q9 K9_185 (And.intro hc z)
    obtain ⟨σ18, e9⟩ : ∃ s : St, s = up3 σ 57 0 (14 + x6).toNatClampNeg (σ 68 o5 x6.toNatClampNeg).toInt8.toInt32 := ⟨_, rfl⟩
    have h := h σ18 e9
    have rb := fun Q9 K9_185 z => rb Q9 K9_185 (nm_n e9 z)
    have ok : okS σ18 := by rw [e9]; exact (ok_b ok (tyk_a 57 2 (by decide) (by decide) _))
    have fr : Fr (mF [57] [] [] []) σ σ18 := by rw [e9]; exact (Fr.up fr (mF_A rfl))
    rcases ih ok h with ⟨σ', h, ok, fr9, rc⟩
    · exact ⟨σ', h, ok, fr.tr fr9, fun Q9 K9_185 hq => rb Q9 K9_185 (rc Q9 K9_185 hq)⟩
set_option maxHeartbeats 4000000 in
theorem e14_remember_J96 {σ : St} {x1 : Int32} {x2 : Int32} {x3 : Int32} {o4 : Nat} {Q : St → Prop} (ho4 : o4 < 16) (ok : okS σ) (h : w14_remember_J96 σ x1 x2 x3 o4 Q) : (∃ (σ' : St), Q σ' ∧ okS σ' ∧ Fr (mF [57, 58, 59, 60] [] [(14, [18, 23]), (17, [0])] [(16, o4, [0, 1, 2, 3, 4])]) σ σ' ∧ ∀ (Q9 : St → Prop), Q9 σ' → w14_remember_J96 σ x1 x2 x3 o4 Q9) := by
  have fr : Fr (mF [57, 58, 59, 60] [] [(14, [18, 23]), (17, [0])] [(16, o4, [0, 1, 2, 3, 4])]) σ σ := Fr.rf
  have rb : ∀ (Q9 : St → Prop), w14_remember_J96 σ x1 x2 x3 o4 Q9 → w14_remember_J96 σ x1 x2 x3 o4 Q9 := fun _ z => z
  obtain ⟨σ10, e9⟩ : ∃ s : St, s = up3 σ 16 o4 0 1 := ⟨_, rfl⟩
  have h := h σ10 e9
  have rb := fun Q9 z => rb Q9 (nm_n e9 z)
  have ok : okS σ10 := by rw [e9]; exact (ok_z ok (by decide) (Or.inr rfl))
  have fr : Fr (mF [57, 58, 59, 60] [] [(14, [18, 23]), (17, [0])] [(16, o4, [0, 1, 2, 3, 4])]) σ σ10 := by rw [e9]; exact (Fr.up fr (mF_D (List.mem_of_getElem? (i := 0) rfl) rfl))
  obtain ⟨σ11, e9⟩ : ∃ s : St, s = up3 σ10 16 o4 1 x1 := ⟨_, rfl⟩
  have h := h σ11 e9
  have rb := fun Q9 z => rb Q9 (nm_n e9 z)
  have ok : okS σ11 := by rw [e9]; exact (ok_n ok (by decide))
  have fr : Fr (mF [57, 58, 59, 60] [] [(14, [18, 23]), (17, [0])] [(16, o4, [0, 1, 2, 3, 4])]) σ σ11 := by rw [e9]; exact (Fr.up fr (mF_D (List.mem_of_getElem? (i := 0) rfl) rfl))
  obtain ⟨σ12, e9⟩ : ∃ s : St, s = up3 σ11 16 o4 2 x2 := ⟨_, rfl⟩
  have h := h σ12 e9
  have rb := fun Q9 z => rb Q9 (nm_n e9 z)
  have ok : okS σ12 := by rw [e9]; exact (ok_n ok (by decide))
  have fr : Fr (mF [57, 58, 59, 60] [] [(14, [18, 23]), (17, [0])] [(16, o4, [0, 1, 2, 3, 4])]) σ σ12 := by rw [e9]; exact (Fr.up fr (mF_D (List.mem_of_getElem? (i := 0) rfl) rfl))
  obtain ⟨σ13, e9⟩ : ∃ s : St, s = up3 σ12 16 o4 3 x3 := ⟨_, rfl⟩
  have h := h σ13 e9
  have rb := fun Q9 z => rb Q9 (nm_n e9 z)
  have ok : okS σ13 := by rw [e9]; exact (ok_n ok (by decide))
  have fr : Fr (mF [57, 58, 59, 60] [] [(14, [18, 23]), (17, [0])] [(16, o4, [0, 1, 2, 3, 4])]) σ σ13 := by rw [e9]; exact (Fr.up fr (mF_D (List.mem_of_getElem? (i := 0) rfl) rfl))
  obtain ⟨σ14, e9⟩ : ∃ s : St, s = up3 σ13 16 o4 4 (σ13 14 0 10) := ⟨_, rfl⟩
  have h := h σ14 e9
  have rb := fun Q9 z => rb Q9 (nm_n e9 z)
  have ok : okS σ14 := by rw [e9]; exact (ok_n ok (by decide))
  have fr : Fr (mF [57, 58, 59, 60] [] [(14, [18, 23]), (17, [0])] [(16, o4, [0, 1, 2, 3, 4])]) σ σ14 := by rw [e9]; exact (Fr.up fr (mF_D (List.mem_of_getElem? (i := 0) rfl) rfl))
  obtain ⟨p15, h, rc⟩ := e14_packet ok h
  have rb := fun Q9 z => rb Q9 (rc _ z)
  rcases opt_or p15 with hp | ⟨i16, hp⟩
  · have h := h.1 hp
    have rb := fun Q9 z => rb Q9 (po_n hp z)
    exact ⟨σ14, h, ok, fr, fun Q9 hq => rb Q9 hq⟩
  obtain ⟨hq16, h⟩ := h.2 i16 hp
  have rb := fun Q9 z => rb Q9 (po_s hp (And.intro hq16 z))
  obtain ⟨σ17, e9⟩ : ∃ s : St, s = up3 σ14 17 i16 0 0 := ⟨_, rfl⟩
  have h := h σ17 e9
  have rb := fun Q9 z => rb Q9 (nm_n e9 z)
  have ok : okS σ17 := by rw [e9]; exact (ok_z ok (by decide) (Or.inl rfl))
  have fr : Fr (mF [57, 58, 59, 60] [] [(14, [18, 23]), (17, [0])] [(16, o4, [0, 1, 2, 3, 4])]) σ σ17 := by rw [e9]; exact (Fr.up fr (mF_C (List.mem_of_getElem? (i := 1) rfl) rfl))
  obtain ⟨n9, h⟩ := h
  rcases e14_remember_L151 hq16 n9 ok h with ⟨σ20, h, ok, fr9, rc⟩
  · have rb := fun Q9 z => rb Q9 (Exists.intro n9 (rc _ _ z))
    have fr := fr.tr (fr9.sub (mF_sub rfl sub_nil rfl sud_nil))
    obtain ⟨σ21, h, ok, fr9, rc⟩ := e14_send ok h
    have fr := fr.tr (fr9.sub (mF_sub rfl sub_nil rfl sud_nil))
    have rb := fun Q9 z => rb Q9 (rc _ z)
    exact ⟨σ21, h, ok, fr, fun Q9 hq => rb Q9 hq⟩
set_option maxHeartbeats 4000000 in
theorem e14_remember {σ : St} {x1 : Int32} {x2 : Int32} {x3 : Int32} {Q : St → Prop} (ok : okS σ) (h : w14_remember σ x1 x2 x3 Q) : (∃ (σ' : St), Q σ' ∧ okS σ' ∧ Fr (mF [57, 58, 59, 60] [] [(14, [18, 23]), (16, [0, 1, 2, 3, 4]), (17, [0])] []) σ σ' ∧ ∀ (Q9 : St → Prop), Q9 σ' → w14_remember σ x1 x2 x3 Q9) := by
  have fr : Fr (mF [57, 58, 59, 60] [] [(14, [18, 23]), (16, [0, 1, 2, 3, 4]), (17, [0])] []) σ σ := Fr.rf
  have rb : ∀ (Q9 : St → Prop), w14_remember σ x1 x2 x3 Q9 → w14_remember σ x1 x2 x3 Q9 := fun _ z => z
  obtain ⟨p1, h, rc⟩ := e14_entry ok h
  have rb := fun Q9 z => rb Q9 (rc _ z)
  rcases opt_or p1 with hp | ⟨i2, hp⟩
  · have h := h.1 hp
    have rb := fun Q9 z => rb Q9 (po_n hp z)
    obtain ⟨hc, h⟩ := h
    have rb := fun Q9 z => rb Q9 (And.intro hc z)
    have hq3 := vp_lt hc
    obtain ⟨n9, h⟩ := h
    rcases e14_remember_L23 ok n9 hq3 h with ⟨o4_9, h, ho4_9, rc⟩
    · have rb := fun Q9 z => rb Q9 (Exists.intro n9 (rc _ _ z))
      obtain ⟨σ9, h, ok, fr9, rc⟩ := e14_remember_J96 ho4_9 ok h
      exact ⟨σ9, h, ok, fr.tr (fr9.sub (mF_sub rfl sub_nil rfl (sud_c (Or.inl ⟨_, List.mem_of_getElem? (i := 1) rfl, rfl⟩) sud_nil))), fun Q9 hq => rb Q9 (rc Q9 hq)⟩
  obtain ⟨hq2, h⟩ := h.2 i2 hp
  have rb := fun Q9 z => rb Q9 (po_s hp (And.intro hq2 z))
  obtain ⟨σ9, h, ok, fr9, rc⟩ := e14_remember_J96 hq2 ok h
  exact ⟨σ9, h, ok, fr.tr (fr9.sub (mF_sub rfl sub_nil rfl (sud_c (Or.inl ⟨_, List.mem_of_getElem? (i := 1) rfl, rfl⟩) sud_nil))), fun Q9 hq => rb Q9 (rc Q9 hq)⟩
/-! WebHostModel.take(LWebHostModel$Connection;I)V -/
set_option maxHeartbeats 4000000 in
theorem e14_take_J51 {σ : St} {o1 : Nat} {x2 : Int32} {x3 : Int32} {x4 : Int32} {xs0 : Int32} {xs1 : Int32} {os2 : Nat} {Q : St → Prop} {K2 : St → Int32 → Prop} (ho1 : o1 < 16) (hos2 : os2 < 16) (ok : okS σ) (h : w14_take_J51 σ o1 x2 x3 x4 xs0 xs1 os2 Q K2) : (∃ (σ' : St) (x3' : Int32), K2 σ' x3' ∧ okS σ' ∧ Fr (mF [] [(72, o1), (73, os2)] [] []) σ σ' ∧ ∀ (Q9 : St → Prop) (K9_2 : St → Int32 → Prop), K9_2 σ' x3' → w14_take_J51 σ o1 x2 x3 x4 xs0 xs1 os2 Q9 K9_2) := by
  have fr : Fr (mF [] [(72, o1), (73, os2)] [] []) σ σ := Fr.rf
  have rb : ∀ (Q9 : St → Prop) (K9_2 : St → Int32 → Prop), w14_take_J51 σ o1 x2 x3 x4 xs0 xs1 os2 Q9 K9_2 → w14_take_J51 σ o1 x2 x3 x4 xs0 xs1 os2 Q9 K9_2 := fun _ _ z => z
  obtain ⟨hc, h⟩ := h
  have rb := fun Q9 K9_2 z => rb Q9 K9_2 (And.intro hc z)
  obtain ⟨hbo, h⟩ := h
  have rb := fun Q9 K9_2 z => rb Q9 K9_2 (And.intro hbo z)
  obtain ⟨σ1, e9⟩ : ∃ s : St, s = up3 σ 73 os2 xs1.toNatClampNeg xs0 := ⟨_, rfl⟩
  have h := h σ1 e9
  have rb := fun Q9 K9_2 z => rb Q9 K9_2 (nm_n e9 z)
  have ok : okS σ1 := by rw [e9]; exact (ok_z ok (tyk_a 73 1 (by decide) (by decide) _) hbo)
  have fr : Fr (mF [] [(72, o1), (73, os2)] [] []) σ σ1 := by rw [e9]; exact (Fr.up fr (mF_B (List.mem_of_getElem? (i := 1) rfl)))
  by_cases hc : x4 = 0
  · have h := h.1 hc
    have rb := fun Q9 K9_2 z => rb Q9 K9_2 (br_t hc z)
    exact ⟨σ1, x3 + 1, h, ok, fr, fun Q9 K9_2 hq => rb Q9 K9_2 hq⟩
  have h := h.2 hc
  have rb := fun Q9 K9_2 z => rb Q9 K9_2 (br_f hc z)
  obtain ⟨hc, h⟩ := h
  have rb := fun Q9 K9_2 z => rb Q9 K9_2 (And.intro hc z)
  have h := h ((ok 72 o1 _).2 (tyk_a 72 2 (by decide) (by decide) _))
  have rb := fun Q9 K9_2 z => rb Q9 K9_2 (im_n z)
  obtain ⟨hc, h⟩ := h
  have rb := fun Q9 K9_2 z => rb Q9 K9_2 (And.intro hc z)
  obtain ⟨σ2, e9⟩ : ∃ s : St, s = up3 σ1 72 o1 x3.toNatClampNeg (σ1 72 o1 (x3 + x2).toNatClampNeg).toInt8.toInt32 := ⟨_, rfl⟩
  have h := h σ2 e9
  have rb := fun Q9 K9_2 z => rb Q9 K9_2 (nm_n e9 z)
  have ok : okS σ2 := by rw [e9]; exact (ok_b ok (tyk_a 72 2 (by decide) (by decide) _))
  have fr : Fr (mF [] [(72, o1), (73, os2)] [] []) σ σ2 := by rw [e9]; exact (Fr.up fr (mF_B (List.mem_of_getElem? (i := 0) rfl)))
  exact ⟨σ2, x3 + 1, h, ok, fr, fun Q9 K9_2 hq => rb Q9 K9_2 hq⟩
set_option maxHeartbeats 4000000 in
theorem e14_take_J23 {σ : St} {o1 : Nat} {x2 : Int32} {x3 : Int32} {xs0 : Int32} {Q : St → Prop} {K2 : St → Int32 → Prop} (ho1 : o1 < 16) (ok : okS σ) (h : w14_take_J23 σ o1 x2 x3 xs0 Q K2) : (∃ (σ' : St) (x3' : Int32), K2 σ' x3' ∧ okS σ' ∧ Fr (mF [] [(72, o1), (73, o1)] [] []) σ σ' ∧ ∀ (Q9 : St → Prop) (K9_2 : St → Int32 → Prop), K9_2 σ' x3' → w14_take_J23 σ o1 x2 x3 xs0 Q9 K9_2) := by
  have fr : Fr (mF [] [(72, o1), (73, o1)] [] []) σ σ := Fr.rf
  have rb : ∀ (Q9 : St → Prop) (K9_2 : St → Int32 → Prop), w14_take_J23 σ o1 x2 x3 xs0 Q9 K9_2 → w14_take_J23 σ o1 x2 x3 xs0 Q9 K9_2 := fun _ _ z => z
  by_cases hc : xs0 = 0
  · have h := h.1 hc
    have rb := fun Q9 K9_2 z => rb Q9 K9_2 (br_t hc z)
    rcases e14_take_J51 ho1 ho1 ok h with ⟨σ', x3, h, ok, fr9, rc⟩
    · have fr := fr.tr (fr9.sub (mF_sub rfl (sub_c (Or.inr (List.mem_of_getElem? (i := 0) rfl)) (sub_c (Or.inr (List.mem_of_getElem? (i := 1) rfl)) sub_nil)) rfl sud_nil))
      exact ⟨σ', x3, h, ok, fr, fun Q9 K9_2 hq => rb Q9 K9_2 (rc _ _ hq)⟩
  have h := h.2 hc
  have rb := fun Q9 K9_2 z => rb Q9 K9_2 (br_f hc z)
  obtain ⟨hc, h⟩ := h
  have rb := fun Q9 K9_2 z => rb Q9 K9_2 (And.intro hc z)
  have h := h ((ok 73 o1 _).1 (tyk_a 73 1 (by decide) (by decide) _))
  have rb := fun Q9 K9_2 z => rb Q9 K9_2 (im_n z)
  by_cases hc : (σ 73 o1 (x3 + x2).toNatClampNeg) = 0
  · have h := h.1 hc
    have rb := fun Q9 K9_2 z => rb Q9 K9_2 (br_t hc z)
    rcases e14_take_J51 ho1 ho1 ok h with ⟨σ', x3, h, ok, fr9, rc⟩
    · have fr := fr.tr (fr9.sub (mF_sub rfl (sub_c (Or.inr (List.mem_of_getElem? (i := 0) rfl)) (sub_c (Or.inr (List.mem_of_getElem? (i := 1) rfl)) sub_nil)) rfl sud_nil))
      exact ⟨σ', x3, h, ok, fr, fun Q9 K9_2 hq => rb Q9 K9_2 (rc _ _ hq)⟩
  have h := h.2 hc
  have rb := fun Q9 K9_2 z => rb Q9 K9_2 (br_f hc z)
  rcases e14_take_J51 ho1 ho1 ok h with ⟨σ', x3, h, ok, fr9, rc⟩
  · have fr := fr.tr (fr9.sub (mF_sub rfl (sub_c (Or.inr (List.mem_of_getElem? (i := 0) rfl)) (sub_c (Or.inr (List.mem_of_getElem? (i := 1) rfl)) sub_nil)) rfl sud_nil))
    exact ⟨σ', x3, h, ok, fr, fun Q9 K9_2 hq => rb Q9 K9_2 (rc _ _ hq)⟩
set_option maxHeartbeats 4000000 in
theorem e14_take_L2 {o1 : Nat} {x2 : Int32} {Q : St → Prop} {K77 : St → Prop} (ho1 : o1 < 16) :
    ∀ (n : Nat) {σ : St} {x3 : Int32} (ok : okS σ), w14_take_L2 o1 x2 Q K77 n σ x3 → (∃ (σ' : St), K77 σ' ∧ okS σ' ∧ Fr (mF [] [(72, o1), (73, o1)] [] []) σ σ' ∧ ∀ (Q9 : St → Prop) (K9_77 : St → Prop), K9_77 σ' → w14_take_L2 o1 x2 Q9 K9_77 n σ x3) := by
  intro n
  induction n with
  | zero =>
    intro σ x3 ok h
    exact False.elim h
  | succ n ih =>
    intro σ x3 ok h
    have fr : Fr (mF [] [(72, o1), (73, o1)] [] []) σ σ := Fr.rf
    have rb : ∀ (Q9 : St → Prop) (K9_77 : St → Prop), w14_take_L2 o1 x2 Q9 K9_77 (n + 1) σ x3 → w14_take_L2 o1 x2 Q9 K9_77 (n + 1) σ x3 := fun _ _ z => z
    by_cases hc : 4096 ≤ x3
    · have h := h.1 hc
      have rb := fun Q9 K9_77 z => rb Q9 K9_77 (br_t hc z)
      exact ⟨σ, h, ok, fr, fun Q9 K9_77 hq => rb Q9 K9_77 hq⟩
    have h := h.2 hc
    have rb := fun Q9 K9_77 z => rb Q9 K9_77 (br_f hc z)
    by_cases hc : 4096 ≤ (x3 + x2)
    · have h := h.1 hc
      have rb := fun Q9 K9_77 z => rb Q9 K9_77 (br_t hc z)
      rcases e14_take_J23 ho1 ok h with ⟨σ', x3, h, ok, fr9, rc⟩
      · have fr := fr.tr (fr9.sub (mF_sub rfl (sub_c (Or.inr (List.mem_of_getElem? (i := 0) rfl)) (sub_c (Or.inr (List.mem_of_getElem? (i := 1) rfl)) sub_nil)) rfl sud_nil))
        rcases ih ok h with ⟨σ', h, ok, fr9, rd⟩
        · exact ⟨σ', h, ok, fr.tr fr9, fun Q9 K9_77 hq => rb Q9 K9_77 (rc _ _ (rd Q9 K9_77 hq))⟩
    have h := h.2 hc
    have rb := fun Q9 K9_77 z => rb Q9 K9_77 (br_f hc z)
    rcases e14_take_J23 ho1 ok h with ⟨σ', x3, h, ok, fr9, rc⟩
    · have fr := fr.tr (fr9.sub (mF_sub rfl (sub_c (Or.inr (List.mem_of_getElem? (i := 0) rfl)) (sub_c (Or.inr (List.mem_of_getElem? (i := 1) rfl)) sub_nil)) rfl sud_nil))
      rcases ih ok h with ⟨σ', h, ok, fr9, rd⟩
      · exact ⟨σ', h, ok, fr.tr fr9, fun Q9 K9_77 hq => rb Q9 K9_77 (rc _ _ (rd Q9 K9_77 hq))⟩
set_option maxHeartbeats 4000000 in
theorem e14_take {σ : St} {o1 : Nat} {x2 : Int32} {Q : St → Prop} (ho1 : o1 < 16) (ok : okS σ) (h : w14_take σ o1 x2 Q) : (∃ (σ' : St), Q σ' ∧ okS σ' ∧ Fr (mF [] [(72, o1), (73, o1)] [] [(15, o1, [35, 39])]) σ σ' ∧ ∀ (Q9 : St → Prop), Q9 σ' → w14_take σ o1 x2 Q9) := by
  have fr : Fr (mF [] [(72, o1), (73, o1)] [] [(15, o1, [35, 39])]) σ σ := Fr.rf
  have rb : ∀ (Q9 : St → Prop), w14_take σ o1 x2 Q9 → w14_take σ o1 x2 Q9 := fun _ z => z
  obtain ⟨n9, h⟩ := h
  rcases e14_take_L2 ho1 n9 ok h with ⟨σ4, h, ok, fr9, rc⟩
  · have rb := fun Q9 z => rb Q9 (Exists.intro n9 (rc _ _ z))
    have fr := fr.tr (fr9.sub (mF_sub rfl (sub_c (Or.inr (List.mem_of_getElem? (i := 0) rfl)) (sub_c (Or.inr (List.mem_of_getElem? (i := 1) rfl)) sub_nil)) rfl sud_nil))
    obtain ⟨σ5, e9⟩ : ∃ s : St, s = up3 σ4 15 o1 35 ((σ4 15 o1 35) + x2) := ⟨_, rfl⟩
    have h := h σ5 e9
    have rb := fun Q9 z => rb Q9 (nm_n e9 z)
    have ok : okS σ5 := by rw [e9]; exact (ok_n ok (by decide))
    have fr : Fr (mF [] [(72, o1), (73, o1)] [] [(15, o1, [35, 39])]) σ σ5 := by rw [e9]; exact (Fr.up fr (mF_D (List.mem_of_getElem? (i := 0) rfl) rfl))
    obtain ⟨r6, h, rc⟩ := e15_open ho1 ok h
    have rb := fun Q9 z => rb Q9 (rc _ z)
    by_cases hc : (r6 - (σ5 15 o1 37)) < 2048
    · have h := h.1 hc
      have rb := fun Q9 z => rb Q9 (br_t hc z)
      exact ⟨σ5, h, ok, fr, fun Q9 hq => rb Q9 hq⟩
    have h := h.2 hc
    have rb := fun Q9 z => rb Q9 (br_f hc z)
    obtain ⟨σ7, e9⟩ : ∃ s : St, s = up3 σ5 15 o1 39 1 := ⟨_, rfl⟩
    have h := h σ7 e9
    have rb := fun Q9 z => rb Q9 (nm_n e9 z)
    have ok : okS σ7 := by rw [e9]; exact (ok_z ok (by decide) (Or.inr rfl))
    have fr : Fr (mF [] [(72, o1), (73, o1)] [] [(15, o1, [35, 39])]) σ σ7 := by rw [e9]; exact (Fr.up fr (mF_D (List.mem_of_getElem? (i := 0) rfl) rfl))
    exact ⟨σ7, h, ok, fr, fun Q9 hq => rb Q9 hq⟩
/-! WebHost.at(II)I -/
set_option maxHeartbeats 4000000 in
theorem e0_at {σ : St} {x1 : Int32} {x2 : Int32} {Q : Int32 → Prop} (ok : okS σ) (h : w0_at σ x1 x2 Q) : (∃ r : Int32, Q r ∧ ∀ (Q9 : Int32 → Prop), Q9 r → w0_at σ x1 x2 Q9) := by
  have rb : ∀ (Q9 : Int32 → Prop), w0_at σ x1 x2 Q9 → w0_at σ x1 x2 Q9 := fun _ z => z
  obtain ⟨r1, h, rc⟩ := e0_isKept ok h
  have rb := fun Q9 z => rb Q9 (rc _ z)
  by_cases hc : r1 = 0
  · have h := h.1 hc
    have rb := fun Q9 z => rb Q9 (br_t hc z)
    exact ⟨(-1), h, fun Q9 hq => rb Q9 hq⟩
  have h := h.2 hc
  have rb := fun Q9 z => rb Q9 (br_f hc z)
  obtain ⟨r2, h, rc⟩ := e2_at ok h
  have rb := fun Q9 z => rb Q9 (rc _ z)
  exact ⟨r2, h, fun Q9 hq => rb Q9 hq⟩
/-! WebHost.damage(II)Z -/
set_option maxHeartbeats 4000000 in
theorem e0_damage_L20 {σ : St} {x1 : Int32} {x2 : Int32} {Q : Int32 → St → Prop} {K45 : Prop} {K53 : Prop} (ok : okS σ) :
    ∀ (n : Nat) {x3 : Int32}, w0_damage_L20 σ x1 x2 Q K45 K53 n x3 → (K45 ∧ ∀ (Q9 : Int32 → St → Prop) (K9_45 : Prop) (K9_53 : Prop), K9_45 → w0_damage_L20 σ x1 x2 Q9 K9_45 K9_53 n x3) ∨ (K53 ∧ ∀ (Q9 : Int32 → St → Prop) (K9_45 : Prop) (K9_53 : Prop), K9_53 → w0_damage_L20 σ x1 x2 Q9 K9_45 K9_53 n x3) := by
  intro n
  induction n with
  | zero =>
    intro x3 h
    exact False.elim h
  | succ n ih =>
    intro x3 h
    have rb : ∀ (Q9 : Int32 → St → Prop) (K9_45 : Prop) (K9_53 : Prop), w0_damage_L20 σ x1 x2 Q9 K9_45 K9_53 (n + 1) x3 → w0_damage_L20 σ x1 x2 Q9 K9_45 K9_53 (n + 1) x3 := fun _ _ _ z => z
    by_cases hc : 16 ≤ x3
    · have h := h.1 hc
      have rb := fun Q9 K9_45 K9_53 z => rb Q9 K9_45 K9_53 (br_t hc z)
      exact (Or.inr ⟨h, fun Q9 K9_45 K9_53 hq => rb Q9 K9_45 K9_53 hq⟩)
    have h := h.2 hc
    have rb := fun Q9 K9_45 K9_53 z => rb Q9 K9_45 K9_53 (br_f hc z)
    have h := h ((ok 0 0 11).1 (by decide))
    have rb := fun Q9 K9_45 K9_53 z => rb Q9 K9_45 K9_53 (im_n z)
    by_cases hc : (σ 0 0 11) = 0
    · have h := h.1 hc
      have rb := fun Q9 K9_45 K9_53 z => rb Q9 K9_45 K9_53 (br_t hc z)
      rcases ih h with ⟨h, rc⟩ | ⟨h, rc⟩
      · exact (Or.inl ⟨h, fun Q9 K9_45 K9_53 hq => rb Q9 K9_45 K9_53 (rc Q9 K9_45 K9_53 hq)⟩)
      · exact (Or.inr ⟨h, fun Q9 K9_45 K9_53 hq => rb Q9 K9_45 K9_53 (rc Q9 K9_45 K9_53 hq)⟩)
    have h := h.2 hc
    have rb := fun Q9 K9_45 K9_53 z => rb Q9 K9_45 K9_53 (br_f hc z)
    obtain ⟨hc, h⟩ := h
    have rb := fun Q9 K9_45 K9_53 z => rb Q9 K9_45 K9_53 (And.intro hc z)
    have hq1 := vp_lt hc
    obtain ⟨r2, h, rc⟩ := e11_isBusy hq1 ok h
    have rb := fun Q9 K9_45 K9_53 z => rb Q9 K9_45 K9_53 (rc _ z)
    by_cases hc : r2 = 0
    · have h := h.1 hc
      have rb := fun Q9 K9_45 K9_53 z => rb Q9 K9_45 K9_53 (br_t hc z)
      rcases ih h with ⟨h, rc⟩ | ⟨h, rc⟩
      · exact (Or.inl ⟨h, fun Q9 K9_45 K9_53 hq => rb Q9 K9_45 K9_53 (rc Q9 K9_45 K9_53 hq)⟩)
      · exact (Or.inr ⟨h, fun Q9 K9_45 K9_53 hq => rb Q9 K9_45 K9_53 (rc Q9 K9_45 K9_53 hq)⟩)
    have h := h.2 hc
    have rb := fun Q9 K9_45 K9_53 z => rb Q9 K9_45 K9_53 (br_f hc z)
    exact (Or.inl ⟨h, fun Q9 K9_45 K9_53 hq => rb Q9 K9_45 K9_53 hq⟩)
set_option maxHeartbeats 4000000 in
theorem e0_damage {σ : St} {x1 : Int32} {x2 : Int32} {Q : Int32 → St → Prop} (ok : okS σ) (h : w0_damage σ x1 x2 Q) : (∃ (r : Int32) (σ' : St), Q r σ' ∧ okS σ' ∧ Fr (mF [21] [] [] []) σ σ' ∧ ∀ (Q9 : Int32 → St → Prop), Q9 r σ' → w0_damage σ x1 x2 Q9) := by
  have fr : Fr (mF [21] [] [] []) σ σ := Fr.rf
  have rb : ∀ (Q9 : Int32 → St → Prop), w0_damage σ x1 x2 Q9 → w0_damage σ x1 x2 Q9 := fun _ z => z
  by_cases hc : x1 < 0
  · have h := h.1 hc
    have rb := fun Q9 z => rb Q9 (br_t hc z)
    exact ⟨0, σ, h, ok, fr, fun Q9 hq => rb Q9 hq⟩
  have h := h.2 hc
  have rb := fun Q9 z => rb Q9 (br_f hc z)
  by_cases hc : x1 < (nI (σ 90 0 0).toNatClampNeg)
  · have h := h.1 hc
    have rb := fun Q9 z => rb Q9 (br_t hc z)
    obtain ⟨n9, h⟩ := h
    rcases e0_damage_L20 ok n9 h with ⟨h, rc⟩ | ⟨h, rc⟩
    · have rb := fun Q9 z => rb Q9 (Exists.intro n9 (rc _ _ _ z))
      exact ⟨0, σ, h, ok, fr, fun Q9 hq => rb Q9 hq⟩
    · have rb := fun Q9 z => rb Q9 (Exists.intro n9 (rc _ _ _ z))
      obtain ⟨hc, h⟩ := h
      have rb := fun Q9 z => rb Q9 (And.intro hc z)
      obtain ⟨σ6, e9⟩ : ∃ s : St, s = up3 σ 21 0 x1.toNatClampNeg x2.toInt8.toInt32.toInt8.toInt32 := ⟨_, rfl⟩
      have h := h σ6 e9
      have rb := fun Q9 z => rb Q9 (nm_n e9 z)
      have ok : okS σ6 := by rw [e9]; exact (ok_b ok (tyk_a 21 2 (by decide) (by decide) _))
      have fr : Fr (mF [21] [] [] []) σ σ6 := by rw [e9]; exact (Fr.up fr (mF_A rfl))
      exact ⟨1, σ6, h, ok, fr, fun Q9 hq => rb Q9 hq⟩
  have h := h.2 hc
  have rb := fun Q9 z => rb Q9 (br_f hc z)
  exact ⟨0, σ, h, ok, fr, fun Q9 hq => rb Q9 hq⟩
