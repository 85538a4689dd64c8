/-! runs -/
set_option maxRecDepth 100000
/-! WebHostModel.words(II)V -/
set_option maxHeartbeats 4000000 in
theorem e14_words_J58 {σ : St} {x2 : Int32} {x3 : Int32} {x4 : Int32} {Q : St → Prop} {K5 : St → Int32 → Int32 → Prop} (ok : okS σ) (h : w14_words_J58 σ x2 x3 x4 Q K5) : (∃ (σ' : St) (x3' : Int32) (x4' : Int32), K5 σ' x3' x4' ∧ okS σ' ∧ Fr (mF [] [] [(14, [47])] []) σ σ' ∧ ∀ (Q9 : St → Prop) (K9_5 : St → Int32 → Int32 → Prop), K9_5 σ' x3' x4' → w14_words_J58 σ x2 x3 x4 Q9 K9_5) := by
  have fr : Fr (mF [] [] [(14, [47])] []) σ σ := Fr.rf
  have rb : ∀ (Q9 : St → Prop) (K9_5 : St → Int32 → Int32 → Prop), w14_words_J58 σ x2 x3 x4 Q9 K9_5 → w14_words_J58 σ x2 x3 x4 Q9 K9_5 := fun _ _ z => z
  obtain ⟨r2, h, rc⟩ := e14_saysSmall (by decide) ok h
  have rb := fun Q9 K9_5 z => rb Q9 K9_5 (rc _ z)
  by_cases hc : r2 = 0
  · have h := h.1 hc
    have rb := fun Q9 K9_5 z => rb Q9 K9_5 (br_t hc z)
    exact ⟨σ, x4 + 1, x4 + 1, h, ok, fr, fun Q9 K9_5 hq => rb Q9 K9_5 hq⟩
  have h := h.2 hc
  have rb := fun Q9 K9_5 z => rb Q9 K9_5 (br_f hc z)
  obtain ⟨σ3, e9⟩ : ∃ s : St, s = up3 σ 14 0 47 1 := ⟨_, rfl⟩
  have h := h σ3 e9
  have rb := fun Q9 K9_5 z => rb Q9 K9_5 (nm_n e9 z)
  have ok : okS σ3 := by rw [e9]; exact (ok_z ok (by decide) (Or.inr rfl))
  have fr : Fr (mF [] [] [(14, [47])] []) σ σ3 := by rw [e9]; exact (Fr.up fr (mF_C (List.mem_of_getElem? (i := 0) rfl) rfl))
  exact ⟨σ3, x4 + 1, x4 + 1, h, ok, fr, fun Q9 K9_5 hq => rb Q9 K9_5 hq⟩
set_option maxHeartbeats 4000000 in
theorem e14_words_L5 {x2 : Int32} {Q : St → Prop} {K87 : St → Prop} :
    ∀ (n : Nat) {σ : St} {x3 : Int32} {x4 : Int32} (ok : okS σ), w14_words_L5 x2 Q K87 n σ x3 x4 → (∃ (σ' : St), K87 σ' ∧ okS σ' ∧ Fr (mF [] [] [(14, [46, 47])] []) σ σ' ∧ ∀ (Q9 : St → Prop) (K9_87 : St → Prop), K9_87 σ' → w14_words_L5 x2 Q9 K9_87 n σ x3 x4) := by
  intro n
  induction n with
  | zero =>
    intro σ x3 x4 ok h
    exact False.elim h
  | succ n ih =>
    intro σ x3 x4 ok h
    have fr : Fr (mF [] [] [(14, [46, 47])] []) σ σ := Fr.rf
    have rb : ∀ (Q9 : St → Prop) (K9_87 : St → Prop), w14_words_L5 x2 Q9 K9_87 (n + 1) σ x3 x4 → w14_words_L5 x2 Q9 K9_87 (n + 1) σ x3 x4 := fun _ _ z => z
    by_cases hc : x2 < x4
    · have h := h.1 hc
      have rb := fun Q9 K9_87 z => rb Q9 K9_87 (br_t hc z)
      exact ⟨σ, h, ok, fr, fun Q9 K9_87 hq => rb Q9 K9_87 hq⟩
    have h := h.2 hc
    have rb := fun Q9 K9_87 z => rb Q9 K9_87 (br_f hc z)
    by_cases hc : x4 = x2
    · have h := h.1 hc
      have rb := fun Q9 K9_87 z => rb Q9 K9_87 (br_t hc z)
      obtain ⟨r1, h, rc⟩ := e14_saysSmall (by decide) ok h
      have rb := fun Q9 K9_87 z => rb Q9 K9_87 (rc _ z)
      by_cases hc : r1 = 0
      · have h := h.1 hc
        have rb := fun Q9 K9_87 z => rb Q9 K9_87 (br_t hc z)
        rcases e14_words_J58 ok h with ⟨σ', x3, x4, h, ok, fr9, rc⟩
        · have fr := fr.tr (fr9.sub (mF_sub rfl sub_nil rfl sud_nil))
          rcases ih ok h with ⟨σ', h, ok, fr9, rd⟩
          · exact ⟨σ', h, ok, fr.tr fr9, fun Q9 K9_87 hq => rb Q9 K9_87 (rc _ _ (rd Q9 K9_87 hq))⟩
      have h := h.2 hc
      have rb := fun Q9 K9_87 z => rb Q9 K9_87 (br_f hc z)
      obtain ⟨σ4, e9⟩ : ∃ s : St, s = up3 σ 14 0 46 1 := ⟨_, rfl⟩
      have h := h σ4 e9
      have rb := fun Q9 K9_87 z => rb Q9 K9_87 (nm_n e9 z)
      have ok : okS σ4 := by rw [e9]; exact (ok_z ok (by decide) (Or.inr rfl))
      have fr : Fr (mF [] [] [(14, [46, 47])] []) σ σ4 := by rw [e9]; exact (Fr.up fr (mF_C (List.mem_of_getElem? (i := 0) rfl) rfl))
      rcases e14_words_J58 ok h with ⟨σ', x3, x4, h, ok, fr9, rc⟩
      · have fr := fr.tr (fr9.sub (mF_sub rfl sub_nil rfl sud_nil))
        rcases ih ok h with ⟨σ', h, ok, fr9, rd⟩
        · exact ⟨σ', h, ok, fr.tr fr9, fun Q9 K9_87 hq => rb Q9 K9_87 (rc _ _ (rd Q9 K9_87 hq))⟩
    have h := h.2 hc
    have rb := fun Q9 K9_87 z => rb Q9 K9_87 (br_f hc z)
    obtain ⟨r5, h, rc⟩ := e14_headAt ok h
    have rb := fun Q9 K9_87 z => rb Q9 K9_87 (rc _ z)
    by_cases hc : r5 = 44
    · have h := h.1 hc
      have rb := fun Q9 K9_87 z => rb Q9 K9_87 (br_t hc z)
      obtain ⟨r6, h, rc⟩ := e14_saysSmall (by decide) ok h
      have rb := fun Q9 K9_87 z => rb Q9 K9_87 (rc _ z)
      by_cases hc : r6 = 0
      · have h := h.1 hc
        have rb := fun Q9 K9_87 z => rb Q9 K9_87 (br_t hc z)
        rcases e14_words_J58 ok h with ⟨σ', x3, x4, h, ok, fr9, rc⟩
        · have fr := fr.tr (fr9.sub (mF_sub rfl sub_nil rfl sud_nil))
          rcases ih ok h with ⟨σ', h, ok, fr9, rd⟩
          · exact ⟨σ', h, ok, fr.tr fr9, fun Q9 K9_87 hq => rb Q9 K9_87 (rc _ _ (rd Q9 K9_87 hq))⟩
      have h := h.2 hc
      have rb := fun Q9 K9_87 z => rb Q9 K9_87 (br_f hc z)
      obtain ⟨σ7, e9⟩ : ∃ s : St, s = up3 σ 14 0 46 1 := ⟨_, rfl⟩
      have h := h σ7 e9
      have rb := fun Q9 K9_87 z => rb Q9 K9_87 (nm_n e9 z)
      have ok : okS σ7 := by rw [e9]; exact (ok_z ok (by decide) (Or.inr rfl))
      have fr : Fr (mF [] [] [(14, [46, 47])] []) σ σ7 := by rw [e9]; exact (Fr.up fr (mF_C (List.mem_of_getElem? (i := 0) rfl) rfl))
      rcases e14_words_J58 ok h with ⟨σ', x3, x4, h, ok, fr9, rc⟩
      · have fr := fr.tr (fr9.sub (mF_sub rfl sub_nil rfl sud_nil))
        rcases ih ok h with ⟨σ', h, ok, fr9, rd⟩
        · exact ⟨σ', h, ok, fr.tr fr9, fun Q9 K9_87 hq => rb Q9 K9_87 (rc _ _ (rd Q9 K9_87 hq))⟩
    have h := h.2 hc
    have rb := fun Q9 K9_87 z => rb Q9 K9_87 (br_f hc z)
    obtain ⟨r8, h, rc⟩ := e14_headAt ok h
    have rb := fun Q9 K9_87 z => rb Q9 K9_87 (rc _ z)
    obtain ⟨r9, h, rc⟩ := e14_isBlank ok h
    have rb := fun Q9 K9_87 z => rb Q9 K9_87 (rc _ z)
    by_cases hc : r9 = 0
    · have h := h.1 hc
      have rb := fun Q9 K9_87 z => rb Q9 K9_87 (br_t hc z)
      rcases ih ok h with ⟨σ', h, ok, fr9, rc⟩
      · exact ⟨σ', h, ok, fr.tr fr9, fun Q9 K9_87 hq => rb Q9 K9_87 (rc Q9 K9_87 hq)⟩
    have h := h.2 hc
    have rb := fun Q9 K9_87 z => rb Q9 K9_87 (br_f hc z)
    obtain ⟨r10, h, rc⟩ := e14_saysSmall (by decide) ok h
    have rb := fun Q9 K9_87 z => rb Q9 K9_87 (rc _ z)
    by_cases hc : r10 = 0
    · have h := h.1 hc
      have rb := fun Q9 K9_87 z => rb Q9 K9_87 (br_t hc z)
      rcases e14_words_J58 ok h with ⟨σ', x3, x4, h, ok, fr9, rc⟩
      · have fr := fr.tr (fr9.sub (mF_sub rfl sub_nil rfl sud_nil))
        rcases ih ok h with ⟨σ', h, ok, fr9, rd⟩
        · exact ⟨σ', h, ok, fr.tr fr9, fun Q9 K9_87 hq => rb Q9 K9_87 (rc _ _ (rd Q9 K9_87 hq))⟩
    have h := h.2 hc
    have rb := fun Q9 K9_87 z => rb Q9 K9_87 (br_f hc z)
    obtain ⟨σ11, e9⟩ : ∃ s : St, s = up3 σ 14 0 46 1 := ⟨_, rfl⟩
    have h := h σ11 e9
    have rb := fun Q9 K9_87 z => rb Q9 K9_87 (nm_n e9 z)
    have ok : okS σ11 := by rw [e9]; exact (ok_z ok (by decide) (Or.inr rfl))
    have fr : Fr (mF [] [] [(14, [46, 47])] []) σ σ11 := by rw [e9]; exact (Fr.up fr (mF_C (List.mem_of_getElem? (i := 0) rfl) rfl))
    rcases e14_words_J58 ok h with ⟨σ', x3, x4, h, ok, fr9, rc⟩
    · have fr := fr.tr (fr9.sub (mF_sub rfl sub_nil rfl sud_nil))
      rcases ih ok h with ⟨σ', h, ok, fr9, rd⟩
      · exact ⟨σ', h, ok, fr.tr fr9, fun Q9 K9_87 hq => rb Q9 K9_87 (rc _ _ (rd Q9 K9_87 hq))⟩
set_option maxHeartbeats 4000000 in
theorem e14_words {σ : St} {x1 : Int32} {x2 : Int32} {Q : St → Prop} (ok : okS σ) (h : w14_words σ x1 x2 Q) : (∃ (σ' : St), Q σ' ∧ okS σ' ∧ Fr (mF [] [] [(14, [46, 47])] []) σ σ' ∧ ∀ (Q9 : St → Prop), Q9 σ' → w14_words σ x1 x2 Q9) := by
  have fr : Fr (mF [] [] [(14, [46, 47])] []) σ σ := Fr.rf
  have rb : ∀ (Q9 : St → Prop), w14_words σ x1 x2 Q9 → w14_words σ x1 x2 Q9 := fun _ z => z
  obtain ⟨n9, h⟩ := h
  rcases e14_words_L5 n9 ok h with ⟨σ13, h, ok, fr9, rc⟩
  · have rb := fun Q9 z => rb Q9 (Exists.intro n9 (rc _ _ z))
    have fr := fr.tr (fr9.sub (mF_sub rfl sub_nil rfl sud_nil))
    exact ⟨σ13, h, ok, fr, fun Q9 hq => rb Q9 hq⟩
/-! WebHost$Wire.reset(LWebHost$Segment;)V -/
set_option maxHeartbeats 4000000 in
theorem e8_reset {σ : St} {Q : St → Prop} (ok : okS σ) (h : w8_reset σ Q) : (∃ (σ' : St), Q σ' ∧ okS σ' ∧ Fr (mF [23, 25, 26, 32, 35, 36] [] [(2, [3]), (3, [9]), (4, [0, 1, 2, 4]), (5, [2]), (8, [3])] []) σ σ' ∧ ∀ (Q9 : St → Prop), Q9 σ' → w8_reset σ Q9) := by
  have fr : Fr (mF [23, 25, 26, 32, 35, 36] [] [(2, [3]), (3, [9]), (4, [0, 1, 2, 4]), (5, [2]), (8, [3])] []) σ σ := Fr.rf
  have rb : ∀ (Q9 : St → Prop), w8_reset σ Q9 → w8_reset σ Q9 := fun _ z => z
  obtain ⟨σ1, e9⟩ : ∃ s : St, s = up3 σ 8 0 3 ((σ 8 0 3) + 1) := ⟨_, rfl⟩
  have h := h σ1 e9
  have rb := fun Q9 z => rb Q9 (nm_n e9 z)
  have ok : okS σ1 := by rw [e9]; exact (ok_n ok (by decide))
  have fr : Fr (mF [23, 25, 26, 32, 35, 36] [] [(2, [3]), (3, [9]), (4, [0, 1, 2, 4]), (5, [2]), (8, [3])] []) σ σ1 := by rw [e9]; exact (Fr.up fr (mF_C (List.mem_of_getElem? (i := 4) rfl) rfl))
  obtain ⟨r2, h, rc⟩ := e10_has ok h
  have rb := fun Q9 z => rb Q9 (rc _ z)
  by_cases hc : r2 = 0
  · have h := h.1 hc
    have rb := fun Q9 z => rb Q9 (br_t hc z)
    obtain ⟨r3, h, rc⟩ := e10_span ok h
    have rb := fun Q9 z => rb Q9 (rc _ z)
    obtain ⟨σ4, h, ok, fr9, rc⟩ := e8_send ok h
    have fr := fr.tr (fr9.sub (mF_sub rfl sub_nil rfl sud_nil))
    have rb := fun Q9 z => rb Q9 (rc _ z)
    exact ⟨σ4, h, ok, fr, fun Q9 hq => rb Q9 hq⟩
  have h := h.2 hc
  have rb := fun Q9 z => rb Q9 (br_f hc z)
  obtain ⟨σ5, h, ok, fr9, rc⟩ := e8_send ok h
  have fr := fr.tr (fr9.sub (mF_sub rfl sub_nil rfl sud_nil))
  have rb := fun Q9 z => rb Q9 (rc _ z)
  exact ⟨σ5, h, ok, fr, fun Q9 hq => rb Q9 hq⟩
/-! WebHost$Requests.begin(LWebHost$Answer;ILjava/lang/String;)V -/
set_option maxHeartbeats 4000000 in
theorem e9_begin {σ : St} {o1 : Nat} {x2 : Int32} {t3 : Nat} {Q : St → Prop} (ho1 : o1 < 16) (ht3 : t3 < nS) (ok : okS σ) (h : w9_begin σ o1 x2 t3 Q) : (∃ (σ' : St), Q σ' ∧ okS σ' ∧ Fr (mF [] [(44, o1), (90, (o1 + 1))] [] [(13, o1, [1])]) σ σ' ∧ ∀ (Q9 : St → Prop), Q9 σ' → w9_begin σ o1 x2 t3 Q9) := by
  have fr : Fr (mF [] [(44, o1), (90, (o1 + 1))] [] [(13, o1, [1])]) σ σ := Fr.rf
  have rb : ∀ (Q9 : St → Prop), w9_begin σ o1 x2 t3 Q9 → w9_begin σ o1 x2 t3 Q9 := fun _ z => z
  obtain ⟨σ1, h, ok, fr9, rc⟩ := e13_clear ho1 ok h
  have fr := fr.tr (fr9.sub (mF_sub rfl (sub_c (Or.inr (List.mem_of_getElem? (i := 0) rfl)) (sub_c (Or.inr (List.mem_of_getElem? (i := 1) rfl)) sub_nil)) rfl (sud_c (Or.inr ⟨_, List.mem_of_getElem? (i := 0) rfl, rfl⟩) sud_nil)))
  have rb := fun Q9 z => rb Q9 (rc _ z)
  obtain ⟨σ2, h, ok, fr9, rc⟩ := e13_say ho1 (by decide) ok h
  have fr := fr.tr (fr9.sub (mF_sub rfl (sub_c (Or.inr (List.mem_of_getElem? (i := 0) rfl)) sub_nil) rfl (sud_c (Or.inr ⟨_, List.mem_of_getElem? (i := 0) rfl, rfl⟩) sud_nil)))
  have rb := fun Q9 z => rb Q9 (rc _ z)
  obtain ⟨σ3, h, ok, fr9, rc⟩ := e13_number ho1 ok h
  have fr := fr.tr (fr9.sub (mF_sub rfl (sub_c (Or.inr (List.mem_of_getElem? (i := 0) rfl)) sub_nil) rfl (sud_c (Or.inr ⟨_, List.mem_of_getElem? (i := 0) rfl, rfl⟩) sud_nil)))
  have rb := fun Q9 z => rb Q9 (rc _ z)
  obtain ⟨σ4, h, ok, fr9, rc⟩ := e13_put ho1 ok h
  have fr := fr.tr (fr9.sub (mF_sub rfl (sub_c (Or.inr (List.mem_of_getElem? (i := 0) rfl)) sub_nil) rfl (sud_c (Or.inr ⟨_, List.mem_of_getElem? (i := 0) rfl, rfl⟩) sud_nil)))
  have rb := fun Q9 z => rb Q9 (rc _ z)
  obtain ⟨σ5, h, ok, fr9, rc⟩ := e13_line ho1 ht3 ok h
  have fr := fr.tr (fr9.sub (mF_sub rfl (sub_c (Or.inr (List.mem_of_getElem? (i := 0) rfl)) sub_nil) rfl (sud_c (Or.inr ⟨_, List.mem_of_getElem? (i := 0) rfl, rfl⟩) sud_nil)))
  have rb := fun Q9 z => rb Q9 (rc _ z)
  exact ⟨σ5, h, ok, fr, fun Q9 hq => rb Q9 hq⟩
/-! WebHost$Requests.finish(LWebHost$Answer;Z)V -/
set_option maxHeartbeats 4000000 in
theorem e9_finish {σ : St} {o1 : Nat} {x2 : Int32} {Q : St → Prop} (ho1 : o1 < 16) (ok : okS σ) (h : w9_finish σ o1 x2 Q) : (∃ (σ' : St), Q σ' ∧ okS σ' ∧ Fr (mF [] [(44, o1)] [] [(13, o1, [1])]) σ σ' ∧ ∀ (Q9 : St → Prop), Q9 σ' → w9_finish σ o1 x2 Q9) := by
  have fr : Fr (mF [] [(44, o1)] [] [(13, o1, [1])]) σ σ := Fr.rf
  have rb : ∀ (Q9 : St → Prop), w9_finish σ o1 x2 Q9 → w9_finish σ o1 x2 Q9 := fun _ z => z
  by_cases hc : x2 = 0
  · have h := h.1 hc
    have rb := fun Q9 z => rb Q9 (br_t hc z)
    obtain ⟨σ1, h, ok, fr9, rc⟩ := e13_line ho1 (by decide) ok h
    have fr := fr.tr (fr9.sub (mF_sub rfl (sub_c (Or.inr (List.mem_of_getElem? (i := 0) rfl)) sub_nil) rfl (sud_c (Or.inr ⟨_, List.mem_of_getElem? (i := 0) rfl, rfl⟩) sud_nil)))
    have rb := fun Q9 z => rb Q9 (rc _ z)
    exact ⟨σ1, h, ok, fr, fun Q9 hq => rb Q9 hq⟩
  have h := h.2 hc
  have rb := fun Q9 z => rb Q9 (br_f hc z)
  obtain ⟨σ2, h, ok, fr9, rc⟩ := e13_line ho1 (by decide) ok h
  have fr := fr.tr (fr9.sub (mF_sub rfl (sub_c (Or.inr (List.mem_of_getElem? (i := 0) rfl)) sub_nil) rfl (sud_c (Or.inr ⟨_, List.mem_of_getElem? (i := 0) rfl, rfl⟩) sud_nil)))
  have rb := fun Q9 z => rb Q9 (rc _ z)
  obtain ⟨σ3, h, ok, fr9, rc⟩ := e13_line ho1 (by decide) ok h
  have fr := fr.tr (fr9.sub (mF_sub rfl (sub_c (Or.inr (List.mem_of_getElem? (i := 0) rfl)) sub_nil) rfl (sud_c (Or.inr ⟨_, List.mem_of_getElem? (i := 0) rfl, rfl⟩) sud_nil)))
  have rb := fun Q9 z => rb Q9 (rc _ z)
  exact ⟨σ3, h, ok, fr, fun Q9 hq => rb Q9 hq⟩
/-! WebHost$Requests.length(LWebHost$Answer;I)V -/
set_option maxHeartbeats 4000000 in
theorem e9_length {σ : St} {o1 : Nat} {x2 : Int32} {Q : St → Prop} (ho1 : o1 < 16) (ok : okS σ) (h : w9_length σ o1 x2 Q) : (∃ (σ' : St), Q σ' ∧ okS σ' ∧ Fr (mF [] [(44, o1)] [] [(13, o1, [1])]) σ σ' ∧ ∀ (Q9 : St → Prop), Q9 σ' → w9_length σ o1 x2 Q9) := by
  have fr : Fr (mF [] [(44, o1)] [] [(13, o1, [1])]) σ σ := Fr.rf
  have rb : ∀ (Q9 : St → Prop), w9_length σ o1 x2 Q9 → w9_length σ o1 x2 Q9 := fun _ z => z
  obtain ⟨σ1, h, ok, fr9, rc⟩ := e13_say ho1 (by decide) ok h
  have fr := fr.tr (fr9.sub (mF_sub rfl (sub_c (Or.inr (List.mem_of_getElem? (i := 0) rfl)) sub_nil) rfl (sud_c (Or.inr ⟨_, List.mem_of_getElem? (i := 0) rfl, rfl⟩) sud_nil)))
  have rb := fun Q9 z => rb Q9 (rc _ z)
  obtain ⟨σ2, h, ok, fr9, rc⟩ := e13_number ho1 ok h
  have fr := fr.tr (fr9.sub (mF_sub rfl (sub_c (Or.inr (List.mem_of_getElem? (i := 0) rfl)) sub_nil) rfl (sud_c (Or.inr ⟨_, List.mem_of_getElem? (i := 0) rfl, rfl⟩) sud_nil)))
  have rb := fun Q9 z => rb Q9 (rc _ z)
  obtain ⟨σ3, h, ok, fr9, rc⟩ := e13_line ho1 (by decide) ok h
  have fr := fr.tr (fr9.sub (mF_sub rfl (sub_c (Or.inr (List.mem_of_getElem? (i := 0) rfl)) sub_nil) rfl (sud_c (Or.inr ⟨_, List.mem_of_getElem? (i := 0) rfl, rfl⟩) sud_nil)))
  have rb := fun Q9 z => rb Q9 (rc _ z)
  exact ⟨σ3, h, ok, fr, fun Q9 hq => rb Q9 hq⟩
/-! WebHost$Requests.mark(LWebHost$Answer;I)V -/
set_option maxHeartbeats 4000000 in
theorem e9_mark {σ : St} {o1 : Nat} {x2 : Int32} {Q : St → Prop} (ho1 : o1 < 16) (ok : okS σ) (h : w9_mark σ o1 x2 Q) : (∃ (σ' : St), Q σ' ∧ okS σ' ∧ Fr (mF [] [(44, o1)] [] [(13, o1, [1])]) σ σ' ∧ ∀ (Q9 : St → Prop), Q9 σ' → w9_mark σ o1 x2 Q9) := by
  have fr : Fr (mF [] [(44, o1)] [] [(13, o1, [1])]) σ σ := Fr.rf
  have rb : ∀ (Q9 : St → Prop), w9_mark σ o1 x2 Q9 → w9_mark σ o1 x2 Q9 := fun _ z => z
  obtain ⟨σ1, h, ok, fr9, rc⟩ := e13_say ho1 (by decide) ok h
  have fr := fr.tr (fr9.sub (mF_sub rfl (sub_c (Or.inr (List.mem_of_getElem? (i := 0) rfl)) sub_nil) rfl (sud_c (Or.inr ⟨_, List.mem_of_getElem? (i := 0) rfl, rfl⟩) sud_nil)))
  have rb := fun Q9 z => rb Q9 (rc _ z)
  obtain ⟨r2, h, rc⟩ := e1_mark ok h
  have rb := fun Q9 z => rb Q9 (rc _ z)
  obtain ⟨σ3, h, ok, fr9, rc⟩ := e13_mark ho1 ok h
  have fr := fr.tr (fr9.sub (mF_sub rfl (sub_c (Or.inr (List.mem_of_getElem? (i := 0) rfl)) sub_nil) rfl (sud_c (Or.inr ⟨_, List.mem_of_getElem? (i := 0) rfl, rfl⟩) sud_nil)))
  have rb := fun Q9 z => rb Q9 (rc _ z)
  obtain ⟨σ4, h, ok, fr9, rc⟩ := e13_line ho1 (by decide) ok h
  have fr := fr.tr (fr9.sub (mF_sub rfl (sub_c (Or.inr (List.mem_of_getElem? (i := 0) rfl)) sub_nil) rfl (sud_c (Or.inr ⟨_, List.mem_of_getElem? (i := 0) rfl, rfl⟩) sud_nil)))
  have rb := fun Q9 z => rb Q9 (rc _ z)
  exact ⟨σ4, h, ok, fr, fun Q9 hq => rb Q9 hq⟩
/-! WebHost$Requests.take(IIII)V -/
set_option maxHeartbeats 4000000 in
theorem e9_take {σ : St} {x1 : Int32} {x2 : Int32} {x3 : Int32} {x4 : Int32} {Q : St → Prop} (ok : okS σ) (h : w9_take σ x1 x2 x3 x4 Q) : (∃ (σ' : St), Q σ' ∧ okS σ' ∧ Fr (mF [] [] [(9, [7, 8, 9, 10, 11, 12, 13, 14, 15, 16])] []) σ σ' ∧ ∀ (Q9 : St → Prop), Q9 σ' → w9_take σ x1 x2 x3 x4 Q9) := by
  have fr : Fr (mF [] [] [(9, [7, 8, 9, 10, 11, 12, 13, 14, 15, 16])] []) σ σ := Fr.rf
  have rb : ∀ (Q9 : St → Prop), w9_take σ x1 x2 x3 x4 Q9 → w9_take σ x1 x2 x3 x4 Q9 := fun _ z => z
  obtain ⟨r1, h, rc⟩ := e9_is (by decide) ok h
  have rb := fun Q9 z => rb Q9 (rc _ z)
  by_cases hc : r1 = 0
  · have h := h.1 hc
    have rb := fun Q9 z => rb Q9 (br_t hc z)
    obtain ⟨r2, h, rc⟩ := e9_is (by decide) ok h
    have rb := fun Q9 z => rb Q9 (rc _ z)
    by_cases hc : r2 = 0
    · have h := h.1 hc
      have rb := fun Q9 z => rb Q9 (br_t hc z)
      obtain ⟨r3, h, rc⟩ := e9_is (by decide) ok h
      have rb := fun Q9 z => rb Q9 (rc _ z)
      by_cases hc : r3 = 0
      · have h := h.1 hc
        have rb := fun Q9 z => rb Q9 (br_t hc z)
        obtain ⟨r4, h, rc⟩ := e9_is (by decide) ok h
        have rb := fun Q9 z => rb Q9 (rc _ z)
        by_cases hc : r4 = 0
        · have h := h.1 hc
          have rb := fun Q9 z => rb Q9 (br_t hc z)
          obtain ⟨r5, h, rc⟩ := e9_is (by decide) ok h
          have rb := fun Q9 z => rb Q9 (rc _ z)
          by_cases hc : r5 = 0
          · have h := h.1 hc
            have rb := fun Q9 z => rb Q9 (br_t hc z)
            exact ⟨σ, h, ok, fr, fun Q9 hq => rb Q9 hq⟩
          have h := h.2 hc
          have rb := fun Q9 z => rb Q9 (br_f hc z)
          obtain ⟨σ6, e9⟩ : ∃ s : St, s = up3 σ 9 0 10 ((σ 9 0 10) + 1) := ⟨_, rfl⟩
          have h := h σ6 e9
          have rb := fun Q9 z => rb Q9 (nm_n e9 z)
          have ok : okS σ6 := by rw [e9]; exact (ok_n ok (by decide))
          have fr : Fr (mF [] [] [(9, [7, 8, 9, 10, 11, 12, 13, 14, 15, 16])] []) σ σ6 := by rw [e9]; exact (Fr.up fr (mF_C (List.mem_of_getElem? (i := 0) rfl) rfl))
          obtain ⟨σ7, e9⟩ : ∃ s : St, s = up3 σ6 9 0 11 x3 := ⟨_, rfl⟩
          have h := h σ7 e9
          have rb := fun Q9 z => rb Q9 (nm_n e9 z)
          have ok : okS σ7 := by rw [e9]; exact (ok_n ok (by decide))
          have fr : Fr (mF [] [] [(9, [7, 8, 9, 10, 11, 12, 13, 14, 15, 16])] []) σ σ7 := by rw [e9]; exact (Fr.up fr (mF_C (List.mem_of_getElem? (i := 0) rfl) rfl))
          obtain ⟨σ8, e9⟩ : ∃ s : St, s = up3 σ7 9 0 12 x4 := ⟨_, rfl⟩
          have h := h σ8 e9
          have rb := fun Q9 z => rb Q9 (nm_n e9 z)
          have ok : okS σ8 := by rw [e9]; exact (ok_n ok (by decide))
          have fr : Fr (mF [] [] [(9, [7, 8, 9, 10, 11, 12, 13, 14, 15, 16])] []) σ σ8 := by rw [e9]; exact (Fr.up fr (mF_C (List.mem_of_getElem? (i := 0) rfl) rfl))
          exact ⟨σ8, h, ok, fr, fun Q9 hq => rb Q9 hq⟩
        have h := h.2 hc
        have rb := fun Q9 z => rb Q9 (br_f hc z)
        obtain ⟨σ9, h, ok, fr9, rc⟩ := e9_words ok h
        have fr := fr.tr (fr9.sub (mF_sub rfl sub_nil rfl sud_nil))
        have rb := fun Q9 z => rb Q9 (rc _ z)
        exact ⟨σ9, h, ok, fr, fun Q9 hq => rb Q9 hq⟩
      have h := h.2 hc
      have rb := fun Q9 z => rb Q9 (br_f hc z)
      obtain ⟨σ10, h, ok, fr9, rc⟩ := e9_length_2 ok h
      have fr := fr.tr (fr9.sub (mF_sub rfl sub_nil rfl sud_nil))
      have rb := fun Q9 z => rb Q9 (rc _ z)
      exact ⟨σ10, h, ok, fr, fun Q9 hq => rb Q9 hq⟩
    have h := h.2 hc
    have rb := fun Q9 z => rb Q9 (br_f hc z)
    obtain ⟨σ11, e9⟩ : ∃ s : St, s = up3 σ 9 0 14 1 := ⟨_, rfl⟩
    have h := h σ11 e9
    have rb := fun Q9 z => rb Q9 (nm_n e9 z)
    have ok : okS σ11 := by rw [e9]; exact (ok_z ok (by decide) (Or.inr rfl))
    have fr : Fr (mF [] [] [(9, [7, 8, 9, 10, 11, 12, 13, 14, 15, 16])] []) σ σ11 := by rw [e9]; exact (Fr.up fr (mF_C (List.mem_of_getElem? (i := 0) rfl) rfl))
    exact ⟨σ11, h, ok, fr, fun Q9 hq => rb Q9 hq⟩
  have h := h.2 hc
  have rb := fun Q9 z => rb Q9 (br_f hc z)
  obtain ⟨σ12, e9⟩ : ∃ s : St, s = up3 σ 9 0 7 ((σ 9 0 7) + 1) := ⟨_, rfl⟩
  have h := h σ12 e9
  have rb := fun Q9 z => rb Q9 (nm_n e9 z)
  have ok : okS σ12 := by rw [e9]; exact (ok_n ok (by decide))
  have fr : Fr (mF [] [] [(9, [7, 8, 9, 10, 11, 12, 13, 14, 15, 16])] []) σ σ12 := by rw [e9]; exact (Fr.up fr (mF_C (List.mem_of_getElem? (i := 0) rfl) rfl))
  exact ⟨σ12, h, ok, fr, fun Q9 hq => rb Q9 hq⟩
/-! WebHost$Connection.segment(II[BII)V -/
set_option maxHeartbeats 4000000 in
theorem e11_segment_J41 {σ : St} {o0 : Nat} {x2 : Int32} {k3 : Nat} {i3 : Nat} {x4 : Int32} {x5 : Int32} {xs0 : Int32} {xs1 : Int32} {xs2 : Int32} {xs3 : Int32} {xs4 : Int32} {Q : St → Prop} (ho0 : o0 < 16) (ok : okS σ) (h : w11_segment_J41 σ o0 x2 k3 i3 x4 x5 xs0 xs1 xs2 xs3 xs4 Q) : (∃ (σ' : St), Q σ' ∧ okS σ' ∧ Fr (mF [23, 25, 26, 32, 35, 36] [] [(2, [3]), (3, [9]), (4, [0, 1, 2, 4]), (5, [2])] [(11, o0, [22])]) σ σ' ∧ ∀ (Q9 : St → Prop), Q9 σ' → w11_segment_J41 σ o0 x2 k3 i3 x4 x5 xs0 xs1 xs2 xs3 xs4 Q9) := by
  have fr : Fr (mF [23, 25, 26, 32, 35, 36] [] [(2, [3]), (3, [9]), (4, [0, 1, 2, 4]), (5, [2])] [(11, o0, [22])]) σ σ := Fr.rf
  have rb : ∀ (Q9 : St → Prop), w11_segment_J41 σ o0 x2 k3 i3 x4 x5 xs0 xs1 xs2 xs3 xs4 Q9 → w11_segment_J41 σ o0 x2 k3 i3 x4 x5 xs0 xs1 xs2 xs3 xs4 Q9 := fun _ z => z
  obtain ⟨σ3, h, ok, fr9, rc⟩ := e8_send ok h
  have fr := fr.tr (fr9.sub (mF_sub rfl sub_nil rfl sud_nil))
  have rb := fun Q9 z => rb Q9 (rc _ z)
  by_cases hc : (x2 &&& 16) = 0
  · have h := h.1 hc
    have rb := fun Q9 z => rb Q9 (br_t hc z)
    exact ⟨σ3, h, ok, fr, fun Q9 hq => rb Q9 hq⟩
  have h := h.2 hc
  have rb := fun Q9 z => rb Q9 (br_f hc z)
  obtain ⟨σ4, e9⟩ : ∃ s : St, s = up3 σ3 11 o0 22 0 := ⟨_, rfl⟩
  have h := h σ4 e9
  have rb := fun Q9 z => rb Q9 (nm_n e9 z)
  have ok : okS σ4 := by rw [e9]; exact (ok_z ok (by decide) (Or.inl rfl))
  have fr : Fr (mF [23, 25, 26, 32, 35, 36] [] [(2, [3]), (3, [9]), (4, [0, 1, 2, 4]), (5, [2])] [(11, o0, [22])]) σ σ4 := by rw [e9]; exact (Fr.up fr (mF_D (List.mem_of_getElem? (i := 0) rfl) rfl))
  exact ⟨σ4, h, ok, fr, fun Q9 hq => rb Q9 hq⟩
set_option maxHeartbeats 4000000 in
theorem e11_segment {σ : St} {o0 : Nat} {x1 : Int32} {x2 : Int32} {k3 : Nat} {i3 : Nat} {x4 : Int32} {x5 : Int32} {Q : St → Prop} (ho0 : o0 < 16) (ok : okS σ) (h : w11_segment σ o0 x1 x2 k3 i3 x4 x5 Q) : (∃ (σ' : St), Q σ' ∧ okS σ' ∧ Fr (mF [23, 25, 26, 32, 35, 36] [] [(2, [3]), (3, [9]), (4, [0, 1, 2, 4]), (5, [2])] [(11, o0, [21, 22])]) σ σ' ∧ ∀ (Q9 : St → Prop), Q9 σ' → w11_segment σ o0 x1 x2 k3 i3 x4 x5 Q9) := by
  have fr : Fr (mF [23, 25, 26, 32, 35, 36] [] [(2, [3]), (3, [9]), (4, [0, 1, 2, 4]), (5, [2])] [(11, o0, [21, 22])]) σ σ := Fr.rf
  have rb : ∀ (Q9 : St → Prop), w11_segment σ o0 x1 x2 k3 i3 x4 x5 Q9 → w11_segment σ o0 x1 x2 k3 i3 x4 x5 Q9 := fun _ z => z
  obtain ⟨r1, h, rc⟩ := e12_window ho0 ok h
  have rb := fun Q9 z => rb Q9 (rc _ z)
  obtain ⟨σ2, e9⟩ : ∃ s : St, s = up3 σ 11 o0 21 r1 := ⟨_, rfl⟩
  have h := h σ2 e9
  have rb := fun Q9 z => rb Q9 (nm_n e9 z)
  have ok : okS σ2 := by rw [e9]; exact (ok_n ok (by decide))
  have fr : Fr (mF [23, 25, 26, 32, 35, 36] [] [(2, [3]), (3, [9]), (4, [0, 1, 2, 4]), (5, [2])] [(11, o0, [21, 22])]) σ σ2 := by rw [e9]; exact (Fr.up fr (mF_D (List.mem_of_getElem? (i := 0) rfl) rfl))
  by_cases hc : (x2 &&& 16) = 0
  · have h := h.1 hc
    have rb := fun Q9 z => rb Q9 (br_t hc z)
    obtain ⟨σ9, h, ok, fr9, rc⟩ := e11_segment_J41 ho0 ok h
    exact ⟨σ9, h, ok, fr.tr (fr9.sub (mF_sub rfl sub_nil rfl (sud_c (Or.inr ⟨_, List.mem_of_getElem? (i := 0) rfl, rfl⟩) sud_nil))), fun Q9 hq => rb Q9 (rc Q9 hq)⟩
  have h := h.2 hc
  have rb := fun Q9 z => rb Q9 (br_f hc z)
  obtain ⟨σ9, h, ok, fr9, rc⟩ := e11_segment_J41 ho0 ok h
  exact ⟨σ9, h, ok, fr.tr (fr9.sub (mF_sub rfl sub_nil rfl (sud_c (Or.inr ⟨_, List.mem_of_getElem? (i := 0) rfl, rfl⟩) sud_nil))), fun Q9 hq => rb Q9 (rc Q9 hq)⟩
/-! WebHostModel.acknowledge(LWebHostModel$Connection;)V -/
set_option maxHeartbeats 4000000 in
theorem e14_acknowledge {σ : St} {o1 : Nat} {Q : St → Prop} (ho1 : o1 < 16) (ok : okS σ) (h : w14_acknowledge σ o1 Q) : (∃ (σ' : St), Q σ' ∧ okS σ' ∧ Fr (mF [57, 58, 59, 60, 68] [] [(14, [18, 23, 24, 25]), (17, [0, 1, 2, 3, 4, 5])] [(15, o1, [37, 39])]) σ σ' ∧ ∀ (Q9 : St → Prop), Q9 σ' → w14_acknowledge σ o1 Q9) := by
  have fr : Fr (mF [57, 58, 59, 60, 68] [] [(14, [18, 23, 24, 25]), (17, [0, 1, 2, 3, 4, 5])] [(15, o1, [37, 39])]) σ σ := Fr.rf
  have rb : ∀ (Q9 : St → Prop), w14_acknowledge σ o1 Q9 → w14_acknowledge σ o1 Q9 := fun _ z => z
  obtain ⟨r1, h, rc⟩ := e15_open ho1 ok h
  have rb := fun Q9 z => rb Q9 (rc _ z)
  obtain ⟨σ2, h, ok, fr9, rc⟩ := e14_segmentOut ok h
  have fr := fr.tr (fr9.sub (mF_sub rfl sub_nil rfl sud_nil))
  have rb := fun Q9 z => rb Q9 (rc _ z)
  obtain ⟨σ3, h, ok, fr9, rc⟩ := e14_pays ho1 ok h
  have fr := fr.tr (fr9.sub (mF_sub rfl sub_nil rfl (sud_c (Or.inr ⟨_, List.mem_of_getElem? (i := 0) rfl, rfl⟩) sud_nil)))
  have rb := fun Q9 z => rb Q9 (rc _ z)
  exact ⟨σ3, h, ok, fr, fun Q9 hq => rb Q9 hq⟩
/-! WebHostModel.chosen()I -/
set_option maxHeartbeats 4000000 in
theorem e14_chosen_J221 {σ : St} {x1 : Int32} {Q : Int32 → St → Prop} (ok : okS σ) (h : w14_chosen_J221 σ x1 Q) : (∃ (r : Int32) (σ' : St), Q r σ' ∧ okS σ' ∧ Fr (mF [] [] [] []) σ σ' ∧ ∀ (Q9 : Int32 → St → Prop), Q9 r σ' → w14_chosen_J221 σ x1 Q9) := by
  have fr : Fr (mF [] [] [] []) σ σ := Fr.rf
  have rb : ∀ (Q9 : Int32 → St → Prop), w14_chosen_J221 σ x1 Q9 → w14_chosen_J221 σ x1 Q9 := fun _ z => z
  by_cases hc : (σ 14 0 43) = 200
  · have h := h.1 hc
    have rb := fun Q9 z => rb Q9 (br_t hc z)
    exact ⟨x1, σ, h, ok, fr, fun Q9 hq => rb Q9 hq⟩
  have h := h.2 hc
  have rb := fun Q9 z => rb Q9 (br_f hc z)
  by_cases hc : (σ 14 0 43) = 304
  · have h := h.2 hc
    have rb := fun Q9 z => rb Q9 (br_u hc z)
    exact ⟨x1, σ, h, ok, fr, fun Q9 hq => rb Q9 hq⟩
  have h := h.1 hc
  have rb := fun Q9 z => rb Q9 (br_v hc z)
  exact ⟨(-1), σ, h, ok, fr, fun Q9 hq => rb Q9 hq⟩
set_option maxHeartbeats 4000000 in
theorem e14_chosen_J122 {σ : St} {Q : Int32 → St → Prop} (ok : okS σ) (h : w14_chosen_J122 σ Q) : (∃ (r : Int32) (σ' : St), Q r σ' ∧ okS σ' ∧ Fr (mF [] [] [(14, [43])] []) σ σ' ∧ ∀ (Q9 : Int32 → St → Prop), Q9 r σ' → w14_chosen_J122 σ Q9) := by
  have fr : Fr (mF [] [] [(14, [43])] []) σ σ := Fr.rf
  have rb : ∀ (Q9 : Int32 → St → Prop), w14_chosen_J122 σ Q9 → w14_chosen_J122 σ Q9 := fun _ z => z
  by_cases hc : (σ 14 0 43) = 0
  · have h := h.1 hc
    have rb := fun Q9 z => rb Q9 (br_t hc z)
    obtain ⟨r2, h, rc⟩ := e14_found ok h
    have rb := fun Q9 z => rb Q9 (rc _ z)
    by_cases hc : 0 ≤ r2
    · have h := h.1 hc
      have rb := fun Q9 z => rb Q9 (br_t hc z)
      obtain ⟨hc, h⟩ := h
      have rb := fun Q9 z => rb Q9 (And.intro hc z)
      obtain ⟨hc, h⟩ := h
      have rb := fun Q9 z => rb Q9 (And.intro hc z)
      obtain ⟨hc, h⟩ := h
      have rb := fun Q9 z => rb Q9 (And.intro hc z)
      obtain ⟨r3, h, rc⟩ := e14_check ok h
      have rb := fun Q9 z => rb Q9 (rc _ z)
      obtain ⟨hc, h⟩ := h
      have rb := fun Q9 z => rb Q9 (And.intro hc z)
      by_cases hc : r3 = (σ 55 0 r2.toNatClampNeg)
      · have h := h.1 hc
        have rb := fun Q9 z => rb Q9 (br_t hc z)
        by_cases hc : (σ 14 0 50) = 1
        · have h := h.2 hc
          have rb := fun Q9 z => rb Q9 (br_u hc z)
          obtain ⟨r5, h, rc⟩ := e14_fits ok h
          have rb := fun Q9 z => rb Q9 (rc _ z)
          by_cases hc : r5 = 0
          · have h := h.1 hc
            have rb := fun Q9 z => rb Q9 (br_t hc z)
            obtain ⟨σ6, e9⟩ : ∃ s : St, s = up3 σ 14 0 43 200 := ⟨_, rfl⟩
            have h := h σ6 e9
            have rb := fun Q9 z => rb Q9 (nm_n e9 z)
            have ok : okS σ6 := by rw [e9]; exact (ok_n ok (by decide))
            have fr : Fr (mF [] [] [(14, [43])] []) σ σ6 := by rw [e9]; exact (Fr.up fr (mF_C (List.mem_of_getElem? (i := 0) rfl) rfl))
            obtain ⟨r9, σ9, h, ok, fr9, rc⟩ := e14_chosen_J221 ok h
            exact ⟨r9, σ9, h, ok, fr.tr (fr9.sub (mF_sub rfl sub_nil rfl sud_nil)), fun Q9 hq => rb Q9 (rc Q9 hq)⟩
          have h := h.2 hc
          have rb := fun Q9 z => rb Q9 (br_f hc z)
          obtain ⟨σ7, e9⟩ : ∃ s : St, s = up3 σ 14 0 43 304 := ⟨_, rfl⟩
          have h := h σ7 e9
          have rb := fun Q9 z => rb Q9 (nm_n e9 z)
          have ok : okS σ7 := by rw [e9]; exact (ok_n ok (by decide))
          have fr : Fr (mF [] [] [(14, [43])] []) σ σ7 := by rw [e9]; exact (Fr.up fr (mF_C (List.mem_of_getElem? (i := 0) rfl) rfl))
          obtain ⟨r9, σ9, h, ok, fr9, rc⟩ := e14_chosen_J221 ok h
          exact ⟨r9, σ9, h, ok, fr.tr (fr9.sub (mF_sub rfl sub_nil rfl sud_nil)), fun Q9 hq => rb Q9 (rc Q9 hq)⟩
        have h := h.1 hc
        have rb := fun Q9 z => rb Q9 (br_v hc z)
        obtain ⟨σ4, e9⟩ : ∃ s : St, s = up3 σ 14 0 43 200 := ⟨_, rfl⟩
        have h := h σ4 e9
        have rb := fun Q9 z => rb Q9 (nm_n e9 z)
        have ok : okS σ4 := by rw [e9]; exact (ok_n ok (by decide))
        have fr : Fr (mF [] [] [(14, [43])] []) σ σ4 := by rw [e9]; exact (Fr.up fr (mF_C (List.mem_of_getElem? (i := 0) rfl) rfl))
        obtain ⟨r9, σ9, h, ok, fr9, rc⟩ := e14_chosen_J221 ok h
        exact ⟨r9, σ9, h, ok, fr.tr (fr9.sub (mF_sub rfl sub_nil rfl sud_nil)), fun Q9 hq => rb Q9 (rc Q9 hq)⟩
      have h := h.2 hc
      have rb := fun Q9 z => rb Q9 (br_f hc z)
      obtain ⟨σ8, e9⟩ : ∃ s : St, s = up3 σ 14 0 43 500 := ⟨_, rfl⟩
      have h := h σ8 e9
      have rb := fun Q9 z => rb Q9 (nm_n e9 z)
      have ok : okS σ8 := by rw [e9]; exact (ok_n ok (by decide))
      have fr : Fr (mF [] [] [(14, [43])] []) σ σ8 := by rw [e9]; exact (Fr.up fr (mF_C (List.mem_of_getElem? (i := 0) rfl) rfl))
      obtain ⟨r9, σ9, h, ok, fr9, rc⟩ := e14_chosen_J221 ok h
      exact ⟨r9, σ9, h, ok, fr.tr (fr9.sub (mF_sub rfl sub_nil rfl sud_nil)), fun Q9 hq => rb Q9 (rc Q9 hq)⟩
    have h := h.2 hc
    have rb := fun Q9 z => rb Q9 (br_f hc z)
    obtain ⟨σ9, e9⟩ : ∃ s : St, s = up3 σ 14 0 43 404 := ⟨_, rfl⟩
    have h := h σ9 e9
    have rb := fun Q9 z => rb Q9 (nm_n e9 z)
    have ok : okS σ9 := by rw [e9]; exact (ok_n ok (by decide))
    have fr : Fr (mF [] [] [(14, [43])] []) σ σ9 := by rw [e9]; exact (Fr.up fr (mF_C (List.mem_of_getElem? (i := 0) rfl) rfl))
    obtain ⟨r9, σ9, h, ok, fr9, rc⟩ := e14_chosen_J221 ok h
    exact ⟨r9, σ9, h, ok, fr.tr (fr9.sub (mF_sub rfl sub_nil rfl sud_nil)), fun Q9 hq => rb Q9 (rc Q9 hq)⟩
  have h := h.2 hc
  have rb := fun Q9 z => rb Q9 (br_f hc z)
  exact ⟨(-1), σ, h, ok, fr, fun Q9 hq => rb Q9 hq⟩
set_option maxHeartbeats 4000000 in
theorem e14_chosen_J32 {σ : St} {Q : Int32 → St → Prop} (ok : okS σ) (h : w14_chosen_J32 σ Q) : (∃ (r : Int32) (σ' : St), Q r σ' ∧ okS σ' ∧ Fr (mF [67] [] [(14, [43, 59])] []) σ σ' ∧ ∀ (Q9 : Int32 → St → Prop), Q9 r σ' → w14_chosen_J32 σ Q9) := by
  have fr : Fr (mF [67] [] [(14, [43, 59])] []) σ σ := Fr.rf
  have rb : ∀ (Q9 : Int32 → St → Prop), w14_chosen_J32 σ Q9 → w14_chosen_J32 σ Q9 := fun _ z => z
  have h := h ((ok 14 0 54).1 (by decide))
  have rb := fun Q9 z => rb Q9 (im_n z)
  by_cases hc : (σ 14 0 54) = 0
  · have h := h.1 hc
    have rb := fun Q9 z => rb Q9 (br_t hc z)
    by_cases hc : 1 < (σ 14 0 49)
    · have h := h.1 hc
      have rb := fun Q9 z => rb Q9 (br_t hc z)
      obtain ⟨σ10, e9⟩ : ∃ s : St, s = up3 σ 14 0 43 400 := ⟨_, rfl⟩
      have h := h σ10 e9
      have rb := fun Q9 z => rb Q9 (nm_n e9 z)
      have ok : okS σ10 := by rw [e9]; exact (ok_n ok (by decide))
      have fr : Fr (mF [67] [] [(14, [43, 59])] []) σ σ10 := by rw [e9]; exact (Fr.up fr (mF_C (List.mem_of_getElem? (i := 0) rfl) rfl))
      obtain ⟨r9, σ9, h, ok, fr9, rc⟩ := e14_chosen_J122 ok h
      exact ⟨r9, σ9, h, ok, fr.tr (fr9.sub (mF_sub rfl sub_nil rfl sud_nil)), fun Q9 hq => rb Q9 (rc Q9 hq)⟩
    have h := h.2 hc
    have rb := fun Q9 z => rb Q9 (br_f hc z)
    have h := h ((ok 14 0 52).1 (by decide))
    have rb := fun Q9 z => rb Q9 (im_n z)
    by_cases hc : (σ 14 0 52) = 0
    · have h := h.1 hc
      have rb := fun Q9 z => rb Q9 (br_t hc z)
      have h := h ((ok 14 0 53).1 (by decide))
      have rb := fun Q9 z => rb Q9 (im_n z)
      by_cases hc : (σ 14 0 53) = 0
      · have h := h.1 hc
        have rb := fun Q9 z => rb Q9 (br_t hc z)
        have h := h ((ok 14 0 60).1 (by decide))
        have rb := fun Q9 z => rb Q9 (im_n z)
        by_cases hc : (σ 14 0 60) = 0
        · have h := h.1 hc
          have rb := fun Q9 z => rb Q9 (br_t hc z)
          obtain ⟨r11, σ11, h, ok, fr9, rc⟩ := e14_unfolded ok h
          have fr := fr.tr (fr9.sub (mF_sub rfl sub_nil rfl sud_nil))
          have rb := fun Q9 z => rb Q9 (rc _ z)
          by_cases hc : r11 = 0
          · have h := h.2 hc
            have rb := fun Q9 z => rb Q9 (br_u hc z)
            obtain ⟨σ12, e9⟩ : ∃ s : St, s = up3 σ11 14 0 43 400 := ⟨_, rfl⟩
            have h := h σ12 e9
            have rb := fun Q9 z => rb Q9 (nm_n e9 z)
            have ok : okS σ12 := by rw [e9]; exact (ok_n ok (by decide))
            have fr : Fr (mF [67] [] [(14, [43, 59])] []) σ σ12 := by rw [e9]; exact (Fr.up fr (mF_C (List.mem_of_getElem? (i := 0) rfl) rfl))
            obtain ⟨r9, σ9, h, ok, fr9, rc⟩ := e14_chosen_J122 ok h
            exact ⟨r9, σ9, h, ok, fr.tr (fr9.sub (mF_sub rfl sub_nil rfl sud_nil)), fun Q9 hq => rb Q9 (rc Q9 hq)⟩
          have h := h.1 hc
          have rb := fun Q9 z => rb Q9 (br_v hc z)
          obtain ⟨r9, σ9, h, ok, fr9, rc⟩ := e14_chosen_J122 ok h
          exact ⟨r9, σ9, h, ok, fr.tr (fr9.sub (mF_sub rfl sub_nil rfl sud_nil)), fun Q9 hq => rb Q9 (rc Q9 hq)⟩
        have h := h.2 hc
        have rb := fun Q9 z => rb Q9 (br_f hc z)
        obtain ⟨σ13, e9⟩ : ∃ s : St, s = up3 σ 14 0 43 405 := ⟨_, rfl⟩
        have h := h σ13 e9
        have rb := fun Q9 z => rb Q9 (nm_n e9 z)
        have ok : okS σ13 := by rw [e9]; exact (ok_n ok (by decide))
        have fr : Fr (mF [67] [] [(14, [43, 59])] []) σ σ13 := by rw [e9]; exact (Fr.up fr (mF_C (List.mem_of_getElem? (i := 0) rfl) rfl))
        obtain ⟨r9, σ9, h, ok, fr9, rc⟩ := e14_chosen_J122 ok h
        exact ⟨r9, σ9, h, ok, fr.tr (fr9.sub (mF_sub rfl sub_nil rfl sud_nil)), fun Q9 hq => rb Q9 (rc Q9 hq)⟩
      have h := h.2 hc
      have rb := fun Q9 z => rb Q9 (br_f hc z)
      obtain ⟨σ14, e9⟩ : ∃ s : St, s = up3 σ 14 0 43 413 := ⟨_, rfl⟩
      have h := h σ14 e9
      have rb := fun Q9 z => rb Q9 (nm_n e9 z)
      have ok : okS σ14 := by rw [e9]; exact (ok_n ok (by decide))
      have fr : Fr (mF [67] [] [(14, [43, 59])] []) σ σ14 := by rw [e9]; exact (Fr.up fr (mF_C (List.mem_of_getElem? (i := 0) rfl) rfl))
      obtain ⟨r9, σ9, h, ok, fr9, rc⟩ := e14_chosen_J122 ok h
      exact ⟨r9, σ9, h, ok, fr.tr (fr9.sub (mF_sub rfl sub_nil rfl sud_nil)), fun Q9 hq => rb Q9 (rc Q9 hq)⟩
    have h := h.2 hc
    have rb := fun Q9 z => rb Q9 (br_f hc z)
    obtain ⟨σ15, e9⟩ : ∃ s : St, s = up3 σ 14 0 43 400 := ⟨_, rfl⟩
    have h := h σ15 e9
    have rb := fun Q9 z => rb Q9 (nm_n e9 z)
    have ok : okS σ15 := by rw [e9]; exact (ok_n ok (by decide))
    have fr : Fr (mF [67] [] [(14, [43, 59])] []) σ σ15 := by rw [e9]; exact (Fr.up fr (mF_C (List.mem_of_getElem? (i := 0) rfl) rfl))
    obtain ⟨r9, σ9, h, ok, fr9, rc⟩ := e14_chosen_J122 ok h
    exact ⟨r9, σ9, h, ok, fr.tr (fr9.sub (mF_sub rfl sub_nil rfl sud_nil)), fun Q9 hq => rb Q9 (rc Q9 hq)⟩
  have h := h.2 hc
  have rb := fun Q9 z => rb Q9 (br_f hc z)
  obtain ⟨σ16, e9⟩ : ∃ s : St, s = up3 σ 14 0 43 501 := ⟨_, rfl⟩
  have h := h σ16 e9
  have rb := fun Q9 z => rb Q9 (nm_n e9 z)
  have ok : okS σ16 := by rw [e9]; exact (ok_n ok (by decide))
  have fr : Fr (mF [67] [] [(14, [43, 59])] []) σ σ16 := by rw [e9]; exact (Fr.up fr (mF_C (List.mem_of_getElem? (i := 0) rfl) rfl))
  obtain ⟨r9, σ9, h, ok, fr9, rc⟩ := e14_chosen_J122 ok h
  exact ⟨r9, σ9, h, ok, fr.tr (fr9.sub (mF_sub rfl sub_nil rfl sud_nil)), fun Q9 hq => rb Q9 (rc Q9 hq)⟩
set_option maxHeartbeats 4000000 in
theorem e14_chosen {σ : St} {Q : Int32 → St → Prop} (ok : okS σ) (h : w14_chosen σ Q) : (∃ (r : Int32) (σ' : St), Q r σ' ∧ okS σ' ∧ Fr (mF [67] [] [(14, [43, 59])] []) σ σ' ∧ ∀ (Q9 : Int32 → St → Prop), Q9 r σ' → w14_chosen σ Q9) := by
  have fr : Fr (mF [67] [] [(14, [43, 59])] []) σ σ := Fr.rf
  have rb : ∀ (Q9 : Int32 → St → Prop), w14_chosen σ Q9 → w14_chosen σ Q9 := fun _ z => z
  by_cases hc : 1 < (σ 14 0 48)
  · have h := h.1 hc
    have rb := fun Q9 z => rb Q9 (br_t hc z)
    obtain ⟨σ1, e9⟩ : ∃ s : St, s = up3 σ 14 0 43 400 := ⟨_, rfl⟩
    have h := h σ1 e9
    have rb := fun Q9 z => rb Q9 (nm_n e9 z)
    have ok : okS σ1 := by rw [e9]; exact (ok_n ok (by decide))
    have fr : Fr (mF [67] [] [(14, [43, 59])] []) σ σ1 := by rw [e9]; exact (Fr.up fr (mF_C (List.mem_of_getElem? (i := 0) rfl) rfl))
    obtain ⟨r9, σ9, h, ok, fr9, rc⟩ := e14_chosen_J122 ok h
    exact ⟨r9, σ9, h, ok, fr.tr (fr9.sub (mF_sub rfl sub_nil rfl sud_nil)), fun Q9 hq => rb Q9 (rc Q9 hq)⟩
  have h := h.2 hc
  have rb := fun Q9 z => rb Q9 (br_f hc z)
  have h := h ((ok 14 0 45).1 (by decide))
  have rb := fun Q9 z => rb Q9 (im_n z)
  by_cases hc : (σ 14 0 45) = 0
  · have h := h.2 hc
    have rb := fun Q9 z => rb Q9 (br_u hc z)
    by_cases hc : (σ 14 0 48) = 0
    · have h := h.2 hc
      have rb := fun Q9 z => rb Q9 (br_u hc z)
      obtain ⟨σ17, e9⟩ : ∃ s : St, s = up3 σ 14 0 43 400 := ⟨_, rfl⟩
      have h := h σ17 e9
      have rb := fun Q9 z => rb Q9 (nm_n e9 z)
      have ok : okS σ17 := by rw [e9]; exact (ok_n ok (by decide))
      have fr : Fr (mF [67] [] [(14, [43, 59])] []) σ σ17 := by rw [e9]; exact (Fr.up fr (mF_C (List.mem_of_getElem? (i := 0) rfl) rfl))
      obtain ⟨r9, σ9, h, ok, fr9, rc⟩ := e14_chosen_J122 ok h
      exact ⟨r9, σ9, h, ok, fr.tr (fr9.sub (mF_sub rfl sub_nil rfl sud_nil)), fun Q9 hq => rb Q9 (rc Q9 hq)⟩
    have h := h.1 hc
    have rb := fun Q9 z => rb Q9 (br_v hc z)
    obtain ⟨r9, σ9, h, ok, fr9, rc⟩ := e14_chosen_J32 ok h
    exact ⟨r9, σ9, h, ok, fr.tr (fr9.sub (mF_sub rfl sub_nil rfl sud_nil)), fun Q9 hq => rb Q9 (rc Q9 hq)⟩
  have h := h.1 hc
  have rb := fun Q9 z => rb Q9 (br_v hc z)
  obtain ⟨r9, σ9, h, ok, fr9, rc⟩ := e14_chosen_J32 ok h
  exact ⟨r9, σ9, h, ok, fr.tr (fr9.sub (mF_sub rfl sub_nil rfl sud_nil)), fun Q9 hq => rb Q9 (rc Q9 hq)⟩
/-! WebHostModel.dataOut(LWebHostModel$Connection;IIZ)V -/
set_option maxHeartbeats 4000000 in
theorem e14_dataOut_L3 {o1 : Nat} {x2 : Int32} {x3 : Int32} {x4 : Int32} {Q : St → Prop} {K34 : St → Prop} (ho1 : o1 < 16) :
    ∀ (n : Nat) {σ : St} {x5 : Int32} (ok : okS σ), w14_dataOut_L3 o1 x2 x3 x4 Q K34 n σ x5 → (∃ (σ' : St), K34 σ' ∧ okS σ' ∧ Fr (mF [57] [] [] []) σ σ' ∧ ∀ (Q9 : St → Prop) (K9_34 : St → Prop), K9_34 σ' → w14_dataOut_L3 o1 x2 x3 x4 Q9 K9_34 n σ x5) := by
  intro n
  induction n with
  | zero =>
    intro σ x5 ok h
    exact False.elim h
  | succ n ih =>
    intro σ x5 ok h
    have fr : Fr (mF [57] [] [] []) σ σ := Fr.rf
    have rb : ∀ (Q9 : St → Prop) (K9_34 : St → Prop), w14_dataOut_L3 o1 x2 x3 x4 Q9 K9_34 (n + 1) σ x5 → w14_dataOut_L3 o1 x2 x3 x4 Q9 K9_34 (n + 1) σ x5 := fun _ _ z => z
    by_cases hc : x3 ≤ x5
    · have h := h.1 hc
      have rb := fun Q9 K9_34 z => rb Q9 K9_34 (br_t hc z)
      exact ⟨σ, h, ok, fr, fun Q9 K9_34 hq => rb Q9 K9_34 hq⟩
    have h := h.2 hc
    have rb := fun Q9 K9_34 z => rb Q9 K9_34 (br_f hc z)
    obtain ⟨r1, h, rc⟩ := e14_toSend ho1 ok h
    have rb := fun Q9 K9_34 z => rb Q9 K9_34 (rc _ z)
    obtain ⟨hc, h⟩ := h
    have rb := fun Q9 K9_34 z => rb Q9 K9_34 (And.intro hc z)
    obtain ⟨σ2, e9⟩ : ∃ s : St, s = up3 σ 57 0 (54 + x5).toNatClampNeg r1.toInt8.toInt32 := ⟨_, rfl⟩
    have h := h σ2 e9
    have rb := fun Q9 K9_34 z => rb Q9 K9_34 (nm_n e9 z)
    have ok : okS σ2 := by rw [e9]; exact (ok_b ok (tyk_a 57 2 (by decide) (by decide) _))
    have fr : Fr (mF [57] [] [] []) σ σ2 := by rw [e9]; exact (Fr.up fr (mF_A rfl))
    rcases ih ok h with ⟨σ', h, ok, fr9, rc⟩
    · exact ⟨σ', h, ok, fr.tr fr9, fun Q9 K9_34 hq => rb Q9 K9_34 (rc Q9 K9_34 hq)⟩
set_option maxHeartbeats 4000000 in
theorem e14_dataOut_J113 {σ : St} {o1 : Nat} {x2 : Int32} {x3 : Int32} {x4 : Int32} {x5 : Int32} {Q : St → Prop} (ho1 : o1 < 16) (ok : okS σ) (h : w14_dataOut_J113 σ o1 x2 x3 x4 x5 Q) : (∃ (σ' : St), Q σ' ∧ okS σ' ∧ Fr (mF [56, 57, 58, 59, 60, 68] [] [(14, [18, 23, 24, 25]), (17, [0, 1, 2, 3, 4, 5])] [(15, o1, [0, 17, 19, 20, 21, 22, 31, 37, 39])]) σ σ' ∧ ∀ (Q9 : St → Prop), Q9 σ' → w14_dataOut_J113 σ o1 x2 x3 x4 x5 Q9) := by
  have fr : Fr (mF [56, 57, 58, 59, 60, 68] [] [(14, [18, 23, 24, 25]), (17, [0, 1, 2, 3, 4, 5])] [(15, o1, [0, 17, 19, 20, 21, 22, 31, 37, 39])]) σ σ := Fr.rf
  have rb : ∀ (Q9 : St → Prop), w14_dataOut_J113 σ o1 x2 x3 x4 x5 Q9 → w14_dataOut_J113 σ o1 x2 x3 x4 x5 Q9 := fun _ z => z
  obtain ⟨r6, h, rc⟩ := e15_open ho1 ok h
  have rb := fun Q9 z => rb Q9 (rc _ z)
  obtain ⟨σ7, h, ok, fr9, rc⟩ := e14_segmentOut ok h
  have fr := fr.tr (fr9.sub (mF_sub rfl sub_nil rfl sud_nil))
  have rb := fun Q9 z => rb Q9 (rc _ z)
  obtain ⟨σ8, h, ok, fr9, rc⟩ := e14_pays ho1 ok h
  have fr := fr.tr (fr9.sub (mF_sub rfl sub_nil rfl (sud_c (Or.inr ⟨_, List.mem_of_getElem? (i := 0) rfl, rfl⟩) sud_nil)))
  have rb := fun Q9 z => rb Q9 (rc _ z)
  obtain ⟨σ9, h, ok, fr9, rc⟩ := e14_noted ho1 ok h
  have fr := fr.tr (fr9.sub (mF_sub rfl sub_nil rfl (sud_c (Or.inr ⟨_, List.mem_of_getElem? (i := 0) rfl, rfl⟩) sud_nil)))
  have rb := fun Q9 z => rb Q9 (rc _ z)
  by_cases hc : x4 = 0
  · have h := h.1 hc
    have rb := fun Q9 z => rb Q9 (br_t hc z)
    exact ⟨σ9, h, ok, fr, fun Q9 hq => rb Q9 hq⟩
  have h := h.2 hc
  have rb := fun Q9 z => rb Q9 (br_f hc z)
  have h := h ((ok 15 o1 31).1 (by decide))
  have rb := fun Q9 z => rb Q9 (im_n z)
  by_cases hc : (σ9 15 o1 31) = 0
  · have h := h.2 hc
    have rb := fun Q9 z => rb Q9 (br_u hc z)
    obtain ⟨σ10, e9⟩ : ∃ s : St, s = up3 σ9 15 o1 31 1 := ⟨_, rfl⟩
    have h := h σ10 e9
    have rb := fun Q9 z => rb Q9 (nm_n e9 z)
    have ok : okS σ10 := by rw [e9]; exact (ok_z ok (by decide) (Or.inr rfl))
    have fr : Fr (mF [56, 57, 58, 59, 60, 68] [] [(14, [18, 23, 24, 25]), (17, [0, 1, 2, 3, 4, 5])] [(15, o1, [0, 17, 19, 20, 21, 22, 31, 37, 39])]) σ σ10 := by rw [e9]; exact (Fr.up fr (mF_D (List.mem_of_getElem? (i := 0) rfl) rfl))
    by_cases hc : (σ10 15 o1 0) = 2
    · have h := h.2 hc
      have rb := fun Q9 z => rb Q9 (br_u hc z)
      obtain ⟨σ12, e9⟩ : ∃ s : St, s = up3 σ10 15 o1 0 3 := ⟨_, rfl⟩
      have h := h σ12 e9
      have rb := fun Q9 z => rb Q9 (nm_n e9 z)
      have ok : okS σ12 := by rw [e9]; exact (ok_n ok (by decide))
      have fr : Fr (mF [56, 57, 58, 59, 60, 68] [] [(14, [18, 23, 24, 25]), (17, [0, 1, 2, 3, 4, 5])] [(15, o1, [0, 17, 19, 20, 21, 22, 31, 37, 39])]) σ σ12 := by rw [e9]; exact (Fr.up fr (mF_D (List.mem_of_getElem? (i := 0) rfl) rfl))
      exact ⟨σ12, h, ok, fr, fun Q9 hq => rb Q9 hq⟩
    have h := h.1 hc
    have rb := fun Q9 z => rb Q9 (br_v hc z)
    obtain ⟨σ11, e9⟩ : ∃ s : St, s = up3 σ10 15 o1 0 8 := ⟨_, rfl⟩
    have h := h σ11 e9
    have rb := fun Q9 z => rb Q9 (nm_n e9 z)
    have ok : okS σ11 := by rw [e9]; exact (ok_n ok (by decide))
    have fr : Fr (mF [56, 57, 58, 59, 60, 68] [] [(14, [18, 23, 24, 25]), (17, [0, 1, 2, 3, 4, 5])] [(15, o1, [0, 17, 19, 20, 21, 22, 31, 37, 39])]) σ σ11 := by rw [e9]; exact (Fr.up fr (mF_D (List.mem_of_getElem? (i := 0) rfl) rfl))
    exact ⟨σ11, h, ok, fr, fun Q9 hq => rb Q9 hq⟩
  have h := h.1 hc
  have rb := fun Q9 z => rb Q9 (br_v hc z)
  exact ⟨σ9, h, ok, fr, fun Q9 hq => rb Q9 hq⟩
set_option maxHeartbeats 4000000 in
theorem e14_dataOut_J67 {σ : St} {o1 : Nat} {x2 : Int32} {x3 : Int32} {x4 : Int32} {xs0 : Int32} {xs1 : Int32} {Q : St → Prop} (ho1 : o1 < 16) (ok : okS σ) (h : w14_dataOut_J67 σ o1 x2 x3 x4 xs0 xs1 Q) : (∃ (σ' : St), Q σ' ∧ okS σ' ∧ Fr (mF [56, 57, 58, 59, 60, 68] [] [(14, [18, 23, 24, 25]), (17, [0, 1, 2, 3, 4, 5])] [(15, o1, [0, 17, 19, 20, 21, 22, 31, 37, 39])]) σ σ' ∧ ∀ (Q9 : St → Prop), Q9 σ' → w14_dataOut_J67 σ o1 x2 x3 x4 xs0 xs1 Q9) := by
  have fr : Fr (mF [56, 57, 58, 59, 60, 68] [] [(14, [18, 23, 24, 25]), (17, [0, 1, 2, 3, 4, 5])] [(15, o1, [0, 17, 19, 20, 21, 22, 31, 37, 39])]) σ σ := Fr.rf
  have rb : ∀ (Q9 : St → Prop), w14_dataOut_J67 σ o1 x2 x3 x4 xs0 xs1 Q9 → w14_dataOut_J67 σ o1 x2 x3 x4 xs0 xs1 Q9 := fun _ z => z
  by_cases hc : (σ 15 o1 0) = 1
  · have h := h.1 hc
    have rb := fun Q9 z => rb Q9 (br_t hc z)
    obtain ⟨σ5, e9⟩ : ∃ s : St, s = up3 σ 14 0 18 ((σ 14 0 18) + 1) := ⟨_, rfl⟩
    have h := h σ5 e9
    have rb := fun Q9 z => rb Q9 (nm_n e9 z)
    have ok : okS σ5 := by rw [e9]; exact (ok_n ok (by decide))
    have fr : Fr (mF [56, 57, 58, 59, 60, 68] [] [(14, [18, 23, 24, 25]), (17, [0, 1, 2, 3, 4, 5])] [(15, o1, [0, 17, 19, 20, 21, 22, 31, 37, 39])]) σ σ5 := by rw [e9]; exact (Fr.up fr (mF_C (List.mem_of_getElem? (i := 0) rfl) rfl))
    obtain ⟨σ9, h, ok, fr9, rc⟩ := e14_dataOut_J113 ho1 ok h
    exact ⟨σ9, h, ok, fr.tr (fr9.sub (mF_sub rfl sub_nil rfl (sud_c (Or.inr ⟨_, List.mem_of_getElem? (i := 0) rfl, rfl⟩) sud_nil))), fun Q9 hq => rb Q9 (rc Q9 hq)⟩
  have h := h.2 hc
  have rb := fun Q9 z => rb Q9 (br_f hc z)
  by_cases hc : (σ 15 o1 0) = 6
  · have h := h.1 hc
    have rb := fun Q9 z => rb Q9 (br_t hc z)
    obtain ⟨σ13, e9⟩ : ∃ s : St, s = up3 σ 14 0 18 ((σ 14 0 18) + 1) := ⟨_, rfl⟩
    have h := h σ13 e9
    have rb := fun Q9 z => rb Q9 (nm_n e9 z)
    have ok : okS σ13 := by rw [e9]; exact (ok_n ok (by decide))
    have fr : Fr (mF [56, 57, 58, 59, 60, 68] [] [(14, [18, 23, 24, 25]), (17, [0, 1, 2, 3, 4, 5])] [(15, o1, [0, 17, 19, 20, 21, 22, 31, 37, 39])]) σ σ13 := by rw [e9]; exact (Fr.up fr (mF_C (List.mem_of_getElem? (i := 0) rfl) rfl))
    obtain ⟨σ9, h, ok, fr9, rc⟩ := e14_dataOut_J113 ho1 ok h
    exact ⟨σ9, h, ok, fr.tr (fr9.sub (mF_sub rfl sub_nil rfl (sud_c (Or.inr ⟨_, List.mem_of_getElem? (i := 0) rfl, rfl⟩) sud_nil))), fun Q9 hq => rb Q9 (rc Q9 hq)⟩
  have h := h.2 hc
  have rb := fun Q9 z => rb Q9 (br_f hc z)
  by_cases hc : (σ 15 o1 0) = 4
  · have h := h.1 hc
    have rb := fun Q9 z => rb Q9 (br_t hc z)
    obtain ⟨σ14, e9⟩ : ∃ s : St, s = up3 σ 14 0 18 ((σ 14 0 18) + 1) := ⟨_, rfl⟩
    have h := h σ14 e9
    have rb := fun Q9 z => rb Q9 (nm_n e9 z)
    have ok : okS σ14 := by rw [e9]; exact (ok_n ok (by decide))
    have fr : Fr (mF [56, 57, 58, 59, 60, 68] [] [(14, [18, 23, 24, 25]), (17, [0, 1, 2, 3, 4, 5])] [(15, o1, [0, 17, 19, 20, 21, 22, 31, 37, 39])]) σ σ14 := by rw [e9]; exact (Fr.up fr (mF_C (List.mem_of_getElem? (i := 0) rfl) rfl))
    obtain ⟨σ9, h, ok, fr9, rc⟩ := e14_dataOut_J113 ho1 ok h
    exact ⟨σ9, h, ok, fr.tr (fr9.sub (mF_sub rfl sub_nil rfl (sud_c (Or.inr ⟨_, List.mem_of_getElem? (i := 0) rfl, rfl⟩) sud_nil))), fun Q9 hq => rb Q9 (rc Q9 hq)⟩
  have h := h.2 hc
  have rb := fun Q9 z => rb Q9 (br_f hc z)
  by_cases hc : x3 ≤ (σ 15 o1 10)
  · have h := h.1 hc
    have rb := fun Q9 z => rb Q9 (br_t hc z)
    obtain ⟨σ9, h, ok, fr9, rc⟩ := e14_dataOut_J113 ho1 ok h
    exact ⟨σ9, h, ok, fr.tr (fr9.sub (mF_sub rfl sub_nil rfl (sud_c (Or.inr ⟨_, List.mem_of_getElem? (i := 0) rfl, rfl⟩) sud_nil))), fun Q9 hq => rb Q9 (rc Q9 hq)⟩
  have h := h.2 hc
  have rb := fun Q9 z => rb Q9 (br_f hc z)
  obtain ⟨σ15, e9⟩ : ∃ s : St, s = up3 σ 14 0 18 ((σ 14 0 18) + 1) := ⟨_, rfl⟩
  have h := h σ15 e9
  have rb := fun Q9 z => rb Q9 (nm_n e9 z)
  have ok : okS σ15 := by rw [e9]; exact (ok_n ok (by decide))
  have fr : Fr (mF [56, 57, 58, 59, 60, 68] [] [(14, [18, 23, 24, 25]), (17, [0, 1, 2, 3, 4, 5])] [(15, o1, [0, 17, 19, 20, 21, 22, 31, 37, 39])]) σ σ15 := by rw [e9]; exact (Fr.up fr (mF_C (List.mem_of_getElem? (i := 0) rfl) rfl))
  obtain ⟨σ9, h, ok, fr9, rc⟩ := e14_dataOut_J113 ho1 ok h
  exact ⟨σ9, h, ok, fr.tr (fr9.sub (mF_sub rfl sub_nil rfl (sud_c (Or.inr ⟨_, List.mem_of_getElem? (i := 0) rfl, rfl⟩) sud_nil))), fun Q9 hq => rb Q9 (rc Q9 hq)⟩
set_option maxHeartbeats 4000000 in
theorem e14_dataOut {σ : St} {o1 : Nat} {x2 : Int32} {x3 : Int32} {x4 : Int32} {Q : St → Prop} (ho1 : o1 < 16) (ok : okS σ) (h : w14_dataOut σ o1 x2 x3 x4 Q) : (∃ (σ' : St), Q σ' ∧ okS σ' ∧ Fr (mF [56, 57, 58, 59, 60, 68] [] [(14, [18, 23, 24, 25]), (17, [0, 1, 2, 3, 4, 5])] [(15, o1, [0, 17, 19, 20, 21, 22, 31, 37, 39])]) σ σ' ∧ ∀ (Q9 : St → Prop), Q9 σ' → w14_dataOut σ o1 x2 x3 x4 Q9) := by
  have fr : Fr (mF [56, 57, 58, 59, 60, 68] [] [(14, [18, 23, 24, 25]), (17, [0, 1, 2, 3, 4, 5])] [(15, o1, [0, 17, 19, 20, 21, 22, 31, 37, 39])]) σ σ := Fr.rf
  have rb : ∀ (Q9 : St → Prop), w14_dataOut σ o1 x2 x3 x4 Q9 → w14_dataOut σ o1 x2 x3 x4 Q9 := fun _ z => z
  obtain ⟨n9, h⟩ := h
  rcases e14_dataOut_L3 ho1 n9 ok h with ⟨σ4, h, ok, fr9, rc⟩
  · have rb := fun Q9 z => rb Q9 (Exists.intro n9 (rc _ _ z))
    have fr := fr.tr (fr9.sub (mF_sub rfl sub_nil rfl sud_nil))
    by_cases hc : x3 ≤ 0
    · have h := h.1 hc
      have rb := fun Q9 z => rb Q9 (br_t hc z)
      by_cases hc : x4 = 0
      · have h := h.1 hc
        have rb := fun Q9 z => rb Q9 (br_t hc z)
        obtain ⟨σ9, h, ok, fr9, rc⟩ := e14_dataOut_J67 ho1 ok h
        exact ⟨σ9, h, ok, fr.tr (fr9.sub (mF_sub rfl sub_nil rfl (sud_c (Or.inr ⟨_, List.mem_of_getElem? (i := 0) rfl, rfl⟩) sud_nil))), fun Q9 hq => rb Q9 (rc Q9 hq)⟩
      have h := h.2 hc
      have rb := fun Q9 z => rb Q9 (br_f hc z)
      obtain ⟨σ9, h, ok, fr9, rc⟩ := e14_dataOut_J67 ho1 ok h
      exact ⟨σ9, h, ok, fr.tr (fr9.sub (mF_sub rfl sub_nil rfl (sud_c (Or.inr ⟨_, List.mem_of_getElem? (i := 0) rfl, rfl⟩) sud_nil))), fun Q9 hq => rb Q9 (rc Q9 hq)⟩
    have h := h.2 hc
    have rb := fun Q9 z => rb Q9 (br_f hc z)
    obtain ⟨r16, h, rc⟩ := e15_behind ho1 ok h
    have rb := fun Q9 z => rb Q9 (rc _ z)
    by_cases hc : (x2 + x3) = r16
    · have h := h.2 hc
      have rb := fun Q9 z => rb Q9 (br_u hc z)
      by_cases hc : x4 = 0
      · have h := h.1 hc
        have rb := fun Q9 z => rb Q9 (br_t hc z)
        obtain ⟨σ9, h, ok, fr9, rc⟩ := e14_dataOut_J67 ho1 ok h
        exact ⟨σ9, h, ok, fr.tr (fr9.sub (mF_sub rfl sub_nil rfl (sud_c (Or.inr ⟨_, List.mem_of_getElem? (i := 0) rfl, rfl⟩) sud_nil))), fun Q9 hq => rb Q9 (rc Q9 hq)⟩
      have h := h.2 hc
      have rb := fun Q9 z => rb Q9 (br_f hc z)
      obtain ⟨σ9, h, ok, fr9, rc⟩ := e14_dataOut_J67 ho1 ok h
      exact ⟨σ9, h, ok, fr.tr (fr9.sub (mF_sub rfl sub_nil rfl (sud_c (Or.inr ⟨_, List.mem_of_getElem? (i := 0) rfl, rfl⟩) sud_nil))), fun Q9 hq => rb Q9 (rc Q9 hq)⟩
    have h := h.1 hc
    have rb := fun Q9 z => rb Q9 (br_v hc z)
    by_cases hc : x4 = 0
    · have h := h.1 hc
      have rb := fun Q9 z => rb Q9 (br_t hc z)
      obtain ⟨σ9, h, ok, fr9, rc⟩ := e14_dataOut_J67 ho1 ok h
      exact ⟨σ9, h, ok, fr.tr (fr9.sub (mF_sub rfl sub_nil rfl (sud_c (Or.inr ⟨_, List.mem_of_getElem? (i := 0) rfl, rfl⟩) sud_nil))), fun Q9 hq => rb Q9 (rc Q9 hq)⟩
    have h := h.2 hc
    have rb := fun Q9 z => rb Q9 (br_f hc z)
    obtain ⟨σ9, h, ok, fr9, rc⟩ := e14_dataOut_J67 ho1 ok h
    exact ⟨σ9, h, ok, fr.tr (fr9.sub (mF_sub rfl sub_nil rfl (sud_c (Or.inr ⟨_, List.mem_of_getElem? (i := 0) rfl, rfl⟩) sud_nil))), fun Q9 hq => rb Q9 (rc Q9 hq)⟩
/-! WebHostModel.field(II)Z -/
set_option maxHeartbeats 4000000 in
theorem e14_field_L2 {σ : St} {x1 : Int32} {x2 : Int32} {Q : Int32 → St → Prop} {K24 : Int32 → Prop} (ok : okS σ) :
    ∀ (n : Nat) {x3 : Int32}, w14_field_L2 σ x1 x2 Q K24 n x3 → (∃ (x3' : Int32), K24 x3' ∧ ∀ (Q9 : Int32 → St → Prop) (K9_24 : Int32 → Prop), K9_24 x3' → w14_field_L2 σ x1 x2 Q9 K9_24 n x3) := by
  intro n
  induction n with
  | zero =>
    intro x3 h
    exact False.elim h
  | succ n ih =>
    intro x3 h
    have rb : ∀ (Q9 : Int32 → St → Prop) (K9_24 : Int32 → Prop), w14_field_L2 σ x1 x2 Q9 K9_24 (n + 1) x3 → w14_field_L2 σ x1 x2 Q9 K9_24 (n + 1) x3 := fun _ _ z => z
    by_cases hc : x2 ≤ x3
    · have h := h.1 hc
      have rb := fun Q9 K9_24 z => rb Q9 K9_24 (br_t hc z)
      exact ⟨x3, h, fun Q9 K9_24 hq => rb Q9 K9_24 hq⟩
    have h := h.2 hc
    have rb := fun Q9 K9_24 z => rb Q9 K9_24 (br_f hc z)
    obtain ⟨r1, h, rc⟩ := e14_headAt ok h
    have rb := fun Q9 K9_24 z => rb Q9 K9_24 (rc _ z)
    obtain ⟨r2, h, rc⟩ := e14_isNameCode ok h
    have rb := fun Q9 K9_24 z => rb Q9 K9_24 (rc _ z)
    by_cases hc : r2 = 0
    · have h := h.1 hc
      have rb := fun Q9 K9_24 z => rb Q9 K9_24 (br_t hc z)
      exact ⟨x3, h, fun Q9 K9_24 hq => rb Q9 K9_24 hq⟩
    have h := h.2 hc
    have rb := fun Q9 K9_24 z => rb Q9 K9_24 (br_f hc z)
    rcases ih h with ⟨x3, h, rc⟩
    · exact ⟨x3, h, fun Q9 K9_24 hq => rb Q9 K9_24 (rc Q9 K9_24 hq)⟩
set_option maxHeartbeats 4000000 in
theorem e14_field_L59 {σ : St} {x1 : Int32} {x3 : Int32} {x4 : Int32} {x5 : Int32} {Q : Int32 → St → Prop} {K95 : Prop} {K103 : Prop} (ok : okS σ) :
    ∀ (n : Nat) {x6 : Int32}, w14_field_L59 σ x1 x3 x4 x5 Q K95 K103 n x6 → (K95 ∧ ∀ (Q9 : Int32 → St → Prop) (K9_95 : Prop) (K9_103 : Prop), K9_95 → w14_field_L59 σ x1 x3 x4 x5 Q9 K9_95 K9_103 n x6) ∨ (K103 ∧ ∀ (Q9 : Int32 → St → Prop) (K9_95 : Prop) (K9_103 : Prop), K9_103 → w14_field_L59 σ x1 x3 x4 x5 Q9 K9_95 K9_103 n x6) := by
  intro n
  induction n with
  | zero =>
    intro x6 h
    exact False.elim h
  | succ n ih =>
    intro x6 h
    have rb : ∀ (Q9 : Int32 → St → Prop) (K9_95 : Prop) (K9_103 : Prop), w14_field_L59 σ x1 x3 x4 x5 Q9 K9_95 K9_103 (n + 1) x6 → w14_field_L59 σ x1 x3 x4 x5 Q9 K9_95 K9_103 (n + 1) x6 := fun _ _ _ z => z
    by_cases hc : x5 ≤ x6
    · have h := h.1 hc
      have rb := fun Q9 K9_95 K9_103 z => rb Q9 K9_95 K9_103 (br_t hc z)
      exact (Or.inr ⟨h, fun Q9 K9_95 K9_103 hq => rb Q9 K9_95 K9_103 hq⟩)
    have h := h.2 hc
    have rb := fun Q9 K9_95 K9_103 z => rb Q9 K9_95 K9_103 (br_f hc z)
    obtain ⟨r5, h, rc⟩ := e14_headAt ok h
    have rb := fun Q9 K9_95 K9_103 z => rb Q9 K9_95 K9_103 (rc _ z)
    by_cases hc : r5 = 9
    · have h := h.1 hc
      have rb := fun Q9 K9_95 K9_103 z => rb Q9 K9_95 K9_103 (br_t hc z)
      rcases ih h with ⟨h, rc⟩ | ⟨h, rc⟩
      · exact (Or.inl ⟨h, fun Q9 K9_95 K9_103 hq => rb Q9 K9_95 K9_103 (rc Q9 K9_95 K9_103 hq)⟩)
      · exact (Or.inr ⟨h, fun Q9 K9_95 K9_103 hq => rb Q9 K9_95 K9_103 (rc Q9 K9_95 K9_103 hq)⟩)
    have h := h.2 hc
    have rb := fun Q9 K9_95 K9_103 z => rb Q9 K9_95 K9_103 (br_f hc z)
    by_cases hc : r5 < 32
    · have h := h.1 hc
      have rb := fun Q9 K9_95 K9_103 z => rb Q9 K9_95 K9_103 (br_t hc z)
      exact (Or.inl ⟨h, fun Q9 K9_95 K9_103 hq => rb Q9 K9_95 K9_103 hq⟩)
    have h := h.2 hc
    have rb := fun Q9 K9_95 K9_103 z => rb Q9 K9_95 K9_103 (br_f hc z)
    by_cases hc : r5 = 127
    · have h := h.2 hc
      have rb := fun Q9 K9_95 K9_103 z => rb Q9 K9_95 K9_103 (br_u hc z)
      exact (Or.inl ⟨h, fun Q9 K9_95 K9_103 hq => rb Q9 K9_95 K9_103 hq⟩)
    have h := h.1 hc
    have rb := fun Q9 K9_95 K9_103 z => rb Q9 K9_95 K9_103 (br_v hc z)
    rcases ih h with ⟨h, rc⟩ | ⟨h, rc⟩
    · exact (Or.inl ⟨h, fun Q9 K9_95 K9_103 hq => rb Q9 K9_95 K9_103 (rc Q9 K9_95 K9_103 hq)⟩)
    · exact (Or.inr ⟨h, fun Q9 K9_95 K9_103 hq => rb Q9 K9_95 K9_103 (rc Q9 K9_95 K9_103 hq)⟩)
set_option maxHeartbeats 4000000 in
theorem e14_field_L103 {σ : St} {x1 : Int32} {x3 : Int32} {x5 : Int32} {Q : Int32 → St → Prop} {K128 : Int32 → Prop} (ok : okS σ) :
    ∀ (n : Nat) {x4 : Int32}, w14_field_L103 σ x1 x3 x5 Q K128 n x4 → (∃ (x4' : Int32), K128 x4' ∧ ∀ (Q9 : Int32 → St → Prop) (K9_128 : Int32 → Prop), K9_128 x4' → w14_field_L103 σ x1 x3 x5 Q9 K9_128 n x4) := by
  intro n
  induction n with
  | zero =>
    intro x4 h
    exact False.elim h
  | succ n ih =>
    intro x4 h
    have rb : ∀ (Q9 : Int32 → St → Prop) (K9_128 : Int32 → Prop), w14_field_L103 σ x1 x3 x5 Q9 K9_128 (n + 1) x4 → w14_field_L103 σ x1 x3 x5 Q9 K9_128 (n + 1) x4 := fun _ _ z => z
    by_cases hc : x5 ≤ x4
    · have h := h.1 hc
      have rb := fun Q9 K9_128 z => rb Q9 K9_128 (br_t hc z)
      exact ⟨x4, h, fun Q9 K9_128 hq => rb Q9 K9_128 hq⟩
    have h := h.2 hc
    have rb := fun Q9 K9_128 z => rb Q9 K9_128 (br_f hc z)
    obtain ⟨r9, h, rc⟩ := e14_headAt ok h
    have rb := fun Q9 K9_128 z => rb Q9 K9_128 (rc _ z)
    obtain ⟨r10, h, rc⟩ := e14_isBlank ok h
    have rb := fun Q9 K9_128 z => rb Q9 K9_128 (rc _ z)
    by_cases hc : r10 = 0
    · have h := h.1 hc
      have rb := fun Q9 K9_128 z => rb Q9 K9_128 (br_t hc z)
      exact ⟨x4, h, fun Q9 K9_128 hq => rb Q9 K9_128 hq⟩
    have h := h.2 hc
    have rb := fun Q9 K9_128 z => rb Q9 K9_128 (br_f hc z)
    rcases ih h with ⟨x4, h, rc⟩
    · exact ⟨x4, h, fun Q9 K9_128 hq => rb Q9 K9_128 (rc Q9 K9_128 hq)⟩
set_option maxHeartbeats 4000000 in
theorem e14_field_L128 {σ : St} {x1 : Int32} {x3 : Int32} {x4 : Int32} {Q : Int32 → St → Prop} {K155 : Int32 → Prop} (ok : okS σ) :
    ∀ (n : Nat) {x5 : Int32}, w14_field_L128 σ x1 x3 x4 Q K155 n x5 → (∃ (x5' : Int32), K155 x5' ∧ ∀ (Q9 : Int32 → St → Prop) (K9_155 : Int32 → Prop), K9_155 x5' → w14_field_L128 σ x1 x3 x4 Q9 K9_155 n x5) := by
  intro n
  induction n with
  | zero =>
    intro x5 h
    exact False.elim h
  | succ n ih =>
    intro x5 h
    have rb : ∀ (Q9 : Int32 → St → Prop) (K9_155 : Int32 → Prop), w14_field_L128 σ x1 x3 x4 Q9 K9_155 (n + 1) x5 → w14_field_L128 σ x1 x3 x4 Q9 K9_155 (n + 1) x5 := fun _ _ z => z
    by_cases hc : x5 ≤ x4
    · have h := h.1 hc
      have rb := fun Q9 K9_155 z => rb Q9 K9_155 (br_t hc z)
      exact ⟨x5, h, fun Q9 K9_155 hq => rb Q9 K9_155 hq⟩
    have h := h.2 hc
    have rb := fun Q9 K9_155 z => rb Q9 K9_155 (br_f hc z)
    obtain ⟨r13, h, rc⟩ := e14_headAt ok h
    have rb := fun Q9 K9_155 z => rb Q9 K9_155 (rc _ z)
    obtain ⟨r14, h, rc⟩ := e14_isBlank ok h
    have rb := fun Q9 K9_155 z => rb Q9 K9_155 (rc _ z)
    by_cases hc : r14 = 0
    · have h := h.1 hc
      have rb := fun Q9 K9_155 z => rb Q9 K9_155 (br_t hc z)
      exact ⟨x5, h, fun Q9 K9_155 hq => rb Q9 K9_155 hq⟩
    have h := h.2 hc
    have rb := fun Q9 K9_155 z => rb Q9 K9_155 (br_f hc z)
    rcases ih h with ⟨x5, h, rc⟩
    · exact ⟨x5, h, fun Q9 K9_155 hq => rb Q9 K9_155 (rc Q9 K9_155 hq)⟩
set_option maxHeartbeats 4000000 in
theorem e14_field_J234 {σ : St} {x1 : Int32} {x3 : Int32} {x4 : Int32} {x5 : Int32} {Q : Int32 → St → Prop} (ok : okS σ) (h : w14_field_J234 σ x1 x3 x4 x5 Q) : (∃ (r : Int32) (σ' : St), Q r σ' ∧ okS σ' ∧ Fr (mF [] [] [(14, [50, 61, 62])] []) σ σ' ∧ ∀ (Q9 : Int32 → St → Prop), Q9 r σ' → w14_field_J234 σ x1 x3 x4 x5 Q9) := by
  have fr : Fr (mF [] [] [(14, [50, 61, 62])] []) σ σ := Fr.rf
  have rb : ∀ (Q9 : Int32 → St → Prop), w14_field_J234 σ x1 x3 x4 x5 Q9 → w14_field_J234 σ x1 x3 x4 x5 Q9 := fun _ z => z
  obtain ⟨r21, h, rc⟩ := e14_saysSmall (by decide) ok h
  have rb := fun Q9 z => rb Q9 (rc _ z)
  by_cases hc : r21 = 0
  · have h := h.1 hc
    have rb := fun Q9 z => rb Q9 (br_t hc z)
    exact ⟨1, σ, h, ok, fr, fun Q9 hq => rb Q9 hq⟩
  have h := h.2 hc
  have rb := fun Q9 z => rb Q9 (br_f hc z)
  obtain ⟨σ22, e9⟩ : ∃ s : St, s = up3 σ 14 0 50 ((σ 14 0 50) + 1) := ⟨_, rfl⟩
  have h := h σ22 e9
  have rb := fun Q9 z => rb Q9 (nm_n e9 z)
  have ok : okS σ22 := by rw [e9]; exact (ok_n ok (by decide))
  have fr : Fr (mF [] [] [(14, [50, 61, 62])] []) σ σ22 := by rw [e9]; exact (Fr.up fr (mF_C (List.mem_of_getElem? (i := 0) rfl) rfl))
  obtain ⟨σ23, e9⟩ : ∃ s : St, s = up3 σ22 14 0 61 x4 := ⟨_, rfl⟩
  have h := h σ23 e9
  have rb := fun Q9 z => rb Q9 (nm_n e9 z)
  have ok : okS σ23 := by rw [e9]; exact (ok_n ok (by decide))
  have fr : Fr (mF [] [] [(14, [50, 61, 62])] []) σ σ23 := by rw [e9]; exact (Fr.up fr (mF_C (List.mem_of_getElem? (i := 0) rfl) rfl))
  obtain ⟨σ24, e9⟩ : ∃ s : St, s = up3 σ23 14 0 62 x5 := ⟨_, rfl⟩
  have h := h σ24 e9
  have rb := fun Q9 z => rb Q9 (nm_n e9 z)
  have ok : okS σ24 := by rw [e9]; exact (ok_n ok (by decide))
  have fr : Fr (mF [] [] [(14, [50, 61, 62])] []) σ σ24 := by rw [e9]; exact (Fr.up fr (mF_C (List.mem_of_getElem? (i := 0) rfl) rfl))
  exact ⟨1, σ24, h, ok, fr, fun Q9 hq => rb Q9 hq⟩
set_option maxHeartbeats 4000000 in
theorem e14_field_J214 {σ : St} {x1 : Int32} {x3 : Int32} {x4 : Int32} {x5 : Int32} {Q : Int32 → St → Prop} (ok : okS σ) (h : w14_field_J214 σ x1 x3 x4 x5 Q) : (∃ (r : Int32) (σ' : St), Q r σ' ∧ okS σ' ∧ Fr (mF [] [] [(14, [46, 47, 50, 61, 62])] []) σ σ' ∧ ∀ (Q9 : Int32 → St → Prop), Q9 r σ' → w14_field_J214 σ x1 x3 x4 x5 Q9) := by
  have fr : Fr (mF [] [] [(14, [46, 47, 50, 61, 62])] []) σ σ := Fr.rf
  have rb : ∀ (Q9 : Int32 → St → Prop), w14_field_J214 σ x1 x3 x4 x5 Q9 → w14_field_J214 σ x1 x3 x4 x5 Q9 := fun _ z => z
  obtain ⟨r20, h, rc⟩ := e14_saysSmall (by decide) ok h
  have rb := fun Q9 z => rb Q9 (rc _ z)
  by_cases hc : r20 = 0
  · have h := h.1 hc
    have rb := fun Q9 z => rb Q9 (br_t hc z)
    obtain ⟨r9, σ9, h, ok, fr9, rc⟩ := e14_field_J234 ok h
    exact ⟨r9, σ9, h, ok, fr.tr (fr9.sub (mF_sub rfl sub_nil rfl sud_nil)), fun Q9 hq => rb Q9 (rc Q9 hq)⟩
  have h := h.2 hc
  have rb := fun Q9 z => rb Q9 (br_f hc z)
  obtain ⟨σ25, h, ok, fr9, rc⟩ := e14_words ok h
  have fr := fr.tr (fr9.sub (mF_sub rfl sub_nil rfl sud_nil))
  have rb := fun Q9 z => rb Q9 (rc _ z)
  obtain ⟨r9, σ9, h, ok, fr9, rc⟩ := e14_field_J234 ok h
  exact ⟨r9, σ9, h, ok, fr.tr (fr9.sub (mF_sub rfl sub_nil rfl sud_nil)), fun Q9 hq => rb Q9 (rc Q9 hq)⟩
set_option maxHeartbeats 4000000 in
theorem e14_field_J194 {σ : St} {x1 : Int32} {x3 : Int32} {x4 : Int32} {x5 : Int32} {Q : Int32 → St → Prop} (ok : okS σ) (h : w14_field_J194 σ x1 x3 x4 x5 Q) : (∃ (r : Int32) (σ' : St), Q r σ' ∧ okS σ' ∧ Fr (mF [] [] [(14, [46, 47, 49, 50, 51, 52, 53, 61, 62])] []) σ σ' ∧ ∀ (Q9 : Int32 → St → Prop), Q9 r σ' → w14_field_J194 σ x1 x3 x4 x5 Q9) := by
  have fr : Fr (mF [] [] [(14, [46, 47, 49, 50, 51, 52, 53, 61, 62])] []) σ σ := Fr.rf
  have rb : ∀ (Q9 : Int32 → St → Prop), w14_field_J194 σ x1 x3 x4 x5 Q9 → w14_field_J194 σ x1 x3 x4 x5 Q9 := fun _ z => z
  obtain ⟨r19, h, rc⟩ := e14_saysSmall (by decide) ok h
  have rb := fun Q9 z => rb Q9 (rc _ z)
  by_cases hc : r19 = 0
  · have h := h.1 hc
    have rb := fun Q9 z => rb Q9 (br_t hc z)
    obtain ⟨r9, σ9, h, ok, fr9, rc⟩ := e14_field_J214 ok h
    exact ⟨r9, σ9, h, ok, fr.tr (fr9.sub (mF_sub rfl sub_nil rfl sud_nil)), fun Q9 hq => rb Q9 (rc Q9 hq)⟩
  have h := h.2 hc
  have rb := fun Q9 z => rb Q9 (br_f hc z)
  obtain ⟨σ26, h, ok, fr9, rc⟩ := e14_contentLength ok h
  have fr := fr.tr (fr9.sub (mF_sub rfl sub_nil rfl sud_nil))
  have rb := fun Q9 z => rb Q9 (rc _ z)
  obtain ⟨r9, σ9, h, ok, fr9, rc⟩ := e14_field_J214 ok h
  exact ⟨r9, σ9, h, ok, fr.tr (fr9.sub (mF_sub rfl sub_nil rfl sud_nil)), fun Q9 hq => rb Q9 (rc Q9 hq)⟩
set_option maxHeartbeats 4000000 in
theorem e14_field_J155 {σ : St} {x1 : Int32} {x3 : Int32} {x4 : Int32} {x5 : Int32} {Q : Int32 → St → Prop} (ok : okS σ) (h : w14_field_J155 σ x1 x3 x4 x5 Q) : (∃ (r : Int32) (σ' : St), Q r σ' ∧ okS σ' ∧ Fr (mF [] [] [(14, [46, 47, 48, 49, 50, 51, 52, 53, 54, 61, 62])] []) σ σ' ∧ ∀ (Q9 : Int32 → St → Prop), Q9 r σ' → w14_field_J155 σ x1 x3 x4 x5 Q9) := by
  have fr : Fr (mF [] [] [(14, [46, 47, 48, 49, 50, 51, 52, 53, 54, 61, 62])] []) σ σ := Fr.rf
  have rb : ∀ (Q9 : Int32 → St → Prop), w14_field_J155 σ x1 x3 x4 x5 Q9 → w14_field_J155 σ x1 x3 x4 x5 Q9 := fun _ z => z
  obtain ⟨r17, h, rc⟩ := e14_saysSmall (by decide) ok h
  have rb := fun Q9 z => rb Q9 (rc _ z)
  by_cases hc : r17 = 0
  · have h := h.1 hc
    have rb := fun Q9 z => rb Q9 (br_t hc z)
    obtain ⟨r18, h, rc⟩ := e14_saysSmall (by decide) ok h
    have rb := fun Q9 z => rb Q9 (rc _ z)
    by_cases hc : r18 = 0
    · have h := h.1 hc
      have rb := fun Q9 z => rb Q9 (br_t hc z)
      obtain ⟨r9, σ9, h, ok, fr9, rc⟩ := e14_field_J194 ok h
      exact ⟨r9, σ9, h, ok, fr.tr (fr9.sub (mF_sub rfl sub_nil rfl sud_nil)), fun Q9 hq => rb Q9 (rc Q9 hq)⟩
    have h := h.2 hc
    have rb := fun Q9 z => rb Q9 (br_f hc z)
    obtain ⟨σ27, e9⟩ : ∃ s : St, s = up3 σ 14 0 54 1 := ⟨_, rfl⟩
    have h := h σ27 e9
    have rb := fun Q9 z => rb Q9 (nm_n e9 z)
    have ok : okS σ27 := by rw [e9]; exact (ok_z ok (by decide) (Or.inr rfl))
    have fr : Fr (mF [] [] [(14, [46, 47, 48, 49, 50, 51, 52, 53, 54, 61, 62])] []) σ σ27 := by rw [e9]; exact (Fr.up fr (mF_C (List.mem_of_getElem? (i := 0) rfl) rfl))
    obtain ⟨r9, σ9, h, ok, fr9, rc⟩ := e14_field_J194 ok h
    exact ⟨r9, σ9, h, ok, fr.tr (fr9.sub (mF_sub rfl sub_nil rfl sud_nil)), fun Q9 hq => rb Q9 (rc Q9 hq)⟩
  have h := h.2 hc
  have rb := fun Q9 z => rb Q9 (br_f hc z)
  obtain ⟨σ28, e9⟩ : ∃ s : St, s = up3 σ 14 0 48 ((σ 14 0 48) + 1) := ⟨_, rfl⟩
  have h := h σ28 e9
  have rb := fun Q9 z => rb Q9 (nm_n e9 z)
  have ok : okS σ28 := by rw [e9]; exact (ok_n ok (by decide))
  have fr : Fr (mF [] [] [(14, [46, 47, 48, 49, 50, 51, 52, 53, 54, 61, 62])] []) σ σ28 := by rw [e9]; exact (Fr.up fr (mF_C (List.mem_of_getElem? (i := 0) rfl) rfl))
  obtain ⟨r29, h, rc⟩ := e14_saysSmall (by decide) ok h
  have rb := fun Q9 z => rb Q9 (rc _ z)
  by_cases hc : r29 = 0
  · have h := h.1 hc
    have rb := fun Q9 z => rb Q9 (br_t hc z)
    obtain ⟨r9, σ9, h, ok, fr9, rc⟩ := e14_field_J194 ok h
    exact ⟨r9, σ9, h, ok, fr.tr (fr9.sub (mF_sub rfl sub_nil rfl sud_nil)), fun Q9 hq => rb Q9 (rc Q9 hq)⟩
  have h := h.2 hc
  have rb := fun Q9 z => rb Q9 (br_f hc z)
  obtain ⟨σ30, e9⟩ : ∃ s : St, s = up3 σ28 14 0 54 1 := ⟨_, rfl⟩
  have h := h σ30 e9
  have rb := fun Q9 z => rb Q9 (nm_n e9 z)
  have ok : okS σ30 := by rw [e9]; exact (ok_z ok (by decide) (Or.inr rfl))
  have fr : Fr (mF [] [] [(14, [46, 47, 48, 49, 50, 51, 52, 53, 54, 61, 62])] []) σ σ30 := by rw [e9]; exact (Fr.up fr (mF_C (List.mem_of_getElem? (i := 0) rfl) rfl))
  obtain ⟨r9, σ9, h, ok, fr9, rc⟩ := e14_field_J194 ok h
  exact ⟨r9, σ9, h, ok, fr.tr (fr9.sub (mF_sub rfl sub_nil rfl sud_nil)), fun Q9 hq => rb Q9 (rc Q9 hq)⟩
set_option maxHeartbeats 4000000 in
theorem e14_field_J24 {σ : St} {x1 : Int32} {x2 : Int32} {x3 : Int32} {Q : Int32 → St → Prop} (ok : okS σ) (h : w14_field_J24 σ x1 x2 x3 Q) : (∃ (r : Int32) (σ' : St), Q r σ' ∧ okS σ' ∧ Fr (mF [] [] [(14, [46, 47, 48, 49, 50, 51, 52, 53, 54, 61, 62])] []) σ σ' ∧ ∀ (Q9 : Int32 → St → Prop), Q9 r σ' → w14_field_J24 σ x1 x2 x3 Q9) := by
  have fr : Fr (mF [] [] [(14, [46, 47, 48, 49, 50, 51, 52, 53, 54, 61, 62])] []) σ σ := Fr.rf
  have rb : ∀ (Q9 : Int32 → St → Prop), w14_field_J24 σ x1 x2 x3 Q9 → w14_field_J24 σ x1 x2 x3 Q9 := fun _ z => z
  by_cases hc : x3 = x1
  · have h := h.1 hc
    have rb := fun Q9 z => rb Q9 (br_t hc z)
    exact ⟨0, σ, h, ok, fr, fun Q9 hq => rb Q9 hq⟩
  have h := h.2 hc
  have rb := fun Q9 z => rb Q9 (br_f hc z)
  by_cases hc : x3 = x2
  · have h := h.1 hc
    have rb := fun Q9 z => rb Q9 (br_t hc z)
    exact ⟨0, σ, h, ok, fr, fun Q9 hq => rb Q9 hq⟩
  have h := h.2 hc
  have rb := fun Q9 z => rb Q9 (br_f hc z)
  obtain ⟨hc, h⟩ := h
  have rb := fun Q9 z => rb Q9 (And.intro hc z)
  have h := h ((ok 66 0 _).2 (tyk_a 66 2 (by decide) (by decide) _))
  have rb := fun Q9 z => rb Q9 (im_n z)
  by_cases hc : (σ 66 0 x3.toNatClampNeg) = 58
  · have h := h.1 hc
    have rb := fun Q9 z => rb Q9 (br_t hc z)
    obtain ⟨n9, h⟩ := h
    rcases e14_field_L59 ok n9 h with ⟨h, rc⟩ | ⟨h, rc⟩
    · have rb := fun Q9 z => rb Q9 (Exists.intro n9 (rc _ _ _ z))
      exact ⟨0, σ, h, ok, fr, fun Q9 hq => rb Q9 hq⟩
    · have rb := fun Q9 z => rb Q9 (Exists.intro n9 (rc _ _ _ z))
      obtain ⟨n9, h⟩ := h
      rcases e14_field_L103 ok n9 h with ⟨x4_12, h, rc⟩
      · have rb := fun Q9 z => rb Q9 (Exists.intro n9 (rc _ _ z))
        obtain ⟨n9, h⟩ := h
        rcases e14_field_L128 ok n9 h with ⟨x5_16, h, rc⟩
        · have rb := fun Q9 z => rb Q9 (Exists.intro n9 (rc _ _ z))
          obtain ⟨r9, σ9, h, ok, fr9, rc⟩ := e14_field_J155 ok h
          exact ⟨r9, σ9, h, ok, fr.tr (fr9.sub (mF_sub rfl sub_nil rfl sud_nil)), fun Q9 hq => rb Q9 (rc Q9 hq)⟩
  have h := h.2 hc
  have rb := fun Q9 z => rb Q9 (br_f hc z)
  exact ⟨0, σ, h, ok, fr, fun Q9 hq => rb Q9 hq⟩
set_option maxHeartbeats 4000000 in
theorem e14_field {σ : St} {x1 : Int32} {x2 : Int32} {Q : Int32 → St → Prop} (ok : okS σ) (h : w14_field σ x1 x2 Q) : (∃ (r : Int32) (σ' : St), Q r σ' ∧ okS σ' ∧ Fr (mF [] [] [(14, [46, 47, 48, 49, 50, 51, 52, 53, 54, 61, 62])] []) σ σ' ∧ ∀ (Q9 : Int32 → St → Prop), Q9 r σ' → w14_field σ x1 x2 Q9) := by
  have fr : Fr (mF [] [] [(14, [46, 47, 48, 49, 50, 51, 52, 53, 54, 61, 62])] []) σ σ := Fr.rf
  have rb : ∀ (Q9 : Int32 → St → Prop), w14_field σ x1 x2 Q9 → w14_field σ x1 x2 Q9 := fun _ z => z
  obtain ⟨n9, h⟩ := h
  rcases e14_field_L2 ok n9 h with ⟨x3_4, h, rc⟩
  · have rb := fun Q9 z => rb Q9 (Exists.intro n9 (rc _ _ z))
    obtain ⟨r9, σ9, h, ok, fr9, rc⟩ := e14_field_J24 ok h
    exact ⟨r9, σ9, h, ok, fr.tr (fr9.sub (mF_sub rfl sub_nil rfl sud_nil)), fun Q9 hq => rb Q9 (rc Q9 hq)⟩
/-! WebHostModel.make(LWebHostModel$Connection;IZ)V -/
set_option maxHeartbeats 4000000 in
theorem e14_make_J308 {σ : St} {o1 : Nat} {x2 : Int32} {x5 : Int32} {xs0 : Int32} {os1 : Nat} {Q : St → Prop} (ho1 : o1 < 16) (hos1 : os1 < 16) (ok : okS σ) (h : w14_make_J308 σ o1 x2 x5 xs0 os1 Q) : (∃ (σ' : St), Q σ' ∧ okS σ' ∧ Fr (mF [] [(71, o1)] [] [(15, o1, [26]), (15, os1, [28])]) σ σ' ∧ ∀ (Q9 : St → Prop), Q9 σ' → w14_make_J308 σ o1 x2 x5 xs0 os1 Q9) := by
  have fr : Fr (mF [] [(71, o1)] [] [(15, o1, [26]), (15, os1, [28])]) σ σ := Fr.rf
  have rb : ∀ (Q9 : St → Prop), w14_make_J308 σ o1 x2 x5 xs0 os1 Q9 → w14_make_J308 σ o1 x2 x5 xs0 os1 Q9 := fun _ z => z
  obtain ⟨σ15, e9⟩ : ∃ s : St, s = up3 σ 15 os1 28 xs0 := ⟨_, rfl⟩
  have h := h σ15 e9
  have rb := fun Q9 z => rb Q9 (nm_n e9 z)
  have ok : okS σ15 := by rw [e9]; exact (ok_n ok (by decide))
  have fr : Fr (mF [] [(71, o1)] [] [(15, o1, [26]), (15, os1, [28])]) σ σ15 := by rw [e9]; exact (Fr.up fr (mF_D (List.mem_of_getElem? (i := 1) rfl) rfl))
  by_cases hc : x5 = 0
  · have h := h.1 hc
    have rb := fun Q9 z => rb Q9 (br_t hc z)
    exact ⟨σ15, h, ok, fr, fun Q9 hq => rb Q9 hq⟩
  have h := h.2 hc
  have rb := fun Q9 z => rb Q9 (br_f hc z)
  by_cases hc : 0 ≤ x2
  · have h := h.1 hc
    have rb := fun Q9 z => rb Q9 (br_t hc z)
    exact ⟨σ15, h, ok, fr, fun Q9 hq => rb Q9 hq⟩
  have h := h.2 hc
  have rb := fun Q9 z => rb Q9 (br_f hc z)
  obtain ⟨σ16, h, ok, fr9, rc⟩ := e14_sayNumber ho1 ok h
  have fr := fr.tr (fr9.sub (mF_sub rfl (sub_c (Or.inr (List.mem_of_getElem? (i := 0) rfl)) sub_nil) rfl (sud_c (Or.inr ⟨_, List.mem_of_getElem? (i := 0) rfl, rfl⟩) sud_nil)))
  have rb := fun Q9 z => rb Q9 (rc _ z)
  obtain ⟨σ17, h, ok, fr9, rc⟩ := e14_code ho1 ok h
  have fr := fr.tr (fr9.sub (mF_sub rfl (sub_c (Or.inr (List.mem_of_getElem? (i := 0) rfl)) sub_nil) rfl (sud_c (Or.inr ⟨_, List.mem_of_getElem? (i := 0) rfl, rfl⟩) sud_nil)))
  have rb := fun Q9 z => rb Q9 (rc _ z)
  obtain ⟨t18, h, rc⟩ := e14_phrase ok h
  have rb := fun Q9 z => rb Q9 (rc _ z)
  obtain ⟨ht18, h⟩ := h
  have rb := fun Q9 z => rb Q9 (And.intro ht18 z)
  obtain ⟨σ19, h, ok, fr9, rc⟩ := e14_say ho1 ht18 ok h
  have fr := fr.tr (fr9.sub (mF_sub rfl (sub_c (Or.inr (List.mem_of_getElem? (i := 0) rfl)) sub_nil) rfl (sud_c (Or.inr ⟨_, List.mem_of_getElem? (i := 0) rfl, rfl⟩) sud_nil)))
  have rb := fun Q9 z => rb Q9 (rc _ z)
  obtain ⟨σ20, h, ok, fr9, rc⟩ := e14_code ho1 ok h
  have fr := fr.tr (fr9.sub (mF_sub rfl (sub_c (Or.inr (List.mem_of_getElem? (i := 0) rfl)) sub_nil) rfl (sud_c (Or.inr ⟨_, List.mem_of_getElem? (i := 0) rfl, rfl⟩) sud_nil)))
  have rb := fun Q9 z => rb Q9 (rc _ z)
  exact ⟨σ20, h, ok, fr, fun Q9 hq => rb Q9 hq⟩
set_option maxHeartbeats 4000000 in
theorem e14_make_J272 {σ : St} {o1 : Nat} {x2 : Int32} {x4 : Int32} {xs0 : Int32} {Q : St → Prop} (ho1 : o1 < 16) (ok : okS σ) (h : w14_make_J272 σ o1 x2 x4 xs0 Q) : (∃ (σ' : St), Q σ' ∧ okS σ' ∧ Fr (mF [] [(71, o1)] [] [(15, o1, [26, 27, 28])]) σ σ' ∧ ∀ (Q9 : St → Prop), Q9 σ' → w14_make_J272 σ o1 x2 x4 xs0 Q9) := by
  have fr : Fr (mF [] [(71, o1)] [] [(15, o1, [26, 27, 28])]) σ σ := Fr.rf
  have rb : ∀ (Q9 : St → Prop), w14_make_J272 σ o1 x2 x4 xs0 Q9 → w14_make_J272 σ o1 x2 x4 xs0 Q9 := fun _ z => z
  by_cases hc : x2 < 0
  · have h := h.1 hc
    have rb := fun Q9 z => rb Q9 (br_t hc z)
    obtain ⟨σ14, e9⟩ : ∃ s : St, s = up3 σ 15 o1 27 0 := ⟨_, rfl⟩
    have h := h σ14 e9
    have rb := fun Q9 z => rb Q9 (nm_n e9 z)
    have ok : okS σ14 := by rw [e9]; exact (ok_n ok (by decide))
    have fr : Fr (mF [] [(71, o1)] [] [(15, o1, [26, 27, 28])]) σ σ14 := by rw [e9]; exact (Fr.up fr (mF_D (List.mem_of_getElem? (i := 0) rfl) rfl))
    by_cases hc : xs0 = 0
    · have h := h.1 hc
      have rb := fun Q9 z => rb Q9 (br_t hc z)
      obtain ⟨σ9, h, ok, fr9, rc⟩ := e14_make_J308 ho1 ho1 ok h
      exact ⟨σ9, h, ok, fr.tr (fr9.sub (mF_sub rfl (sub_c (Or.inr (List.mem_of_getElem? (i := 0) rfl)) sub_nil) rfl (sud_c (Or.inr ⟨_, List.mem_of_getElem? (i := 0) rfl, rfl⟩) (sud_c (Or.inr ⟨_, List.mem_of_getElem? (i := 0) rfl, rfl⟩) sud_nil)))), fun Q9 hq => rb Q9 (rc Q9 hq)⟩
    have h := h.2 hc
    have rb := fun Q9 z => rb Q9 (br_f hc z)
    by_cases hc : x2 < 0
    · have h := h.1 hc
      have rb := fun Q9 z => rb Q9 (br_t hc z)
      obtain ⟨σ9, h, ok, fr9, rc⟩ := e14_make_J308 ho1 ho1 ok h
      exact ⟨σ9, h, ok, fr.tr (fr9.sub (mF_sub rfl (sub_c (Or.inr (List.mem_of_getElem? (i := 0) rfl)) sub_nil) rfl (sud_c (Or.inr ⟨_, List.mem_of_getElem? (i := 0) rfl, rfl⟩) (sud_c (Or.inr ⟨_, List.mem_of_getElem? (i := 0) rfl, rfl⟩) sud_nil)))), fun Q9 hq => rb Q9 (rc Q9 hq)⟩
    have h := h.2 hc
    have rb := fun Q9 z => rb Q9 (br_f hc z)
    obtain ⟨σ9, h, ok, fr9, rc⟩ := e14_make_J308 ho1 ho1 ok h
    exact ⟨σ9, h, ok, fr.tr (fr9.sub (mF_sub rfl (sub_c (Or.inr (List.mem_of_getElem? (i := 0) rfl)) sub_nil) rfl (sud_c (Or.inr ⟨_, List.mem_of_getElem? (i := 0) rfl, rfl⟩) (sud_c (Or.inr ⟨_, List.mem_of_getElem? (i := 0) rfl, rfl⟩) sud_nil)))), fun Q9 hq => rb Q9 (rc Q9 hq)⟩
  have h := h.2 hc
  have rb := fun Q9 z => rb Q9 (br_f hc z)
  obtain ⟨hc, h⟩ := h
  have rb := fun Q9 z => rb Q9 (And.intro hc z)
  obtain ⟨σ21, e9⟩ : ∃ s : St, s = up3 σ 15 o1 27 (σ 53 0 x2.toNatClampNeg) := ⟨_, rfl⟩
  have h := h σ21 e9
  have rb := fun Q9 z => rb Q9 (nm_n e9 z)
  have ok : okS σ21 := by rw [e9]; exact (ok_n ok (by decide))
  have fr : Fr (mF [] [(71, o1)] [] [(15, o1, [26, 27, 28])]) σ σ21 := by rw [e9]; exact (Fr.up fr (mF_D (List.mem_of_getElem? (i := 0) rfl) rfl))
  by_cases hc : xs0 = 0
  · have h := h.1 hc
    have rb := fun Q9 z => rb Q9 (br_t hc z)
    obtain ⟨σ9, h, ok, fr9, rc⟩ := e14_make_J308 ho1 ho1 ok h
    exact ⟨σ9, h, ok, fr.tr (fr9.sub (mF_sub rfl (sub_c (Or.inr (List.mem_of_getElem? (i := 0) rfl)) sub_nil) rfl (sud_c (Or.inr ⟨_, List.mem_of_getElem? (i := 0) rfl, rfl⟩) (sud_c (Or.inr ⟨_, List.mem_of_getElem? (i := 0) rfl, rfl⟩) sud_nil)))), fun Q9 hq => rb Q9 (rc Q9 hq)⟩
  have h := h.2 hc
  have rb := fun Q9 z => rb Q9 (br_f hc z)
  by_cases hc : x2 < 0
  · have h := h.1 hc
    have rb := fun Q9 z => rb Q9 (br_t hc z)
    obtain ⟨σ9, h, ok, fr9, rc⟩ := e14_make_J308 ho1 ho1 ok h
    exact ⟨σ9, h, ok, fr.tr (fr9.sub (mF_sub rfl (sub_c (Or.inr (List.mem_of_getElem? (i := 0) rfl)) sub_nil) rfl (sud_c (Or.inr ⟨_, List.mem_of_getElem? (i := 0) rfl, rfl⟩) (sud_c (Or.inr ⟨_, List.mem_of_getElem? (i := 0) rfl, rfl⟩) sud_nil)))), fun Q9 hq => rb Q9 (rc Q9 hq)⟩
  have h := h.2 hc
  have rb := fun Q9 z => rb Q9 (br_f hc z)
  obtain ⟨σ9, h, ok, fr9, rc⟩ := e14_make_J308 ho1 ho1 ok h
  exact ⟨σ9, h, ok, fr.tr (fr9.sub (mF_sub rfl (sub_c (Or.inr (List.mem_of_getElem? (i := 0) rfl)) sub_nil) rfl (sud_c (Or.inr ⟨_, List.mem_of_getElem? (i := 0) rfl, rfl⟩) (sud_c (Or.inr ⟨_, List.mem_of_getElem? (i := 0) rfl, rfl⟩) sud_nil)))), fun Q9 hq => rb Q9 (rc Q9 hq)⟩
set_option maxHeartbeats 4000000 in
theorem e14_make_J245 {σ : St} {o1 : Nat} {x2 : Int32} {x4 : Int32} {Q : St → Prop} (ho1 : o1 < 16) (ok : okS σ) (h : w14_make_J245 σ o1 x2 x4 Q) : (∃ (σ' : St), Q σ' ∧ okS σ' ∧ Fr (mF [] [(71, o1)] [] [(15, o1, [26, 27, 28])]) σ σ' ∧ ∀ (Q9 : St → Prop), Q9 σ' → w14_make_J245 σ o1 x2 x4 Q9) := by
  have fr : Fr (mF [] [(71, o1)] [] [(15, o1, [26, 27, 28])]) σ σ := Fr.rf
  have rb : ∀ (Q9 : St → Prop), w14_make_J245 σ o1 x2 x4 Q9 → w14_make_J245 σ o1 x2 x4 Q9 := fun _ z => z
  obtain ⟨σ13, h, ok, fr9, rc⟩ := e14_line ho1 ok h
  have fr := fr.tr (fr9.sub (mF_sub rfl (sub_c (Or.inr (List.mem_of_getElem? (i := 0) rfl)) sub_nil) rfl (sud_c (Or.inr ⟨_, List.mem_of_getElem? (i := 0) rfl, rfl⟩) sud_nil)))
  have rb := fun Q9 z => rb Q9 (rc _ z)
  have h := h ((ok 14 0 44).1 (by decide))
  have rb := fun Q9 z => rb Q9 (im_n z)
  by_cases hc : (σ13 14 0 44) = 0
  · have h := h.2 hc
    have rb := fun Q9 z => rb Q9 (br_u hc z)
    by_cases hc : (σ13 14 0 43) = 304
    · have h := h.1 hc
      have rb := fun Q9 z => rb Q9 (br_t hc z)
      obtain ⟨σ9, h, ok, fr9, rc⟩ := e14_make_J272 ho1 ok h
      exact ⟨σ9, h, ok, fr.tr (fr9.sub (mF_sub rfl (sub_c (Or.inr (List.mem_of_getElem? (i := 0) rfl)) sub_nil) rfl (sud_c (Or.inr ⟨_, List.mem_of_getElem? (i := 0) rfl, rfl⟩) sud_nil))), fun Q9 hq => rb Q9 (rc Q9 hq)⟩
    have h := h.2 hc
    have rb := fun Q9 z => rb Q9 (br_f hc z)
    obtain ⟨σ9, h, ok, fr9, rc⟩ := e14_make_J272 ho1 ok h
    exact ⟨σ9, h, ok, fr.tr (fr9.sub (mF_sub rfl (sub_c (Or.inr (List.mem_of_getElem? (i := 0) rfl)) sub_nil) rfl (sud_c (Or.inr ⟨_, List.mem_of_getElem? (i := 0) rfl, rfl⟩) sud_nil))), fun Q9 hq => rb Q9 (rc Q9 hq)⟩
  have h := h.1 hc
  have rb := fun Q9 z => rb Q9 (br_v hc z)
  obtain ⟨σ9, h, ok, fr9, rc⟩ := e14_make_J272 ho1 ok h
  exact ⟨σ9, h, ok, fr.tr (fr9.sub (mF_sub rfl (sub_c (Or.inr (List.mem_of_getElem? (i := 0) rfl)) sub_nil) rfl (sud_c (Or.inr ⟨_, List.mem_of_getElem? (i := 0) rfl, rfl⟩) sud_nil))), fun Q9 hq => rb Q9 (rc Q9 hq)⟩
set_option maxHeartbeats 4000000 in
theorem e14_make_J228 {σ : St} {o1 : Nat} {x2 : Int32} {x3 : Int32} {x4 : Int32} {Q : St → Prop} (ho1 : o1 < 16) (ok : okS σ) (h : w14_make_J228 σ o1 x2 x3 x4 Q) : (∃ (σ' : St), Q σ' ∧ okS σ' ∧ Fr (mF [] [(71, o1)] [] [(15, o1, [26, 27, 28])]) σ σ' ∧ ∀ (Q9 : St → Prop), Q9 σ' → w14_make_J228 σ o1 x2 x3 x4 Q9) := by
  have fr : Fr (mF [] [(71, o1)] [] [(15, o1, [26, 27, 28])]) σ σ := Fr.rf
  have rb : ∀ (Q9 : St → Prop), w14_make_J228 σ o1 x2 x3 x4 Q9 → w14_make_J228 σ o1 x2 x3 x4 Q9 := fun _ z => z
  by_cases hc : x3 = 0
  · have h := h.1 hc
    have rb := fun Q9 z => rb Q9 (br_t hc z)
    obtain ⟨σ9, h, ok, fr9, rc⟩ := e14_make_J245 ho1 ok h
    exact ⟨σ9, h, ok, fr.tr (fr9.sub (mF_sub rfl (sub_c (Or.inr (List.mem_of_getElem? (i := 0) rfl)) sub_nil) rfl (sud_c (Or.inr ⟨_, List.mem_of_getElem? (i := 0) rfl, rfl⟩) sud_nil))), fun Q9 hq => rb Q9 (rc Q9 hq)⟩
  have h := h.2 hc
  have rb := fun Q9 z => rb Q9 (br_f hc z)
  obtain ⟨σ22, h, ok, fr9, rc⟩ := e14_say ho1 (by decide) ok h
  have fr := fr.tr (fr9.sub (mF_sub rfl (sub_c (Or.inr (List.mem_of_getElem? (i := 0) rfl)) sub_nil) rfl (sud_c (Or.inr ⟨_, List.mem_of_getElem? (i := 0) rfl, rfl⟩) sud_nil)))
  have rb := fun Q9 z => rb Q9 (rc _ z)
  obtain ⟨σ23, h, ok, fr9, rc⟩ := e14_line ho1 ok h
  have fr := fr.tr (fr9.sub (mF_sub rfl (sub_c (Or.inr (List.mem_of_getElem? (i := 0) rfl)) sub_nil) rfl (sud_c (Or.inr ⟨_, List.mem_of_getElem? (i := 0) rfl, rfl⟩) sud_nil)))
  have rb := fun Q9 z => rb Q9 (rc _ z)
  obtain ⟨σ9, h, ok, fr9, rc⟩ := e14_make_J245 ho1 ok h
  exact ⟨σ9, h, ok, fr.tr (fr9.sub (mF_sub rfl (sub_c (Or.inr (List.mem_of_getElem? (i := 0) rfl)) sub_nil) rfl (sud_c (Or.inr ⟨_, List.mem_of_getElem? (i := 0) rfl, rfl⟩) sud_nil))), fun Q9 hq => rb Q9 (rc Q9 hq)⟩
set_option maxHeartbeats 4000000 in
theorem e14_make_J205 {σ : St} {o1 : Nat} {x2 : Int32} {x3 : Int32} {x4 : Int32} {Q : St → Prop} (ho1 : o1 < 16) (ok : okS σ) (h : w14_make_J205 σ o1 x2 x3 x4 Q) : (∃ (σ' : St), Q σ' ∧ okS σ' ∧ Fr (mF [] [(71, o1)] [] [(15, o1, [26, 27, 28])]) σ σ' ∧ ∀ (Q9 : St → Prop), Q9 σ' → w14_make_J205 σ o1 x2 x3 x4 Q9) := by
  have fr : Fr (mF [] [(71, o1)] [] [(15, o1, [26, 27, 28])]) σ σ := Fr.rf
  have rb : ∀ (Q9 : St → Prop), w14_make_J205 σ o1 x2 x3 x4 Q9 → w14_make_J205 σ o1 x2 x3 x4 Q9 := fun _ z => z
  by_cases hc : (σ 14 0 43) = 405
  · have h := h.2 hc
    have rb := fun Q9 z => rb Q9 (br_u hc z)
    obtain ⟨σ24, h, ok, fr9, rc⟩ := e14_say ho1 (by decide) ok h
    have fr := fr.tr (fr9.sub (mF_sub rfl (sub_c (Or.inr (List.mem_of_getElem? (i := 0) rfl)) sub_nil) rfl (sud_c (Or.inr ⟨_, List.mem_of_getElem? (i := 0) rfl, rfl⟩) sud_nil)))
    have rb := fun Q9 z => rb Q9 (rc _ z)
    obtain ⟨σ25, h, ok, fr9, rc⟩ := e14_line ho1 ok h
    have fr := fr.tr (fr9.sub (mF_sub rfl (sub_c (Or.inr (List.mem_of_getElem? (i := 0) rfl)) sub_nil) rfl (sud_c (Or.inr ⟨_, List.mem_of_getElem? (i := 0) rfl, rfl⟩) sud_nil)))
    have rb := fun Q9 z => rb Q9 (rc _ z)
    obtain ⟨σ9, h, ok, fr9, rc⟩ := e14_make_J228 ho1 ok h
    exact ⟨σ9, h, ok, fr.tr (fr9.sub (mF_sub rfl (sub_c (Or.inr (List.mem_of_getElem? (i := 0) rfl)) sub_nil) rfl (sud_c (Or.inr ⟨_, List.mem_of_getElem? (i := 0) rfl, rfl⟩) sud_nil))), fun Q9 hq => rb Q9 (rc Q9 hq)⟩
  have h := h.1 hc
  have rb := fun Q9 z => rb Q9 (br_v hc z)
  obtain ⟨σ9, h, ok, fr9, rc⟩ := e14_make_J228 ho1 ok h
  exact ⟨σ9, h, ok, fr.tr (fr9.sub (mF_sub rfl (sub_c (Or.inr (List.mem_of_getElem? (i := 0) rfl)) sub_nil) rfl (sud_c (Or.inr ⟨_, List.mem_of_getElem? (i := 0) rfl, rfl⟩) sud_nil))), fun Q9 hq => rb Q9 (rc Q9 hq)⟩
set_option maxHeartbeats 4000000 in
theorem e14_make_L164 {o1 : Nat} {x2 : Int32} {x3 : Int32} {x4 : Int32} {Q : St → Prop} {K193 : St → Prop} (ho1 : o1 < 16) :
    ∀ (n : Nat) {σ : St} {x5 : Int32} (ok : okS σ), w14_make_L164 o1 x2 x3 x4 Q K193 n σ x5 → (∃ (σ' : St), K193 σ' ∧ okS σ' ∧ Fr (mF [] [(71, o1)] [] [(15, o1, [26])]) σ σ' ∧ ∀ (Q9 : St → Prop) (K9_193 : St → Prop), K9_193 σ' → w14_make_L164 o1 x2 x3 x4 Q9 K9_193 n σ x5) := by
  intro n
  induction n with
  | zero =>
    intro σ x5 ok h
    exact False.elim h
  | succ n ih =>
    intro σ x5 ok h
    have fr : Fr (mF [] [(71, o1)] [] [(15, o1, [26])]) σ σ := Fr.rf
    have rb : ∀ (Q9 : St → Prop) (K9_193 : St → Prop), w14_make_L164 o1 x2 x3 x4 Q9 K9_193 (n + 1) σ x5 → w14_make_L164 o1 x2 x3 x4 Q9 K9_193 (n + 1) σ x5 := fun _ _ z => z
    by_cases hc : 8 ≤ x5
    · have h := h.1 hc
      have rb := fun Q9 K9_193 z => rb Q9 K9_193 (br_t hc z)
      exact ⟨σ, h, ok, fr, fun Q9 K9_193 hq => rb Q9 K9_193 hq⟩
    have h := h.2 hc
    have rb := fun Q9 K9_193 z => rb Q9 K9_193 (br_f hc z)
    obtain ⟨hc, h⟩ := h
    have rb := fun Q9 K9_193 z => rb Q9 K9_193 (And.intro hc z)
    obtain ⟨r27, h, rc⟩ := e14_hexDigit ok h
    have rb := fun Q9 K9_193 z => rb Q9 K9_193 (rc _ z)
    obtain ⟨σ28, h, ok, fr9, rc⟩ := e14_code ho1 ok h
    have fr := fr.tr (fr9.sub (mF_sub rfl (sub_c (Or.inr (List.mem_of_getElem? (i := 0) rfl)) sub_nil) rfl (sud_c (Or.inr ⟨_, List.mem_of_getElem? (i := 0) rfl, rfl⟩) sud_nil)))
    have rb := fun Q9 K9_193 z => rb Q9 K9_193 (rc _ z)
    rcases ih ok h with ⟨σ', h, ok, fr9, rc⟩
    · exact ⟨σ', h, ok, fr.tr fr9, fun Q9 K9_193 hq => rb Q9 K9_193 (rc Q9 K9_193 hq)⟩
set_option maxHeartbeats 4000000 in
theorem e14_make_J94 {σ : St} {o1 : Nat} {x2 : Int32} {x3 : Int32} {xs0 : Int32} {Q : St → Prop} (ho1 : o1 < 16) (ok : okS σ) (h : w14_make_J94 σ o1 x2 x3 xs0 Q) : (∃ (σ' : St), Q σ' ∧ okS σ' ∧ Fr (mF [] [(71, o1)] [] [(15, o1, [26, 27, 28])]) σ σ' ∧ ∀ (Q9 : St → Prop), Q9 σ' → w14_make_J94 σ o1 x2 x3 xs0 Q9) := by
  have fr : Fr (mF [] [(71, o1)] [] [(15, o1, [26, 27, 28])]) σ σ := Fr.rf
  have rb : ∀ (Q9 : St → Prop), w14_make_J94 σ o1 x2 x3 xs0 Q9 → w14_make_J94 σ o1 x2 x3 xs0 Q9 := fun _ z => z
  by_cases hc : (σ 14 0 43) = 304
  · have h := h.1 hc
    have rb := fun Q9 z => rb Q9 (br_t hc z)
    by_cases hc : x2 < 0
    · have h := h.1 hc
      have rb := fun Q9 z => rb Q9 (br_t hc z)
      obtain ⟨σ9, h, ok, fr9, rc⟩ := e14_make_J205 ho1 ok h
      exact ⟨σ9, h, ok, fr.tr (fr9.sub (mF_sub rfl (sub_c (Or.inr (List.mem_of_getElem? (i := 0) rfl)) sub_nil) rfl (sud_c (Or.inr ⟨_, List.mem_of_getElem? (i := 0) rfl, rfl⟩) sud_nil))), fun Q9 hq => rb Q9 (rc Q9 hq)⟩
    have h := h.2 hc
    have rb := fun Q9 z => rb Q9 (br_f hc z)
    obtain ⟨σ26, h, ok, fr9, rc⟩ := e14_say ho1 (by decide) ok h
    have fr := fr.tr (fr9.sub (mF_sub rfl (sub_c (Or.inr (List.mem_of_getElem? (i := 0) rfl)) sub_nil) rfl (sud_c (Or.inr ⟨_, List.mem_of_getElem? (i := 0) rfl, rfl⟩) sud_nil)))
    have rb := fun Q9 z => rb Q9 (rc _ z)
    obtain ⟨n9, h⟩ := h
    rcases e14_make_L164 ho1 n9 ok h with ⟨σ30, h, ok, fr9, rc⟩
    · have rb := fun Q9 z => rb Q9 (Exists.intro n9 (rc _ _ z))
      have fr := fr.tr (fr9.sub (mF_sub rfl (sub_c (Or.inr (List.mem_of_getElem? (i := 0) rfl)) sub_nil) rfl (sud_c (Or.inr ⟨_, List.mem_of_getElem? (i := 0) rfl, rfl⟩) sud_nil)))
      obtain ⟨σ31, h, ok, fr9, rc⟩ := e14_code ho1 ok h
      have fr := fr.tr (fr9.sub (mF_sub rfl (sub_c (Or.inr (List.mem_of_getElem? (i := 0) rfl)) sub_nil) rfl (sud_c (Or.inr ⟨_, List.mem_of_getElem? (i := 0) rfl, rfl⟩) sud_nil)))
      have rb := fun Q9 z => rb Q9 (rc _ z)
      obtain ⟨σ32, h, ok, fr9, rc⟩ := e14_line ho1 ok h
      have fr := fr.tr (fr9.sub (mF_sub rfl (sub_c (Or.inr (List.mem_of_getElem? (i := 0) rfl)) sub_nil) rfl (sud_c (Or.inr ⟨_, List.mem_of_getElem? (i := 0) rfl, rfl⟩) sud_nil)))
      have rb := fun Q9 z => rb Q9 (rc _ z)
      obtain ⟨σ9, h, ok, fr9, rc⟩ := e14_make_J205 ho1 ok h
      exact ⟨σ9, h, ok, fr.tr (fr9.sub (mF_sub rfl (sub_c (Or.inr (List.mem_of_getElem? (i := 0) rfl)) sub_nil) rfl (sud_c (Or.inr ⟨_, List.mem_of_getElem? (i := 0) rfl, rfl⟩) sud_nil))), fun Q9 hq => rb Q9 (rc Q9 hq)⟩
  have h := h.2 hc
  have rb := fun Q9 z => rb Q9 (br_f hc z)
  obtain ⟨σ33, h, ok, fr9, rc⟩ := e14_say ho1 (by decide) ok h
  have fr := fr.tr (fr9.sub (mF_sub rfl (sub_c (Or.inr (List.mem_of_getElem? (i := 0) rfl)) sub_nil) rfl (sud_c (Or.inr ⟨_, List.mem_of_getElem? (i := 0) rfl, rfl⟩) sud_nil)))
  have rb := fun Q9 z => rb Q9 (rc _ z)
  obtain ⟨σ34, h, ok, fr9, rc⟩ := e14_sayNumber ho1 ok h
  have fr := fr.tr (fr9.sub (mF_sub rfl (sub_c (Or.inr (List.mem_of_getElem? (i := 0) rfl)) sub_nil) rfl (sud_c (Or.inr ⟨_, List.mem_of_getElem? (i := 0) rfl, rfl⟩) sud_nil)))
  have rb := fun Q9 z => rb Q9 (rc _ z)
  obtain ⟨σ35, h, ok, fr9, rc⟩ := e14_line ho1 ok h
  have fr := fr.tr (fr9.sub (mF_sub rfl (sub_c (Or.inr (List.mem_of_getElem? (i := 0) rfl)) sub_nil) rfl (sud_c (Or.inr ⟨_, List.mem_of_getElem? (i := 0) rfl, rfl⟩) sud_nil)))
  have rb := fun Q9 z => rb Q9 (rc _ z)
  obtain ⟨σ36, h, ok, fr9, rc⟩ := e14_say ho1 (by decide) ok h
  have fr := fr.tr (fr9.sub (mF_sub rfl (sub_c (Or.inr (List.mem_of_getElem? (i := 0) rfl)) sub_nil) rfl (sud_c (Or.inr ⟨_, List.mem_of_getElem? (i := 0) rfl, rfl⟩) sud_nil)))
  have rb := fun Q9 z => rb Q9 (rc _ z)
  obtain ⟨t37, h, rc⟩ := e14_type ok h
  have rb := fun Q9 z => rb Q9 (rc _ z)
  obtain ⟨ht37, h⟩ := h
  have rb := fun Q9 z => rb Q9 (And.intro ht37 z)
  obtain ⟨σ38, h, ok, fr9, rc⟩ := e14_say ho1 ht37 ok h
  have fr := fr.tr (fr9.sub (mF_sub rfl (sub_c (Or.inr (List.mem_of_getElem? (i := 0) rfl)) sub_nil) rfl (sud_c (Or.inr ⟨_, List.mem_of_getElem? (i := 0) rfl, rfl⟩) sud_nil)))
  have rb := fun Q9 z => rb Q9 (rc _ z)
  obtain ⟨σ39, h, ok, fr9, rc⟩ := e14_line ho1 ok h
  have fr := fr.tr (fr9.sub (mF_sub rfl (sub_c (Or.inr (List.mem_of_getElem? (i := 0) rfl)) sub_nil) rfl (sud_c (Or.inr ⟨_, List.mem_of_getElem? (i := 0) rfl, rfl⟩) sud_nil)))
  have rb := fun Q9 z => rb Q9 (rc _ z)
  by_cases hc : x2 < 0
  · have h := h.1 hc
    have rb := fun Q9 z => rb Q9 (br_t hc z)
    obtain ⟨σ9, h, ok, fr9, rc⟩ := e14_make_J205 ho1 ok h
    exact ⟨σ9, h, ok, fr.tr (fr9.sub (mF_sub rfl (sub_c (Or.inr (List.mem_of_getElem? (i := 0) rfl)) sub_nil) rfl (sud_c (Or.inr ⟨_, List.mem_of_getElem? (i := 0) rfl, rfl⟩) sud_nil))), fun Q9 hq => rb Q9 (rc Q9 hq)⟩
  have h := h.2 hc
  have rb := fun Q9 z => rb Q9 (br_f hc z)
  obtain ⟨σ40, h, ok, fr9, rc⟩ := e14_say ho1 (by decide) ok h
  have fr := fr.tr (fr9.sub (mF_sub rfl (sub_c (Or.inr (List.mem_of_getElem? (i := 0) rfl)) sub_nil) rfl (sud_c (Or.inr ⟨_, List.mem_of_getElem? (i := 0) rfl, rfl⟩) sud_nil)))
  have rb := fun Q9 z => rb Q9 (rc _ z)
  obtain ⟨n9, h⟩ := h
  rcases e14_make_L164 ho1 n9 ok h with ⟨σ42, h, ok, fr9, rc⟩
  · have rb := fun Q9 z => rb Q9 (Exists.intro n9 (rc _ _ z))
    have fr := fr.tr (fr9.sub (mF_sub rfl (sub_c (Or.inr (List.mem_of_getElem? (i := 0) rfl)) sub_nil) rfl (sud_c (Or.inr ⟨_, List.mem_of_getElem? (i := 0) rfl, rfl⟩) sud_nil)))
    obtain ⟨σ43, h, ok, fr9, rc⟩ := e14_code ho1 ok h
    have fr := fr.tr (fr9.sub (mF_sub rfl (sub_c (Or.inr (List.mem_of_getElem? (i := 0) rfl)) sub_nil) rfl (sud_c (Or.inr ⟨_, List.mem_of_getElem? (i := 0) rfl, rfl⟩) sud_nil)))
    have rb := fun Q9 z => rb Q9 (rc _ z)
    obtain ⟨σ44, h, ok, fr9, rc⟩ := e14_line ho1 ok h
    have fr := fr.tr (fr9.sub (mF_sub rfl (sub_c (Or.inr (List.mem_of_getElem? (i := 0) rfl)) sub_nil) rfl (sud_c (Or.inr ⟨_, List.mem_of_getElem? (i := 0) rfl, rfl⟩) sud_nil)))
    have rb := fun Q9 z => rb Q9 (rc _ z)
    obtain ⟨σ9, h, ok, fr9, rc⟩ := e14_make_J205 ho1 ok h
    exact ⟨σ9, h, ok, fr.tr (fr9.sub (mF_sub rfl (sub_c (Or.inr (List.mem_of_getElem? (i := 0) rfl)) sub_nil) rfl (sud_c (Or.inr ⟨_, List.mem_of_getElem? (i := 0) rfl, rfl⟩) sud_nil))), fun Q9 hq => rb Q9 (rc Q9 hq)⟩
set_option maxHeartbeats 4000000 in
theorem e14_make {σ : St} {o1 : Nat} {x2 : Int32} {x3 : Int32} {Q : St → Prop} (ho1 : o1 < 16) (ok : okS σ) (h : w14_make σ o1 x2 x3 Q) : (∃ (σ' : St), Q σ' ∧ okS σ' ∧ Fr (mF [56] [(71, o1)] [] [(15, o1, [26, 27, 28, 29, 30])]) σ σ' ∧ ∀ (Q9 : St → Prop), Q9 σ' → w14_make σ o1 x2 x3 Q9) := by
  have fr : Fr (mF [56] [(71, o1)] [] [(15, o1, [26, 27, 28, 29, 30])]) σ σ := Fr.rf
  have rb : ∀ (Q9 : St → Prop), w14_make σ o1 x2 x3 Q9 → w14_make σ o1 x2 x3 Q9 := fun _ z => z
  obtain ⟨hc, h⟩ := h
  have rb := fun Q9 z => rb Q9 (And.intro hc z)
  obtain ⟨hc, h⟩ := h
  have rb := fun Q9 z => rb Q9 (And.intro hc z)
  obtain ⟨σ1, e9⟩ : ∃ s : St, s = up3 σ 56 0 (4 : Int32).toNatClampNeg ((σ 56 0 (4 : Int32).toNatClampNeg) + 1) := ⟨_, rfl⟩
  have h := h σ1 e9
  have rb := fun Q9 z => rb Q9 (nm_n e9 z)
  have ok : okS σ1 := by rw [e9]; exact (ok_n ok (tyk_a 56 0 (by decide) (by decide) _))
  have fr : Fr (mF [56] [(71, o1)] [] [(15, o1, [26, 27, 28, 29, 30])]) σ σ1 := by rw [e9]; exact (Fr.up fr (mF_A rfl))
  obtain ⟨σ2, e9⟩ : ∃ s : St, s = up3 σ1 15 o1 29 (σ1 15 o1 5) := ⟨_, rfl⟩
  have h := h σ2 e9
  have rb := fun Q9 z => rb Q9 (nm_n e9 z)
  have ok : okS σ2 := by rw [e9]; exact (ok_n ok (by decide))
  have fr : Fr (mF [56] [(71, o1)] [] [(15, o1, [26, 27, 28, 29, 30])]) σ σ2 := by rw [e9]; exact (Fr.up fr (mF_D (List.mem_of_getElem? (i := 0) rfl) rfl))
  obtain ⟨σ3, e9⟩ : ∃ s : St, s = up3 σ2 15 o1 26 0 := ⟨_, rfl⟩
  have h := h σ3 e9
  have rb := fun Q9 z => rb Q9 (nm_n e9 z)
  have ok : okS σ3 := by rw [e9]; exact (ok_n ok (by decide))
  have fr : Fr (mF [56] [(71, o1)] [] [(15, o1, [26, 27, 28, 29, 30])]) σ σ3 := by rw [e9]; exact (Fr.up fr (mF_D (List.mem_of_getElem? (i := 0) rfl) rfl))
  obtain ⟨hbo, h⟩ := h
  have rb := fun Q9 z => rb Q9 (And.intro hbo z)
  obtain ⟨σ4, e9⟩ : ∃ s : St, s = up3 σ3 15 o1 30 x3 := ⟨_, rfl⟩
  have h := h σ4 e9
  have rb := fun Q9 z => rb Q9 (nm_n e9 z)
  have ok : okS σ4 := by rw [e9]; exact (ok_z ok (by decide) hbo)
  have fr : Fr (mF [56] [(71, o1)] [] [(15, o1, [26, 27, 28, 29, 30])]) σ σ4 := by rw [e9]; exact (Fr.up fr (mF_D (List.mem_of_getElem? (i := 0) rfl) rfl))
  obtain ⟨σ5, h, ok, fr9, rc⟩ := e14_say ho1 (by decide) ok h
  have fr := fr.tr (fr9.sub (mF_sub rfl (sub_c (Or.inr (List.mem_of_getElem? (i := 0) rfl)) sub_nil) rfl (sud_c (Or.inr ⟨_, List.mem_of_getElem? (i := 0) rfl, rfl⟩) sud_nil)))
  have rb := fun Q9 z => rb Q9 (rc _ z)
  obtain ⟨σ6, h, ok, fr9, rc⟩ := e14_sayNumber ho1 ok h
  have fr := fr.tr (fr9.sub (mF_sub rfl (sub_c (Or.inr (List.mem_of_getElem? (i := 0) rfl)) sub_nil) rfl (sud_c (Or.inr ⟨_, List.mem_of_getElem? (i := 0) rfl, rfl⟩) sud_nil)))
  have rb := fun Q9 z => rb Q9 (rc _ z)
  obtain ⟨σ7, h, ok, fr9, rc⟩ := e14_code ho1 ok h
  have fr := fr.tr (fr9.sub (mF_sub rfl (sub_c (Or.inr (List.mem_of_getElem? (i := 0) rfl)) sub_nil) rfl (sud_c (Or.inr ⟨_, List.mem_of_getElem? (i := 0) rfl, rfl⟩) sud_nil)))
  have rb := fun Q9 z => rb Q9 (rc _ z)
  obtain ⟨t8, h, rc⟩ := e14_phrase ok h
  have rb := fun Q9 z => rb Q9 (rc _ z)
  obtain ⟨ht8, h⟩ := h
  have rb := fun Q9 z => rb Q9 (And.intro ht8 z)
  obtain ⟨σ9, h, ok, fr9, rc⟩ := e14_say ho1 ht8 ok h
  have fr := fr.tr (fr9.sub (mF_sub rfl (sub_c (Or.inr (List.mem_of_getElem? (i := 0) rfl)) sub_nil) rfl (sud_c (Or.inr ⟨_, List.mem_of_getElem? (i := 0) rfl, rfl⟩) sud_nil)))
  have rb := fun Q9 z => rb Q9 (rc _ z)
  obtain ⟨σ10, h, ok, fr9, rc⟩ := e14_line ho1 ok h
  have fr := fr.tr (fr9.sub (mF_sub rfl (sub_c (Or.inr (List.mem_of_getElem? (i := 0) rfl)) sub_nil) rfl (sud_c (Or.inr ⟨_, List.mem_of_getElem? (i := 0) rfl, rfl⟩) sud_nil)))
  have rb := fun Q9 z => rb Q9 (rc _ z)
  by_cases hc : x2 < 0
  · have h := h.1 hc
    have rb := fun Q9 z => rb Q9 (br_t hc z)
    obtain ⟨t11, h, rc⟩ := e14_phrase ok h
    have rb := fun Q9 z => rb Q9 (rc _ z)
    obtain ⟨ht11, h⟩ := h
    have rb := fun Q9 z => rb Q9 (And.intro ht11 z)
    obtain ⟨r12, h, rc⟩ := eJ1_length ht11 h
    have rb := fun Q9 z => rb Q9 (rc _ z)
    obtain ⟨σ9, h, ok, fr9, rc⟩ := e14_make_J94 ho1 ok h
    exact ⟨σ9, h, ok, fr.tr (fr9.sub (mF_sub rfl (sub_c (Or.inr (List.mem_of_getElem? (i := 0) rfl)) sub_nil) rfl (sud_c (Or.inr ⟨_, List.mem_of_getElem? (i := 0) rfl, rfl⟩) sud_nil))), fun Q9 hq => rb Q9 (rc Q9 hq)⟩
  have h := h.2 hc
  have rb := fun Q9 z => rb Q9 (br_f hc z)
  obtain ⟨hc, h⟩ := h
  have rb := fun Q9 z => rb Q9 (And.intro hc z)
  obtain ⟨σ9, h, ok, fr9, rc⟩ := e14_make_J94 ho1 ok h
  exact ⟨σ9, h, ok, fr.tr (fr9.sub (mF_sub rfl (sub_c (Or.inr (List.mem_of_getElem? (i := 0) rfl)) sub_nil) rfl (sud_c (Or.inr ⟨_, List.mem_of_getElem? (i := 0) rfl, rfl⟩) sud_nil))), fun Q9 hq => rb Q9 (rc Q9 hq)⟩
/-! WebHostModel.reset()V -/
set_option maxHeartbeats 4000000 in
theorem e14_reset {σ : St} {Q : St → Prop} (ok : okS σ) (h : w14_reset σ Q) : (∃ (σ' : St), Q σ' ∧ okS σ' ∧ Fr (mF [56, 57, 58, 59, 60, 68] [] [(14, [18, 23, 24, 25]), (17, [0, 1, 2, 3, 4, 5])] []) σ σ' ∧ ∀ (Q9 : St → Prop), Q9 σ' → w14_reset σ Q9) := by
  have fr : Fr (mF [56, 57, 58, 59, 60, 68] [] [(14, [18, 23, 24, 25]), (17, [0, 1, 2, 3, 4, 5])] []) σ σ := Fr.rf
  have rb : ∀ (Q9 : St → Prop), w14_reset σ Q9 → w14_reset σ Q9 := fun _ z => z
  obtain ⟨hc, h⟩ := h
  have rb := fun Q9 z => rb Q9 (And.intro hc z)
  obtain ⟨hc, h⟩ := h
  have rb := fun Q9 z => rb Q9 (And.intro hc z)
  obtain ⟨σ1, e9⟩ : ∃ s : St, s = up3 σ 56 0 (2 : Int32).toNatClampNeg ((σ 56 0 (2 : Int32).toNatClampNeg) + 1) := ⟨_, rfl⟩
  have h := h σ1 e9
  have rb := fun Q9 z => rb Q9 (nm_n e9 z)
  have ok : okS σ1 := by rw [e9]; exact (ok_n ok (tyk_a 56 0 (by decide) (by decide) _))
  have fr : Fr (mF [56, 57, 58, 59, 60, 68] [] [(14, [18, 23, 24, 25]), (17, [0, 1, 2, 3, 4, 5])] []) σ σ1 := by rw [e9]; exact (Fr.up fr (mF_A rfl))
  obtain ⟨r2, h, rc⟩ := e14_is ok h
  have rb := fun Q9 z => rb Q9 (rc _ z)
  by_cases hc : r2 = 0
  · have h := h.1 hc
    have rb := fun Q9 z => rb Q9 (br_t hc z)
    obtain ⟨r3, h, rc⟩ := e14_extent ok h
    have rb := fun Q9 z => rb Q9 (rc _ z)
    obtain ⟨σ4, h, ok, fr9, rc⟩ := e14_segmentOut ok h
    have fr := fr.tr (fr9.sub (mF_sub rfl sub_nil rfl sud_nil))
    have rb := fun Q9 z => rb Q9 (rc _ z)
    exact ⟨σ4, h, ok, fr, fun Q9 hq => rb Q9 hq⟩
  have h := h.2 hc
  have rb := fun Q9 z => rb Q9 (br_f hc z)
  obtain ⟨σ5, h, ok, fr9, rc⟩ := e14_segmentOut ok h
  have fr := fr.tr (fr9.sub (mF_sub rfl sub_nil rfl sud_nil))
  have rb := fun Q9 z => rb Q9 (rc _ z)
  exact ⟨σ5, h, ok, fr, fun Q9 hq => rb Q9 hq⟩
/-! WebHostModel.synAck(LWebHostModel$Connection;)V -/
set_option maxHeartbeats 4000000 in
theorem e14_synAck {σ : St} {o1 : Nat} {Q : St → Prop} (ho1 : o1 < 16) (ok : okS σ) (h : w14_synAck σ o1 Q) : (∃ (σ' : St), Q σ' ∧ okS σ' ∧ Fr (mF [56, 57, 58, 59, 60, 68] [] [(14, [18, 23, 24, 25]), (17, [0, 1, 2, 3, 4, 5])] [(15, o1, [5, 6, 17, 19, 20, 21, 22, 37, 39])]) σ σ' ∧ ∀ (Q9 : St → Prop), Q9 σ' → w14_synAck σ o1 Q9) := by
  have fr : Fr (mF [56, 57, 58, 59, 60, 68] [] [(14, [18, 23, 24, 25]), (17, [0, 1, 2, 3, 4, 5])] [(15, o1, [5, 6, 17, 19, 20, 21, 22, 37, 39])]) σ σ := Fr.rf
  have rb : ∀ (Q9 : St → Prop), w14_synAck σ o1 Q9 → w14_synAck σ o1 Q9 := fun _ z => z
  obtain ⟨r1, h, rc⟩ := e15_open ho1 ok h
  have rb := fun Q9 z => rb Q9 (rc _ z)
  obtain ⟨σ2, h, ok, fr9, rc⟩ := e14_segmentOut ok h
  have fr := fr.tr (fr9.sub (mF_sub rfl sub_nil rfl sud_nil))
  have rb := fun Q9 z => rb Q9 (rc _ z)
  obtain ⟨σ3, h, ok, fr9, rc⟩ := e14_pays ho1 ok h
  have fr := fr.tr (fr9.sub (mF_sub rfl sub_nil rfl (sud_c (Or.inr ⟨_, List.mem_of_getElem? (i := 0) rfl, rfl⟩) sud_nil)))
  have rb := fun Q9 z => rb Q9 (rc _ z)
  obtain ⟨σ4, h, ok, fr9, rc⟩ := e14_noted ho1 ok h
  have fr := fr.tr (fr9.sub (mF_sub rfl sub_nil rfl (sud_c (Or.inr ⟨_, List.mem_of_getElem? (i := 0) rfl, rfl⟩) sud_nil)))
  have rb := fun Q9 z => rb Q9 (rc _ z)
  obtain ⟨σ5, e9⟩ : ∃ s : St, s = up3 σ4 15 o1 5 ((σ4 15 o1 3) + 1) := ⟨_, rfl⟩
  have h := h σ5 e9
  have rb := fun Q9 z => rb Q9 (nm_n e9 z)
  have ok : okS σ5 := by rw [e9]; exact (ok_n ok (by decide))
  have fr : Fr (mF [56, 57, 58, 59, 60, 68] [] [(14, [18, 23, 24, 25]), (17, [0, 1, 2, 3, 4, 5])] [(15, o1, [5, 6, 17, 19, 20, 21, 22, 37, 39])]) σ σ5 := by rw [e9]; exact (Fr.up fr (mF_D (List.mem_of_getElem? (i := 0) rfl) rfl))
  obtain ⟨r6, h, rc⟩ := e14_before ok h
  have rb := fun Q9 z => rb Q9 (rc _ z)
  by_cases hc : r6 = 0
  · have h := h.1 hc
    have rb := fun Q9 z => rb Q9 (br_t hc z)
    exact ⟨σ5, h, ok, fr, fun Q9 hq => rb Q9 hq⟩
  have h := h.2 hc
  have rb := fun Q9 z => rb Q9 (br_f hc z)
  obtain ⟨σ7, e9⟩ : ∃ s : St, s = up3 σ5 15 o1 6 (σ5 15 o1 5) := ⟨_, rfl⟩
  have h := h σ7 e9
  have rb := fun Q9 z => rb Q9 (nm_n e9 z)
  have ok : okS σ7 := by rw [e9]; exact (ok_n ok (by decide))
  have fr : Fr (mF [56, 57, 58, 59, 60, 68] [] [(14, [18, 23, 24, 25]), (17, [0, 1, 2, 3, 4, 5])] [(15, o1, [5, 6, 17, 19, 20, 21, 22, 37, 39])]) σ σ7 := by rw [e9]; exact (Fr.up fr (mF_D (List.mem_of_getElem? (i := 0) rfl) rfl))
  exact ⟨σ7, h, ok, fr, fun Q9 hq => rb Q9 hq⟩
/-! WebHost$Requests.file(LWebHost$Answer;IZ)V -/
set_option maxHeartbeats 4000000 in
theorem e9_file_L73 {o1 : Nat} {x2 : Int32} {x4 : Int32} {Q : St → Prop} {K109 : St → Prop} (ho1 : o1 < 16) :
    ∀ (n : Nat) {σ : St} {x5 : Int32} (ok : okS σ), w9_file_L73 o1 x2 x4 Q K109 n σ x5 → (∃ (σ' : St), K109 σ' ∧ okS σ' ∧ Fr (mF [] [(44, o1)] [] [(13, o1, [1])]) σ σ' ∧ ∀ (Q9 : St → Prop) (K9_109 : St → Prop), K9_109 σ' → w9_file_L73 o1 x2 x4 Q9 K9_109 n σ x5) := by
  intro n
  induction n with
  | zero =>
    intro σ x5 ok h
    exact False.elim h
  | succ n ih =>
    intro σ x5 ok h
    have fr : Fr (mF [] [(44, o1)] [] [(13, o1, [1])]) σ σ := Fr.rf
    have rb : ∀ (Q9 : St → Prop) (K9_109 : St → Prop), w9_file_L73 o1 x2 x4 Q9 K9_109 (n + 1) σ x5 → w9_file_L73 o1 x2 x4 Q9 K9_109 (n + 1) σ x5 := fun _ _ z => z
    obtain ⟨r10, h, rc⟩ := e1_length ok h
    have rb := fun Q9 K9_109 z => rb Q9 K9_109 (rc _ z)
    by_cases hc : r10 ≤ x5
    · have h := h.1 hc
      have rb := fun Q9 K9_109 z => rb Q9 K9_109 (br_t hc z)
      exact ⟨σ, h, ok, fr, fun Q9 K9_109 hq => rb Q9 K9_109 hq⟩
    have h := h.2 hc
    have rb := fun Q9 K9_109 z => rb Q9 K9_109 (br_f hc z)
    obtain ⟨hc, h⟩ := h
    have rb := fun Q9 K9_109 z => rb Q9 K9_109 (And.intro hc z)
    have h := h ((ok 21 0 _).2 (tyk_a 21 2 (by decide) (by decide) _))
    have rb := fun Q9 K9_109 z => rb Q9 K9_109 (im_n z)
    obtain ⟨σ11, h, ok, fr9, rc⟩ := e13_put ho1 ok h
    have fr := fr.tr (fr9.sub (mF_sub rfl (sub_c (Or.inr (List.mem_of_getElem? (i := 0) rfl)) sub_nil) rfl (sud_c (Or.inr ⟨_, List.mem_of_getElem? (i := 0) rfl, rfl⟩) sud_nil)))
    have rb := fun Q9 K9_109 z => rb Q9 K9_109 (rc _ z)
    rcases ih ok h with ⟨σ', h, ok, fr9, rc⟩
    · exact ⟨σ', h, ok, fr.tr fr9, fun Q9 K9_109 hq => rb Q9 K9_109 (rc Q9 K9_109 hq)⟩
set_option maxHeartbeats 4000000 in
theorem e9_file {σ : St} {o1 : Nat} {x2 : Int32} {x3 : Int32} {Q : St → Prop} (ho1 : o1 < 16) (ok : okS σ) (h : w9_file σ o1 x2 x3 Q) : (∃ (σ' : St), Q σ' ∧ okS σ' ∧ Fr (mF [] [(44, o1), (90, (o1 + 1))] [] [(13, o1, [1])]) σ σ' ∧ ∀ (Q9 : St → Prop), Q9 σ' → w9_file σ o1 x2 x3 Q9) := by
  have fr : Fr (mF [] [(44, o1), (90, (o1 + 1))] [] [(13, o1, [1])]) σ σ := Fr.rf
  have rb : ∀ (Q9 : St → Prop), w9_file σ o1 x2 x3 Q9 → w9_file σ o1 x2 x3 Q9 := fun _ z => z
  obtain ⟨σ1, h, ok, fr9, rc⟩ := e9_begin ho1 (by decide) ok h
  have fr := fr.tr (fr9.sub (mF_sub rfl (sub_c (Or.inr (List.mem_of_getElem? (i := 0) rfl)) (sub_c (Or.inr (List.mem_of_getElem? (i := 1) rfl)) sub_nil)) rfl (sud_c (Or.inr ⟨_, List.mem_of_getElem? (i := 0) rfl, rfl⟩) sud_nil)))
  have rb := fun Q9 z => rb Q9 (rc _ z)
  obtain ⟨r2, h, rc⟩ := e1_length ok h
  have rb := fun Q9 z => rb Q9 (rc _ z)
  obtain ⟨σ3, h, ok, fr9, rc⟩ := e9_length ho1 ok h
  have fr := fr.tr (fr9.sub (mF_sub rfl (sub_c (Or.inr (List.mem_of_getElem? (i := 0) rfl)) sub_nil) rfl (sud_c (Or.inr ⟨_, List.mem_of_getElem? (i := 0) rfl, rfl⟩) sud_nil)))
  have rb := fun Q9 z => rb Q9 (rc _ z)
  obtain ⟨σ4, h, ok, fr9, rc⟩ := e13_say ho1 (by decide) ok h
  have fr := fr.tr (fr9.sub (mF_sub rfl (sub_c (Or.inr (List.mem_of_getElem? (i := 0) rfl)) sub_nil) rfl (sud_c (Or.inr ⟨_, List.mem_of_getElem? (i := 0) rfl, rfl⟩) sud_nil)))
  have rb := fun Q9 z => rb Q9 (rc _ z)
  obtain ⟨t5, h, rc⟩ := e9_kind ok h
  have rb := fun Q9 z => rb Q9 (rc _ z)
  obtain ⟨ht5, h⟩ := h
  have rb := fun Q9 z => rb Q9 (And.intro ht5 z)
  obtain ⟨σ6, h, ok, fr9, rc⟩ := e13_line ho1 ht5 ok h
  have fr := fr.tr (fr9.sub (mF_sub rfl (sub_c (Or.inr (List.mem_of_getElem? (i := 0) rfl)) sub_nil) rfl (sud_c (Or.inr ⟨_, List.mem_of_getElem? (i := 0) rfl, rfl⟩) sud_nil)))
  have rb := fun Q9 z => rb Q9 (rc _ z)
  obtain ⟨σ7, h, ok, fr9, rc⟩ := e9_mark ho1 ok h
  have fr := fr.tr (fr9.sub (mF_sub rfl (sub_c (Or.inr (List.mem_of_getElem? (i := 0) rfl)) sub_nil) rfl (sud_c (Or.inr ⟨_, List.mem_of_getElem? (i := 0) rfl, rfl⟩) sud_nil)))
  have rb := fun Q9 z => rb Q9 (rc _ z)
  obtain ⟨σ8, h, ok, fr9, rc⟩ := e9_finish ho1 ok h
  have fr := fr.tr (fr9.sub (mF_sub rfl (sub_c (Or.inr (List.mem_of_getElem? (i := 0) rfl)) sub_nil) rfl (sud_c (Or.inr ⟨_, List.mem_of_getElem? (i := 0) rfl, rfl⟩) sud_nil)))
  have rb := fun Q9 z => rb Q9 (rc _ z)
  have h := h ((ok 9 0 5).1 (by decide))
  have rb := fun Q9 z => rb Q9 (im_n z)
  by_cases hc : (σ8 9 0 5) = 0
  · have h := h.1 hc
    have rb := fun Q9 z => rb Q9 (br_t hc z)
    obtain ⟨r9, h, rc⟩ := e1_place ok h
    have rb := fun Q9 z => rb Q9 (rc _ z)
    obtain ⟨n9, h⟩ := h
    rcases e9_file_L73 ho1 n9 ok h with ⟨σ13, h, ok, fr9, rc⟩
    · have rb := fun Q9 z => rb Q9 (Exists.intro n9 (rc _ _ z))
      have fr := fr.tr (fr9.sub (mF_sub rfl (sub_c (Or.inr (List.mem_of_getElem? (i := 0) rfl)) sub_nil) rfl (sud_c (Or.inr ⟨_, List.mem_of_getElem? (i := 0) rfl, rfl⟩) sud_nil)))
      exact ⟨σ13, h, ok, fr, fun Q9 hq => rb Q9 hq⟩
  have h := h.2 hc
  have rb := fun Q9 z => rb Q9 (br_f hc z)
  exact ⟨σ8, h, ok, fr, fun Q9 hq => rb Q9 hq⟩
/-! WebHost$Requests.isField(II)Z -/
set_option maxHeartbeats 4000000 in
theorem e9_isField_L2 {σ : St} {x1 : Int32} {x2 : Int32} {Q : Int32 → St → Prop} {K25 : Int32 → Prop} (ok : okS σ) :
    ∀ (n : Nat) {x3 : Int32}, w9_isField_L2 σ x1 x2 Q K25 n x3 → (∃ (x3' : Int32), K25 x3' ∧ ∀ (Q9 : Int32 → St → Prop) (K9_25 : Int32 → Prop), K9_25 x3' → w9_isField_L2 σ x1 x2 Q9 K9_25 n x3) := by
  intro n
  induction n with
  | zero =>
    intro x3 h
    exact False.elim h
  | succ n ih =>
    intro x3 h
    have rb : ∀ (Q9 : Int32 → St → Prop) (K9_25 : Int32 → Prop), w9_isField_L2 σ x1 x2 Q9 K9_25 (n + 1) x3 → w9_isField_L2 σ x1 x2 Q9 K9_25 (n + 1) x3 := fun _ _ z => z
    by_cases hc : x2 ≤ x3
    · have h := h.1 hc
      have rb := fun Q9 K9_25 z => rb Q9 K9_25 (br_t hc z)
      exact ⟨x3, h, fun Q9 K9_25 hq => rb Q9 K9_25 hq⟩
    have h := h.2 hc
    have rb := fun Q9 K9_25 z => rb Q9 K9_25 (br_f hc z)
    obtain ⟨hc, h⟩ := h
    have rb := fun Q9 K9_25 z => rb Q9 K9_25 (And.intro hc z)
    have h := h ((ok 40 0 _).2 (tyk_a 40 2 (by decide) (by decide) _))
    have rb := fun Q9 K9_25 z => rb Q9 K9_25 (im_n z)
    obtain ⟨r1, h, rc⟩ := e9_isNameCode ok h
    have rb := fun Q9 K9_25 z => rb Q9 K9_25 (rc _ z)
    by_cases hc : r1 = 0
    · have h := h.1 hc
      have rb := fun Q9 K9_25 z => rb Q9 K9_25 (br_t hc z)
      exact ⟨x3, h, fun Q9 K9_25 hq => rb Q9 K9_25 hq⟩
    have h := h.2 hc
    have rb := fun Q9 K9_25 z => rb Q9 K9_25 (br_f hc z)
    rcases ih h with ⟨x3, h, rc⟩
    · exact ⟨x3, h, fun Q9 K9_25 hq => rb Q9 K9_25 (rc Q9 K9_25 hq)⟩
set_option maxHeartbeats 4000000 in
theorem e9_isField_L56 {σ : St} {x1 : Int32} {x2 : Int32} {x3 : Int32} {x5 : Int32} {Q : Int32 → St → Prop} {K82 : Int32 → Prop} (ok : okS σ) :
    ∀ (n : Nat) {x4 : Int32}, w9_isField_L56 σ x1 x2 x3 x5 Q K82 n x4 → (∃ (x4' : Int32), K82 x4' ∧ ∀ (Q9 : Int32 → St → Prop) (K9_82 : Int32 → Prop), K9_82 x4' → w9_isField_L56 σ x1 x2 x3 x5 Q9 K9_82 n x4) := by
  intro n
  induction n with
  | zero =>
    intro x4 h
    exact False.elim h
  | succ n ih =>
    intro x4 h
    have rb : ∀ (Q9 : Int32 → St → Prop) (K9_82 : Int32 → Prop), w9_isField_L56 σ x1 x2 x3 x5 Q9 K9_82 (n + 1) x4 → w9_isField_L56 σ x1 x2 x3 x5 Q9 K9_82 (n + 1) x4 := fun _ _ z => z
    by_cases hc : x5 ≤ x4
    · have h := h.1 hc
      have rb := fun Q9 K9_82 z => rb Q9 K9_82 (br_t hc z)
      exact ⟨x4, h, fun Q9 K9_82 hq => rb Q9 K9_82 hq⟩
    have h := h.2 hc
    have rb := fun Q9 K9_82 z => rb Q9 K9_82 (br_f hc z)
    obtain ⟨hc, h⟩ := h
    have rb := fun Q9 K9_82 z => rb Q9 K9_82 (And.intro hc z)
    have h := h ((ok 40 0 _).2 (tyk_a 40 2 (by decide) (by decide) _))
    have rb := fun Q9 K9_82 z => rb Q9 K9_82 (im_n z)
    obtain ⟨r4, h, rc⟩ := e9_isBlank ok h
    have rb := fun Q9 K9_82 z => rb Q9 K9_82 (rc _ z)
    by_cases hc : r4 = 0
    · have h := h.1 hc
      have rb := fun Q9 K9_82 z => rb Q9 K9_82 (br_t hc z)
      exact ⟨x4, h, fun Q9 K9_82 hq => rb Q9 K9_82 hq⟩
    have h := h.2 hc
    have rb := fun Q9 K9_82 z => rb Q9 K9_82 (br_f hc z)
    rcases ih h with ⟨x4, h, rc⟩
    · exact ⟨x4, h, fun Q9 K9_82 hq => rb Q9 K9_82 (rc Q9 K9_82 hq)⟩
set_option maxHeartbeats 4000000 in
theorem e9_isField_L82 {σ : St} {x1 : Int32} {x2 : Int32} {x3 : Int32} {x4 : Int32} {Q : Int32 → St → Prop} {K110 : Int32 → Prop} (ok : okS σ) :
    ∀ (n : Nat) {x5 : Int32}, w9_isField_L82 σ x1 x2 x3 x4 Q K110 n x5 → (∃ (x5' : Int32), K110 x5' ∧ ∀ (Q9 : Int32 → St → Prop) (K9_110 : Int32 → Prop), K9_110 x5' → w9_isField_L82 σ x1 x2 x3 x4 Q9 K9_110 n x5) := by
  intro n
  induction n with
  | zero =>
    intro x5 h
    exact False.elim h
  | succ n ih =>
    intro x5 h
    have rb : ∀ (Q9 : Int32 → St → Prop) (K9_110 : Int32 → Prop), w9_isField_L82 σ x1 x2 x3 x4 Q9 K9_110 (n + 1) x5 → w9_isField_L82 σ x1 x2 x3 x4 Q9 K9_110 (n + 1) x5 := fun _ _ z => z
    by_cases hc : x5 ≤ x4
    · have h := h.1 hc
      have rb := fun Q9 K9_110 z => rb Q9 K9_110 (br_t hc z)
      exact ⟨x5, h, fun Q9 K9_110 hq => rb Q9 K9_110 hq⟩
    have h := h.2 hc
    have rb := fun Q9 K9_110 z => rb Q9 K9_110 (br_f hc z)
    obtain ⟨hc, h⟩ := h
    have rb := fun Q9 K9_110 z => rb Q9 K9_110 (And.intro hc z)
    have h := h ((ok 40 0 _).2 (tyk_a 40 2 (by decide) (by decide) _))
    have rb := fun Q9 K9_110 z => rb Q9 K9_110 (im_n z)
    obtain ⟨r7, h, rc⟩ := e9_isBlank ok h
    have rb := fun Q9 K9_110 z => rb Q9 K9_110 (rc _ z)
    by_cases hc : r7 = 0
    · have h := h.1 hc
      have rb := fun Q9 K9_110 z => rb Q9 K9_110 (br_t hc z)
      exact ⟨x5, h, fun Q9 K9_110 hq => rb Q9 K9_110 hq⟩
    have h := h.2 hc
    have rb := fun Q9 K9_110 z => rb Q9 K9_110 (br_f hc z)
    rcases ih h with ⟨x5, h, rc⟩
    · exact ⟨x5, h, fun Q9 K9_110 hq => rb Q9 K9_110 (rc Q9 K9_110 hq)⟩
set_option maxHeartbeats 4000000 in
theorem e9_isField_L115 {σ : St} {x1 : Int32} {x2 : Int32} {x3 : Int32} {x4 : Int32} {x5 : Int32} {Q : Int32 → St → Prop} {K164 : Prop} {K172 : Prop} (ok : okS σ) :
    ∀ (n : Nat) {x6 : Int32}, w9_isField_L115 σ x1 x2 x3 x4 x5 Q K164 K172 n x6 → (K164 ∧ ∀ (Q9 : Int32 → St → Prop) (K9_164 : Prop) (K9_172 : Prop), K9_164 → w9_isField_L115 σ x1 x2 x3 x4 x5 Q9 K9_164 K9_172 n x6) ∨ (K172 ∧ ∀ (Q9 : Int32 → St → Prop) (K9_164 : Prop) (K9_172 : Prop), K9_172 → w9_isField_L115 σ x1 x2 x3 x4 x5 Q9 K9_164 K9_172 n x6) := by
  intro n
  induction n with
  | zero =>
    intro x6 h
    exact False.elim h
  | succ n ih =>
    intro x6 h
    have rb : ∀ (Q9 : Int32 → St → Prop) (K9_164 : Prop) (K9_172 : Prop), w9_isField_L115 σ x1 x2 x3 x4 x5 Q9 K9_164 K9_172 (n + 1) x6 → w9_isField_L115 σ x1 x2 x3 x4 x5 Q9 K9_164 K9_172 (n + 1) x6 := fun _ _ _ z => z
    by_cases hc : x2 ≤ x6
    · have h := h.1 hc
      have rb := fun Q9 K9_164 K9_172 z => rb Q9 K9_164 K9_172 (br_t hc z)
      exact (Or.inr ⟨h, fun Q9 K9_164 K9_172 hq => rb Q9 K9_164 K9_172 hq⟩)
    have h := h.2 hc
    have rb := fun Q9 K9_164 K9_172 z => rb Q9 K9_164 K9_172 (br_f hc z)
    obtain ⟨hc, h⟩ := h
    have rb := fun Q9 K9_164 K9_172 z => rb Q9 K9_164 K9_172 (And.intro hc z)
    have h := h ((ok 40 0 _).2 (tyk_a 40 2 (by decide) (by decide) _))
    have rb := fun Q9 K9_164 K9_172 z => rb Q9 K9_164 K9_172 (im_n z)
    by_cases hc : (σ 40 0 x6.toNatClampNeg) = 9
    · have h := h.1 hc
      have rb := fun Q9 K9_164 K9_172 z => rb Q9 K9_164 K9_172 (br_t hc z)
      rcases ih h with ⟨h, rc⟩ | ⟨h, rc⟩
      · exact (Or.inl ⟨h, fun Q9 K9_164 K9_172 hq => rb Q9 K9_164 K9_172 (rc Q9 K9_164 K9_172 hq)⟩)
      · exact (Or.inr ⟨h, fun Q9 K9_164 K9_172 hq => rb Q9 K9_164 K9_172 (rc Q9 K9_164 K9_172 hq)⟩)
    have h := h.2 hc
    have rb := fun Q9 K9_164 K9_172 z => rb Q9 K9_164 K9_172 (br_f hc z)
    obtain ⟨hc, h⟩ := h
    have rb := fun Q9 K9_164 K9_172 z => rb Q9 K9_164 K9_172 (And.intro hc z)
    have h := h ((ok 40 0 _).2 (tyk_a 40 2 (by decide) (by decide) _))
    have rb := fun Q9 K9_164 K9_172 z => rb Q9 K9_164 K9_172 (im_n z)
    obtain ⟨r10, h, rc⟩ := e9_isIn ok h
    have rb := fun Q9 K9_164 K9_172 z => rb Q9 K9_164 K9_172 (rc _ z)
    by_cases hc : r10 = 0
    · have h := h.2 hc
      have rb := fun Q9 K9_164 K9_172 z => rb Q9 K9_164 K9_172 (br_u hc z)
      obtain ⟨hc, h⟩ := h
      have rb := fun Q9 K9_164 K9_172 z => rb Q9 K9_164 K9_172 (And.intro hc z)
      have h := h ((ok 40 0 _).2 (tyk_a 40 2 (by decide) (by decide) _))
      have rb := fun Q9 K9_164 K9_172 z => rb Q9 K9_164 K9_172 (im_n z)
      by_cases hc : (σ 40 0 x6.toNatClampNeg) < 0
      · have h := h.1 hc
        have rb := fun Q9 K9_164 K9_172 z => rb Q9 K9_164 K9_172 (br_t hc z)
        rcases ih h with ⟨h, rc⟩ | ⟨h, rc⟩
        · exact (Or.inl ⟨h, fun Q9 K9_164 K9_172 hq => rb Q9 K9_164 K9_172 (rc Q9 K9_164 K9_172 hq)⟩)
        · exact (Or.inr ⟨h, fun Q9 K9_164 K9_172 hq => rb Q9 K9_164 K9_172 (rc Q9 K9_164 K9_172 hq)⟩)
      have h := h.2 hc
      have rb := fun Q9 K9_164 K9_172 z => rb Q9 K9_164 K9_172 (br_f hc z)
      exact (Or.inl ⟨h, fun Q9 K9_164 K9_172 hq => rb Q9 K9_164 K9_172 hq⟩)
    have h := h.1 hc
    have rb := fun Q9 K9_164 K9_172 z => rb Q9 K9_164 K9_172 (br_v hc z)
    rcases ih h with ⟨h, rc⟩ | ⟨h, rc⟩
    · exact (Or.inl ⟨h, fun Q9 K9_164 K9_172 hq => rb Q9 K9_164 K9_172 (rc Q9 K9_164 K9_172 hq)⟩)
    · exact (Or.inr ⟨h, fun Q9 K9_164 K9_172 hq => rb Q9 K9_164 K9_172 (rc Q9 K9_164 K9_172 hq)⟩)
set_option maxHeartbeats 4000000 in
theorem e9_isField_J25 {σ : St} {x1 : Int32} {x2 : Int32} {x3 : Int32} {Q : Int32 → St → Prop} (ok : okS σ) (h : w9_isField_J25 σ x1 x2 x3 Q) : (∃ (r : Int32) (σ' : St), Q r σ' ∧ okS σ' ∧ Fr (mF [] [] [(9, [7, 8, 9, 10, 11, 12, 13, 14, 15, 16])] []) σ σ' ∧ ∀ (Q9 : Int32 → St → Prop), Q9 r σ' → w9_isField_J25 σ x1 x2 x3 Q9) := by
  have fr : Fr (mF [] [] [(9, [7, 8, 9, 10, 11, 12, 13, 14, 15, 16])] []) σ σ := Fr.rf
  have rb : ∀ (Q9 : Int32 → St → Prop), w9_isField_J25 σ x1 x2 x3 Q9 → w9_isField_J25 σ x1 x2 x3 Q9 := fun _ z => z
  by_cases hc : x3 = x1
  · have h := h.1 hc
    have rb := fun Q9 z => rb Q9 (br_t hc z)
    exact ⟨0, σ, h, ok, fr, fun Q9 hq => rb Q9 hq⟩
  have h := h.2 hc
  have rb := fun Q9 z => rb Q9 (br_f hc z)
  by_cases hc : x3 = x2
  · have h := h.1 hc
    have rb := fun Q9 z => rb Q9 (br_t hc z)
    exact ⟨0, σ, h, ok, fr, fun Q9 hq => rb Q9 hq⟩
  have h := h.2 hc
  have rb := fun Q9 z => rb Q9 (br_f hc z)
  obtain ⟨hc, h⟩ := h
  have rb := fun Q9 z => rb Q9 (And.intro hc z)
  have h := h ((ok 40 0 _).2 (tyk_a 40 2 (by decide) (by decide) _))
  have rb := fun Q9 z => rb Q9 (im_n z)
  by_cases hc : (σ 40 0 x3.toNatClampNeg) = 58
  · have h := h.1 hc
    have rb := fun Q9 z => rb Q9 (br_t hc z)
    obtain ⟨n9, h⟩ := h
    rcases e9_isField_L56 ok n9 h with ⟨x4_6, h, rc⟩
    · have rb := fun Q9 z => rb Q9 (Exists.intro n9 (rc _ _ z))
      obtain ⟨n9, h⟩ := h
      rcases e9_isField_L82 ok n9 h with ⟨x5_9, h, rc⟩
      · have rb := fun Q9 z => rb Q9 (Exists.intro n9 (rc _ _ z))
        obtain ⟨n9, h⟩ := h
        rcases e9_isField_L115 ok n9 h with ⟨h, rc⟩ | ⟨h, rc⟩
        · have rb := fun Q9 z => rb Q9 (Exists.intro n9 (rc _ _ _ z))
          exact ⟨0, σ, h, ok, fr, fun Q9 hq => rb Q9 hq⟩
        · have rb := fun Q9 z => rb Q9 (Exists.intro n9 (rc _ _ _ z))
          obtain ⟨σ14, h, ok, fr9, rc⟩ := e9_take ok h
          have fr := fr.tr (fr9.sub (mF_sub rfl sub_nil rfl sud_nil))
          have rb := fun Q9 z => rb Q9 (rc _ z)
          exact ⟨1, σ14, h, ok, fr, fun Q9 hq => rb Q9 hq⟩
  have h := h.2 hc
  have rb := fun Q9 z => rb Q9 (br_f hc z)
  exact ⟨0, σ, h, ok, fr, fun Q9 hq => rb Q9 hq⟩
set_option maxHeartbeats 4000000 in
theorem e9_isField {σ : St} {x1 : Int32} {x2 : Int32} {Q : Int32 → St → Prop} (ok : okS σ) (h : w9_isField σ x1 x2 Q) : (∃ (r : Int32) (σ' : St), Q r σ' ∧ okS σ' ∧ Fr (mF [] [] [(9, [7, 8, 9, 10, 11, 12, 13, 14, 15, 16])] []) σ σ' ∧ ∀ (Q9 : Int32 → St → Prop), Q9 r σ' → w9_isField σ x1 x2 Q9) := by
  have fr : Fr (mF [] [] [(9, [7, 8, 9, 10, 11, 12, 13, 14, 15, 16])] []) σ σ := Fr.rf
  have rb : ∀ (Q9 : Int32 → St → Prop), w9_isField σ x1 x2 Q9 → w9_isField σ x1 x2 Q9 := fun _ z => z
  obtain ⟨n9, h⟩ := h
  rcases e9_isField_L2 ok n9 h with ⟨x3_3, h, rc⟩
  · have rb := fun Q9 z => rb Q9 (Exists.intro n9 (rc _ _ z))
    obtain ⟨r9, σ9, h, ok, fr9, rc⟩ := e9_isField_J25 ok h
    exact ⟨r9, σ9, h, ok, fr.tr (fr9.sub (mF_sub rfl sub_nil rfl sud_nil)), fun Q9 hq => rb Q9 (rc Q9 hq)⟩
/-! WebHost$Requests.plain(LWebHost$Answer;ILjava/lang/String;Z)V -/
set_option maxHeartbeats 4000000 in
theorem e9_plain_J39 {σ : St} {o1 : Nat} {x2 : Int32} {t3 : Nat} {x4 : Int32} {Q : St → Prop} (ho1 : o1 < 16) (ht3 : t3 < nS) (ok : okS σ) (h : w9_plain_J39 σ o1 x2 t3 x4 Q) : (∃ (σ' : St), Q σ' ∧ okS σ' ∧ Fr (mF [] [(44, o1)] [] [(13, o1, [1])]) σ σ' ∧ ∀ (Q9 : St → Prop), Q9 σ' → w9_plain_J39 σ o1 x2 t3 x4 Q9) := by
  have fr : Fr (mF [] [(44, o1)] [] [(13, o1, [1])]) σ σ := Fr.rf
  have rb : ∀ (Q9 : St → Prop), w9_plain_J39 σ o1 x2 t3 x4 Q9 → w9_plain_J39 σ o1 x2 t3 x4 Q9 := fun _ z => z
  obtain ⟨σ5, h, ok, fr9, rc⟩ := e9_finish ho1 ok h
  have fr := fr.tr (fr9.sub (mF_sub rfl (sub_c (Or.inr (List.mem_of_getElem? (i := 0) rfl)) sub_nil) rfl (sud_c (Or.inr ⟨_, List.mem_of_getElem? (i := 0) rfl, rfl⟩) sud_nil)))
  have rb := fun Q9 z => rb Q9 (rc _ z)
  have h := h ((ok 9 0 5).1 (by decide))
  have rb := fun Q9 z => rb Q9 (im_n z)
  by_cases hc : (σ5 9 0 5) = 0
  · have h := h.1 hc
    have rb := fun Q9 z => rb Q9 (br_t hc z)
    obtain ⟨σ6, h, ok, fr9, rc⟩ := e13_number ho1 ok h
    have fr := fr.tr (fr9.sub (mF_sub rfl (sub_c (Or.inr (List.mem_of_getElem? (i := 0) rfl)) sub_nil) rfl (sud_c (Or.inr ⟨_, List.mem_of_getElem? (i := 0) rfl, rfl⟩) sud_nil)))
    have rb := fun Q9 z => rb Q9 (rc _ z)
    obtain ⟨σ7, h, ok, fr9, rc⟩ := e13_put ho1 ok h
    have fr := fr.tr (fr9.sub (mF_sub rfl (sub_c (Or.inr (List.mem_of_getElem? (i := 0) rfl)) sub_nil) rfl (sud_c (Or.inr ⟨_, List.mem_of_getElem? (i := 0) rfl, rfl⟩) sud_nil)))
    have rb := fun Q9 z => rb Q9 (rc _ z)
    obtain ⟨σ8, h, ok, fr9, rc⟩ := e13_say ho1 ht3 ok h
    have fr := fr.tr (fr9.sub (mF_sub rfl (sub_c (Or.inr (List.mem_of_getElem? (i := 0) rfl)) sub_nil) rfl (sud_c (Or.inr ⟨_, List.mem_of_getElem? (i := 0) rfl, rfl⟩) sud_nil)))
    have rb := fun Q9 z => rb Q9 (rc _ z)
    obtain ⟨σ9, h, ok, fr9, rc⟩ := e13_put ho1 ok h
    have fr := fr.tr (fr9.sub (mF_sub rfl (sub_c (Or.inr (List.mem_of_getElem? (i := 0) rfl)) sub_nil) rfl (sud_c (Or.inr ⟨_, List.mem_of_getElem? (i := 0) rfl, rfl⟩) sud_nil)))
    have rb := fun Q9 z => rb Q9 (rc _ z)
    exact ⟨σ9, h, ok, fr, fun Q9 hq => rb Q9 hq⟩
  have h := h.2 hc
  have rb := fun Q9 z => rb Q9 (br_f hc z)
  exact ⟨σ5, h, ok, fr, fun Q9 hq => rb Q9 hq⟩
set_option maxHeartbeats 4000000 in
theorem e9_plain {σ : St} {o1 : Nat} {x2 : Int32} {t3 : Nat} {x4 : Int32} {Q : St → Prop} (ho1 : o1 < 16) (ht3 : t3 < nS) (ok : okS σ) (h : w9_plain σ o1 x2 t3 x4 Q) : (∃ (σ' : St), Q σ' ∧ okS σ' ∧ Fr (mF [] [(44, o1), (90, (o1 + 1))] [] [(13, o1, [1])]) σ σ' ∧ ∀ (Q9 : St → Prop), Q9 σ' → w9_plain σ o1 x2 t3 x4 Q9) := by
  have fr : Fr (mF [] [(44, o1), (90, (o1 + 1))] [] [(13, o1, [1])]) σ σ := Fr.rf
  have rb : ∀ (Q9 : St → Prop), w9_plain σ o1 x2 t3 x4 Q9 → w9_plain σ o1 x2 t3 x4 Q9 := fun _ z => z
  obtain ⟨σ1, h, ok, fr9, rc⟩ := e9_begin ho1 ht3 ok h
  have fr := fr.tr (fr9.sub (mF_sub rfl (sub_c (Or.inr (List.mem_of_getElem? (i := 0) rfl)) (sub_c (Or.inr (List.mem_of_getElem? (i := 1) rfl)) sub_nil)) rfl (sud_c (Or.inr ⟨_, List.mem_of_getElem? (i := 0) rfl, rfl⟩) sud_nil)))
  have rb := fun Q9 z => rb Q9 (rc _ z)
  obtain ⟨r2, h, rc⟩ := eJ1_length ht3 h
  have rb := fun Q9 z => rb Q9 (rc _ z)
  obtain ⟨σ3, h, ok, fr9, rc⟩ := e9_length ho1 ok h
  have fr := fr.tr (fr9.sub (mF_sub rfl (sub_c (Or.inr (List.mem_of_getElem? (i := 0) rfl)) sub_nil) rfl (sud_c (Or.inr ⟨_, List.mem_of_getElem? (i := 0) rfl, rfl⟩) sud_nil)))
  have rb := fun Q9 z => rb Q9 (rc _ z)
  obtain ⟨σ4, h, ok, fr9, rc⟩ := e13_line ho1 (by decide) ok h
  have fr := fr.tr (fr9.sub (mF_sub rfl (sub_c (Or.inr (List.mem_of_getElem? (i := 0) rfl)) sub_nil) rfl (sud_c (Or.inr ⟨_, List.mem_of_getElem? (i := 0) rfl, rfl⟩) sud_nil)))
  have rb := fun Q9 z => rb Q9 (rc _ z)
  by_cases hc : x2 = 405
  · have h := h.2 hc
    have rb := fun Q9 z => rb Q9 (br_u hc z)
    obtain ⟨σ10, h, ok, fr9, rc⟩ := e13_line ho1 (by decide) ok h
    have fr := fr.tr (fr9.sub (mF_sub rfl (sub_c (Or.inr (List.mem_of_getElem? (i := 0) rfl)) sub_nil) rfl (sud_c (Or.inr ⟨_, List.mem_of_getElem? (i := 0) rfl, rfl⟩) sud_nil)))
    have rb := fun Q9 z => rb Q9 (rc _ z)
    obtain ⟨σ9, h, ok, fr9, rc⟩ := e9_plain_J39 ho1 ht3 ok h
    exact ⟨σ9, h, ok, fr.tr (fr9.sub (mF_sub rfl (sub_c (Or.inr (List.mem_of_getElem? (i := 0) rfl)) sub_nil) rfl (sud_c (Or.inr ⟨_, List.mem_of_getElem? (i := 0) rfl, rfl⟩) sud_nil))), fun Q9 hq => rb Q9 (rc Q9 hq)⟩
  have h := h.1 hc
  have rb := fun Q9 z => rb Q9 (br_v hc z)
  obtain ⟨σ9, h, ok, fr9, rc⟩ := e9_plain_J39 ho1 ht3 ok h
  exact ⟨σ9, h, ok, fr.tr (fr9.sub (mF_sub rfl (sub_c (Or.inr (List.mem_of_getElem? (i := 0) rfl)) sub_nil) rfl (sud_c (Or.inr ⟨_, List.mem_of_getElem? (i := 0) rfl, rfl⟩) sud_nil))), fun Q9 hq => rb Q9 (rc Q9 hq)⟩
/-! WebHost$Requests.same(LWebHost$Answer;IZ)V -/
set_option maxHeartbeats 4000000 in
theorem e9_same {σ : St} {o1 : Nat} {x2 : Int32} {x3 : Int32} {Q : St → Prop} (ho1 : o1 < 16) (ok : okS σ) (h : w9_same σ o1 x2 x3 Q) : (∃ (σ' : St), Q σ' ∧ okS σ' ∧ Fr (mF [] [(44, o1), (90, (o1 + 1))] [] [(13, o1, [1])]) σ σ' ∧ ∀ (Q9 : St → Prop), Q9 σ' → w9_same σ o1 x2 x3 Q9) := by
  have fr : Fr (mF [] [(44, o1), (90, (o1 + 1))] [] [(13, o1, [1])]) σ σ := Fr.rf
  have rb : ∀ (Q9 : St → Prop), w9_same σ o1 x2 x3 Q9 → w9_same σ o1 x2 x3 Q9 := fun _ z => z
  obtain ⟨σ1, h, ok, fr9, rc⟩ := e9_begin ho1 (by decide) ok h
  have fr := fr.tr (fr9.sub (mF_sub rfl (sub_c (Or.inr (List.mem_of_getElem? (i := 0) rfl)) (sub_c (Or.inr (List.mem_of_getElem? (i := 1) rfl)) sub_nil)) rfl (sud_c (Or.inr ⟨_, List.mem_of_getElem? (i := 0) rfl, rfl⟩) sud_nil)))
  have rb := fun Q9 z => rb Q9 (rc _ z)
  obtain ⟨σ2, h, ok, fr9, rc⟩ := e9_mark ho1 ok h
  have fr := fr.tr (fr9.sub (mF_sub rfl (sub_c (Or.inr (List.mem_of_getElem? (i := 0) rfl)) sub_nil) rfl (sud_c (Or.inr ⟨_, List.mem_of_getElem? (i := 0) rfl, rfl⟩) sud_nil)))
  have rb := fun Q9 z => rb Q9 (rc _ z)
  obtain ⟨σ3, h, ok, fr9, rc⟩ := e9_finish ho1 ok h
  have fr := fr.tr (fr9.sub (mF_sub rfl (sub_c (Or.inr (List.mem_of_getElem? (i := 0) rfl)) sub_nil) rfl (sud_c (Or.inr ⟨_, List.mem_of_getElem? (i := 0) rfl, rfl⟩) sud_nil)))
  have rb := fun Q9 z => rb Q9 (rc _ z)
  exact ⟨σ3, h, ok, fr, fun Q9 hq => rb Q9 hq⟩
/-! WebHost$Connection.acknowledge()V -/
set_option maxHeartbeats 4000000 in
theorem e11_acknowledge {σ : St} {o0 : Nat} {Q : St → Prop} (ho0 : o0 < 16) (ok : okS σ) (h : w11_acknowledge σ o0 Q) : (∃ (σ' : St), Q σ' ∧ okS σ' ∧ Fr (mF [23, 25, 26, 32, 35, 36] [] [(2, [3]), (3, [9]), (4, [0, 1, 2, 4]), (5, [2])] [(11, o0, [21, 22])]) σ σ' ∧ ∀ (Q9 : St → Prop), Q9 σ' → w11_acknowledge σ o0 Q9) := by
  have fr : Fr (mF [23, 25, 26, 32, 35, 36] [] [(2, [3]), (3, [9]), (4, [0, 1, 2, 4]), (5, [2])] [(11, o0, [21, 22])]) σ σ := Fr.rf
  have rb : ∀ (Q9 : St → Prop), w11_acknowledge σ o0 Q9 → w11_acknowledge σ o0 Q9 := fun _ z => z
  obtain ⟨σ1, h, ok, fr9, rc⟩ := e11_segment ho0 ok h
  have fr := fr.tr (fr9.sub (mF_sub rfl sub_nil rfl (sud_c (Or.inr ⟨_, List.mem_of_getElem? (i := 0) rfl, rfl⟩) sud_nil)))
  have rb := fun Q9 z => rb Q9 (rc _ z)
  exact ⟨σ1, h, ok, fr, fun Q9 hq => rb Q9 hq⟩
/-! WebHost$Connection.begin(LWebHost$Segment;I)V -/
set_option maxHeartbeats 4000000 in
theorem e11_begin_J147 {σ : St} {o0 : Nat} {xs0 : Int32} {os1 : Nat} {Q : St → Prop} (ho0 : o0 < 16) (hos1 : os1 < 16) (ok : okS σ) (h : w11_begin_J147 σ o0 xs0 os1 Q) : (∃ (σ' : St), Q σ' ∧ okS σ' ∧ Fr (mF [23, 25, 26, 32, 35, 36] [(43, o0)] [(2, [3]), (3, [9]), (4, [0, 1, 2, 4]), (5, [2])] [(11, o0, [2, 15, 16, 17, 18, 19, 21, 22, 23, 27, 28, 29, 30, 32, 33, 34, 35, 36, 37]), (11, os1, [14]), (12, o0, [2, 3])]) σ σ' ∧ ∀ (Q9 : St → Prop), Q9 σ' → w11_begin_J147 σ o0 xs0 os1 Q9) := by
  have fr : Fr (mF [23, 25, 26, 32, 35, 36] [(43, o0)] [(2, [3]), (3, [9]), (4, [0, 1, 2, 4]), (5, [2])] [(11, o0, [2, 15, 16, 17, 18, 19, 21, 22, 23, 27, 28, 29, 30, 32, 33, 34, 35, 36, 37]), (11, os1, [14]), (12, o0, [2, 3])]) σ σ := Fr.rf
  have rb : ∀ (Q9 : St → Prop), w11_begin_J147 σ o0 xs0 os1 Q9 → w11_begin_J147 σ o0 xs0 os1 Q9 := fun _ z => z
  obtain ⟨σ15, e9⟩ : ∃ s : St, s = up3 σ 11 os1 14 xs0 := ⟨_, rfl⟩
  have h := h σ15 e9
  have rb := fun Q9 z => rb Q9 (nm_n e9 z)
  have ok : okS σ15 := by rw [e9]; exact (ok_n ok (by decide))
  have fr : Fr (mF [23, 25, 26, 32, 35, 36] [(43, o0)] [(2, [3]), (3, [9]), (4, [0, 1, 2, 4]), (5, [2])] [(11, o0, [2, 15, 16, 17, 18, 19, 21, 22, 23, 27, 28, 29, 30, 32, 33, 34, 35, 36, 37]), (11, os1, [14]), (12, o0, [2, 3])]) σ σ15 := by rw [e9]; exact (Fr.up fr (mF_D (List.mem_of_getElem? (i := 1) rfl) rfl))
  obtain ⟨σ16, e9⟩ : ∃ s : St, s = up3 σ15 11 o0 15 65535 := ⟨_, rfl⟩
  have h := h σ16 e9
  have rb := fun Q9 z => rb Q9 (nm_n e9 z)
  have ok : okS σ16 := by rw [e9]; exact (ok_n ok (by decide))
  have fr : Fr (mF [23, 25, 26, 32, 35, 36] [(43, o0)] [(2, [3]), (3, [9]), (4, [0, 1, 2, 4]), (5, [2])] [(11, o0, [2, 15, 16, 17, 18, 19, 21, 22, 23, 27, 28, 29, 30, 32, 33, 34, 35, 36, 37]), (11, os1, [14]), (12, o0, [2, 3])]) σ σ16 := by rw [e9]; exact (Fr.up fr (mF_D (List.mem_of_getElem? (i := 0) rfl) rfl))
  obtain ⟨σ17, e9⟩ : ∃ s : St, s = up3 σ16 11 o0 16 1000 := ⟨_, rfl⟩
  have h := h σ17 e9
  have rb := fun Q9 z => rb Q9 (nm_n e9 z)
  have ok : okS σ17 := by rw [e9]; exact (ok_n ok (by decide))
  have fr : Fr (mF [23, 25, 26, 32, 35, 36] [(43, o0)] [(2, [3]), (3, [9]), (4, [0, 1, 2, 4]), (5, [2])] [(11, o0, [2, 15, 16, 17, 18, 19, 21, 22, 23, 27, 28, 29, 30, 32, 33, 34, 35, 36, 37]), (11, os1, [14]), (12, o0, [2, 3])]) σ σ17 := by rw [e9]; exact (Fr.up fr (mF_D (List.mem_of_getElem? (i := 0) rfl) rfl))
  obtain ⟨σ18, e9⟩ : ∃ s : St, s = up3 σ17 11 o0 17 0 := ⟨_, rfl⟩
  have h := h σ18 e9
  have rb := fun Q9 z => rb Q9 (nm_n e9 z)
  have ok : okS σ18 := by rw [e9]; exact (ok_n ok (by decide))
  have fr : Fr (mF [23, 25, 26, 32, 35, 36] [(43, o0)] [(2, [3]), (3, [9]), (4, [0, 1, 2, 4]), (5, [2])] [(11, o0, [2, 15, 16, 17, 18, 19, 21, 22, 23, 27, 28, 29, 30, 32, 33, 34, 35, 36, 37]), (11, os1, [14]), (12, o0, [2, 3])]) σ σ18 := by rw [e9]; exact (Fr.up fr (mF_D (List.mem_of_getElem? (i := 0) rfl) rfl))
  obtain ⟨σ19, e9⟩ : ∃ s : St, s = up3 σ18 11 o0 18 0 := ⟨_, rfl⟩
  have h := h σ19 e9
  have rb := fun Q9 z => rb Q9 (nm_n e9 z)
  have ok : okS σ19 := by rw [e9]; exact (ok_n ok (by decide))
  have fr : Fr (mF [23, 25, 26, 32, 35, 36] [(43, o0)] [(2, [3]), (3, [9]), (4, [0, 1, 2, 4]), (5, [2])] [(11, o0, [2, 15, 16, 17, 18, 19, 21, 22, 23, 27, 28, 29, 30, 32, 33, 34, 35, 36, 37]), (11, os1, [14]), (12, o0, [2, 3])]) σ σ19 := by rw [e9]; exact (Fr.up fr (mF_D (List.mem_of_getElem? (i := 0) rfl) rfl))
  obtain ⟨σ20, e9⟩ : ∃ s : St, s = up3 σ19 11 o0 19 0 := ⟨_, rfl⟩
  have h := h σ20 e9
  have rb := fun Q9 z => rb Q9 (nm_n e9 z)
  have ok : okS σ20 := by rw [e9]; exact (ok_z ok (by decide) (Or.inl rfl))
  have fr : Fr (mF [23, 25, 26, 32, 35, 36] [(43, o0)] [(2, [3]), (3, [9]), (4, [0, 1, 2, 4]), (5, [2])] [(11, o0, [2, 15, 16, 17, 18, 19, 21, 22, 23, 27, 28, 29, 30, 32, 33, 34, 35, 36, 37]), (11, os1, [14]), (12, o0, [2, 3])]) σ σ20 := by rw [e9]; exact (Fr.up fr (mF_D (List.mem_of_getElem? (i := 0) rfl) rfl))
  obtain ⟨σ21, h, ok, fr9, rc⟩ := e12_clear ho0 ok h
  have fr := fr.tr (fr9.sub (mF_sub rfl (sub_c (Or.inr (List.mem_of_getElem? (i := 0) rfl)) sub_nil) rfl (sud_c (Or.inr ⟨_, List.mem_of_getElem? (i := 2) rfl, rfl⟩) sud_nil)))
  have rb := fun Q9 z => rb Q9 (rc _ z)
  obtain ⟨σ22, e9⟩ : ∃ s : St, s = up3 σ21 11 o0 22 0 := ⟨_, rfl⟩
  have h := h σ22 e9
  have rb := fun Q9 z => rb Q9 (nm_n e9 z)
  have ok : okS σ22 := by rw [e9]; exact (ok_z ok (by decide) (Or.inl rfl))
  have fr : Fr (mF [23, 25, 26, 32, 35, 36] [(43, o0)] [(2, [3]), (3, [9]), (4, [0, 1, 2, 4]), (5, [2])] [(11, o0, [2, 15, 16, 17, 18, 19, 21, 22, 23, 27, 28, 29, 30, 32, 33, 34, 35, 36, 37]), (11, os1, [14]), (12, o0, [2, 3])]) σ σ22 := by rw [e9]; exact (Fr.up fr (mF_D (List.mem_of_getElem? (i := 0) rfl) rfl))
  obtain ⟨σ23, e9⟩ : ∃ s : St, s = up3 σ22 11 o0 23 0 := ⟨_, rfl⟩
  have h := h σ23 e9
  have rb := fun Q9 z => rb Q9 (nm_n e9 z)
  have ok : okS σ23 := by rw [e9]; exact (ok_z ok (by decide) (Or.inl rfl))
  have fr : Fr (mF [23, 25, 26, 32, 35, 36] [(43, o0)] [(2, [3]), (3, [9]), (4, [0, 1, 2, 4]), (5, [2])] [(11, o0, [2, 15, 16, 17, 18, 19, 21, 22, 23, 27, 28, 29, 30, 32, 33, 34, 35, 36, 37]), (11, os1, [14]), (12, o0, [2, 3])]) σ σ23 := by rw [e9]; exact (Fr.up fr (mF_D (List.mem_of_getElem? (i := 0) rfl) rfl))
  obtain ⟨σ24, e9⟩ : ∃ s : St, s = up3 σ23 11 o0 27 0 := ⟨_, rfl⟩
  have h := h σ24 e9
  have rb := fun Q9 z => rb Q9 (nm_n e9 z)
  have ok : okS σ24 := by rw [e9]; exact (ok_z ok (by decide) (Or.inl rfl))
  have fr : Fr (mF [23, 25, 26, 32, 35, 36] [(43, o0)] [(2, [3]), (3, [9]), (4, [0, 1, 2, 4]), (5, [2])] [(11, o0, [2, 15, 16, 17, 18, 19, 21, 22, 23, 27, 28, 29, 30, 32, 33, 34, 35, 36, 37]), (11, os1, [14]), (12, o0, [2, 3])]) σ σ24 := by rw [e9]; exact (Fr.up fr (mF_D (List.mem_of_getElem? (i := 0) rfl) rfl))
  obtain ⟨σ25, e9⟩ : ∃ s : St, s = up3 σ24 11 o0 28 0 := ⟨_, rfl⟩
  have h := h σ25 e9
  have rb := fun Q9 z => rb Q9 (nm_n e9 z)
  have ok : okS σ25 := by rw [e9]; exact (ok_z ok (by decide) (Or.inl rfl))
  have fr : Fr (mF [23, 25, 26, 32, 35, 36] [(43, o0)] [(2, [3]), (3, [9]), (4, [0, 1, 2, 4]), (5, [2])] [(11, o0, [2, 15, 16, 17, 18, 19, 21, 22, 23, 27, 28, 29, 30, 32, 33, 34, 35, 36, 37]), (11, os1, [14]), (12, o0, [2, 3])]) σ σ25 := by rw [e9]; exact (Fr.up fr (mF_D (List.mem_of_getElem? (i := 0) rfl) rfl))
  obtain ⟨σ26, e9⟩ : ∃ s : St, s = up3 σ25 11 o0 33 0 := ⟨_, rfl⟩
  have h := h σ26 e9
  have rb := fun Q9 z => rb Q9 (nm_n e9 z)
  have ok : okS σ26 := by rw [e9]; exact (ok_z ok (by decide) (Or.inl rfl))
  have fr : Fr (mF [23, 25, 26, 32, 35, 36] [(43, o0)] [(2, [3]), (3, [9]), (4, [0, 1, 2, 4]), (5, [2])] [(11, o0, [2, 15, 16, 17, 18, 19, 21, 22, 23, 27, 28, 29, 30, 32, 33, 34, 35, 36, 37]), (11, os1, [14]), (12, o0, [2, 3])]) σ σ26 := by rw [e9]; exact (Fr.up fr (mF_D (List.mem_of_getElem? (i := 0) rfl) rfl))
  obtain ⟨σ27, e9⟩ : ∃ s : St, s = up3 σ26 11 o0 35 0 := ⟨_, rfl⟩
  have h := h σ27 e9
  have rb := fun Q9 z => rb Q9 (nm_n e9 z)
  have ok : okS σ27 := by rw [e9]; exact (ok_z ok (by decide) (Or.inl rfl))
  have fr : Fr (mF [23, 25, 26, 32, 35, 36] [(43, o0)] [(2, [3]), (3, [9]), (4, [0, 1, 2, 4]), (5, [2])] [(11, o0, [2, 15, 16, 17, 18, 19, 21, 22, 23, 27, 28, 29, 30, 32, 33, 34, 35, 36, 37]), (11, os1, [14]), (12, o0, [2, 3])]) σ σ27 := by rw [e9]; exact (Fr.up fr (mF_D (List.mem_of_getElem? (i := 0) rfl) rfl))
  obtain ⟨σ28, e9⟩ : ∃ s : St, s = up3 σ27 11 o0 29 0 := ⟨_, rfl⟩
  have h := h σ28 e9
  have rb := fun Q9 z => rb Q9 (nm_n e9 z)
  have ok : okS σ28 := by rw [e9]; exact (ok_z ok (by decide) (Or.inl rfl))
  have fr : Fr (mF [23, 25, 26, 32, 35, 36] [(43, o0)] [(2, [3]), (3, [9]), (4, [0, 1, 2, 4]), (5, [2])] [(11, o0, [2, 15, 16, 17, 18, 19, 21, 22, 23, 27, 28, 29, 30, 32, 33, 34, 35, 36, 37]), (11, os1, [14]), (12, o0, [2, 3])]) σ σ28 := by rw [e9]; exact (Fr.up fr (mF_D (List.mem_of_getElem? (i := 0) rfl) rfl))
  obtain ⟨r29, h, rc⟩ := e8_now ok h
  have rb := fun Q9 z => rb Q9 (rc _ z)
  obtain ⟨σ30, e9⟩ : ∃ s : St, s = up3 σ28 11 o0 32 r29 := ⟨_, rfl⟩
  have h := h σ30 e9
  have rb := fun Q9 z => rb Q9 (nm_n e9 z)
  have ok : okS σ30 := by rw [e9]; exact (ok_n ok (by decide))
  have fr : Fr (mF [23, 25, 26, 32, 35, 36] [(43, o0)] [(2, [3]), (3, [9]), (4, [0, 1, 2, 4]), (5, [2])] [(11, o0, [2, 15, 16, 17, 18, 19, 21, 22, 23, 27, 28, 29, 30, 32, 33, 34, 35, 36, 37]), (11, os1, [14]), (12, o0, [2, 3])]) σ σ30 := by rw [e9]; exact (Fr.up fr (mF_D (List.mem_of_getElem? (i := 0) rfl) rfl))
  obtain ⟨σ31, e9⟩ : ∃ s : St, s = up3 σ30 11 o0 2 1 := ⟨_, rfl⟩
  have h := h σ31 e9
  have rb := fun Q9 z => rb Q9 (nm_n e9 z)
  have ok : okS σ31 := by rw [e9]; exact (ok_n ok (by decide))
  have fr : Fr (mF [23, 25, 26, 32, 35, 36] [(43, o0)] [(2, [3]), (3, [9]), (4, [0, 1, 2, 4]), (5, [2])] [(11, o0, [2, 15, 16, 17, 18, 19, 21, 22, 23, 27, 28, 29, 30, 32, 33, 34, 35, 36, 37]), (11, os1, [14]), (12, o0, [2, 3])]) σ σ31 := by rw [e9]; exact (Fr.up fr (mF_D (List.mem_of_getElem? (i := 0) rfl) rfl))
  obtain ⟨σ32, h, ok, fr9, rc⟩ := e11_time ho0 ok h
  have fr := fr.tr (fr9.sub (mF_sub rfl sub_nil rfl (sud_c (Or.inr ⟨_, List.mem_of_getElem? (i := 0) rfl, rfl⟩) sud_nil)))
  have rb := fun Q9 z => rb Q9 (rc _ z)
  obtain ⟨σ33, h, ok, fr9, rc⟩ := e11_startTimer ho0 ok h
  have fr := fr.tr (fr9.sub (mF_sub rfl sub_nil rfl (sud_c (Or.inr ⟨_, List.mem_of_getElem? (i := 0) rfl, rfl⟩) sud_nil)))
  have rb := fun Q9 z => rb Q9 (rc _ z)
  obtain ⟨σ34, h, ok, fr9, rc⟩ := e11_segment ho0 ok h
  have fr := fr.tr (fr9.sub (mF_sub rfl sub_nil rfl (sud_c (Or.inr ⟨_, List.mem_of_getElem? (i := 0) rfl, rfl⟩) sud_nil)))
  have rb := fun Q9 z => rb Q9 (rc _ z)
  exact ⟨σ34, h, ok, fr, fun Q9 hq => rb Q9 hq⟩
set_option maxHeartbeats 4000000 in
theorem e11_begin {σ : St} {o0 : Nat} {x2 : Int32} {Q : St → Prop} (ho0 : o0 < 16) (ok : okS σ) (h : w11_begin σ o0 x2 Q) : (∃ (σ' : St), Q σ' ∧ okS σ' ∧ Fr (mF [23, 25, 26, 32, 35, 36] [(43, o0)] [(2, [3]), (3, [9]), (4, [0, 1, 2, 4]), (5, [2])] [(11, o0, [2, 3, 4, 5, 6, 7, 8, 9, 10, 11, 12, 13, 14, 15, 16, 17, 18, 19, 21, 22, 23, 26, 27, 28, 29, 30, 32, 33, 34, 35, 36, 37]), (12, o0, [2, 3]), (13, o0, [1])]) σ σ' ∧ ∀ (Q9 : St → Prop), Q9 σ' → w11_begin σ o0 x2 Q9) := by
  have fr : Fr (mF [23, 25, 26, 32, 35, 36] [(43, o0)] [(2, [3]), (3, [9]), (4, [0, 1, 2, 4]), (5, [2])] [(11, o0, [2, 3, 4, 5, 6, 7, 8, 9, 10, 11, 12, 13, 14, 15, 16, 17, 18, 19, 21, 22, 23, 26, 27, 28, 29, 30, 32, 33, 34, 35, 36, 37]), (12, o0, [2, 3]), (13, o0, [1])]) σ σ := Fr.rf
  have rb : ∀ (Q9 : St → Prop), w11_begin σ o0 x2 Q9 → w11_begin σ o0 x2 Q9 := fun _ z => z
  obtain ⟨σ1, e9⟩ : ∃ s : St, s = up3 σ 11 o0 3 (σ 10 0 0) := ⟨_, rfl⟩
  have h := h σ1 e9
  have rb := fun Q9 z => rb Q9 (nm_n e9 z)
  have ok : okS σ1 := by rw [e9]; exact (ok_n ok (by decide))
  have fr : Fr (mF [23, 25, 26, 32, 35, 36] [(43, o0)] [(2, [3]), (3, [9]), (4, [0, 1, 2, 4]), (5, [2])] [(11, o0, [2, 3, 4, 5, 6, 7, 8, 9, 10, 11, 12, 13, 14, 15, 16, 17, 18, 19, 21, 22, 23, 26, 27, 28, 29, 30, 32, 33, 34, 35, 36, 37]), (12, o0, [2, 3]), (13, o0, [1])]) σ σ1 := by rw [e9]; exact (Fr.up fr (mF_D (List.mem_of_getElem? (i := 0) rfl) rfl))
  obtain ⟨σ2, e9⟩ : ∃ s : St, s = up3 σ1 11 o0 4 (σ1 10 0 1) := ⟨_, rfl⟩
  have h := h σ2 e9
  have rb := fun Q9 z => rb Q9 (nm_n e9 z)
  have ok : okS σ2 := by rw [e9]; exact (ok_n ok (by decide))
  have fr : Fr (mF [23, 25, 26, 32, 35, 36] [(43, o0)] [(2, [3]), (3, [9]), (4, [0, 1, 2, 4]), (5, [2])] [(11, o0, [2, 3, 4, 5, 6, 7, 8, 9, 10, 11, 12, 13, 14, 15, 16, 17, 18, 19, 21, 22, 23, 26, 27, 28, 29, 30, 32, 33, 34, 35, 36, 37]), (12, o0, [2, 3]), (13, o0, [1])]) σ σ2 := by rw [e9]; exact (Fr.up fr (mF_D (List.mem_of_getElem? (i := 0) rfl) rfl))
  obtain ⟨r3, h, rc⟩ := e8_now ok h
  have rb := fun Q9 z => rb Q9 (rc _ z)
  obtain ⟨σ4, e9⟩ : ∃ s : St, s = up3 σ2 11 o0 5 ((64000 * x2) + (250 * r3)) := ⟨_, rfl⟩
  have h := h σ4 e9
  have rb := fun Q9 z => rb Q9 (nm_n e9 z)
  have ok : okS σ4 := by rw [e9]; exact (ok_n ok (by decide))
  have fr : Fr (mF [23, 25, 26, 32, 35, 36] [(43, o0)] [(2, [3]), (3, [9]), (4, [0, 1, 2, 4]), (5, [2])] [(11, o0, [2, 3, 4, 5, 6, 7, 8, 9, 10, 11, 12, 13, 14, 15, 16, 17, 18, 19, 21, 22, 23, 26, 27, 28, 29, 30, 32, 33, 34, 35, 36, 37]), (12, o0, [2, 3]), (13, o0, [1])]) σ σ4 := by rw [e9]; exact (Fr.up fr (mF_D (List.mem_of_getElem? (i := 0) rfl) rfl))
  obtain ⟨σ5, e9⟩ : ∃ s : St, s = up3 σ4 11 o0 6 ((σ4 10 0 3) + 1) := ⟨_, rfl⟩
  have h := h σ5 e9
  have rb := fun Q9 z => rb Q9 (nm_n e9 z)
  have ok : okS σ5 := by rw [e9]; exact (ok_n ok (by decide))
  have fr : Fr (mF [23, 25, 26, 32, 35, 36] [(43, o0)] [(2, [3]), (3, [9]), (4, [0, 1, 2, 4]), (5, [2])] [(11, o0, [2, 3, 4, 5, 6, 7, 8, 9, 10, 11, 12, 13, 14, 15, 16, 17, 18, 19, 21, 22, 23, 26, 27, 28, 29, 30, 32, 33, 34, 35, 36, 37]), (12, o0, [2, 3]), (13, o0, [1])]) σ σ5 := by rw [e9]; exact (Fr.up fr (mF_D (List.mem_of_getElem? (i := 0) rfl) rfl))
  obtain ⟨σ6, e9⟩ : ∃ s : St, s = up3 σ5 11 o0 9 (σ5 11 o0 5) := ⟨_, rfl⟩
  have h := h σ6 e9
  have rb := fun Q9 z => rb Q9 (nm_n e9 z)
  have ok : okS σ6 := by rw [e9]; exact (ok_n ok (by decide))
  have fr : Fr (mF [23, 25, 26, 32, 35, 36] [(43, o0)] [(2, [3]), (3, [9]), (4, [0, 1, 2, 4]), (5, [2])] [(11, o0, [2, 3, 4, 5, 6, 7, 8, 9, 10, 11, 12, 13, 14, 15, 16, 17, 18, 19, 21, 22, 23, 26, 27, 28, 29, 30, 32, 33, 34, 35, 36, 37]), (12, o0, [2, 3]), (13, o0, [1])]) σ σ6 := by rw [e9]; exact (Fr.up fr (mF_D (List.mem_of_getElem? (i := 0) rfl) rfl))
  obtain ⟨σ7, e9⟩ : ∃ s : St, s = up3 σ6 11 o0 10 ((σ6 11 o0 5) + 1) := ⟨_, rfl⟩
  have h := h σ7 e9
  have rb := fun Q9 z => rb Q9 (nm_n e9 z)
  have ok : okS σ7 := by rw [e9]; exact (ok_n ok (by decide))
  have fr : Fr (mF [23, 25, 26, 32, 35, 36] [(43, o0)] [(2, [3]), (3, [9]), (4, [0, 1, 2, 4]), (5, [2])] [(11, o0, [2, 3, 4, 5, 6, 7, 8, 9, 10, 11, 12, 13, 14, 15, 16, 17, 18, 19, 21, 22, 23, 26, 27, 28, 29, 30, 32, 33, 34, 35, 36, 37]), (12, o0, [2, 3]), (13, o0, [1])]) σ σ7 := by rw [e9]; exact (Fr.up fr (mF_D (List.mem_of_getElem? (i := 0) rfl) rfl))
  obtain ⟨σ8, e9⟩ : ∃ s : St, s = up3 σ7 11 o0 11 ((σ7 11 o0 5) + 1) := ⟨_, rfl⟩
  have h := h σ8 e9
  have rb := fun Q9 z => rb Q9 (nm_n e9 z)
  have ok : okS σ8 := by rw [e9]; exact (ok_n ok (by decide))
  have fr : Fr (mF [23, 25, 26, 32, 35, 36] [(43, o0)] [(2, [3]), (3, [9]), (4, [0, 1, 2, 4]), (5, [2])] [(11, o0, [2, 3, 4, 5, 6, 7, 8, 9, 10, 11, 12, 13, 14, 15, 16, 17, 18, 19, 21, 22, 23, 26, 27, 28, 29, 30, 32, 33, 34, 35, 36, 37]), (12, o0, [2, 3]), (13, o0, [1])]) σ σ8 := by rw [e9]; exact (Fr.up fr (mF_D (List.mem_of_getElem? (i := 0) rfl) rfl))
  obtain ⟨σ9, e9⟩ : ∃ s : St, s = up3 σ8 11 o0 26 ((σ8 11 o0 5) + 1) := ⟨_, rfl⟩
  have h := h σ9 e9
  have rb := fun Q9 z => rb Q9 (nm_n e9 z)
  have ok : okS σ9 := by rw [e9]; exact (ok_n ok (by decide))
  have fr : Fr (mF [23, 25, 26, 32, 35, 36] [(43, o0)] [(2, [3]), (3, [9]), (4, [0, 1, 2, 4]), (5, [2])] [(11, o0, [2, 3, 4, 5, 6, 7, 8, 9, 10, 11, 12, 13, 14, 15, 16, 17, 18, 19, 21, 22, 23, 26, 27, 28, 29, 30, 32, 33, 34, 35, 36, 37]), (12, o0, [2, 3]), (13, o0, [1])]) σ σ9 := by rw [e9]; exact (Fr.up fr (mF_D (List.mem_of_getElem? (i := 0) rfl) rfl))
  obtain ⟨σ10, e9⟩ : ∃ s : St, s = up3 σ9 13 o0 1 0 := ⟨_, rfl⟩
  have h := h σ10 e9
  have rb := fun Q9 z => rb Q9 (nm_n e9 z)
  have ok : okS σ10 := by rw [e9]; exact (ok_n ok (by decide))
  have fr : Fr (mF [23, 25, 26, 32, 35, 36] [(43, o0)] [(2, [3]), (3, [9]), (4, [0, 1, 2, 4]), (5, [2])] [(11, o0, [2, 3, 4, 5, 6, 7, 8, 9, 10, 11, 12, 13, 14, 15, 16, 17, 18, 19, 21, 22, 23, 26, 27, 28, 29, 30, 32, 33, 34, 35, 36, 37]), (12, o0, [2, 3]), (13, o0, [1])]) σ σ10 := by rw [e9]; exact (Fr.up fr (mF_D (List.mem_of_getElem? (i := 2) rfl) rfl))
  obtain ⟨σ11, e9⟩ : ∃ s : St, s = up3 σ10 11 o0 12 (σ10 10 0 6) := ⟨_, rfl⟩
  have h := h σ11 e9
  have rb := fun Q9 z => rb Q9 (nm_n e9 z)
  have ok : okS σ11 := by rw [e9]; exact (ok_n ok (by decide))
  have fr : Fr (mF [23, 25, 26, 32, 35, 36] [(43, o0)] [(2, [3]), (3, [9]), (4, [0, 1, 2, 4]), (5, [2])] [(11, o0, [2, 3, 4, 5, 6, 7, 8, 9, 10, 11, 12, 13, 14, 15, 16, 17, 18, 19, 21, 22, 23, 26, 27, 28, 29, 30, 32, 33, 34, 35, 36, 37]), (12, o0, [2, 3]), (13, o0, [1])]) σ σ11 := by rw [e9]; exact (Fr.up fr (mF_D (List.mem_of_getElem? (i := 0) rfl) rfl))
  obtain ⟨σ12, e9⟩ : ∃ s : St, s = up3 σ11 11 o0 7 (σ11 10 0 3) := ⟨_, rfl⟩
  have h := h σ12 e9
  have rb := fun Q9 z => rb Q9 (nm_n e9 z)
  have ok : okS σ12 := by rw [e9]; exact (ok_n ok (by decide))
  have fr : Fr (mF [23, 25, 26, 32, 35, 36] [(43, o0)] [(2, [3]), (3, [9]), (4, [0, 1, 2, 4]), (5, [2])] [(11, o0, [2, 3, 4, 5, 6, 7, 8, 9, 10, 11, 12, 13, 14, 15, 16, 17, 18, 19, 21, 22, 23, 26, 27, 28, 29, 30, 32, 33, 34, 35, 36, 37]), (12, o0, [2, 3]), (13, o0, [1])]) σ σ12 := by rw [e9]; exact (Fr.up fr (mF_D (List.mem_of_getElem? (i := 0) rfl) rfl))
  obtain ⟨σ13, e9⟩ : ∃ s : St, s = up3 σ12 11 o0 8 0 := ⟨_, rfl⟩
  have h := h σ13 e9
  have rb := fun Q9 z => rb Q9 (nm_n e9 z)
  have ok : okS σ13 := by rw [e9]; exact (ok_n ok (by decide))
  have fr : Fr (mF [23, 25, 26, 32, 35, 36] [(43, o0)] [(2, [3]), (3, [9]), (4, [0, 1, 2, 4]), (5, [2])] [(11, o0, [2, 3, 4, 5, 6, 7, 8, 9, 10, 11, 12, 13, 14, 15, 16, 17, 18, 19, 21, 22, 23, 26, 27, 28, 29, 30, 32, 33, 34, 35, 36, 37]), (12, o0, [2, 3]), (13, o0, [1])]) σ σ13 := by rw [e9]; exact (Fr.up fr (mF_D (List.mem_of_getElem? (i := 0) rfl) rfl))
  obtain ⟨σ14, e9⟩ : ∃ s : St, s = up3 σ13 11 o0 13 (σ13 10 0 10) := ⟨_, rfl⟩
  have h := h σ14 e9
  have rb := fun Q9 z => rb Q9 (nm_n e9 z)
  have ok : okS σ14 := by rw [e9]; exact (ok_n ok (by decide))
  have fr : Fr (mF [23, 25, 26, 32, 35, 36] [(43, o0)] [(2, [3]), (3, [9]), (4, [0, 1, 2, 4]), (5, [2])] [(11, o0, [2, 3, 4, 5, 6, 7, 8, 9, 10, 11, 12, 13, 14, 15, 16, 17, 18, 19, 21, 22, 23, 26, 27, 28, 29, 30, 32, 33, 34, 35, 36, 37]), (12, o0, [2, 3]), (13, o0, [1])]) σ σ14 := by rw [e9]; exact (Fr.up fr (mF_D (List.mem_of_getElem? (i := 0) rfl) rfl))
  by_cases hc : 1095 < (σ14 11 o0 13)
  · have h := h.1 hc
    have rb := fun Q9 z => rb Q9 (br_t hc z)
    obtain ⟨σ9, h, ok, fr9, rc⟩ := e11_begin_J147 ho0 ho0 ok h
    exact ⟨σ9, h, ok, fr.tr (fr9.sub (mF_sub rfl (sub_c (Or.inr (List.mem_of_getElem? (i := 0) rfl)) sub_nil) rfl (sud_c (Or.inr ⟨_, List.mem_of_getElem? (i := 0) rfl, rfl⟩) (sud_c (Or.inr ⟨_, List.mem_of_getElem? (i := 0) rfl, rfl⟩) (sud_c (Or.inr ⟨_, List.mem_of_getElem? (i := 1) rfl, rfl⟩) sud_nil))))), fun Q9 hq => rb Q9 (rc Q9 hq)⟩
  have h := h.2 hc
  have rb := fun Q9 z => rb Q9 (br_f hc z)
  obtain ⟨σ9, h, ok, fr9, rc⟩ := e11_begin_J147 ho0 ho0 ok h
  exact ⟨σ9, h, ok, fr.tr (fr9.sub (mF_sub rfl (sub_c (Or.inr (List.mem_of_getElem? (i := 0) rfl)) sub_nil) rfl (sud_c (Or.inr ⟨_, List.mem_of_getElem? (i := 0) rfl, rfl⟩) (sud_c (Or.inr ⟨_, List.mem_of_getElem? (i := 0) rfl, rfl⟩) (sud_c (Or.inr ⟨_, List.mem_of_getElem? (i := 1) rfl, rfl⟩) sud_nil))))), fun Q9 hq => rb Q9 (rc Q9 hq)⟩
/-! WebHost$Connection.repeat()V -/
set_option maxHeartbeats 4000000 in
theorem e11_repeat_J150 {σ : St} {o0 : Nat} {x1 : Int32} {x3 : Int32} {Q : St → Prop} (ho0 : o0 < 16) (ok : okS σ) (h : w11_repeat_J150 σ o0 x1 x3 Q) : (∃ (σ' : St), Q σ' ∧ okS σ' ∧ Fr (mF [23, 25, 26, 32, 35, 36] [] [(2, [3]), (3, [9]), (4, [0, 1, 2, 4]), (5, [2])] [(11, o0, [14, 19, 21, 22, 29, 30])]) σ σ' ∧ ∀ (Q9 : St → Prop), Q9 σ' → w11_repeat_J150 σ o0 x1 x3 Q9) := by
  have fr : Fr (mF [23, 25, 26, 32, 35, 36] [] [(2, [3]), (3, [9]), (4, [0, 1, 2, 4]), (5, [2])] [(11, o0, [14, 19, 21, 22, 29, 30])]) σ σ := Fr.rf
  have rb : ∀ (Q9 : St → Prop), w11_repeat_J150 σ o0 x1 x3 Q9 → w11_repeat_J150 σ o0 x1 x3 Q9 := fun _ z => z
  obtain ⟨σ7, h, ok, fr9, rc⟩ := e11_startTimer ho0 ok h
  have fr := fr.tr (fr9.sub (mF_sub rfl sub_nil rfl (sud_c (Or.inr ⟨_, List.mem_of_getElem? (i := 0) rfl, rfl⟩) sud_nil)))
  have rb := fun Q9 z => rb Q9 (rc _ z)
  obtain ⟨σ8, h, ok, fr9, rc⟩ := e11_segment ho0 ok h
  have fr := fr.tr (fr9.sub (mF_sub rfl sub_nil rfl (sud_c (Or.inr ⟨_, List.mem_of_getElem? (i := 0) rfl, rfl⟩) sud_nil)))
  have rb := fun Q9 z => rb Q9 (rc _ z)
  obtain ⟨σ9, e9⟩ : ∃ s : St, s = up3 σ8 11 o0 14 (imin ((σ8 11 o0 15) + (3 * (σ8 11 o0 13))) 65535) := ⟨_, rfl⟩
  have h := h σ9 e9
  have rb := fun Q9 z => rb Q9 (nm_n e9 z)
  have ok : okS σ9 := by rw [e9]; exact (ok_n ok (by decide))
  have fr : Fr (mF [23, 25, 26, 32, 35, 36] [] [(2, [3]), (3, [9]), (4, [0, 1, 2, 4]), (5, [2])] [(11, o0, [14, 19, 21, 22, 29, 30])]) σ σ9 := by rw [e9]; exact (Fr.up fr (mF_D (List.mem_of_getElem? (i := 0) rfl) rfl))
  obtain ⟨σ10, e9⟩ : ∃ s : St, s = up3 σ9 11 o0 19 1 := ⟨_, rfl⟩
  have h := h σ10 e9
  have rb := fun Q9 z => rb Q9 (nm_n e9 z)
  have ok : okS σ10 := by rw [e9]; exact (ok_z ok (by decide) (Or.inr rfl))
  have fr : Fr (mF [23, 25, 26, 32, 35, 36] [] [(2, [3]), (3, [9]), (4, [0, 1, 2, 4]), (5, [2])] [(11, o0, [14, 19, 21, 22, 29, 30])]) σ σ10 := by rw [e9]; exact (Fr.up fr (mF_D (List.mem_of_getElem? (i := 0) rfl) rfl))
  exact ⟨σ10, h, ok, fr, fun Q9 hq => rb Q9 hq⟩
set_option maxHeartbeats 4000000 in
theorem e11_repeat_J98 {σ : St} {o0 : Nat} {x1 : Int32} {xs0 : Int32} {Q : St → Prop} (ho0 : o0 < 16) (ok : okS σ) (h : w11_repeat_J98 σ o0 x1 xs0 Q) : (∃ (σ' : St), Q σ' ∧ okS σ' ∧ Fr (mF [23, 25, 26, 32, 35, 36] [] [(2, [3]), (3, [9]), (4, [0, 1, 2, 4]), (5, [2]), (8, [4])] [(11, o0, [14, 19, 21, 22, 29, 30, 34])]) σ σ' ∧ ∀ (Q9 : St → Prop), Q9 σ' → w11_repeat_J98 σ o0 x1 xs0 Q9) := by
  have fr : Fr (mF [23, 25, 26, 32, 35, 36] [] [(2, [3]), (3, [9]), (4, [0, 1, 2, 4]), (5, [2]), (8, [4])] [(11, o0, [14, 19, 21, 22, 29, 30, 34])]) σ σ := Fr.rf
  have rb : ∀ (Q9 : St → Prop), w11_repeat_J98 σ o0 x1 xs0 Q9 → w11_repeat_J98 σ o0 x1 xs0 Q9 := fun _ z => z
  obtain ⟨σ5, e9⟩ : ∃ s : St, s = up3 σ 8 0 4 ((σ 8 0 4) + 1) := ⟨_, rfl⟩
  have h := h σ5 e9
  have rb := fun Q9 z => rb Q9 (nm_n e9 z)
  have ok : okS σ5 := by rw [e9]; exact (ok_n ok (by decide))
  have fr : Fr (mF [23, 25, 26, 32, 35, 36] [] [(2, [3]), (3, [9]), (4, [0, 1, 2, 4]), (5, [2]), (8, [4])] [(11, o0, [14, 19, 21, 22, 29, 30, 34])]) σ σ5 := by rw [e9]; exact (Fr.up fr (mF_C (List.mem_of_getElem? (i := 4) rfl) rfl))
  obtain ⟨σ6, e9⟩ : ∃ s : St, s = up3 σ5 11 o0 34 0 := ⟨_, rfl⟩
  have h := h σ6 e9
  have rb := fun Q9 z => rb Q9 (nm_n e9 z)
  have ok : okS σ6 := by rw [e9]; exact (ok_z ok (by decide) (Or.inl rfl))
  have fr : Fr (mF [23, 25, 26, 32, 35, 36] [] [(2, [3]), (3, [9]), (4, [0, 1, 2, 4]), (5, [2]), (8, [4])] [(11, o0, [14, 19, 21, 22, 29, 30, 34])]) σ σ6 := by rw [e9]; exact (Fr.up fr (mF_D (List.mem_of_getElem? (i := 0) rfl) rfl))
  by_cases hc : x1 ≤ 0
  · have h := h.1 hc
    have rb := fun Q9 z => rb Q9 (br_t hc z)
    by_cases hc : xs0 = 0
    · have h := h.1 hc
      have rb := fun Q9 z => rb Q9 (br_t hc z)
      obtain ⟨σ9, h, ok, fr9, rc⟩ := e11_repeat_J150 ho0 ok h
      exact ⟨σ9, h, ok, fr.tr (fr9.sub (mF_sub rfl sub_nil rfl (sud_c (Or.inr ⟨_, List.mem_of_getElem? (i := 0) rfl, rfl⟩) sud_nil))), fun Q9 hq => rb Q9 (rc Q9 hq)⟩
    have h := h.2 hc
    have rb := fun Q9 z => rb Q9 (br_f hc z)
    obtain ⟨σ9, h, ok, fr9, rc⟩ := e11_repeat_J150 ho0 ok h
    exact ⟨σ9, h, ok, fr.tr (fr9.sub (mF_sub rfl sub_nil rfl (sud_c (Or.inr ⟨_, List.mem_of_getElem? (i := 0) rfl, rfl⟩) sud_nil))), fun Q9 hq => rb Q9 (rc Q9 hq)⟩
  have h := h.2 hc
  have rb := fun Q9 z => rb Q9 (br_f hc z)
  obtain ⟨r11, h, rc⟩ := e11_end ho0 ok h
  have rb := fun Q9 z => rb Q9 (rc _ z)
  by_cases hc : ((σ6 11 o0 9) + x1) = r11
  · have h := h.2 hc
    have rb := fun Q9 z => rb Q9 (br_u hc z)
    by_cases hc : xs0 = 0
    · have h := h.1 hc
      have rb := fun Q9 z => rb Q9 (br_t hc z)
      obtain ⟨σ9, h, ok, fr9, rc⟩ := e11_repeat_J150 ho0 ok h
      exact ⟨σ9, h, ok, fr.tr (fr9.sub (mF_sub rfl sub_nil rfl (sud_c (Or.inr ⟨_, List.mem_of_getElem? (i := 0) rfl, rfl⟩) sud_nil))), fun Q9 hq => rb Q9 (rc Q9 hq)⟩
    have h := h.2 hc
    have rb := fun Q9 z => rb Q9 (br_f hc z)
    obtain ⟨σ9, h, ok, fr9, rc⟩ := e11_repeat_J150 ho0 ok h
    exact ⟨σ9, h, ok, fr.tr (fr9.sub (mF_sub rfl sub_nil rfl (sud_c (Or.inr ⟨_, List.mem_of_getElem? (i := 0) rfl, rfl⟩) sud_nil))), fun Q9 hq => rb Q9 (rc Q9 hq)⟩
  have h := h.1 hc
  have rb := fun Q9 z => rb Q9 (br_v hc z)
  by_cases hc : xs0 = 0
  · have h := h.1 hc
    have rb := fun Q9 z => rb Q9 (br_t hc z)
    obtain ⟨σ9, h, ok, fr9, rc⟩ := e11_repeat_J150 ho0 ok h
    exact ⟨σ9, h, ok, fr.tr (fr9.sub (mF_sub rfl sub_nil rfl (sud_c (Or.inr ⟨_, List.mem_of_getElem? (i := 0) rfl, rfl⟩) sud_nil))), fun Q9 hq => rb Q9 (rc Q9 hq)⟩
  have h := h.2 hc
  have rb := fun Q9 z => rb Q9 (br_f hc z)
  obtain ⟨σ9, h, ok, fr9, rc⟩ := e11_repeat_J150 ho0 ok h
  exact ⟨σ9, h, ok, fr.tr (fr9.sub (mF_sub rfl sub_nil rfl (sud_c (Or.inr ⟨_, List.mem_of_getElem? (i := 0) rfl, rfl⟩) sud_nil))), fun Q9 hq => rb Q9 (rc Q9 hq)⟩
set_option maxHeartbeats 4000000 in
theorem e11_repeat {σ : St} {o0 : Nat} {Q : St → Prop} (ho0 : o0 < 16) (ok : okS σ) (h : w11_repeat σ o0 Q) : (∃ (σ' : St), Q σ' ∧ okS σ' ∧ Fr (mF [23, 25, 26, 32, 35, 36] [] [(2, [3]), (3, [9]), (4, [0, 1, 2, 4]), (5, [2]), (8, [4])] [(11, o0, [14, 15, 18, 19, 21, 22, 29, 30, 34])]) σ σ' ∧ ∀ (Q9 : St → Prop), Q9 σ' → w11_repeat σ o0 Q9) := by
  have fr : Fr (mF [23, 25, 26, 32, 35, 36] [] [(2, [3]), (3, [9]), (4, [0, 1, 2, 4]), (5, [2]), (8, [4])] [(11, o0, [14, 15, 18, 19, 21, 22, 29, 30, 34])]) σ σ := Fr.rf
  have rb : ∀ (Q9 : St → Prop), w11_repeat σ o0 Q9 → w11_repeat σ o0 Q9 := fun _ z => z
  obtain ⟨σ1, e9⟩ : ∃ s : St, s = up3 σ 11 o0 18 ((σ 11 o0 18) + 1) := ⟨_, rfl⟩
  have h := h σ1 e9
  have rb := fun Q9 z => rb Q9 (nm_n e9 z)
  have ok : okS σ1 := by rw [e9]; exact (ok_n ok (by decide))
  have fr : Fr (mF [23, 25, 26, 32, 35, 36] [] [(2, [3]), (3, [9]), (4, [0, 1, 2, 4]), (5, [2]), (8, [4])] [(11, o0, [14, 15, 18, 19, 21, 22, 29, 30, 34])]) σ σ1 := by rw [e9]; exact (Fr.up fr (mF_D (List.mem_of_getElem? (i := 0) rfl) rfl))
  by_cases hc : 3 ≤ (σ1 11 o0 18)
  · have h := h.1 hc
    have rb := fun Q9 z => rb Q9 (br_t hc z)
    by_cases hc : (σ1 11 o0 18) ≤ 3
    · have h := h.1 hc
      have rb := fun Q9 z => rb Q9 (br_t hc z)
      obtain ⟨r2, h, rc⟩ := e11_half ho0 ok h
      have rb := fun Q9 z => rb Q9 (rc _ z)
      obtain ⟨σ3, e9⟩ : ∃ s : St, s = up3 σ1 11 o0 15 r2 := ⟨_, rfl⟩
      have h := h σ3 e9
      have rb := fun Q9 z => rb Q9 (nm_n e9 z)
      have ok : okS σ3 := by rw [e9]; exact (ok_n ok (by decide))
      have fr : Fr (mF [23, 25, 26, 32, 35, 36] [] [(2, [3]), (3, [9]), (4, [0, 1, 2, 4]), (5, [2]), (8, [4])] [(11, o0, [14, 15, 18, 19, 21, 22, 29, 30, 34])]) σ σ3 := by rw [e9]; exact (Fr.up fr (mF_D (List.mem_of_getElem? (i := 0) rfl) rfl))
      obtain ⟨r4, h, rc⟩ := e11_end ho0 ok h
      have rb := fun Q9 z => rb Q9 (rc _ z)
      have h := h ((ok 11 o0 28).1 (by decide))
      have rb := fun Q9 z => rb Q9 (im_n z)
      by_cases hc : (σ3 11 o0 28) = 0
      · have h := h.1 hc
        have rb := fun Q9 z => rb Q9 (br_t hc z)
        obtain ⟨σ9, h, ok, fr9, rc⟩ := e11_repeat_J98 ho0 ok h
        exact ⟨σ9, h, ok, fr.tr (fr9.sub (mF_sub rfl sub_nil rfl (sud_c (Or.inr ⟨_, List.mem_of_getElem? (i := 0) rfl, rfl⟩) sud_nil))), fun Q9 hq => rb Q9 (rc Q9 hq)⟩
      have h := h.2 hc
      have rb := fun Q9 z => rb Q9 (br_f hc z)
      obtain ⟨r12, h, rc⟩ := e11_end ho0 ok h
      have rb := fun Q9 z => rb Q9 (rc _ z)
      by_cases hc : ((σ3 11 o0 9) + (imin (σ3 11 o0 13) (imin ((σ3 11 o0 11) - (σ3 11 o0 9)) (r4 - (σ3 11 o0 9))))) = r12
      · have h := h.2 hc
        have rb := fun Q9 z => rb Q9 (br_u hc z)
        obtain ⟨σ9, h, ok, fr9, rc⟩ := e11_repeat_J98 ho0 ok h
        exact ⟨σ9, h, ok, fr.tr (fr9.sub (mF_sub rfl sub_nil rfl (sud_c (Or.inr ⟨_, List.mem_of_getElem? (i := 0) rfl, rfl⟩) sud_nil))), fun Q9 hq => rb Q9 (rc Q9 hq)⟩
      have h := h.1 hc
      have rb := fun Q9 z => rb Q9 (br_v hc z)
      obtain ⟨σ9, h, ok, fr9, rc⟩ := e11_repeat_J98 ho0 ok h
      exact ⟨σ9, h, ok, fr.tr (fr9.sub (mF_sub rfl sub_nil rfl (sud_c (Or.inr ⟨_, List.mem_of_getElem? (i := 0) rfl, rfl⟩) sud_nil))), fun Q9 hq => rb Q9 (rc Q9 hq)⟩
    have h := h.2 hc
    have rb := fun Q9 z => rb Q9 (br_f hc z)
    obtain ⟨σ13, h, ok, fr9, rc⟩ := e11_grow ho0 ok h
    have fr := fr.tr (fr9.sub (mF_sub rfl sub_nil rfl (sud_c (Or.inr ⟨_, List.mem_of_getElem? (i := 0) rfl, rfl⟩) sud_nil)))
    have rb := fun Q9 z => rb Q9 (rc _ z)
    exact ⟨σ13, h, ok, fr, fun Q9 hq => rb Q9 hq⟩
  have h := h.2 hc
  have rb := fun Q9 z => rb Q9 (br_f hc z)
  exact ⟨σ1, h, ok, fr, fun Q9 hq => rb Q9 hq⟩
/-! WebHost$Connection.sendPart(I)V -/
set_option maxHeartbeats 4000000 in
theorem e11_sendPart_J185 {σ : St} {o0 : Nat} {x2 : Int32} {x4 : Int32} {x5 : Int32} {Q : St → Prop} (ho0 : o0 < 16) (ok : okS σ) (h : w11_sendPart_J185 σ o0 x2 x4 x5 Q) : (∃ (σ' : St), Q σ' ∧ okS σ' ∧ Fr (mF [23, 25, 26, 32, 35, 36] [] [(2, [3]), (3, [9]), (4, [0, 1, 2, 4]), (5, [2])] [(11, o0, [21, 22, 29, 30])]) σ σ' ∧ ∀ (Q9 : St → Prop), Q9 σ' → w11_sendPart_J185 σ o0 x2 x4 x5 Q9) := by
  have fr : Fr (mF [23, 25, 26, 32, 35, 36] [] [(2, [3]), (3, [9]), (4, [0, 1, 2, 4]), (5, [2])] [(11, o0, [21, 22, 29, 30])]) σ σ := Fr.rf
  have rb : ∀ (Q9 : St → Prop), w11_sendPart_J185 σ o0 x2 x4 x5 Q9 → w11_sendPart_J185 σ o0 x2 x4 x5 Q9 := fun _ z => z
  obtain ⟨σ4, h, ok, fr9, rc⟩ := e11_startTimer ho0 ok h
  have fr := fr.tr (fr9.sub (mF_sub rfl sub_nil rfl (sud_c (Or.inr ⟨_, List.mem_of_getElem? (i := 0) rfl, rfl⟩) sud_nil)))
  have rb := fun Q9 z => rb Q9 (rc _ z)
  obtain ⟨σ5, h, ok, fr9, rc⟩ := e11_segment ho0 ok h
  have fr := fr.tr (fr9.sub (mF_sub rfl sub_nil rfl (sud_c (Or.inr ⟨_, List.mem_of_getElem? (i := 0) rfl, rfl⟩) sud_nil)))
  have rb := fun Q9 z => rb Q9 (rc _ z)
  exact ⟨σ5, h, ok, fr, fun Q9 hq => rb Q9 hq⟩
set_option maxHeartbeats 4000000 in
theorem e11_sendPart_J145 {σ : St} {o0 : Nat} {x2 : Int32} {x3 : Int32} {x4 : Int32} {x5 : Int32} {Q : St → Prop} (ho0 : o0 < 16) (ok : okS σ) (h : w11_sendPart_J145 σ o0 x2 x3 x4 x5 Q) : (∃ (σ' : St), Q σ' ∧ okS σ' ∧ Fr (mF [23, 25, 26, 32, 35, 36] [] [(2, [3]), (3, [9]), (4, [0, 1, 2, 4]), (5, [2])] [(11, o0, [2, 21, 22, 28, 29, 30, 33])]) σ σ' ∧ ∀ (Q9 : St → Prop), Q9 σ' → w11_sendPart_J145 σ o0 x2 x3 x4 x5 Q9) := by
  have fr : Fr (mF [23, 25, 26, 32, 35, 36] [] [(2, [3]), (3, [9]), (4, [0, 1, 2, 4]), (5, [2])] [(11, o0, [2, 21, 22, 28, 29, 30, 33])]) σ σ := Fr.rf
  have rb : ∀ (Q9 : St → Prop), w11_sendPart_J145 σ o0 x2 x3 x4 x5 Q9 → w11_sendPart_J145 σ o0 x2 x3 x4 x5 Q9 := fun _ z => z
  by_cases hc : x3 = 0
  · have h := h.1 hc
    have rb := fun Q9 z => rb Q9 (br_t hc z)
    obtain ⟨σ9, h, ok, fr9, rc⟩ := e11_sendPart_J185 ho0 ok h
    exact ⟨σ9, h, ok, fr.tr (fr9.sub (mF_sub rfl sub_nil rfl (sud_c (Or.inr ⟨_, List.mem_of_getElem? (i := 0) rfl, rfl⟩) sud_nil))), fun Q9 hq => rb Q9 (rc Q9 hq)⟩
  have h := h.2 hc
  have rb := fun Q9 z => rb Q9 (br_f hc z)
  have h := h ((ok 11 o0 28).1 (by decide))
  have rb := fun Q9 z => rb Q9 (im_n z)
  by_cases hc : (σ 11 o0 28) = 0
  · have h := h.2 hc
    have rb := fun Q9 z => rb Q9 (br_u hc z)
    obtain ⟨σ6, e9⟩ : ∃ s : St, s = up3 σ 11 o0 28 1 := ⟨_, rfl⟩
    have h := h σ6 e9
    have rb := fun Q9 z => rb Q9 (nm_n e9 z)
    have ok : okS σ6 := by rw [e9]; exact (ok_z ok (by decide) (Or.inr rfl))
    have fr : Fr (mF [23, 25, 26, 32, 35, 36] [] [(2, [3]), (3, [9]), (4, [0, 1, 2, 4]), (5, [2])] [(11, o0, [2, 21, 22, 28, 29, 30, 33])]) σ σ6 := by rw [e9]; exact (Fr.up fr (mF_D (List.mem_of_getElem? (i := 0) rfl) rfl))
    obtain ⟨σ7, e9⟩ : ∃ s : St, s = up3 σ6 11 o0 33 0 := ⟨_, rfl⟩
    have h := h σ7 e9
    have rb := fun Q9 z => rb Q9 (nm_n e9 z)
    have ok : okS σ7 := by rw [e9]; exact (ok_z ok (by decide) (Or.inl rfl))
    have fr : Fr (mF [23, 25, 26, 32, 35, 36] [] [(2, [3]), (3, [9]), (4, [0, 1, 2, 4]), (5, [2])] [(11, o0, [2, 21, 22, 28, 29, 30, 33])]) σ σ7 := by rw [e9]; exact (Fr.up fr (mF_D (List.mem_of_getElem? (i := 0) rfl) rfl))
    by_cases hc : (σ7 11 o0 2) = 7
    · have h := h.2 hc
      have rb := fun Q9 z => rb Q9 (br_u hc z)
      obtain ⟨σ9, e9⟩ : ∃ s : St, s = up3 σ7 11 o0 2 8 := ⟨_, rfl⟩
      have h := h σ9 e9
      have rb := fun Q9 z => rb Q9 (nm_n e9 z)
      have ok : okS σ9 := by rw [e9]; exact (ok_n ok (by decide))
      have fr : Fr (mF [23, 25, 26, 32, 35, 36] [] [(2, [3]), (3, [9]), (4, [0, 1, 2, 4]), (5, [2])] [(11, o0, [2, 21, 22, 28, 29, 30, 33])]) σ σ9 := by rw [e9]; exact (Fr.up fr (mF_D (List.mem_of_getElem? (i := 0) rfl) rfl))
      obtain ⟨σ9, h, ok, fr9, rc⟩ := e11_sendPart_J185 ho0 ok h
      exact ⟨σ9, h, ok, fr.tr (fr9.sub (mF_sub rfl sub_nil rfl (sud_c (Or.inr ⟨_, List.mem_of_getElem? (i := 0) rfl, rfl⟩) sud_nil))), fun Q9 hq => rb Q9 (rc Q9 hq)⟩
    have h := h.1 hc
    have rb := fun Q9 z => rb Q9 (br_v hc z)
    obtain ⟨σ8, e9⟩ : ∃ s : St, s = up3 σ7 11 o0 2 3 := ⟨_, rfl⟩
    have h := h σ8 e9
    have rb := fun Q9 z => rb Q9 (nm_n e9 z)
    have ok : okS σ8 := by rw [e9]; exact (ok_n ok (by decide))
    have fr : Fr (mF [23, 25, 26, 32, 35, 36] [] [(2, [3]), (3, [9]), (4, [0, 1, 2, 4]), (5, [2])] [(11, o0, [2, 21, 22, 28, 29, 30, 33])]) σ σ8 := by rw [e9]; exact (Fr.up fr (mF_D (List.mem_of_getElem? (i := 0) rfl) rfl))
    obtain ⟨σ9, h, ok, fr9, rc⟩ := e11_sendPart_J185 ho0 ok h
    exact ⟨σ9, h, ok, fr.tr (fr9.sub (mF_sub rfl sub_nil rfl (sud_c (Or.inr ⟨_, List.mem_of_getElem? (i := 0) rfl, rfl⟩) sud_nil))), fun Q9 hq => rb Q9 (rc Q9 hq)⟩
  have h := h.1 hc
  have rb := fun Q9 z => rb Q9 (br_v hc z)
  obtain ⟨σ9, h, ok, fr9, rc⟩ := e11_sendPart_J185 ho0 ok h
  exact ⟨σ9, h, ok, fr.tr (fr9.sub (mF_sub rfl sub_nil rfl (sud_c (Or.inr ⟨_, List.mem_of_getElem? (i := 0) rfl, rfl⟩) sud_nil))), fun Q9 hq => rb Q9 (rc Q9 hq)⟩
set_option maxHeartbeats 4000000 in
theorem e11_sendPart_J115 {σ : St} {o0 : Nat} {x1 : Int32} {x2 : Int32} {x3 : Int32} {x4 : Int32} {x5 : Int32} {Q : St → Prop} (ho0 : o0 < 16) (ok : okS σ) (h : w11_sendPart_J115 σ o0 x1 x2 x3 x4 x5 Q) : (∃ (σ' : St), Q σ' ∧ okS σ' ∧ Fr (mF [23, 25, 26, 32, 35, 36] [] [(2, [3]), (3, [9]), (4, [0, 1, 2, 4]), (5, [2])] [(11, o0, [2, 10, 11, 21, 22, 28, 29, 30, 33])]) σ σ' ∧ ∀ (Q9 : St → Prop), Q9 σ' → w11_sendPart_J115 σ o0 x1 x2 x3 x4 x5 Q9) := by
  have fr : Fr (mF [23, 25, 26, 32, 35, 36] [] [(2, [3]), (3, [9]), (4, [0, 1, 2, 4]), (5, [2])] [(11, o0, [2, 10, 11, 21, 22, 28, 29, 30, 33])]) σ σ := Fr.rf
  have rb : ∀ (Q9 : St → Prop), w11_sendPart_J115 σ o0 x1 x2 x3 x4 x5 Q9 → w11_sendPart_J115 σ o0 x1 x2 x3 x4 x5 Q9 := fun _ z => z
  obtain ⟨σ3, e9⟩ : ∃ s : St, s = up3 σ 11 o0 10 ((σ 11 o0 10) + x1) := ⟨_, rfl⟩
  have h := h σ3 e9
  have rb := fun Q9 z => rb Q9 (nm_n e9 z)
  have ok : okS σ3 := by rw [e9]; exact (ok_n ok (by decide))
  have fr : Fr (mF [23, 25, 26, 32, 35, 36] [] [(2, [3]), (3, [9]), (4, [0, 1, 2, 4]), (5, [2])] [(11, o0, [2, 10, 11, 21, 22, 28, 29, 30, 33])]) σ σ3 := by rw [e9]; exact (Fr.up fr (mF_D (List.mem_of_getElem? (i := 0) rfl) rfl))
  by_cases hc : ((σ3 11 o0 10) - (σ3 11 o0 11)) ≤ 0
  · have h := h.1 hc
    have rb := fun Q9 z => rb Q9 (br_t hc z)
    obtain ⟨σ9, h, ok, fr9, rc⟩ := e11_sendPart_J145 ho0 ok h
    exact ⟨σ9, h, ok, fr.tr (fr9.sub (mF_sub rfl sub_nil rfl (sud_c (Or.inr ⟨_, List.mem_of_getElem? (i := 0) rfl, rfl⟩) sud_nil))), fun Q9 hq => rb Q9 (rc Q9 hq)⟩
  have h := h.2 hc
  have rb := fun Q9 z => rb Q9 (br_f hc z)
  obtain ⟨σ10, e9⟩ : ∃ s : St, s = up3 σ3 11 o0 11 (σ3 11 o0 10) := ⟨_, rfl⟩
  have h := h σ10 e9
  have rb := fun Q9 z => rb Q9 (nm_n e9 z)
  have ok : okS σ10 := by rw [e9]; exact (ok_n ok (by decide))
  have fr : Fr (mF [23, 25, 26, 32, 35, 36] [] [(2, [3]), (3, [9]), (4, [0, 1, 2, 4]), (5, [2])] [(11, o0, [2, 10, 11, 21, 22, 28, 29, 30, 33])]) σ σ10 := by rw [e9]; exact (Fr.up fr (mF_D (List.mem_of_getElem? (i := 0) rfl) rfl))
  obtain ⟨σ9, h, ok, fr9, rc⟩ := e11_sendPart_J145 ho0 ok h
  exact ⟨σ9, h, ok, fr.tr (fr9.sub (mF_sub rfl sub_nil rfl (sud_c (Or.inr ⟨_, List.mem_of_getElem? (i := 0) rfl, rfl⟩) sud_nil))), fun Q9 hq => rb Q9 (rc Q9 hq)⟩
set_option maxHeartbeats 4000000 in
theorem e11_sendPart_J63 {σ : St} {o0 : Nat} {x1 : Int32} {x2 : Int32} {x3 : Int32} {x4 : Int32} {Q : St → Prop} (ho0 : o0 < 16) (ok : okS σ) (h : w11_sendPart_J63 σ o0 x1 x2 x3 x4 Q) : (∃ (σ' : St), Q σ' ∧ okS σ' ∧ Fr (mF [23, 25, 26, 32, 35, 36] [] [(2, [3]), (3, [9]), (4, [0, 1, 2, 4]), (5, [2]), (8, [4])] [(11, o0, [2, 10, 11, 21, 22, 28, 29, 30, 33, 34, 36, 37])]) σ σ' ∧ ∀ (Q9 : St → Prop), Q9 σ' → w11_sendPart_J63 σ o0 x1 x2 x3 x4 Q9) := by
  have fr : Fr (mF [23, 25, 26, 32, 35, 36] [] [(2, [3]), (3, [9]), (4, [0, 1, 2, 4]), (5, [2]), (8, [4])] [(11, o0, [2, 10, 11, 21, 22, 28, 29, 30, 33, 34, 36, 37])]) σ σ := Fr.rf
  have rb : ∀ (Q9 : St → Prop), w11_sendPart_J63 σ o0 x1 x2 x3 x4 Q9 → w11_sendPart_J63 σ o0 x1 x2 x3 x4 Q9 := fun _ z => z
  obtain ⟨r2, h, rc⟩ := e19_isBefore ok h
  have rb := fun Q9 z => rb Q9 (rc _ z)
  by_cases hc : r2 = 0
  · have h := h.1 hc
    have rb := fun Q9 z => rb Q9 (br_t hc z)
    have h := h ((ok 11 o0 34).1 (by decide))
    have rb := fun Q9 z => rb Q9 (im_n z)
    by_cases hc : (σ 11 o0 34) = 0
    · have h := h.2 hc
      have rb := fun Q9 z => rb Q9 (br_u hc z)
      obtain ⟨σ11, h, ok, fr9, rc⟩ := e11_time ho0 ok h
      have fr := fr.tr (fr9.sub (mF_sub rfl sub_nil rfl (sud_c (Or.inr ⟨_, List.mem_of_getElem? (i := 0) rfl, rfl⟩) sud_nil)))
      have rb := fun Q9 z => rb Q9 (rc _ z)
      obtain ⟨σ9, h, ok, fr9, rc⟩ := e11_sendPart_J115 ho0 ok h
      exact ⟨σ9, h, ok, fr.tr (fr9.sub (mF_sub rfl sub_nil rfl (sud_c (Or.inr ⟨_, List.mem_of_getElem? (i := 0) rfl, rfl⟩) sud_nil))), fun Q9 hq => rb Q9 (rc Q9 hq)⟩
    have h := h.1 hc
    have rb := fun Q9 z => rb Q9 (br_v hc z)
    obtain ⟨σ9, h, ok, fr9, rc⟩ := e11_sendPart_J115 ho0 ok h
    exact ⟨σ9, h, ok, fr.tr (fr9.sub (mF_sub rfl sub_nil rfl (sud_c (Or.inr ⟨_, List.mem_of_getElem? (i := 0) rfl, rfl⟩) sud_nil))), fun Q9 hq => rb Q9 (rc Q9 hq)⟩
  have h := h.2 hc
  have rb := fun Q9 z => rb Q9 (br_f hc z)
  obtain ⟨σ12, e9⟩ : ∃ s : St, s = up3 σ 8 0 4 ((σ 8 0 4) + 1) := ⟨_, rfl⟩
  have h := h σ12 e9
  have rb := fun Q9 z => rb Q9 (nm_n e9 z)
  have ok : okS σ12 := by rw [e9]; exact (ok_n ok (by decide))
  have fr : Fr (mF [23, 25, 26, 32, 35, 36] [] [(2, [3]), (3, [9]), (4, [0, 1, 2, 4]), (5, [2]), (8, [4])] [(11, o0, [2, 10, 11, 21, 22, 28, 29, 30, 33, 34, 36, 37])]) σ σ12 := by rw [e9]; exact (Fr.up fr (mF_C (List.mem_of_getElem? (i := 4) rfl) rfl))
  obtain ⟨σ13, e9⟩ : ∃ s : St, s = up3 σ12 11 o0 34 0 := ⟨_, rfl⟩
  have h := h σ13 e9
  have rb := fun Q9 z => rb Q9 (nm_n e9 z)
  have ok : okS σ13 := by rw [e9]; exact (ok_z ok (by decide) (Or.inl rfl))
  have fr : Fr (mF [23, 25, 26, 32, 35, 36] [] [(2, [3]), (3, [9]), (4, [0, 1, 2, 4]), (5, [2]), (8, [4])] [(11, o0, [2, 10, 11, 21, 22, 28, 29, 30, 33, 34, 36, 37])]) σ σ13 := by rw [e9]; exact (Fr.up fr (mF_D (List.mem_of_getElem? (i := 0) rfl) rfl))
  obtain ⟨σ9, h, ok, fr9, rc⟩ := e11_sendPart_J115 ho0 ok h
  exact ⟨σ9, h, ok, fr.tr (fr9.sub (mF_sub rfl sub_nil rfl (sud_c (Or.inr ⟨_, List.mem_of_getElem? (i := 0) rfl, rfl⟩) sud_nil))), fun Q9 hq => rb Q9 (rc Q9 hq)⟩
set_option maxHeartbeats 4000000 in
theorem e11_sendPart_J24 {σ : St} {o0 : Nat} {x1 : Int32} {x2 : Int32} {xs0 : Int32} {Q : St → Prop} (ho0 : o0 < 16) (ok : okS σ) (h : w11_sendPart_J24 σ o0 x1 x2 xs0 Q) : (∃ (σ' : St), Q σ' ∧ okS σ' ∧ Fr (mF [23, 25, 26, 32, 35, 36] [] [(2, [3]), (3, [9]), (4, [0, 1, 2, 4]), (5, [2]), (8, [4])] [(11, o0, [2, 10, 11, 21, 22, 28, 29, 30, 33, 34, 36, 37])]) σ σ' ∧ ∀ (Q9 : St → Prop), Q9 σ' → w11_sendPart_J24 σ o0 x1 x2 xs0 Q9) := by
  have fr : Fr (mF [23, 25, 26, 32, 35, 36] [] [(2, [3]), (3, [9]), (4, [0, 1, 2, 4]), (5, [2]), (8, [4])] [(11, o0, [2, 10, 11, 21, 22, 28, 29, 30, 33, 34, 36, 37])]) σ σ := Fr.rf
  have rb : ∀ (Q9 : St → Prop), w11_sendPart_J24 σ o0 x1 x2 xs0 Q9 → w11_sendPart_J24 σ o0 x1 x2 xs0 Q9 := fun _ z => z
  by_cases hc : x2 ≤ 0
  · have h := h.1 hc
    have rb := fun Q9 z => rb Q9 (br_t hc z)
    by_cases hc : xs0 = 0
    · have h := h.1 hc
      have rb := fun Q9 z => rb Q9 (br_t hc z)
      obtain ⟨σ9, h, ok, fr9, rc⟩ := e11_sendPart_J63 ho0 ok h
      exact ⟨σ9, h, ok, fr.tr (fr9.sub (mF_sub rfl sub_nil rfl (sud_c (Or.inr ⟨_, List.mem_of_getElem? (i := 0) rfl, rfl⟩) sud_nil))), fun Q9 hq => rb Q9 (rc Q9 hq)⟩
    have h := h.2 hc
    have rb := fun Q9 z => rb Q9 (br_f hc z)
    obtain ⟨σ9, h, ok, fr9, rc⟩ := e11_sendPart_J63 ho0 ok h
    exact ⟨σ9, h, ok, fr.tr (fr9.sub (mF_sub rfl sub_nil rfl (sud_c (Or.inr ⟨_, List.mem_of_getElem? (i := 0) rfl, rfl⟩) sud_nil))), fun Q9 hq => rb Q9 (rc Q9 hq)⟩
  have h := h.2 hc
  have rb := fun Q9 z => rb Q9 (br_f hc z)
  obtain ⟨r14, h, rc⟩ := e11_end ho0 ok h
  have rb := fun Q9 z => rb Q9 (rc _ z)
  by_cases hc : ((σ 11 o0 10) + x2) = r14
  · have h := h.2 hc
    have rb := fun Q9 z => rb Q9 (br_u hc z)
    by_cases hc : xs0 = 0
    · have h := h.1 hc
      have rb := fun Q9 z => rb Q9 (br_t hc z)
      obtain ⟨σ9, h, ok, fr9, rc⟩ := e11_sendPart_J63 ho0 ok h
      exact ⟨σ9, h, ok, fr.tr (fr9.sub (mF_sub rfl sub_nil rfl (sud_c (Or.inr ⟨_, List.mem_of_getElem? (i := 0) rfl, rfl⟩) sud_nil))), fun Q9 hq => rb Q9 (rc Q9 hq)⟩
    have h := h.2 hc
    have rb := fun Q9 z => rb Q9 (br_f hc z)
    obtain ⟨σ9, h, ok, fr9, rc⟩ := e11_sendPart_J63 ho0 ok h
    exact ⟨σ9, h, ok, fr.tr (fr9.sub (mF_sub rfl sub_nil rfl (sud_c (Or.inr ⟨_, List.mem_of_getElem? (i := 0) rfl, rfl⟩) sud_nil))), fun Q9 hq => rb Q9 (rc Q9 hq)⟩
  have h := h.1 hc
  have rb := fun Q9 z => rb Q9 (br_v hc z)
  by_cases hc : xs0 = 0
  · have h := h.1 hc
    have rb := fun Q9 z => rb Q9 (br_t hc z)
    obtain ⟨σ9, h, ok, fr9, rc⟩ := e11_sendPart_J63 ho0 ok h
    exact ⟨σ9, h, ok, fr.tr (fr9.sub (mF_sub rfl sub_nil rfl (sud_c (Or.inr ⟨_, List.mem_of_getElem? (i := 0) rfl, rfl⟩) sud_nil))), fun Q9 hq => rb Q9 (rc Q9 hq)⟩
  have h := h.2 hc
  have rb := fun Q9 z => rb Q9 (br_f hc z)
  obtain ⟨σ9, h, ok, fr9, rc⟩ := e11_sendPart_J63 ho0 ok h
  exact ⟨σ9, h, ok, fr.tr (fr9.sub (mF_sub rfl sub_nil rfl (sud_c (Or.inr ⟨_, List.mem_of_getElem? (i := 0) rfl, rfl⟩) sud_nil))), fun Q9 hq => rb Q9 (rc Q9 hq)⟩
set_option maxHeartbeats 4000000 in
theorem e11_sendPart {σ : St} {o0 : Nat} {x1 : Int32} {Q : St → Prop} (ho0 : o0 < 16) (ok : okS σ) (h : w11_sendPart σ o0 x1 Q) : (∃ (σ' : St), Q σ' ∧ okS σ' ∧ Fr (mF [23, 25, 26, 32, 35, 36] [] [(2, [3]), (3, [9]), (4, [0, 1, 2, 4]), (5, [2]), (8, [4])] [(11, o0, [2, 10, 11, 21, 22, 28, 29, 30, 33, 34, 36, 37])]) σ σ' ∧ ∀ (Q9 : St → Prop), Q9 σ' → w11_sendPart σ o0 x1 Q9) := by
  have fr : Fr (mF [23, 25, 26, 32, 35, 36] [] [(2, [3]), (3, [9]), (4, [0, 1, 2, 4]), (5, [2]), (8, [4])] [(11, o0, [2, 10, 11, 21, 22, 28, 29, 30, 33, 34, 36, 37])]) σ σ := Fr.rf
  have rb : ∀ (Q9 : St → Prop), w11_sendPart σ o0 x1 Q9 → w11_sendPart σ o0 x1 Q9 := fun _ z => z
  obtain ⟨r1, h, rc⟩ := e11_end ho0 ok h
  have rb := fun Q9 z => rb Q9 (rc _ z)
  by_cases hc : x1 ≤ (imin x1 (r1 - (σ 11 o0 10)))
  · have h := h.1 hc
    have rb := fun Q9 z => rb Q9 (br_t hc z)
    obtain ⟨σ9, h, ok, fr9, rc⟩ := e11_sendPart_J24 ho0 ok h
    exact ⟨σ9, h, ok, fr.tr (fr9.sub (mF_sub rfl sub_nil rfl (sud_c (Or.inr ⟨_, List.mem_of_getElem? (i := 0) rfl, rfl⟩) sud_nil))), fun Q9 hq => rb Q9 (rc Q9 hq)⟩
  have h := h.2 hc
  have rb := fun Q9 z => rb Q9 (br_f hc z)
  obtain ⟨σ9, h, ok, fr9, rc⟩ := e11_sendPart_J24 ho0 ok h
  exact ⟨σ9, h, ok, fr.tr (fr9.sub (mF_sub rfl sub_nil rfl (sud_c (Or.inr ⟨_, List.mem_of_getElem? (i := 0) rfl, rfl⟩) sud_nil))), fun Q9 hq => rb Q9 (rc Q9 hq)⟩
/-! WebHostModel.alone()V -/
set_option maxHeartbeats 4000000 in
theorem e14_alone_L54 {σ : St} {Q : St → Prop} {K83 : Option Nat → Prop} (ok : okS σ) :
    ∀ (n : Nat) {p1 : Option Nat} {x2 : Int32}, w14_alone_L54 σ Q K83 n p1 x2 → (∃ (p1' : Option Nat), K83 p1' ∧ ∀ (Q9 : St → Prop) (K9_83 : Option Nat → Prop), K9_83 p1' → w14_alone_L54 σ Q9 K9_83 n p1 x2) := by
  intro n
  induction n with
  | zero =>
    intro p1 x2 h
    exact False.elim h
  | succ n ih =>
    intro p1 x2 h
    have rb : ∀ (Q9 : St → Prop) (K9_83 : Option Nat → Prop), w14_alone_L54 σ Q9 K9_83 (n + 1) p1 x2 → w14_alone_L54 σ Q9 K9_83 (n + 1) p1 x2 := fun _ _ z => z
    by_cases hc : x2 < 0
    · have h := h.1 hc
      have rb := fun Q9 K9_83 z => rb Q9 K9_83 (br_t hc z)
      exact ⟨p1, h, fun Q9 K9_83 hq => rb Q9 K9_83 hq⟩
    have h := h.2 hc
    have rb := fun Q9 K9_83 z => rb Q9 K9_83 (br_f hc z)
    obtain ⟨hc, h⟩ := h
    have rb := fun Q9 K9_83 z => rb Q9 K9_83 (And.intro hc z)
    have hq6 := vp_lt hc
    by_cases hc : (σ 15 x2.toNatClampNeg 0) = 0
    · have h := h.2 hc
      have rb := fun Q9 K9_83 z => rb Q9 K9_83 (br_u hc z)
      obtain ⟨hc, h⟩ := h
      have rb := fun Q9 K9_83 z => rb Q9 K9_83 (And.intro hc z)
      have hq7 := vp_lt hc
      rcases ih h with ⟨p1, h, rc⟩
      · exact ⟨p1, h, fun Q9 K9_83 hq => rb Q9 K9_83 (rc Q9 K9_83 hq)⟩
    have h := h.1 hc
    have rb := fun Q9 K9_83 z => rb Q9 K9_83 (br_v hc z)
    rcases ih h with ⟨p1, h, rc⟩
    · exact ⟨p1, h, fun Q9 K9_83 hq => rb Q9 K9_83 (rc Q9 K9_83 hq)⟩
set_option maxHeartbeats 4000000 in
theorem e14_alone_L360 {o1 : Nat} {Q : St → Prop} {K380 : St → Prop} (ho1 : o1 < 16) :
    ∀ (n : Nat) {σ : St} {x2 : Int32} (ok : okS σ), w14_alone_L360 o1 Q K380 n σ x2 → (∃ (σ' : St), K380 σ' ∧ okS σ' ∧ Fr (mF [] [(73, o1)] [] []) σ σ' ∧ ∀ (Q9 : St → Prop) (K9_380 : St → Prop), K9_380 σ' → w14_alone_L360 o1 Q9 K9_380 n σ x2) := by
  intro n
  induction n with
  | zero =>
    intro σ x2 ok h
    exact False.elim h
  | succ n ih =>
    intro σ x2 ok h
    have fr : Fr (mF [] [(73, o1)] [] []) σ σ := Fr.rf
    have rb : ∀ (Q9 : St → Prop) (K9_380 : St → Prop), w14_alone_L360 o1 Q9 K9_380 (n + 1) σ x2 → w14_alone_L360 o1 Q9 K9_380 (n + 1) σ x2 := fun _ _ z => z
    by_cases hc : 4096 ≤ x2
    · have h := h.1 hc
      have rb := fun Q9 K9_380 z => rb Q9 K9_380 (br_t hc z)
      exact ⟨σ, h, ok, fr, fun Q9 K9_380 hq => rb Q9 K9_380 hq⟩
    have h := h.2 hc
    have rb := fun Q9 K9_380 z => rb Q9 K9_380 (br_f hc z)
    obtain ⟨hc, h⟩ := h
    have rb := fun Q9 K9_380 z => rb Q9 K9_380 (And.intro hc z)
    obtain ⟨σ47, e9⟩ : ∃ s : St, s = up3 σ 73 o1 x2.toNatClampNeg 0 := ⟨_, rfl⟩
    have h := h σ47 e9
    have rb := fun Q9 K9_380 z => rb Q9 K9_380 (nm_n e9 z)
    have ok : okS σ47 := by rw [e9]; exact (ok_z ok (tyk_a 73 1 (by decide) (by decide) _) (Or.inl rfl))
    have fr : Fr (mF [] [(73, o1)] [] []) σ σ47 := by rw [e9]; exact (Fr.up fr (mF_B (List.mem_of_getElem? (i := 0) rfl)))
    rcases ih ok h with ⟨σ', h, ok, fr9, rc⟩
    · exact ⟨σ', h, ok, fr.tr fr9, fun Q9 K9_380 hq => rb Q9 K9_380 (rc Q9 K9_380 hq)⟩
set_option maxHeartbeats 4000000 in
theorem e14_alone_J255 {σ : St} {o1 : Nat} {xs0 : Int32} {os1 : Nat} {Q : St → Prop} (ho1 : o1 < 16) (hos1 : os1 < 16) (ok : okS σ) (h : w14_alone_J255 σ o1 xs0 os1 Q) : (∃ (σ' : St), Q σ' ∧ okS σ' ∧ Fr (mF [56, 57, 58, 59, 60, 68] [(73, o1)] [(14, [18, 23, 24, 25]), (17, [0, 1, 2, 3, 4, 5])] [(15, o1, [5, 6, 12, 13, 16, 17, 18, 19, 20, 21, 22, 23, 24, 26, 28, 29, 30, 31, 37, 38, 39, 40, 41]), (15, os1, [11])]) σ σ' ∧ ∀ (Q9 : St → Prop), Q9 σ' → w14_alone_J255 σ o1 xs0 os1 Q9) := by
  have fr : Fr (mF [56, 57, 58, 59, 60, 68] [(73, o1)] [(14, [18, 23, 24, 25]), (17, [0, 1, 2, 3, 4, 5])] [(15, o1, [5, 6, 12, 13, 16, 17, 18, 19, 20, 21, 22, 23, 24, 26, 28, 29, 30, 31, 37, 38, 39, 40, 41]), (15, os1, [11])]) σ σ := Fr.rf
  have rb : ∀ (Q9 : St → Prop), w14_alone_J255 σ o1 xs0 os1 Q9 → w14_alone_J255 σ o1 xs0 os1 Q9 := fun _ z => z
  obtain ⟨σ28, e9⟩ : ∃ s : St, s = up3 σ 15 os1 11 xs0 := ⟨_, rfl⟩
  have h := h σ28 e9
  have rb := fun Q9 z => rb Q9 (nm_n e9 z)
  have ok : okS σ28 := by rw [e9]; exact (ok_n ok (by decide))
  have fr : Fr (mF [56, 57, 58, 59, 60, 68] [(73, o1)] [(14, [18, 23, 24, 25]), (17, [0, 1, 2, 3, 4, 5])] [(15, o1, [5, 6, 12, 13, 16, 17, 18, 19, 20, 21, 22, 23, 24, 26, 28, 29, 30, 31, 37, 38, 39, 40, 41]), (15, os1, [11])]) σ σ28 := by rw [e9]; exact (Fr.up fr (mF_D (List.mem_of_getElem? (i := 1) rfl) rfl))
  obtain ⟨σ29, e9⟩ : ∃ s : St, s = up3 σ28 15 o1 12 65535 := ⟨_, rfl⟩
  have h := h σ29 e9
  have rb := fun Q9 z => rb Q9 (nm_n e9 z)
  have ok : okS σ29 := by rw [e9]; exact (ok_n ok (by decide))
  have fr : Fr (mF [56, 57, 58, 59, 60, 68] [(73, o1)] [(14, [18, 23, 24, 25]), (17, [0, 1, 2, 3, 4, 5])] [(15, o1, [5, 6, 12, 13, 16, 17, 18, 19, 20, 21, 22, 23, 24, 26, 28, 29, 30, 31, 37, 38, 39, 40, 41]), (15, os1, [11])]) σ σ29 := by rw [e9]; exact (Fr.up fr (mF_D (List.mem_of_getElem? (i := 0) rfl) rfl))
  obtain ⟨σ30, e9⟩ : ∃ s : St, s = up3 σ29 15 o1 13 1000 := ⟨_, rfl⟩
  have h := h σ30 e9
  have rb := fun Q9 z => rb Q9 (nm_n e9 z)
  have ok : okS σ30 := by rw [e9]; exact (ok_n ok (by decide))
  have fr : Fr (mF [56, 57, 58, 59, 60, 68] [(73, o1)] [(14, [18, 23, 24, 25]), (17, [0, 1, 2, 3, 4, 5])] [(15, o1, [5, 6, 12, 13, 16, 17, 18, 19, 20, 21, 22, 23, 24, 26, 28, 29, 30, 31, 37, 38, 39, 40, 41]), (15, os1, [11])]) σ σ30 := by rw [e9]; exact (Fr.up fr (mF_D (List.mem_of_getElem? (i := 0) rfl) rfl))
  obtain ⟨σ31, e9⟩ : ∃ s : St, s = up3 σ30 15 o1 16 0 := ⟨_, rfl⟩
  have h := h σ31 e9
  have rb := fun Q9 z => rb Q9 (nm_n e9 z)
  have ok : okS σ31 := by rw [e9]; exact (ok_z ok (by decide) (Or.inl rfl))
  have fr : Fr (mF [56, 57, 58, 59, 60, 68] [(73, o1)] [(14, [18, 23, 24, 25]), (17, [0, 1, 2, 3, 4, 5])] [(15, o1, [5, 6, 12, 13, 16, 17, 18, 19, 20, 21, 22, 23, 24, 26, 28, 29, 30, 31, 37, 38, 39, 40, 41]), (15, os1, [11])]) σ σ31 := by rw [e9]; exact (Fr.up fr (mF_D (List.mem_of_getElem? (i := 0) rfl) rfl))
  obtain ⟨σ32, e9⟩ : ∃ s : St, s = up3 σ31 15 o1 17 0 := ⟨_, rfl⟩
  have h := h σ32 e9
  have rb := fun Q9 z => rb Q9 (nm_n e9 z)
  have ok : okS σ32 := by rw [e9]; exact (ok_z ok (by decide) (Or.inl rfl))
  have fr : Fr (mF [56, 57, 58, 59, 60, 68] [(73, o1)] [(14, [18, 23, 24, 25]), (17, [0, 1, 2, 3, 4, 5])] [(15, o1, [5, 6, 12, 13, 16, 17, 18, 19, 20, 21, 22, 23, 24, 26, 28, 29, 30, 31, 37, 38, 39, 40, 41]), (15, os1, [11])]) σ σ32 := by rw [e9]; exact (Fr.up fr (mF_D (List.mem_of_getElem? (i := 0) rfl) rfl))
  obtain ⟨σ33, e9⟩ : ∃ s : St, s = up3 σ32 15 o1 18 0 := ⟨_, rfl⟩
  have h := h σ33 e9
  have rb := fun Q9 z => rb Q9 (nm_n e9 z)
  have ok : okS σ33 := by rw [e9]; exact (ok_z ok (by decide) (Or.inl rfl))
  have fr : Fr (mF [56, 57, 58, 59, 60, 68] [(73, o1)] [(14, [18, 23, 24, 25]), (17, [0, 1, 2, 3, 4, 5])] [(15, o1, [5, 6, 12, 13, 16, 17, 18, 19, 20, 21, 22, 23, 24, 26, 28, 29, 30, 31, 37, 38, 39, 40, 41]), (15, os1, [11])]) σ σ33 := by rw [e9]; exact (Fr.up fr (mF_D (List.mem_of_getElem? (i := 0) rfl) rfl))
  obtain ⟨σ34, e9⟩ : ∃ s : St, s = up3 σ33 15 o1 21 0 := ⟨_, rfl⟩
  have h := h σ34 e9
  have rb := fun Q9 z => rb Q9 (nm_n e9 z)
  have ok : okS σ34 := by rw [e9]; exact (ok_z ok (by decide) (Or.inl rfl))
  have fr : Fr (mF [56, 57, 58, 59, 60, 68] [(73, o1)] [(14, [18, 23, 24, 25]), (17, [0, 1, 2, 3, 4, 5])] [(15, o1, [5, 6, 12, 13, 16, 17, 18, 19, 20, 21, 22, 23, 24, 26, 28, 29, 30, 31, 37, 38, 39, 40, 41]), (15, os1, [11])]) σ σ34 := by rw [e9]; exact (Fr.up fr (mF_D (List.mem_of_getElem? (i := 0) rfl) rfl))
  obtain ⟨σ35, e9⟩ : ∃ s : St, s = up3 σ34 15 o1 23 0 := ⟨_, rfl⟩
  have h := h σ35 e9
  have rb := fun Q9 z => rb Q9 (nm_n e9 z)
  have ok : okS σ35 := by rw [e9]; exact (ok_n ok (by decide))
  have fr : Fr (mF [56, 57, 58, 59, 60, 68] [(73, o1)] [(14, [18, 23, 24, 25]), (17, [0, 1, 2, 3, 4, 5])] [(15, o1, [5, 6, 12, 13, 16, 17, 18, 19, 20, 21, 22, 23, 24, 26, 28, 29, 30, 31, 37, 38, 39, 40, 41]), (15, os1, [11])]) σ σ35 := by rw [e9]; exact (Fr.up fr (mF_D (List.mem_of_getElem? (i := 0) rfl) rfl))
  obtain ⟨σ36, e9⟩ : ∃ s : St, s = up3 σ35 15 o1 24 0 := ⟨_, rfl⟩
  have h := h σ36 e9
  have rb := fun Q9 z => rb Q9 (nm_n e9 z)
  have ok : okS σ36 := by rw [e9]; exact (ok_n ok (by decide))
  have fr : Fr (mF [56, 57, 58, 59, 60, 68] [(73, o1)] [(14, [18, 23, 24, 25]), (17, [0, 1, 2, 3, 4, 5])] [(15, o1, [5, 6, 12, 13, 16, 17, 18, 19, 20, 21, 22, 23, 24, 26, 28, 29, 30, 31, 37, 38, 39, 40, 41]), (15, os1, [11])]) σ σ36 := by rw [e9]; exact (Fr.up fr (mF_D (List.mem_of_getElem? (i := 0) rfl) rfl))
  obtain ⟨σ37, e9⟩ : ∃ s : St, s = up3 σ36 15 o1 26 0 := ⟨_, rfl⟩
  have h := h σ37 e9
  have rb := fun Q9 z => rb Q9 (nm_n e9 z)
  have ok : okS σ37 := by rw [e9]; exact (ok_n ok (by decide))
  have fr : Fr (mF [56, 57, 58, 59, 60, 68] [(73, o1)] [(14, [18, 23, 24, 25]), (17, [0, 1, 2, 3, 4, 5])] [(15, o1, [5, 6, 12, 13, 16, 17, 18, 19, 20, 21, 22, 23, 24, 26, 28, 29, 30, 31, 37, 38, 39, 40, 41]), (15, os1, [11])]) σ σ37 := by rw [e9]; exact (Fr.up fr (mF_D (List.mem_of_getElem? (i := 0) rfl) rfl))
  obtain ⟨σ38, e9⟩ : ∃ s : St, s = up3 σ37 15 o1 28 0 := ⟨_, rfl⟩
  have h := h σ38 e9
  have rb := fun Q9 z => rb Q9 (nm_n e9 z)
  have ok : okS σ38 := by rw [e9]; exact (ok_n ok (by decide))
  have fr : Fr (mF [56, 57, 58, 59, 60, 68] [(73, o1)] [(14, [18, 23, 24, 25]), (17, [0, 1, 2, 3, 4, 5])] [(15, o1, [5, 6, 12, 13, 16, 17, 18, 19, 20, 21, 22, 23, 24, 26, 28, 29, 30, 31, 37, 38, 39, 40, 41]), (15, os1, [11])]) σ σ38 := by rw [e9]; exact (Fr.up fr (mF_D (List.mem_of_getElem? (i := 0) rfl) rfl))
  obtain ⟨σ39, e9⟩ : ∃ s : St, s = up3 σ38 15 o1 29 ((σ38 15 o1 3) + 1) := ⟨_, rfl⟩
  have h := h σ39 e9
  have rb := fun Q9 z => rb Q9 (nm_n e9 z)
  have ok : okS σ39 := by rw [e9]; exact (ok_n ok (by decide))
  have fr : Fr (mF [56, 57, 58, 59, 60, 68] [(73, o1)] [(14, [18, 23, 24, 25]), (17, [0, 1, 2, 3, 4, 5])] [(15, o1, [5, 6, 12, 13, 16, 17, 18, 19, 20, 21, 22, 23, 24, 26, 28, 29, 30, 31, 37, 38, 39, 40, 41]), (15, os1, [11])]) σ σ39 := by rw [e9]; exact (Fr.up fr (mF_D (List.mem_of_getElem? (i := 0) rfl) rfl))
  obtain ⟨σ40, e9⟩ : ∃ s : St, s = up3 σ39 15 o1 30 0 := ⟨_, rfl⟩
  have h := h σ40 e9
  have rb := fun Q9 z => rb Q9 (nm_n e9 z)
  have ok : okS σ40 := by rw [e9]; exact (ok_z ok (by decide) (Or.inl rfl))
  have fr : Fr (mF [56, 57, 58, 59, 60, 68] [(73, o1)] [(14, [18, 23, 24, 25]), (17, [0, 1, 2, 3, 4, 5])] [(15, o1, [5, 6, 12, 13, 16, 17, 18, 19, 20, 21, 22, 23, 24, 26, 28, 29, 30, 31, 37, 38, 39, 40, 41]), (15, os1, [11])]) σ σ40 := by rw [e9]; exact (Fr.up fr (mF_D (List.mem_of_getElem? (i := 0) rfl) rfl))
  obtain ⟨σ41, e9⟩ : ∃ s : St, s = up3 σ40 15 o1 31 0 := ⟨_, rfl⟩
  have h := h σ41 e9
  have rb := fun Q9 z => rb Q9 (nm_n e9 z)
  have ok : okS σ41 := by rw [e9]; exact (ok_z ok (by decide) (Or.inl rfl))
  have fr : Fr (mF [56, 57, 58, 59, 60, 68] [(73, o1)] [(14, [18, 23, 24, 25]), (17, [0, 1, 2, 3, 4, 5])] [(15, o1, [5, 6, 12, 13, 16, 17, 18, 19, 20, 21, 22, 23, 24, 26, 28, 29, 30, 31, 37, 38, 39, 40, 41]), (15, os1, [11])]) σ σ41 := by rw [e9]; exact (Fr.up fr (mF_D (List.mem_of_getElem? (i := 0) rfl) rfl))
  obtain ⟨σ42, e9⟩ : ∃ s : St, s = up3 σ41 15 o1 38 0 := ⟨_, rfl⟩
  have h := h σ42 e9
  have rb := fun Q9 z => rb Q9 (nm_n e9 z)
  have ok : okS σ42 := by rw [e9]; exact (ok_n ok (by decide))
  have fr : Fr (mF [56, 57, 58, 59, 60, 68] [(73, o1)] [(14, [18, 23, 24, 25]), (17, [0, 1, 2, 3, 4, 5])] [(15, o1, [5, 6, 12, 13, 16, 17, 18, 19, 20, 21, 22, 23, 24, 26, 28, 29, 30, 31, 37, 38, 39, 40, 41]), (15, os1, [11])]) σ σ42 := by rw [e9]; exact (Fr.up fr (mF_D (List.mem_of_getElem? (i := 0) rfl) rfl))
  obtain ⟨σ43, e9⟩ : ∃ s : St, s = up3 σ42 15 o1 39 0 := ⟨_, rfl⟩
  have h := h σ43 e9
  have rb := fun Q9 z => rb Q9 (nm_n e9 z)
  have ok : okS σ43 := by rw [e9]; exact (ok_z ok (by decide) (Or.inl rfl))
  have fr : Fr (mF [56, 57, 58, 59, 60, 68] [(73, o1)] [(14, [18, 23, 24, 25]), (17, [0, 1, 2, 3, 4, 5])] [(15, o1, [5, 6, 12, 13, 16, 17, 18, 19, 20, 21, 22, 23, 24, 26, 28, 29, 30, 31, 37, 38, 39, 40, 41]), (15, os1, [11])]) σ σ43 := by rw [e9]; exact (Fr.up fr (mF_D (List.mem_of_getElem? (i := 0) rfl) rfl))
  obtain ⟨σ44, e9⟩ : ∃ s : St, s = up3 σ43 15 o1 40 0 := ⟨_, rfl⟩
  have h := h σ44 e9
  have rb := fun Q9 z => rb Q9 (nm_n e9 z)
  have ok : okS σ44 := by rw [e9]; exact (ok_z ok (by decide) (Or.inl rfl))
  have fr : Fr (mF [56, 57, 58, 59, 60, 68] [(73, o1)] [(14, [18, 23, 24, 25]), (17, [0, 1, 2, 3, 4, 5])] [(15, o1, [5, 6, 12, 13, 16, 17, 18, 19, 20, 21, 22, 23, 24, 26, 28, 29, 30, 31, 37, 38, 39, 40, 41]), (15, os1, [11])]) σ σ44 := by rw [e9]; exact (Fr.up fr (mF_D (List.mem_of_getElem? (i := 0) rfl) rfl))
  obtain ⟨σ45, e9⟩ : ∃ s : St, s = up3 σ44 15 o1 41 0 := ⟨_, rfl⟩
  have h := h σ45 e9
  have rb := fun Q9 z => rb Q9 (nm_n e9 z)
  have ok : okS σ45 := by rw [e9]; exact (ok_z ok (by decide) (Or.inl rfl))
  have fr : Fr (mF [56, 57, 58, 59, 60, 68] [(73, o1)] [(14, [18, 23, 24, 25]), (17, [0, 1, 2, 3, 4, 5])] [(15, o1, [5, 6, 12, 13, 16, 17, 18, 19, 20, 21, 22, 23, 24, 26, 28, 29, 30, 31, 37, 38, 39, 40, 41]), (15, os1, [11])]) σ σ45 := by rw [e9]; exact (Fr.up fr (mF_D (List.mem_of_getElem? (i := 0) rfl) rfl))
  obtain ⟨σ46, e9⟩ : ∃ s : St, s = up3 σ45 15 o1 37 4096 := ⟨_, rfl⟩
  have h := h σ46 e9
  have rb := fun Q9 z => rb Q9 (nm_n e9 z)
  have ok : okS σ46 := by rw [e9]; exact (ok_n ok (by decide))
  have fr : Fr (mF [56, 57, 58, 59, 60, 68] [(73, o1)] [(14, [18, 23, 24, 25]), (17, [0, 1, 2, 3, 4, 5])] [(15, o1, [5, 6, 12, 13, 16, 17, 18, 19, 20, 21, 22, 23, 24, 26, 28, 29, 30, 31, 37, 38, 39, 40, 41]), (15, os1, [11])]) σ σ46 := by rw [e9]; exact (Fr.up fr (mF_D (List.mem_of_getElem? (i := 0) rfl) rfl))
  obtain ⟨n9, h⟩ := h
  rcases e14_alone_L360 ho1 n9 ok h with ⟨σ49, h, ok, fr9, rc⟩
  · have rb := fun Q9 z => rb Q9 (Exists.intro n9 (rc _ _ z))
    have fr := fr.tr (fr9.sub (mF_sub rfl (sub_c (Or.inr (List.mem_of_getElem? (i := 0) rfl)) sub_nil) rfl sud_nil))
    obtain ⟨σ50, h, ok, fr9, rc⟩ := e14_synAck ho1 ok h
    have fr := fr.tr (fr9.sub (mF_sub rfl sub_nil rfl (sud_c (Or.inr ⟨_, List.mem_of_getElem? (i := 0) rfl, rfl⟩) sud_nil)))
    have rb := fun Q9 z => rb Q9 (rc _ z)
    exact ⟨σ50, h, ok, fr, fun Q9 hq => rb Q9 hq⟩
set_option maxHeartbeats 4000000 in
theorem e14_alone {σ : St} {Q : St → Prop} (ok : okS σ) (h : w14_alone σ Q) : (∃ (σ' : St), Q σ' ∧ okS σ' ∧ Fr (mF [56, 57, 58, 59, 60, 68, 73] [] [(14, [12, 18, 23, 24, 25]), (15, [0, 1, 2, 3, 4, 5, 6, 7, 8, 9, 10, 11, 12, 13, 16, 17, 18, 19, 20, 21, 22, 23, 24, 26, 28, 29, 30, 31, 34, 35, 36, 37, 38, 39, 40, 41]), (17, [0, 1, 2, 3, 4, 5])] []) σ σ' ∧ ∀ (Q9 : St → Prop), Q9 σ' → w14_alone σ Q9) := by
  have fr : Fr (mF [56, 57, 58, 59, 60, 68, 73] [] [(14, [12, 18, 23, 24, 25]), (15, [0, 1, 2, 3, 4, 5, 6, 7, 8, 9, 10, 11, 12, 13, 16, 17, 18, 19, 20, 21, 22, 23, 24, 26, 28, 29, 30, 31, 34, 35, 36, 37, 38, 39, 40, 41]), (17, [0, 1, 2, 3, 4, 5])] []) σ σ := Fr.rf
  have rb : ∀ (Q9 : St → Prop), w14_alone σ Q9 → w14_alone σ Q9 := fun _ z => z
  obtain ⟨r1, h, rc⟩ := e14_is ok h
  have rb := fun Q9 z => rb Q9 (rc _ z)
  by_cases hc : r1 = 0
  · have h := h.1 hc
    have rb := fun Q9 z => rb Q9 (br_t hc z)
    by_cases hc : (σ 14 0 33) = 80
    · have h := h.2 hc
      have rb := fun Q9 z => rb Q9 (br_u hc z)
      obtain ⟨r3, h, rc⟩ := e14_is ok h
      have rb := fun Q9 z => rb Q9 (rc _ z)
      by_cases hc : r3 = 0
      · have h := h.1 hc
        have rb := fun Q9 z => rb Q9 (br_t hc z)
        obtain ⟨r4, h, rc⟩ := e14_is ok h
        have rb := fun Q9 z => rb Q9 (rc _ z)
        by_cases hc : r4 = 0
        · have h := h.1 hc
          have rb := fun Q9 z => rb Q9 (br_t hc z)
          exact ⟨σ, h, ok, fr, fun Q9 hq => rb Q9 hq⟩
        have h := h.2 hc
        have rb := fun Q9 z => rb Q9 (br_f hc z)
        obtain ⟨r5, h, rc⟩ := e14_is ok h
        have rb := fun Q9 z => rb Q9 (rc _ z)
        by_cases hc : r5 = 0
        · have h := h.1 hc
          have rb := fun Q9 z => rb Q9 (br_t hc z)
          obtain ⟨n9, h⟩ := h
          rcases e14_alone_L54 ok n9 h with ⟨p1_9, h, rc⟩
          · have rb := fun Q9 z => rb Q9 (Exists.intro n9 (rc _ _ z))
            rcases opt_or p1_9 with hp | ⟨i10, hp⟩
            · have h := h.1 hp
              have rb := fun Q9 z => rb Q9 (po_n hp z)
              exact ⟨σ, h, ok, fr, fun Q9 hq => rb Q9 hq⟩
            obtain ⟨hq10, h⟩ := h.2 i10 hp
            have rb := fun Q9 z => rb Q9 (po_s hp (And.intro hq10 z))
            obtain ⟨σ11, e9⟩ : ∃ s : St, s = up3 σ 14 0 12 ((σ 14 0 12) + 1) := ⟨_, rfl⟩
            have h := h σ11 e9
            have rb := fun Q9 z => rb Q9 (nm_n e9 z)
            have ok : okS σ11 := by rw [e9]; exact (ok_n ok (by decide))
            have fr : Fr (mF [56, 57, 58, 59, 60, 68, 73] [] [(14, [12, 18, 23, 24, 25]), (15, [0, 1, 2, 3, 4, 5, 6, 7, 8, 9, 10, 11, 12, 13, 16, 17, 18, 19, 20, 21, 22, 23, 24, 26, 28, 29, 30, 31, 34, 35, 36, 37, 38, 39, 40, 41]), (17, [0, 1, 2, 3, 4, 5])] []) σ σ11 := by rw [e9]; exact (Fr.up fr (mF_C (List.mem_of_getElem? (i := 0) rfl) rfl))
            obtain ⟨hc, h⟩ := h
            have rb := fun Q9 z => rb Q9 (And.intro hc z)
            obtain ⟨hc, h⟩ := h
            have rb := fun Q9 z => rb Q9 (And.intro hc z)
            obtain ⟨σ12, e9⟩ : ∃ s : St, s = up3 σ11 56 0 (5 : Int32).toNatClampNeg ((σ11 56 0 (5 : Int32).toNatClampNeg) + 1) := ⟨_, rfl⟩
            have h := h σ12 e9
            have rb := fun Q9 z => rb Q9 (nm_n e9 z)
            have ok : okS σ12 := by rw [e9]; exact (ok_n ok (tyk_a 56 0 (by decide) (by decide) _))
            have fr : Fr (mF [56, 57, 58, 59, 60, 68, 73] [] [(14, [12, 18, 23, 24, 25]), (15, [0, 1, 2, 3, 4, 5, 6, 7, 8, 9, 10, 11, 12, 13, 16, 17, 18, 19, 20, 21, 22, 23, 24, 26, 28, 29, 30, 31, 34, 35, 36, 37, 38, 39, 40, 41]), (17, [0, 1, 2, 3, 4, 5])] []) σ σ12 := by rw [e9]; exact (Fr.up fr (mF_A rfl))
            obtain ⟨σ13, e9⟩ : ∃ s : St, s = up3 σ12 15 i10 0 1 := ⟨_, rfl⟩
            have h := h σ13 e9
            have rb := fun Q9 z => rb Q9 (nm_n e9 z)
            have ok : okS σ13 := by rw [e9]; exact (ok_n ok (by decide))
            have fr : Fr (mF [56, 57, 58, 59, 60, 68, 73] [] [(14, [12, 18, 23, 24, 25]), (15, [0, 1, 2, 3, 4, 5, 6, 7, 8, 9, 10, 11, 12, 13, 16, 17, 18, 19, 20, 21, 22, 23, 24, 26, 28, 29, 30, 31, 34, 35, 36, 37, 38, 39, 40, 41]), (17, [0, 1, 2, 3, 4, 5])] []) σ σ13 := by rw [e9]; exact (Fr.up fr (mF_C (List.mem_of_getElem? (i := 1) rfl) rfl))
            obtain ⟨σ14, e9⟩ : ∃ s : St, s = up3 σ13 15 i10 1 (σ13 14 0 30) := ⟨_, rfl⟩
            have h := h σ14 e9
            have rb := fun Q9 z => rb Q9 (nm_n e9 z)
            have ok : okS σ14 := by rw [e9]; exact (ok_n ok (by decide))
            have fr : Fr (mF [56, 57, 58, 59, 60, 68, 73] [] [(14, [12, 18, 23, 24, 25]), (15, [0, 1, 2, 3, 4, 5, 6, 7, 8, 9, 10, 11, 12, 13, 16, 17, 18, 19, 20, 21, 22, 23, 24, 26, 28, 29, 30, 31, 34, 35, 36, 37, 38, 39, 40, 41]), (17, [0, 1, 2, 3, 4, 5])] []) σ σ14 := by rw [e9]; exact (Fr.up fr (mF_C (List.mem_of_getElem? (i := 1) rfl) rfl))
            obtain ⟨σ15, e9⟩ : ∃ s : St, s = up3 σ14 15 i10 2 (σ14 14 0 32) := ⟨_, rfl⟩
            have h := h σ15 e9
            have rb := fun Q9 z => rb Q9 (nm_n e9 z)
            have ok : okS σ15 := by rw [e9]; exact (ok_n ok (by decide))
            have fr : Fr (mF [56, 57, 58, 59, 60, 68, 73] [] [(14, [12, 18, 23, 24, 25]), (15, [0, 1, 2, 3, 4, 5, 6, 7, 8, 9, 10, 11, 12, 13, 16, 17, 18, 19, 20, 21, 22, 23, 24, 26, 28, 29, 30, 31, 34, 35, 36, 37, 38, 39, 40, 41]), (17, [0, 1, 2, 3, 4, 5])] []) σ σ15 := by rw [e9]; exact (Fr.up fr (mF_C (List.mem_of_getElem? (i := 1) rfl) rfl))
            obtain ⟨σ16, e9⟩ : ∃ s : St, s = up3 σ15 15 i10 34 (σ15 14 0 34) := ⟨_, rfl⟩
            have h := h σ16 e9
            have rb := fun Q9 z => rb Q9 (nm_n e9 z)
            have ok : okS σ16 := by rw [e9]; exact (ok_n ok (by decide))
            have fr : Fr (mF [56, 57, 58, 59, 60, 68, 73] [] [(14, [12, 18, 23, 24, 25]), (15, [0, 1, 2, 3, 4, 5, 6, 7, 8, 9, 10, 11, 12, 13, 16, 17, 18, 19, 20, 21, 22, 23, 24, 26, 28, 29, 30, 31, 34, 35, 36, 37, 38, 39, 40, 41]), (17, [0, 1, 2, 3, 4, 5])] []) σ σ16 := by rw [e9]; exact (Fr.up fr (mF_C (List.mem_of_getElem? (i := 1) rfl) rfl))
            obtain ⟨σ17, e9⟩ : ∃ s : St, s = up3 σ16 15 i10 36 ((σ16 14 0 34) + 1) := ⟨_, rfl⟩
            have h := h σ17 e9
            have rb := fun Q9 z => rb Q9 (nm_n e9 z)
            have ok : okS σ17 := by rw [e9]; exact (ok_n ok (by decide))
            have fr : Fr (mF [56, 57, 58, 59, 60, 68, 73] [] [(14, [12, 18, 23, 24, 25]), (15, [0, 1, 2, 3, 4, 5, 6, 7, 8, 9, 10, 11, 12, 13, 16, 17, 18, 19, 20, 21, 22, 23, 24, 26, 28, 29, 30, 31, 34, 35, 36, 37, 38, 39, 40, 41]), (17, [0, 1, 2, 3, 4, 5])] []) σ σ17 := by rw [e9]; exact (Fr.up fr (mF_C (List.mem_of_getElem? (i := 1) rfl) rfl))
            obtain ⟨σ18, e9⟩ : ∃ s : St, s = up3 σ17 15 i10 35 (σ17 15 i10 36) := ⟨_, rfl⟩
            have h := h σ18 e9
            have rb := fun Q9 z => rb Q9 (nm_n e9 z)
            have ok : okS σ18 := by rw [e9]; exact (ok_n ok (by decide))
            have fr : Fr (mF [56, 57, 58, 59, 60, 68, 73] [] [(14, [12, 18, 23, 24, 25]), (15, [0, 1, 2, 3, 4, 5, 6, 7, 8, 9, 10, 11, 12, 13, 16, 17, 18, 19, 20, 21, 22, 23, 24, 26, 28, 29, 30, 31, 34, 35, 36, 37, 38, 39, 40, 41]), (17, [0, 1, 2, 3, 4, 5])] []) σ σ18 := by rw [e9]; exact (Fr.up fr (mF_C (List.mem_of_getElem? (i := 1) rfl) rfl))
            obtain ⟨σ19, e9⟩ : ∃ s : St, s = up3 σ18 15 i10 3 ((64000 * (σ18 14 0 12)) + (250 * (σ18 14 0 10))) := ⟨_, rfl⟩
            have h := h σ19 e9
            have rb := fun Q9 z => rb Q9 (nm_n e9 z)
            have ok : okS σ19 := by rw [e9]; exact (ok_n ok (by decide))
            have fr : Fr (mF [56, 57, 58, 59, 60, 68, 73] [] [(14, [12, 18, 23, 24, 25]), (15, [0, 1, 2, 3, 4, 5, 6, 7, 8, 9, 10, 11, 12, 13, 16, 17, 18, 19, 20, 21, 22, 23, 24, 26, 28, 29, 30, 31, 34, 35, 36, 37, 38, 39, 40, 41]), (17, [0, 1, 2, 3, 4, 5])] []) σ σ19 := by rw [e9]; exact (Fr.up fr (mF_C (List.mem_of_getElem? (i := 1) rfl) rfl))
            obtain ⟨σ20, e9⟩ : ∃ s : St, s = up3 σ19 15 i10 4 (σ19 15 i10 3) := ⟨_, rfl⟩
            have h := h σ20 e9
            have rb := fun Q9 z => rb Q9 (nm_n e9 z)
            have ok : okS σ20 := by rw [e9]; exact (ok_n ok (by decide))
            have fr : Fr (mF [56, 57, 58, 59, 60, 68, 73] [] [(14, [12, 18, 23, 24, 25]), (15, [0, 1, 2, 3, 4, 5, 6, 7, 8, 9, 10, 11, 12, 13, 16, 17, 18, 19, 20, 21, 22, 23, 24, 26, 28, 29, 30, 31, 34, 35, 36, 37, 38, 39, 40, 41]), (17, [0, 1, 2, 3, 4, 5])] []) σ σ20 := by rw [e9]; exact (Fr.up fr (mF_C (List.mem_of_getElem? (i := 1) rfl) rfl))
            obtain ⟨σ21, e9⟩ : ∃ s : St, s = up3 σ20 15 i10 5 (σ20 15 i10 3) := ⟨_, rfl⟩
            have h := h σ21 e9
            have rb := fun Q9 z => rb Q9 (nm_n e9 z)
            have ok : okS σ21 := by rw [e9]; exact (ok_n ok (by decide))
            have fr : Fr (mF [56, 57, 58, 59, 60, 68, 73] [] [(14, [12, 18, 23, 24, 25]), (15, [0, 1, 2, 3, 4, 5, 6, 7, 8, 9, 10, 11, 12, 13, 16, 17, 18, 19, 20, 21, 22, 23, 24, 26, 28, 29, 30, 31, 34, 35, 36, 37, 38, 39, 40, 41]), (17, [0, 1, 2, 3, 4, 5])] []) σ σ21 := by rw [e9]; exact (Fr.up fr (mF_C (List.mem_of_getElem? (i := 1) rfl) rfl))
            obtain ⟨σ22, e9⟩ : ∃ s : St, s = up3 σ21 15 i10 6 (σ21 15 i10 3) := ⟨_, rfl⟩
            have h := h σ22 e9
            have rb := fun Q9 z => rb Q9 (nm_n e9 z)
            have ok : okS σ22 := by rw [e9]; exact (ok_n ok (by decide))
            have fr : Fr (mF [56, 57, 58, 59, 60, 68, 73] [] [(14, [12, 18, 23, 24, 25]), (15, [0, 1, 2, 3, 4, 5, 6, 7, 8, 9, 10, 11, 12, 13, 16, 17, 18, 19, 20, 21, 22, 23, 24, 26, 28, 29, 30, 31, 34, 35, 36, 37, 38, 39, 40, 41]), (17, [0, 1, 2, 3, 4, 5])] []) σ σ22 := by rw [e9]; exact (Fr.up fr (mF_C (List.mem_of_getElem? (i := 1) rfl) rfl))
            obtain ⟨σ23, e9⟩ : ∃ s : St, s = up3 σ22 15 i10 7 (σ22 14 0 37) := ⟨_, rfl⟩
            have h := h σ23 e9
            have rb := fun Q9 z => rb Q9 (nm_n e9 z)
            have ok : okS σ23 := by rw [e9]; exact (ok_n ok (by decide))
            have fr : Fr (mF [56, 57, 58, 59, 60, 68, 73] [] [(14, [12, 18, 23, 24, 25]), (15, [0, 1, 2, 3, 4, 5, 6, 7, 8, 9, 10, 11, 12, 13, 16, 17, 18, 19, 20, 21, 22, 23, 24, 26, 28, 29, 30, 31, 34, 35, 36, 37, 38, 39, 40, 41]), (17, [0, 1, 2, 3, 4, 5])] []) σ σ23 := by rw [e9]; exact (Fr.up fr (mF_C (List.mem_of_getElem? (i := 1) rfl) rfl))
            obtain ⟨σ24, e9⟩ : ∃ s : St, s = up3 σ23 15 i10 8 (σ23 14 0 34) := ⟨_, rfl⟩
            have h := h σ24 e9
            have rb := fun Q9 z => rb Q9 (nm_n e9 z)
            have ok : okS σ24 := by rw [e9]; exact (ok_n ok (by decide))
            have fr : Fr (mF [56, 57, 58, 59, 60, 68, 73] [] [(14, [12, 18, 23, 24, 25]), (15, [0, 1, 2, 3, 4, 5, 6, 7, 8, 9, 10, 11, 12, 13, 16, 17, 18, 19, 20, 21, 22, 23, 24, 26, 28, 29, 30, 31, 34, 35, 36, 37, 38, 39, 40, 41]), (17, [0, 1, 2, 3, 4, 5])] []) σ σ24 := by rw [e9]; exact (Fr.up fr (mF_C (List.mem_of_getElem? (i := 1) rfl) rfl))
            obtain ⟨σ25, e9⟩ : ∃ s : St, s = up3 σ24 15 i10 9 0 := ⟨_, rfl⟩
            have h := h σ25 e9
            have rb := fun Q9 z => rb Q9 (nm_n e9 z)
            have ok : okS σ25 := by rw [e9]; exact (ok_n ok (by decide))
            have fr : Fr (mF [56, 57, 58, 59, 60, 68, 73] [] [(14, [12, 18, 23, 24, 25]), (15, [0, 1, 2, 3, 4, 5, 6, 7, 8, 9, 10, 11, 12, 13, 16, 17, 18, 19, 20, 21, 22, 23, 24, 26, 28, 29, 30, 31, 34, 35, 36, 37, 38, 39, 40, 41]), (17, [0, 1, 2, 3, 4, 5])] []) σ σ25 := by rw [e9]; exact (Fr.up fr (mF_C (List.mem_of_getElem? (i := 1) rfl) rfl))
            obtain ⟨r26, h, rc⟩ := e14_optionMss ok h
            have rb := fun Q9 z => rb Q9 (rc _ z)
            obtain ⟨σ27, e9⟩ : ∃ s : St, s = up3 σ25 15 i10 10 r26 := ⟨_, rfl⟩
            have h := h σ27 e9
            have rb := fun Q9 z => rb Q9 (nm_n e9 z)
            have ok : okS σ27 := by rw [e9]; exact (ok_n ok (by decide))
            have fr : Fr (mF [56, 57, 58, 59, 60, 68, 73] [] [(14, [12, 18, 23, 24, 25]), (15, [0, 1, 2, 3, 4, 5, 6, 7, 8, 9, 10, 11, 12, 13, 16, 17, 18, 19, 20, 21, 22, 23, 24, 26, 28, 29, 30, 31, 34, 35, 36, 37, 38, 39, 40, 41]), (17, [0, 1, 2, 3, 4, 5])] []) σ σ27 := by rw [e9]; exact (Fr.up fr (mF_C (List.mem_of_getElem? (i := 1) rfl) rfl))
            by_cases hc : 1095 < (σ27 15 i10 10)
            · have h := h.1 hc
              have rb := fun Q9 z => rb Q9 (br_t hc z)
              obtain ⟨σ9, h, ok, fr9, rc⟩ := e14_alone_J255 hq10 hq10 ok h
              exact ⟨σ9, h, ok, fr.tr (fr9.sub (mF_sub rfl (sub_c (Or.inl rfl) sub_nil) rfl (sud_c (Or.inl ⟨_, List.mem_of_getElem? (i := 1) rfl, rfl⟩) (sud_c (Or.inl ⟨_, List.mem_of_getElem? (i := 1) rfl, rfl⟩) sud_nil)))), fun Q9 hq => rb Q9 (rc Q9 hq)⟩
            have h := h.2 hc
            have rb := fun Q9 z => rb Q9 (br_f hc z)
            obtain ⟨σ9, h, ok, fr9, rc⟩ := e14_alone_J255 hq10 hq10 ok h
            exact ⟨σ9, h, ok, fr.tr (fr9.sub (mF_sub rfl (sub_c (Or.inl rfl) sub_nil) rfl (sud_c (Or.inl ⟨_, List.mem_of_getElem? (i := 1) rfl, rfl⟩) (sud_c (Or.inl ⟨_, List.mem_of_getElem? (i := 1) rfl, rfl⟩) sud_nil)))), fun Q9 hq => rb Q9 (rc Q9 hq)⟩
        have h := h.2 hc
        have rb := fun Q9 z => rb Q9 (br_f hc z)
        exact ⟨σ, h, ok, fr, fun Q9 hq => rb Q9 hq⟩
      have h := h.2 hc
      have rb := fun Q9 z => rb Q9 (br_f hc z)
      obtain ⟨σ51, h, ok, fr9, rc⟩ := e14_reset ok h
      have fr := fr.tr (fr9.sub (mF_sub rfl sub_nil rfl sud_nil))
      have rb := fun Q9 z => rb Q9 (rc _ z)
      exact ⟨σ51, h, ok, fr, fun Q9 hq => rb Q9 hq⟩
    have h := h.1 hc
    have rb := fun Q9 z => rb Q9 (br_v hc z)
    obtain ⟨σ2, h, ok, fr9, rc⟩ := e14_reset ok h
    have fr := fr.tr (fr9.sub (mF_sub rfl sub_nil rfl sud_nil))
    have rb := fun Q9 z => rb Q9 (rc _ z)
    exact ⟨σ2, h, ok, fr, fun Q9 hq => rb Q9 hq⟩
  have h := h.2 hc
  have rb := fun Q9 z => rb Q9 (br_f hc z)
  exact ⟨σ, h, ok, fr, fun Q9 hq => rb Q9 hq⟩
/-! WebHostModel.answer(LWebHostModel$Connection;I)V -/
set_option maxHeartbeats 4000000 in
theorem e14_answer_L7 {o1 : Nat} {x2 : Int32} {Q : St → Prop} {K30 : St → Prop} (ho1 : o1 < 16) :
    ∀ (n : Nat) {σ : St} {x3 : Int32} (ok : okS σ), w14_answer_L7 o1 x2 Q K30 n σ x3 → (∃ (σ' : St), K30 σ' ∧ okS σ' ∧ Fr (mF [66] [] [] []) σ σ' ∧ ∀ (Q9 : St → Prop) (K9_30 : St → Prop), K9_30 σ' → w14_answer_L7 o1 x2 Q9 K9_30 n σ x3) := by
  intro n
  induction n with
  | zero =>
    intro σ x3 ok h
    exact False.elim h
  | succ n ih =>
    intro σ x3 ok h
    have fr : Fr (mF [66] [] [] []) σ σ := Fr.rf
    have rb : ∀ (Q9 : St → Prop) (K9_30 : St → Prop), w14_answer_L7 o1 x2 Q9 K9_30 (n + 1) σ x3 → w14_answer_L7 o1 x2 Q9 K9_30 (n + 1) σ x3 := fun _ _ z => z
    by_cases hc : x2 ≤ x3
    · have h := h.1 hc
      have rb := fun Q9 K9_30 z => rb Q9 K9_30 (br_t hc z)
      exact ⟨σ, h, ok, fr, fun Q9 K9_30 hq => rb Q9 K9_30 hq⟩
    have h := h.2 hc
    have rb := fun Q9 K9_30 z => rb Q9 K9_30 (br_f hc z)
    obtain ⟨hc, h⟩ := h
    have rb := fun Q9 K9_30 z => rb Q9 K9_30 (And.intro hc z)
    have h := h ((ok 72 o1 _).2 (tyk_a 72 2 (by decide) (by decide) _))
    have rb := fun Q9 K9_30 z => rb Q9 K9_30 (im_n z)
    obtain ⟨hc, h⟩ := h
    have rb := fun Q9 K9_30 z => rb Q9 K9_30 (And.intro hc z)
    obtain ⟨σ2, e9⟩ : ∃ s : St, s = up3 σ 66 0 x3.toNatClampNeg (σ 72 o1 x3.toNatClampNeg).toInt8.toInt32 := ⟨_, rfl⟩
    have h := h σ2 e9
    have rb := fun Q9 K9_30 z => rb Q9 K9_30 (nm_n e9 z)
    have ok : okS σ2 := by rw [e9]; exact (ok_b ok (tyk_a 66 2 (by decide) (by decide) _))
    have fr : Fr (mF [66] [] [] []) σ σ2 := by rw [e9]; exact (Fr.up fr (mF_A rfl))
    rcases ih ok h with ⟨σ', h, ok, fr9, rc⟩
    · exact ⟨σ', h, ok, fr.tr fr9, fun Q9 K9_30 hq => rb Q9 K9_30 (rc Q9 K9_30 hq)⟩
set_option maxHeartbeats 4000000 in
theorem e14_answer_L127 {o1 : Nat} {x5 : Int32} {x6 : Int32} {Q : St → Prop} {K183 : St → Int32 → Prop} (ho1 : o1 < 16) :
    ∀ (n : Nat) {σ : St} {x3 : Int32} {x4 : Int32} (ok : okS σ), w14_answer_L127 o1 x5 x6 Q K183 n σ x3 x4 → (∃ (σ' : St) (x4' : Int32), K183 σ' x4' ∧ okS σ' ∧ Fr (mF [] [] [(14, [46, 47, 48, 49, 50, 51, 52, 53, 54, 61, 62])] []) σ σ' ∧ ∀ (Q9 : St → Prop) (K9_183 : St → Int32 → Prop), K9_183 σ' x4' → w14_answer_L127 o1 x5 x6 Q9 K9_183 n σ x3 x4) := by
  intro n
  induction n with
  | zero =>
    intro σ x3 x4 ok h
    exact False.elim h
  | succ n ih =>
    intro σ x3 x4 ok h
    have fr : Fr (mF [] [] [(14, [46, 47, 48, 49, 50, 51, 52, 53, 54, 61, 62])] []) σ σ := Fr.rf
    have rb : ∀ (Q9 : St → Prop) (K9_183 : St → Int32 → Prop), w14_answer_L127 o1 x5 x6 Q9 K9_183 (n + 1) σ x3 x4 → w14_answer_L127 o1 x5 x6 Q9 K9_183 (n + 1) σ x3 x4 := fun _ _ z => z
    by_cases hc : x4 = 0
    · have h := h.1 hc
      have rb := fun Q9 K9_183 z => rb Q9 K9_183 (br_t hc z)
      exact ⟨σ, x4, h, ok, fr, fun Q9 K9_183 hq => rb Q9 K9_183 hq⟩
    have h := h.2 hc
    have rb := fun Q9 K9_183 z => rb Q9 K9_183 (br_f hc z)
    by_cases hc : (σ 14 0 42) ≤ (x3 + 1)
    · have h := h.1 hc
      have rb := fun Q9 K9_183 z => rb Q9 K9_183 (br_t hc z)
      exact ⟨σ, x4, h, ok, fr, fun Q9 K9_183 hq => rb Q9 K9_183 hq⟩
    have h := h.2 hc
    have rb := fun Q9 K9_183 z => rb Q9 K9_183 (br_f hc z)
    obtain ⟨r22, h, rc⟩ := e14_lineEnd ok h
    have rb := fun Q9 K9_183 z => rb Q9 K9_183 (rc _ z)
    obtain ⟨r23, h, rc⟩ := e14_shown ok h
    have rb := fun Q9 K9_183 z => rb Q9 K9_183 (rc _ z)
    by_cases hc : r23 ≤ (x3 + 1)
    · have h := h.1 hc
      have rb := fun Q9 K9_183 z => rb Q9 K9_183 (br_t hc z)
      rcases ih ok h with ⟨σ', x4, h, ok, fr9, rc⟩
      · exact ⟨σ', x4, h, ok, fr.tr fr9, fun Q9 K9_183 hq => rb Q9 K9_183 (rc Q9 K9_183 hq)⟩
    have h := h.2 hc
    have rb := fun Q9 K9_183 z => rb Q9 K9_183 (br_f hc z)
    obtain ⟨r24, σ24, h, ok, fr9, rc⟩ := e14_field ok h
    have fr := fr.tr (fr9.sub (mF_sub rfl sub_nil rfl sud_nil))
    have rb := fun Q9 K9_183 z => rb Q9 K9_183 (rc _ z)
    rcases ih ok h with ⟨σ', x4, h, ok, fr9, rc⟩
    · exact ⟨σ', x4, h, ok, fr.tr fr9, fun Q9 K9_183 hq => rb Q9 K9_183 (rc Q9 K9_183 hq)⟩
set_option maxHeartbeats 4000000 in
theorem e14_answer_J351 {σ : St} {o1 : Nat} {xs0 : Int32} {xs1 : Int32} {os2 : Nat} {Q : St → Prop} (ho1 : o1 < 16) (hos2 : os2 < 16) (ok : okS σ) (h : w14_answer_J351 σ o1 xs0 xs1 os2 Q) : (∃ (σ' : St), Q σ' ∧ okS σ' ∧ Fr (mF [56] [(71, os2), (72, o1), (73, o1)] [] [(15, o1, [35, 38, 39]), (15, os2, [26, 27, 28, 29, 30])]) σ σ' ∧ ∀ (Q9 : St → Prop), Q9 σ' → w14_answer_J351 σ o1 xs0 xs1 os2 Q9) := by
  have fr : Fr (mF [56] [(71, os2), (72, o1), (73, o1)] [] [(15, o1, [35, 38, 39]), (15, os2, [26, 27, 28, 29, 30])]) σ σ := Fr.rf
  have rb : ∀ (Q9 : St → Prop), w14_answer_J351 σ o1 xs0 xs1 os2 Q9 → w14_answer_J351 σ o1 xs0 xs1 os2 Q9 := fun _ z => z
  obtain ⟨σ28, h, ok, fr9, rc⟩ := e14_make hos2 ok h
  have fr := fr.tr (fr9.sub (mF_sub rfl (sub_c (Or.inr (List.mem_of_getElem? (i := 0) rfl)) sub_nil) rfl (sud_c (Or.inr ⟨_, List.mem_of_getElem? (i := 1) rfl, rfl⟩) sud_nil)))
  have rb := fun Q9 z => rb Q9 (rc _ z)
  obtain ⟨r29, h, rc⟩ := e15_held ho1 ok h
  have rb := fun Q9 z => rb Q9 (rc _ z)
  by_cases hc : (imin (σ28 15 o1 38) r29) ≤ 0
  · have h := h.1 hc
    have rb := fun Q9 z => rb Q9 (br_t hc z)
    exact ⟨σ28, h, ok, fr, fun Q9 hq => rb Q9 hq⟩
  have h := h.2 hc
  have rb := fun Q9 z => rb Q9 (br_f hc z)
  obtain ⟨σ30, e9⟩ : ∃ s : St, s = up3 σ28 15 o1 38 ((σ28 15 o1 38) - (imin (σ28 15 o1 38) r29)) := ⟨_, rfl⟩
  have h := h σ30 e9
  have rb := fun Q9 z => rb Q9 (nm_n e9 z)
  have ok : okS σ30 := by rw [e9]; exact (ok_n ok (by decide))
  have fr : Fr (mF [56] [(71, os2), (72, o1), (73, o1)] [] [(15, o1, [35, 38, 39]), (15, os2, [26, 27, 28, 29, 30])]) σ σ30 := by rw [e9]; exact (Fr.up fr (mF_D (List.mem_of_getElem? (i := 0) rfl) rfl))
  obtain ⟨σ31, h, ok, fr9, rc⟩ := e14_take ho1 ok h
  have fr := fr.tr (fr9.sub (mF_sub rfl (sub_c (Or.inr (List.mem_of_getElem? (i := 1) rfl)) (sub_c (Or.inr (List.mem_of_getElem? (i := 2) rfl)) sub_nil)) rfl (sud_c (Or.inr ⟨_, List.mem_of_getElem? (i := 0) rfl, rfl⟩) sud_nil)))
  have rb := fun Q9 z => rb Q9 (rc _ z)
  exact ⟨σ31, h, ok, fr, fun Q9 hq => rb Q9 hq⟩
set_option maxHeartbeats 4000000 in
theorem e14_answer_J332 {σ : St} {o1 : Nat} {x6 : Int32} {x7 : Int32} {x8 : Int32} {Q : St → Prop} (ho1 : o1 < 16) (ok : okS σ) (h : w14_answer_J332 σ o1 x6 x7 x8 Q) : (∃ (σ' : St), Q σ' ∧ okS σ' ∧ Fr (mF [56] [(71, o1), (72, o1), (73, o1)] [] [(15, o1, [26, 27, 28, 29, 30, 35, 38, 39])]) σ σ' ∧ ∀ (Q9 : St → Prop), Q9 σ' → w14_answer_J332 σ o1 x6 x7 x8 Q9) := by
  have fr : Fr (mF [56] [(71, o1), (72, o1), (73, o1)] [] [(15, o1, [26, 27, 28, 29, 30, 35, 38, 39])]) σ σ := Fr.rf
  have rb : ∀ (Q9 : St → Prop), w14_answer_J332 σ o1 x6 x7 x8 Q9 → w14_answer_J332 σ o1 x6 x7 x8 Q9 := fun _ z => z
  by_cases hc : x7 = 0
  · have h := h.2 hc
    have rb := fun Q9 z => rb Q9 (br_u hc z)
    by_cases hc : x8 = 0
    · have h := h.2 hc
      have rb := fun Q9 z => rb Q9 (br_u hc z)
      obtain ⟨σ9, h, ok, fr9, rc⟩ := e14_answer_J351 ho1 ho1 ok h
      exact ⟨σ9, h, ok, fr.tr (fr9.sub (mF_sub rfl (sub_c (Or.inr (List.mem_of_getElem? (i := 0) rfl)) (sub_c (Or.inr (List.mem_of_getElem? (i := 1) rfl)) (sub_c (Or.inr (List.mem_of_getElem? (i := 2) rfl)) sub_nil))) rfl (sud_c (Or.inr ⟨_, List.mem_of_getElem? (i := 0) rfl, rfl⟩) (sud_c (Or.inr ⟨_, List.mem_of_getElem? (i := 0) rfl, rfl⟩) sud_nil)))), fun Q9 hq => rb Q9 (rc Q9 hq)⟩
    have h := h.1 hc
    have rb := fun Q9 z => rb Q9 (br_v hc z)
    obtain ⟨σ9, h, ok, fr9, rc⟩ := e14_answer_J351 ho1 ho1 ok h
    exact ⟨σ9, h, ok, fr.tr (fr9.sub (mF_sub rfl (sub_c (Or.inr (List.mem_of_getElem? (i := 0) rfl)) (sub_c (Or.inr (List.mem_of_getElem? (i := 1) rfl)) (sub_c (Or.inr (List.mem_of_getElem? (i := 2) rfl)) sub_nil))) rfl (sud_c (Or.inr ⟨_, List.mem_of_getElem? (i := 0) rfl, rfl⟩) (sud_c (Or.inr ⟨_, List.mem_of_getElem? (i := 0) rfl, rfl⟩) sud_nil)))), fun Q9 hq => rb Q9 (rc Q9 hq)⟩
  have h := h.1 hc
  have rb := fun Q9 z => rb Q9 (br_v hc z)
  obtain ⟨σ9, h, ok, fr9, rc⟩ := e14_answer_J351 ho1 ho1 ok h
  exact ⟨σ9, h, ok, fr.tr (fr9.sub (mF_sub rfl (sub_c (Or.inr (List.mem_of_getElem? (i := 0) rfl)) (sub_c (Or.inr (List.mem_of_getElem? (i := 1) rfl)) (sub_c (Or.inr (List.mem_of_getElem? (i := 2) rfl)) sub_nil))) rfl (sud_c (Or.inr ⟨_, List.mem_of_getElem? (i := 0) rfl, rfl⟩) (sud_c (Or.inr ⟨_, List.mem_of_getElem? (i := 0) rfl, rfl⟩) sud_nil)))), fun Q9 hq => rb Q9 (rc Q9 hq)⟩
set_option maxHeartbeats 4000000 in
theorem e14_answer_J292 {σ : St} {o1 : Nat} {x6 : Int32} {x7 : Int32} {xs0 : Int32} {Q : St → Prop} (ho1 : o1 < 16) (ok : okS σ) (h : w14_answer_J292 σ o1 x6 x7 xs0 Q) : (∃ (σ' : St), Q σ' ∧ okS σ' ∧ Fr (mF [56] [(71, o1), (72, o1), (73, o1)] [] [(15, o1, [26, 27, 28, 29, 30, 35, 38, 39])]) σ σ' ∧ ∀ (Q9 : St → Prop), Q9 σ' → w14_answer_J292 σ o1 x6 x7 xs0 Q9) := by
  have fr : Fr (mF [56] [(71, o1), (72, o1), (73, o1)] [] [(15, o1, [26, 27, 28, 29, 30, 35, 38, 39])]) σ σ := Fr.rf
  have rb : ∀ (Q9 : St → Prop), w14_answer_J292 σ o1 x6 x7 xs0 Q9 → w14_answer_J292 σ o1 x6 x7 xs0 Q9 := fun _ z => z
  by_cases hc : (σ 14 0 43) = 400
  · have h := h.1 hc
    have rb := fun Q9 z => rb Q9 (br_t hc z)
    obtain ⟨σ9, h, ok, fr9, rc⟩ := e14_answer_J332 ho1 ok h
    exact ⟨σ9, h, ok, fr.tr (fr9.sub (mF_sub rfl (sub_c (Or.inr (List.mem_of_getElem? (i := 0) rfl)) (sub_c (Or.inr (List.mem_of_getElem? (i := 1) rfl)) (sub_c (Or.inr (List.mem_of_getElem? (i := 2) rfl)) sub_nil))) rfl (sud_c (Or.inr ⟨_, List.mem_of_getElem? (i := 0) rfl, rfl⟩) sud_nil))), fun Q9 hq => rb Q9 (rc Q9 hq)⟩
  have h := h.2 hc
  have rb := fun Q9 z => rb Q9 (br_f hc z)
  by_cases hc : (σ 14 0 43) = 413
  · have h := h.1 hc
    have rb := fun Q9 z => rb Q9 (br_t hc z)
    obtain ⟨σ9, h, ok, fr9, rc⟩ := e14_answer_J332 ho1 ok h
    exact ⟨σ9, h, ok, fr.tr (fr9.sub (mF_sub rfl (sub_c (Or.inr (List.mem_of_getElem? (i := 0) rfl)) (sub_c (Or.inr (List.mem_of_getElem? (i := 1) rfl)) (sub_c (Or.inr (List.mem_of_getElem? (i := 2) rfl)) sub_nil))) rfl (sud_c (Or.inr ⟨_, List.mem_of_getElem? (i := 0) rfl, rfl⟩) sud_nil))), fun Q9 hq => rb Q9 (rc Q9 hq)⟩
  have h := h.2 hc
  have rb := fun Q9 z => rb Q9 (br_f hc z)
  by_cases hc : (σ 14 0 43) = 501
  · have h := h.1 hc
    have rb := fun Q9 z => rb Q9 (br_t hc z)
    obtain ⟨σ9, h, ok, fr9, rc⟩ := e14_answer_J332 ho1 ok h
    exact ⟨σ9, h, ok, fr.tr (fr9.sub (mF_sub rfl (sub_c (Or.inr (List.mem_of_getElem? (i := 0) rfl)) (sub_c (Or.inr (List.mem_of_getElem? (i := 1) rfl)) (sub_c (Or.inr (List.mem_of_getElem? (i := 2) rfl)) sub_nil))) rfl (sud_c (Or.inr ⟨_, List.mem_of_getElem? (i := 0) rfl, rfl⟩) sud_nil))), fun Q9 hq => rb Q9 (rc Q9 hq)⟩
  have h := h.2 hc
  have rb := fun Q9 z => rb Q9 (br_f hc z)
  obtain ⟨σ32, e9⟩ : ∃ s : St, s = up3 σ 15 o1 38 (σ 14 0 51) := ⟨_, rfl⟩
  have h := h σ32 e9
  have rb := fun Q9 z => rb Q9 (nm_n e9 z)
  have ok : okS σ32 := by rw [e9]; exact (ok_n ok (by decide))
  have fr : Fr (mF [56] [(71, o1), (72, o1), (73, o1)] [] [(15, o1, [26, 27, 28, 29, 30, 35, 38, 39])]) σ σ32 := by rw [e9]; exact (Fr.up fr (mF_D (List.mem_of_getElem? (i := 0) rfl) rfl))
  obtain ⟨σ9, h, ok, fr9, rc⟩ := e14_answer_J332 ho1 ok h
  exact ⟨σ9, h, ok, fr.tr (fr9.sub (mF_sub rfl (sub_c (Or.inr (List.mem_of_getElem? (i := 0) rfl)) (sub_c (Or.inr (List.mem_of_getElem? (i := 1) rfl)) (sub_c (Or.inr (List.mem_of_getElem? (i := 2) rfl)) sub_nil))) rfl (sud_c (Or.inr ⟨_, List.mem_of_getElem? (i := 0) rfl, rfl⟩) sud_nil))), fun Q9 hq => rb Q9 (rc Q9 hq)⟩
set_option maxHeartbeats 4000000 in
theorem e14_answer_J249 {σ : St} {o1 : Nat} {x5 : Int32} {x6 : Int32} {xs0 : Int32} {Q : St → Prop} (ho1 : o1 < 16) (ok : okS σ) (h : w14_answer_J249 σ o1 x5 x6 xs0 Q) : (∃ (σ' : St), Q σ' ∧ okS σ' ∧ Fr (mF [56] [(71, o1), (72, o1), (73, o1)] [] [(15, o1, [26, 27, 28, 29, 30, 35, 38, 39])]) σ σ' ∧ ∀ (Q9 : St → Prop), Q9 σ' → w14_answer_J249 σ o1 x5 x6 xs0 Q9) := by
  have fr : Fr (mF [56] [(71, o1), (72, o1), (73, o1)] [] [(15, o1, [26, 27, 28, 29, 30, 35, 38, 39])]) σ σ := Fr.rf
  have rb : ∀ (Q9 : St → Prop), w14_answer_J249 σ o1 x5 x6 xs0 Q9 → w14_answer_J249 σ o1 x5 x6 xs0 Q9 := fun _ z => z
  by_cases hc : x5 = 0
  · have h := h.1 hc
    have rb := fun Q9 z => rb Q9 (br_t hc z)
    obtain ⟨σ9, h, ok, fr9, rc⟩ := e14_answer_J292 ho1 ok h
    exact ⟨σ9, h, ok, fr.tr (fr9.sub (mF_sub rfl (sub_c (Or.inr (List.mem_of_getElem? (i := 0) rfl)) (sub_c (Or.inr (List.mem_of_getElem? (i := 1) rfl)) (sub_c (Or.inr (List.mem_of_getElem? (i := 2) rfl)) sub_nil))) rfl (sud_c (Or.inr ⟨_, List.mem_of_getElem? (i := 0) rfl, rfl⟩) sud_nil))), fun Q9 hq => rb Q9 (rc Q9 hq)⟩
  have h := h.2 hc
  have rb := fun Q9 z => rb Q9 (br_f hc z)
  have h := h ((ok 14 0 45).1 (by decide))
  have rb := fun Q9 z => rb Q9 (im_n z)
  by_cases hc : (σ 14 0 45) = 0
  · have h := h.1 hc
    have rb := fun Q9 z => rb Q9 (br_t hc z)
    have h := h ((ok 14 0 46).1 (by decide))
    have rb := fun Q9 z => rb Q9 (im_n z)
    by_cases hc : (σ 14 0 46) = 0
    · have h := h.2 hc
      have rb := fun Q9 z => rb Q9 (br_u hc z)
      obtain ⟨σ9, h, ok, fr9, rc⟩ := e14_answer_J292 ho1 ok h
      exact ⟨σ9, h, ok, fr.tr (fr9.sub (mF_sub rfl (sub_c (Or.inr (List.mem_of_getElem? (i := 0) rfl)) (sub_c (Or.inr (List.mem_of_getElem? (i := 1) rfl)) (sub_c (Or.inr (List.mem_of_getElem? (i := 2) rfl)) sub_nil))) rfl (sud_c (Or.inr ⟨_, List.mem_of_getElem? (i := 0) rfl, rfl⟩) sud_nil))), fun Q9 hq => rb Q9 (rc Q9 hq)⟩
    have h := h.1 hc
    have rb := fun Q9 z => rb Q9 (br_v hc z)
    obtain ⟨σ9, h, ok, fr9, rc⟩ := e14_answer_J292 ho1 ok h
    exact ⟨σ9, h, ok, fr.tr (fr9.sub (mF_sub rfl (sub_c (Or.inr (List.mem_of_getElem? (i := 0) rfl)) (sub_c (Or.inr (List.mem_of_getElem? (i := 1) rfl)) (sub_c (Or.inr (List.mem_of_getElem? (i := 2) rfl)) sub_nil))) rfl (sud_c (Or.inr ⟨_, List.mem_of_getElem? (i := 0) rfl, rfl⟩) sud_nil))), fun Q9 hq => rb Q9 (rc Q9 hq)⟩
  have h := h.2 hc
  have rb := fun Q9 z => rb Q9 (br_f hc z)
  have h := h ((ok 14 0 47).1 (by decide))
  have rb := fun Q9 z => rb Q9 (im_n z)
  by_cases hc : (σ 14 0 47) = 0
  · have h := h.1 hc
    have rb := fun Q9 z => rb Q9 (br_t hc z)
    obtain ⟨σ9, h, ok, fr9, rc⟩ := e14_answer_J292 ho1 ok h
    exact ⟨σ9, h, ok, fr.tr (fr9.sub (mF_sub rfl (sub_c (Or.inr (List.mem_of_getElem? (i := 0) rfl)) (sub_c (Or.inr (List.mem_of_getElem? (i := 1) rfl)) (sub_c (Or.inr (List.mem_of_getElem? (i := 2) rfl)) sub_nil))) rfl (sud_c (Or.inr ⟨_, List.mem_of_getElem? (i := 0) rfl, rfl⟩) sud_nil))), fun Q9 hq => rb Q9 (rc Q9 hq)⟩
  have h := h.2 hc
  have rb := fun Q9 z => rb Q9 (br_f hc z)
  have h := h ((ok 14 0 46).1 (by decide))
  have rb := fun Q9 z => rb Q9 (im_n z)
  by_cases hc : (σ 14 0 46) = 0
  · have h := h.2 hc
    have rb := fun Q9 z => rb Q9 (br_u hc z)
    obtain ⟨σ9, h, ok, fr9, rc⟩ := e14_answer_J292 ho1 ok h
    exact ⟨σ9, h, ok, fr.tr (fr9.sub (mF_sub rfl (sub_c (Or.inr (List.mem_of_getElem? (i := 0) rfl)) (sub_c (Or.inr (List.mem_of_getElem? (i := 1) rfl)) (sub_c (Or.inr (List.mem_of_getElem? (i := 2) rfl)) sub_nil))) rfl (sud_c (Or.inr ⟨_, List.mem_of_getElem? (i := 0) rfl, rfl⟩) sud_nil))), fun Q9 hq => rb Q9 (rc Q9 hq)⟩
  have h := h.1 hc
  have rb := fun Q9 z => rb Q9 (br_v hc z)
  obtain ⟨σ9, h, ok, fr9, rc⟩ := e14_answer_J292 ho1 ok h
  exact ⟨σ9, h, ok, fr.tr (fr9.sub (mF_sub rfl (sub_c (Or.inr (List.mem_of_getElem? (i := 0) rfl)) (sub_c (Or.inr (List.mem_of_getElem? (i := 1) rfl)) (sub_c (Or.inr (List.mem_of_getElem? (i := 2) rfl)) sub_nil))) rfl (sud_c (Or.inr ⟨_, List.mem_of_getElem? (i := 0) rfl, rfl⟩) sud_nil))), fun Q9 hq => rb Q9 (rc Q9 hq)⟩
set_option maxHeartbeats 4000000 in
theorem e14_answer_J204 {σ : St} {o1 : Nat} {x5 : Int32} {x6 : Int32} {Q : St → Prop} (ho1 : o1 < 16) (ok : okS σ) (h : w14_answer_J204 σ o1 x5 x6 Q) : (∃ (σ' : St), Q σ' ∧ okS σ' ∧ Fr (mF [56] [(71, o1), (72, o1), (73, o1)] [] [(15, o1, [26, 27, 28, 29, 30, 35, 38, 39])]) σ σ' ∧ ∀ (Q9 : St → Prop), Q9 σ' → w14_answer_J204 σ o1 x5 x6 Q9) := by
  have fr : Fr (mF [56] [(71, o1), (72, o1), (73, o1)] [] [(15, o1, [26, 27, 28, 29, 30, 35, 38, 39])]) σ σ := Fr.rf
  have rb : ∀ (Q9 : St → Prop), w14_answer_J204 σ o1 x5 x6 Q9 → w14_answer_J204 σ o1 x5 x6 Q9 := fun _ z => z
  by_cases hc : (σ 14 0 43) = 400
  · have h := h.1 hc
    have rb := fun Q9 z => rb Q9 (br_t hc z)
    obtain ⟨σ9, h, ok, fr9, rc⟩ := e14_answer_J249 ho1 ok h
    exact ⟨σ9, h, ok, fr.tr (fr9.sub (mF_sub rfl (sub_c (Or.inr (List.mem_of_getElem? (i := 0) rfl)) (sub_c (Or.inr (List.mem_of_getElem? (i := 1) rfl)) (sub_c (Or.inr (List.mem_of_getElem? (i := 2) rfl)) sub_nil))) rfl (sud_c (Or.inr ⟨_, List.mem_of_getElem? (i := 0) rfl, rfl⟩) sud_nil))), fun Q9 hq => rb Q9 (rc Q9 hq)⟩
  have h := h.2 hc
  have rb := fun Q9 z => rb Q9 (br_f hc z)
  by_cases hc : (σ 14 0 43) = 413
  · have h := h.1 hc
    have rb := fun Q9 z => rb Q9 (br_t hc z)
    obtain ⟨σ9, h, ok, fr9, rc⟩ := e14_answer_J249 ho1 ok h
    exact ⟨σ9, h, ok, fr.tr (fr9.sub (mF_sub rfl (sub_c (Or.inr (List.mem_of_getElem? (i := 0) rfl)) (sub_c (Or.inr (List.mem_of_getElem? (i := 1) rfl)) (sub_c (Or.inr (List.mem_of_getElem? (i := 2) rfl)) sub_nil))) rfl (sud_c (Or.inr ⟨_, List.mem_of_getElem? (i := 0) rfl, rfl⟩) sud_nil))), fun Q9 hq => rb Q9 (rc Q9 hq)⟩
  have h := h.2 hc
  have rb := fun Q9 z => rb Q9 (br_f hc z)
  by_cases hc : (σ 14 0 43) = 500
  · have h := h.1 hc
    have rb := fun Q9 z => rb Q9 (br_t hc z)
    obtain ⟨σ9, h, ok, fr9, rc⟩ := e14_answer_J249 ho1 ok h
    exact ⟨σ9, h, ok, fr.tr (fr9.sub (mF_sub rfl (sub_c (Or.inr (List.mem_of_getElem? (i := 0) rfl)) (sub_c (Or.inr (List.mem_of_getElem? (i := 1) rfl)) (sub_c (Or.inr (List.mem_of_getElem? (i := 2) rfl)) sub_nil))) rfl (sud_c (Or.inr ⟨_, List.mem_of_getElem? (i := 0) rfl, rfl⟩) sud_nil))), fun Q9 hq => rb Q9 (rc Q9 hq)⟩
  have h := h.2 hc
  have rb := fun Q9 z => rb Q9 (br_f hc z)
  by_cases hc : (σ 14 0 43) = 501
  · have h := h.2 hc
    have rb := fun Q9 z => rb Q9 (br_u hc z)
    obtain ⟨σ9, h, ok, fr9, rc⟩ := e14_answer_J249 ho1 ok h
    exact ⟨σ9, h, ok, fr.tr (fr9.sub (mF_sub rfl (sub_c (Or.inr (List.mem_of_getElem? (i := 0) rfl)) (sub_c (Or.inr (List.mem_of_getElem? (i := 1) rfl)) (sub_c (Or.inr (List.mem_of_getElem? (i := 2) rfl)) sub_nil))) rfl (sud_c (Or.inr ⟨_, List.mem_of_getElem? (i := 0) rfl, rfl⟩) sud_nil))), fun Q9 hq => rb Q9 (rc Q9 hq)⟩
  have h := h.1 hc
  have rb := fun Q9 z => rb Q9 (br_v hc z)
  obtain ⟨σ9, h, ok, fr9, rc⟩ := e14_answer_J249 ho1 ok h
  exact ⟨σ9, h, ok, fr.tr (fr9.sub (mF_sub rfl (sub_c (Or.inr (List.mem_of_getElem? (i := 0) rfl)) (sub_c (Or.inr (List.mem_of_getElem? (i := 1) rfl)) (sub_c (Or.inr (List.mem_of_getElem? (i := 2) rfl)) sub_nil))) rfl (sud_c (Or.inr ⟨_, List.mem_of_getElem? (i := 0) rfl, rfl⟩) sud_nil))), fun Q9 hq => rb Q9 (rc Q9 hq)⟩
set_option maxHeartbeats 4000000 in
theorem e14_answer {σ : St} {o1 : Nat} {x2 : Int32} {Q : St → Prop} (ho1 : o1 < 16) (ok : okS σ) (h : w14_answer σ o1 x2 Q) : (∃ (σ' : St), Q σ' ∧ okS σ' ∧ Fr (mF [56, 66, 67] [(71, o1), (72, o1), (73, o1)] [(14, [42, 43, 44, 45, 46, 47, 48, 49, 50, 51, 52, 53, 54, 55, 56, 57, 59, 60, 61, 62])] [(15, o1, [26, 27, 28, 29, 30, 35, 38, 39])]) σ σ' ∧ ∀ (Q9 : St → Prop), Q9 σ' → w14_answer σ o1 x2 Q9) := by
  have fr : Fr (mF [56, 66, 67] [(71, o1), (72, o1), (73, o1)] [(14, [42, 43, 44, 45, 46, 47, 48, 49, 50, 51, 52, 53, 54, 55, 56, 57, 59, 60, 61, 62])] [(15, o1, [26, 27, 28, 29, 30, 35, 38, 39])]) σ σ := Fr.rf
  have rb : ∀ (Q9 : St → Prop), w14_answer σ o1 x2 Q9 → w14_answer σ o1 x2 Q9 := fun _ z => z
  obtain ⟨σ1, e9⟩ : ∃ s : St, s = up3 σ 14 0 42 x2 := ⟨_, rfl⟩
  have h := h σ1 e9
  have rb := fun Q9 z => rb Q9 (nm_n e9 z)
  have ok : okS σ1 := by rw [e9]; exact (ok_n ok (by decide))
  have fr : Fr (mF [56, 66, 67] [(71, o1), (72, o1), (73, o1)] [(14, [42, 43, 44, 45, 46, 47, 48, 49, 50, 51, 52, 53, 54, 55, 56, 57, 59, 60, 61, 62])] [(15, o1, [26, 27, 28, 29, 30, 35, 38, 39])]) σ σ1 := by rw [e9]; exact (Fr.up fr (mF_C (List.mem_of_getElem? (i := 0) rfl) rfl))
  obtain ⟨n9, h⟩ := h
  rcases e14_answer_L7 ho1 n9 ok h with ⟨σ4, h, ok, fr9, rc⟩
  · have rb := fun Q9 z => rb Q9 (Exists.intro n9 (rc _ _ z))
    have fr := fr.tr (fr9.sub (mF_sub rfl sub_nil rfl sud_nil))
    obtain ⟨σ5, h, ok, fr9, rc⟩ := e14_take ho1 ok h
    have fr := fr.tr (fr9.sub (mF_sub rfl (sub_c (Or.inr (List.mem_of_getElem? (i := 1) rfl)) (sub_c (Or.inr (List.mem_of_getElem? (i := 2) rfl)) sub_nil)) rfl (sud_c (Or.inr ⟨_, List.mem_of_getElem? (i := 0) rfl, rfl⟩) sud_nil)))
    have rb := fun Q9 z => rb Q9 (rc _ z)
    obtain ⟨σ6, e9⟩ : ∃ s : St, s = up3 σ5 14 0 43 0 := ⟨_, rfl⟩
    have h := h σ6 e9
    have rb := fun Q9 z => rb Q9 (nm_n e9 z)
    have ok : okS σ6 := by rw [e9]; exact (ok_n ok (by decide))
    have fr : Fr (mF [56, 66, 67] [(71, o1), (72, o1), (73, o1)] [(14, [42, 43, 44, 45, 46, 47, 48, 49, 50, 51, 52, 53, 54, 55, 56, 57, 59, 60, 61, 62])] [(15, o1, [26, 27, 28, 29, 30, 35, 38, 39])]) σ σ6 := by rw [e9]; exact (Fr.up fr (mF_C (List.mem_of_getElem? (i := 0) rfl) rfl))
    obtain ⟨σ7, e9⟩ : ∃ s : St, s = up3 σ6 14 0 44 0 := ⟨_, rfl⟩
    have h := h σ7 e9
    have rb := fun Q9 z => rb Q9 (nm_n e9 z)
    have ok : okS σ7 := by rw [e9]; exact (ok_z ok (by decide) (Or.inl rfl))
    have fr : Fr (mF [56, 66, 67] [(71, o1), (72, o1), (73, o1)] [(14, [42, 43, 44, 45, 46, 47, 48, 49, 50, 51, 52, 53, 54, 55, 56, 57, 59, 60, 61, 62])] [(15, o1, [26, 27, 28, 29, 30, 35, 38, 39])]) σ σ7 := by rw [e9]; exact (Fr.up fr (mF_C (List.mem_of_getElem? (i := 0) rfl) rfl))
    obtain ⟨σ8, e9⟩ : ∃ s : St, s = up3 σ7 14 0 45 0 := ⟨_, rfl⟩
    have h := h σ8 e9
    have rb := fun Q9 z => rb Q9 (nm_n e9 z)
    have ok : okS σ8 := by rw [e9]; exact (ok_z ok (by decide) (Or.inl rfl))
    have fr : Fr (mF [56, 66, 67] [(71, o1), (72, o1), (73, o1)] [(14, [42, 43, 44, 45, 46, 47, 48, 49, 50, 51, 52, 53, 54, 55, 56, 57, 59, 60, 61, 62])] [(15, o1, [26, 27, 28, 29, 30, 35, 38, 39])]) σ σ8 := by rw [e9]; exact (Fr.up fr (mF_C (List.mem_of_getElem? (i := 0) rfl) rfl))
    obtain ⟨σ9, e9⟩ : ∃ s : St, s = up3 σ8 14 0 46 0 := ⟨_, rfl⟩
    have h := h σ9 e9
    have rb := fun Q9 z => rb Q9 (nm_n e9 z)
    have ok : okS σ9 := by rw [e9]; exact (ok_z ok (by decide) (Or.inl rfl))
    have fr : Fr (mF [56, 66, 67] [(71, o1), (72, o1), (73, o1)] [(14, [42, 43, 44, 45, 46, 47, 48, 49, 50, 51, 52, 53, 54, 55, 56, 57, 59, 60, 61, 62])] [(15, o1, [26, 27, 28, 29, 30, 35, 38, 39])]) σ σ9 := by rw [e9]; exact (Fr.up fr (mF_C (List.mem_of_getElem? (i := 0) rfl) rfl))
    obtain ⟨σ10, e9⟩ : ∃ s : St, s = up3 σ9 14 0 47 0 := ⟨_, rfl⟩
    have h := h σ10 e9
    have rb := fun Q9 z => rb Q9 (nm_n e9 z)
    have ok : okS σ10 := by rw [e9]; exact (ok_z ok (by decide) (Or.inl rfl))
    have fr : Fr (mF [56, 66, 67] [(71, o1), (72, o1), (73, o1)] [(14, [42, 43, 44, 45, 46, 47, 48, 49, 50, 51, 52, 53, 54, 55, 56, 57, 59, 60, 61, 62])] [(15, o1, [26, 27, 28, 29, 30, 35, 38, 39])]) σ σ10 := by rw [e9]; exact (Fr.up fr (mF_C (List.mem_of_getElem? (i := 0) rfl) rfl))
    obtain ⟨σ11, e9⟩ : ∃ s : St, s = up3 σ10 14 0 48 0 := ⟨_, rfl⟩
    have h := h σ11 e9
    have rb := fun Q9 z => rb Q9 (nm_n e9 z)
    have ok : okS σ11 := by rw [e9]; exact (ok_n ok (by decide))
    have fr : Fr (mF [56, 66, 67] [(71, o1), (72, o1), (73, o1)] [(14, [42, 43, 44, 45, 46, 47, 48, 49, 50, 51, 52, 53, 54, 55, 56, 57, 59, 60, 61, 62])] [(15, o1, [26, 27, 28, 29, 30, 35, 38, 39])]) σ σ11 := by rw [e9]; exact (Fr.up fr (mF_C (List.mem_of_getElem? (i := 0) rfl) rfl))
    obtain ⟨σ12, e9⟩ : ∃ s : St, s = up3 σ11 14 0 49 0 := ⟨_, rfl⟩
    have h := h σ12 e9
    have rb := fun Q9 z => rb Q9 (nm_n e9 z)
    have ok : okS σ12 := by rw [e9]; exact (ok_n ok (by decide))
    have fr : Fr (mF [56, 66, 67] [(71, o1), (72, o1), (73, o1)] [(14, [42, 43, 44, 45, 46, 47, 48, 49, 50, 51, 52, 53, 54, 55, 56, 57, 59, 60, 61, 62])] [(15, o1, [26, 27, 28, 29, 30, 35, 38, 39])]) σ σ12 := by rw [e9]; exact (Fr.up fr (mF_C (List.mem_of_getElem? (i := 0) rfl) rfl))
    obtain ⟨σ13, e9⟩ : ∃ s : St, s = up3 σ12 14 0 50 0 := ⟨_, rfl⟩
    have h := h σ13 e9
    have rb := fun Q9 z => rb Q9 (nm_n e9 z)
    have ok : okS σ13 := by rw [e9]; exact (ok_n ok (by decide))
    have fr : Fr (mF [56, 66, 67] [(71, o1), (72, o1), (73, o1)] [(14, [42, 43, 44, 45, 46, 47, 48, 49, 50, 51, 52, 53, 54, 55, 56, 57, 59, 60, 61, 62])] [(15, o1, [26, 27, 28, 29, 30, 35, 38, 39])]) σ σ13 := by rw [e9]; exact (Fr.up fr (mF_C (List.mem_of_getElem? (i := 0) rfl) rfl))
    obtain ⟨σ14, e9⟩ : ∃ s : St, s = up3 σ13 14 0 51 0 := ⟨_, rfl⟩
    have h := h σ14 e9
    have rb := fun Q9 z => rb Q9 (nm_n e9 z)
    have ok : okS σ14 := by rw [e9]; exact (ok_n ok (by decide))
    have fr : Fr (mF [56, 66, 67] [(71, o1), (72, o1), (73, o1)] [(14, [42, 43, 44, 45, 46, 47, 48, 49, 50, 51, 52, 53, 54, 55, 56, 57, 59, 60, 61, 62])] [(15, o1, [26, 27, 28, 29, 30, 35, 38, 39])]) σ σ14 := by rw [e9]; exact (Fr.up fr (mF_C (List.mem_of_getElem? (i := 0) rfl) rfl))
    obtain ⟨σ15, e9⟩ : ∃ s : St, s = up3 σ14 14 0 52 0 := ⟨_, rfl⟩
    have h := h σ15 e9
    have rb := fun Q9 z => rb Q9 (nm_n e9 z)
    have ok : okS σ15 := by rw [e9]; exact (ok_z ok (by decide) (Or.inl rfl))
    have fr : Fr (mF [56, 66, 67] [(71, o1), (72, o1), (73, o1)] [(14, [42, 43, 44, 45, 46, 47, 48, 49, 50, 51, 52, 53, 54, 55, 56, 57, 59, 60, 61, 62])] [(15, o1, [26, 27, 28, 29, 30, 35, 38, 39])]) σ σ15 := by rw [e9]; exact (Fr.up fr (mF_C (List.mem_of_getElem? (i := 0) rfl) rfl))
    obtain ⟨σ16, e9⟩ : ∃ s : St, s = up3 σ15 14 0 53 0 := ⟨_, rfl⟩
    have h := h σ16 e9
    have rb := fun Q9 z => rb Q9 (nm_n e9 z)
    have ok : okS σ16 := by rw [e9]; exact (ok_z ok (by decide) (Or.inl rfl))
    have fr : Fr (mF [56, 66, 67] [(71, o1), (72, o1), (73, o1)] [(14, [42, 43, 44, 45, 46, 47, 48, 49, 50, 51, 52, 53, 54, 55, 56, 57, 59, 60, 61, 62])] [(15, o1, [26, 27, 28, 29, 30, 35, 38, 39])]) σ σ16 := by rw [e9]; exact (Fr.up fr (mF_C (List.mem_of_getElem? (i := 0) rfl) rfl))
    obtain ⟨σ17, e9⟩ : ∃ s : St, s = up3 σ16 14 0 54 0 := ⟨_, rfl⟩
    have h := h σ17 e9
    have rb := fun Q9 z => rb Q9 (nm_n e9 z)
    have ok : okS σ17 := by rw [e9]; exact (ok_z ok (by decide) (Or.inl rfl))
    have fr : Fr (mF [56, 66, 67] [(71, o1), (72, o1), (73, o1)] [(14, [42, 43, 44, 45, 46, 47, 48, 49, 50, 51, 52, 53, 54, 55, 56, 57, 59, 60, 61, 62])] [(15, o1, [26, 27, 28, 29, 30, 35, 38, 39])]) σ σ17 := by rw [e9]; exact (Fr.up fr (mF_C (List.mem_of_getElem? (i := 0) rfl) rfl))
    obtain ⟨σ18, e9⟩ : ∃ s : St, s = up3 σ17 14 0 55 0 := ⟨_, rfl⟩
    have h := h σ18 e9
    have rb := fun Q9 z => rb Q9 (nm_n e9 z)
    have ok : okS σ18 := by rw [e9]; exact (ok_z ok (by decide) (Or.inl rfl))
    have fr : Fr (mF [56, 66, 67] [(71, o1), (72, o1), (73, o1)] [(14, [42, 43, 44, 45, 46, 47, 48, 49, 50, 51, 52, 53, 54, 55, 56, 57, 59, 60, 61, 62])] [(15, o1, [26, 27, 28, 29, 30, 35, 38, 39])]) σ σ18 := by rw [e9]; exact (Fr.up fr (mF_C (List.mem_of_getElem? (i := 0) rfl) rfl))
    obtain ⟨r19, h, rc⟩ := e14_lineEnd ok h
    have rb := fun Q9 z => rb Q9 (rc _ z)
    obtain ⟨r20, h, rc⟩ := e14_shown ok h
    have rb := fun Q9 z => rb Q9 (rc _ z)
    obtain ⟨r21, σ21, h, ok, fr9, rc⟩ := e14_requestLine ok h
    have fr := fr.tr (fr9.sub (mF_sub rfl sub_nil rfl sud_nil))
    have rb := fun Q9 z => rb Q9 (rc _ z)
    obtain ⟨n9, h⟩ := h
    rcases e14_answer_L127 ho1 n9 ok h with ⟨σ26, x4_26, h, ok, fr9, rc⟩
    · have rb := fun Q9 z => rb Q9 (Exists.intro n9 (rc _ _ z))
      have fr := fr.tr (fr9.sub (mF_sub rfl sub_nil rfl sud_nil))
      by_cases hc : x4_26 = 0
      · have h := h.2 hc
        have rb := fun Q9 z => rb Q9 (br_u hc z)
        obtain ⟨σ33, e9⟩ : ∃ s : St, s = up3 σ26 14 0 43 400 := ⟨_, rfl⟩
        have h := h σ33 e9
        have rb := fun Q9 z => rb Q9 (nm_n e9 z)
        have ok : okS σ33 := by rw [e9]; exact (ok_n ok (by decide))
        have fr : Fr (mF [56, 66, 67] [(71, o1), (72, o1), (73, o1)] [(14, [42, 43, 44, 45, 46, 47, 48, 49, 50, 51, 52, 53, 54, 55, 56, 57, 59, 60, 61, 62])] [(15, o1, [26, 27, 28, 29, 30, 35, 38, 39])]) σ σ33 := by rw [e9]; exact (Fr.up fr (mF_C (List.mem_of_getElem? (i := 0) rfl) rfl))
        obtain ⟨σ9, h, ok, fr9, rc⟩ := e14_answer_J204 ho1 ok h
        exact ⟨σ9, h, ok, fr.tr (fr9.sub (mF_sub rfl (sub_c (Or.inr (List.mem_of_getElem? (i := 0) rfl)) (sub_c (Or.inr (List.mem_of_getElem? (i := 1) rfl)) (sub_c (Or.inr (List.mem_of_getElem? (i := 2) rfl)) sub_nil))) rfl (sud_c (Or.inr ⟨_, List.mem_of_getElem? (i := 0) rfl, rfl⟩) sud_nil))), fun Q9 hq => rb Q9 (rc Q9 hq)⟩
      have h := h.1 hc
      have rb := fun Q9 z => rb Q9 (br_v hc z)
      obtain ⟨r27, σ27, h, ok, fr9, rc⟩ := e14_chosen ok h
      have fr := fr.tr (fr9.sub (mF_sub rfl sub_nil rfl sud_nil))
      have rb := fun Q9 z => rb Q9 (rc _ z)
      obtain ⟨σ9, h, ok, fr9, rc⟩ := e14_answer_J204 ho1 ok h
      exact ⟨σ9, h, ok, fr.tr (fr9.sub (mF_sub rfl (sub_c (Or.inr (List.mem_of_getElem? (i := 0) rfl)) (sub_c (Or.inr (List.mem_of_getElem? (i := 1) rfl)) (sub_c (Or.inr (List.mem_of_getElem? (i := 2) rfl)) sub_nil))) rfl (sud_c (Or.inr ⟨_, List.mem_of_getElem? (i := 0) rfl, rfl⟩) sud_nil))), fun Q9 hq => rb Q9 (rc Q9 hq)⟩
/-! WebHostModel.duplicate(LWebHostModel$Connection;)V -/
set_option maxHeartbeats 4000000 in
theorem e14_duplicate_J98 {σ : St} {o1 : Nat} {x3 : Int32} {xs0 : Int32} {Q : St → Prop} (ho1 : o1 < 16) (ok : okS σ) (h : w14_duplicate_J98 σ o1 x3 xs0 Q) : (∃ (σ' : St), Q σ' ∧ okS σ' ∧ Fr (mF [56, 57, 58, 59, 60, 68] [] [(14, [18, 23, 24, 25]), (17, [0, 1, 2, 3, 4, 5])] [(15, o1, [0, 11, 17, 18, 19, 20, 21, 22, 31, 37, 39])]) σ σ' ∧ ∀ (Q9 : St → Prop), Q9 σ' → w14_duplicate_J98 σ o1 x3 xs0 Q9) := by
  have fr : Fr (mF [56, 57, 58, 59, 60, 68] [] [(14, [18, 23, 24, 25]), (17, [0, 1, 2, 3, 4, 5])] [(15, o1, [0, 11, 17, 18, 19, 20, 21, 22, 31, 37, 39])]) σ σ := Fr.rf
  have rb : ∀ (Q9 : St → Prop), w14_duplicate_J98 σ o1 x3 xs0 Q9 → w14_duplicate_J98 σ o1 x3 xs0 Q9 := fun _ z => z
  obtain ⟨σ5, h, ok, fr9, rc⟩ := e14_dataOut ho1 ok h
  have fr := fr.tr (fr9.sub (mF_sub rfl sub_nil rfl (sud_c (Or.inr ⟨_, List.mem_of_getElem? (i := 0) rfl, rfl⟩) sud_nil)))
  have rb := fun Q9 z => rb Q9 (rc _ z)
  obtain ⟨σ6, e9⟩ : ∃ s : St, s = up3 σ5 15 o1 11 ((σ5 15 o1 12) + (3 * (σ5 15 o1 10))) := ⟨_, rfl⟩
  have h := h σ6 e9
  have rb := fun Q9 z => rb Q9 (nm_n e9 z)
  have ok : okS σ6 := by rw [e9]; exact (ok_n ok (by decide))
  have fr : Fr (mF [56, 57, 58, 59, 60, 68] [] [(14, [18, 23, 24, 25]), (17, [0, 1, 2, 3, 4, 5])] [(15, o1, [0, 11, 17, 18, 19, 20, 21, 22, 31, 37, 39])]) σ σ6 := by rw [e9]; exact (Fr.up fr (mF_D (List.mem_of_getElem? (i := 0) rfl) rfl))
  obtain ⟨σ7, e9⟩ : ∃ s : St, s = up3 σ6 15 o1 18 1 := ⟨_, rfl⟩
  have h := h σ7 e9
  have rb := fun Q9 z => rb Q9 (nm_n e9 z)
  have ok : okS σ7 := by rw [e9]; exact (ok_z ok (by decide) (Or.inr rfl))
  have fr : Fr (mF [56, 57, 58, 59, 60, 68] [] [(14, [18, 23, 24, 25]), (17, [0, 1, 2, 3, 4, 5])] [(15, o1, [0, 11, 17, 18, 19, 20, 21, 22, 31, 37, 39])]) σ σ7 := by rw [e9]; exact (Fr.up fr (mF_D (List.mem_of_getElem? (i := 0) rfl) rfl))
  exact ⟨σ7, h, ok, fr, fun Q9 hq => rb Q9 hq⟩
set_option maxHeartbeats 4000000 in
theorem e14_duplicate {σ : St} {o1 : Nat} {Q : St → Prop} (ho1 : o1 < 16) (ok : okS σ) (h : w14_duplicate σ o1 Q) : (∃ (σ' : St), Q σ' ∧ okS σ' ∧ Fr (mF [56, 57, 58, 59, 60, 68] [] [(14, [18, 23, 24, 25]), (17, [0, 1, 2, 3, 4, 5])] [(15, o1, [0, 11, 12, 17, 18, 19, 20, 21, 22, 24, 31, 37, 39])]) σ σ' ∧ ∀ (Q9 : St → Prop), Q9 σ' → w14_duplicate σ o1 Q9) := by
  have fr : Fr (mF [56, 57, 58, 59, 60, 68] [] [(14, [18, 23, 24, 25]), (17, [0, 1, 2, 3, 4, 5])] [(15, o1, [0, 11, 12, 17, 18, 19, 20, 21, 22, 24, 31, 37, 39])]) σ σ := Fr.rf
  have rb : ∀ (Q9 : St → Prop), w14_duplicate σ o1 Q9 → w14_duplicate σ o1 Q9 := fun _ z => z
  obtain ⟨σ1, e9⟩ : ∃ s : St, s = up3 σ 15 o1 24 ((σ 15 o1 24) + 1) := ⟨_, rfl⟩
  have h := h σ1 e9
  have rb := fun Q9 z => rb Q9 (nm_n e9 z)
  have ok : okS σ1 := by rw [e9]; exact (ok_n ok (by decide))
  have fr : Fr (mF [56, 57, 58, 59, 60, 68] [] [(14, [18, 23, 24, 25]), (17, [0, 1, 2, 3, 4, 5])] [(15, o1, [0, 11, 12, 17, 18, 19, 20, 21, 22, 24, 31, 37, 39])]) σ σ1 := by rw [e9]; exact (Fr.up fr (mF_D (List.mem_of_getElem? (i := 0) rfl) rfl))
  by_cases hc : (σ1 15 o1 24) = 3
  · have h := h.2 hc
    have rb := fun Q9 z => rb Q9 (br_u hc z)
    obtain ⟨σ3, e9⟩ : ∃ s : St, s = up3 σ1 15 o1 12 (imax (((σ1 15 o1 6) - (σ1 15 o1 4)) / 2) (2 * (σ1 15 o1 10))) := ⟨_, rfl⟩
    have h := h σ3 e9
    have rb := fun Q9 z => rb Q9 (nm_n e9 z)
    have ok : okS σ3 := by rw [e9]; exact (ok_n ok (by decide))
    have fr : Fr (mF [56, 57, 58, 59, 60, 68] [] [(14, [18, 23, 24, 25]), (17, [0, 1, 2, 3, 4, 5])] [(15, o1, [0, 11, 12, 17, 18, 19, 20, 21, 22, 24, 31, 37, 39])]) σ σ3 := by rw [e9]; exact (Fr.up fr (mF_D (List.mem_of_getElem? (i := 0) rfl) rfl))
    obtain ⟨r4, h, rc⟩ := e15_behind ho1 ok h
    have rb := fun Q9 z => rb Q9 (rc _ z)
    have h := h ((ok 15 o1 31).1 (by decide))
    have rb := fun Q9 z => rb Q9 (im_n z)
    by_cases hc : (σ3 15 o1 31) = 0
    · have h := h.1 hc
      have rb := fun Q9 z => rb Q9 (br_t hc z)
      obtain ⟨σ9, h, ok, fr9, rc⟩ := e14_duplicate_J98 ho1 ok h
      exact ⟨σ9, h, ok, fr.tr (fr9.sub (mF_sub rfl sub_nil rfl (sud_c (Or.inr ⟨_, List.mem_of_getElem? (i := 0) rfl, rfl⟩) sud_nil))), fun Q9 hq => rb Q9 (rc Q9 hq)⟩
    have h := h.2 hc
    have rb := fun Q9 z => rb Q9 (br_f hc z)
    obtain ⟨r8, h, rc⟩ := e15_behind ho1 ok h
    have rb := fun Q9 z => rb Q9 (rc _ z)
    by_cases hc : ((σ3 15 o1 4) + (imin (σ3 15 o1 10) (imin (r4 - (σ3 15 o1 4)) ((σ3 15 o1 6) - (σ3 15 o1 4))))) = r8
    · have h := h.2 hc
      have rb := fun Q9 z => rb Q9 (br_u hc z)
      obtain ⟨σ9, h, ok, fr9, rc⟩ := e14_duplicate_J98 ho1 ok h
      exact ⟨σ9, h, ok, fr.tr (fr9.sub (mF_sub rfl sub_nil rfl (sud_c (Or.inr ⟨_, List.mem_of_getElem? (i := 0) rfl, rfl⟩) sud_nil))), fun Q9 hq => rb Q9 (rc Q9 hq)⟩
    have h := h.1 hc
    have rb := fun Q9 z => rb Q9 (br_v hc z)
    obtain ⟨σ9, h, ok, fr9, rc⟩ := e14_duplicate_J98 ho1 ok h
    exact ⟨σ9, h, ok, fr.tr (fr9.sub (mF_sub rfl sub_nil rfl (sud_c (Or.inr ⟨_, List.mem_of_getElem? (i := 0) rfl, rfl⟩) sud_nil))), fun Q9 hq => rb Q9 (rc Q9 hq)⟩
  have h := h.1 hc
  have rb := fun Q9 z => rb Q9 (br_v hc z)
  by_cases hc : (σ1 15 o1 24) ≤ 3
  · have h := h.1 hc
    have rb := fun Q9 z => rb Q9 (br_t hc z)
    exact ⟨σ1, h, ok, fr, fun Q9 hq => rb Q9 hq⟩
  have h := h.2 hc
  have rb := fun Q9 z => rb Q9 (br_f hc z)
  obtain ⟨σ2, e9⟩ : ∃ s : St, s = up3 σ1 15 o1 11 (imin 65535 ((σ1 15 o1 11) + (σ1 15 o1 10))) := ⟨_, rfl⟩
  have h := h σ2 e9
  have rb := fun Q9 z => rb Q9 (nm_n e9 z)
  have ok : okS σ2 := by rw [e9]; exact (ok_n ok (by decide))
  have fr : Fr (mF [56, 57, 58, 59, 60, 68] [] [(14, [18, 23, 24, 25]), (17, [0, 1, 2, 3, 4, 5])] [(15, o1, [0, 11, 12, 17, 18, 19, 20, 21, 22, 24, 31, 37, 39])]) σ σ2 := by rw [e9]; exact (Fr.up fr (mF_D (List.mem_of_getElem? (i := 0) rfl) rfl))
  exact ⟨σ2, h, ok, fr, fun Q9 hq => rb Q9 hq⟩
/-! WebHostModel.one(LWebHostModel$Connection;I)V -/
set_option maxHeartbeats 4000000 in
theorem e14_one_J69 {σ : St} {o1 : Nat} {xs0 : Int32} {xs1 : Int32} {os2 : Nat} {Q : St → Prop} (ho1 : o1 < 16) (hos2 : os2 < 16) (ok : okS σ) (h : w14_one_J69 σ o1 xs0 xs1 os2 Q) : (∃ (σ' : St), Q σ' ∧ okS σ' ∧ Fr (mF [] [] [] [(15, o1, [6]), (15, os2, [5])]) σ σ' ∧ ∀ (Q9 : St → Prop), Q9 σ' → w14_one_J69 σ o1 xs0 xs1 os2 Q9) := by
  have fr : Fr (mF [] [] [] [(15, o1, [6]), (15, os2, [5])]) σ σ := Fr.rf
  have rb : ∀ (Q9 : St → Prop), w14_one_J69 σ o1 xs0 xs1 os2 Q9 → w14_one_J69 σ o1 xs0 xs1 os2 Q9 := fun _ z => z
  obtain ⟨σ3, e9⟩ : ∃ s : St, s = up3 σ 15 os2 5 (xs1 + xs0) := ⟨_, rfl⟩
  have h := h σ3 e9
  have rb := fun Q9 z => rb Q9 (nm_n e9 z)
  have ok : okS σ3 := by rw [e9]; exact (ok_n ok (by decide))
  have fr : Fr (mF [] [] [] [(15, o1, [6]), (15, os2, [5])]) σ σ3 := by rw [e9]; exact (Fr.up fr (mF_D (List.mem_of_getElem? (i := 1) rfl) rfl))
  obtain ⟨r4, h, rc⟩ := e14_before ok h
  have rb := fun Q9 z => rb Q9 (rc _ z)
  by_cases hc : r4 = 0
  · have h := h.1 hc
    have rb := fun Q9 z => rb Q9 (br_t hc z)
    exact ⟨σ3, h, ok, fr, fun Q9 hq => rb Q9 hq⟩
  have h := h.2 hc
  have rb := fun Q9 z => rb Q9 (br_f hc z)
  obtain ⟨σ5, e9⟩ : ∃ s : St, s = up3 σ3 15 o1 6 (σ3 15 o1 5) := ⟨_, rfl⟩
  have h := h σ5 e9
  have rb := fun Q9 z => rb Q9 (nm_n e9 z)
  have ok : okS σ5 := by rw [e9]; exact (ok_n ok (by decide))
  have fr : Fr (mF [] [] [] [(15, o1, [6]), (15, os2, [5])]) σ σ5 := by rw [e9]; exact (Fr.up fr (mF_D (List.mem_of_getElem? (i := 0) rfl) rfl))
  exact ⟨σ5, h, ok, fr, fun Q9 hq => rb Q9 hq⟩
set_option maxHeartbeats 4000000 in
theorem e14_one_J36 {σ : St} {o1 : Nat} {x3 : Int32} {xs0 : Int32} {Q : St → Prop} (ho1 : o1 < 16) (ok : okS σ) (h : w14_one_J36 σ o1 x3 xs0 Q) : (∃ (σ' : St), Q σ' ∧ okS σ' ∧ Fr (mF [56, 57, 58, 59, 60, 68] [] [(14, [18, 23, 24, 25]), (17, [0, 1, 2, 3, 4, 5])] [(15, o1, [0, 5, 6, 17, 19, 20, 21, 22, 31, 37, 39])]) σ σ' ∧ ∀ (Q9 : St → Prop), Q9 σ' → w14_one_J36 σ o1 x3 xs0 Q9) := by
  have fr : Fr (mF [56, 57, 58, 59, 60, 68] [] [(14, [18, 23, 24, 25]), (17, [0, 1, 2, 3, 4, 5])] [(15, o1, [0, 5, 6, 17, 19, 20, 21, 22, 31, 37, 39])]) σ σ := Fr.rf
  have rb : ∀ (Q9 : St → Prop), w14_one_J36 σ o1 x3 xs0 Q9 → w14_one_J36 σ o1 x3 xs0 Q9 := fun _ z => z
  obtain ⟨σ2, h, ok, fr9, rc⟩ := e14_dataOut ho1 ok h
  have fr := fr.tr (fr9.sub (mF_sub rfl sub_nil rfl (sud_c (Or.inr ⟨_, List.mem_of_getElem? (i := 0) rfl, rfl⟩) sud_nil)))
  have rb := fun Q9 z => rb Q9 (rc _ z)
  by_cases hc : xs0 = 0
  · have h := h.1 hc
    have rb := fun Q9 z => rb Q9 (br_t hc z)
    obtain ⟨σ9, h, ok, fr9, rc⟩ := e14_one_J69 ho1 ho1 ok h
    exact ⟨σ9, h, ok, fr.tr (fr9.sub (mF_sub rfl sub_nil rfl (sud_c (Or.inr ⟨_, List.mem_of_getElem? (i := 0) rfl, rfl⟩) (sud_c (Or.inr ⟨_, List.mem_of_getElem? (i := 0) rfl, rfl⟩) sud_nil)))), fun Q9 hq => rb Q9 (rc Q9 hq)⟩
  have h := h.2 hc
  have rb := fun Q9 z => rb Q9 (br_f hc z)
  obtain ⟨σ9, h, ok, fr9, rc⟩ := e14_one_J69 ho1 ho1 ok h
  exact ⟨σ9, h, ok, fr.tr (fr9.sub (mF_sub rfl sub_nil rfl (sud_c (Or.inr ⟨_, List.mem_of_getElem? (i := 0) rfl, rfl⟩) (sud_c (Or.inr ⟨_, List.mem_of_getElem? (i := 0) rfl, rfl⟩) sud_nil)))), fun Q9 hq => rb Q9 (rc Q9 hq)⟩
set_option maxHeartbeats 4000000 in
theorem e14_one {σ : St} {o1 : Nat} {x2 : Int32} {Q : St → Prop} (ho1 : o1 < 16) (ok : okS σ) (h : w14_one σ o1 x2 Q) : (∃ (σ' : St), Q σ' ∧ okS σ' ∧ Fr (mF [56, 57, 58, 59, 60, 68] [] [(14, [18, 23, 24, 25]), (17, [0, 1, 2, 3, 4, 5])] [(15, o1, [0, 5, 6, 17, 19, 20, 21, 22, 31, 37, 39])]) σ σ' ∧ ∀ (Q9 : St → Prop), Q9 σ' → w14_one σ o1 x2 Q9) := by
  have fr : Fr (mF [56, 57, 58, 59, 60, 68] [] [(14, [18, 23, 24, 25]), (17, [0, 1, 2, 3, 4, 5])] [(15, o1, [0, 5, 6, 17, 19, 20, 21, 22, 31, 37, 39])]) σ σ := Fr.rf
  have rb : ∀ (Q9 : St → Prop), w14_one σ o1 x2 Q9 → w14_one σ o1 x2 Q9 := fun _ z => z
  obtain ⟨r1, h, rc⟩ := e14_dataWithin ho1 ok h
  have rb := fun Q9 z => rb Q9 (rc _ z)
  have h := h ((ok 15 o1 30).1 (by decide))
  have rb := fun Q9 z => rb Q9 (im_n z)
  by_cases hc : (σ 15 o1 30) = 0
  · have h := h.1 hc
    have rb := fun Q9 z => rb Q9 (br_t hc z)
    obtain ⟨σ9, h, ok, fr9, rc⟩ := e14_one_J36 ho1 ok h
    exact ⟨σ9, h, ok, fr.tr (fr9.sub (mF_sub rfl sub_nil rfl (sud_c (Or.inr ⟨_, List.mem_of_getElem? (i := 0) rfl, rfl⟩) sud_nil))), fun Q9 hq => rb Q9 (rc Q9 hq)⟩
  have h := h.2 hc
  have rb := fun Q9 z => rb Q9 (br_f hc z)
  obtain ⟨r6, h, rc⟩ := e15_behind ho1 ok h
  have rb := fun Q9 z => rb Q9 (rc _ z)
  by_cases hc : ((σ 15 o1 5) + r1) = r6
  · have h := h.2 hc
    have rb := fun Q9 z => rb Q9 (br_u hc z)
    by_cases hc : x2 ≤ r1
    · have h := h.1 hc
      have rb := fun Q9 z => rb Q9 (br_t hc z)
      obtain ⟨σ9, h, ok, fr9, rc⟩ := e14_one_J36 ho1 ok h
      exact ⟨σ9, h, ok, fr.tr (fr9.sub (mF_sub rfl sub_nil rfl (sud_c (Or.inr ⟨_, List.mem_of_getElem? (i := 0) rfl, rfl⟩) sud_nil))), fun Q9 hq => rb Q9 (rc Q9 hq)⟩
    have h := h.2 hc
    have rb := fun Q9 z => rb Q9 (br_f hc z)
    obtain ⟨σ9, h, ok, fr9, rc⟩ := e14_one_J36 ho1 ok h
    exact ⟨σ9, h, ok, fr.tr (fr9.sub (mF_sub rfl sub_nil rfl (sud_c (Or.inr ⟨_, List.mem_of_getElem? (i := 0) rfl, rfl⟩) sud_nil))), fun Q9 hq => rb Q9 (rc Q9 hq)⟩
  have h := h.1 hc
  have rb := fun Q9 z => rb Q9 (br_v hc z)
  obtain ⟨σ9, h, ok, fr9, rc⟩ := e14_one_J36 ho1 ok h
  exact ⟨σ9, h, ok, fr.tr (fr9.sub (mF_sub rfl sub_nil rfl (sud_c (Or.inr ⟨_, List.mem_of_getElem? (i := 0) rfl, rfl⟩) sud_nil))), fun Q9 hq => rb Q9 (rc Q9 hq)⟩
/-! WebHostModel.refuse(LWebHostModel$Connection;)V -/
set_option maxHeartbeats 4000000 in
theorem e14_refuse {σ : St} {o1 : Nat} {Q : St → Prop} (ho1 : o1 < 16) (ok : okS σ) (h : w14_refuse σ o1 Q) : (∃ (σ' : St), Q σ' ∧ okS σ' ∧ Fr (mF [56] [(71, o1), (72, o1), (73, o1)] [(14, [43, 44])] [(15, o1, [26, 27, 28, 29, 30, 35, 39])]) σ σ' ∧ ∀ (Q9 : St → Prop), Q9 σ' → w14_refuse σ o1 Q9) := by
  have fr : Fr (mF [56] [(71, o1), (72, o1), (73, o1)] [(14, [43, 44])] [(15, o1, [26, 27, 28, 29, 30, 35, 39])]) σ σ := Fr.rf
  have rb : ∀ (Q9 : St → Prop), w14_refuse σ o1 Q9 → w14_refuse σ o1 Q9 := fun _ z => z
  obtain ⟨r1, h, rc⟩ := e15_held ho1 ok h
  have rb := fun Q9 z => rb Q9 (rc _ z)
  obtain ⟨σ2, h, ok, fr9, rc⟩ := e14_take ho1 ok h
  have fr := fr.tr (fr9.sub (mF_sub rfl (sub_c (Or.inr (List.mem_of_getElem? (i := 1) rfl)) (sub_c (Or.inr (List.mem_of_getElem? (i := 2) rfl)) sub_nil)) rfl (sud_c (Or.inr ⟨_, List.mem_of_getElem? (i := 0) rfl, rfl⟩) sud_nil)))
  have rb := fun Q9 z => rb Q9 (rc _ z)
  obtain ⟨σ3, e9⟩ : ∃ s : St, s = up3 σ2 14 0 44 0 := ⟨_, rfl⟩
  have h := h σ3 e9
  have rb := fun Q9 z => rb Q9 (nm_n e9 z)
  have ok : okS σ3 := by rw [e9]; exact (ok_z ok (by decide) (Or.inl rfl))
  have fr : Fr (mF [56] [(71, o1), (72, o1), (73, o1)] [(14, [43, 44])] [(15, o1, [26, 27, 28, 29, 30, 35, 39])]) σ σ3 := by rw [e9]; exact (Fr.up fr (mF_C (List.mem_of_getElem? (i := 0) rfl) rfl))
  obtain ⟨σ4, e9⟩ : ∃ s : St, s = up3 σ3 14 0 43 431 := ⟨_, rfl⟩
  have h := h σ4 e9
  have rb := fun Q9 z => rb Q9 (nm_n e9 z)
  have ok : okS σ4 := by rw [e9]; exact (ok_n ok (by decide))
  have fr : Fr (mF [56] [(71, o1), (72, o1), (73, o1)] [(14, [43, 44])] [(15, o1, [26, 27, 28, 29, 30, 35, 39])]) σ σ4 := by rw [e9]; exact (Fr.up fr (mF_C (List.mem_of_getElem? (i := 0) rfl) rfl))
  obtain ⟨σ5, h, ok, fr9, rc⟩ := e14_make ho1 ok h
  have fr := fr.tr (fr9.sub (mF_sub rfl (sub_c (Or.inr (List.mem_of_getElem? (i := 0) rfl)) sub_nil) rfl (sud_c (Or.inr ⟨_, List.mem_of_getElem? (i := 0) rfl, rfl⟩) sud_nil)))
  have rb := fun Q9 z => rb Q9 (rc _ z)
  exact ⟨σ5, h, ok, fr, fun Q9 hq => rb Q9 hq⟩
/-! WebHost$Requests.kept(LWebHost$Inbox;LWebHost$Answer;ILjava/lang/String;Z)I -/
set_option maxHeartbeats 4000000 in
theorem e9_kept {σ : St} {o1 : Nat} {o2 : Nat} {x3 : Int32} {t4 : Nat} {x5 : Int32} {Q : Int32 → St → Prop} (ho1 : o1 < 16) (ho2 : o2 < 16) (ht4 : t4 < nS) (ok : okS σ) (h : w9_kept σ o1 o2 x3 t4 x5 Q) : (∃ (r : Int32) (σ' : St), Q r σ' ∧ okS σ' ∧ Fr (mF [] [(44, o2), (90, (o2 + 1))] [] [(12, o1, [3]), (13, o2, [1])]) σ σ' ∧ ∀ (Q9 : Int32 → St → Prop), Q9 r σ' → w9_kept σ o1 o2 x3 t4 x5 Q9) := by
  have fr : Fr (mF [] [(44, o2), (90, (o2 + 1))] [] [(12, o1, [3]), (13, o2, [1])]) σ σ := Fr.rf
  have rb : ∀ (Q9 : Int32 → St → Prop), w9_kept σ o1 o2 x3 t4 x5 Q9 → w9_kept σ o1 o2 x3 t4 x5 Q9 := fun _ z => z
  obtain ⟨σ1, e9⟩ : ∃ s : St, s = up3 σ 12 o1 3 (σ 9 0 9) := ⟨_, rfl⟩
  have h := h σ1 e9
  have rb := fun Q9 z => rb Q9 (nm_n e9 z)
  have ok : okS σ1 := by rw [e9]; exact (ok_n ok (by decide))
  have fr : Fr (mF [] [(44, o2), (90, (o2 + 1))] [] [(12, o1, [3]), (13, o2, [1])]) σ σ1 := by rw [e9]; exact (Fr.up fr (mF_D (List.mem_of_getElem? (i := 0) rfl) rfl))
  obtain ⟨σ2, h, ok, fr9, rc⟩ := e9_plain ho2 ht4 ok h
  have fr := fr.tr (fr9.sub (mF_sub rfl (sub_c (Or.inr (List.mem_of_getElem? (i := 0) rfl)) (sub_c (Or.inr (List.mem_of_getElem? (i := 1) rfl)) sub_nil)) rfl (sud_c (Or.inr ⟨_, List.mem_of_getElem? (i := 1) rfl, rfl⟩) sud_nil)))
  have rb := fun Q9 z => rb Q9 (rc _ z)
  by_cases hc : x5 = 0
  · have h := h.1 hc
    have rb := fun Q9 z => rb Q9 (br_t hc z)
    exact ⟨1, σ2, h, ok, fr, fun Q9 hq => rb Q9 hq⟩
  have h := h.2 hc
  have rb := fun Q9 z => rb Q9 (br_f hc z)
  exact ⟨2, σ2, h, ok, fr, fun Q9 hq => rb Q9 hq⟩
/-! WebHost$Requests.last(LWebHost$Answer;ILjava/lang/String;)I -/
set_option maxHeartbeats 4000000 in
theorem e9_last {σ : St} {o1 : Nat} {x2 : Int32} {t3 : Nat} {Q : Int32 → St → Prop} (ho1 : o1 < 16) (ht3 : t3 < nS) (ok : okS σ) (h : w9_last σ o1 x2 t3 Q) : (∃ (r : Int32) (σ' : St), Q r σ' ∧ okS σ' ∧ Fr (mF [] [(44, o1), (90, (o1 + 1))] [] [(13, o1, [1])]) σ σ' ∧ ∀ (Q9 : Int32 → St → Prop), Q9 r σ' → w9_last σ o1 x2 t3 Q9) := by
  have fr : Fr (mF [] [(44, o1), (90, (o1 + 1))] [] [(13, o1, [1])]) σ σ := Fr.rf
  have rb : ∀ (Q9 : Int32 → St → Prop), w9_last σ o1 x2 t3 Q9 → w9_last σ o1 x2 t3 Q9 := fun _ z => z
  obtain ⟨σ1, h, ok, fr9, rc⟩ := e9_plain ho1 ht3 ok h
  have fr := fr.tr (fr9.sub (mF_sub rfl (sub_c (Or.inr (List.mem_of_getElem? (i := 0) rfl)) (sub_c (Or.inr (List.mem_of_getElem? (i := 1) rfl)) sub_nil)) rfl (sud_c (Or.inr ⟨_, List.mem_of_getElem? (i := 0) rfl, rfl⟩) sud_nil)))
  have rb := fun Q9 z => rb Q9 (rc _ z)
  exact ⟨2, σ1, h, ok, fr, fun Q9 hq => rb Q9 hq⟩
