/-! runs -/
set_option maxRecDepth 100000
/-! WebHost$Connection.output()V -/
set_option maxHeartbeats 4000000 in
theorem e11_output_J108 {σ : St} {o0 : Nat} {x5 : Int32} {Q : St → Prop} {K2 : St → Int32 → Prop} (ho0 : o0 < 16) (ok : okS σ) (h : w11_output_J108 σ o0 x5 Q K2) : (∃ (σ' : St) (x1' : Int32), K2 σ' x1' ∧ okS σ' ∧ Fr (mF [23, 25, 26, 32, 35, 36] [] [(2, [3]), (3, [9]), (4, [0, 1, 2, 4]), (5, [2]), (8, [4])] [(11, o0, [2, 10, 11, 21, 22, 28, 29, 30, 33, 34, 36, 37])]) σ σ' ∧ ∀ (Q9 : St → Prop) (K9_2 : St → Int32 → Prop), K9_2 σ' x1' → w11_output_J108 σ o0 x5 Q9 K9_2) := by
  have fr : Fr (mF [23, 25, 26, 32, 35, 36] [] [(2, [3]), (3, [9]), (4, [0, 1, 2, 4]), (5, [2]), (8, [4])] [(11, o0, [2, 10, 11, 21, 22, 28, 29, 30, 33, 34, 36, 37])]) σ σ := Fr.rf
  have rb : ∀ (Q9 : St → Prop) (K9_2 : St → Int32 → Prop), w11_output_J108 σ o0 x5 Q9 K9_2 → w11_output_J108 σ o0 x5 Q9 K9_2 := fun _ _ z => z
  by_cases hc : (1 : Int32) = 0
  · have h := h.1 hc
    have rb := fun Q9 K9_2 z => rb Q9 K9_2 (br_t hc z)
    exact ⟨σ, 1, h, ok, fr, fun Q9 K9_2 hq => rb Q9 K9_2 hq⟩
  have h := h.2 hc
  have rb := fun Q9 K9_2 z => rb Q9 K9_2 (br_f hc z)
  obtain ⟨σ7, h, ok, fr9, rc⟩ := e11_sendPart ho0 ok h
  have fr := fr.tr (fr9.sub (mF_sub rfl sub_nil rfl (sud_c (Or.inr ⟨_, List.mem_of_getElem? (i := 0) rfl, rfl⟩) sud_nil)))
  have rb := fun Q9 K9_2 z => rb Q9 K9_2 (rc _ z)
  exact ⟨σ7, 1, h, ok, fr, fun Q9 K9_2 hq => rb Q9 K9_2 hq⟩
set_option maxHeartbeats 4000000 in
theorem e11_output_J52 {σ : St} {o0 : Nat} {x2 : Int32} {xs0 : Int32} {Q : St → Prop} {K2 : St → Int32 → Prop} (ho0 : o0 < 16) (ok : okS σ) (h : w11_output_J52 σ o0 x2 xs0 Q K2) : (∃ (σ' : St) (x1' : Int32), K2 σ' x1' ∧ okS σ' ∧ Fr (mF [23, 25, 26, 32, 35, 36] [] [(2, [3]), (3, [9]), (4, [0, 1, 2, 4]), (5, [2]), (8, [4])] [(11, o0, [2, 10, 11, 21, 22, 28, 29, 30, 33, 34, 36, 37])]) σ σ' ∧ ∀ (Q9 : St → Prop) (K9_2 : St → Int32 → Prop), K9_2 σ' x1' → w11_output_J52 σ o0 x2 xs0 Q9 K9_2) := by
  have fr : Fr (mF [23, 25, 26, 32, 35, 36] [] [(2, [3]), (3, [9]), (4, [0, 1, 2, 4]), (5, [2]), (8, [4])] [(11, o0, [2, 10, 11, 21, 22, 28, 29, 30, 33, 34, 36, 37])]) σ σ := Fr.rf
  have rb : ∀ (Q9 : St → Prop) (K9_2 : St → Int32 → Prop), w11_output_J52 σ o0 x2 xs0 Q9 K9_2 → w11_output_J52 σ o0 x2 xs0 Q9 K9_2 := fun _ _ z => z
  obtain ⟨r4, h, rc⟩ := e11_flight ho0 ok h
  have rb := fun Q9 K9_2 z => rb Q9 K9_2 (rc _ z)
  by_cases hc : x2 ≤ 0
  · have h := h.1 hc
    have rb := fun Q9 K9_2 z => rb Q9 K9_2 (br_t hc z)
    by_cases hc : (0 : Int32) = 0
    · have h := h.1 hc
      have rb := fun Q9 K9_2 z => rb Q9 K9_2 (br_t hc z)
      exact ⟨σ, 0, h, ok, fr, fun Q9 K9_2 hq => rb Q9 K9_2 hq⟩
    have h := h.2 hc
    have rb := fun Q9 K9_2 z => rb Q9 K9_2 (br_f hc z)
    obtain ⟨σ5, h, ok, fr9, rc⟩ := e11_sendPart ho0 ok h
    have fr := fr.tr (fr9.sub (mF_sub rfl sub_nil rfl (sud_c (Or.inr ⟨_, List.mem_of_getElem? (i := 0) rfl, rfl⟩) sud_nil)))
    have rb := fun Q9 K9_2 z => rb Q9 K9_2 (rc _ z)
    exact ⟨σ5, 0, h, ok, fr, fun Q9 K9_2 hq => rb Q9 K9_2 hq⟩
  have h := h.2 hc
  have rb := fun Q9 K9_2 z => rb Q9 K9_2 (br_f hc z)
  by_cases hc : (imin xs0 ((imin (σ 11 o0 14) (σ 11 o0 12)) - r4)) ≤ 0
  · have h := h.1 hc
    have rb := fun Q9 K9_2 z => rb Q9 K9_2 (br_t hc z)
    by_cases hc : (0 : Int32) = 0
    · have h := h.1 hc
      have rb := fun Q9 K9_2 z => rb Q9 K9_2 (br_t hc z)
      exact ⟨σ, 0, h, ok, fr, fun Q9 K9_2 hq => rb Q9 K9_2 hq⟩
    have h := h.2 hc
    have rb := fun Q9 K9_2 z => rb Q9 K9_2 (br_f hc z)
    obtain ⟨σ6, h, ok, fr9, rc⟩ := e11_sendPart ho0 ok h
    have fr := fr.tr (fr9.sub (mF_sub rfl sub_nil rfl (sud_c (Or.inr ⟨_, List.mem_of_getElem? (i := 0) rfl, rfl⟩) sud_nil)))
    have rb := fun Q9 K9_2 z => rb Q9 K9_2 (rc _ z)
    exact ⟨σ6, 0, h, ok, fr, fun Q9 K9_2 hq => rb Q9 K9_2 hq⟩
  have h := h.2 hc
  have rb := fun Q9 K9_2 z => rb Q9 K9_2 (br_f hc z)
  by_cases hc : (σ 11 o0 13) ≤ (imin xs0 ((imin (σ 11 o0 14) (σ 11 o0 12)) - r4))
  · have h := h.1 hc
    have rb := fun Q9 K9_2 z => rb Q9 K9_2 (br_t hc z)
    rcases e11_output_J108 ho0 ok h with ⟨σ', x1, h, ok, fr9, rc⟩
    · have fr := fr.tr (fr9.sub (mF_sub rfl sub_nil rfl (sud_c (Or.inr ⟨_, List.mem_of_getElem? (i := 0) rfl, rfl⟩) sud_nil)))
      exact ⟨σ', x1, h, ok, fr, fun Q9 K9_2 hq => rb Q9 K9_2 (rc _ _ hq)⟩
  have h := h.2 hc
  have rb := fun Q9 K9_2 z => rb Q9 K9_2 (br_f hc z)
  by_cases hc : (imin xs0 ((imin (σ 11 o0 14) (σ 11 o0 12)) - r4)) = x2
  · have h := h.1 hc
    have rb := fun Q9 K9_2 z => rb Q9 K9_2 (br_t hc z)
    rcases e11_output_J108 ho0 ok h with ⟨σ', x1, h, ok, fr9, rc⟩
    · have fr := fr.tr (fr9.sub (mF_sub rfl sub_nil rfl (sud_c (Or.inr ⟨_, List.mem_of_getElem? (i := 0) rfl, rfl⟩) sud_nil)))
      exact ⟨σ', x1, h, ok, fr, fun Q9 K9_2 hq => rb Q9 K9_2 (rc _ _ hq)⟩
  have h := h.2 hc
  have rb := fun Q9 K9_2 z => rb Q9 K9_2 (br_f hc z)
  obtain ⟨r8, h, rc⟩ := e11_flight ho0 ok h
  have rb := fun Q9 K9_2 z => rb Q9 K9_2 (rc _ z)
  by_cases hc : r8 = 0
  · have h := h.2 hc
    have rb := fun Q9 K9_2 z => rb Q9 K9_2 (br_u hc z)
    rcases e11_output_J108 ho0 ok h with ⟨σ', x1, h, ok, fr9, rc⟩
    · have fr := fr.tr (fr9.sub (mF_sub rfl sub_nil rfl (sud_c (Or.inr ⟨_, List.mem_of_getElem? (i := 0) rfl, rfl⟩) sud_nil)))
      exact ⟨σ', x1, h, ok, fr, fun Q9 K9_2 hq => rb Q9 K9_2 (rc _ _ hq)⟩
  have h := h.1 hc
  have rb := fun Q9 K9_2 z => rb Q9 K9_2 (br_v hc z)
  by_cases hc : (0 : Int32) = 0
  · have h := h.1 hc
    have rb := fun Q9 K9_2 z => rb Q9 K9_2 (br_t hc z)
    exact ⟨σ, 0, h, ok, fr, fun Q9 K9_2 hq => rb Q9 K9_2 hq⟩
  have h := h.2 hc
  have rb := fun Q9 K9_2 z => rb Q9 K9_2 (br_f hc z)
  obtain ⟨σ9, h, ok, fr9, rc⟩ := e11_sendPart ho0 ok h
  have fr := fr.tr (fr9.sub (mF_sub rfl sub_nil rfl (sud_c (Or.inr ⟨_, List.mem_of_getElem? (i := 0) rfl, rfl⟩) sud_nil)))
  have rb := fun Q9 K9_2 z => rb Q9 K9_2 (rc _ z)
  exact ⟨σ9, 0, h, ok, fr, fun Q9 K9_2 hq => rb Q9 K9_2 hq⟩
set_option maxHeartbeats 4000000 in
theorem e11_output_L2 {o0 : Nat} {Q : St → Prop} {K127 : St → Prop} (ho0 : o0 < 16) :
    ∀ (n : Nat) {σ : St} {x1 : Int32} (ok : okS σ), w11_output_L2 o0 Q K127 n σ x1 → (∃ (σ' : St), K127 σ' ∧ okS σ' ∧ Fr (mF [23, 25, 26, 32, 35, 36] [] [(2, [3]), (3, [9]), (4, [0, 1, 2, 4]), (5, [2]), (8, [4])] [(11, o0, [2, 10, 11, 21, 22, 28, 29, 30, 33, 34, 36, 37])]) σ σ' ∧ ∀ (Q9 : St → Prop) (K9_127 : St → Prop), K9_127 σ' → w11_output_L2 o0 Q9 K9_127 n σ x1) := by
  intro n
  induction n with
  | zero =>
    intro σ x1 ok h
    exact False.elim h
  | succ n ih =>
    intro σ x1 ok h
    have fr : Fr (mF [23, 25, 26, 32, 35, 36] [] [(2, [3]), (3, [9]), (4, [0, 1, 2, 4]), (5, [2]), (8, [4])] [(11, o0, [2, 10, 11, 21, 22, 28, 29, 30, 33, 34, 36, 37])]) σ σ := Fr.rf
    have rb : ∀ (Q9 : St → Prop) (K9_127 : St → Prop), w11_output_L2 o0 Q9 K9_127 (n + 1) σ x1 → w11_output_L2 o0 Q9 K9_127 (n + 1) σ x1 := fun _ _ z => z
    by_cases hc : x1 = 0
    · have h := h.1 hc
      have rb := fun Q9 K9_127 z => rb Q9 K9_127 (br_t hc z)
      exact ⟨σ, h, ok, fr, fun Q9 K9_127 hq => rb Q9 K9_127 hq⟩
    have h := h.2 hc
    have rb := fun Q9 K9_127 z => rb Q9 K9_127 (br_f hc z)
    obtain ⟨r1, h, rc⟩ := e11_left ho0 ok h
    have rb := fun Q9 K9_127 z => rb Q9 K9_127 (rc _ z)
    obtain ⟨r2, h, rc⟩ := e11_end ho0 ok h
    have rb := fun Q9 K9_127 z => rb Q9 K9_127 (rc _ z)
    obtain ⟨r3, h, rc⟩ := e11_end ho0 ok h
    have rb := fun Q9 K9_127 z => rb Q9 K9_127 (rc _ z)
    by_cases hc : (imin (σ 11 o0 13) (r2 - (σ 11 o0 10))) = (r3 - (σ 11 o0 10))
    · have h := h.2 hc
      have rb := fun Q9 K9_127 z => rb Q9 K9_127 (br_u hc z)
      rcases e11_output_J52 ho0 ok h with ⟨σ', x1, h, ok, fr9, rc⟩
      · have fr := fr.tr (fr9.sub (mF_sub rfl sub_nil rfl (sud_c (Or.inr ⟨_, List.mem_of_getElem? (i := 0) rfl, rfl⟩) sud_nil)))
        rcases ih ok h with ⟨σ', h, ok, fr9, rd⟩
        · exact ⟨σ', h, ok, fr.tr fr9, fun Q9 K9_127 hq => rb Q9 K9_127 (rc _ _ (rd Q9 K9_127 hq))⟩
    have h := h.1 hc
    have rb := fun Q9 K9_127 z => rb Q9 K9_127 (br_v hc z)
    rcases e11_output_J52 ho0 ok h with ⟨σ', x1, h, ok, fr9, rc⟩
    · have fr := fr.tr (fr9.sub (mF_sub rfl sub_nil rfl (sud_c (Or.inr ⟨_, List.mem_of_getElem? (i := 0) rfl, rfl⟩) sud_nil)))
      rcases ih ok h with ⟨σ', h, ok, fr9, rd⟩
      · exact ⟨σ', h, ok, fr.tr fr9, fun Q9 K9_127 hq => rb Q9 K9_127 (rc _ _ (rd Q9 K9_127 hq))⟩
set_option maxHeartbeats 4000000 in
theorem e11_output {σ : St} {o0 : Nat} {Q : St → Prop} (ho0 : o0 < 16) (ok : okS σ) (h : w11_output σ o0 Q) : (∃ (σ' : St), Q σ' ∧ okS σ' ∧ Fr (mF [23, 25, 26, 32, 35, 36] [] [(2, [3]), (3, [9]), (4, [0, 1, 2, 4]), (5, [2]), (8, [4])] [(11, o0, [2, 10, 11, 21, 22, 28, 29, 30, 33, 34, 36, 37])]) σ σ' ∧ ∀ (Q9 : St → Prop), Q9 σ' → w11_output σ o0 Q9) := by
  have fr : Fr (mF [23, 25, 26, 32, 35, 36] [] [(2, [3]), (3, [9]), (4, [0, 1, 2, 4]), (5, [2]), (8, [4])] [(11, o0, [2, 10, 11, 21, 22, 28, 29, 30, 33, 34, 36, 37])]) σ σ := Fr.rf
  have rb : ∀ (Q9 : St → Prop), w11_output σ o0 Q9 → w11_output σ o0 Q9 := fun _ z => z
  obtain ⟨n9, h⟩ := h
  rcases e11_output_L2 ho0 n9 ok h with ⟨σ11, h, ok, fr9, rc⟩
  · have rb := fun Q9 z => rb Q9 (Exists.intro n9 (rc _ _ z))
    have fr := fr.tr (fr9.sub (mF_sub rfl sub_nil rfl (sud_c (Or.inr ⟨_, List.mem_of_getElem? (i := 0) rfl, rfl⟩) sud_nil)))
    obtain ⟨r12, h, rc⟩ := e11_left ho0 ok h
    have rb := fun Q9 z => rb Q9 (rc _ z)
    by_cases hc : r12 ≤ 0
    · have h := h.1 hc
      have rb := fun Q9 z => rb Q9 (br_t hc z)
      exact ⟨σ11, h, ok, fr, fun Q9 hq => rb Q9 hq⟩
    have h := h.2 hc
    have rb := fun Q9 z => rb Q9 (br_f hc z)
    obtain ⟨r13, h, rc⟩ := e11_flight ho0 ok h
    have rb := fun Q9 z => rb Q9 (rc _ z)
    by_cases hc : r13 = 0
    · have h := h.2 hc
      have rb := fun Q9 z => rb Q9 (br_u hc z)
      by_cases hc : (σ11 11 o0 12) = 0
      · have h := h.2 hc
        have rb := fun Q9 z => rb Q9 (br_u hc z)
        obtain ⟨σ14, h, ok, fr9, rc⟩ := e11_startTimer ho0 ok h
        have fr := fr.tr (fr9.sub (mF_sub rfl sub_nil rfl (sud_c (Or.inr ⟨_, List.mem_of_getElem? (i := 0) rfl, rfl⟩) sud_nil)))
        have rb := fun Q9 z => rb Q9 (rc _ z)
        exact ⟨σ14, h, ok, fr, fun Q9 hq => rb Q9 hq⟩
      have h := h.1 hc
      have rb := fun Q9 z => rb Q9 (br_v hc z)
      exact ⟨σ11, h, ok, fr, fun Q9 hq => rb Q9 hq⟩
    have h := h.1 hc
    have rb := fun Q9 z => rb Q9 (br_v hc z)
    exact ⟨σ11, h, ok, fr, fun Q9 hq => rb Q9 hq⟩
/-! WebHost$Connection.takeAck(LWebHost$Segment;)Z -/
set_option maxHeartbeats 4000000 in
theorem e11_takeAck_J283 {σ : St} {o0 : Nat} {Q : Int32 → St → Prop} (ho0 : o0 < 16) (ok : okS σ) (h : w11_takeAck_J283 σ o0 Q) : (∃ (r : Int32) (σ' : St), Q r σ' ∧ okS σ' ∧ Fr (mF [] [] [] [(11, o0, [2, 29, 31, 33])]) σ σ' ∧ ∀ (Q9 : Int32 → St → Prop), Q9 r σ' → w11_takeAck_J283 σ o0 Q9) := by
  have fr : Fr (mF [] [] [] [(11, o0, [2, 29, 31, 33])]) σ σ := Fr.rf
  have rb : ∀ (Q9 : Int32 → St → Prop), w11_takeAck_J283 σ o0 Q9 → w11_takeAck_J283 σ o0 Q9 := fun _ z => z
  have h := h ((ok 11 o0 28).1 (by decide))
  have rb := fun Q9 z => rb Q9 (im_n z)
  by_cases hc : (σ 11 o0 28) = 0
  · have h := h.1 hc
    have rb := fun Q9 z => rb Q9 (br_t hc z)
    exact ⟨1, σ, h, ok, fr, fun Q9 hq => rb Q9 hq⟩
  have h := h.2 hc
  have rb := fun Q9 z => rb Q9 (br_f hc z)
  obtain ⟨r2, h, rc⟩ := e11_end ho0 ok h
  have rb := fun Q9 z => rb Q9 (rc _ z)
  by_cases hc : ((σ 11 o0 9) - r2) ≤ 0
  · have h := h.1 hc
    have rb := fun Q9 z => rb Q9 (br_t hc z)
    exact ⟨1, σ, h, ok, fr, fun Q9 hq => rb Q9 hq⟩
  have h := h.2 hc
  have rb := fun Q9 z => rb Q9 (br_f hc z)
  obtain ⟨σ3, h, ok, fr9, rc⟩ := e11_finDone ho0 ok h
  have fr := fr.tr (fr9.sub (mF_sub rfl sub_nil rfl (sud_c (Or.inr ⟨_, List.mem_of_getElem? (i := 0) rfl, rfl⟩) sud_nil)))
  have rb := fun Q9 z => rb Q9 (rc _ z)
  exact ⟨1, σ3, h, ok, fr, fun Q9 hq => rb Q9 hq⟩
set_option maxHeartbeats 4000000 in
theorem e11_takeAck_J251 {σ : St} {o0 : Nat} {x2 : Int32} {xs0 : Int32} {Q : Int32 → St → Prop} (ho0 : o0 < 16) (ok : okS σ) (h : w11_takeAck_J251 σ o0 x2 xs0 Q) : (∃ (r : Int32) (σ' : St), Q r σ' ∧ okS σ' ∧ Fr (mF [] [] [] [(11, o0, [2, 7, 8, 12, 17, 29, 31, 33])]) σ σ' ∧ ∀ (Q9 : Int32 → St → Prop), Q9 r σ' → w11_takeAck_J251 σ o0 x2 xs0 Q9) := by
  have fr : Fr (mF [] [] [] [(11, o0, [2, 7, 8, 12, 17, 29, 31, 33])]) σ σ := Fr.rf
  have rb : ∀ (Q9 : Int32 → St → Prop), w11_takeAck_J251 σ o0 x2 xs0 Q9 → w11_takeAck_J251 σ o0 x2 xs0 Q9 := fun _ z => z
  by_cases hc : x2 < 0
  · have h := h.1 hc
    have rb := fun Q9 z => rb Q9 (br_t hc z)
    by_cases hc : x2 < 0
    · have h := h.1 hc
      have rb := fun Q9 z => rb Q9 (br_t hc z)
      obtain ⟨r9, σ9, h, ok, fr9, rc⟩ := e11_takeAck_J283 ho0 ok h
      exact ⟨r9, σ9, h, ok, fr.tr (fr9.sub (mF_sub rfl sub_nil rfl (sud_c (Or.inr ⟨_, List.mem_of_getElem? (i := 0) rfl, rfl⟩) sud_nil))), fun Q9 hq => rb Q9 (rc Q9 hq)⟩
    have h := h.2 hc
    have rb := fun Q9 z => rb Q9 (br_f hc z)
    by_cases hc : (σ 11 o0 12) = 0
    · have h := h.2 hc
      have rb := fun Q9 z => rb Q9 (br_u hc z)
      obtain ⟨σ4, e9⟩ : ∃ s : St, s = up3 σ 11 o0 17 0 := ⟨_, rfl⟩
      have h := h σ4 e9
      have rb := fun Q9 z => rb Q9 (nm_n e9 z)
      have ok : okS σ4 := by rw [e9]; exact (ok_n ok (by decide))
      have fr : Fr (mF [] [] [] [(11, o0, [2, 7, 8, 12, 17, 29, 31, 33])]) σ σ4 := by rw [e9]; exact (Fr.up fr (mF_D (List.mem_of_getElem? (i := 0) rfl) rfl))
      obtain ⟨r9, σ9, h, ok, fr9, rc⟩ := e11_takeAck_J283 ho0 ok h
      exact ⟨r9, σ9, h, ok, fr.tr (fr9.sub (mF_sub rfl sub_nil rfl (sud_c (Or.inr ⟨_, List.mem_of_getElem? (i := 0) rfl, rfl⟩) sud_nil))), fun Q9 hq => rb Q9 (rc Q9 hq)⟩
    have h := h.1 hc
    have rb := fun Q9 z => rb Q9 (br_v hc z)
    obtain ⟨r9, σ9, h, ok, fr9, rc⟩ := e11_takeAck_J283 ho0 ok h
    exact ⟨r9, σ9, h, ok, fr.tr (fr9.sub (mF_sub rfl sub_nil rfl (sud_c (Or.inr ⟨_, List.mem_of_getElem? (i := 0) rfl, rfl⟩) sud_nil))), fun Q9 hq => rb Q9 (rc Q9 hq)⟩
  have h := h.2 hc
  have rb := fun Q9 z => rb Q9 (br_f hc z)
  by_cases hc : xs0 = 0
  · have h := h.1 hc
    have rb := fun Q9 z => rb Q9 (br_t hc z)
    by_cases hc : x2 < 0
    · have h := h.1 hc
      have rb := fun Q9 z => rb Q9 (br_t hc z)
      obtain ⟨r9, σ9, h, ok, fr9, rc⟩ := e11_takeAck_J283 ho0 ok h
      exact ⟨r9, σ9, h, ok, fr.tr (fr9.sub (mF_sub rfl sub_nil rfl (sud_c (Or.inr ⟨_, List.mem_of_getElem? (i := 0) rfl, rfl⟩) sud_nil))), fun Q9 hq => rb Q9 (rc Q9 hq)⟩
    have h := h.2 hc
    have rb := fun Q9 z => rb Q9 (br_f hc z)
    by_cases hc : (σ 11 o0 12) = 0
    · have h := h.2 hc
      have rb := fun Q9 z => rb Q9 (br_u hc z)
      obtain ⟨σ5, e9⟩ : ∃ s : St, s = up3 σ 11 o0 17 0 := ⟨_, rfl⟩
      have h := h σ5 e9
      have rb := fun Q9 z => rb Q9 (nm_n e9 z)
      have ok : okS σ5 := by rw [e9]; exact (ok_n ok (by decide))
      have fr : Fr (mF [] [] [] [(11, o0, [2, 7, 8, 12, 17, 29, 31, 33])]) σ σ5 := by rw [e9]; exact (Fr.up fr (mF_D (List.mem_of_getElem? (i := 0) rfl) rfl))
      obtain ⟨r9, σ9, h, ok, fr9, rc⟩ := e11_takeAck_J283 ho0 ok h
      exact ⟨r9, σ9, h, ok, fr.tr (fr9.sub (mF_sub rfl sub_nil rfl (sud_c (Or.inr ⟨_, List.mem_of_getElem? (i := 0) rfl, rfl⟩) sud_nil))), fun Q9 hq => rb Q9 (rc Q9 hq)⟩
    have h := h.1 hc
    have rb := fun Q9 z => rb Q9 (br_v hc z)
    obtain ⟨r9, σ9, h, ok, fr9, rc⟩ := e11_takeAck_J283 ho0 ok h
    exact ⟨r9, σ9, h, ok, fr.tr (fr9.sub (mF_sub rfl sub_nil rfl (sud_c (Or.inr ⟨_, List.mem_of_getElem? (i := 0) rfl, rfl⟩) sud_nil))), fun Q9 hq => rb Q9 (rc Q9 hq)⟩
  have h := h.2 hc
  have rb := fun Q9 z => rb Q9 (br_f hc z)
  obtain ⟨σ6, h, ok, fr9, rc⟩ := e11_takeWindow ho0 ok h
  have fr := fr.tr (fr9.sub (mF_sub rfl sub_nil rfl (sud_c (Or.inr ⟨_, List.mem_of_getElem? (i := 0) rfl, rfl⟩) sud_nil)))
  have rb := fun Q9 z => rb Q9 (rc _ z)
  by_cases hc : x2 < 0
  · have h := h.1 hc
    have rb := fun Q9 z => rb Q9 (br_t hc z)
    obtain ⟨r9, σ9, h, ok, fr9, rc⟩ := e11_takeAck_J283 ho0 ok h
    exact ⟨r9, σ9, h, ok, fr.tr (fr9.sub (mF_sub rfl sub_nil rfl (sud_c (Or.inr ⟨_, List.mem_of_getElem? (i := 0) rfl, rfl⟩) sud_nil))), fun Q9 hq => rb Q9 (rc Q9 hq)⟩
  have h := h.2 hc
  have rb := fun Q9 z => rb Q9 (br_f hc z)
  by_cases hc : (σ6 11 o0 12) = 0
  · have h := h.2 hc
    have rb := fun Q9 z => rb Q9 (br_u hc z)
    obtain ⟨σ7, e9⟩ : ∃ s : St, s = up3 σ6 11 o0 17 0 := ⟨_, rfl⟩
    have h := h σ7 e9
    have rb := fun Q9 z => rb Q9 (nm_n e9 z)
    have ok : okS σ7 := by rw [e9]; exact (ok_n ok (by decide))
    have fr : Fr (mF [] [] [] [(11, o0, [2, 7, 8, 12, 17, 29, 31, 33])]) σ σ7 := by rw [e9]; exact (Fr.up fr (mF_D (List.mem_of_getElem? (i := 0) rfl) rfl))
    obtain ⟨r9, σ9, h, ok, fr9, rc⟩ := e11_takeAck_J283 ho0 ok h
    exact ⟨r9, σ9, h, ok, fr.tr (fr9.sub (mF_sub rfl sub_nil rfl (sud_c (Or.inr ⟨_, List.mem_of_getElem? (i := 0) rfl, rfl⟩) sud_nil))), fun Q9 hq => rb Q9 (rc Q9 hq)⟩
  have h := h.1 hc
  have rb := fun Q9 z => rb Q9 (br_v hc z)
  obtain ⟨r9, σ9, h, ok, fr9, rc⟩ := e11_takeAck_J283 ho0 ok h
  exact ⟨r9, σ9, h, ok, fr.tr (fr9.sub (mF_sub rfl sub_nil rfl (sud_c (Or.inr ⟨_, List.mem_of_getElem? (i := 0) rfl, rfl⟩) sud_nil))), fun Q9 hq => rb Q9 (rc Q9 hq)⟩
set_option maxHeartbeats 4000000 in
theorem e11_takeAck_J207 {σ : St} {o0 : Nat} {x2 : Int32} {Q : Int32 → St → Prop} (ho0 : o0 < 16) (ok : okS σ) (h : w11_takeAck_J207 σ o0 x2 Q) : (∃ (r : Int32) (σ' : St), Q r σ' ∧ okS σ' ∧ Fr (mF [] [] [] [(11, o0, [2, 7, 8, 12, 17, 29, 31, 33])]) σ σ' ∧ ∀ (Q9 : Int32 → St → Prop), Q9 r σ' → w11_takeAck_J207 σ o0 x2 Q9) := by
  have fr : Fr (mF [] [] [] [(11, o0, [2, 7, 8, 12, 17, 29, 31, 33])]) σ σ := Fr.rf
  have rb : ∀ (Q9 : Int32 → St → Prop), w11_takeAck_J207 σ o0 x2 Q9 → w11_takeAck_J207 σ o0 x2 Q9 := fun _ z => z
  obtain ⟨r1, h, rc⟩ := e19_isBefore ok h
  have rb := fun Q9 z => rb Q9 (rc _ z)
  by_cases hc : r1 = 0
  · have h := h.2 hc
    have rb := fun Q9 z => rb Q9 (br_u hc z)
    by_cases hc : (σ 11 o0 7) = (σ 10 0 3)
    · have h := h.2 hc
      have rb := fun Q9 z => rb Q9 (br_u hc z)
      obtain ⟨r8, h, rc⟩ := e19_isBefore ok h
      have rb := fun Q9 z => rb Q9 (rc _ z)
      by_cases hc : r8 = 0
      · have h := h.2 hc
        have rb := fun Q9 z => rb Q9 (br_u hc z)
        obtain ⟨r9, σ9, h, ok, fr9, rc⟩ := e11_takeAck_J251 ho0 ok h
        exact ⟨r9, σ9, h, ok, fr.tr (fr9.sub (mF_sub rfl sub_nil rfl (sud_c (Or.inr ⟨_, List.mem_of_getElem? (i := 0) rfl, rfl⟩) sud_nil))), fun Q9 hq => rb Q9 (rc Q9 hq)⟩
      have h := h.1 hc
      have rb := fun Q9 z => rb Q9 (br_v hc z)
      obtain ⟨r9, σ9, h, ok, fr9, rc⟩ := e11_takeAck_J251 ho0 ok h
      exact ⟨r9, σ9, h, ok, fr.tr (fr9.sub (mF_sub rfl sub_nil rfl (sud_c (Or.inr ⟨_, List.mem_of_getElem? (i := 0) rfl, rfl⟩) sud_nil))), fun Q9 hq => rb Q9 (rc Q9 hq)⟩
    have h := h.1 hc
    have rb := fun Q9 z => rb Q9 (br_v hc z)
    obtain ⟨r9, σ9, h, ok, fr9, rc⟩ := e11_takeAck_J251 ho0 ok h
    exact ⟨r9, σ9, h, ok, fr.tr (fr9.sub (mF_sub rfl sub_nil rfl (sud_c (Or.inr ⟨_, List.mem_of_getElem? (i := 0) rfl, rfl⟩) sud_nil))), fun Q9 hq => rb Q9 (rc Q9 hq)⟩
  have h := h.1 hc
  have rb := fun Q9 z => rb Q9 (br_v hc z)
  obtain ⟨r9, σ9, h, ok, fr9, rc⟩ := e11_takeAck_J251 ho0 ok h
  exact ⟨r9, σ9, h, ok, fr.tr (fr9.sub (mF_sub rfl sub_nil rfl (sud_c (Or.inr ⟨_, List.mem_of_getElem? (i := 0) rfl, rfl⟩) sud_nil))), fun Q9 hq => rb Q9 (rc Q9 hq)⟩
set_option maxHeartbeats 4000000 in
theorem e11_takeAck_J182 {σ : St} {o0 : Nat} {x2 : Int32} {xs0 : Int32} {Q : Int32 → St → Prop} (ho0 : o0 < 16) (ok : okS σ) (h : w11_takeAck_J182 σ o0 x2 xs0 Q) : (∃ (r : Int32) (σ' : St), Q r σ' ∧ okS σ' ∧ Fr (mF [23, 25, 26, 32, 35, 36] [] [(2, [3]), (3, [9]), (4, [0, 1, 2, 4]), (5, [2]), (8, [4, 7, 8])] [(11, o0, [2, 7, 8, 9, 10, 12, 14, 15, 16, 17, 18, 19, 21, 22, 29, 30, 31, 32, 33, 34, 35, 38, 39])]) σ σ' ∧ ∀ (Q9 : Int32 → St → Prop), Q9 r σ' → w11_takeAck_J182 σ o0 x2 xs0 Q9) := by
  have fr : Fr (mF [23, 25, 26, 32, 35, 36] [] [(2, [3]), (3, [9]), (4, [0, 1, 2, 4]), (5, [2]), (8, [4, 7, 8])] [(11, o0, [2, 7, 8, 9, 10, 12, 14, 15, 16, 17, 18, 19, 21, 22, 29, 30, 31, 32, 33, 34, 35, 38, 39])]) σ σ := Fr.rf
  have rb : ∀ (Q9 : Int32 → St → Prop), w11_takeAck_J182 σ o0 x2 xs0 Q9 → w11_takeAck_J182 σ o0 x2 xs0 Q9 := fun _ z => z
  by_cases hc : x2 ≤ 0
  · have h := h.1 hc
    have rb := fun Q9 z => rb Q9 (br_t hc z)
    by_cases hc : xs0 = 0
    · have h := h.1 hc
      have rb := fun Q9 z => rb Q9 (br_t hc z)
      obtain ⟨r9, σ9, h, ok, fr9, rc⟩ := e11_takeAck_J207 ho0 ok h
      exact ⟨r9, σ9, h, ok, fr.tr (fr9.sub (mF_sub rfl sub_nil rfl (sud_c (Or.inr ⟨_, List.mem_of_getElem? (i := 0) rfl, rfl⟩) sud_nil))), fun Q9 hq => rb Q9 (rc Q9 hq)⟩
    have h := h.2 hc
    have rb := fun Q9 z => rb Q9 (br_f hc z)
    obtain ⟨σ9, h, ok, fr9, rc⟩ := e11_repeat ho0 ok h
    have fr := fr.tr (fr9.sub (mF_sub rfl sub_nil rfl (sud_c (Or.inr ⟨_, List.mem_of_getElem? (i := 0) rfl, rfl⟩) sud_nil)))
    have rb := fun Q9 z => rb Q9 (rc _ z)
    obtain ⟨r9, σ9, h, ok, fr9, rc⟩ := e11_takeAck_J207 ho0 ok h
    exact ⟨r9, σ9, h, ok, fr.tr (fr9.sub (mF_sub rfl sub_nil rfl (sud_c (Or.inr ⟨_, List.mem_of_getElem? (i := 0) rfl, rfl⟩) sud_nil))), fun Q9 hq => rb Q9 (rc Q9 hq)⟩
  have h := h.2 hc
  have rb := fun Q9 z => rb Q9 (br_f hc z)
  obtain ⟨σ10, h, ok, fr9, rc⟩ := e11_renew ho0 ok h
  have fr := fr.tr (fr9.sub (mF_sub rfl sub_nil rfl (sud_c (Or.inr ⟨_, List.mem_of_getElem? (i := 0) rfl, rfl⟩) sud_nil)))
  have rb := fun Q9 z => rb Q9 (rc _ z)
  obtain ⟨r9, σ9, h, ok, fr9, rc⟩ := e11_takeAck_J207 ho0 ok h
  exact ⟨r9, σ9, h, ok, fr.tr (fr9.sub (mF_sub rfl sub_nil rfl (sud_c (Or.inr ⟨_, List.mem_of_getElem? (i := 0) rfl, rfl⟩) sud_nil))), fun Q9 hq => rb Q9 (rc Q9 hq)⟩
set_option maxHeartbeats 4000000 in
theorem e11_takeAck {σ : St} {o0 : Nat} {Q : Int32 → St → Prop} (ho0 : o0 < 16) (ok : okS σ) (h : w11_takeAck σ o0 Q) : (∃ (r : Int32) (σ' : St), Q r σ' ∧ okS σ' ∧ Fr (mF [23, 25, 26, 32, 35, 36] [] [(2, [3]), (3, [9]), (4, [0, 1, 2, 4]), (5, [2]), (8, [3, 4, 7, 8])] [(11, o0, [2, 7, 8, 9, 10, 12, 14, 15, 16, 17, 18, 19, 21, 22, 29, 30, 31, 32, 33, 34, 35, 38, 39])]) σ σ' ∧ ∀ (Q9 : Int32 → St → Prop), Q9 r σ' → w11_takeAck σ o0 Q9) := by
  have fr : Fr (mF [23, 25, 26, 32, 35, 36] [] [(2, [3]), (3, [9]), (4, [0, 1, 2, 4]), (5, [2]), (8, [3, 4, 7, 8])] [(11, o0, [2, 7, 8, 9, 10, 12, 14, 15, 16, 17, 18, 19, 21, 22, 29, 30, 31, 32, 33, 34, 35, 38, 39])]) σ σ := Fr.rf
  have rb : ∀ (Q9 : Int32 → St → Prop), w11_takeAck σ o0 Q9 → w11_takeAck σ o0 Q9 := fun _ z => z
  by_cases hc : (σ 11 o0 2) = 1
  · have h := h.2 hc
    have rb := fun Q9 z => rb Q9 (br_u hc z)
    by_cases hc : (σ 10 0 4) = ((σ 11 o0 5) + 1)
    · have h := h.1 hc
      have rb := fun Q9 z => rb Q9 (br_t hc z)
      obtain ⟨σ13, e9⟩ : ∃ s : St, s = up3 σ 11 o0 2 2 := ⟨_, rfl⟩
      have h := h σ13 e9
      have rb := fun Q9 z => rb Q9 (nm_n e9 z)
      have ok : okS σ13 := by rw [e9]; exact (ok_n ok (by decide))
      have fr : Fr (mF [23, 25, 26, 32, 35, 36] [] [(2, [3]), (3, [9]), (4, [0, 1, 2, 4]), (5, [2]), (8, [3, 4, 7, 8])] [(11, o0, [2, 7, 8, 9, 10, 12, 14, 15, 16, 17, 18, 19, 21, 22, 29, 30, 31, 32, 33, 34, 35, 38, 39])]) σ σ13 := by rw [e9]; exact (Fr.up fr (mF_D (List.mem_of_getElem? (i := 0) rfl) rfl))
      obtain ⟨σ14, e9⟩ : ∃ s : St, s = up3 σ13 11 o0 9 ((σ13 11 o0 5) + 1) := ⟨_, rfl⟩
      have h := h σ14 e9
      have rb := fun Q9 z => rb Q9 (nm_n e9 z)
      have ok : okS σ14 := by rw [e9]; exact (ok_n ok (by decide))
      have fr : Fr (mF [23, 25, 26, 32, 35, 36] [] [(2, [3]), (3, [9]), (4, [0, 1, 2, 4]), (5, [2]), (8, [3, 4, 7, 8])] [(11, o0, [2, 7, 8, 9, 10, 12, 14, 15, 16, 17, 18, 19, 21, 22, 29, 30, 31, 32, 33, 34, 35, 38, 39])]) σ σ14 := by rw [e9]; exact (Fr.up fr (mF_D (List.mem_of_getElem? (i := 0) rfl) rfl))
      obtain ⟨σ15, h, ok, fr9, rc⟩ := e11_measure ho0 ok h
      have fr := fr.tr (fr9.sub (mF_sub rfl sub_nil rfl (sud_c (Or.inr ⟨_, List.mem_of_getElem? (i := 0) rfl, rfl⟩) sud_nil)))
      have rb := fun Q9 z => rb Q9 (rc _ z)
      obtain ⟨σ16, e9⟩ : ∃ s : St, s = up3 σ15 11 o0 17 0 := ⟨_, rfl⟩
      have h := h σ16 e9
      have rb := fun Q9 z => rb Q9 (nm_n e9 z)
      have ok : okS σ16 := by rw [e9]; exact (ok_n ok (by decide))
      have fr : Fr (mF [23, 25, 26, 32, 35, 36] [] [(2, [3]), (3, [9]), (4, [0, 1, 2, 4]), (5, [2]), (8, [3, 4, 7, 8])] [(11, o0, [2, 7, 8, 9, 10, 12, 14, 15, 16, 17, 18, 19, 21, 22, 29, 30, 31, 32, 33, 34, 35, 38, 39])]) σ σ16 := by rw [e9]; exact (Fr.up fr (mF_D (List.mem_of_getElem? (i := 0) rfl) rfl))
      obtain ⟨σ17, e9⟩ : ∃ s : St, s = up3 σ16 11 o0 29 0 := ⟨_, rfl⟩
      have h := h σ17 e9
      have rb := fun Q9 z => rb Q9 (nm_n e9 z)
      have ok : okS σ17 := by rw [e9]; exact (ok_z ok (by decide) (Or.inl rfl))
      have fr : Fr (mF [23, 25, 26, 32, 35, 36] [] [(2, [3]), (3, [9]), (4, [0, 1, 2, 4]), (5, [2]), (8, [3, 4, 7, 8])] [(11, o0, [2, 7, 8, 9, 10, 12, 14, 15, 16, 17, 18, 19, 21, 22, 29, 30, 31, 32, 33, 34, 35, 38, 39])]) σ σ17 := by rw [e9]; exact (Fr.up fr (mF_D (List.mem_of_getElem? (i := 0) rfl) rfl))
      obtain ⟨r18, h, rc⟩ := e8_now ok h
      have rb := fun Q9 z => rb Q9 (rc _ z)
      obtain ⟨σ19, e9⟩ : ∃ s : St, s = up3 σ17 11 o0 32 r18 := ⟨_, rfl⟩
      have h := h σ19 e9
      have rb := fun Q9 z => rb Q9 (nm_n e9 z)
      have ok : okS σ19 := by rw [e9]; exact (ok_n ok (by decide))
      have fr : Fr (mF [23, 25, 26, 32, 35, 36] [] [(2, [3]), (3, [9]), (4, [0, 1, 2, 4]), (5, [2]), (8, [3, 4, 7, 8])] [(11, o0, [2, 7, 8, 9, 10, 12, 14, 15, 16, 17, 18, 19, 21, 22, 29, 30, 31, 32, 33, 34, 35, 38, 39])]) σ σ19 := by rw [e9]; exact (Fr.up fr (mF_D (List.mem_of_getElem? (i := 0) rfl) rfl))
      obtain ⟨σ20, e9⟩ : ∃ s : St, s = up3 σ19 8 0 7 ((σ19 8 0 7) + 1) := ⟨_, rfl⟩
      have h := h σ20 e9
      have rb := fun Q9 z => rb Q9 (nm_n e9 z)
      have ok : okS σ20 := by rw [e9]; exact (ok_n ok (by decide))
      have fr : Fr (mF [23, 25, 26, 32, 35, 36] [] [(2, [3]), (3, [9]), (4, [0, 1, 2, 4]), (5, [2]), (8, [3, 4, 7, 8])] [(11, o0, [2, 7, 8, 9, 10, 12, 14, 15, 16, 17, 18, 19, 21, 22, 29, 30, 31, 32, 33, 34, 35, 38, 39])]) σ σ20 := by rw [e9]; exact (Fr.up fr (mF_C (List.mem_of_getElem? (i := 4) rfl) rfl))
      obtain ⟨σ21, e9⟩ : ∃ s : St, s = up3 σ20 8 0 8 ((σ20 8 0 8) + 1) := ⟨_, rfl⟩
      have h := h σ21 e9
      have rb := fun Q9 z => rb Q9 (nm_n e9 z)
      have ok : okS σ21 := by rw [e9]; exact (ok_n ok (by decide))
      have fr : Fr (mF [23, 25, 26, 32, 35, 36] [] [(2, [3]), (3, [9]), (4, [0, 1, 2, 4]), (5, [2]), (8, [3, 4, 7, 8])] [(11, o0, [2, 7, 8, 9, 10, 12, 14, 15, 16, 17, 18, 19, 21, 22, 29, 30, 31, 32, 33, 34, 35, 38, 39])]) σ σ21 := by rw [e9]; exact (Fr.up fr (mF_C (List.mem_of_getElem? (i := 4) rfl) rfl))
      obtain ⟨σ22, h, ok, fr9, rc⟩ := e11_takeWindow ho0 ok h
      have fr := fr.tr (fr9.sub (mF_sub rfl sub_nil rfl (sud_c (Or.inr ⟨_, List.mem_of_getElem? (i := 0) rfl, rfl⟩) sud_nil)))
      have rb := fun Q9 z => rb Q9 (rc _ z)
      exact ⟨1, σ22, h, ok, fr, fun Q9 hq => rb Q9 hq⟩
    have h := h.2 hc
    have rb := fun Q9 z => rb Q9 (br_f hc z)
    obtain ⟨σ23, h, ok, fr9, rc⟩ := e8_reset ok h
    have fr := fr.tr (fr9.sub (mF_sub rfl sub_nil rfl sud_nil))
    have rb := fun Q9 z => rb Q9 (rc _ z)
    exact ⟨0, σ23, h, ok, fr, fun Q9 hq => rb Q9 hq⟩
  have h := h.1 hc
  have rb := fun Q9 z => rb Q9 (br_v hc z)
  by_cases hc : ((σ 10 0 4) - (σ 11 o0 11)) ≤ 0
  · have h := h.1 hc
    have rb := fun Q9 z => rb Q9 (br_t hc z)
    by_cases hc : ((σ 10 0 4) - (σ 11 o0 9)) = 0
    · have h := h.2 hc
      have rb := fun Q9 z => rb Q9 (br_u hc z)
      by_cases hc : (σ 10 0 9) = 0
      · have h := h.2 hc
        have rb := fun Q9 z => rb Q9 (br_u hc z)
        obtain ⟨r11, h, rc⟩ := e10_has ok h
        have rb := fun Q9 z => rb Q9 (rc _ z)
        by_cases hc : r11 = 0
        · have h := h.2 hc
          have rb := fun Q9 z => rb Q9 (br_u hc z)
          by_cases hc : (σ 10 0 6) = (σ 11 o0 12)
          · have h := h.2 hc
            have rb := fun Q9 z => rb Q9 (br_u hc z)
            by_cases hc : (σ 11 o0 11) = (σ 11 o0 9)
            · have h := h.1 hc
              have rb := fun Q9 z => rb Q9 (br_t hc z)
              obtain ⟨r9, σ9, h, ok, fr9, rc⟩ := e11_takeAck_J182 ho0 ok h
              exact ⟨r9, σ9, h, ok, fr.tr (fr9.sub (mF_sub rfl sub_nil rfl (sud_c (Or.inr ⟨_, List.mem_of_getElem? (i := 0) rfl, rfl⟩) sud_nil))), fun Q9 hq => rb Q9 (rc Q9 hq)⟩
            have h := h.2 hc
            have rb := fun Q9 z => rb Q9 (br_f hc z)
            obtain ⟨r9, σ9, h, ok, fr9, rc⟩ := e11_takeAck_J182 ho0 ok h
            exact ⟨r9, σ9, h, ok, fr.tr (fr9.sub (mF_sub rfl sub_nil rfl (sud_c (Or.inr ⟨_, List.mem_of_getElem? (i := 0) rfl, rfl⟩) sud_nil))), fun Q9 hq => rb Q9 (rc Q9 hq)⟩
          have h := h.1 hc
          have rb := fun Q9 z => rb Q9 (br_v hc z)
          obtain ⟨r9, σ9, h, ok, fr9, rc⟩ := e11_takeAck_J182 ho0 ok h
          exact ⟨r9, σ9, h, ok, fr.tr (fr9.sub (mF_sub rfl sub_nil rfl (sud_c (Or.inr ⟨_, List.mem_of_getElem? (i := 0) rfl, rfl⟩) sud_nil))), fun Q9 hq => rb Q9 (rc Q9 hq)⟩
        have h := h.1 hc
        have rb := fun Q9 z => rb Q9 (br_v hc z)
        obtain ⟨r9, σ9, h, ok, fr9, rc⟩ := e11_takeAck_J182 ho0 ok h
        exact ⟨r9, σ9, h, ok, fr.tr (fr9.sub (mF_sub rfl sub_nil rfl (sud_c (Or.inr ⟨_, List.mem_of_getElem? (i := 0) rfl, rfl⟩) sud_nil))), fun Q9 hq => rb Q9 (rc Q9 hq)⟩
      have h := h.1 hc
      have rb := fun Q9 z => rb Q9 (br_v hc z)
      obtain ⟨r9, σ9, h, ok, fr9, rc⟩ := e11_takeAck_J182 ho0 ok h
      exact ⟨r9, σ9, h, ok, fr.tr (fr9.sub (mF_sub rfl sub_nil rfl (sud_c (Or.inr ⟨_, List.mem_of_getElem? (i := 0) rfl, rfl⟩) sud_nil))), fun Q9 hq => rb Q9 (rc Q9 hq)⟩
    have h := h.1 hc
    have rb := fun Q9 z => rb Q9 (br_v hc z)
    obtain ⟨r9, σ9, h, ok, fr9, rc⟩ := e11_takeAck_J182 ho0 ok h
    exact ⟨r9, σ9, h, ok, fr.tr (fr9.sub (mF_sub rfl sub_nil rfl (sud_c (Or.inr ⟨_, List.mem_of_getElem? (i := 0) rfl, rfl⟩) sud_nil))), fun Q9 hq => rb Q9 (rc Q9 hq)⟩
  have h := h.2 hc
  have rb := fun Q9 z => rb Q9 (br_f hc z)
  obtain ⟨σ12, h, ok, fr9, rc⟩ := e11_acknowledge ho0 ok h
  have fr := fr.tr (fr9.sub (mF_sub rfl sub_nil rfl (sud_c (Or.inr ⟨_, List.mem_of_getElem? (i := 0) rfl, rfl⟩) sud_nil)))
  have rb := fun Q9 z => rb Q9 (rc _ z)
  exact ⟨0, σ12, h, ok, fr, fun Q9 hq => rb Q9 hq⟩
/-! WebHost$Connection.timerOut()V -/
set_option maxHeartbeats 4000000 in
theorem e11_timerOut_J214 {σ : St} {o0 : Nat} {xs0 : Int32} {Q : St → Prop} (ho0 : o0 < 16) (ok : okS σ) (h : w11_timerOut_J214 σ o0 xs0 Q) : (∃ (σ' : St), Q σ' ∧ okS σ' ∧ Fr (mF [23, 25, 26, 32, 35, 36] [] [(2, [3]), (3, [9]), (4, [0, 1, 2, 4]), (5, [2]), (8, [4])] [(11, o0, [2, 10, 11, 21, 22, 28, 29, 30, 33, 34, 36, 37])]) σ σ' ∧ ∀ (Q9 : St → Prop), Q9 σ' → w11_timerOut_J214 σ o0 xs0 Q9) := by
  have fr : Fr (mF [23, 25, 26, 32, 35, 36] [] [(2, [3]), (3, [9]), (4, [0, 1, 2, 4]), (5, [2]), (8, [4])] [(11, o0, [2, 10, 11, 21, 22, 28, 29, 30, 33, 34, 36, 37])]) σ σ := Fr.rf
  have rb : ∀ (Q9 : St → Prop), w11_timerOut_J214 σ o0 xs0 Q9 → w11_timerOut_J214 σ o0 xs0 Q9 := fun _ z => z
  by_cases hc : (σ 11 o0 12) = 0
  · have h := h.2 hc
    have rb := fun Q9 z => rb Q9 (br_u hc z)
    obtain ⟨σ14, h, ok, fr9, rc⟩ := e11_sendPart ho0 ok h
    have fr := fr.tr (fr9.sub (mF_sub rfl sub_nil rfl (sud_c (Or.inr ⟨_, List.mem_of_getElem? (i := 0) rfl, rfl⟩) sud_nil)))
    have rb := fun Q9 z => rb Q9 (rc _ z)
    exact ⟨σ14, h, ok, fr, fun Q9 hq => rb Q9 hq⟩
  have h := h.1 hc
  have rb := fun Q9 z => rb Q9 (br_v hc z)
  obtain ⟨σ13, h, ok, fr9, rc⟩ := e11_sendPart ho0 ok h
  have fr := fr.tr (fr9.sub (mF_sub rfl sub_nil rfl (sud_c (Or.inr ⟨_, List.mem_of_getElem? (i := 0) rfl, rfl⟩) sud_nil)))
  have rb := fun Q9 z => rb Q9 (rc _ z)
  exact ⟨σ13, h, ok, fr, fun Q9 hq => rb Q9 hq⟩
set_option maxHeartbeats 4000000 in
theorem e11_timerOut_J33 {σ : St} {o0 : Nat} {xs0 : Int32} {xs1 : Int32} {Q : St → Prop} (ho0 : o0 < 16) (ok : okS σ) (h : w11_timerOut_J33 σ o0 xs0 xs1 Q) : (∃ (σ' : St), Q σ' ∧ okS σ' ∧ Fr (mF [23, 25, 26, 32, 35, 36] [] [(2, [3]), (3, [9]), (4, [0, 1, 2, 4]), (5, [2]), (8, [3, 4])] [(11, o0, [2, 10, 11, 14, 15, 16, 18, 19, 21, 22, 28, 29, 30, 33, 34, 36, 37])]) σ σ' ∧ ∀ (Q9 : St → Prop), Q9 σ' → w11_timerOut_J33 σ o0 xs0 xs1 Q9) := by
  have fr : Fr (mF [23, 25, 26, 32, 35, 36] [] [(2, [3]), (3, [9]), (4, [0, 1, 2, 4]), (5, [2]), (8, [3, 4])] [(11, o0, [2, 10, 11, 14, 15, 16, 18, 19, 21, 22, 28, 29, 30, 33, 34, 36, 37])]) σ σ := Fr.rf
  have rb : ∀ (Q9 : St → Prop), w11_timerOut_J33 σ o0 xs0 xs1 Q9 → w11_timerOut_J33 σ o0 xs0 xs1 Q9 := fun _ z => z
  by_cases hc : xs1 ≤ xs0
  · have h := h.1 hc
    have rb := fun Q9 z => rb Q9 (br_t hc z)
    obtain ⟨σ3, e9⟩ : ∃ s : St, s = up3 σ 11 o0 16 (imin (2 * (σ 11 o0 16)) 60000) := ⟨_, rfl⟩
    have h := h σ3 e9
    have rb := fun Q9 z => rb Q9 (nm_n e9 z)
    have ok : okS σ3 := by rw [e9]; exact (ok_n ok (by decide))
    have fr : Fr (mF [23, 25, 26, 32, 35, 36] [] [(2, [3]), (3, [9]), (4, [0, 1, 2, 4]), (5, [2]), (8, [3, 4])] [(11, o0, [2, 10, 11, 14, 15, 16, 18, 19, 21, 22, 28, 29, 30, 33, 34, 36, 37])]) σ σ3 := by rw [e9]; exact (Fr.up fr (mF_D (List.mem_of_getElem? (i := 0) rfl) rfl))
    by_cases hc : (σ3 11 o0 2) = 1
    · have h := h.2 hc
      have rb := fun Q9 z => rb Q9 (br_u hc z)
      obtain ⟨σ15, e9⟩ : ∃ s : St, s = up3 σ3 11 o0 34 0 := ⟨_, rfl⟩
      have h := h σ15 e9
      have rb := fun Q9 z => rb Q9 (nm_n e9 z)
      have ok : okS σ15 := by rw [e9]; exact (ok_z ok (by decide) (Or.inl rfl))
      have fr : Fr (mF [23, 25, 26, 32, 35, 36] [] [(2, [3]), (3, [9]), (4, [0, 1, 2, 4]), (5, [2]), (8, [3, 4])] [(11, o0, [2, 10, 11, 14, 15, 16, 18, 19, 21, 22, 28, 29, 30, 33, 34, 36, 37])]) σ σ15 := by rw [e9]; exact (Fr.up fr (mF_D (List.mem_of_getElem? (i := 0) rfl) rfl))
      obtain ⟨σ16, e9⟩ : ∃ s : St, s = up3 σ15 11 o0 14 (σ15 11 o0 13) := ⟨_, rfl⟩
      have h := h σ16 e9
      have rb := fun Q9 z => rb Q9 (nm_n e9 z)
      have ok : okS σ16 := by rw [e9]; exact (ok_n ok (by decide))
      have fr : Fr (mF [23, 25, 26, 32, 35, 36] [] [(2, [3]), (3, [9]), (4, [0, 1, 2, 4]), (5, [2]), (8, [3, 4])] [(11, o0, [2, 10, 11, 14, 15, 16, 18, 19, 21, 22, 28, 29, 30, 33, 34, 36, 37])]) σ σ16 := by rw [e9]; exact (Fr.up fr (mF_D (List.mem_of_getElem? (i := 0) rfl) rfl))
      obtain ⟨σ17, e9⟩ : ∃ s : St, s = up3 σ16 8 0 4 ((σ16 8 0 4) + 1) := ⟨_, rfl⟩
      have h := h σ17 e9
      have rb := fun Q9 z => rb Q9 (nm_n e9 z)
      have ok : okS σ17 := by rw [e9]; exact (ok_n ok (by decide))
      have fr : Fr (mF [23, 25, 26, 32, 35, 36] [] [(2, [3]), (3, [9]), (4, [0, 1, 2, 4]), (5, [2]), (8, [3, 4])] [(11, o0, [2, 10, 11, 14, 15, 16, 18, 19, 21, 22, 28, 29, 30, 33, 34, 36, 37])]) σ σ17 := by rw [e9]; exact (Fr.up fr (mF_C (List.mem_of_getElem? (i := 4) rfl) rfl))
      obtain ⟨σ18, h, ok, fr9, rc⟩ := e11_startTimer ho0 ok h
      have fr := fr.tr (fr9.sub (mF_sub rfl sub_nil rfl (sud_c (Or.inr ⟨_, List.mem_of_getElem? (i := 0) rfl, rfl⟩) sud_nil)))
      have rb := fun Q9 z => rb Q9 (rc _ z)
      obtain ⟨σ19, h, ok, fr9, rc⟩ := e11_segment ho0 ok h
      have fr := fr.tr (fr9.sub (mF_sub rfl sub_nil rfl (sud_c (Or.inr ⟨_, List.mem_of_getElem? (i := 0) rfl, rfl⟩) sud_nil)))
      have rb := fun Q9 z => rb Q9 (rc _ z)
      exact ⟨σ19, h, ok, fr, fun Q9 hq => rb Q9 hq⟩
    have h := h.1 hc
    have rb := fun Q9 z => rb Q9 (br_v hc z)
    obtain ⟨r4, h, rc⟩ := e11_half ho0 ok h
    have rb := fun Q9 z => rb Q9 (rc _ z)
    obtain ⟨σ5, e9⟩ : ∃ s : St, s = up3 σ3 11 o0 15 r4 := ⟨_, rfl⟩
    have h := h σ5 e9
    have rb := fun Q9 z => rb Q9 (nm_n e9 z)
    have ok : okS σ5 := by rw [e9]; exact (ok_n ok (by decide))
    have fr : Fr (mF [23, 25, 26, 32, 35, 36] [] [(2, [3]), (3, [9]), (4, [0, 1, 2, 4]), (5, [2]), (8, [3, 4])] [(11, o0, [2, 10, 11, 14, 15, 16, 18, 19, 21, 22, 28, 29, 30, 33, 34, 36, 37])]) σ σ5 := by rw [e9]; exact (Fr.up fr (mF_D (List.mem_of_getElem? (i := 0) rfl) rfl))
    obtain ⟨σ6, e9⟩ : ∃ s : St, s = up3 σ5 11 o0 14 (σ5 11 o0 13) := ⟨_, rfl⟩
    have h := h σ6 e9
    have rb := fun Q9 z => rb Q9 (nm_n e9 z)
    have ok : okS σ6 := by rw [e9]; exact (ok_n ok (by decide))
    have fr : Fr (mF [23, 25, 26, 32, 35, 36] [] [(2, [3]), (3, [9]), (4, [0, 1, 2, 4]), (5, [2]), (8, [3, 4])] [(11, o0, [2, 10, 11, 14, 15, 16, 18, 19, 21, 22, 28, 29, 30, 33, 34, 36, 37])]) σ σ6 := by rw [e9]; exact (Fr.up fr (mF_D (List.mem_of_getElem? (i := 0) rfl) rfl))
    obtain ⟨σ7, e9⟩ : ∃ s : St, s = up3 σ6 11 o0 19 0 := ⟨_, rfl⟩
    have h := h σ7 e9
    have rb := fun Q9 z => rb Q9 (nm_n e9 z)
    have ok : okS σ7 := by rw [e9]; exact (ok_z ok (by decide) (Or.inl rfl))
    have fr : Fr (mF [23, 25, 26, 32, 35, 36] [] [(2, [3]), (3, [9]), (4, [0, 1, 2, 4]), (5, [2]), (8, [3, 4])] [(11, o0, [2, 10, 11, 14, 15, 16, 18, 19, 21, 22, 28, 29, 30, 33, 34, 36, 37])]) σ σ7 := by rw [e9]; exact (Fr.up fr (mF_D (List.mem_of_getElem? (i := 0) rfl) rfl))
    obtain ⟨σ8, e9⟩ : ∃ s : St, s = up3 σ7 11 o0 18 0 := ⟨_, rfl⟩
    have h := h σ8 e9
    have rb := fun Q9 z => rb Q9 (nm_n e9 z)
    have ok : okS σ8 := by rw [e9]; exact (ok_n ok (by decide))
    have fr : Fr (mF [23, 25, 26, 32, 35, 36] [] [(2, [3]), (3, [9]), (4, [0, 1, 2, 4]), (5, [2]), (8, [3, 4])] [(11, o0, [2, 10, 11, 14, 15, 16, 18, 19, 21, 22, 28, 29, 30, 33, 34, 36, 37])]) σ σ8 := by rw [e9]; exact (Fr.up fr (mF_D (List.mem_of_getElem? (i := 0) rfl) rfl))
    obtain ⟨σ9, e9⟩ : ∃ s : St, s = up3 σ8 11 o0 10 (σ8 11 o0 9) := ⟨_, rfl⟩
    have h := h σ9 e9
    have rb := fun Q9 z => rb Q9 (nm_n e9 z)
    have ok : okS σ9 := by rw [e9]; exact (ok_n ok (by decide))
    have fr : Fr (mF [23, 25, 26, 32, 35, 36] [] [(2, [3]), (3, [9]), (4, [0, 1, 2, 4]), (5, [2]), (8, [3, 4])] [(11, o0, [2, 10, 11, 14, 15, 16, 18, 19, 21, 22, 28, 29, 30, 33, 34, 36, 37])]) σ σ9 := by rw [e9]; exact (Fr.up fr (mF_D (List.mem_of_getElem? (i := 0) rfl) rfl))
    obtain ⟨r10, h, rc⟩ := e11_left ho0 ok h
    have rb := fun Q9 z => rb Q9 (rc _ z)
    obtain ⟨r11, h, rc⟩ := e11_end ho0 ok h
    have rb := fun Q9 z => rb Q9 (rc _ z)
    obtain ⟨r12, h, rc⟩ := e11_end ho0 ok h
    have rb := fun Q9 z => rb Q9 (rc _ z)
    by_cases hc : (imin (σ9 11 o0 13) (r11 - (σ9 11 o0 10))) = (r12 - (σ9 11 o0 10))
    · have h := h.2 hc
      have rb := fun Q9 z => rb Q9 (br_u hc z)
      obtain ⟨σ9, h, ok, fr9, rc⟩ := e11_timerOut_J214 ho0 ok h
      exact ⟨σ9, h, ok, fr.tr (fr9.sub (mF_sub rfl sub_nil rfl (sud_c (Or.inr ⟨_, List.mem_of_getElem? (i := 0) rfl, rfl⟩) sud_nil))), fun Q9 hq => rb Q9 (rc Q9 hq)⟩
    have h := h.1 hc
    have rb := fun Q9 z => rb Q9 (br_v hc z)
    obtain ⟨σ9, h, ok, fr9, rc⟩ := e11_timerOut_J214 ho0 ok h
    exact ⟨σ9, h, ok, fr.tr (fr9.sub (mF_sub rfl sub_nil rfl (sud_c (Or.inr ⟨_, List.mem_of_getElem? (i := 0) rfl, rfl⟩) sud_nil))), fun Q9 hq => rb Q9 (rc Q9 hq)⟩
  have h := h.2 hc
  have rb := fun Q9 z => rb Q9 (br_f hc z)
  obtain ⟨σ20, h, ok, fr9, rc⟩ := e11_segment ho0 ok h
  have fr := fr.tr (fr9.sub (mF_sub rfl sub_nil rfl (sud_c (Or.inr ⟨_, List.mem_of_getElem? (i := 0) rfl, rfl⟩) sud_nil)))
  have rb := fun Q9 z => rb Q9 (rc _ z)
  obtain ⟨σ21, e9⟩ : ∃ s : St, s = up3 σ20 8 0 3 ((σ20 8 0 3) + 1) := ⟨_, rfl⟩
  have h := h σ21 e9
  have rb := fun Q9 z => rb Q9 (nm_n e9 z)
  have ok : okS σ21 := by rw [e9]; exact (ok_n ok (by decide))
  have fr : Fr (mF [23, 25, 26, 32, 35, 36] [] [(2, [3]), (3, [9]), (4, [0, 1, 2, 4]), (5, [2]), (8, [3, 4])] [(11, o0, [2, 10, 11, 14, 15, 16, 18, 19, 21, 22, 28, 29, 30, 33, 34, 36, 37])]) σ σ21 := by rw [e9]; exact (Fr.up fr (mF_C (List.mem_of_getElem? (i := 4) rfl) rfl))
  obtain ⟨σ22, h, ok, fr9, rc⟩ := e11_gone ho0 ok h
  have fr := fr.tr (fr9.sub (mF_sub rfl sub_nil rfl (sud_c (Or.inr ⟨_, List.mem_of_getElem? (i := 0) rfl, rfl⟩) sud_nil)))
  have rb := fun Q9 z => rb Q9 (rc _ z)
  exact ⟨σ22, h, ok, fr, fun Q9 hq => rb Q9 hq⟩
set_option maxHeartbeats 4000000 in
theorem e11_timerOut {σ : St} {o0 : Nat} {Q : St → Prop} (ho0 : o0 < 16) (ok : okS σ) (h : w11_timerOut σ o0 Q) : (∃ (σ' : St), Q σ' ∧ okS σ' ∧ Fr (mF [23, 25, 26, 32, 35, 36] [] [(2, [3]), (3, [9]), (4, [0, 1, 2, 4]), (5, [2]), (8, [3, 4])] [(11, o0, [2, 10, 11, 14, 15, 16, 17, 18, 19, 21, 22, 28, 29, 30, 33, 34, 36, 37])]) σ σ' ∧ ∀ (Q9 : St → Prop), Q9 σ' → w11_timerOut σ o0 Q9) := by
  have fr : Fr (mF [23, 25, 26, 32, 35, 36] [] [(2, [3]), (3, [9]), (4, [0, 1, 2, 4]), (5, [2]), (8, [3, 4])] [(11, o0, [2, 10, 11, 14, 15, 16, 17, 18, 19, 21, 22, 28, 29, 30, 33, 34, 36, 37])]) σ σ := Fr.rf
  have rb : ∀ (Q9 : St → Prop), w11_timerOut σ o0 Q9 → w11_timerOut σ o0 Q9 := fun _ z => z
  obtain ⟨σ1, e9⟩ : ∃ s : St, s = up3 σ 11 o0 17 ((σ 11 o0 17) + 1) := ⟨_, rfl⟩
  have h := h σ1 e9
  have rb := fun Q9 z => rb Q9 (nm_n e9 z)
  have ok : okS σ1 := by rw [e9]; exact (ok_n ok (by decide))
  have fr : Fr (mF [23, 25, 26, 32, 35, 36] [] [(2, [3]), (3, [9]), (4, [0, 1, 2, 4]), (5, [2]), (8, [3, 4])] [(11, o0, [2, 10, 11, 14, 15, 16, 17, 18, 19, 21, 22, 28, 29, 30, 33, 34, 36, 37])]) σ σ1 := by rw [e9]; exact (Fr.up fr (mF_D (List.mem_of_getElem? (i := 0) rfl) rfl))
  obtain ⟨σ2, e9⟩ : ∃ s : St, s = up3 σ1 11 o0 29 0 := ⟨_, rfl⟩
  have h := h σ2 e9
  have rb := fun Q9 z => rb Q9 (nm_n e9 z)
  have ok : okS σ2 := by rw [e9]; exact (ok_z ok (by decide) (Or.inl rfl))
  have fr : Fr (mF [23, 25, 26, 32, 35, 36] [] [(2, [3]), (3, [9]), (4, [0, 1, 2, 4]), (5, [2]), (8, [3, 4])] [(11, o0, [2, 10, 11, 14, 15, 16, 17, 18, 19, 21, 22, 28, 29, 30, 33, 34, 36, 37])]) σ σ2 := by rw [e9]; exact (Fr.up fr (mF_D (List.mem_of_getElem? (i := 0) rfl) rfl))
  by_cases hc : (σ2 11 o0 2) = 1
  · have h := h.2 hc
    have rb := fun Q9 z => rb Q9 (br_u hc z)
    obtain ⟨σ9, h, ok, fr9, rc⟩ := e11_timerOut_J33 ho0 ok h
    exact ⟨σ9, h, ok, fr.tr (fr9.sub (mF_sub rfl sub_nil rfl (sud_c (Or.inr ⟨_, List.mem_of_getElem? (i := 0) rfl, rfl⟩) sud_nil))), fun Q9 hq => rb Q9 (rc Q9 hq)⟩
  have h := h.1 hc
  have rb := fun Q9 z => rb Q9 (br_v hc z)
  obtain ⟨σ9, h, ok, fr9, rc⟩ := e11_timerOut_J33 ho0 ok h
  exact ⟨σ9, h, ok, fr.tr (fr9.sub (mF_sub rfl sub_nil rfl (sud_c (Or.inr ⟨_, List.mem_of_getElem? (i := 0) rfl, rfl⟩) sud_nil))), fun Q9 hq => rb Q9 (rc Q9 hq)⟩
/-! WebHostModel.acknowledgement(LWebHostModel$Connection;)Z -/
set_option maxHeartbeats 4000000 in
theorem e14_acknowledgement_J318 {σ : St} {o1 : Nat} {x2 : Int32} {Q : Int32 → St → Prop} (ho1 : o1 < 16) (ok : okS σ) (h : w14_acknowledgement_J318 σ o1 x2 Q) : (∃ (r : Int32) (σ' : St), Q r σ' ∧ okS σ' ∧ Fr (mF [] [] [] [(15, o1, [0, 21])]) σ σ' ∧ ∀ (Q9 : Int32 → St → Prop), Q9 r σ' → w14_acknowledgement_J318 σ o1 x2 Q9) := by
  have fr : Fr (mF [] [] [] [(15, o1, [0, 21])]) σ σ := Fr.rf
  have rb : ∀ (Q9 : Int32 → St → Prop), w14_acknowledgement_J318 σ o1 x2 Q9 → w14_acknowledgement_J318 σ o1 x2 Q9 := fun _ z => z
  by_cases hc : x2 = 0
  · have h := h.1 hc
    have rb := fun Q9 z => rb Q9 (br_t hc z)
    exact ⟨1, σ, h, ok, fr, fun Q9 hq => rb Q9 hq⟩
  have h := h.2 hc
  have rb := fun Q9 z => rb Q9 (br_f hc z)
  by_cases hc : (σ 15 o1 0) = 8
  · have h := h.2 hc
    have rb := fun Q9 z => rb Q9 (br_u hc z)
    obtain ⟨σ5, h, ok, fr9, rc⟩ := e14_gone ho1 ok h
    have fr := fr.tr (fr9.sub (mF_sub rfl sub_nil rfl (sud_c (Or.inr ⟨_, List.mem_of_getElem? (i := 0) rfl, rfl⟩) sud_nil)))
    have rb := fun Q9 z => rb Q9 (rc _ z)
    exact ⟨0, σ5, h, ok, fr, fun Q9 hq => rb Q9 hq⟩
  have h := h.1 hc
  have rb := fun Q9 z => rb Q9 (br_v hc z)
  exact ⟨1, σ, h, ok, fr, fun Q9 hq => rb Q9 hq⟩
set_option maxHeartbeats 4000000 in
theorem e14_acknowledgement_J289 {σ : St} {o1 : Nat} {x2 : Int32} {Q : Int32 → St → Prop} (ho1 : o1 < 16) (ok : okS σ) (h : w14_acknowledgement_J289 σ o1 x2 Q) : (∃ (r : Int32) (σ' : St), Q r σ' ∧ okS σ' ∧ Fr (mF [] [] [] [(15, o1, [0, 21, 45])]) σ σ' ∧ ∀ (Q9 : Int32 → St → Prop), Q9 r σ' → w14_acknowledgement_J289 σ o1 x2 Q9) := by
  have fr : Fr (mF [] [] [] [(15, o1, [0, 21, 45])]) σ σ := Fr.rf
  have rb : ∀ (Q9 : Int32 → St → Prop), w14_acknowledgement_J289 σ o1 x2 Q9 → w14_acknowledgement_J289 σ o1 x2 Q9 := fun _ z => z
  by_cases hc : x2 = 0
  · have h := h.1 hc
    have rb := fun Q9 z => rb Q9 (br_t hc z)
    obtain ⟨r9, σ9, h, ok, fr9, rc⟩ := e14_acknowledgement_J318 ho1 ok h
    exact ⟨r9, σ9, h, ok, fr.tr (fr9.sub (mF_sub rfl sub_nil rfl (sud_c (Or.inr ⟨_, List.mem_of_getElem? (i := 0) rfl, rfl⟩) sud_nil))), fun Q9 hq => rb Q9 (rc Q9 hq)⟩
  have h := h.2 hc
  have rb := fun Q9 z => rb Q9 (br_f hc z)
  by_cases hc : (σ 15 o1 0) = 5
  · have h := h.2 hc
    have rb := fun Q9 z => rb Q9 (br_u hc z)
    obtain ⟨σ6, e9⟩ : ∃ s : St, s = up3 σ 15 o1 0 6 := ⟨_, rfl⟩
    have h := h σ6 e9
    have rb := fun Q9 z => rb Q9 (nm_n e9 z)
    have ok : okS σ6 := by rw [e9]; exact (ok_n ok (by decide))
    have fr : Fr (mF [] [] [] [(15, o1, [0, 21, 45])]) σ σ6 := by rw [e9]; exact (Fr.up fr (mF_D (List.mem_of_getElem? (i := 0) rfl) rfl))
    obtain ⟨σ7, e9⟩ : ∃ s : St, s = up3 σ6 15 o1 45 (σ6 14 0 10) := ⟨_, rfl⟩
    have h := h σ7 e9
    have rb := fun Q9 z => rb Q9 (nm_n e9 z)
    have ok : okS σ7 := by rw [e9]; exact (ok_n ok (by decide))
    have fr : Fr (mF [] [] [] [(15, o1, [0, 21, 45])]) σ σ7 := by rw [e9]; exact (Fr.up fr (mF_D (List.mem_of_getElem? (i := 0) rfl) rfl))
    exact ⟨1, σ7, h, ok, fr, fun Q9 hq => rb Q9 hq⟩
  have h := h.1 hc
  have rb := fun Q9 z => rb Q9 (br_v hc z)
  obtain ⟨r9, σ9, h, ok, fr9, rc⟩ := e14_acknowledgement_J318 ho1 ok h
  exact ⟨r9, σ9, h, ok, fr.tr (fr9.sub (mF_sub rfl sub_nil rfl (sud_c (Or.inr ⟨_, List.mem_of_getElem? (i := 0) rfl, rfl⟩) sud_nil))), fun Q9 hq => rb Q9 (rc Q9 hq)⟩
set_option maxHeartbeats 4000000 in
theorem e14_acknowledgement_J260 {σ : St} {o1 : Nat} {xs0 : Int32} {Q : Int32 → St → Prop} (ho1 : o1 < 16) (ok : okS σ) (h : w14_acknowledgement_J260 σ o1 xs0 Q) : (∃ (r : Int32) (σ' : St), Q r σ' ∧ okS σ' ∧ Fr (mF [] [] [] [(15, o1, [0, 21, 45])]) σ σ' ∧ ∀ (Q9 : Int32 → St → Prop), Q9 r σ' → w14_acknowledgement_J260 σ o1 xs0 Q9) := by
  have fr : Fr (mF [] [] [] [(15, o1, [0, 21, 45])]) σ σ := Fr.rf
  have rb : ∀ (Q9 : Int32 → St → Prop), w14_acknowledgement_J260 σ o1 xs0 Q9 → w14_acknowledgement_J260 σ o1 xs0 Q9 := fun _ z => z
  by_cases hc : xs0 = 0
  · have h := h.1 hc
    have rb := fun Q9 z => rb Q9 (br_t hc z)
    obtain ⟨r9, σ9, h, ok, fr9, rc⟩ := e14_acknowledgement_J289 ho1 ok h
    exact ⟨r9, σ9, h, ok, fr.tr (fr9.sub (mF_sub rfl sub_nil rfl (sud_c (Or.inr ⟨_, List.mem_of_getElem? (i := 0) rfl, rfl⟩) sud_nil))), fun Q9 hq => rb Q9 (rc Q9 hq)⟩
  have h := h.2 hc
  have rb := fun Q9 z => rb Q9 (br_f hc z)
  by_cases hc : (σ 15 o1 0) = 3
  · have h := h.2 hc
    have rb := fun Q9 z => rb Q9 (br_u hc z)
    obtain ⟨σ8, e9⟩ : ∃ s : St, s = up3 σ 15 o1 0 4 := ⟨_, rfl⟩
    have h := h σ8 e9
    have rb := fun Q9 z => rb Q9 (nm_n e9 z)
    have ok : okS σ8 := by rw [e9]; exact (ok_n ok (by decide))
    have fr : Fr (mF [] [] [] [(15, o1, [0, 21, 45])]) σ σ8 := by rw [e9]; exact (Fr.up fr (mF_D (List.mem_of_getElem? (i := 0) rfl) rfl))
    obtain ⟨σ9, e9⟩ : ∃ s : St, s = up3 σ8 15 o1 45 (σ8 14 0 10) := ⟨_, rfl⟩
    have h := h σ9 e9
    have rb := fun Q9 z => rb Q9 (nm_n e9 z)
    have ok : okS σ9 := by rw [e9]; exact (ok_n ok (by decide))
    have fr : Fr (mF [] [] [] [(15, o1, [0, 21, 45])]) σ σ9 := by rw [e9]; exact (Fr.up fr (mF_D (List.mem_of_getElem? (i := 0) rfl) rfl))
    exact ⟨1, σ9, h, ok, fr, fun Q9 hq => rb Q9 hq⟩
  have h := h.1 hc
  have rb := fun Q9 z => rb Q9 (br_v hc z)
  obtain ⟨r9, σ9, h, ok, fr9, rc⟩ := e14_acknowledgement_J289 ho1 ok h
  exact ⟨r9, σ9, h, ok, fr.tr (fr9.sub (mF_sub rfl sub_nil rfl (sud_c (Or.inr ⟨_, List.mem_of_getElem? (i := 0) rfl, rfl⟩) sud_nil))), fun Q9 hq => rb Q9 (rc Q9 hq)⟩
set_option maxHeartbeats 4000000 in
theorem e14_acknowledgement_J235 {σ : St} {o1 : Nat} {Q : Int32 → St → Prop} (ho1 : o1 < 16) (ok : okS σ) (h : w14_acknowledgement_J235 σ o1 Q) : (∃ (r : Int32) (σ' : St), Q r σ' ∧ okS σ' ∧ Fr (mF [] [] [] [(15, o1, [0, 21, 45])]) σ σ' ∧ ∀ (Q9 : Int32 → St → Prop), Q9 r σ' → w14_acknowledgement_J235 σ o1 Q9) := by
  have fr : Fr (mF [] [] [] [(15, o1, [0, 21, 45])]) σ σ := Fr.rf
  have rb : ∀ (Q9 : Int32 → St → Prop), w14_acknowledgement_J235 σ o1 Q9 → w14_acknowledgement_J235 σ o1 Q9 := fun _ z => z
  have h := h ((ok 15 o1 31).1 (by decide))
  have rb := fun Q9 z => rb Q9 (im_n z)
  by_cases hc : (σ 15 o1 31) = 0
  · have h := h.1 hc
    have rb := fun Q9 z => rb Q9 (br_t hc z)
    obtain ⟨r9, σ9, h, ok, fr9, rc⟩ := e14_acknowledgement_J260 ho1 ok h
    exact ⟨r9, σ9, h, ok, fr.tr (fr9.sub (mF_sub rfl sub_nil rfl (sud_c (Or.inr ⟨_, List.mem_of_getElem? (i := 0) rfl, rfl⟩) sud_nil))), fun Q9 hq => rb Q9 (rc Q9 hq)⟩
  have h := h.2 hc
  have rb := fun Q9 z => rb Q9 (br_f hc z)
  obtain ⟨r10, h, rc⟩ := e15_behind ho1 ok h
  have rb := fun Q9 z => rb Q9 (rc _ z)
  by_cases hc : (σ 15 o1 4) = (r10 + 1)
  · have h := h.2 hc
    have rb := fun Q9 z => rb Q9 (br_u hc z)
    obtain ⟨r9, σ9, h, ok, fr9, rc⟩ := e14_acknowledgement_J260 ho1 ok h
    exact ⟨r9, σ9, h, ok, fr.tr (fr9.sub (mF_sub rfl sub_nil rfl (sud_c (Or.inr ⟨_, List.mem_of_getElem? (i := 0) rfl, rfl⟩) sud_nil))), fun Q9 hq => rb Q9 (rc Q9 hq)⟩
  have h := h.1 hc
  have rb := fun Q9 z => rb Q9 (br_v hc z)
  obtain ⟨r9, σ9, h, ok, fr9, rc⟩ := e14_acknowledgement_J260 ho1 ok h
  exact ⟨r9, σ9, h, ok, fr.tr (fr9.sub (mF_sub rfl sub_nil rfl (sud_c (Or.inr ⟨_, List.mem_of_getElem? (i := 0) rfl, rfl⟩) sud_nil))), fun Q9 hq => rb Q9 (rc Q9 hq)⟩
set_option maxHeartbeats 4000000 in
theorem e14_acknowledgement_J209 {σ : St} {o1 : Nat} {Q : Int32 → St → Prop} (ho1 : o1 < 16) (ok : okS σ) (h : w14_acknowledgement_J209 σ o1 Q) : (∃ (r : Int32) (σ' : St), Q r σ' ∧ okS σ' ∧ Fr (mF [] [] [] [(15, o1, [0, 21, 23, 45])]) σ σ' ∧ ∀ (Q9 : Int32 → St → Prop), Q9 r σ' → w14_acknowledgement_J209 σ o1 Q9) := by
  have fr : Fr (mF [] [] [] [(15, o1, [0, 21, 23, 45])]) σ σ := Fr.rf
  have rb : ∀ (Q9 : Int32 → St → Prop), w14_acknowledgement_J209 σ o1 Q9 → w14_acknowledgement_J209 σ o1 Q9 := fun _ z => z
  obtain ⟨r4, h, rc⟩ := e14_before ok h
  have rb := fun Q9 z => rb Q9 (rc _ z)
  by_cases hc : r4 = 0
  · have h := h.2 hc
    have rb := fun Q9 z => rb Q9 (br_u hc z)
    by_cases hc : (σ 15 o1 7) = 0
    · have h := h.2 hc
      have rb := fun Q9 z => rb Q9 (br_u hc z)
      obtain ⟨σ11, e9⟩ : ∃ s : St, s = up3 σ 15 o1 23 0 := ⟨_, rfl⟩
      have h := h σ11 e9
      have rb := fun Q9 z => rb Q9 (nm_n e9 z)
      have ok : okS σ11 := by rw [e9]; exact (ok_n ok (by decide))
      have fr : Fr (mF [] [] [] [(15, o1, [0, 21, 23, 45])]) σ σ11 := by rw [e9]; exact (Fr.up fr (mF_D (List.mem_of_getElem? (i := 0) rfl) rfl))
      obtain ⟨r9, σ9, h, ok, fr9, rc⟩ := e14_acknowledgement_J235 ho1 ok h
      exact ⟨r9, σ9, h, ok, fr.tr (fr9.sub (mF_sub rfl sub_nil rfl (sud_c (Or.inr ⟨_, List.mem_of_getElem? (i := 0) rfl, rfl⟩) sud_nil))), fun Q9 hq => rb Q9 (rc Q9 hq)⟩
    have h := h.1 hc
    have rb := fun Q9 z => rb Q9 (br_v hc z)
    obtain ⟨r9, σ9, h, ok, fr9, rc⟩ := e14_acknowledgement_J235 ho1 ok h
    exact ⟨r9, σ9, h, ok, fr.tr (fr9.sub (mF_sub rfl sub_nil rfl (sud_c (Or.inr ⟨_, List.mem_of_getElem? (i := 0) rfl, rfl⟩) sud_nil))), fun Q9 hq => rb Q9 (rc Q9 hq)⟩
  have h := h.1 hc
  have rb := fun Q9 z => rb Q9 (br_v hc z)
  obtain ⟨r9, σ9, h, ok, fr9, rc⟩ := e14_acknowledgement_J235 ho1 ok h
  exact ⟨r9, σ9, h, ok, fr.tr (fr9.sub (mF_sub rfl sub_nil rfl (sud_c (Or.inr ⟨_, List.mem_of_getElem? (i := 0) rfl, rfl⟩) sud_nil))), fun Q9 hq => rb Q9 (rc Q9 hq)⟩
set_option maxHeartbeats 4000000 in
theorem e14_acknowledgement_J151 {σ : St} {o1 : Nat} {Q : Int32 → St → Prop} (ho1 : o1 < 16) (ok : okS σ) (h : w14_acknowledgement_J151 σ o1 Q) : (∃ (r : Int32) (σ' : St), Q r σ' ∧ okS σ' ∧ Fr (mF [] [] [] [(15, o1, [0, 7, 8, 9, 21, 23, 45])]) σ σ' ∧ ∀ (Q9 : Int32 → St → Prop), Q9 r σ' → w14_acknowledgement_J151 σ o1 Q9) := by
  have fr : Fr (mF [] [] [] [(15, o1, [0, 7, 8, 9, 21, 23, 45])]) σ σ := Fr.rf
  have rb : ∀ (Q9 : Int32 → St → Prop), w14_acknowledgement_J151 σ o1 Q9 → w14_acknowledgement_J151 σ o1 Q9 := fun _ z => z
  obtain ⟨r3, h, rc⟩ := e14_before ok h
  have rb := fun Q9 z => rb Q9 (rc _ z)
  by_cases hc : r3 = 0
  · have h := h.2 hc
    have rb := fun Q9 z => rb Q9 (br_u hc z)
    obtain ⟨r12, h, rc⟩ := e14_before ok h
    have rb := fun Q9 z => rb Q9 (rc _ z)
    by_cases hc : r12 = 0
    · have h := h.2 hc
      have rb := fun Q9 z => rb Q9 (br_u hc z)
      by_cases hc : (σ 15 o1 8) = (σ 14 0 34)
      · have h := h.2 hc
        have rb := fun Q9 z => rb Q9 (br_u hc z)
        obtain ⟨r14, h, rc⟩ := e14_before ok h
        have rb := fun Q9 z => rb Q9 (rc _ z)
        by_cases hc : r14 = 0
        · have h := h.2 hc
          have rb := fun Q9 z => rb Q9 (br_u hc z)
          obtain ⟨σ15, h, ok, fr9, rc⟩ := e14_takeWindow ho1 ok h
          have fr := fr.tr (fr9.sub (mF_sub rfl sub_nil rfl (sud_c (Or.inr ⟨_, List.mem_of_getElem? (i := 0) rfl, rfl⟩) sud_nil)))
          have rb := fun Q9 z => rb Q9 (rc _ z)
          obtain ⟨r9, σ9, h, ok, fr9, rc⟩ := e14_acknowledgement_J209 ho1 ok h
          exact ⟨r9, σ9, h, ok, fr.tr (fr9.sub (mF_sub rfl sub_nil rfl (sud_c (Or.inr ⟨_, List.mem_of_getElem? (i := 0) rfl, rfl⟩) sud_nil))), fun Q9 hq => rb Q9 (rc Q9 hq)⟩
        have h := h.1 hc
        have rb := fun Q9 z => rb Q9 (br_v hc z)
        obtain ⟨r9, σ9, h, ok, fr9, rc⟩ := e14_acknowledgement_J209 ho1 ok h
        exact ⟨r9, σ9, h, ok, fr.tr (fr9.sub (mF_sub rfl sub_nil rfl (sud_c (Or.inr ⟨_, List.mem_of_getElem? (i := 0) rfl, rfl⟩) sud_nil))), fun Q9 hq => rb Q9 (rc Q9 hq)⟩
      have h := h.1 hc
      have rb := fun Q9 z => rb Q9 (br_v hc z)
      obtain ⟨r9, σ9, h, ok, fr9, rc⟩ := e14_acknowledgement_J209 ho1 ok h
      exact ⟨r9, σ9, h, ok, fr.tr (fr9.sub (mF_sub rfl sub_nil rfl (sud_c (Or.inr ⟨_, List.mem_of_getElem? (i := 0) rfl, rfl⟩) sud_nil))), fun Q9 hq => rb Q9 (rc Q9 hq)⟩
    have h := h.1 hc
    have rb := fun Q9 z => rb Q9 (br_v hc z)
    obtain ⟨σ13, h, ok, fr9, rc⟩ := e14_takeWindow ho1 ok h
    have fr := fr.tr (fr9.sub (mF_sub rfl sub_nil rfl (sud_c (Or.inr ⟨_, List.mem_of_getElem? (i := 0) rfl, rfl⟩) sud_nil)))
    have rb := fun Q9 z => rb Q9 (rc _ z)
    obtain ⟨r9, σ9, h, ok, fr9, rc⟩ := e14_acknowledgement_J209 ho1 ok h
    exact ⟨r9, σ9, h, ok, fr.tr (fr9.sub (mF_sub rfl sub_nil rfl (sud_c (Or.inr ⟨_, List.mem_of_getElem? (i := 0) rfl, rfl⟩) sud_nil))), fun Q9 hq => rb Q9 (rc Q9 hq)⟩
  have h := h.1 hc
  have rb := fun Q9 z => rb Q9 (br_v hc z)
  obtain ⟨r9, σ9, h, ok, fr9, rc⟩ := e14_acknowledgement_J209 ho1 ok h
  exact ⟨r9, σ9, h, ok, fr.tr (fr9.sub (mF_sub rfl sub_nil rfl (sud_c (Or.inr ⟨_, List.mem_of_getElem? (i := 0) rfl, rfl⟩) sud_nil))), fun Q9 hq => rb Q9 (rc Q9 hq)⟩
set_option maxHeartbeats 4000000 in
theorem e14_acknowledgement {σ : St} {o1 : Nat} {Q : Int32 → St → Prop} (ho1 : o1 < 16) (ok : okS σ) (h : w14_acknowledgement σ o1 Q) : (∃ (r : Int32) (σ' : St), Q r σ' ∧ okS σ' ∧ Fr (mF [56, 57, 58, 59, 60, 68] [] [(14, [18, 23, 24, 25]), (17, [0, 1, 2, 3, 4, 5])] [(15, o1, [0, 4, 5, 7, 8, 9, 11, 12, 13, 14, 15, 16, 17, 18, 19, 20, 21, 22, 23, 24, 31, 37, 39, 43, 44, 45])]) σ σ' ∧ ∀ (Q9 : Int32 → St → Prop), Q9 r σ' → w14_acknowledgement σ o1 Q9) := by
  have fr : Fr (mF [56, 57, 58, 59, 60, 68] [] [(14, [18, 23, 24, 25]), (17, [0, 1, 2, 3, 4, 5])] [(15, o1, [0, 4, 5, 7, 8, 9, 11, 12, 13, 14, 15, 16, 17, 18, 19, 20, 21, 22, 23, 24, 31, 37, 39, 43, 44, 45])]) σ σ := Fr.rf
  have rb : ∀ (Q9 : Int32 → St → Prop), w14_acknowledgement σ o1 Q9 → w14_acknowledgement σ o1 Q9 := fun _ z => z
  by_cases hc : (σ 15 o1 0) = 1
  · have h := h.2 hc
    have rb := fun Q9 z => rb Q9 (br_u hc z)
    by_cases hc : (σ 14 0 35) = ((σ 15 o1 3) + 1)
    · have h := h.1 hc
      have rb := fun Q9 z => rb Q9 (br_t hc z)
      obtain ⟨σ21, h, ok, fr9, rc⟩ := e14_fresh ho1 ok h
      have fr := fr.tr (fr9.sub (mF_sub rfl sub_nil rfl (sud_c (Or.inr ⟨_, List.mem_of_getElem? (i := 0) rfl, rfl⟩) sud_nil)))
      have rb := fun Q9 z => rb Q9 (rc _ z)
      obtain ⟨σ22, e9⟩ : ∃ s : St, s = up3 σ21 15 o1 0 2 := ⟨_, rfl⟩
      have h := h σ22 e9
      have rb := fun Q9 z => rb Q9 (nm_n e9 z)
      have ok : okS σ22 := by rw [e9]; exact (ok_n ok (by decide))
      have fr : Fr (mF [56, 57, 58, 59, 60, 68] [] [(14, [18, 23, 24, 25]), (17, [0, 1, 2, 3, 4, 5])] [(15, o1, [0, 4, 5, 7, 8, 9, 11, 12, 13, 14, 15, 16, 17, 18, 19, 20, 21, 22, 23, 24, 31, 37, 39, 43, 44, 45])]) σ σ22 := by rw [e9]; exact (Fr.up fr (mF_D (List.mem_of_getElem? (i := 0) rfl) rfl))
      obtain ⟨σ23, e9⟩ : ∃ s : St, s = up3 σ22 15 o1 43 (σ22 14 0 10) := ⟨_, rfl⟩
      have h := h σ23 e9
      have rb := fun Q9 z => rb Q9 (nm_n e9 z)
      have ok : okS σ23 := by rw [e9]; exact (ok_n ok (by decide))
      have fr : Fr (mF [56, 57, 58, 59, 60, 68] [] [(14, [18, 23, 24, 25]), (17, [0, 1, 2, 3, 4, 5])] [(15, o1, [0, 4, 5, 7, 8, 9, 11, 12, 13, 14, 15, 16, 17, 18, 19, 20, 21, 22, 23, 24, 31, 37, 39, 43, 44, 45])]) σ σ23 := by rw [e9]; exact (Fr.up fr (mF_D (List.mem_of_getElem? (i := 0) rfl) rfl))
      obtain ⟨σ24, e9⟩ : ∃ s : St, s = up3 σ23 15 o1 44 (σ23 14 0 10) := ⟨_, rfl⟩
      have h := h σ24 e9
      have rb := fun Q9 z => rb Q9 (nm_n e9 z)
      have ok : okS σ24 := by rw [e9]; exact (ok_n ok (by decide))
      have fr : Fr (mF [56, 57, 58, 59, 60, 68] [] [(14, [18, 23, 24, 25]), (17, [0, 1, 2, 3, 4, 5])] [(15, o1, [0, 4, 5, 7, 8, 9, 11, 12, 13, 14, 15, 16, 17, 18, 19, 20, 21, 22, 23, 24, 31, 37, 39, 43, 44, 45])]) σ σ24 := by rw [e9]; exact (Fr.up fr (mF_D (List.mem_of_getElem? (i := 0) rfl) rfl))
      obtain ⟨σ25, h, ok, fr9, rc⟩ := e14_takeWindow ho1 ok h
      have fr := fr.tr (fr9.sub (mF_sub rfl sub_nil rfl (sud_c (Or.inr ⟨_, List.mem_of_getElem? (i := 0) rfl, rfl⟩) sud_nil)))
      have rb := fun Q9 z => rb Q9 (rc _ z)
      exact ⟨1, σ25, h, ok, fr, fun Q9 hq => rb Q9 hq⟩
    have h := h.2 hc
    have rb := fun Q9 z => rb Q9 (br_f hc z)
    obtain ⟨σ26, h, ok, fr9, rc⟩ := e14_reset ok h
    have fr := fr.tr (fr9.sub (mF_sub rfl sub_nil rfl sud_nil))
    have rb := fun Q9 z => rb Q9 (rc _ z)
    exact ⟨0, σ26, h, ok, fr, fun Q9 hq => rb Q9 hq⟩
  have h := h.1 hc
  have rb := fun Q9 z => rb Q9 (br_v hc z)
  obtain ⟨r1, h, rc⟩ := e14_isBehind ok h
  have rb := fun Q9 z => rb Q9 (rc _ z)
  by_cases hc : r1 = 0
  · have h := h.1 hc
    have rb := fun Q9 z => rb Q9 (br_t hc z)
    obtain ⟨r2, h, rc⟩ := e14_isBehind ok h
    have rb := fun Q9 z => rb Q9 (rc _ z)
    by_cases hc : r2 = 0
    · have h := h.1 hc
      have rb := fun Q9 z => rb Q9 (br_t hc z)
      by_cases hc : (σ 14 0 35) = (σ 15 o1 4)
      · have h := h.2 hc
        have rb := fun Q9 z => rb Q9 (br_u hc z)
        obtain ⟨r16, h, rc⟩ := e14_extent ok h
        have rb := fun Q9 z => rb Q9 (rc _ z)
        by_cases hc : r16 = 0
        · have h := h.2 hc
          have rb := fun Q9 z => rb Q9 (br_u hc z)
          by_cases hc : (σ 14 0 37) = (σ 15 o1 7)
          · have h := h.2 hc
            have rb := fun Q9 z => rb Q9 (br_u hc z)
            obtain ⟨r17, h, rc⟩ := e14_before ok h
            have rb := fun Q9 z => rb Q9 (rc _ z)
            by_cases hc : r17 = 0
            · have h := h.1 hc
              have rb := fun Q9 z => rb Q9 (br_t hc z)
              obtain ⟨r9, σ9, h, ok, fr9, rc⟩ := e14_acknowledgement_J151 ho1 ok h
              exact ⟨r9, σ9, h, ok, fr.tr (fr9.sub (mF_sub rfl sub_nil rfl (sud_c (Or.inr ⟨_, List.mem_of_getElem? (i := 0) rfl, rfl⟩) sud_nil))), fun Q9 hq => rb Q9 (rc Q9 hq)⟩
            have h := h.2 hc
            have rb := fun Q9 z => rb Q9 (br_f hc z)
            obtain ⟨σ18, h, ok, fr9, rc⟩ := e14_duplicate ho1 ok h
            have fr := fr.tr (fr9.sub (mF_sub rfl sub_nil rfl (sud_c (Or.inr ⟨_, List.mem_of_getElem? (i := 0) rfl, rfl⟩) sud_nil)))
            have rb := fun Q9 z => rb Q9 (rc _ z)
            obtain ⟨r9, σ9, h, ok, fr9, rc⟩ := e14_acknowledgement_J151 ho1 ok h
            exact ⟨r9, σ9, h, ok, fr.tr (fr9.sub (mF_sub rfl sub_nil rfl (sud_c (Or.inr ⟨_, List.mem_of_getElem? (i := 0) rfl, rfl⟩) sud_nil))), fun Q9 hq => rb Q9 (rc Q9 hq)⟩
          have h := h.1 hc
          have rb := fun Q9 z => rb Q9 (br_v hc z)
          obtain ⟨r9, σ9, h, ok, fr9, rc⟩ := e14_acknowledgement_J151 ho1 ok h
          exact ⟨r9, σ9, h, ok, fr.tr (fr9.sub (mF_sub rfl sub_nil rfl (sud_c (Or.inr ⟨_, List.mem_of_getElem? (i := 0) rfl, rfl⟩) sud_nil))), fun Q9 hq => rb Q9 (rc Q9 hq)⟩
        have h := h.1 hc
        have rb := fun Q9 z => rb Q9 (br_v hc z)
        obtain ⟨r9, σ9, h, ok, fr9, rc⟩ := e14_acknowledgement_J151 ho1 ok h
        exact ⟨r9, σ9, h, ok, fr.tr (fr9.sub (mF_sub rfl sub_nil rfl (sud_c (Or.inr ⟨_, List.mem_of_getElem? (i := 0) rfl, rfl⟩) sud_nil))), fun Q9 hq => rb Q9 (rc Q9 hq)⟩
      have h := h.1 hc
      have rb := fun Q9 z => rb Q9 (br_v hc z)
      obtain ⟨r9, σ9, h, ok, fr9, rc⟩ := e14_acknowledgement_J151 ho1 ok h
      exact ⟨r9, σ9, h, ok, fr.tr (fr9.sub (mF_sub rfl sub_nil rfl (sud_c (Or.inr ⟨_, List.mem_of_getElem? (i := 0) rfl, rfl⟩) sud_nil))), fun Q9 hq => rb Q9 (rc Q9 hq)⟩
    have h := h.2 hc
    have rb := fun Q9 z => rb Q9 (br_f hc z)
    obtain ⟨σ19, h, ok, fr9, rc⟩ := e14_fresh ho1 ok h
    have fr := fr.tr (fr9.sub (mF_sub rfl sub_nil rfl (sud_c (Or.inr ⟨_, List.mem_of_getElem? (i := 0) rfl, rfl⟩) sud_nil)))
    have rb := fun Q9 z => rb Q9 (rc _ z)
    obtain ⟨r9, σ9, h, ok, fr9, rc⟩ := e14_acknowledgement_J151 ho1 ok h
    exact ⟨r9, σ9, h, ok, fr.tr (fr9.sub (mF_sub rfl sub_nil rfl (sud_c (Or.inr ⟨_, List.mem_of_getElem? (i := 0) rfl, rfl⟩) sud_nil))), fun Q9 hq => rb Q9 (rc Q9 hq)⟩
  have h := h.2 hc
  have rb := fun Q9 z => rb Q9 (br_f hc z)
  obtain ⟨σ20, h, ok, fr9, rc⟩ := e14_acknowledge ho1 ok h
  have fr := fr.tr (fr9.sub (mF_sub rfl sub_nil rfl (sud_c (Or.inr ⟨_, List.mem_of_getElem? (i := 0) rfl, rfl⟩) sud_nil)))
  have rb := fun Q9 z => rb Q9 (rc _ z)
  exact ⟨0, σ20, h, ok, fr, fun Q9 hq => rb Q9 hq⟩
/-! WebHostModel.oneRequest(LWebHostModel$Connection;)Z -/
set_option maxHeartbeats 4000000 in
theorem e14_oneRequest_J37 {σ : St} {o1 : Nat} {Q : Int32 → St → Prop} {K0 : St → Prop} (ho1 : o1 < 16) (ok : okS σ) (h : w14_oneRequest_J37 σ o1 Q K0) : (∃ (σ' : St), K0 σ' ∧ okS σ' ∧ Fr (mF [] [(72, o1), (73, o1)] [] [(15, o1, [35, 39])]) σ σ' ∧ ∀ (Q9 : Int32 → St → Prop) (K9_0 : St → Prop), K9_0 σ' → w14_oneRequest_J37 σ o1 Q9 K9_0) := by
  have fr : Fr (mF [] [(72, o1), (73, o1)] [] [(15, o1, [35, 39])]) σ σ := Fr.rf
  have rb : ∀ (Q9 : Int32 → St → Prop) (K9_0 : St → Prop), w14_oneRequest_J37 σ o1 Q9 K9_0 → w14_oneRequest_J37 σ o1 Q9 K9_0 := fun _ _ z => z
  obtain ⟨r2, h, rc⟩ := e14_byteAt ho1 ok h
  have rb := fun Q9 K9_0 z => rb Q9 K9_0 (rc _ z)
  by_cases hc : r2 = 10
  · have h := h.2 hc
    have rb := fun Q9 K9_0 z => rb Q9 K9_0 (br_u hc z)
    obtain ⟨σ4, h, ok, fr9, rc⟩ := e14_take ho1 ok h
    have fr := fr.tr (fr9.sub (mF_sub rfl (sub_c (Or.inr (List.mem_of_getElem? (i := 0) rfl)) (sub_c (Or.inr (List.mem_of_getElem? (i := 1) rfl)) sub_nil)) rfl (sud_c (Or.inr ⟨_, List.mem_of_getElem? (i := 0) rfl, rfl⟩) sud_nil)))
    have rb := fun Q9 K9_0 z => rb Q9 K9_0 (rc _ z)
    exact ⟨σ4, h, ok, fr, fun Q9 K9_0 hq => rb Q9 K9_0 hq⟩
  have h := h.1 hc
  have rb := fun Q9 K9_0 z => rb Q9 K9_0 (br_v hc z)
  obtain ⟨σ3, h, ok, fr9, rc⟩ := e14_take ho1 ok h
  have fr := fr.tr (fr9.sub (mF_sub rfl (sub_c (Or.inr (List.mem_of_getElem? (i := 0) rfl)) (sub_c (Or.inr (List.mem_of_getElem? (i := 1) rfl)) sub_nil)) rfl (sud_c (Or.inr ⟨_, List.mem_of_getElem? (i := 0) rfl, rfl⟩) sud_nil)))
  have rb := fun Q9 K9_0 z => rb Q9 K9_0 (rc _ z)
  exact ⟨σ3, h, ok, fr, fun Q9 K9_0 hq => rb Q9 K9_0 hq⟩
set_option maxHeartbeats 4000000 in
theorem e14_oneRequest_L0 {o1 : Nat} {Q : Int32 → St → Prop} {K60 : St → Prop} (ho1 : o1 < 16) :
    ∀ (n : Nat) {σ : St} (ok : okS σ), w14_oneRequest_L0 o1 Q K60 n σ → (∃ (σ' : St), K60 σ' ∧ okS σ' ∧ Fr (mF [] [(72, o1), (73, o1)] [] [(15, o1, [35, 39])]) σ σ' ∧ ∀ (Q9 : Int32 → St → Prop) (K9_60 : St → Prop), K9_60 σ' → w14_oneRequest_L0 o1 Q9 K9_60 n σ) := by
  intro n
  induction n with
  | zero =>
    intro σ ok h
    exact False.elim h
  | succ n ih =>
    intro σ ok h
    have fr : Fr (mF [] [(72, o1), (73, o1)] [] [(15, o1, [35, 39])]) σ σ := Fr.rf
    have rb : ∀ (Q9 : Int32 → St → Prop) (K9_60 : St → Prop), w14_oneRequest_L0 o1 Q9 K9_60 (n + 1) σ → w14_oneRequest_L0 o1 Q9 K9_60 (n + 1) σ := fun _ _ z => z
    by_cases hc : (σ 15 o1 38) = 0
    · have h := h.2 hc
      have rb := fun Q9 K9_60 z => rb Q9 K9_60 (br_u hc z)
      obtain ⟨r1, h, rc⟩ := e14_byteAt ho1 ok h
      have rb := fun Q9 K9_60 z => rb Q9 K9_60 (rc _ z)
      by_cases hc : r1 = 10
      · have h := h.1 hc
        have rb := fun Q9 K9_60 z => rb Q9 K9_60 (br_t hc z)
        rcases e14_oneRequest_J37 ho1 ok h with ⟨σ', h, ok, fr9, rc⟩
        · have fr := fr.tr (fr9.sub (mF_sub rfl (sub_c (Or.inr (List.mem_of_getElem? (i := 0) rfl)) (sub_c (Or.inr (List.mem_of_getElem? (i := 1) rfl)) sub_nil)) rfl (sud_c (Or.inr ⟨_, List.mem_of_getElem? (i := 0) rfl, rfl⟩) sud_nil)))
          rcases ih ok h with ⟨σ', h, ok, fr9, rd⟩
          · exact ⟨σ', h, ok, fr.tr fr9, fun Q9 K9_60 hq => rb Q9 K9_60 (rc _ _ (rd Q9 K9_60 hq))⟩
      have h := h.2 hc
      have rb := fun Q9 K9_60 z => rb Q9 K9_60 (br_f hc z)
      obtain ⟨r5, h, rc⟩ := e14_byteAt ho1 ok h
      have rb := fun Q9 K9_60 z => rb Q9 K9_60 (rc _ z)
      by_cases hc : r5 = 13
      · have h := h.2 hc
        have rb := fun Q9 K9_60 z => rb Q9 K9_60 (br_u hc z)
        obtain ⟨r6, h, rc⟩ := e14_byteAt ho1 ok h
        have rb := fun Q9 K9_60 z => rb Q9 K9_60 (rc _ z)
        by_cases hc : r6 = 10
        · have h := h.2 hc
          have rb := fun Q9 K9_60 z => rb Q9 K9_60 (br_u hc z)
          rcases e14_oneRequest_J37 ho1 ok h with ⟨σ', h, ok, fr9, rc⟩
          · have fr := fr.tr (fr9.sub (mF_sub rfl (sub_c (Or.inr (List.mem_of_getElem? (i := 0) rfl)) (sub_c (Or.inr (List.mem_of_getElem? (i := 1) rfl)) sub_nil)) rfl (sud_c (Or.inr ⟨_, List.mem_of_getElem? (i := 0) rfl, rfl⟩) sud_nil)))
            rcases ih ok h with ⟨σ', h, ok, fr9, rd⟩
            · exact ⟨σ', h, ok, fr.tr fr9, fun Q9 K9_60 hq => rb Q9 K9_60 (rc _ _ (rd Q9 K9_60 hq))⟩
        have h := h.1 hc
        have rb := fun Q9 K9_60 z => rb Q9 K9_60 (br_v hc z)
        exact ⟨σ, h, ok, fr, fun Q9 K9_60 hq => rb Q9 K9_60 hq⟩
      have h := h.1 hc
      have rb := fun Q9 K9_60 z => rb Q9 K9_60 (br_v hc z)
      exact ⟨σ, h, ok, fr, fun Q9 K9_60 hq => rb Q9 K9_60 hq⟩
    have h := h.1 hc
    have rb := fun Q9 K9_60 z => rb Q9 K9_60 (br_v hc z)
    exact ⟨σ, h, ok, fr, fun Q9 K9_60 hq => rb Q9 K9_60 hq⟩
set_option maxHeartbeats 4000000 in
theorem e14_oneRequest_J76 {σ : St} {o1 : Nat} {xs0 : Int32} {Q : Int32 → St → Prop} (ho1 : o1 < 16) (ok : okS σ) (h : w14_oneRequest_J76 σ o1 xs0 Q) : (∃ (r : Int32) (σ' : St), Q r σ' ∧ okS σ' ∧ Fr (mF [56, 66, 67] [(71, o1), (72, o1), (73, o1)] [(14, [42, 43, 44, 45, 46, 47, 48, 49, 50, 51, 52, 53, 54, 55, 56, 57, 59, 60, 61, 62])] [(15, o1, [26, 27, 28, 29, 30, 35, 38, 39])]) σ σ' ∧ ∀ (Q9 : Int32 → St → Prop), Q9 r σ' → w14_oneRequest_J76 σ o1 xs0 Q9) := by
  have fr : Fr (mF [56, 66, 67] [(71, o1), (72, o1), (73, o1)] [(14, [42, 43, 44, 45, 46, 47, 48, 49, 50, 51, 52, 53, 54, 55, 56, 57, 59, 60, 61, 62])] [(15, o1, [26, 27, 28, 29, 30, 35, 38, 39])]) σ σ := Fr.rf
  have rb : ∀ (Q9 : Int32 → St → Prop), w14_oneRequest_J76 σ o1 xs0 Q9 → w14_oneRequest_J76 σ o1 xs0 Q9 := fun _ z => z
  by_cases hc : xs0 ≤ 0
  · have h := h.1 hc
    have rb := fun Q9 z => rb Q9 (br_t hc z)
    obtain ⟨r9, h, rc⟩ := e15_held ho1 ok h
    have rb := fun Q9 z => rb Q9 (rc _ z)
    by_cases hc : r9 = 4096
    · have h := h.2 hc
      have rb := fun Q9 z => rb Q9 (br_u hc z)
      obtain ⟨σ11, h, ok, fr9, rc⟩ := e14_refuse ho1 ok h
      have fr := fr.tr (fr9.sub (mF_sub rfl (sub_c (Or.inr (List.mem_of_getElem? (i := 0) rfl)) (sub_c (Or.inr (List.mem_of_getElem? (i := 1) rfl)) (sub_c (Or.inr (List.mem_of_getElem? (i := 2) rfl)) sub_nil))) rfl (sud_c (Or.inr ⟨_, List.mem_of_getElem? (i := 0) rfl, rfl⟩) sud_nil)))
      have rb := fun Q9 z => rb Q9 (rc _ z)
      exact ⟨0, σ11, h, ok, fr, fun Q9 hq => rb Q9 hq⟩
    have h := h.1 hc
    have rb := fun Q9 z => rb Q9 (br_v hc z)
    by_cases hc : (σ 15 o1 0) = 7
    · have h := h.2 hc
      have rb := fun Q9 z => rb Q9 (br_u hc z)
      obtain ⟨σ10, e9⟩ : ∃ s : St, s = up3 σ 15 o1 30 1 := ⟨_, rfl⟩
      have h := h σ10 e9
      have rb := fun Q9 z => rb Q9 (nm_n e9 z)
      have ok : okS σ10 := by rw [e9]; exact (ok_z ok (by decide) (Or.inr rfl))
      have fr : Fr (mF [56, 66, 67] [(71, o1), (72, o1), (73, o1)] [(14, [42, 43, 44, 45, 46, 47, 48, 49, 50, 51, 52, 53, 54, 55, 56, 57, 59, 60, 61, 62])] [(15, o1, [26, 27, 28, 29, 30, 35, 38, 39])]) σ σ10 := by rw [e9]; exact (Fr.up fr (mF_D (List.mem_of_getElem? (i := 0) rfl) rfl))
      exact ⟨0, σ10, h, ok, fr, fun Q9 hq => rb Q9 hq⟩
    have h := h.1 hc
    have rb := fun Q9 z => rb Q9 (br_v hc z)
    exact ⟨0, σ, h, ok, fr, fun Q9 hq => rb Q9 hq⟩
  have h := h.2 hc
  have rb := fun Q9 z => rb Q9 (br_f hc z)
  obtain ⟨σ12, h, ok, fr9, rc⟩ := e14_answer ho1 ok h
  have fr := fr.tr (fr9.sub (mF_sub rfl (sub_c (Or.inr (List.mem_of_getElem? (i := 0) rfl)) (sub_c (Or.inr (List.mem_of_getElem? (i := 1) rfl)) (sub_c (Or.inr (List.mem_of_getElem? (i := 2) rfl)) sub_nil))) rfl (sud_c (Or.inr ⟨_, List.mem_of_getElem? (i := 0) rfl, rfl⟩) sud_nil)))
  have rb := fun Q9 z => rb Q9 (rc _ z)
  exact ⟨0, σ12, h, ok, fr, fun Q9 hq => rb Q9 hq⟩
set_option maxHeartbeats 4000000 in
theorem e14_oneRequest {σ : St} {o1 : Nat} {Q : Int32 → St → Prop} (ho1 : o1 < 16) (ok : okS σ) (h : w14_oneRequest σ o1 Q) : (∃ (r : Int32) (σ' : St), Q r σ' ∧ okS σ' ∧ Fr (mF [56, 66, 67] [(71, o1), (72, o1), (73, o1)] [(14, [42, 43, 44, 45, 46, 47, 48, 49, 50, 51, 52, 53, 54, 55, 56, 57, 59, 60, 61, 62])] [(15, o1, [26, 27, 28, 29, 30, 35, 38, 39])]) σ σ' ∧ ∀ (Q9 : Int32 → St → Prop), Q9 r σ' → w14_oneRequest σ o1 Q9) := by
  have fr : Fr (mF [56, 66, 67] [(71, o1), (72, o1), (73, o1)] [(14, [42, 43, 44, 45, 46, 47, 48, 49, 50, 51, 52, 53, 54, 55, 56, 57, 59, 60, 61, 62])] [(15, o1, [26, 27, 28, 29, 30, 35, 38, 39])]) σ σ := Fr.rf
  have rb : ∀ (Q9 : Int32 → St → Prop), w14_oneRequest σ o1 Q9 → w14_oneRequest σ o1 Q9 := fun _ z => z
  obtain ⟨n9, h⟩ := h
  rcases e14_oneRequest_L0 ho1 n9 ok h with ⟨σ8, h, ok, fr9, rc⟩
  · have rb := fun Q9 z => rb Q9 (Exists.intro n9 (rc _ _ z))
    have fr := fr.tr (fr9.sub (mF_sub rfl (sub_c (Or.inr (List.mem_of_getElem? (i := 1) rfl)) (sub_c (Or.inr (List.mem_of_getElem? (i := 2) rfl)) sub_nil)) rfl (sud_c (Or.inr ⟨_, List.mem_of_getElem? (i := 0) rfl, rfl⟩) sud_nil)))
    by_cases hc : (σ8 15 o1 38) = 0
    · have h := h.2 hc
      have rb := fun Q9 z => rb Q9 (br_u hc z)
      obtain ⟨r13, h, rc⟩ := e14_headBytes ho1 ok h
      have rb := fun Q9 z => rb Q9 (rc _ z)
      obtain ⟨r9, σ9, h, ok, fr9, rc⟩ := e14_oneRequest_J76 ho1 ok h
      exact ⟨r9, σ9, h, ok, fr.tr (fr9.sub (mF_sub rfl (sub_c (Or.inr (List.mem_of_getElem? (i := 0) rfl)) (sub_c (Or.inr (List.mem_of_getElem? (i := 1) rfl)) (sub_c (Or.inr (List.mem_of_getElem? (i := 2) rfl)) sub_nil))) rfl (sud_c (Or.inr ⟨_, List.mem_of_getElem? (i := 0) rfl, rfl⟩) sud_nil))), fun Q9 hq => rb Q9 (rc Q9 hq)⟩
    have h := h.1 hc
    have rb := fun Q9 z => rb Q9 (br_v hc z)
    obtain ⟨r9, σ9, h, ok, fr9, rc⟩ := e14_oneRequest_J76 ho1 ok h
    exact ⟨r9, σ9, h, ok, fr.tr (fr9.sub (mF_sub rfl (sub_c (Or.inr (List.mem_of_getElem? (i := 0) rfl)) (sub_c (Or.inr (List.mem_of_getElem? (i := 1) rfl)) (sub_c (Or.inr (List.mem_of_getElem? (i := 2) rfl)) sub_nil))) rfl (sud_c (Or.inr ⟨_, List.mem_of_getElem? (i := 0) rfl, rfl⟩) sud_nil))), fun Q9 hq => rb Q9 (rc Q9 hq)⟩
/-! WebHostModel.runOut(LWebHostModel$Connection;)V -/
set_option maxHeartbeats 4000000 in
theorem e14_runOut_J114 {σ : St} {o1 : Nat} {Q : St → Prop} (ho1 : o1 < 16) (ok : okS σ) (h : w14_runOut_J114 σ o1 Q) : (∃ (σ' : St), Q σ' ∧ okS σ' ∧ Fr (mF [56, 57, 58, 59, 60, 68] [] [(14, [18, 23, 24, 25]), (17, [0, 1, 2, 3, 4, 5])] [(15, o1, [0, 5, 6, 11, 13, 17, 18, 19, 20, 21, 22, 24, 31, 37, 39])]) σ σ' ∧ ∀ (Q9 : St → Prop), Q9 σ' → w14_runOut_J114 σ o1 Q9) := by
  have fr : Fr (mF [56, 57, 58, 59, 60, 68] [] [(14, [18, 23, 24, 25]), (17, [0, 1, 2, 3, 4, 5])] [(15, o1, [0, 5, 6, 11, 13, 17, 18, 19, 20, 21, 22, 24, 31, 37, 39])]) σ σ := Fr.rf
  have rb : ∀ (Q9 : St → Prop), w14_runOut_J114 σ o1 Q9 → w14_runOut_J114 σ o1 Q9 := fun _ z => z
  obtain ⟨σ3, e9⟩ : ∃ s : St, s = up3 σ 15 o1 11 (σ 15 o1 10) := ⟨_, rfl⟩
  have h := h σ3 e9
  have rb := fun Q9 z => rb Q9 (nm_n e9 z)
  have ok : okS σ3 := by rw [e9]; exact (ok_n ok (by decide))
  have fr : Fr (mF [56, 57, 58, 59, 60, 68] [] [(14, [18, 23, 24, 25]), (17, [0, 1, 2, 3, 4, 5])] [(15, o1, [0, 5, 6, 11, 13, 17, 18, 19, 20, 21, 22, 24, 31, 37, 39])]) σ σ3 := by rw [e9]; exact (Fr.up fr (mF_D (List.mem_of_getElem? (i := 0) rfl) rfl))
  obtain ⟨σ4, e9⟩ : ∃ s : St, s = up3 σ3 15 o1 18 0 := ⟨_, rfl⟩
  have h := h σ4 e9
  have rb := fun Q9 z => rb Q9 (nm_n e9 z)
  have ok : okS σ4 := by rw [e9]; exact (ok_z ok (by decide) (Or.inl rfl))
  have fr : Fr (mF [56, 57, 58, 59, 60, 68] [] [(14, [18, 23, 24, 25]), (17, [0, 1, 2, 3, 4, 5])] [(15, o1, [0, 5, 6, 11, 13, 17, 18, 19, 20, 21, 22, 24, 31, 37, 39])]) σ σ4 := by rw [e9]; exact (Fr.up fr (mF_D (List.mem_of_getElem? (i := 0) rfl) rfl))
  obtain ⟨σ5, e9⟩ : ∃ s : St, s = up3 σ4 15 o1 24 0 := ⟨_, rfl⟩
  have h := h σ5 e9
  have rb := fun Q9 z => rb Q9 (nm_n e9 z)
  have ok : okS σ5 := by rw [e9]; exact (ok_n ok (by decide))
  have fr : Fr (mF [56, 57, 58, 59, 60, 68] [] [(14, [18, 23, 24, 25]), (17, [0, 1, 2, 3, 4, 5])] [(15, o1, [0, 5, 6, 11, 13, 17, 18, 19, 20, 21, 22, 24, 31, 37, 39])]) σ σ5 := by rw [e9]; exact (Fr.up fr (mF_D (List.mem_of_getElem? (i := 0) rfl) rfl))
  obtain ⟨σ6, e9⟩ : ∃ s : St, s = up3 σ5 15 o1 13 (imin 60000 (2 * (σ5 15 o1 13))) := ⟨_, rfl⟩
  have h := h σ6 e9
  have rb := fun Q9 z => rb Q9 (nm_n e9 z)
  have ok : okS σ6 := by rw [e9]; exact (ok_n ok (by decide))
  have fr : Fr (mF [56, 57, 58, 59, 60, 68] [] [(14, [18, 23, 24, 25]), (17, [0, 1, 2, 3, 4, 5])] [(15, o1, [0, 5, 6, 11, 13, 17, 18, 19, 20, 21, 22, 24, 31, 37, 39])]) σ σ6 := by rw [e9]; exact (Fr.up fr (mF_D (List.mem_of_getElem? (i := 0) rfl) rfl))
  obtain ⟨σ7, e9⟩ : ∃ s : St, s = up3 σ6 15 o1 5 (σ6 15 o1 4) := ⟨_, rfl⟩
  have h := h σ7 e9
  have rb := fun Q9 z => rb Q9 (nm_n e9 z)
  have ok : okS σ7 := by rw [e9]; exact (ok_n ok (by decide))
  have fr : Fr (mF [56, 57, 58, 59, 60, 68] [] [(14, [18, 23, 24, 25]), (17, [0, 1, 2, 3, 4, 5])] [(15, o1, [0, 5, 6, 11, 13, 17, 18, 19, 20, 21, 22, 24, 31, 37, 39])]) σ σ7 := by rw [e9]; exact (Fr.up fr (mF_D (List.mem_of_getElem? (i := 0) rfl) rfl))
  by_cases hc : (σ7 15 o1 0) = 1
  · have h := h.2 hc
    have rb := fun Q9 z => rb Q9 (br_u hc z)
    obtain ⟨σ12, h, ok, fr9, rc⟩ := e14_synAck ho1 ok h
    have fr := fr.tr (fr9.sub (mF_sub rfl sub_nil rfl (sud_c (Or.inr ⟨_, List.mem_of_getElem? (i := 0) rfl, rfl⟩) sud_nil)))
    have rb := fun Q9 z => rb Q9 (rc _ z)
    obtain ⟨σ13, h, ok, fr9, rc⟩ := e14_timerSet ho1 ok h
    have fr := fr.tr (fr9.sub (mF_sub rfl sub_nil rfl (sud_c (Or.inr ⟨_, List.mem_of_getElem? (i := 0) rfl, rfl⟩) sud_nil)))
    have rb := fun Q9 z => rb Q9 (rc _ z)
    exact ⟨σ13, h, ok, fr, fun Q9 hq => rb Q9 hq⟩
  have h := h.1 hc
  have rb := fun Q9 z => rb Q9 (br_v hc z)
  by_cases hc : (σ7 15 o1 7) = 0
  · have h := h.2 hc
    have rb := fun Q9 z => rb Q9 (br_u hc z)
    obtain ⟨σ10, h, ok, fr9, rc⟩ := e14_one ho1 ok h
    have fr := fr.tr (fr9.sub (mF_sub rfl sub_nil rfl (sud_c (Or.inr ⟨_, List.mem_of_getElem? (i := 0) rfl, rfl⟩) sud_nil)))
    have rb := fun Q9 z => rb Q9 (rc _ z)
    obtain ⟨σ11, h, ok, fr9, rc⟩ := e14_timerSet ho1 ok h
    have fr := fr.tr (fr9.sub (mF_sub rfl sub_nil rfl (sud_c (Or.inr ⟨_, List.mem_of_getElem? (i := 0) rfl, rfl⟩) sud_nil)))
    have rb := fun Q9 z => rb Q9 (rc _ z)
    exact ⟨σ11, h, ok, fr, fun Q9 hq => rb Q9 hq⟩
  have h := h.1 hc
  have rb := fun Q9 z => rb Q9 (br_v hc z)
  obtain ⟨σ8, h, ok, fr9, rc⟩ := e14_one ho1 ok h
  have fr := fr.tr (fr9.sub (mF_sub rfl sub_nil rfl (sud_c (Or.inr ⟨_, List.mem_of_getElem? (i := 0) rfl, rfl⟩) sud_nil)))
  have rb := fun Q9 z => rb Q9 (rc _ z)
  obtain ⟨σ9, h, ok, fr9, rc⟩ := e14_timerSet ho1 ok h
  have fr := fr.tr (fr9.sub (mF_sub rfl sub_nil rfl (sud_c (Or.inr ⟨_, List.mem_of_getElem? (i := 0) rfl, rfl⟩) sud_nil)))
  have rb := fun Q9 z => rb Q9 (rc _ z)
  exact ⟨σ9, h, ok, fr, fun Q9 hq => rb Q9 hq⟩
set_option maxHeartbeats 4000000 in
theorem e14_runOut_J33 {σ : St} {o1 : Nat} {xs0 : Int32} {xs1 : Int32} {Q : St → Prop} (ho1 : o1 < 16) (ok : okS σ) (h : w14_runOut_J33 σ o1 xs0 xs1 Q) : (∃ (σ' : St), Q σ' ∧ okS σ' ∧ Fr (mF [56, 57, 58, 59, 60, 68] [] [(14, [18, 23, 24, 25]), (17, [0, 1, 2, 3, 4, 5])] [(15, o1, [0, 5, 6, 11, 12, 13, 17, 18, 19, 20, 21, 22, 24, 31, 37, 39])]) σ σ' ∧ ∀ (Q9 : St → Prop), Q9 σ' → w14_runOut_J33 σ o1 xs0 xs1 Q9) := by
  have fr : Fr (mF [56, 57, 58, 59, 60, 68] [] [(14, [18, 23, 24, 25]), (17, [0, 1, 2, 3, 4, 5])] [(15, o1, [0, 5, 6, 11, 12, 13, 17, 18, 19, 20, 21, 22, 24, 31, 37, 39])]) σ σ := Fr.rf
  have rb : ∀ (Q9 : St → Prop), w14_runOut_J33 σ o1 xs0 xs1 Q9 → w14_runOut_J33 σ o1 xs0 xs1 Q9 := fun _ z => z
  by_cases hc : xs1 ≤ xs0
  · have h := h.1 hc
    have rb := fun Q9 z => rb Q9 (br_t hc z)
    by_cases hc : (σ 15 o1 0) = 1
    · have h := h.1 hc
      have rb := fun Q9 z => rb Q9 (br_t hc z)
      obtain ⟨σ9, h, ok, fr9, rc⟩ := e14_runOut_J114 ho1 ok h
      exact ⟨σ9, h, ok, fr.tr (fr9.sub (mF_sub rfl sub_nil rfl (sud_c (Or.inr ⟨_, List.mem_of_getElem? (i := 0) rfl, rfl⟩) sud_nil))), fun Q9 hq => rb Q9 (rc Q9 hq)⟩
    have h := h.2 hc
    have rb := fun Q9 z => rb Q9 (br_f hc z)
    obtain ⟨σ14, e9⟩ : ∃ s : St, s = up3 σ 15 o1 12 (imax (((σ 15 o1 6) - (σ 15 o1 4)) / 2) (2 * (σ 15 o1 10))) := ⟨_, rfl⟩
    have h := h σ14 e9
    have rb := fun Q9 z => rb Q9 (nm_n e9 z)
    have ok : okS σ14 := by rw [e9]; exact (ok_n ok (by decide))
    have fr : Fr (mF [56, 57, 58, 59, 60, 68] [] [(14, [18, 23, 24, 25]), (17, [0, 1, 2, 3, 4, 5])] [(15, o1, [0, 5, 6, 11, 12, 13, 17, 18, 19, 20, 21, 22, 24, 31, 37, 39])]) σ σ14 := by rw [e9]; exact (Fr.up fr (mF_D (List.mem_of_getElem? (i := 0) rfl) rfl))
    obtain ⟨σ9, h, ok, fr9, rc⟩ := e14_runOut_J114 ho1 ok h
    exact ⟨σ9, h, ok, fr.tr (fr9.sub (mF_sub rfl sub_nil rfl (sud_c (Or.inr ⟨_, List.mem_of_getElem? (i := 0) rfl, rfl⟩) sud_nil))), fun Q9 hq => rb Q9 (rc Q9 hq)⟩
  have h := h.2 hc
  have rb := fun Q9 z => rb Q9 (br_f hc z)
  obtain ⟨hc, h⟩ := h
  have rb := fun Q9 z => rb Q9 (And.intro hc z)
  obtain ⟨hc, h⟩ := h
  have rb := fun Q9 z => rb Q9 (And.intro hc z)
  obtain ⟨σ15, e9⟩ : ∃ s : St, s = up3 σ 56 0 (2 : Int32).toNatClampNeg ((σ 56 0 (2 : Int32).toNatClampNeg) + 1) := ⟨_, rfl⟩
  have h := h σ15 e9
  have rb := fun Q9 z => rb Q9 (nm_n e9 z)
  have ok : okS σ15 := by rw [e9]; exact (ok_n ok (tyk_a 56 0 (by decide) (by decide) _))
  have fr : Fr (mF [56, 57, 58, 59, 60, 68] [] [(14, [18, 23, 24, 25]), (17, [0, 1, 2, 3, 4, 5])] [(15, o1, [0, 5, 6, 11, 12, 13, 17, 18, 19, 20, 21, 22, 24, 31, 37, 39])]) σ σ15 := by rw [e9]; exact (Fr.up fr (mF_A rfl))
  obtain ⟨r16, h, rc⟩ := e15_open ho1 ok h
  have rb := fun Q9 z => rb Q9 (rc _ z)
  obtain ⟨σ17, h, ok, fr9, rc⟩ := e14_segmentOut ok h
  have fr := fr.tr (fr9.sub (mF_sub rfl sub_nil rfl sud_nil))
  have rb := fun Q9 z => rb Q9 (rc _ z)
  obtain ⟨σ18, h, ok, fr9, rc⟩ := e14_gone ho1 ok h
  have fr := fr.tr (fr9.sub (mF_sub rfl sub_nil rfl (sud_c (Or.inr ⟨_, List.mem_of_getElem? (i := 0) rfl, rfl⟩) sud_nil)))
  have rb := fun Q9 z => rb Q9 (rc _ z)
  exact ⟨σ18, h, ok, fr, fun Q9 hq => rb Q9 hq⟩
set_option maxHeartbeats 4000000 in
theorem e14_runOut {σ : St} {o1 : Nat} {Q : St → Prop} (ho1 : o1 < 16) (ok : okS σ) (h : w14_runOut σ o1 Q) : (∃ (σ' : St), Q σ' ∧ okS σ' ∧ Fr (mF [56, 57, 58, 59, 60, 68] [] [(14, [18, 23, 24, 25]), (17, [0, 1, 2, 3, 4, 5])] [(15, o1, [0, 5, 6, 11, 12, 13, 17, 18, 19, 20, 21, 22, 23, 24, 31, 37, 39])]) σ σ' ∧ ∀ (Q9 : St → Prop), Q9 σ' → w14_runOut σ o1 Q9) := by
  have fr : Fr (mF [56, 57, 58, 59, 60, 68] [] [(14, [18, 23, 24, 25]), (17, [0, 1, 2, 3, 4, 5])] [(15, o1, [0, 5, 6, 11, 12, 13, 17, 18, 19, 20, 21, 22, 23, 24, 31, 37, 39])]) σ σ := Fr.rf
  have rb : ∀ (Q9 : St → Prop), w14_runOut σ o1 Q9 → w14_runOut σ o1 Q9 := fun _ z => z
  obtain ⟨σ1, e9⟩ : ∃ s : St, s = up3 σ 15 o1 21 0 := ⟨_, rfl⟩
  have h := h σ1 e9
  have rb := fun Q9 z => rb Q9 (nm_n e9 z)
  have ok : okS σ1 := by rw [e9]; exact (ok_z ok (by decide) (Or.inl rfl))
  have fr : Fr (mF [56, 57, 58, 59, 60, 68] [] [(14, [18, 23, 24, 25]), (17, [0, 1, 2, 3, 4, 5])] [(15, o1, [0, 5, 6, 11, 12, 13, 17, 18, 19, 20, 21, 22, 23, 24, 31, 37, 39])]) σ σ1 := by rw [e9]; exact (Fr.up fr (mF_D (List.mem_of_getElem? (i := 0) rfl) rfl))
  obtain ⟨σ2, e9⟩ : ∃ s : St, s = up3 σ1 15 o1 23 ((σ1 15 o1 23) + 1) := ⟨_, rfl⟩
  have h := h σ2 e9
  have rb := fun Q9 z => rb Q9 (nm_n e9 z)
  have ok : okS σ2 := by rw [e9]; exact (ok_n ok (by decide))
  have fr : Fr (mF [56, 57, 58, 59, 60, 68] [] [(14, [18, 23, 24, 25]), (17, [0, 1, 2, 3, 4, 5])] [(15, o1, [0, 5, 6, 11, 12, 13, 17, 18, 19, 20, 21, 22, 23, 24, 31, 37, 39])]) σ σ2 := by rw [e9]; exact (Fr.up fr (mF_D (List.mem_of_getElem? (i := 0) rfl) rfl))
  by_cases hc : (σ2 15 o1 0) = 1
  · have h := h.2 hc
    have rb := fun Q9 z => rb Q9 (br_u hc z)
    obtain ⟨σ9, h, ok, fr9, rc⟩ := e14_runOut_J33 ho1 ok h
    exact ⟨σ9, h, ok, fr.tr (fr9.sub (mF_sub rfl sub_nil rfl (sud_c (Or.inr ⟨_, List.mem_of_getElem? (i := 0) rfl, rfl⟩) sud_nil))), fun Q9 hq => rb Q9 (rc Q9 hq)⟩
  have h := h.1 hc
  have rb := fun Q9 z => rb Q9 (br_v hc z)
  obtain ⟨σ9, h, ok, fr9, rc⟩ := e14_runOut_J33 ho1 ok h
  exact ⟨σ9, h, ok, fr.tr (fr9.sub (mF_sub rfl sub_nil rfl (sud_c (Or.inr ⟨_, List.mem_of_getElem? (i := 0) rfl, rfl⟩) sud_nil))), fun Q9 hq => rb Q9 (rc Q9 hq)⟩
/-! WebHostModel.sendAll(LWebHostModel$Connection;)V -/
set_option maxHeartbeats 4000000 in
theorem e14_sendAll_J152 {σ : St} {o1 : Nat} {x2 : Int32} {Q : St → Prop} {K17 : St → Int32 → Prop} (ho1 : o1 < 16) (ok : okS σ) (h : w14_sendAll_J152 σ o1 x2 Q K17) : (∃ (σ' : St) (x2' : Int32), K17 σ' x2' ∧ okS σ' ∧ Fr (mF [] [] [] []) σ σ' ∧ ∀ (Q9 : St → Prop) (K9_17 : St → Int32 → Prop), K9_17 σ' x2' → w14_sendAll_J152 σ o1 x2 Q9 K9_17) := by
  have fr : Fr (mF [] [] [] []) σ σ := Fr.rf
  have rb : ∀ (Q9 : St → Prop) (K9_17 : St → Int32 → Prop), w14_sendAll_J152 σ o1 x2 Q9 K9_17 → w14_sendAll_J152 σ o1 x2 Q9 K9_17 := fun _ _ z => z
  by_cases hc : x2 = 0
  · have h := h.1 hc
    have rb := fun Q9 K9_17 z => rb Q9 K9_17 (br_t hc z)
    exact ⟨σ, 0, h, ok, fr, fun Q9 K9_17 hq => rb Q9 K9_17 hq⟩
  have h := h.2 hc
  have rb := fun Q9 K9_17 z => rb Q9 K9_17 (br_f hc z)
  obtain ⟨r3, h, rc⟩ := e15_left ho1 ok h
  have rb := fun Q9 K9_17 z => rb Q9 K9_17 (rc _ z)
  by_cases hc : r3 ≤ 0
  · have h := h.1 hc
    have rb := fun Q9 K9_17 z => rb Q9 K9_17 (br_t hc z)
    exact ⟨σ, 0, h, ok, fr, fun Q9 K9_17 hq => rb Q9 K9_17 hq⟩
  have h := h.2 hc
  have rb := fun Q9 K9_17 z => rb Q9 K9_17 (br_f hc z)
  exact ⟨σ, 1, h, ok, fr, fun Q9 K9_17 hq => rb Q9 K9_17 hq⟩
set_option maxHeartbeats 4000000 in
theorem e14_sendAll_J101 {σ : St} {o1 : Nat} {x3 : Int32} {x4 : Int32} {x5 : Int32} {xs0 : Int32} {xs1 : Int32} {Q : St → Prop} {K17 : St → Int32 → Prop} (ho1 : o1 < 16) (ok : okS σ) (h : w14_sendAll_J101 σ o1 x3 x4 x5 xs0 xs1 Q K17) : (∃ (σ' : St) (x2' : Int32), K17 σ' x2' ∧ okS σ' ∧ Fr (mF [56, 57, 58, 59, 60, 68] [] [(14, [18, 23, 24, 25]), (17, [0, 1, 2, 3, 4, 5])] [(15, o1, [0, 5, 6, 17, 19, 20, 21, 22, 31, 37, 39])]) σ σ' ∧ ∀ (Q9 : St → Prop) (K9_17 : St → Int32 → Prop), K9_17 σ' x2' → w14_sendAll_J101 σ o1 x3 x4 x5 xs0 xs1 Q9 K9_17) := by
  have fr : Fr (mF [56, 57, 58, 59, 60, 68] [] [(14, [18, 23, 24, 25]), (17, [0, 1, 2, 3, 4, 5])] [(15, o1, [0, 5, 6, 17, 19, 20, 21, 22, 31, 37, 39])]) σ σ := Fr.rf
  have rb : ∀ (Q9 : St → Prop) (K9_17 : St → Int32 → Prop), w14_sendAll_J101 σ o1 x3 x4 x5 xs0 xs1 Q9 K9_17 → w14_sendAll_J101 σ o1 x3 x4 x5 xs0 xs1 Q9 K9_17 := fun _ _ z => z
  by_cases hc : (xs1 + xs0) ≤ 0
  · have h := h.1 hc
    have rb := fun Q9 K9_17 z => rb Q9 K9_17 (br_t hc z)
    by_cases hc : (0 : Int32) = 0
    · have h := h.1 hc
      have rb := fun Q9 K9_17 z => rb Q9 K9_17 (br_t hc z)
      rcases e14_sendAll_J152 ho1 ok h with ⟨σ', x2, h, ok, fr9, rc⟩
      · have fr := fr.tr (fr9.sub (mF_sub rfl sub_nil rfl sud_nil))
        exact ⟨σ', x2, h, ok, fr, fun Q9 K9_17 hq => rb Q9 K9_17 (rc _ _ hq)⟩
    have h := h.2 hc
    have rb := fun Q9 K9_17 z => rb Q9 K9_17 (br_f hc z)
    obtain ⟨σ4, h, ok, fr9, rc⟩ := e14_one ho1 ok h
    have fr := fr.tr (fr9.sub (mF_sub rfl sub_nil rfl (sud_c (Or.inr ⟨_, List.mem_of_getElem? (i := 0) rfl, rfl⟩) sud_nil)))
    have rb := fun Q9 K9_17 z => rb Q9 K9_17 (rc _ z)
    rcases e14_sendAll_J152 ho1 ok h with ⟨σ', x2, h, ok, fr9, rc⟩
    · have fr := fr.tr (fr9.sub (mF_sub rfl sub_nil rfl sud_nil))
      exact ⟨σ', x2, h, ok, fr, fun Q9 K9_17 hq => rb Q9 K9_17 (rc _ _ hq)⟩
  have h := h.2 hc
  have rb := fun Q9 K9_17 z => rb Q9 K9_17 (br_f hc z)
  by_cases hc : x5 = (σ 15 o1 10)
  · have h := h.1 hc
    have rb := fun Q9 K9_17 z => rb Q9 K9_17 (br_t hc z)
    by_cases hc : (1 : Int32) = 0
    · have h := h.1 hc
      have rb := fun Q9 K9_17 z => rb Q9 K9_17 (br_t hc z)
      rcases e14_sendAll_J152 ho1 ok h with ⟨σ', x2, h, ok, fr9, rc⟩
      · have fr := fr.tr (fr9.sub (mF_sub rfl sub_nil rfl sud_nil))
        exact ⟨σ', x2, h, ok, fr, fun Q9 K9_17 hq => rb Q9 K9_17 (rc _ _ hq)⟩
    have h := h.2 hc
    have rb := fun Q9 K9_17 z => rb Q9 K9_17 (br_f hc z)
    obtain ⟨σ5, h, ok, fr9, rc⟩ := e14_one ho1 ok h
    have fr := fr.tr (fr9.sub (mF_sub rfl sub_nil rfl (sud_c (Or.inr ⟨_, List.mem_of_getElem? (i := 0) rfl, rfl⟩) sud_nil)))
    have rb := fun Q9 K9_17 z => rb Q9 K9_17 (rc _ z)
    rcases e14_sendAll_J152 ho1 ok h with ⟨σ', x2, h, ok, fr9, rc⟩
    · have fr := fr.tr (fr9.sub (mF_sub rfl sub_nil rfl sud_nil))
      exact ⟨σ', x2, h, ok, fr, fun Q9 K9_17 hq => rb Q9 K9_17 (rc _ _ hq)⟩
  have h := h.2 hc
  have rb := fun Q9 K9_17 z => rb Q9 K9_17 (br_f hc z)
  obtain ⟨r6, h, rc⟩ := e15_left ho1 ok h
  have rb := fun Q9 K9_17 z => rb Q9 K9_17 (rc _ z)
  by_cases hc : (xs1 + xs0) = r6
  · have h := h.1 hc
    have rb := fun Q9 K9_17 z => rb Q9 K9_17 (br_t hc z)
    by_cases hc : (1 : Int32) = 0
    · have h := h.1 hc
      have rb := fun Q9 K9_17 z => rb Q9 K9_17 (br_t hc z)
      rcases e14_sendAll_J152 ho1 ok h with ⟨σ', x2, h, ok, fr9, rc⟩
      · have fr := fr.tr (fr9.sub (mF_sub rfl sub_nil rfl sud_nil))
        exact ⟨σ', x2, h, ok, fr, fun Q9 K9_17 hq => rb Q9 K9_17 (rc _ _ hq)⟩
    have h := h.2 hc
    have rb := fun Q9 K9_17 z => rb Q9 K9_17 (br_f hc z)
    obtain ⟨σ7, h, ok, fr9, rc⟩ := e14_one ho1 ok h
    have fr := fr.tr (fr9.sub (mF_sub rfl sub_nil rfl (sud_c (Or.inr ⟨_, List.mem_of_getElem? (i := 0) rfl, rfl⟩) sud_nil)))
    have rb := fun Q9 K9_17 z => rb Q9 K9_17 (rc _ z)
    rcases e14_sendAll_J152 ho1 ok h with ⟨σ', x2, h, ok, fr9, rc⟩
    · have fr := fr.tr (fr9.sub (mF_sub rfl sub_nil rfl sud_nil))
      exact ⟨σ', x2, h, ok, fr, fun Q9 K9_17 hq => rb Q9 K9_17 (rc _ _ hq)⟩
  have h := h.2 hc
  have rb := fun Q9 K9_17 z => rb Q9 K9_17 (br_f hc z)
  by_cases hc : x3 = 0
  · have h := h.2 hc
    have rb := fun Q9 K9_17 z => rb Q9 K9_17 (br_u hc z)
    by_cases hc : (1 : Int32) = 0
    · have h := h.1 hc
      have rb := fun Q9 K9_17 z => rb Q9 K9_17 (br_t hc z)
      rcases e14_sendAll_J152 ho1 ok h with ⟨σ', x2, h, ok, fr9, rc⟩
      · have fr := fr.tr (fr9.sub (mF_sub rfl sub_nil rfl sud_nil))
        exact ⟨σ', x2, h, ok, fr, fun Q9 K9_17 hq => rb Q9 K9_17 (rc _ _ hq)⟩
    have h := h.2 hc
    have rb := fun Q9 K9_17 z => rb Q9 K9_17 (br_f hc z)
    obtain ⟨σ9, h, ok, fr9, rc⟩ := e14_one ho1 ok h
    have fr := fr.tr (fr9.sub (mF_sub rfl sub_nil rfl (sud_c (Or.inr ⟨_, List.mem_of_getElem? (i := 0) rfl, rfl⟩) sud_nil)))
    have rb := fun Q9 K9_17 z => rb Q9 K9_17 (rc _ z)
    rcases e14_sendAll_J152 ho1 ok h with ⟨σ', x2, h, ok, fr9, rc⟩
    · have fr := fr.tr (fr9.sub (mF_sub rfl sub_nil rfl sud_nil))
      exact ⟨σ', x2, h, ok, fr, fun Q9 K9_17 hq => rb Q9 K9_17 (rc _ _ hq)⟩
  have h := h.1 hc
  have rb := fun Q9 K9_17 z => rb Q9 K9_17 (br_v hc z)
  by_cases hc : (0 : Int32) = 0
  · have h := h.1 hc
    have rb := fun Q9 K9_17 z => rb Q9 K9_17 (br_t hc z)
    rcases e14_sendAll_J152 ho1 ok h with ⟨σ', x2, h, ok, fr9, rc⟩
    · have fr := fr.tr (fr9.sub (mF_sub rfl sub_nil rfl sud_nil))
      exact ⟨σ', x2, h, ok, fr, fun Q9 K9_17 hq => rb Q9 K9_17 (rc _ _ hq)⟩
  have h := h.2 hc
  have rb := fun Q9 K9_17 z => rb Q9 K9_17 (br_f hc z)
  obtain ⟨σ8, h, ok, fr9, rc⟩ := e14_one ho1 ok h
  have fr := fr.tr (fr9.sub (mF_sub rfl sub_nil rfl (sud_c (Or.inr ⟨_, List.mem_of_getElem? (i := 0) rfl, rfl⟩) sud_nil)))
  have rb := fun Q9 K9_17 z => rb Q9 K9_17 (rc _ z)
  rcases e14_sendAll_J152 ho1 ok h with ⟨σ', x2, h, ok, fr9, rc⟩
  · have fr := fr.tr (fr9.sub (mF_sub rfl sub_nil rfl sud_nil))
    exact ⟨σ', x2, h, ok, fr, fun Q9 K9_17 hq => rb Q9 K9_17 (rc _ _ hq)⟩
set_option maxHeartbeats 4000000 in
theorem e14_sendAll_L17 {o1 : Nat} {Q : St → Prop} {K176 : St → Prop} (ho1 : o1 < 16) :
    ∀ (n : Nat) {σ : St} {x2 : Int32} (ok : okS σ), w14_sendAll_L17 o1 Q K176 n σ x2 → (∃ (σ' : St), K176 σ' ∧ okS σ' ∧ Fr (mF [56, 57, 58, 59, 60, 68] [] [(14, [18, 23, 24, 25]), (17, [0, 1, 2, 3, 4, 5])] [(15, o1, [0, 5, 6, 17, 19, 20, 21, 22, 31, 37, 39])]) σ σ' ∧ ∀ (Q9 : St → Prop) (K9_176 : St → Prop), K9_176 σ' → w14_sendAll_L17 o1 Q9 K9_176 n σ x2) := by
  intro n
  induction n with
  | zero =>
    intro σ x2 ok h
    exact False.elim h
  | succ n ih =>
    intro σ x2 ok h
    have fr : Fr (mF [56, 57, 58, 59, 60, 68] [] [(14, [18, 23, 24, 25]), (17, [0, 1, 2, 3, 4, 5])] [(15, o1, [0, 5, 6, 17, 19, 20, 21, 22, 31, 37, 39])]) σ σ := Fr.rf
    have rb : ∀ (Q9 : St → Prop) (K9_176 : St → Prop), w14_sendAll_L17 o1 Q9 K9_176 (n + 1) σ x2 → w14_sendAll_L17 o1 Q9 K9_176 (n + 1) σ x2 := fun _ _ z => z
    by_cases hc : x2 = 0
    · have h := h.1 hc
      have rb := fun Q9 K9_176 z => rb Q9 K9_176 (br_t hc z)
      exact ⟨σ, h, ok, fr, fun Q9 K9_176 hq => rb Q9 K9_176 hq⟩
    have h := h.2 hc
    have rb := fun Q9 K9_176 z => rb Q9 K9_176 (br_f hc z)
    obtain ⟨r2, h, rc⟩ := e14_dataWithin ho1 ok h
    have rb := fun Q9 K9_176 z => rb Q9 K9_176 (rc _ z)
    have h := h ((ok 15 o1 30).1 (by decide))
    have rb := fun Q9 K9_176 z => rb Q9 K9_176 (im_n z)
    by_cases hc : (σ 15 o1 30) = 0
    · have h := h.1 hc
      have rb := fun Q9 K9_176 z => rb Q9 K9_176 (br_t hc z)
      by_cases hc : (0 : Int32) = 0
      · have h := h.1 hc
        have rb := fun Q9 K9_176 z => rb Q9 K9_176 (br_t hc z)
        rcases e14_sendAll_J101 ho1 ok h with ⟨σ', x2, h, ok, fr9, rc⟩
        · have fr := fr.tr (fr9.sub (mF_sub rfl sub_nil rfl (sud_c (Or.inr ⟨_, List.mem_of_getElem? (i := 0) rfl, rfl⟩) sud_nil)))
          rcases ih ok h with ⟨σ', h, ok, fr9, rd⟩
          · exact ⟨σ', h, ok, fr.tr fr9, fun Q9 K9_176 hq => rb Q9 K9_176 (rc _ _ (rd Q9 K9_176 hq))⟩
      have h := h.2 hc
      have rb := fun Q9 K9_176 z => rb Q9 K9_176 (br_f hc z)
      rcases e14_sendAll_J101 ho1 ok h with ⟨σ', x2, h, ok, fr9, rc⟩
      · have fr := fr.tr (fr9.sub (mF_sub rfl sub_nil rfl (sud_c (Or.inr ⟨_, List.mem_of_getElem? (i := 0) rfl, rfl⟩) sud_nil)))
        rcases ih ok h with ⟨σ', h, ok, fr9, rd⟩
        · exact ⟨σ', h, ok, fr.tr fr9, fun Q9 K9_176 hq => rb Q9 K9_176 (rc _ _ (rd Q9 K9_176 hq))⟩
    have h := h.2 hc
    have rb := fun Q9 K9_176 z => rb Q9 K9_176 (br_f hc z)
    obtain ⟨r10, h, rc⟩ := e15_behind ho1 ok h
    have rb := fun Q9 K9_176 z => rb Q9 K9_176 (rc _ z)
    by_cases hc : ((σ 15 o1 5) + r2) = r10
    · have h := h.2 hc
      have rb := fun Q9 K9_176 z => rb Q9 K9_176 (br_u hc z)
      by_cases hc : ((imin (σ 15 o1 11) (σ 15 o1 7)) - ((σ 15 o1 5) - (σ 15 o1 4))) ≤ r2
      · have h := h.1 hc
        have rb := fun Q9 K9_176 z => rb Q9 K9_176 (br_t hc z)
        by_cases hc : (0 : Int32) = 0
        · have h := h.1 hc
          have rb := fun Q9 K9_176 z => rb Q9 K9_176 (br_t hc z)
          rcases e14_sendAll_J101 ho1 ok h with ⟨σ', x2, h, ok, fr9, rc⟩
          · have fr := fr.tr (fr9.sub (mF_sub rfl sub_nil rfl (sud_c (Or.inr ⟨_, List.mem_of_getElem? (i := 0) rfl, rfl⟩) sud_nil)))
            rcases ih ok h with ⟨σ', h, ok, fr9, rd⟩
            · exact ⟨σ', h, ok, fr.tr fr9, fun Q9 K9_176 hq => rb Q9 K9_176 (rc _ _ (rd Q9 K9_176 hq))⟩
        have h := h.2 hc
        have rb := fun Q9 K9_176 z => rb Q9 K9_176 (br_f hc z)
        rcases e14_sendAll_J101 ho1 ok h with ⟨σ', x2, h, ok, fr9, rc⟩
        · have fr := fr.tr (fr9.sub (mF_sub rfl sub_nil rfl (sud_c (Or.inr ⟨_, List.mem_of_getElem? (i := 0) rfl, rfl⟩) sud_nil)))
          rcases ih ok h with ⟨σ', h, ok, fr9, rd⟩
          · exact ⟨σ', h, ok, fr.tr fr9, fun Q9 K9_176 hq => rb Q9 K9_176 (rc _ _ (rd Q9 K9_176 hq))⟩
      have h := h.2 hc
      have rb := fun Q9 K9_176 z => rb Q9 K9_176 (br_f hc z)
      by_cases hc : (1 : Int32) = 0
      · have h := h.1 hc
        have rb := fun Q9 K9_176 z => rb Q9 K9_176 (br_t hc z)
        rcases e14_sendAll_J101 ho1 ok h with ⟨σ', x2, h, ok, fr9, rc⟩
        · have fr := fr.tr (fr9.sub (mF_sub rfl sub_nil rfl (sud_c (Or.inr ⟨_, List.mem_of_getElem? (i := 0) rfl, rfl⟩) sud_nil)))
          rcases ih ok h with ⟨σ', h, ok, fr9, rd⟩
          · exact ⟨σ', h, ok, fr.tr fr9, fun Q9 K9_176 hq => rb Q9 K9_176 (rc _ _ (rd Q9 K9_176 hq))⟩
      have h := h.2 hc
      have rb := fun Q9 K9_176 z => rb Q9 K9_176 (br_f hc z)
      rcases e14_sendAll_J101 ho1 ok h with ⟨σ', x2, h, ok, fr9, rc⟩
      · have fr := fr.tr (fr9.sub (mF_sub rfl sub_nil rfl (sud_c (Or.inr ⟨_, List.mem_of_getElem? (i := 0) rfl, rfl⟩) sud_nil)))
        rcases ih ok h with ⟨σ', h, ok, fr9, rd⟩
        · exact ⟨σ', h, ok, fr.tr fr9, fun Q9 K9_176 hq => rb Q9 K9_176 (rc _ _ (rd Q9 K9_176 hq))⟩
    have h := h.1 hc
    have rb := fun Q9 K9_176 z => rb Q9 K9_176 (br_v hc z)
    by_cases hc : (0 : Int32) = 0
    · have h := h.1 hc
      have rb := fun Q9 K9_176 z => rb Q9 K9_176 (br_t hc z)
      rcases e14_sendAll_J101 ho1 ok h with ⟨σ', x2, h, ok, fr9, rc⟩
      · have fr := fr.tr (fr9.sub (mF_sub rfl sub_nil rfl (sud_c (Or.inr ⟨_, List.mem_of_getElem? (i := 0) rfl, rfl⟩) sud_nil)))
        rcases ih ok h with ⟨σ', h, ok, fr9, rd⟩
        · exact ⟨σ', h, ok, fr.tr fr9, fun Q9 K9_176 hq => rb Q9 K9_176 (rc _ _ (rd Q9 K9_176 hq))⟩
    have h := h.2 hc
    have rb := fun Q9 K9_176 z => rb Q9 K9_176 (br_f hc z)
    rcases e14_sendAll_J101 ho1 ok h with ⟨σ', x2, h, ok, fr9, rc⟩
    · have fr := fr.tr (fr9.sub (mF_sub rfl sub_nil rfl (sud_c (Or.inr ⟨_, List.mem_of_getElem? (i := 0) rfl, rfl⟩) sud_nil)))
      rcases ih ok h with ⟨σ', h, ok, fr9, rd⟩
      · exact ⟨σ', h, ok, fr.tr fr9, fun Q9 K9_176 hq => rb Q9 K9_176 (rc _ _ (rd Q9 K9_176 hq))⟩
set_option maxHeartbeats 4000000 in
theorem e14_sendAll {σ : St} {o1 : Nat} {Q : St → Prop} (ho1 : o1 < 16) (ok : okS σ) (h : w14_sendAll σ o1 Q) : (∃ (σ' : St), Q σ' ∧ okS σ' ∧ Fr (mF [56, 57, 58, 59, 60, 68] [] [(14, [18, 23, 24, 25]), (17, [0, 1, 2, 3, 4, 5])] [(15, o1, [0, 5, 6, 17, 19, 20, 21, 22, 31, 37, 39])]) σ σ' ∧ ∀ (Q9 : St → Prop), Q9 σ' → w14_sendAll σ o1 Q9) := by
  have fr : Fr (mF [56, 57, 58, 59, 60, 68] [] [(14, [18, 23, 24, 25]), (17, [0, 1, 2, 3, 4, 5])] [(15, o1, [0, 5, 6, 17, 19, 20, 21, 22, 31, 37, 39])]) σ σ := Fr.rf
  have rb : ∀ (Q9 : St → Prop), w14_sendAll σ o1 Q9 → w14_sendAll σ o1 Q9 := fun _ z => z
  obtain ⟨r1, h, rc⟩ := e15_left ho1 ok h
  have rb := fun Q9 z => rb Q9 (rc _ z)
  by_cases hc : r1 ≤ 0
  · have h := h.1 hc
    have rb := fun Q9 z => rb Q9 (br_t hc z)
    obtain ⟨n9, h⟩ := h
    rcases e14_sendAll_L17 ho1 n9 ok h with ⟨σ12, h, ok, fr9, rc⟩
    · have rb := fun Q9 z => rb Q9 (Exists.intro n9 (rc _ _ z))
      have fr := fr.tr (fr9.sub (mF_sub rfl sub_nil rfl (sud_c (Or.inr ⟨_, List.mem_of_getElem? (i := 0) rfl, rfl⟩) sud_nil)))
      obtain ⟨r13, h, rc⟩ := e15_left ho1 ok h
      have rb := fun Q9 z => rb Q9 (rc _ z)
      by_cases hc : r13 ≤ 0
      · have h := h.1 hc
        have rb := fun Q9 z => rb Q9 (br_t hc z)
        exact ⟨σ12, h, ok, fr, fun Q9 hq => rb Q9 hq⟩
      have h := h.2 hc
      have rb := fun Q9 z => rb Q9 (br_f hc z)
      by_cases hc : (σ12 15 o1 5) = (σ12 15 o1 4)
      · have h := h.2 hc
        have rb := fun Q9 z => rb Q9 (br_u hc z)
        by_cases hc : (σ12 15 o1 7) = 0
        · have h := h.2 hc
          have rb := fun Q9 z => rb Q9 (br_u hc z)
          have h := h ((ok 15 o1 21).1 (by decide))
          have rb := fun Q9 z => rb Q9 (im_n z)
          by_cases hc : (σ12 15 o1 21) = 0
          · have h := h.2 hc
            have rb := fun Q9 z => rb Q9 (br_u hc z)
            obtain ⟨σ14, h, ok, fr9, rc⟩ := e14_timerSet ho1 ok h
            have fr := fr.tr (fr9.sub (mF_sub rfl sub_nil rfl (sud_c (Or.inr ⟨_, List.mem_of_getElem? (i := 0) rfl, rfl⟩) sud_nil)))
            have rb := fun Q9 z => rb Q9 (rc _ z)
            exact ⟨σ14, h, ok, fr, fun Q9 hq => rb Q9 hq⟩
          have h := h.1 hc
          have rb := fun Q9 z => rb Q9 (br_v hc z)
          exact ⟨σ12, h, ok, fr, fun Q9 hq => rb Q9 hq⟩
        have h := h.1 hc
        have rb := fun Q9 z => rb Q9 (br_v hc z)
        exact ⟨σ12, h, ok, fr, fun Q9 hq => rb Q9 hq⟩
      have h := h.1 hc
      have rb := fun Q9 z => rb Q9 (br_v hc z)
      exact ⟨σ12, h, ok, fr, fun Q9 hq => rb Q9 hq⟩
  have h := h.2 hc
  have rb := fun Q9 z => rb Q9 (br_f hc z)
  obtain ⟨n9, h⟩ := h
  rcases e14_sendAll_L17 ho1 n9 ok h with ⟨σ16, h, ok, fr9, rc⟩
  · have rb := fun Q9 z => rb Q9 (Exists.intro n9 (rc _ _ z))
    have fr := fr.tr (fr9.sub (mF_sub rfl sub_nil rfl (sud_c (Or.inr ⟨_, List.mem_of_getElem? (i := 0) rfl, rfl⟩) sud_nil)))
    obtain ⟨r17, h, rc⟩ := e15_left ho1 ok h
    have rb := fun Q9 z => rb Q9 (rc _ z)
    by_cases hc : r17 ≤ 0
    · have h := h.1 hc
      have rb := fun Q9 z => rb Q9 (br_t hc z)
      exact ⟨σ16, h, ok, fr, fun Q9 hq => rb Q9 hq⟩
    have h := h.2 hc
    have rb := fun Q9 z => rb Q9 (br_f hc z)
    by_cases hc : (σ16 15 o1 5) = (σ16 15 o1 4)
    · have h := h.2 hc
      have rb := fun Q9 z => rb Q9 (br_u hc z)
      by_cases hc : (σ16 15 o1 7) = 0
      · have h := h.2 hc
        have rb := fun Q9 z => rb Q9 (br_u hc z)
        have h := h ((ok 15 o1 21).1 (by decide))
        have rb := fun Q9 z => rb Q9 (im_n z)
        by_cases hc : (σ16 15 o1 21) = 0
        · have h := h.2 hc
          have rb := fun Q9 z => rb Q9 (br_u hc z)
          obtain ⟨σ18, h, ok, fr9, rc⟩ := e14_timerSet ho1 ok h
          have fr := fr.tr (fr9.sub (mF_sub rfl sub_nil rfl (sud_c (Or.inr ⟨_, List.mem_of_getElem? (i := 0) rfl, rfl⟩) sud_nil)))
          have rb := fun Q9 z => rb Q9 (rc _ z)
          exact ⟨σ18, h, ok, fr, fun Q9 hq => rb Q9 hq⟩
        have h := h.1 hc
        have rb := fun Q9 z => rb Q9 (br_v hc z)
        exact ⟨σ16, h, ok, fr, fun Q9 hq => rb Q9 hq⟩
      have h := h.1 hc
      have rb := fun Q9 z => rb Q9 (br_v hc z)
      exact ⟨σ16, h, ok, fr, fun Q9 hq => rb Q9 hq⟩
    have h := h.1 hc
    have rb := fun Q9 z => rb Q9 (br_v hc z)
    exact ⟨σ16, h, ok, fr, fun Q9 hq => rb Q9 hq⟩
/-! WebHost$Requests.bad(LWebHost$Answer;)I -/
set_option maxHeartbeats 4000000 in
theorem e9_bad {σ : St} {o1 : Nat} {Q : Int32 → St → Prop} (ho1 : o1 < 16) (ok : okS σ) (h : w9_bad σ o1 Q) : (∃ (r : Int32) (σ' : St), Q r σ' ∧ okS σ' ∧ Fr (mF [] [(44, o1), (90, (o1 + 1))] [] [(13, o1, [1])]) σ σ' ∧ ∀ (Q9 : Int32 → St → Prop), Q9 r σ' → w9_bad σ o1 Q9) := by
  have fr : Fr (mF [] [(44, o1), (90, (o1 + 1))] [] [(13, o1, [1])]) σ σ := Fr.rf
  have rb : ∀ (Q9 : Int32 → St → Prop), w9_bad σ o1 Q9 → w9_bad σ o1 Q9 := fun _ z => z
  obtain ⟨r1, σ1, h, ok, fr9, rc⟩ := e9_last ho1 (by decide) ok h
  have fr := fr.tr (fr9.sub (mF_sub rfl (sub_c (Or.inr (List.mem_of_getElem? (i := 0) rfl)) (sub_c (Or.inr (List.mem_of_getElem? (i := 1) rfl)) sub_nil)) rfl (sud_c (Or.inr ⟨_, List.mem_of_getElem? (i := 0) rfl, rfl⟩) sud_nil)))
  have rb := fun Q9 z => rb Q9 (rc _ z)
  exact ⟨r1, σ1, h, ok, fr, fun Q9 hq => rb Q9 hq⟩
/-! WebHost$Connection.lifeOut()V -/
set_option maxHeartbeats 4000000 in
theorem e11_lifeOut {σ : St} {o0 : Nat} {Q : St → Prop} (ho0 : o0 < 16) (ok : okS σ) (h : w11_lifeOut σ o0 Q) : (∃ (σ' : St), Q σ' ∧ okS σ' ∧ Fr (mF [23, 25, 26, 32, 35, 36] [] [(2, [3]), (3, [9]), (4, [0, 1, 2, 4]), (5, [2]), (8, [4])] [(11, o0, [2, 10, 11, 21, 22, 27, 28, 29, 30, 33, 34, 36, 37])]) σ σ' ∧ ∀ (Q9 : St → Prop), Q9 σ' → w11_lifeOut σ o0 Q9) := by
  have fr : Fr (mF [23, 25, 26, 32, 35, 36] [] [(2, [3]), (3, [9]), (4, [0, 1, 2, 4]), (5, [2]), (8, [4])] [(11, o0, [2, 10, 11, 21, 22, 27, 28, 29, 30, 33, 34, 36, 37])]) σ σ := Fr.rf
  have rb : ∀ (Q9 : St → Prop), w11_lifeOut σ o0 Q9 → w11_lifeOut σ o0 Q9 := fun _ z => z
  obtain ⟨σ1, e9⟩ : ∃ s : St, s = up3 σ 11 o0 33 0 := ⟨_, rfl⟩
  have h := h σ1 e9
  have rb := fun Q9 z => rb Q9 (nm_n e9 z)
  have ok : okS σ1 := by rw [e9]; exact (ok_z ok (by decide) (Or.inl rfl))
  have fr : Fr (mF [23, 25, 26, 32, 35, 36] [] [(2, [3]), (3, [9]), (4, [0, 1, 2, 4]), (5, [2]), (8, [4])] [(11, o0, [2, 10, 11, 21, 22, 27, 28, 29, 30, 33, 34, 36, 37])]) σ σ1 := by rw [e9]; exact (Fr.up fr (mF_D (List.mem_of_getElem? (i := 0) rfl) rfl))
  by_cases hc : (σ1 11 o0 2) = 2
  · have h := h.1 hc
    have rb := fun Q9 z => rb Q9 (br_t hc z)
    obtain ⟨σ2, e9⟩ : ∃ s : St, s = up3 σ1 11 o0 27 1 := ⟨_, rfl⟩
    have h := h σ2 e9
    have rb := fun Q9 z => rb Q9 (nm_n e9 z)
    have ok : okS σ2 := by rw [e9]; exact (ok_z ok (by decide) (Or.inr rfl))
    have fr : Fr (mF [23, 25, 26, 32, 35, 36] [] [(2, [3]), (3, [9]), (4, [0, 1, 2, 4]), (5, [2]), (8, [4])] [(11, o0, [2, 10, 11, 21, 22, 27, 28, 29, 30, 33, 34, 36, 37])]) σ σ2 := by rw [e9]; exact (Fr.up fr (mF_D (List.mem_of_getElem? (i := 0) rfl) rfl))
    obtain ⟨σ3, h, ok, fr9, rc⟩ := e11_output ho0 ok h
    have fr := fr.tr (fr9.sub (mF_sub rfl sub_nil rfl (sud_c (Or.inr ⟨_, List.mem_of_getElem? (i := 0) rfl, rfl⟩) sud_nil)))
    have rb := fun Q9 z => rb Q9 (rc _ z)
    exact ⟨σ3, h, ok, fr, fun Q9 hq => rb Q9 hq⟩
  have h := h.2 hc
  have rb := fun Q9 z => rb Q9 (br_f hc z)
  obtain ⟨σ4, h, ok, fr9, rc⟩ := e11_gone ho0 ok h
  have fr := fr.tr (fr9.sub (mF_sub rfl sub_nil rfl (sud_c (Or.inr ⟨_, List.mem_of_getElem? (i := 0) rfl, rfl⟩) sud_nil)))
  have rb := fun Q9 z => rb Q9 (rc _ z)
  exact ⟨σ4, h, ok, fr, fun Q9 hq => rb Q9 hq⟩
/-! WebHostModel.lifeEnds(LWebHostModel$Connection;)V -/
set_option maxHeartbeats 4000000 in
theorem e14_lifeEnds {σ : St} {o1 : Nat} {Q : St → Prop} (ho1 : o1 < 16) (ok : okS σ) (h : w14_lifeEnds σ o1 Q) : (∃ (σ' : St), Q σ' ∧ okS σ' ∧ Fr (mF [56, 57, 58, 59, 60, 68] [] [(14, [18, 23, 24, 25]), (17, [0, 1, 2, 3, 4, 5])] [(15, o1, [0, 5, 6, 17, 19, 20, 21, 22, 30, 31, 37, 39])]) σ σ' ∧ ∀ (Q9 : St → Prop), Q9 σ' → w14_lifeEnds σ o1 Q9) := by
  have fr : Fr (mF [56, 57, 58, 59, 60, 68] [] [(14, [18, 23, 24, 25]), (17, [0, 1, 2, 3, 4, 5])] [(15, o1, [0, 5, 6, 17, 19, 20, 21, 22, 30, 31, 37, 39])]) σ σ := Fr.rf
  have rb : ∀ (Q9 : St → Prop), w14_lifeEnds σ o1 Q9 → w14_lifeEnds σ o1 Q9 := fun _ z => z
  by_cases hc : (σ 15 o1 0) = 2
  · have h := h.2 hc
    have rb := fun Q9 z => rb Q9 (br_u hc z)
    obtain ⟨σ2, e9⟩ : ∃ s : St, s = up3 σ 15 o1 30 1 := ⟨_, rfl⟩
    have h := h σ2 e9
    have rb := fun Q9 z => rb Q9 (nm_n e9 z)
    have ok : okS σ2 := by rw [e9]; exact (ok_z ok (by decide) (Or.inr rfl))
    have fr : Fr (mF [56, 57, 58, 59, 60, 68] [] [(14, [18, 23, 24, 25]), (17, [0, 1, 2, 3, 4, 5])] [(15, o1, [0, 5, 6, 17, 19, 20, 21, 22, 30, 31, 37, 39])]) σ σ2 := by rw [e9]; exact (Fr.up fr (mF_D (List.mem_of_getElem? (i := 0) rfl) rfl))
    obtain ⟨σ3, h, ok, fr9, rc⟩ := e14_sendAll ho1 ok h
    have fr := fr.tr (fr9.sub (mF_sub rfl sub_nil rfl (sud_c (Or.inr ⟨_, List.mem_of_getElem? (i := 0) rfl, rfl⟩) sud_nil)))
    have rb := fun Q9 z => rb Q9 (rc _ z)
    exact ⟨σ3, h, ok, fr, fun Q9 hq => rb Q9 hq⟩
  have h := h.1 hc
  have rb := fun Q9 z => rb Q9 (br_v hc z)
  obtain ⟨σ1, h, ok, fr9, rc⟩ := e14_gone ho1 ok h
  have fr := fr.tr (fr9.sub (mF_sub rfl sub_nil rfl (sud_c (Or.inr ⟨_, List.mem_of_getElem? (i := 0) rfl, rfl⟩) sud_nil)))
  have rb := fun Q9 z => rb Q9 (rc _ z)
  exact ⟨σ1, h, ok, fr, fun Q9 hq => rb Q9 hq⟩
/-! WebHostModel.requests(LWebHostModel$Connection;)V -/
set_option maxHeartbeats 4000000 in
theorem e14_requests_J89 {σ : St} {o1 : Nat} {xs0 : Int32} {Q : St → Prop} {K2 : St → Int32 → Prop} (ho1 : o1 < 16) (ok : okS σ) (h : w14_requests_J89 σ o1 xs0 Q K2) : (∃ (σ' : St) (x2' : Int32), K2 σ' x2' ∧ okS σ' ∧ Fr (mF [56, 66, 67] [(71, o1), (72, o1), (73, o1)] [(14, [42, 43, 44, 45, 46, 47, 48, 49, 50, 51, 52, 53, 54, 55, 56, 57, 59, 60, 61, 62])] [(15, o1, [26, 27, 28, 29, 30, 35, 38, 39])]) σ σ' ∧ ∀ (Q9 : St → Prop) (K9_2 : St → Int32 → Prop), K9_2 σ' x2' → w14_requests_J89 σ o1 xs0 Q9 K9_2) := by
  have fr : Fr (mF [56, 66, 67] [(71, o1), (72, o1), (73, o1)] [(14, [42, 43, 44, 45, 46, 47, 48, 49, 50, 51, 52, 53, 54, 55, 56, 57, 59, 60, 61, 62])] [(15, o1, [26, 27, 28, 29, 30, 35, 38, 39])]) σ σ := Fr.rf
  have rb : ∀ (Q9 : St → Prop) (K9_2 : St → Int32 → Prop), w14_requests_J89 σ o1 xs0 Q9 K9_2 → w14_requests_J89 σ o1 xs0 Q9 K9_2 := fun _ _ z => z
  by_cases hc : xs0 = 0
  · have h := h.1 hc
    have rb := fun Q9 K9_2 z => rb Q9 K9_2 (br_t hc z)
    exact ⟨σ, 0, h, ok, fr, fun Q9 K9_2 hq => rb Q9 K9_2 hq⟩
  have h := h.2 hc
  have rb := fun Q9 K9_2 z => rb Q9 K9_2 (br_f hc z)
  obtain ⟨r2, σ2, h, ok, fr9, rc⟩ := e14_oneRequest ho1 ok h
  have fr := fr.tr (fr9.sub (mF_sub rfl (sub_c (Or.inr (List.mem_of_getElem? (i := 0) rfl)) (sub_c (Or.inr (List.mem_of_getElem? (i := 1) rfl)) (sub_c (Or.inr (List.mem_of_getElem? (i := 2) rfl)) sub_nil))) rfl (sud_c (Or.inr ⟨_, List.mem_of_getElem? (i := 0) rfl, rfl⟩) sud_nil)))
  have rb := fun Q9 K9_2 z => rb Q9 K9_2 (rc _ z)
  by_cases hc : r2 = 0
  · have h := h.1 hc
    have rb := fun Q9 K9_2 z => rb Q9 K9_2 (br_t hc z)
    exact ⟨σ2, 0, h, ok, fr, fun Q9 K9_2 hq => rb Q9 K9_2 hq⟩
  have h := h.2 hc
  have rb := fun Q9 K9_2 z => rb Q9 K9_2 (br_f hc z)
  exact ⟨σ2, 1, h, ok, fr, fun Q9 K9_2 hq => rb Q9 K9_2 hq⟩
set_option maxHeartbeats 4000000 in
theorem e14_requests_J55 {σ : St} {o1 : Nat} {Q : St → Prop} {K2 : St → Int32 → Prop} (ho1 : o1 < 16) (ok : okS σ) (h : w14_requests_J55 σ o1 Q K2) : (∃ (σ' : St) (x2' : Int32), K2 σ' x2' ∧ okS σ' ∧ Fr (mF [56, 66, 67] [(71, o1), (72, o1), (73, o1)] [(14, [42, 43, 44, 45, 46, 47, 48, 49, 50, 51, 52, 53, 54, 55, 56, 57, 59, 60, 61, 62])] [(15, o1, [26, 27, 28, 29, 30, 35, 38, 39])]) σ σ' ∧ ∀ (Q9 : St → Prop) (K9_2 : St → Int32 → Prop), K9_2 σ' x2' → w14_requests_J55 σ o1 Q9 K9_2) := by
  have fr : Fr (mF [56, 66, 67] [(71, o1), (72, o1), (73, o1)] [(14, [42, 43, 44, 45, 46, 47, 48, 49, 50, 51, 52, 53, 54, 55, 56, 57, 59, 60, 61, 62])] [(15, o1, [26, 27, 28, 29, 30, 35, 38, 39])]) σ σ := Fr.rf
  have rb : ∀ (Q9 : St → Prop) (K9_2 : St → Int32 → Prop), w14_requests_J55 σ o1 Q9 K9_2 → w14_requests_J55 σ o1 Q9 K9_2 := fun _ _ z => z
  have h := h ((ok 15 o1 30).1 (by decide))
  have rb := fun Q9 K9_2 z => rb Q9 K9_2 (im_n z)
  by_cases hc : (σ 15 o1 30) = 0
  · have h := h.2 hc
    have rb := fun Q9 K9_2 z => rb Q9 K9_2 (br_u hc z)
    obtain ⟨r3, h, rc⟩ := e15_left ho1 ok h
    have rb := fun Q9 K9_2 z => rb Q9 K9_2 (rc _ z)
    by_cases hc : r3 = 0
    · have h := h.2 hc
      have rb := fun Q9 K9_2 z => rb Q9 K9_2 (br_u hc z)
      by_cases hc : (σ 15 o1 5) = (σ 15 o1 4)
      · have h := h.2 hc
        have rb := fun Q9 K9_2 z => rb Q9 K9_2 (br_u hc z)
        rcases e14_requests_J89 ho1 ok h with ⟨σ', x2, h, ok, fr9, rc⟩
        · have fr := fr.tr (fr9.sub (mF_sub rfl (sub_c (Or.inr (List.mem_of_getElem? (i := 0) rfl)) (sub_c (Or.inr (List.mem_of_getElem? (i := 1) rfl)) (sub_c (Or.inr (List.mem_of_getElem? (i := 2) rfl)) sub_nil))) rfl (sud_c (Or.inr ⟨_, List.mem_of_getElem? (i := 0) rfl, rfl⟩) sud_nil)))
          exact ⟨σ', x2, h, ok, fr, fun Q9 K9_2 hq => rb Q9 K9_2 (rc _ _ hq)⟩
      have h := h.1 hc
      have rb := fun Q9 K9_2 z => rb Q9 K9_2 (br_v hc z)
      rcases e14_requests_J89 ho1 ok h with ⟨σ', x2, h, ok, fr9, rc⟩
      · have fr := fr.tr (fr9.sub (mF_sub rfl (sub_c (Or.inr (List.mem_of_getElem? (i := 0) rfl)) (sub_c (Or.inr (List.mem_of_getElem? (i := 1) rfl)) (sub_c (Or.inr (List.mem_of_getElem? (i := 2) rfl)) sub_nil))) rfl (sud_c (Or.inr ⟨_, List.mem_of_getElem? (i := 0) rfl, rfl⟩) sud_nil)))
        exact ⟨σ', x2, h, ok, fr, fun Q9 K9_2 hq => rb Q9 K9_2 (rc _ _ hq)⟩
    have h := h.1 hc
    have rb := fun Q9 K9_2 z => rb Q9 K9_2 (br_v hc z)
    rcases e14_requests_J89 ho1 ok h with ⟨σ', x2, h, ok, fr9, rc⟩
    · have fr := fr.tr (fr9.sub (mF_sub rfl (sub_c (Or.inr (List.mem_of_getElem? (i := 0) rfl)) (sub_c (Or.inr (List.mem_of_getElem? (i := 1) rfl)) (sub_c (Or.inr (List.mem_of_getElem? (i := 2) rfl)) sub_nil))) rfl (sud_c (Or.inr ⟨_, List.mem_of_getElem? (i := 0) rfl, rfl⟩) sud_nil)))
      exact ⟨σ', x2, h, ok, fr, fun Q9 K9_2 hq => rb Q9 K9_2 (rc _ _ hq)⟩
  have h := h.1 hc
  have rb := fun Q9 K9_2 z => rb Q9 K9_2 (br_v hc z)
  rcases e14_requests_J89 ho1 ok h with ⟨σ', x2, h, ok, fr9, rc⟩
  · have fr := fr.tr (fr9.sub (mF_sub rfl (sub_c (Or.inr (List.mem_of_getElem? (i := 0) rfl)) (sub_c (Or.inr (List.mem_of_getElem? (i := 1) rfl)) (sub_c (Or.inr (List.mem_of_getElem? (i := 2) rfl)) sub_nil))) rfl (sud_c (Or.inr ⟨_, List.mem_of_getElem? (i := 0) rfl, rfl⟩) sud_nil)))
    exact ⟨σ', x2, h, ok, fr, fun Q9 K9_2 hq => rb Q9 K9_2 (rc _ _ hq)⟩
set_option maxHeartbeats 4000000 in
theorem e14_requests_L2 {o1 : Nat} {Q : St → Prop} {K113 : St → Prop} (ho1 : o1 < 16) :
    ∀ (n : Nat) {σ : St} {x2 : Int32} (ok : okS σ), w14_requests_L2 o1 Q K113 n σ x2 → (∃ (σ' : St), K113 σ' ∧ okS σ' ∧ Fr (mF [56, 66, 67] [(71, o1), (72, o1), (73, o1)] [(14, [42, 43, 44, 45, 46, 47, 48, 49, 50, 51, 52, 53, 54, 55, 56, 57, 59, 60, 61, 62])] [(15, o1, [26, 27, 28, 29, 30, 35, 38, 39])]) σ σ' ∧ ∀ (Q9 : St → Prop) (K9_113 : St → Prop), K9_113 σ' → w14_requests_L2 o1 Q9 K9_113 n σ x2) := by
  intro n
  induction n with
  | zero =>
    intro σ x2 ok h
    exact False.elim h
  | succ n ih =>
    intro σ x2 ok h
    have fr : Fr (mF [56, 66, 67] [(71, o1), (72, o1), (73, o1)] [(14, [42, 43, 44, 45, 46, 47, 48, 49, 50, 51, 52, 53, 54, 55, 56, 57, 59, 60, 61, 62])] [(15, o1, [26, 27, 28, 29, 30, 35, 38, 39])]) σ σ := Fr.rf
    have rb : ∀ (Q9 : St → Prop) (K9_113 : St → Prop), w14_requests_L2 o1 Q9 K9_113 (n + 1) σ x2 → w14_requests_L2 o1 Q9 K9_113 (n + 1) σ x2 := fun _ _ z => z
    by_cases hc : x2 = 0
    · have h := h.1 hc
      have rb := fun Q9 K9_113 z => rb Q9 K9_113 (br_t hc z)
      exact ⟨σ, h, ok, fr, fun Q9 K9_113 hq => rb Q9 K9_113 hq⟩
    have h := h.2 hc
    have rb := fun Q9 K9_113 z => rb Q9 K9_113 (br_f hc z)
    obtain ⟨r1, h, rc⟩ := e15_held ho1 ok h
    have rb := fun Q9 K9_113 z => rb Q9 K9_113 (rc _ z)
    by_cases hc : (imin (σ 15 o1 38) r1) ≤ 0
    · have h := h.1 hc
      have rb := fun Q9 K9_113 z => rb Q9 K9_113 (br_t hc z)
      by_cases hc : (σ 15 o1 0) = 2
      · have h := h.1 hc
        have rb := fun Q9 K9_113 z => rb Q9 K9_113 (br_t hc z)
        rcases e14_requests_J55 ho1 ok h with ⟨σ', x2, h, ok, fr9, rc⟩
        · have fr := fr.tr (fr9.sub (mF_sub rfl (sub_c (Or.inr (List.mem_of_getElem? (i := 0) rfl)) (sub_c (Or.inr (List.mem_of_getElem? (i := 1) rfl)) (sub_c (Or.inr (List.mem_of_getElem? (i := 2) rfl)) sub_nil))) rfl (sud_c (Or.inr ⟨_, List.mem_of_getElem? (i := 0) rfl, rfl⟩) sud_nil)))
          rcases ih ok h with ⟨σ', h, ok, fr9, rd⟩
          · exact ⟨σ', h, ok, fr.tr fr9, fun Q9 K9_113 hq => rb Q9 K9_113 (rc _ _ (rd Q9 K9_113 hq))⟩
      have h := h.2 hc
      have rb := fun Q9 K9_113 z => rb Q9 K9_113 (br_f hc z)
      by_cases hc : (σ 15 o1 0) = 7
      · have h := h.2 hc
        have rb := fun Q9 K9_113 z => rb Q9 K9_113 (br_u hc z)
        rcases e14_requests_J55 ho1 ok h with ⟨σ', x2, h, ok, fr9, rc⟩
        · have fr := fr.tr (fr9.sub (mF_sub rfl (sub_c (Or.inr (List.mem_of_getElem? (i := 0) rfl)) (sub_c (Or.inr (List.mem_of_getElem? (i := 1) rfl)) (sub_c (Or.inr (List.mem_of_getElem? (i := 2) rfl)) sub_nil))) rfl (sud_c (Or.inr ⟨_, List.mem_of_getElem? (i := 0) rfl, rfl⟩) sud_nil)))
          rcases ih ok h with ⟨σ', h, ok, fr9, rd⟩
          · exact ⟨σ', h, ok, fr.tr fr9, fun Q9 K9_113 hq => rb Q9 K9_113 (rc _ _ (rd Q9 K9_113 hq))⟩
      have h := h.1 hc
      have rb := fun Q9 K9_113 z => rb Q9 K9_113 (br_v hc z)
      rcases e14_requests_J89 ho1 ok h with ⟨σ', x2, h, ok, fr9, rc⟩
      · have fr := fr.tr (fr9.sub (mF_sub rfl (sub_c (Or.inr (List.mem_of_getElem? (i := 0) rfl)) (sub_c (Or.inr (List.mem_of_getElem? (i := 1) rfl)) (sub_c (Or.inr (List.mem_of_getElem? (i := 2) rfl)) sub_nil))) rfl (sud_c (Or.inr ⟨_, List.mem_of_getElem? (i := 0) rfl, rfl⟩) sud_nil)))
        rcases ih ok h with ⟨σ', h, ok, fr9, rd⟩
        · exact ⟨σ', h, ok, fr.tr fr9, fun Q9 K9_113 hq => rb Q9 K9_113 (rc _ _ (rd Q9 K9_113 hq))⟩
    have h := h.2 hc
    have rb := fun Q9 K9_113 z => rb Q9 K9_113 (br_f hc z)
    obtain ⟨σ4, e9⟩ : ∃ s : St, s = up3 σ 15 o1 38 ((σ 15 o1 38) - (imin (σ 15 o1 38) r1)) := ⟨_, rfl⟩
    have h := h σ4 e9
    have rb := fun Q9 K9_113 z => rb Q9 K9_113 (nm_n e9 z)
    have ok : okS σ4 := by rw [e9]; exact (ok_n ok (by decide))
    have fr : Fr (mF [56, 66, 67] [(71, o1), (72, o1), (73, o1)] [(14, [42, 43, 44, 45, 46, 47, 48, 49, 50, 51, 52, 53, 54, 55, 56, 57, 59, 60, 61, 62])] [(15, o1, [26, 27, 28, 29, 30, 35, 38, 39])]) σ σ4 := by rw [e9]; exact (Fr.up fr (mF_D (List.mem_of_getElem? (i := 0) rfl) rfl))
    obtain ⟨σ5, h, ok, fr9, rc⟩ := e14_take ho1 ok h
    have fr := fr.tr (fr9.sub (mF_sub rfl (sub_c (Or.inr (List.mem_of_getElem? (i := 1) rfl)) (sub_c (Or.inr (List.mem_of_getElem? (i := 2) rfl)) sub_nil)) rfl (sud_c (Or.inr ⟨_, List.mem_of_getElem? (i := 0) rfl, rfl⟩) sud_nil)))
    have rb := fun Q9 K9_113 z => rb Q9 K9_113 (rc _ z)
    by_cases hc : (σ5 15 o1 0) = 2
    · have h := h.1 hc
      have rb := fun Q9 K9_113 z => rb Q9 K9_113 (br_t hc z)
      rcases e14_requests_J55 ho1 ok h with ⟨σ', x2, h, ok, fr9, rc⟩
      · have fr := fr.tr (fr9.sub (mF_sub rfl (sub_c (Or.inr (List.mem_of_getElem? (i := 0) rfl)) (sub_c (Or.inr (List.mem_of_getElem? (i := 1) rfl)) (sub_c (Or.inr (List.mem_of_getElem? (i := 2) rfl)) sub_nil))) rfl (sud_c (Or.inr ⟨_, List.mem_of_getElem? (i := 0) rfl, rfl⟩) sud_nil)))
        rcases ih ok h with ⟨σ', h, ok, fr9, rd⟩
        · exact ⟨σ', h, ok, fr.tr fr9, fun Q9 K9_113 hq => rb Q9 K9_113 (rc _ _ (rd Q9 K9_113 hq))⟩
    have h := h.2 hc
    have rb := fun Q9 K9_113 z => rb Q9 K9_113 (br_f hc z)
    by_cases hc : (σ5 15 o1 0) = 7
    · have h := h.2 hc
      have rb := fun Q9 K9_113 z => rb Q9 K9_113 (br_u hc z)
      rcases e14_requests_J55 ho1 ok h with ⟨σ', x2, h, ok, fr9, rc⟩
      · have fr := fr.tr (fr9.sub (mF_sub rfl (sub_c (Or.inr (List.mem_of_getElem? (i := 0) rfl)) (sub_c (Or.inr (List.mem_of_getElem? (i := 1) rfl)) (sub_c (Or.inr (List.mem_of_getElem? (i := 2) rfl)) sub_nil))) rfl (sud_c (Or.inr ⟨_, List.mem_of_getElem? (i := 0) rfl, rfl⟩) sud_nil)))
        rcases ih ok h with ⟨σ', h, ok, fr9, rd⟩
        · exact ⟨σ', h, ok, fr.tr fr9, fun Q9 K9_113 hq => rb Q9 K9_113 (rc _ _ (rd Q9 K9_113 hq))⟩
    have h := h.1 hc
    have rb := fun Q9 K9_113 z => rb Q9 K9_113 (br_v hc z)
    rcases e14_requests_J89 ho1 ok h with ⟨σ', x2, h, ok, fr9, rc⟩
    · have fr := fr.tr (fr9.sub (mF_sub rfl (sub_c (Or.inr (List.mem_of_getElem? (i := 0) rfl)) (sub_c (Or.inr (List.mem_of_getElem? (i := 1) rfl)) (sub_c (Or.inr (List.mem_of_getElem? (i := 2) rfl)) sub_nil))) rfl (sud_c (Or.inr ⟨_, List.mem_of_getElem? (i := 0) rfl, rfl⟩) sud_nil)))
      rcases ih ok h with ⟨σ', h, ok, fr9, rd⟩
      · exact ⟨σ', h, ok, fr.tr fr9, fun Q9 K9_113 hq => rb Q9 K9_113 (rc _ _ (rd Q9 K9_113 hq))⟩
set_option maxHeartbeats 4000000 in
theorem e14_requests {σ : St} {o1 : Nat} {Q : St → Prop} (ho1 : o1 < 16) (ok : okS σ) (h : w14_requests σ o1 Q) : (∃ (σ' : St), Q σ' ∧ okS σ' ∧ Fr (mF [56, 66, 67] [(71, o1), (72, o1), (73, o1)] [(14, [42, 43, 44, 45, 46, 47, 48, 49, 50, 51, 52, 53, 54, 55, 56, 57, 59, 60, 61, 62])] [(15, o1, [26, 27, 28, 29, 30, 35, 38, 39])]) σ σ' ∧ ∀ (Q9 : St → Prop), Q9 σ' → w14_requests σ o1 Q9) := by
  have fr : Fr (mF [56, 66, 67] [(71, o1), (72, o1), (73, o1)] [(14, [42, 43, 44, 45, 46, 47, 48, 49, 50, 51, 52, 53, 54, 55, 56, 57, 59, 60, 61, 62])] [(15, o1, [26, 27, 28, 29, 30, 35, 38, 39])]) σ σ := Fr.rf
  have rb : ∀ (Q9 : St → Prop), w14_requests σ o1 Q9 → w14_requests σ o1 Q9 := fun _ z => z
  obtain ⟨n9, h⟩ := h
  rcases e14_requests_L2 ho1 n9 ok h with ⟨σ7, h, ok, fr9, rc⟩
  · have rb := fun Q9 z => rb Q9 (Exists.intro n9 (rc _ _ z))
    have fr := fr.tr (fr9.sub (mF_sub rfl (sub_c (Or.inr (List.mem_of_getElem? (i := 0) rfl)) (sub_c (Or.inr (List.mem_of_getElem? (i := 1) rfl)) (sub_c (Or.inr (List.mem_of_getElem? (i := 2) rfl)) sub_nil))) rfl (sud_c (Or.inr ⟨_, List.mem_of_getElem? (i := 0) rfl, rfl⟩) sud_nil)))
    exact ⟨σ7, h, ok, fr, fun Q9 hq => rb Q9 hq⟩
/-! WebHost.act(I)V -/
set_option maxHeartbeats 4000000 in
theorem e0_act_L44 {σ : St} {x1 : Int32} {Q : St → Prop} {K76 : Int32 → Prop} (ok : okS σ) :
    ∀ (n : Nat) {x2 : Int32}, w0_act_L44 σ x1 Q K76 n x2 → (∃ (x2' : Int32), K76 x2' ∧ ∀ (Q9 : St → Prop) (K9_76 : Int32 → Prop), K9_76 x2' → w0_act_L44 σ x1 Q9 K9_76 n x2) := by
  intro n
  induction n with
  | zero =>
    intro x2 h
    exact False.elim h
  | succ n ih =>
    intro x2 h
    have rb : ∀ (Q9 : St → Prop) (K9_76 : Int32 → Prop), w0_act_L44 σ x1 Q9 K9_76 (n + 1) x2 → w0_act_L44 σ x1 Q9 K9_76 (n + 1) x2 := fun _ _ z => z
    obtain ⟨hc, h⟩ := h
    have rb := fun Q9 K9_76 z => rb Q9 K9_76 (And.intro hc z)
    have hq3 := vp_lt hc
    obtain ⟨r4, h, rc⟩ := e11_timerDue hq3 ok h
    have rb := fun Q9 K9_76 z => rb Q9 K9_76 (rc _ z)
    by_cases hc : r4 = x1
    · have h := h.1 hc
      have rb := fun Q9 K9_76 z => rb Q9 K9_76 (br_t hc z)
      exact ⟨x2, h, fun Q9 K9_76 hq => rb Q9 K9_76 hq⟩
    have h := h.2 hc
    have rb := fun Q9 K9_76 z => rb Q9 K9_76 (br_f hc z)
    obtain ⟨hc, h⟩ := h
    have rb := fun Q9 K9_76 z => rb Q9 K9_76 (And.intro hc z)
    have hq5 := vp_lt hc
    obtain ⟨r6, h, rc⟩ := e11_lifeDue hq5 ok h
    have rb := fun Q9 K9_76 z => rb Q9 K9_76 (rc _ z)
    by_cases hc : r6 = x1
    · have h := h.1 hc
      have rb := fun Q9 K9_76 z => rb Q9 K9_76 (br_t hc z)
      exact ⟨x2, h, fun Q9 K9_76 hq => rb Q9 K9_76 hq⟩
    have h := h.2 hc
    have rb := fun Q9 K9_76 z => rb Q9 K9_76 (br_f hc z)
    rcases ih h with ⟨x2, h, rc⟩
    · exact ⟨x2, h, fun Q9 K9_76 hq => rb Q9 K9_76 (rc Q9 K9_76 hq)⟩
set_option maxHeartbeats 4000000 in
theorem e0_act_J76 {σ : St} {x1 : Int32} {x2 : Int32} {Q : St → Prop} (ok : okS σ) (h : w0_act_J76 σ x1 x2 Q) : (∃ (σ' : St), Q σ' ∧ okS σ' ∧ Fr (mF [23, 25, 26, 32, 35, 36] [] [(11, [2, 10, 11, 14, 15, 16, 17, 18, 19, 21, 22, 27, 28, 29, 30, 33, 34, 36, 37]), (2, [3]), (3, [9]), (4, [0, 1, 2, 4]), (5, [2]), (8, [3, 4])] []) σ σ' ∧ ∀ (Q9 : St → Prop), Q9 σ' → w0_act_J76 σ x1 x2 Q9) := by
  have fr : Fr (mF [23, 25, 26, 32, 35, 36] [] [(11, [2, 10, 11, 14, 15, 16, 17, 18, 19, 21, 22, 27, 28, 29, 30, 33, 34, 36, 37]), (2, [3]), (3, [9]), (4, [0, 1, 2, 4]), (5, [2]), (8, [3, 4])] []) σ σ := Fr.rf
  have rb : ∀ (Q9 : St → Prop), w0_act_J76 σ x1 x2 Q9 → w0_act_J76 σ x1 x2 Q9 := fun _ z => z
  obtain ⟨hc, h⟩ := h
  have rb := fun Q9 z => rb Q9 (And.intro hc z)
  have hq9 := vp_lt hc
  obtain ⟨r10, h, rc⟩ := e11_timerDue hq9 ok h
  have rb := fun Q9 z => rb Q9 (rc _ z)
  by_cases hc : r10 = x1
  · have h := h.2 hc
    have rb := fun Q9 z => rb Q9 (br_u hc z)
    obtain ⟨hc, h⟩ := h
    have rb := fun Q9 z => rb Q9 (And.intro hc z)
    have hq13 := vp_lt hc
    obtain ⟨σ14, h, ok, fr9, rc⟩ := e11_timerOut hq13 ok h
    have fr := fr.tr (fr9.sub (mF_sub rfl sub_nil rfl (sud_c (Or.inl ⟨_, List.mem_of_getElem? (i := 0) rfl, rfl⟩) sud_nil)))
    have rb := fun Q9 z => rb Q9 (rc _ z)
    exact ⟨σ14, h, ok, fr, fun Q9 hq => rb Q9 hq⟩
  have h := h.1 hc
  have rb := fun Q9 z => rb Q9 (br_v hc z)
  obtain ⟨hc, h⟩ := h
  have rb := fun Q9 z => rb Q9 (And.intro hc z)
  have hq11 := vp_lt hc
  obtain ⟨σ12, h, ok, fr9, rc⟩ := e11_lifeOut hq11 ok h
  have fr := fr.tr (fr9.sub (mF_sub rfl sub_nil rfl (sud_c (Or.inl ⟨_, List.mem_of_getElem? (i := 0) rfl, rfl⟩) sud_nil)))
  have rb := fun Q9 z => rb Q9 (rc _ z)
  exact ⟨σ12, h, ok, fr, fun Q9 hq => rb Q9 hq⟩
set_option maxHeartbeats 4000000 in
theorem e0_act {σ : St} {x1 : Int32} {Q : St → Prop} (ok : okS σ) (h : w0_act σ x1 Q) : (∃ (σ' : St), Q σ' ∧ okS σ' ∧ Fr (mF [23, 25, 26, 31, 32, 35, 36, 37] [] [(11, [2, 10, 11, 14, 15, 16, 17, 18, 19, 21, 22, 27, 28, 29, 30, 33, 34, 36, 37]), (2, [3]), (3, [9]), (4, [0, 1, 2, 4]), (5, [2]), (6, [1]), (8, [3, 4])] []) σ σ' ∧ ∀ (Q9 : St → Prop), Q9 σ' → w0_act σ x1 Q9) := by
  have fr : Fr (mF [23, 25, 26, 31, 32, 35, 36, 37] [] [(11, [2, 10, 11, 14, 15, 16, 17, 18, 19, 21, 22, 27, 28, 29, 30, 33, 34, 36, 37]), (2, [3]), (3, [9]), (4, [0, 1, 2, 4]), (5, [2]), (6, [1]), (8, [3, 4])] []) σ σ := Fr.rf
  have rb : ∀ (Q9 : St → Prop), w0_act σ x1 Q9 → w0_act σ x1 Q9 := fun _ z => z
  obtain ⟨r1, h, rc⟩ := e3_due ok h
  have rb := fun Q9 z => rb Q9 (rc _ z)
  by_cases hc : r1 = x1
  · have h := h.2 hc
    have rb := fun Q9 z => rb Q9 (br_u hc z)
    obtain ⟨σ16, h, ok, fr9, rc⟩ := e3_act ok h
    have fr := fr.tr (fr9.sub (mF_sub rfl sub_nil rfl sud_nil))
    have rb := fun Q9 z => rb Q9 (rc _ z)
    exact ⟨σ16, h, ok, fr, fun Q9 hq => rb Q9 hq⟩
  have h := h.1 hc
  have rb := fun Q9 z => rb Q9 (br_v hc z)
  obtain ⟨r2, h, rc⟩ := e6_due ok h
  have rb := fun Q9 z => rb Q9 (rc _ z)
  by_cases hc : r2 = x1
  · have h := h.2 hc
    have rb := fun Q9 z => rb Q9 (br_u hc z)
    obtain ⟨σ15, h, ok, fr9, rc⟩ := e6_act ok h
    have fr := fr.tr (fr9.sub (mF_sub rfl sub_nil rfl sud_nil))
    have rb := fun Q9 z => rb Q9 (rc _ z)
    exact ⟨σ15, h, ok, fr, fun Q9 hq => rb Q9 hq⟩
  have h := h.1 hc
  have rb := fun Q9 z => rb Q9 (br_v hc z)
  obtain ⟨n9, h⟩ := h
  rcases e0_act_L44 ok n9 h with ⟨x2_8, h, rc⟩
  · have rb := fun Q9 z => rb Q9 (Exists.intro n9 (rc _ _ z))
    obtain ⟨σ9, h, ok, fr9, rc⟩ := e0_act_J76 ok h
    exact ⟨σ9, h, ok, fr.tr (fr9.sub (mF_sub rfl sub_nil rfl sud_nil)), fun Q9 hq => rb Q9 (rc Q9 hq)⟩
/-! WebHost$Requests.answer(LWebHost$Inbox;LWebHost$Answer;)I -/
set_option maxHeartbeats 4000000 in
theorem e9_answer_L97 {o1 : Nat} {o2 : Nat} {Q : Int32 → St → Prop} {K125 : St → Prop} {K146 : St → Prop} (ho1 : o1 < 16) (ho2 : o2 < 16) :
    ∀ (n : Nat) {σ : St} {x3 : Int32} {x4 : Int32} (ok : okS σ), w9_answer_L97 o1 o2 Q K125 K146 n σ x3 x4 → (∃ (σ' : St), K125 σ' ∧ okS σ' ∧ Fr (mF [] [] [(9, [7, 8, 9, 10, 11, 12, 13, 14, 15, 16])] []) σ σ' ∧ ∀ (Q9 : Int32 → St → Prop) (K9_125 : St → Prop) (K9_146 : St → Prop), K9_125 σ' → w9_answer_L97 o1 o2 Q9 K9_125 K9_146 n σ x3 x4) ∨ (∃ (σ' : St), K146 σ' ∧ okS σ' ∧ Fr (mF [] [] [(9, [7, 8, 9, 10, 11, 12, 13, 14, 15, 16])] []) σ σ' ∧ ∀ (Q9 : Int32 → St → Prop) (K9_125 : St → Prop) (K9_146 : St → Prop), K9_146 σ' → w9_answer_L97 o1 o2 Q9 K9_125 K9_146 n σ x3 x4) := by
  intro n
  induction n with
  | zero =>
    intro σ x3 x4 ok h
    exact False.elim h
  | succ n ih =>
    intro σ x3 x4 ok h
    have fr : Fr (mF [] [] [(9, [7, 8, 9, 10, 11, 12, 13, 14, 15, 16])] []) σ σ := Fr.rf
    have rb : ∀ (Q9 : Int32 → St → Prop) (K9_125 : St → Prop) (K9_146 : St → Prop), w9_answer_L97 o1 o2 Q9 K9_125 K9_146 (n + 1) σ x3 x4 → w9_answer_L97 o1 o2 Q9 K9_125 K9_146 (n + 1) σ x3 x4 := fun _ _ _ z => z
    obtain ⟨r16, h, rc⟩ := e9_textEnd ok h
    have rb := fun Q9 K9_125 K9_146 z => rb Q9 K9_125 K9_146 (rc _ z)
    by_cases hc : r16 ≤ x4
    · have h := h.1 hc
      have rb := fun Q9 K9_125 K9_146 z => rb Q9 K9_125 K9_146 (br_t hc z)
      exact (Or.inr ⟨σ, h, ok, fr, fun Q9 K9_125 K9_146 hq => rb Q9 K9_125 K9_146 hq⟩)
    have h := h.2 hc
    have rb := fun Q9 K9_125 K9_146 z => rb Q9 K9_125 K9_146 (br_f hc z)
    obtain ⟨r17, h, rc⟩ := e9_textEnd ok h
    have rb := fun Q9 K9_125 K9_146 z => rb Q9 K9_125 K9_146 (rc _ z)
    obtain ⟨r18, σ18, h, ok, fr9, rc⟩ := e9_isField ok h
    have fr := fr.tr (fr9.sub (mF_sub rfl sub_nil rfl sud_nil))
    have rb := fun Q9 K9_125 K9_146 z => rb Q9 K9_125 K9_146 (rc _ z)
    by_cases hc : r18 = 0
    · have h := h.2 hc
      have rb := fun Q9 K9_125 K9_146 z => rb Q9 K9_125 K9_146 (br_u hc z)
      exact (Or.inl ⟨σ18, h, ok, fr, fun Q9 K9_125 K9_146 hq => rb Q9 K9_125 K9_146 hq⟩)
    have h := h.1 hc
    have rb := fun Q9 K9_125 K9_146 z => rb Q9 K9_125 K9_146 (br_v hc z)
    obtain ⟨r19, h, rc⟩ := e9_lineEnd ok h
    have rb := fun Q9 K9_125 K9_146 z => rb Q9 K9_125 K9_146 (rc _ z)
    rcases ih ok h with ⟨σ', h, ok, fr9, rc⟩ | ⟨σ', h, ok, fr9, rc⟩
    · exact (Or.inl ⟨σ', h, ok, fr.tr fr9, fun Q9 K9_125 K9_146 hq => rb Q9 K9_125 K9_146 (rc Q9 K9_125 K9_146 hq)⟩)
    · exact (Or.inr ⟨σ', h, ok, fr.tr fr9, fun Q9 K9_125 K9_146 hq => rb Q9 K9_125 K9_146 (rc Q9 K9_125 K9_146 hq)⟩)
set_option maxHeartbeats 4000000 in
theorem e9_answer_J429 {σ : St} {o2 : Nat} {x5 : Int32} {x6 : Int32} {Q : Int32 → St → Prop} (ho2 : o2 < 16) (ok : okS σ) (h : w9_answer_J429 σ o2 x5 x6 Q) : (∃ (r : Int32) (σ' : St), Q r σ' ∧ okS σ' ∧ Fr (mF [] [(44, o2), (90, (o2 + 1))] [] [(13, o2, [1])]) σ σ' ∧ ∀ (Q9 : Int32 → St → Prop), Q9 r σ' → w9_answer_J429 σ o2 x5 x6 Q9) := by
  have fr : Fr (mF [] [(44, o2), (90, (o2 + 1))] [] [(13, o2, [1])]) σ σ := Fr.rf
  have rb : ∀ (Q9 : Int32 → St → Prop), w9_answer_J429 σ o2 x5 x6 Q9 → w9_answer_J429 σ o2 x5 x6 Q9 := fun _ z => z
  obtain ⟨σ29, h, ok, fr9, rc⟩ := e9_file ho2 ok h
  have fr := fr.tr (fr9.sub (mF_sub rfl (sub_c (Or.inr (List.mem_of_getElem? (i := 0) rfl)) (sub_c (Or.inr (List.mem_of_getElem? (i := 1) rfl)) sub_nil)) rfl (sud_c (Or.inr ⟨_, List.mem_of_getElem? (i := 0) rfl, rfl⟩) sud_nil)))
  have rb := fun Q9 z => rb Q9 (rc _ z)
  by_cases hc : x5 = 0
  · have h := h.1 hc
    have rb := fun Q9 z => rb Q9 (br_t hc z)
    exact ⟨1, σ29, h, ok, fr, fun Q9 hq => rb Q9 hq⟩
  have h := h.2 hc
  have rb := fun Q9 z => rb Q9 (br_f hc z)
  exact ⟨2, σ29, h, ok, fr, fun Q9 hq => rb Q9 hq⟩
set_option maxHeartbeats 4000000 in
theorem e9_answer_J348 {σ : St} {o1 : Nat} {o2 : Nat} {x5 : Int32} {xs0 : Int32} {Q : Int32 → St → Prop} (ho1 : o1 < 16) (ho2 : o2 < 16) (ok : okS σ) (h : w9_answer_J348 σ o1 o2 x5 xs0 Q) : (∃ (r : Int32) (σ' : St), Q r σ' ∧ okS σ' ∧ Fr (mF [] [(44, o2), (90, (o2 + 1))] [] [(12, o1, [3]), (13, o2, [1])]) σ σ' ∧ ∀ (Q9 : Int32 → St → Prop), Q9 r σ' → w9_answer_J348 σ o1 o2 x5 xs0 Q9) := by
  have fr : Fr (mF [] [(44, o2), (90, (o2 + 1))] [] [(12, o1, [3]), (13, o2, [1])]) σ σ := Fr.rf
  have rb : ∀ (Q9 : Int32 → St → Prop), w9_answer_J348 σ o1 o2 x5 xs0 Q9 → w9_answer_J348 σ o1 o2 x5 xs0 Q9 := fun _ z => z
  by_cases hc : 0 ≤ xs0
  · have h := h.1 hc
    have rb := fun Q9 z => rb Q9 (br_t hc z)
    obtain ⟨σ27, e9⟩ : ∃ s : St, s = up3 σ 12 o1 3 (σ 9 0 9) := ⟨_, rfl⟩
    have h := h σ27 e9
    have rb := fun Q9 z => rb Q9 (nm_n e9 z)
    have ok : okS σ27 := by rw [e9]; exact (ok_n ok (by decide))
    have fr : Fr (mF [] [(44, o2), (90, (o2 + 1))] [] [(12, o1, [3]), (13, o2, [1])]) σ σ27 := by rw [e9]; exact (Fr.up fr (mF_D (List.mem_of_getElem? (i := 0) rfl) rfl))
    obtain ⟨r28, h, rc⟩ := e1_isWhole ok h
    have rb := fun Q9 z => rb Q9 (rc _ z)
    by_cases hc : r28 = 0
    · have h := h.2 hc
      have rb := fun Q9 z => rb Q9 (br_u hc z)
      obtain ⟨r32, σ32, h, ok, fr9, rc⟩ := e9_last ho2 (by decide) ok h
      have fr := fr.tr (fr9.sub (mF_sub rfl (sub_c (Or.inr (List.mem_of_getElem? (i := 0) rfl)) (sub_c (Or.inr (List.mem_of_getElem? (i := 1) rfl)) sub_nil)) rfl (sud_c (Or.inr ⟨_, List.mem_of_getElem? (i := 1) rfl, rfl⟩) sud_nil)))
      have rb := fun Q9 z => rb Q9 (rc _ z)
      exact ⟨r32, σ32, h, ok, fr, fun Q9 hq => rb Q9 hq⟩
    have h := h.1 hc
    have rb := fun Q9 z => rb Q9 (br_v hc z)
    by_cases hc : (σ27 9 0 10) = 1
    · have h := h.2 hc
      have rb := fun Q9 z => rb Q9 (br_u hc z)
      obtain ⟨r30, h, rc⟩ := e9_isMarked ok h
      have rb := fun Q9 z => rb Q9 (rc _ z)
      by_cases hc : r30 = 0
      · have h := h.1 hc
        have rb := fun Q9 z => rb Q9 (br_t hc z)
        obtain ⟨r9, σ9, h, ok, fr9, rc⟩ := e9_answer_J429 ho2 ok h
        exact ⟨r9, σ9, h, ok, fr.tr (fr9.sub (mF_sub rfl (sub_c (Or.inr (List.mem_of_getElem? (i := 0) rfl)) (sub_c (Or.inr (List.mem_of_getElem? (i := 1) rfl)) sub_nil)) rfl (sud_c (Or.inr ⟨_, List.mem_of_getElem? (i := 1) rfl, rfl⟩) sud_nil))), fun Q9 hq => rb Q9 (rc Q9 hq)⟩
      have h := h.2 hc
      have rb := fun Q9 z => rb Q9 (br_f hc z)
      obtain ⟨σ31, h, ok, fr9, rc⟩ := e9_same ho2 ok h
      have fr := fr.tr (fr9.sub (mF_sub rfl (sub_c (Or.inr (List.mem_of_getElem? (i := 0) rfl)) (sub_c (Or.inr (List.mem_of_getElem? (i := 1) rfl)) sub_nil)) rfl (sud_c (Or.inr ⟨_, List.mem_of_getElem? (i := 1) rfl, rfl⟩) sud_nil)))
      have rb := fun Q9 z => rb Q9 (rc _ z)
      by_cases hc : x5 = 0
      · have h := h.1 hc
        have rb := fun Q9 z => rb Q9 (br_t hc z)
        exact ⟨1, σ31, h, ok, fr, fun Q9 hq => rb Q9 hq⟩
      have h := h.2 hc
      have rb := fun Q9 z => rb Q9 (br_f hc z)
      exact ⟨2, σ31, h, ok, fr, fun Q9 hq => rb Q9 hq⟩
    have h := h.1 hc
    have rb := fun Q9 z => rb Q9 (br_v hc z)
    obtain ⟨r9, σ9, h, ok, fr9, rc⟩ := e9_answer_J429 ho2 ok h
    exact ⟨r9, σ9, h, ok, fr.tr (fr9.sub (mF_sub rfl (sub_c (Or.inr (List.mem_of_getElem? (i := 0) rfl)) (sub_c (Or.inr (List.mem_of_getElem? (i := 1) rfl)) sub_nil)) rfl (sud_c (Or.inr ⟨_, List.mem_of_getElem? (i := 1) rfl, rfl⟩) sud_nil))), fun Q9 hq => rb Q9 (rc Q9 hq)⟩
  have h := h.2 hc
  have rb := fun Q9 z => rb Q9 (br_f hc z)
  obtain ⟨r33, σ33, h, ok, fr9, rc⟩ := e9_kept ho1 ho2 (by decide) ok h
  have fr := fr.tr (fr9.sub (mF_sub rfl (sub_c (Or.inr (List.mem_of_getElem? (i := 0) rfl)) (sub_c (Or.inr (List.mem_of_getElem? (i := 1) rfl)) sub_nil)) rfl (sud_c (Or.inr ⟨_, List.mem_of_getElem? (i := 0) rfl, rfl⟩) (sud_c (Or.inr ⟨_, List.mem_of_getElem? (i := 1) rfl, rfl⟩) sud_nil))))
  have rb := fun Q9 z => rb Q9 (rc _ z)
  exact ⟨r33, σ33, h, ok, fr, fun Q9 hq => rb Q9 hq⟩
set_option maxHeartbeats 4000000 in
theorem e9_answer_J307 {σ : St} {o1 : Nat} {o2 : Nat} {x5 : Int32} {Q : Int32 → St → Prop} (ho1 : o1 < 16) (ho2 : o2 < 16) (ok : okS σ) (h : w9_answer_J307 σ o1 o2 x5 Q) : (∃ (r : Int32) (σ' : St), Q r σ' ∧ okS σ' ∧ Fr (mF [41] [(44, o2), (90, (o2 + 1))] [(9, [18])] [(12, o1, [3]), (13, o2, [1])]) σ σ' ∧ ∀ (Q9 : Int32 → St → Prop), Q9 r σ' → w9_answer_J307 σ o1 o2 x5 Q9) := by
  have fr : Fr (mF [41] [(44, o2), (90, (o2 + 1))] [(9, [18])] [(12, o1, [3]), (13, o2, [1])]) σ σ := Fr.rf
  have rb : ∀ (Q9 : Int32 → St → Prop), w9_answer_J307 σ o1 o2 x5 Q9 → w9_answer_J307 σ o1 o2 x5 Q9 := fun _ z => z
  obtain ⟨r25, σ25, h, ok, fr9, rc⟩ := e9_decode ok h
  have fr := fr.tr (fr9.sub (mF_sub rfl sub_nil rfl sud_nil))
  have rb := fun Q9 z => rb Q9 (rc _ z)
  by_cases hc : r25 = 0
  · have h := h.2 hc
    have rb := fun Q9 z => rb Q9 (br_u hc z)
    obtain ⟨r34, σ34, h, ok, fr9, rc⟩ := e9_bad ho2 ok h
    have fr := fr.tr (fr9.sub (mF_sub rfl (sub_c (Or.inr (List.mem_of_getElem? (i := 0) rfl)) (sub_c (Or.inr (List.mem_of_getElem? (i := 1) rfl)) sub_nil)) rfl (sud_c (Or.inr ⟨_, List.mem_of_getElem? (i := 1) rfl, rfl⟩) sud_nil)))
    have rb := fun Q9 z => rb Q9 (rc _ z)
    exact ⟨r34, σ34, h, ok, fr, fun Q9 hq => rb Q9 hq⟩
  have h := h.1 hc
  have rb := fun Q9 z => rb Q9 (br_v hc z)
  by_cases hc : (σ25 9 0 18) ≤ 47
  · have h := h.1 hc
    have rb := fun Q9 z => rb Q9 (br_t hc z)
    obtain ⟨r26, h, rc⟩ := e1_find (by decide) ok h
    have rb := fun Q9 z => rb Q9 (rc _ z)
    obtain ⟨r9, σ9, h, ok, fr9, rc⟩ := e9_answer_J348 ho1 ho2 ok h
    exact ⟨r9, σ9, h, ok, fr.tr (fr9.sub (mF_sub rfl (sub_c (Or.inr (List.mem_of_getElem? (i := 0) rfl)) (sub_c (Or.inr (List.mem_of_getElem? (i := 1) rfl)) sub_nil)) rfl (sud_c (Or.inr ⟨_, List.mem_of_getElem? (i := 0) rfl, rfl⟩) (sud_c (Or.inr ⟨_, List.mem_of_getElem? (i := 1) rfl, rfl⟩) sud_nil)))), fun Q9 hq => rb Q9 (rc Q9 hq)⟩
  have h := h.2 hc
  have rb := fun Q9 z => rb Q9 (br_f hc z)
  obtain ⟨r9, σ9, h, ok, fr9, rc⟩ := e9_answer_J348 ho1 ho2 ok h
  exact ⟨r9, σ9, h, ok, fr.tr (fr9.sub (mF_sub rfl (sub_c (Or.inr (List.mem_of_getElem? (i := 0) rfl)) (sub_c (Or.inr (List.mem_of_getElem? (i := 1) rfl)) sub_nil)) rfl (sud_c (Or.inr ⟨_, List.mem_of_getElem? (i := 0) rfl, rfl⟩) (sud_c (Or.inr ⟨_, List.mem_of_getElem? (i := 1) rfl, rfl⟩) sud_nil)))), fun Q9 hq => rb Q9 (rc Q9 hq)⟩
set_option maxHeartbeats 4000000 in
theorem e9_answer_J270 {σ : St} {o1 : Nat} {o2 : Nat} {xs0 : Int32} {Q : Int32 → St → Prop} (ho1 : o1 < 16) (ho2 : o2 < 16) (ok : okS σ) (h : w9_answer_J270 σ o1 o2 xs0 Q) : (∃ (r : Int32) (σ' : St), Q r σ' ∧ okS σ' ∧ Fr (mF [41] [(44, o2), (90, (o2 + 1))] [(9, [18])] [(12, o1, [3]), (13, o2, [1])]) σ σ' ∧ ∀ (Q9 : Int32 → St → Prop), Q9 r σ' → w9_answer_J270 σ o1 o2 xs0 Q9) := by
  have fr : Fr (mF [41] [(44, o2), (90, (o2 + 1))] [(9, [18])] [(12, o1, [3]), (13, o2, [1])]) σ σ := Fr.rf
  have rb : ∀ (Q9 : Int32 → St → Prop), w9_answer_J270 σ o1 o2 xs0 Q9 → w9_answer_J270 σ o1 o2 xs0 Q9 := fun _ z => z
  have h := h ((ok 9 0 5).1 (by decide))
  have rb := fun Q9 z => rb Q9 (im_n z)
  by_cases hc : (σ 9 0 5) = 0
  · have h := h.2 hc
    have rb := fun Q9 z => rb Q9 (br_u hc z)
    obtain ⟨r35, h, rc⟩ := e9_isExactly (by decide) ok h
    have rb := fun Q9 z => rb Q9 (rc _ z)
    by_cases hc : r35 = 0
    · have h := h.2 hc
      have rb := fun Q9 z => rb Q9 (br_u hc z)
      obtain ⟨r36, σ36, h, ok, fr9, rc⟩ := e9_kept ho1 ho2 (by decide) ok h
      have fr := fr.tr (fr9.sub (mF_sub rfl (sub_c (Or.inr (List.mem_of_getElem? (i := 0) rfl)) (sub_c (Or.inr (List.mem_of_getElem? (i := 1) rfl)) sub_nil)) rfl (sud_c (Or.inr ⟨_, List.mem_of_getElem? (i := 0) rfl, rfl⟩) (sud_c (Or.inr ⟨_, List.mem_of_getElem? (i := 1) rfl, rfl⟩) sud_nil))))
      have rb := fun Q9 z => rb Q9 (rc _ z)
      exact ⟨r36, σ36, h, ok, fr, fun Q9 hq => rb Q9 hq⟩
    have h := h.1 hc
    have rb := fun Q9 z => rb Q9 (br_v hc z)
    obtain ⟨r9, σ9, h, ok, fr9, rc⟩ := e9_answer_J307 ho1 ho2 ok h
    exact ⟨r9, σ9, h, ok, fr.tr (fr9.sub (mF_sub rfl (sub_c (Or.inr (List.mem_of_getElem? (i := 0) rfl)) (sub_c (Or.inr (List.mem_of_getElem? (i := 1) rfl)) sub_nil)) rfl (sud_c (Or.inr ⟨_, List.mem_of_getElem? (i := 0) rfl, rfl⟩) (sud_c (Or.inr ⟨_, List.mem_of_getElem? (i := 1) rfl, rfl⟩) sud_nil)))), fun Q9 hq => rb Q9 (rc Q9 hq)⟩
  have h := h.1 hc
  have rb := fun Q9 z => rb Q9 (br_v hc z)
  obtain ⟨r9, σ9, h, ok, fr9, rc⟩ := e9_answer_J307 ho1 ho2 ok h
  exact ⟨r9, σ9, h, ok, fr.tr (fr9.sub (mF_sub rfl (sub_c (Or.inr (List.mem_of_getElem? (i := 0) rfl)) (sub_c (Or.inr (List.mem_of_getElem? (i := 1) rfl)) sub_nil)) rfl (sud_c (Or.inr ⟨_, List.mem_of_getElem? (i := 0) rfl, rfl⟩) (sud_c (Or.inr ⟨_, List.mem_of_getElem? (i := 1) rfl, rfl⟩) sud_nil)))), fun Q9 hq => rb Q9 (rc Q9 hq)⟩
set_option maxHeartbeats 4000000 in
theorem e9_answer_J178 {σ : St} {o1 : Nat} {o2 : Nat} {Q : Int32 → St → Prop} (ho1 : o1 < 16) (ho2 : o2 < 16) (ok : okS σ) (h : w9_answer_J178 σ o1 o2 Q) : (∃ (r : Int32) (σ' : St), Q r σ' ∧ okS σ' ∧ Fr (mF [41] [(44, o2), (90, (o2 + 1))] [(9, [18])] [(12, o1, [3]), (13, o2, [1])]) σ σ' ∧ ∀ (Q9 : Int32 → St → Prop), Q9 r σ' → w9_answer_J178 σ o1 o2 Q9) := by
  have fr : Fr (mF [41] [(44, o2), (90, (o2 + 1))] [(9, [18])] [(12, o1, [3]), (13, o2, [1])]) σ σ := Fr.rf
  have rb : ∀ (Q9 : Int32 → St → Prop), w9_answer_J178 σ o1 o2 Q9 → w9_answer_J178 σ o1 o2 Q9 := fun _ z => z
  have h := h ((ok 9 0 14).1 (by decide))
  have rb := fun Q9 z => rb Q9 (im_n z)
  by_cases hc : (σ 9 0 14) = 0
  · have h := h.1 hc
    have rb := fun Q9 z => rb Q9 (br_t hc z)
    by_cases hc : 1 < (σ 9 0 8)
    · have h := h.1 hc
      have rb := fun Q9 z => rb Q9 (br_t hc z)
      obtain ⟨r24, σ24, h, ok, fr9, rc⟩ := e9_bad ho2 ok h
      have fr := fr.tr (fr9.sub (mF_sub rfl (sub_c (Or.inr (List.mem_of_getElem? (i := 0) rfl)) (sub_c (Or.inr (List.mem_of_getElem? (i := 1) rfl)) sub_nil)) rfl (sud_c (Or.inr ⟨_, List.mem_of_getElem? (i := 1) rfl, rfl⟩) sud_nil)))
      have rb := fun Q9 z => rb Q9 (rc _ z)
      exact ⟨r24, σ24, h, ok, fr, fun Q9 hq => rb Q9 hq⟩
    have h := h.2 hc
    have rb := fun Q9 z => rb Q9 (br_f hc z)
    have h := h ((ok 9 0 13).1 (by decide))
    have rb := fun Q9 z => rb Q9 (im_n z)
    by_cases hc : (σ 9 0 13) = 0
    · have h := h.2 hc
      have rb := fun Q9 z => rb Q9 (br_u hc z)
      obtain ⟨r38, σ38, h, ok, fr9, rc⟩ := e9_bad ho2 ok h
      have fr := fr.tr (fr9.sub (mF_sub rfl (sub_c (Or.inr (List.mem_of_getElem? (i := 0) rfl)) (sub_c (Or.inr (List.mem_of_getElem? (i := 1) rfl)) sub_nil)) rfl (sud_c (Or.inr ⟨_, List.mem_of_getElem? (i := 1) rfl, rfl⟩) sud_nil)))
      have rb := fun Q9 z => rb Q9 (rc _ z)
      exact ⟨r38, σ38, h, ok, fr, fun Q9 hq => rb Q9 hq⟩
    have h := h.1 hc
    have rb := fun Q9 z => rb Q9 (br_v hc z)
    by_cases hc : (σ 9 0 9) ≤ 65536
    · have h := h.1 hc
      have rb := fun Q9 z => rb Q9 (br_t hc z)
      have h := h ((ok 9 0 6).1 (by decide))
      have rb := fun Q9 z => rb Q9 (im_n z)
      by_cases hc : (σ 9 0 6) = 0
      · have h := h.1 hc
        have rb := fun Q9 z => rb Q9 (br_t hc z)
        have h := h ((ok 9 0 15).1 (by decide))
        have rb := fun Q9 z => rb Q9 (im_n z)
        by_cases hc : (σ 9 0 15) = 0
        · have h := h.2 hc
          have rb := fun Q9 z => rb Q9 (br_u hc z)
          have h := h ((ok 9 0 16).1 (by decide))
          have rb := fun Q9 z => rb Q9 (im_n z)
          by_cases hc : (σ 9 0 16) = 0
          · have h := h.2 hc
            have rb := fun Q9 z => rb Q9 (br_u hc z)
            obtain ⟨r9, σ9, h, ok, fr9, rc⟩ := e9_answer_J270 ho1 ho2 ok h
            exact ⟨r9, σ9, h, ok, fr.tr (fr9.sub (mF_sub rfl (sub_c (Or.inr (List.mem_of_getElem? (i := 0) rfl)) (sub_c (Or.inr (List.mem_of_getElem? (i := 1) rfl)) sub_nil)) rfl (sud_c (Or.inr ⟨_, List.mem_of_getElem? (i := 0) rfl, rfl⟩) (sud_c (Or.inr ⟨_, List.mem_of_getElem? (i := 1) rfl, rfl⟩) sud_nil)))), fun Q9 hq => rb Q9 (rc Q9 hq)⟩
          have h := h.1 hc
          have rb := fun Q9 z => rb Q9 (br_v hc z)
          obtain ⟨r9, σ9, h, ok, fr9, rc⟩ := e9_answer_J270 ho1 ho2 ok h
          exact ⟨r9, σ9, h, ok, fr.tr (fr9.sub (mF_sub rfl (sub_c (Or.inr (List.mem_of_getElem? (i := 0) rfl)) (sub_c (Or.inr (List.mem_of_getElem? (i := 1) rfl)) sub_nil)) rfl (sud_c (Or.inr ⟨_, List.mem_of_getElem? (i := 0) rfl, rfl⟩) (sud_c (Or.inr ⟨_, List.mem_of_getElem? (i := 1) rfl, rfl⟩) sud_nil)))), fun Q9 hq => rb Q9 (rc Q9 hq)⟩
        have h := h.1 hc
        have rb := fun Q9 z => rb Q9 (br_v hc z)
        obtain ⟨r9, σ9, h, ok, fr9, rc⟩ := e9_answer_J270 ho1 ho2 ok h
        exact ⟨r9, σ9, h, ok, fr.tr (fr9.sub (mF_sub rfl (sub_c (Or.inr (List.mem_of_getElem? (i := 0) rfl)) (sub_c (Or.inr (List.mem_of_getElem? (i := 1) rfl)) sub_nil)) rfl (sud_c (Or.inr ⟨_, List.mem_of_getElem? (i := 0) rfl, rfl⟩) (sud_c (Or.inr ⟨_, List.mem_of_getElem? (i := 1) rfl, rfl⟩) sud_nil)))), fun Q9 hq => rb Q9 (rc Q9 hq)⟩
      have h := h.2 hc
      have rb := fun Q9 z => rb Q9 (br_f hc z)
      have h := h ((ok 9 0 15).1 (by decide))
      have rb := fun Q9 z => rb Q9 (im_n z)
      obtain ⟨r9, σ9, h, ok, fr9, rc⟩ := e9_answer_J270 ho1 ho2 ok h
      exact ⟨r9, σ9, h, ok, fr.tr (fr9.sub (mF_sub rfl (sub_c (Or.inr (List.mem_of_getElem? (i := 0) rfl)) (sub_c (Or.inr (List.mem_of_getElem? (i := 1) rfl)) sub_nil)) rfl (sud_c (Or.inr ⟨_, List.mem_of_getElem? (i := 0) rfl, rfl⟩) (sud_c (Or.inr ⟨_, List.mem_of_getElem? (i := 1) rfl, rfl⟩) sud_nil)))), fun Q9 hq => rb Q9 (rc Q9 hq)⟩
    have h := h.2 hc
    have rb := fun Q9 z => rb Q9 (br_f hc z)
    obtain ⟨r37, σ37, h, ok, fr9, rc⟩ := e9_last ho2 (by decide) ok h
    have fr := fr.tr (fr9.sub (mF_sub rfl (sub_c (Or.inr (List.mem_of_getElem? (i := 0) rfl)) (sub_c (Or.inr (List.mem_of_getElem? (i := 1) rfl)) sub_nil)) rfl (sud_c (Or.inr ⟨_, List.mem_of_getElem? (i := 1) rfl, rfl⟩) sud_nil)))
    have rb := fun Q9 z => rb Q9 (rc _ z)
    exact ⟨r37, σ37, h, ok, fr, fun Q9 hq => rb Q9 hq⟩
  have h := h.2 hc
  have rb := fun Q9 z => rb Q9 (br_f hc z)
  obtain ⟨r39, σ39, h, ok, fr9, rc⟩ := e9_last ho2 (by decide) ok h
  have fr := fr.tr (fr9.sub (mF_sub rfl (sub_c (Or.inr (List.mem_of_getElem? (i := 0) rfl)) (sub_c (Or.inr (List.mem_of_getElem? (i := 1) rfl)) sub_nil)) rfl (sud_c (Or.inr ⟨_, List.mem_of_getElem? (i := 1) rfl, rfl⟩) sud_nil)))
  have rb := fun Q9 z => rb Q9 (rc _ z)
  exact ⟨r39, σ39, h, ok, fr, fun Q9 hq => rb Q9 hq⟩
set_option maxHeartbeats 4000000 in
theorem e9_answer {σ : St} {o1 : Nat} {o2 : Nat} {Q : Int32 → St → Prop} (ho1 : o1 < 16) (ho2 : o2 < 16) (ok : okS σ) (h : w9_answer σ o1 o2 Q) : (∃ (r : Int32) (σ' : St), Q r σ' ∧ okS σ' ∧ Fr (mF [41] [(44, o2), (90, (o2 + 1))] [(9, [3, 4, 5, 6, 7, 8, 9, 10, 11, 12, 13, 14, 15, 16, 18])] [(12, o1, [3]), (13, o2, [1])]) σ σ' ∧ ∀ (Q9 : Int32 → St → Prop), Q9 r σ' → w9_answer σ o1 o2 Q9) := by
  have fr : Fr (mF [41] [(44, o2), (90, (o2 + 1))] [(9, [3, 4, 5, 6, 7, 8, 9, 10, 11, 12, 13, 14, 15, 16, 18])] [(12, o1, [3]), (13, o2, [1])]) σ σ := Fr.rf
  have rb : ∀ (Q9 : Int32 → St → Prop), w9_answer σ o1 o2 Q9 → w9_answer σ o1 o2 Q9 := fun _ z => z
  obtain ⟨σ1, e9⟩ : ∃ s : St, s = up3 σ 9 0 5 0 := ⟨_, rfl⟩
  have h := h σ1 e9
  have rb := fun Q9 z => rb Q9 (nm_n e9 z)
  have ok : okS σ1 := by rw [e9]; exact (ok_z ok (by decide) (Or.inl rfl))
  have fr : Fr (mF [41] [(44, o2), (90, (o2 + 1))] [(9, [3, 4, 5, 6, 7, 8, 9, 10, 11, 12, 13, 14, 15, 16, 18])] [(12, o1, [3]), (13, o2, [1])]) σ σ1 := by rw [e9]; exact (Fr.up fr (mF_C (List.mem_of_getElem? (i := 0) rfl) rfl))
  obtain ⟨r2, h, rc⟩ := e9_lineEnd ok h
  have rb := fun Q9 z => rb Q9 (rc _ z)
  obtain ⟨r3, h, rc⟩ := e9_textEnd ok h
  have rb := fun Q9 z => rb Q9 (rc _ z)
  obtain ⟨r4, σ4, h, ok, fr9, rc⟩ := e9_isRequestLine ok h
  have fr := fr.tr (fr9.sub (mF_sub rfl sub_nil rfl sud_nil))
  have rb := fun Q9 z => rb Q9 (rc _ z)
  by_cases hc : r4 = 0
  · have h := h.2 hc
    have rb := fun Q9 z => rb Q9 (br_u hc z)
    obtain ⟨r42, σ42, h, ok, fr9, rc⟩ := e9_bad ho2 ok h
    have fr := fr.tr (fr9.sub (mF_sub rfl (sub_c (Or.inr (List.mem_of_getElem? (i := 0) rfl)) (sub_c (Or.inr (List.mem_of_getElem? (i := 1) rfl)) sub_nil)) rfl (sud_c (Or.inr ⟨_, List.mem_of_getElem? (i := 1) rfl, rfl⟩) sud_nil)))
    have rb := fun Q9 z => rb Q9 (rc _ z)
    exact ⟨r42, σ42, h, ok, fr, fun Q9 hq => rb Q9 hq⟩
  have h := h.1 hc
  have rb := fun Q9 z => rb Q9 (br_v hc z)
  obtain ⟨r5, h, rc⟩ := e9_isExactly (by decide) ok h
  have rb := fun Q9 z => rb Q9 (rc _ z)
  obtain ⟨hbo, h⟩ := h
  have rb := fun Q9 z => rb Q9 (And.intro hbo z)
  obtain ⟨σ6, e9⟩ : ∃ s : St, s = up3 σ4 9 0 5 r5 := ⟨_, rfl⟩
  have h := h σ6 e9
  have rb := fun Q9 z => rb Q9 (nm_n e9 z)
  have ok : okS σ6 := by rw [e9]; exact (ok_z ok (by decide) hbo)
  have fr : Fr (mF [41] [(44, o2), (90, (o2 + 1))] [(9, [3, 4, 5, 6, 7, 8, 9, 10, 11, 12, 13, 14, 15, 16, 18])] [(12, o1, [3]), (13, o2, [1])]) σ σ6 := by rw [e9]; exact (Fr.up fr (mF_C (List.mem_of_getElem? (i := 0) rfl) rfl))
  obtain ⟨σ7, e9⟩ : ∃ s : St, s = up3 σ6 9 0 7 0 := ⟨_, rfl⟩
  have h := h σ7 e9
  have rb := fun Q9 z => rb Q9 (nm_n e9 z)
  have ok : okS σ7 := by rw [e9]; exact (ok_n ok (by decide))
  have fr : Fr (mF [41] [(44, o2), (90, (o2 + 1))] [(9, [3, 4, 5, 6, 7, 8, 9, 10, 11, 12, 13, 14, 15, 16, 18])] [(12, o1, [3]), (13, o2, [1])]) σ σ7 := by rw [e9]; exact (Fr.up fr (mF_C (List.mem_of_getElem? (i := 0) rfl) rfl))
  obtain ⟨σ8, e9⟩ : ∃ s : St, s = up3 σ7 9 0 8 0 := ⟨_, rfl⟩
  have h := h σ8 e9
  have rb := fun Q9 z => rb Q9 (nm_n e9 z)
  have ok : okS σ8 := by rw [e9]; exact (ok_n ok (by decide))
  have fr : Fr (mF [41] [(44, o2), (90, (o2 + 1))] [(9, [3, 4, 5, 6, 7, 8, 9, 10, 11, 12, 13, 14, 15, 16, 18])] [(12, o1, [3]), (13, o2, [1])]) σ σ8 := by rw [e9]; exact (Fr.up fr (mF_C (List.mem_of_getElem? (i := 0) rfl) rfl))
  obtain ⟨σ9, e9⟩ : ∃ s : St, s = up3 σ8 9 0 9 0 := ⟨_, rfl⟩
  have h := h σ9 e9
  have rb := fun Q9 z => rb Q9 (nm_n e9 z)
  have ok : okS σ9 := by rw [e9]; exact (ok_n ok (by decide))
  have fr : Fr (mF [41] [(44, o2), (90, (o2 + 1))] [(9, [3, 4, 5, 6, 7, 8, 9, 10, 11, 12, 13, 14, 15, 16, 18])] [(12, o1, [3]), (13, o2, [1])]) σ σ9 := by rw [e9]; exact (Fr.up fr (mF_C (List.mem_of_getElem? (i := 0) rfl) rfl))
  obtain ⟨σ10, e9⟩ : ∃ s : St, s = up3 σ9 9 0 10 0 := ⟨_, rfl⟩
  have h := h σ10 e9
  have rb := fun Q9 z => rb Q9 (nm_n e9 z)
  have ok : okS σ10 := by rw [e9]; exact (ok_n ok (by decide))
  have fr : Fr (mF [41] [(44, o2), (90, (o2 + 1))] [(9, [3, 4, 5, 6, 7, 8, 9, 10, 11, 12, 13, 14, 15, 16, 18])] [(12, o1, [3]), (13, o2, [1])]) σ σ10 := by rw [e9]; exact (Fr.up fr (mF_C (List.mem_of_getElem? (i := 0) rfl) rfl))
  obtain ⟨σ11, e9⟩ : ∃ s : St, s = up3 σ10 9 0 13 1 := ⟨_, rfl⟩
  have h := h σ11 e9
  have rb := fun Q9 z => rb Q9 (nm_n e9 z)
  have ok : okS σ11 := by rw [e9]; exact (ok_z ok (by decide) (Or.inr rfl))
  have fr : Fr (mF [41] [(44, o2), (90, (o2 + 1))] [(9, [3, 4, 5, 6, 7, 8, 9, 10, 11, 12, 13, 14, 15, 16, 18])] [(12, o1, [3]), (13, o2, [1])]) σ σ11 := by rw [e9]; exact (Fr.up fr (mF_C (List.mem_of_getElem? (i := 0) rfl) rfl))
  obtain ⟨σ12, e9⟩ : ∃ s : St, s = up3 σ11 9 0 14 0 := ⟨_, rfl⟩
  have h := h σ12 e9
  have rb := fun Q9 z => rb Q9 (nm_n e9 z)
  have ok : okS σ12 := by rw [e9]; exact (ok_z ok (by decide) (Or.inl rfl))
  have fr : Fr (mF [41] [(44, o2), (90, (o2 + 1))] [(9, [3, 4, 5, 6, 7, 8, 9, 10, 11, 12, 13, 14, 15, 16, 18])] [(12, o1, [3]), (13, o2, [1])]) σ σ12 := by rw [e9]; exact (Fr.up fr (mF_C (List.mem_of_getElem? (i := 0) rfl) rfl))
  obtain ⟨σ13, e9⟩ : ∃ s : St, s = up3 σ12 9 0 15 0 := ⟨_, rfl⟩
  have h := h σ13 e9
  have rb := fun Q9 z => rb Q9 (nm_n e9 z)
  have ok : okS σ13 := by rw [e9]; exact (ok_z ok (by decide) (Or.inl rfl))
  have fr : Fr (mF [41] [(44, o2), (90, (o2 + 1))] [(9, [3, 4, 5, 6, 7, 8, 9, 10, 11, 12, 13, 14, 15, 16, 18])] [(12, o1, [3]), (13, o2, [1])]) σ σ13 := by rw [e9]; exact (Fr.up fr (mF_C (List.mem_of_getElem? (i := 0) rfl) rfl))
  obtain ⟨σ14, e9⟩ : ∃ s : St, s = up3 σ13 9 0 16 0 := ⟨_, rfl⟩
  have h := h σ14 e9
  have rb := fun Q9 z => rb Q9 (nm_n e9 z)
  have ok : okS σ14 := by rw [e9]; exact (ok_z ok (by decide) (Or.inl rfl))
  have fr : Fr (mF [41] [(44, o2), (90, (o2 + 1))] [(9, [3, 4, 5, 6, 7, 8, 9, 10, 11, 12, 13, 14, 15, 16, 18])] [(12, o1, [3]), (13, o2, [1])]) σ σ14 := by rw [e9]; exact (Fr.up fr (mF_C (List.mem_of_getElem? (i := 0) rfl) rfl))
  obtain ⟨r15, h, rc⟩ := e9_lineEnd ok h
  have rb := fun Q9 z => rb Q9 (rc _ z)
  obtain ⟨n9, h⟩ := h
  rcases e9_answer_L97 ho1 ho2 n9 ok h with ⟨σ21, h, ok, fr9, rc⟩ | ⟨σ22, h, ok, fr9, rc⟩
  · have rb := fun Q9 z => rb Q9 (Exists.intro n9 (rc _ _ _ z))
    have fr := fr.tr (fr9.sub (mF_sub rfl sub_nil rfl sud_nil))
    obtain ⟨r23, σ23, h, ok, fr9, rc⟩ := e9_bad ho2 ok h
    have fr := fr.tr (fr9.sub (mF_sub rfl (sub_c (Or.inr (List.mem_of_getElem? (i := 0) rfl)) (sub_c (Or.inr (List.mem_of_getElem? (i := 1) rfl)) sub_nil)) rfl (sud_c (Or.inr ⟨_, List.mem_of_getElem? (i := 1) rfl, rfl⟩) sud_nil)))
    have rb := fun Q9 z => rb Q9 (rc _ z)
    exact ⟨r23, σ23, h, ok, fr, fun Q9 hq => rb Q9 hq⟩
  · have rb := fun Q9 z => rb Q9 (Exists.intro n9 (rc _ _ _ z))
    have fr := fr.tr (fr9.sub (mF_sub rfl sub_nil rfl sud_nil))
    have h := h ((ok 9 0 6).1 (by decide))
    have rb := fun Q9 z => rb Q9 (im_n z)
    by_cases hc : (σ22 9 0 6) = 0
    · have h := h.1 hc
      have rb := fun Q9 z => rb Q9 (br_t hc z)
      by_cases hc : (σ22 9 0 7) ≤ 1
      · have h := h.1 hc
        have rb := fun Q9 z => rb Q9 (br_t hc z)
        obtain ⟨r9, σ9, h, ok, fr9, rc⟩ := e9_answer_J178 ho1 ho2 ok h
        exact ⟨r9, σ9, h, ok, fr.tr (fr9.sub (mF_sub rfl (sub_c (Or.inr (List.mem_of_getElem? (i := 0) rfl)) (sub_c (Or.inr (List.mem_of_getElem? (i := 1) rfl)) sub_nil)) rfl (sud_c (Or.inr ⟨_, List.mem_of_getElem? (i := 0) rfl, rfl⟩) (sud_c (Or.inr ⟨_, List.mem_of_getElem? (i := 1) rfl, rfl⟩) sud_nil)))), fun Q9 hq => rb Q9 (rc Q9 hq)⟩
      have h := h.2 hc
      have rb := fun Q9 z => rb Q9 (br_f hc z)
      obtain ⟨r40, σ40, h, ok, fr9, rc⟩ := e9_bad ho2 ok h
      have fr := fr.tr (fr9.sub (mF_sub rfl (sub_c (Or.inr (List.mem_of_getElem? (i := 0) rfl)) (sub_c (Or.inr (List.mem_of_getElem? (i := 1) rfl)) sub_nil)) rfl (sud_c (Or.inr ⟨_, List.mem_of_getElem? (i := 1) rfl, rfl⟩) sud_nil)))
      have rb := fun Q9 z => rb Q9 (rc _ z)
      exact ⟨r40, σ40, h, ok, fr, fun Q9 hq => rb Q9 hq⟩
    have h := h.2 hc
    have rb := fun Q9 z => rb Q9 (br_f hc z)
    by_cases hc : (σ22 9 0 7) = 1
    · have h := h.1 hc
      have rb := fun Q9 z => rb Q9 (br_t hc z)
      obtain ⟨r9, σ9, h, ok, fr9, rc⟩ := e9_answer_J178 ho1 ho2 ok h
      exact ⟨r9, σ9, h, ok, fr.tr (fr9.sub (mF_sub rfl (sub_c (Or.inr (List.mem_of_getElem? (i := 0) rfl)) (sub_c (Or.inr (List.mem_of_getElem? (i := 1) rfl)) sub_nil)) rfl (sud_c (Or.inr ⟨_, List.mem_of_getElem? (i := 0) rfl, rfl⟩) (sud_c (Or.inr ⟨_, List.mem_of_getElem? (i := 1) rfl, rfl⟩) sud_nil)))), fun Q9 hq => rb Q9 (rc Q9 hq)⟩
    have h := h.2 hc
    have rb := fun Q9 z => rb Q9 (br_f hc z)
    obtain ⟨r41, σ41, h, ok, fr9, rc⟩ := e9_bad ho2 ok h
    have fr := fr.tr (fr9.sub (mF_sub rfl (sub_c (Or.inr (List.mem_of_getElem? (i := 0) rfl)) (sub_c (Or.inr (List.mem_of_getElem? (i := 1) rfl)) sub_nil)) rfl (sud_c (Or.inr ⟨_, List.mem_of_getElem? (i := 1) rfl, rfl⟩) sud_nil)))
    have rb := fun Q9 z => rb Q9 (rc _ z)
    exact ⟨r41, σ41, h, ok, fr, fun Q9 hq => rb Q9 hq⟩
/-! WebHostModel.passTo(I)V -/
set_option maxHeartbeats 4000000 in
theorem e14_passTo_L19 {σ : St} {x1 : Int32} {Q : St → Prop} {K100 : Int64 → Int32 → Int32 → Prop} (ok : okS σ) :
    ∀ (n : Nat) {y3 : Int64} {x5 : Int32} {x6 : Int32} {x7 : Int32}, w14_passTo_L19 σ x1 Q K100 n y3 x5 x6 x7 → (∃ (y3' : Int64) (x5' : Int32) (x6' : Int32), K100 y3' x5' x6' ∧ ∀ (Q9 : St → Prop) (K9_100 : Int64 → Int32 → Int32 → Prop), K9_100 y3' x5' x6' → w14_passTo_L19 σ x1 Q9 K9_100 n y3 x5 x6 x7) := by
  intro n
  induction n with
  | zero =>
    intro y3 x5 x6 x7 h
    exact False.elim h
  | succ n ih =>
    intro y3 x5 x6 x7 h
    have rb : ∀ (Q9 : St → Prop) (K9_100 : Int64 → Int32 → Int32 → Prop), w14_passTo_L19 σ x1 Q9 K9_100 (n + 1) y3 x5 x6 x7 → w14_passTo_L19 σ x1 Q9 K9_100 (n + 1) y3 x5 x6 x7 := fun _ _ z => z
    by_cases hc : 8 ≤ x7
    · have h := h.1 hc
      have rb := fun Q9 K9_100 z => rb Q9 K9_100 (br_t hc z)
      exact ⟨y3, x5, x6, h, fun Q9 K9_100 hq => rb Q9 K9_100 hq⟩
    have h := h.2 hc
    have rb := fun Q9 K9_100 z => rb Q9 K9_100 (br_f hc z)
    obtain ⟨hc, h⟩ := h
    have rb := fun Q9 K9_100 z => rb Q9 K9_100 (And.intro hc z)
    have hq1 := vp_lt hc
    have h := h ((ok 17 x7.toNatClampNeg 0).1 (by decide))
    have rb := fun Q9 K9_100 z => rb Q9 K9_100 (im_n z)
    by_cases hc : (σ 17 x7.toNatClampNeg 0) = 0
    · have h := h.1 hc
      have rb := fun Q9 K9_100 z => rb Q9 K9_100 (br_t hc z)
      rcases ih h with ⟨y3, x5, x6, h, rc⟩
      · exact ⟨y3, x5, x6, h, fun Q9 K9_100 hq => rb Q9 K9_100 (rc Q9 K9_100 hq)⟩
    have h := h.2 hc
    have rb := fun Q9 K9_100 z => rb Q9 K9_100 (br_f hc z)
    obtain ⟨r2, h, rc⟩ := e14_askDue hq1 ok h
    have rb := fun Q9 K9_100 z => rb Q9 K9_100 (rc _ z)
    by_cases hc : (lg_cmp r2 y3) < 0
    · have h := h.1 hc
      have rb := fun Q9 K9_100 z => rb Q9 K9_100 (br_t hc z)
      obtain ⟨r3, h, rc⟩ := e14_askDue hq1 ok h
      have rb := fun Q9 K9_100 z => rb Q9 K9_100 (rc _ z)
      rcases ih h with ⟨y3, x5, x6, h, rc⟩
      · exact ⟨y3, x5, x6, h, fun Q9 K9_100 hq => rb Q9 K9_100 (rc Q9 K9_100 hq)⟩
    have h := h.2 hc
    have rb := fun Q9 K9_100 z => rb Q9 K9_100 (br_f hc z)
    obtain ⟨r4, h, rc⟩ := e14_askDue hq1 ok h
    have rb := fun Q9 K9_100 z => rb Q9 K9_100 (rc _ z)
    by_cases hc : (lg_cmp r4 y3) = 0
    · have h := h.2 hc
      have rb := fun Q9 K9_100 z => rb Q9 K9_100 (br_u hc z)
      obtain ⟨hc, h⟩ := h
      have rb := fun Q9 K9_100 z => rb Q9 K9_100 (And.intro hc z)
      have hq5 := vp_lt hc
      by_cases hc : (σ 17 x6.toNatClampNeg 5) ≤ (σ 17 x7.toNatClampNeg 5)
      · have h := h.1 hc
        have rb := fun Q9 K9_100 z => rb Q9 K9_100 (br_t hc z)
        rcases ih h with ⟨y3, x5, x6, h, rc⟩
        · exact ⟨y3, x5, x6, h, fun Q9 K9_100 hq => rb Q9 K9_100 (rc Q9 K9_100 hq)⟩
      have h := h.2 hc
      have rb := fun Q9 K9_100 z => rb Q9 K9_100 (br_f hc z)
      obtain ⟨r6, h, rc⟩ := e14_askDue hq1 ok h
      have rb := fun Q9 K9_100 z => rb Q9 K9_100 (rc _ z)
      rcases ih h with ⟨y3, x5, x6, h, rc⟩
      · exact ⟨y3, x5, x6, h, fun Q9 K9_100 hq => rb Q9 K9_100 (rc Q9 K9_100 hq)⟩
    have h := h.1 hc
    have rb := fun Q9 K9_100 z => rb Q9 K9_100 (br_v hc z)
    rcases ih h with ⟨y3, x5, x6, h, rc⟩
    · exact ⟨y3, x5, x6, h, fun Q9 K9_100 hq => rb Q9 K9_100 (rc Q9 K9_100 hq)⟩
set_option maxHeartbeats 4000000 in
theorem e14_passTo_L103 {σ : St} {x1 : Int32} {Q : St → Prop} {K192 : Int64 → Int32 → Int32 → Prop} (ok : okS σ) :
    ∀ (n : Nat) {y3 : Int64} {x5 : Int32} {x6 : Int32} {x7 : Int32}, w14_passTo_L103 σ x1 Q K192 n y3 x5 x6 x7 → (∃ (y3' : Int64) (x5' : Int32) (x6' : Int32), K192 y3' x5' x6' ∧ ∀ (Q9 : St → Prop) (K9_192 : Int64 → Int32 → Int32 → Prop), K9_192 y3' x5' x6' → w14_passTo_L103 σ x1 Q9 K9_192 n y3 x5 x6 x7) := by
  intro n
  induction n with
  | zero =>
    intro y3 x5 x6 x7 h
    exact False.elim h
  | succ n ih =>
    intro y3 x5 x6 x7 h
    have rb : ∀ (Q9 : St → Prop) (K9_192 : Int64 → Int32 → Int32 → Prop), w14_passTo_L103 σ x1 Q9 K9_192 (n + 1) y3 x5 x6 x7 → w14_passTo_L103 σ x1 Q9 K9_192 (n + 1) y3 x5 x6 x7 := fun _ _ z => z
    by_cases hc : 4 ≤ x7
    · have h := h.1 hc
      have rb := fun Q9 K9_192 z => rb Q9 K9_192 (br_t hc z)
      exact ⟨y3, x5, x6, h, fun Q9 K9_192 hq => rb Q9 K9_192 hq⟩
    have h := h.2 hc
    have rb := fun Q9 K9_192 z => rb Q9 K9_192 (br_f hc z)
    obtain ⟨hc, h⟩ := h
    have rb := fun Q9 K9_192 z => rb Q9 K9_192 (And.intro hc z)
    have hq9 := vp_lt hc
    have h := h ((ok 18 x7.toNatClampNeg 0).1 (by decide))
    have rb := fun Q9 K9_192 z => rb Q9 K9_192 (im_n z)
    by_cases hc : (σ 18 x7.toNatClampNeg 0) = 0
    · have h := h.1 hc
      have rb := fun Q9 K9_192 z => rb Q9 K9_192 (br_t hc z)
      rcases ih h with ⟨y3, x5, x6, h, rc⟩
      · exact ⟨y3, x5, x6, h, fun Q9 K9_192 hq => rb Q9 K9_192 (rc Q9 K9_192 hq)⟩
    have h := h.2 hc
    have rb := fun Q9 K9_192 z => rb Q9 K9_192 (br_f hc z)
    by_cases hc : (lg_cmp (((σ 18 x7.toNatClampNeg 5).toInt64) + 15000) y3) < 0
    · have h := h.1 hc
      have rb := fun Q9 K9_192 z => rb Q9 K9_192 (br_t hc z)
      rcases ih h with ⟨y3, x5, x6, h, rc⟩
      · exact ⟨y3, x5, x6, h, fun Q9 K9_192 hq => rb Q9 K9_192 (rc Q9 K9_192 hq)⟩
    have h := h.2 hc
    have rb := fun Q9 K9_192 z => rb Q9 K9_192 (br_f hc z)
    by_cases hc : (lg_cmp (((σ 18 x7.toNatClampNeg 5).toInt64) + 15000) y3) = 0
    · have h := h.2 hc
      have rb := fun Q9 K9_192 z => rb Q9 K9_192 (br_u hc z)
      by_cases hc : x5 = 1
      · have h := h.2 hc
        have rb := fun Q9 K9_192 z => rb Q9 K9_192 (br_u hc z)
        obtain ⟨hc, h⟩ := h
        have rb := fun Q9 K9_192 z => rb Q9 K9_192 (And.intro hc z)
        have hq10 := vp_lt hc
        by_cases hc : (σ 18 x6.toNatClampNeg 6) ≤ (σ 18 x7.toNatClampNeg 6)
        · have h := h.1 hc
          have rb := fun Q9 K9_192 z => rb Q9 K9_192 (br_t hc z)
          rcases ih h with ⟨y3, x5, x6, h, rc⟩
          · exact ⟨y3, x5, x6, h, fun Q9 K9_192 hq => rb Q9 K9_192 (rc Q9 K9_192 hq)⟩
        have h := h.2 hc
        have rb := fun Q9 K9_192 z => rb Q9 K9_192 (br_f hc z)
        rcases ih h with ⟨y3, x5, x6, h, rc⟩
        · exact ⟨y3, x5, x6, h, fun Q9 K9_192 hq => rb Q9 K9_192 (rc Q9 K9_192 hq)⟩
      have h := h.1 hc
      have rb := fun Q9 K9_192 z => rb Q9 K9_192 (br_v hc z)
      rcases ih h with ⟨y3, x5, x6, h, rc⟩
      · exact ⟨y3, x5, x6, h, fun Q9 K9_192 hq => rb Q9 K9_192 (rc Q9 K9_192 hq)⟩
    have h := h.1 hc
    have rb := fun Q9 K9_192 z => rb Q9 K9_192 (br_v hc z)
    rcases ih h with ⟨y3, x5, x6, h, rc⟩
    · exact ⟨y3, x5, x6, h, fun Q9 K9_192 hq => rb Q9 K9_192 (rc Q9 K9_192 hq)⟩
set_option maxHeartbeats 4000000 in
theorem e14_passTo_J255 {σ : St} {x1 : Int32} {y3 : Int64} {x5 : Int32} {x6 : Int32} {x7 : Int32} {o8 : Nat} {Q : St → Prop} {K195 : Int64 → Int32 → Int32 → Int32 → Prop} (ho8 : o8 < 16) (ok : okS σ) (h : w14_passTo_J255 σ x1 y3 x5 x6 x7 o8 Q K195) : (∃ (y3' : Int64) (x5' : Int32) (x6' : Int32) (x7' : Int32), K195 y3' x5' x6' x7' ∧ ∀ (Q9 : St → Prop) (K9_195 : Int64 → Int32 → Int32 → Int32 → Prop), K9_195 y3' x5' x6' x7' → w14_passTo_J255 σ x1 y3 x5 x6 x7 o8 Q9 K9_195) := by
  have fr : Fr (mF [] [] [] []) σ σ := Fr.rf
  have rb : ∀ (Q9 : St → Prop) (K9_195 : Int64 → Int32 → Int32 → Int32 → Prop), w14_passTo_J255 σ x1 y3 x5 x6 x7 o8 Q9 K9_195 → w14_passTo_J255 σ x1 y3 x5 x6 x7 o8 Q9 K9_195 := fun _ _ z => z
  obtain ⟨r14, h, rc⟩ := e14_life ho8 ok h
  have rb := fun Q9 K9_195 z => rb Q9 K9_195 (rc _ z)
  by_cases hc : 0 ≤ (lg_cmp r14 y3)
  · have h := h.1 hc
    have rb := fun Q9 K9_195 z => rb Q9 K9_195 (br_t hc z)
    exact ⟨y3, x5, x6, x7 + 1, h, fun Q9 K9_195 hq => rb Q9 K9_195 hq⟩
  have h := h.2 hc
  have rb := fun Q9 K9_195 z => rb Q9 K9_195 (br_f hc z)
  obtain ⟨r15, h, rc⟩ := e14_life ho8 ok h
  have rb := fun Q9 K9_195 z => rb Q9 K9_195 (rc _ z)
  exact ⟨r15, 3, x7, x7 + 1, h, fun Q9 K9_195 hq => rb Q9 K9_195 hq⟩
set_option maxHeartbeats 4000000 in
theorem e14_passTo_L195 {σ : St} {x1 : Int32} {Q : St → Prop} {K284 : Int64 → Int32 → Int32 → Prop} (ok : okS σ) :
    ∀ (n : Nat) {y3 : Int64} {x5 : Int32} {x6 : Int32} {x7 : Int32}, w14_passTo_L195 σ x1 Q K284 n y3 x5 x6 x7 → (∃ (y3' : Int64) (x5' : Int32) (x6' : Int32), K284 y3' x5' x6' ∧ ∀ (Q9 : St → Prop) (K9_284 : Int64 → Int32 → Int32 → Prop), K9_284 y3' x5' x6' → w14_passTo_L195 σ x1 Q9 K9_284 n y3 x5 x6 x7) := by
  intro n
  induction n with
  | zero =>
    intro y3 x5 x6 x7 h
    exact False.elim h
  | succ n ih =>
    intro y3 x5 x6 x7 h
    have rb : ∀ (Q9 : St → Prop) (K9_284 : Int64 → Int32 → Int32 → Prop), w14_passTo_L195 σ x1 Q9 K9_284 (n + 1) y3 x5 x6 x7 → w14_passTo_L195 σ x1 Q9 K9_284 (n + 1) y3 x5 x6 x7 := fun _ _ z => z
    by_cases hc : 16 ≤ x7
    · have h := h.1 hc
      have rb := fun Q9 K9_284 z => rb Q9 K9_284 (br_t hc z)
      exact ⟨y3, x5, x6, h, fun Q9 K9_284 hq => rb Q9 K9_284 hq⟩
    have h := h.2 hc
    have rb := fun Q9 K9_284 z => rb Q9 K9_284 (br_f hc z)
    obtain ⟨hc, h⟩ := h
    have rb := fun Q9 K9_284 z => rb Q9 K9_284 (And.intro hc z)
    have hq13 := vp_lt hc
    by_cases hc : (σ 15 x7.toNatClampNeg 0) = 0
    · have h := h.2 hc
      have rb := fun Q9 K9_284 z => rb Q9 K9_284 (br_u hc z)
      rcases ih h with ⟨y3, x5, x6, h, rc⟩
      · exact ⟨y3, x5, x6, h, fun Q9 K9_284 hq => rb Q9 K9_284 (rc Q9 K9_284 hq)⟩
    have h := h.1 hc
    have rb := fun Q9 K9_284 z => rb Q9 K9_284 (br_v hc z)
    have h := h ((ok 15 x7.toNatClampNeg 21).1 (by decide))
    have rb := fun Q9 K9_284 z => rb Q9 K9_284 (im_n z)
    by_cases hc : (σ 15 x7.toNatClampNeg 21) = 0
    · have h := h.1 hc
      have rb := fun Q9 K9_284 z => rb Q9 K9_284 (br_t hc z)
      rcases e14_passTo_J255 hq13 ok h with ⟨y3, x5, x6, x7, h, rc⟩
      · rcases ih h with ⟨y3, x5, x6, h, rd⟩
        · exact ⟨y3, x5, x6, h, fun Q9 K9_284 hq => rb Q9 K9_284 (rc _ _ (rd Q9 K9_284 hq))⟩
    have h := h.2 hc
    have rb := fun Q9 K9_284 z => rb Q9 K9_284 (br_f hc z)
    by_cases hc : 0 ≤ (lg_cmp ((σ 15 x7.toNatClampNeg 22).toInt64) y3)
    · have h := h.1 hc
      have rb := fun Q9 K9_284 z => rb Q9 K9_284 (br_t hc z)
      rcases e14_passTo_J255 hq13 ok h with ⟨y3, x5, x6, x7, h, rc⟩
      · rcases ih h with ⟨y3, x5, x6, h, rd⟩
        · exact ⟨y3, x5, x6, h, fun Q9 K9_284 hq => rb Q9 K9_284 (rc _ _ (rd Q9 K9_284 hq))⟩
    have h := h.2 hc
    have rb := fun Q9 K9_284 z => rb Q9 K9_284 (br_f hc z)
    rcases e14_passTo_J255 hq13 ok h with ⟨y3, x5, x6, x7, h, rc⟩
    · rcases ih h with ⟨y3, x5, x6, h, rd⟩
      · exact ⟨y3, x5, x6, h, fun Q9 K9_284 hq => rb Q9 K9_284 (rc _ _ (rd Q9 K9_284 hq))⟩
set_option maxHeartbeats 4000000 in
theorem e14_passTo_J296 {σ : St} {x1 : Int32} {y3 : Int64} {x5 : Int32} {x6 : Int32} {xs0 : Int32} {Q : St → Prop} {K2 : St → Int32 → Prop} (ok : okS σ) (h : w14_passTo_J296 σ x1 y3 x5 x6 xs0 Q K2) : (∃ (σ' : St) (x2' : Int32), K2 σ' x2' ∧ okS σ' ∧ Fr (mF [56, 57, 58, 59, 60, 68] [] [(14, [10, 18, 23, 24, 25]), (15, [0, 5, 6, 11, 12, 13, 17, 18, 19, 20, 21, 22, 23, 24, 30, 31, 37, 39]), (17, [0, 1, 2, 3, 4, 5]), (18, [0])] []) σ σ' ∧ ∀ (Q9 : St → Prop) (K9_2 : St → Int32 → Prop), K9_2 σ' x2' → w14_passTo_J296 σ x1 y3 x5 x6 xs0 Q9 K9_2) := by
  have fr : Fr (mF [56, 57, 58, 59, 60, 68] [] [(14, [10, 18, 23, 24, 25]), (15, [0, 5, 6, 11, 12, 13, 17, 18, 19, 20, 21, 22, 23, 24, 30, 31, 37, 39]), (17, [0, 1, 2, 3, 4, 5]), (18, [0])] []) σ σ := Fr.rf
  have rb : ∀ (Q9 : St → Prop) (K9_2 : St → Int32 → Prop), w14_passTo_J296 σ x1 y3 x5 x6 xs0 Q9 K9_2 → w14_passTo_J296 σ x1 y3 x5 x6 xs0 Q9 K9_2 := fun _ _ z => z
  by_cases hc : xs0 = 0
  · have h := h.1 hc
    have rb := fun Q9 K9_2 z => rb Q9 K9_2 (br_t hc z)
    exact ⟨σ, xs0, h, ok, fr, fun Q9 K9_2 hq => rb Q9 K9_2 hq⟩
  have h := h.2 hc
  have rb := fun Q9 K9_2 z => rb Q9 K9_2 (br_f hc z)
  obtain ⟨σ18, e9⟩ : ∃ s : St, s = up3 σ 14 0 10 ((lmax ((σ 14 0 10).toInt64) y3).toInt32) := ⟨_, rfl⟩
  have h := h σ18 e9
  have rb := fun Q9 K9_2 z => rb Q9 K9_2 (nm_n e9 z)
  have ok : okS σ18 := by rw [e9]; exact (ok_n ok (by decide))
  have fr : Fr (mF [56, 57, 58, 59, 60, 68] [] [(14, [10, 18, 23, 24, 25]), (15, [0, 5, 6, 11, 12, 13, 17, 18, 19, 20, 21, 22, 23, 24, 30, 31, 37, 39]), (17, [0, 1, 2, 3, 4, 5]), (18, [0])] []) σ σ18 := by rw [e9]; exact (Fr.up fr (mF_C (List.mem_of_getElem? (i := 0) rfl) rfl))
  by_cases hc : x5 = 0
  · have h := h.2 hc
    have rb := fun Q9 K9_2 z => rb Q9 K9_2 (br_u hc z)
    obtain ⟨hc, h⟩ := h
    have rb := fun Q9 K9_2 z => rb Q9 K9_2 (And.intro hc z)
    have hq25 := vp_lt hc
    obtain ⟨σ26, h, ok, fr9, rc⟩ := e14_askAgain hq25 ok h
    have fr := fr.tr (fr9.sub (mF_sub rfl sub_nil rfl (sud_c (Or.inl ⟨_, List.mem_of_getElem? (i := 2) rfl, rfl⟩) sud_nil)))
    have rb := fun Q9 K9_2 z => rb Q9 K9_2 (rc _ z)
    exact ⟨σ26, xs0, h, ok, fr, fun Q9 K9_2 hq => rb Q9 K9_2 hq⟩
  have h := h.1 hc
  have rb := fun Q9 K9_2 z => rb Q9 K9_2 (br_v hc z)
  by_cases hc : x5 = 1
  · have h := h.2 hc
    have rb := fun Q9 K9_2 z => rb Q9 K9_2 (br_u hc z)
    obtain ⟨hc, h⟩ := h
    have rb := fun Q9 K9_2 z => rb Q9 K9_2 (And.intro hc z)
    have hq23 := vp_lt hc
    obtain ⟨σ24, e9⟩ : ∃ s : St, s = up3 σ18 18 x6.toNatClampNeg 0 0 := ⟨_, rfl⟩
    have h := h σ24 e9
    have rb := fun Q9 K9_2 z => rb Q9 K9_2 (nm_n e9 z)
    have ok : okS σ24 := by rw [e9]; exact (ok_z ok (by decide) (Or.inl rfl))
    have fr : Fr (mF [56, 57, 58, 59, 60, 68] [] [(14, [10, 18, 23, 24, 25]), (15, [0, 5, 6, 11, 12, 13, 17, 18, 19, 20, 21, 22, 23, 24, 30, 31, 37, 39]), (17, [0, 1, 2, 3, 4, 5]), (18, [0])] []) σ σ24 := by rw [e9]; exact (Fr.up fr (mF_C (List.mem_of_getElem? (i := 3) rfl) rfl))
    exact ⟨σ24, xs0, h, ok, fr, fun Q9 K9_2 hq => rb Q9 K9_2 hq⟩
  have h := h.1 hc
  have rb := fun Q9 K9_2 z => rb Q9 K9_2 (br_v hc z)
  by_cases hc : x5 = 2
  · have h := h.2 hc
    have rb := fun Q9 K9_2 z => rb Q9 K9_2 (br_u hc z)
    obtain ⟨hc, h⟩ := h
    have rb := fun Q9 K9_2 z => rb Q9 K9_2 (And.intro hc z)
    have hq21 := vp_lt hc
    obtain ⟨σ22, h, ok, fr9, rc⟩ := e14_runOut hq21 ok h
    have fr := fr.tr (fr9.sub (mF_sub rfl sub_nil rfl (sud_c (Or.inl ⟨_, List.mem_of_getElem? (i := 1) rfl, rfl⟩) sud_nil)))
    have rb := fun Q9 K9_2 z => rb Q9 K9_2 (rc _ z)
    exact ⟨σ22, xs0, h, ok, fr, fun Q9 K9_2 hq => rb Q9 K9_2 hq⟩
  have h := h.1 hc
  have rb := fun Q9 K9_2 z => rb Q9 K9_2 (br_v hc z)
  obtain ⟨hc, h⟩ := h
  have rb := fun Q9 K9_2 z => rb Q9 K9_2 (And.intro hc z)
  have hq19 := vp_lt hc
  obtain ⟨σ20, h, ok, fr9, rc⟩ := e14_lifeEnds hq19 ok h
  have fr := fr.tr (fr9.sub (mF_sub rfl sub_nil rfl (sud_c (Or.inl ⟨_, List.mem_of_getElem? (i := 1) rfl, rfl⟩) sud_nil)))
  have rb := fun Q9 K9_2 z => rb Q9 K9_2 (rc _ z)
  exact ⟨σ20, xs0, h, ok, fr, fun Q9 K9_2 hq => rb Q9 K9_2 hq⟩
set_option maxHeartbeats 4000000 in
theorem e14_passTo_L2 {x1 : Int32} {Q : St → Prop} {K388 : St → Prop} :
    ∀ (n : Nat) {σ : St} {x2 : Int32} (ok : okS σ), w14_passTo_L2 x1 Q K388 n σ x2 → (∃ (σ' : St), K388 σ' ∧ okS σ' ∧ Fr (mF [56, 57, 58, 59, 60, 68] [] [(14, [10, 18, 23, 24, 25]), (15, [0, 5, 6, 11, 12, 13, 17, 18, 19, 20, 21, 22, 23, 24, 30, 31, 37, 39]), (17, [0, 1, 2, 3, 4, 5]), (18, [0])] []) σ σ' ∧ ∀ (Q9 : St → Prop) (K9_388 : St → Prop), K9_388 σ' → w14_passTo_L2 x1 Q9 K9_388 n σ x2) := by
  intro n
  induction n with
  | zero =>
    intro σ x2 ok h
    exact False.elim h
  | succ n ih =>
    intro σ x2 ok h
    have fr : Fr (mF [56, 57, 58, 59, 60, 68] [] [(14, [10, 18, 23, 24, 25]), (15, [0, 5, 6, 11, 12, 13, 17, 18, 19, 20, 21, 22, 23, 24, 30, 31, 37, 39]), (17, [0, 1, 2, 3, 4, 5]), (18, [0])] []) σ σ := Fr.rf
    have rb : ∀ (Q9 : St → Prop) (K9_388 : St → Prop), w14_passTo_L2 x1 Q9 K9_388 (n + 1) σ x2 → w14_passTo_L2 x1 Q9 K9_388 (n + 1) σ x2 := fun _ _ z => z
    by_cases hc : x2 = 0
    · have h := h.1 hc
      have rb := fun Q9 K9_388 z => rb Q9 K9_388 (br_t hc z)
      exact ⟨σ, h, ok, fr, fun Q9 K9_388 hq => rb Q9 K9_388 hq⟩
    have h := h.2 hc
    have rb := fun Q9 K9_388 z => rb Q9 K9_388 (br_f hc z)
    obtain ⟨n9, h⟩ := h
    rcases e14_passTo_L19 ok n9 h with ⟨y3_8, x5_8, x6_8, h, rc⟩
    · have rb := fun Q9 K9_388 z => rb Q9 K9_388 (Exists.intro n9 (rc _ _ z))
      obtain ⟨n9, h⟩ := h
      rcases e14_passTo_L103 ok n9 h with ⟨y3_12, x5_12, x6_12, h, rc⟩
      · have rb := fun Q9 K9_388 z => rb Q9 K9_388 (Exists.intro n9 (rc _ _ z))
        obtain ⟨n9, h⟩ := h
        rcases e14_passTo_L195 ok n9 h with ⟨y3_17, x5_17, x6_17, h, rc⟩
        · have rb := fun Q9 K9_388 z => rb Q9 K9_388 (Exists.intro n9 (rc _ _ z))
          by_cases hc : 0 < (lg_cmp y3_17 x1.toInt64)
          · have h := h.1 hc
            have rb := fun Q9 K9_388 z => rb Q9 K9_388 (br_t hc z)
            rcases e14_passTo_J296 ok h with ⟨σ', x2, h, ok, fr9, rc⟩
            · have fr := fr.tr (fr9.sub (mF_sub rfl sub_nil rfl sud_nil))
              rcases ih ok h with ⟨σ', h, ok, fr9, rd⟩
              · exact ⟨σ', h, ok, fr.tr fr9, fun Q9 K9_388 hq => rb Q9 K9_388 (rc _ _ (rd Q9 K9_388 hq))⟩
          have h := h.2 hc
          have rb := fun Q9 K9_388 z => rb Q9 K9_388 (br_f hc z)
          rcases e14_passTo_J296 ok h with ⟨σ', x2, h, ok, fr9, rc⟩
          · have fr := fr.tr (fr9.sub (mF_sub rfl sub_nil rfl sud_nil))
            rcases ih ok h with ⟨σ', h, ok, fr9, rd⟩
            · exact ⟨σ', h, ok, fr.tr fr9, fun Q9 K9_388 hq => rb Q9 K9_388 (rc _ _ (rd Q9 K9_388 hq))⟩
set_option maxHeartbeats 4000000 in
theorem e14_passTo {σ : St} {x1 : Int32} {Q : St → Prop} (ok : okS σ) (h : w14_passTo σ x1 Q) : (∃ (σ' : St), Q σ' ∧ okS σ' ∧ Fr (mF [56, 57, 58, 59, 60, 68] [] [(14, [10, 18, 23, 24, 25]), (15, [0, 5, 6, 11, 12, 13, 17, 18, 19, 20, 21, 22, 23, 24, 30, 31, 37, 39]), (17, [0, 1, 2, 3, 4, 5]), (18, [0])] []) σ σ' ∧ ∀ (Q9 : St → Prop), Q9 σ' → w14_passTo σ x1 Q9) := by
  have fr : Fr (mF [56, 57, 58, 59, 60, 68] [] [(14, [10, 18, 23, 24, 25]), (15, [0, 5, 6, 11, 12, 13, 17, 18, 19, 20, 21, 22, 23, 24, 30, 31, 37, 39]), (17, [0, 1, 2, 3, 4, 5]), (18, [0])] []) σ σ := Fr.rf
  have rb : ∀ (Q9 : St → Prop), w14_passTo σ x1 Q9 → w14_passTo σ x1 Q9 := fun _ z => z
  obtain ⟨n9, h⟩ := h
  rcases e14_passTo_L2 n9 ok h with ⟨σ28, h, ok, fr9, rc⟩
  · have rb := fun Q9 z => rb Q9 (Exists.intro n9 (rc _ _ z))
    have fr := fr.tr (fr9.sub (mF_sub rfl sub_nil rfl sud_nil))
    obtain ⟨σ29, e9⟩ : ∃ s : St, s = up3 σ28 14 0 10 x1 := ⟨_, rfl⟩
    have h := h σ29 e9
    have rb := fun Q9 z => rb Q9 (nm_n e9 z)
    have ok : okS σ29 := by rw [e9]; exact (ok_n ok (by decide))
    have fr : Fr (mF [56, 57, 58, 59, 60, 68] [] [(14, [10, 18, 23, 24, 25]), (15, [0, 5, 6, 11, 12, 13, 17, 18, 19, 20, 21, 22, 23, 24, 30, 31, 37, 39]), (17, [0, 1, 2, 3, 4, 5]), (18, [0])] []) σ σ29 := by rw [e9]; exact (Fr.up fr (mF_C (List.mem_of_getElem? (i := 0) rfl) rfl))
    exact ⟨σ29, h, ok, fr, fun Q9 hq => rb Q9 hq⟩
/-! WebHostModel.segment(LWebHostModel$Connection;)V -/
set_option maxHeartbeats 4000000 in
theorem e14_segment_J128 {σ : St} {o1 : Nat} {Q : St → Prop} (ho1 : o1 < 16) (ok : okS σ) (h : w14_segment_J128 σ o1 Q) : (∃ (σ' : St), Q σ' ∧ okS σ' ∧ Fr (mF [56, 57, 58, 59, 60, 66, 67, 68] [(71, o1), (72, o1), (73, o1)] [(14, [18, 23, 24, 25, 42, 43, 44, 45, 46, 47, 48, 49, 50, 51, 52, 53, 54, 55, 56, 57, 59, 60, 61, 62]), (17, [0, 1, 2, 3, 4, 5])] [(15, o1, [0, 5, 6, 17, 19, 20, 21, 22, 26, 27, 28, 29, 30, 31, 35, 37, 38, 39])]) σ σ' ∧ ∀ (Q9 : St → Prop), Q9 σ' → w14_segment_J128 σ o1 Q9) := by
  have fr : Fr (mF [56, 57, 58, 59, 60, 66, 67, 68] [(71, o1), (72, o1), (73, o1)] [(14, [18, 23, 24, 25, 42, 43, 44, 45, 46, 47, 48, 49, 50, 51, 52, 53, 54, 55, 56, 57, 59, 60, 61, 62]), (17, [0, 1, 2, 3, 4, 5])] [(15, o1, [0, 5, 6, 17, 19, 20, 21, 22, 26, 27, 28, 29, 30, 31, 35, 37, 38, 39])]) σ σ := Fr.rf
  have rb : ∀ (Q9 : St → Prop), w14_segment_J128 σ o1 Q9 → w14_segment_J128 σ o1 Q9 := fun _ z => z
  obtain ⟨σ7, h, ok, fr9, rc⟩ := e14_requests ho1 ok h
  have fr := fr.tr (fr9.sub (mF_sub rfl (sub_c (Or.inr (List.mem_of_getElem? (i := 0) rfl)) (sub_c (Or.inr (List.mem_of_getElem? (i := 1) rfl)) (sub_c (Or.inr (List.mem_of_getElem? (i := 2) rfl)) sub_nil))) rfl (sud_c (Or.inr ⟨_, List.mem_of_getElem? (i := 0) rfl, rfl⟩) sud_nil)))
  have rb := fun Q9 z => rb Q9 (rc _ z)
  obtain ⟨σ8, h, ok, fr9, rc⟩ := e14_sendAll ho1 ok h
  have fr := fr.tr (fr9.sub (mF_sub rfl sub_nil rfl (sud_c (Or.inr ⟨_, List.mem_of_getElem? (i := 0) rfl, rfl⟩) sud_nil)))
  have rb := fun Q9 z => rb Q9 (rc _ z)
  have h := h ((ok 15 o1 39).1 (by decide))
  have rb := fun Q9 z => rb Q9 (im_n z)
  by_cases hc : (σ8 15 o1 39) = 0
  · have h := h.1 hc
    have rb := fun Q9 z => rb Q9 (br_t hc z)
    exact ⟨σ8, h, ok, fr, fun Q9 hq => rb Q9 hq⟩
  have h := h.2 hc
  have rb := fun Q9 z => rb Q9 (br_f hc z)
  obtain ⟨σ9, h, ok, fr9, rc⟩ := e14_acknowledge ho1 ok h
  have fr := fr.tr (fr9.sub (mF_sub rfl sub_nil rfl (sud_c (Or.inr ⟨_, List.mem_of_getElem? (i := 0) rfl, rfl⟩) sud_nil)))
  have rb := fun Q9 z => rb Q9 (rc _ z)
  exact ⟨σ9, h, ok, fr, fun Q9 hq => rb Q9 hq⟩
set_option maxHeartbeats 4000000 in
theorem e14_segment {σ : St} {o1 : Nat} {Q : St → Prop} (ho1 : o1 < 16) (ok : okS σ) (h : w14_segment σ o1 Q) : (∃ (σ' : St), Q σ' ∧ okS σ' ∧ Fr (mF [56, 57, 58, 59, 60, 66, 67, 68] [(71, o1), (72, o1), (73, o1)] [(14, [18, 23, 24, 25, 42, 43, 44, 45, 46, 47, 48, 49, 50, 51, 52, 53, 54, 55, 56, 57, 59, 60, 61, 62]), (17, [0, 1, 2, 3, 4, 5])] [(15, o1, [0, 4, 5, 6, 7, 8, 9, 11, 12, 13, 14, 15, 16, 17, 18, 19, 20, 21, 22, 23, 24, 26, 27, 28, 29, 30, 31, 35, 36, 37, 38, 39, 40, 41, 42, 43, 44, 45])]) σ σ' ∧ ∀ (Q9 : St → Prop), Q9 σ' → w14_segment σ o1 Q9) := by
  have fr : Fr (mF [56, 57, 58, 59, 60, 66, 67, 68] [(71, o1), (72, o1), (73, o1)] [(14, [18, 23, 24, 25, 42, 43, 44, 45, 46, 47, 48, 49, 50, 51, 52, 53, 54, 55, 56, 57, 59, 60, 61, 62]), (17, [0, 1, 2, 3, 4, 5])] [(15, o1, [0, 4, 5, 6, 7, 8, 9, 11, 12, 13, 14, 15, 16, 17, 18, 19, 20, 21, 22, 23, 24, 26, 27, 28, 29, 30, 31, 35, 36, 37, 38, 39, 40, 41, 42, 43, 44, 45])]) σ σ := Fr.rf
  have rb : ∀ (Q9 : St → Prop), w14_segment σ o1 Q9 → w14_segment σ o1 Q9 := fun _ z => z
  obtain ⟨r1, h, rc⟩ := e14_isAcceptable ho1 ok h
  have rb := fun Q9 z => rb Q9 (rc _ z)
  by_cases hc : r1 = 0
  · have h := h.2 hc
    have rb := fun Q9 z => rb Q9 (br_u hc z)
    obtain ⟨r15, h, rc⟩ := e14_is ok h
    have rb := fun Q9 z => rb Q9 (rc _ z)
    by_cases hc : r15 = 0
    · have h := h.1 hc
      have rb := fun Q9 z => rb Q9 (br_t hc z)
      obtain ⟨σ16, h, ok, fr9, rc⟩ := e14_acknowledge ho1 ok h
      have fr := fr.tr (fr9.sub (mF_sub rfl sub_nil rfl (sud_c (Or.inr ⟨_, List.mem_of_getElem? (i := 0) rfl, rfl⟩) sud_nil)))
      have rb := fun Q9 z => rb Q9 (rc _ z)
      by_cases hc : (σ16 15 o1 0) = 6
      · have h := h.2 hc
        have rb := fun Q9 z => rb Q9 (br_u hc z)
        obtain ⟨r17, h, rc⟩ := e14_is ok h
        have rb := fun Q9 z => rb Q9 (rc _ z)
        by_cases hc : r17 = 0
        · have h := h.1 hc
          have rb := fun Q9 z => rb Q9 (br_t hc z)
          exact ⟨σ16, h, ok, fr, fun Q9 hq => rb Q9 hq⟩
        have h := h.2 hc
        have rb := fun Q9 z => rb Q9 (br_f hc z)
        obtain ⟨σ18, e9⟩ : ∃ s : St, s = up3 σ16 15 o1 45 (σ16 14 0 10) := ⟨_, rfl⟩
        have h := h σ18 e9
        have rb := fun Q9 z => rb Q9 (nm_n e9 z)
        have ok : okS σ18 := by rw [e9]; exact (ok_n ok (by decide))
        have fr : Fr (mF [56, 57, 58, 59, 60, 66, 67, 68] [(71, o1), (72, o1), (73, o1)] [(14, [18, 23, 24, 25, 42, 43, 44, 45, 46, 47, 48, 49, 50, 51, 52, 53, 54, 55, 56, 57, 59, 60, 61, 62]), (17, [0, 1, 2, 3, 4, 5])] [(15, o1, [0, 4, 5, 6, 7, 8, 9, 11, 12, 13, 14, 15, 16, 17, 18, 19, 20, 21, 22, 23, 24, 26, 27, 28, 29, 30, 31, 35, 36, 37, 38, 39, 40, 41, 42, 43, 44, 45])]) σ σ18 := by rw [e9]; exact (Fr.up fr (mF_D (List.mem_of_getElem? (i := 0) rfl) rfl))
        exact ⟨σ18, h, ok, fr, fun Q9 hq => rb Q9 hq⟩
      have h := h.1 hc
      have rb := fun Q9 z => rb Q9 (br_v hc z)
      exact ⟨σ16, h, ok, fr, fun Q9 hq => rb Q9 hq⟩
    have h := h.2 hc
    have rb := fun Q9 z => rb Q9 (br_f hc z)
    exact ⟨σ, h, ok, fr, fun Q9 hq => rb Q9 hq⟩
  have h := h.1 hc
  have rb := fun Q9 z => rb Q9 (br_v hc z)
  obtain ⟨r2, h, rc⟩ := e14_is ok h
  have rb := fun Q9 z => rb Q9 (rc _ z)
  by_cases hc : r2 = 0
  · have h := h.1 hc
    have rb := fun Q9 z => rb Q9 (br_t hc z)
    obtain ⟨r3, h, rc⟩ := e14_is ok h
    have rb := fun Q9 z => rb Q9 (rc _ z)
    by_cases hc : r3 = 0
    · have h := h.1 hc
      have rb := fun Q9 z => rb Q9 (br_t hc z)
      obtain ⟨r4, h, rc⟩ := e14_is ok h
      have rb := fun Q9 z => rb Q9 (rc _ z)
      by_cases hc : r4 = 0
      · have h := h.1 hc
        have rb := fun Q9 z => rb Q9 (br_t hc z)
        exact ⟨σ, h, ok, fr, fun Q9 hq => rb Q9 hq⟩
      have h := h.2 hc
      have rb := fun Q9 z => rb Q9 (br_f hc z)
      obtain ⟨r5, σ5, h, ok, fr9, rc⟩ := e14_acknowledgement ho1 ok h
      have fr := fr.tr (fr9.sub (mF_sub rfl sub_nil rfl (sud_c (Or.inr ⟨_, List.mem_of_getElem? (i := 0) rfl, rfl⟩) sud_nil)))
      have rb := fun Q9 z => rb Q9 (rc _ z)
      by_cases hc : r5 = 0
      · have h := h.2 hc
        have rb := fun Q9 z => rb Q9 (br_u hc z)
        exact ⟨σ5, h, ok, fr, fun Q9 hq => rb Q9 hq⟩
      have h := h.1 hc
      have rb := fun Q9 z => rb Q9 (br_v hc z)
      obtain ⟨σ6, h, ok, fr9, rc⟩ := e14_arrived ho1 ok h
      have fr := fr.tr (fr9.sub (mF_sub rfl (sub_c (Or.inr (List.mem_of_getElem? (i := 1) rfl)) (sub_c (Or.inr (List.mem_of_getElem? (i := 2) rfl)) sub_nil)) rfl (sud_c (Or.inr ⟨_, List.mem_of_getElem? (i := 0) rfl, rfl⟩) sud_nil)))
      have rb := fun Q9 z => rb Q9 (rc _ z)
      by_cases hc : (σ6 15 o1 0) = 6
      · have h := h.2 hc
        have rb := fun Q9 z => rb Q9 (br_u hc z)
        obtain ⟨r10, h, rc⟩ := e14_is ok h
        have rb := fun Q9 z => rb Q9 (rc _ z)
        by_cases hc : r10 = 0
        · have h := h.1 hc
          have rb := fun Q9 z => rb Q9 (br_t hc z)
          obtain ⟨σ9, h, ok, fr9, rc⟩ := e14_segment_J128 ho1 ok h
          exact ⟨σ9, h, ok, fr.tr (fr9.sub (mF_sub rfl (sub_c (Or.inr (List.mem_of_getElem? (i := 0) rfl)) (sub_c (Or.inr (List.mem_of_getElem? (i := 1) rfl)) (sub_c (Or.inr (List.mem_of_getElem? (i := 2) rfl)) sub_nil))) rfl (sud_c (Or.inr ⟨_, List.mem_of_getElem? (i := 0) rfl, rfl⟩) sud_nil))), fun Q9 hq => rb Q9 (rc Q9 hq)⟩
        have h := h.2 hc
        have rb := fun Q9 z => rb Q9 (br_f hc z)
        obtain ⟨σ11, e9⟩ : ∃ s : St, s = up3 σ6 15 o1 45 (σ6 14 0 10) := ⟨_, rfl⟩
        have h := h σ11 e9
        have rb := fun Q9 z => rb Q9 (nm_n e9 z)
        have ok : okS σ11 := by rw [e9]; exact (ok_n ok (by decide))
        have fr : Fr (mF [56, 57, 58, 59, 60, 66, 67, 68] [(71, o1), (72, o1), (73, o1)] [(14, [18, 23, 24, 25, 42, 43, 44, 45, 46, 47, 48, 49, 50, 51, 52, 53, 54, 55, 56, 57, 59, 60, 61, 62]), (17, [0, 1, 2, 3, 4, 5])] [(15, o1, [0, 4, 5, 6, 7, 8, 9, 11, 12, 13, 14, 15, 16, 17, 18, 19, 20, 21, 22, 23, 24, 26, 27, 28, 29, 30, 31, 35, 36, 37, 38, 39, 40, 41, 42, 43, 44, 45])]) σ σ11 := by rw [e9]; exact (Fr.up fr (mF_D (List.mem_of_getElem? (i := 0) rfl) rfl))
        obtain ⟨σ9, h, ok, fr9, rc⟩ := e14_segment_J128 ho1 ok h
        exact ⟨σ9, h, ok, fr.tr (fr9.sub (mF_sub rfl (sub_c (Or.inr (List.mem_of_getElem? (i := 0) rfl)) (sub_c (Or.inr (List.mem_of_getElem? (i := 1) rfl)) (sub_c (Or.inr (List.mem_of_getElem? (i := 2) rfl)) sub_nil))) rfl (sud_c (Or.inr ⟨_, List.mem_of_getElem? (i := 0) rfl, rfl⟩) sud_nil))), fun Q9 hq => rb Q9 (rc Q9 hq)⟩
      have h := h.1 hc
      have rb := fun Q9 z => rb Q9 (br_v hc z)
      obtain ⟨σ9, h, ok, fr9, rc⟩ := e14_segment_J128 ho1 ok h
      exact ⟨σ9, h, ok, fr.tr (fr9.sub (mF_sub rfl (sub_c (Or.inr (List.mem_of_getElem? (i := 0) rfl)) (sub_c (Or.inr (List.mem_of_getElem? (i := 1) rfl)) (sub_c (Or.inr (List.mem_of_getElem? (i := 2) rfl)) sub_nil))) rfl (sud_c (Or.inr ⟨_, List.mem_of_getElem? (i := 0) rfl, rfl⟩) sud_nil))), fun Q9 hq => rb Q9 (rc Q9 hq)⟩
    have h := h.2 hc
    have rb := fun Q9 z => rb Q9 (br_f hc z)
    obtain ⟨σ12, h, ok, fr9, rc⟩ := e14_reset ok h
    have fr := fr.tr (fr9.sub (mF_sub rfl sub_nil rfl sud_nil))
    have rb := fun Q9 z => rb Q9 (rc _ z)
    obtain ⟨σ13, h, ok, fr9, rc⟩ := e14_gone ho1 ok h
    have fr := fr.tr (fr9.sub (mF_sub rfl sub_nil rfl (sud_c (Or.inr ⟨_, List.mem_of_getElem? (i := 0) rfl, rfl⟩) sud_nil)))
    have rb := fun Q9 z => rb Q9 (rc _ z)
    exact ⟨σ13, h, ok, fr, fun Q9 hq => rb Q9 hq⟩
  have h := h.2 hc
  have rb := fun Q9 z => rb Q9 (br_f hc z)
  obtain ⟨σ14, h, ok, fr9, rc⟩ := e14_gone ho1 ok h
  have fr := fr.tr (fr9.sub (mF_sub rfl sub_nil rfl (sud_c (Or.inr ⟨_, List.mem_of_getElem? (i := 0) rfl, rfl⟩) sud_nil)))
  have rb := fun Q9 z => rb Q9 (rc _ z)
  exact ⟨σ14, h, ok, fr, fun Q9 hq => rb Q9 hq⟩
/-! WebHost.goOn(I)V -/
set_option maxHeartbeats 4000000 in
theorem e0_goOn_L5 {x1 : Int32} {Q : St → Prop} {K31 : St → Prop} :
    ∀ (n : Nat) {σ : St} {x2 : Int32} (ok : okS σ), w0_goOn_L5 x1 Q K31 n σ x2 → (∃ (σ' : St), K31 σ' ∧ okS σ' ∧ Fr (mF [23, 25, 26, 31, 32, 35, 36, 37] [] [(11, [2, 10, 11, 14, 15, 16, 17, 18, 19, 21, 22, 27, 28, 29, 30, 33, 34, 36, 37]), (2, [3, 4]), (3, [9]), (4, [0, 1, 2, 4]), (5, [2]), (6, [1]), (8, [3, 4])] []) σ σ' ∧ ∀ (Q9 : St → Prop) (K9_31 : St → Prop), K9_31 σ' → w0_goOn_L5 x1 Q9 K9_31 n σ x2) := by
  intro n
  induction n with
  | zero =>
    intro σ x2 ok h
    exact False.elim h
  | succ n ih =>
    intro σ x2 ok h
    have fr : Fr (mF [23, 25, 26, 31, 32, 35, 36, 37] [] [(11, [2, 10, 11, 14, 15, 16, 17, 18, 19, 21, 22, 27, 28, 29, 30, 33, 34, 36, 37]), (2, [3, 4]), (3, [9]), (4, [0, 1, 2, 4]), (5, [2]), (6, [1]), (8, [3, 4])] []) σ σ := Fr.rf
    have rb : ∀ (Q9 : St → Prop) (K9_31 : St → Prop), w0_goOn_L5 x1 Q9 K9_31 (n + 1) σ x2 → w0_goOn_L5 x1 Q9 K9_31 (n + 1) σ x2 := fun _ _ z => z
    by_cases hc : x1 < x2
    · have h := h.1 hc
      have rb := fun Q9 K9_31 z => rb Q9 K9_31 (br_t hc z)
      exact ⟨σ, h, ok, fr, fun Q9 K9_31 hq => rb Q9 K9_31 hq⟩
    have h := h.2 hc
    have rb := fun Q9 K9_31 z => rb Q9 K9_31 (br_f hc z)
    obtain ⟨σ2, e9⟩ : ∃ s : St, s = up3 σ 2 0 4 x2 := ⟨_, rfl⟩
    have h := h σ2 e9
    have rb := fun Q9 K9_31 z => rb Q9 K9_31 (nm_n e9 z)
    have ok : okS σ2 := by rw [e9]; exact (ok_n ok (by decide))
    have fr : Fr (mF [23, 25, 26, 31, 32, 35, 36, 37] [] [(11, [2, 10, 11, 14, 15, 16, 17, 18, 19, 21, 22, 27, 28, 29, 30, 33, 34, 36, 37]), (2, [3, 4]), (3, [9]), (4, [0, 1, 2, 4]), (5, [2]), (6, [1]), (8, [3, 4])] []) σ σ2 := by rw [e9]; exact (Fr.up fr (mF_C (List.mem_of_getElem? (i := 1) rfl) rfl))
    obtain ⟨σ3, h, ok, fr9, rc⟩ := e0_act ok h
    have fr := fr.tr (fr9.sub (mF_sub rfl sub_nil rfl sud_nil))
    have rb := fun Q9 K9_31 z => rb Q9 K9_31 (rc _ z)
    obtain ⟨r4, h, rc⟩ := e0_due ok h
    have rb := fun Q9 K9_31 z => rb Q9 K9_31 (rc _ z)
    rcases ih ok h with ⟨σ', h, ok, fr9, rc⟩
    · exact ⟨σ', h, ok, fr.tr fr9, fun Q9 K9_31 hq => rb Q9 K9_31 (rc Q9 K9_31 hq)⟩
set_option maxHeartbeats 4000000 in
theorem e0_goOn {σ : St} {x1 : Int32} {Q : St → Prop} (ok : okS σ) (h : w0_goOn σ x1 Q) : (∃ (σ' : St), Q σ' ∧ okS σ' ∧ Fr (mF [23, 25, 26, 31, 32, 35, 36, 37] [] [(11, [2, 10, 11, 14, 15, 16, 17, 18, 19, 21, 22, 27, 28, 29, 30, 33, 34, 36, 37]), (2, [3, 4]), (3, [9]), (4, [0, 1, 2, 4]), (5, [2]), (6, [1]), (8, [3, 4])] []) σ σ' ∧ ∀ (Q9 : St → Prop), Q9 σ' → w0_goOn σ x1 Q9) := by
  have fr : Fr (mF [23, 25, 26, 31, 32, 35, 36, 37] [] [(11, [2, 10, 11, 14, 15, 16, 17, 18, 19, 21, 22, 27, 28, 29, 30, 33, 34, 36, 37]), (2, [3, 4]), (3, [9]), (4, [0, 1, 2, 4]), (5, [2]), (6, [1]), (8, [3, 4])] []) σ σ := Fr.rf
  have rb : ∀ (Q9 : St → Prop), w0_goOn σ x1 Q9 → w0_goOn σ x1 Q9 := fun _ z => z
  obtain ⟨r1, h, rc⟩ := e0_due ok h
  have rb := fun Q9 z => rb Q9 (rc _ z)
  obtain ⟨n9, h⟩ := h
  rcases e0_goOn_L5 n9 ok h with ⟨σ6, h, ok, fr9, rc⟩
  · have rb := fun Q9 z => rb Q9 (Exists.intro n9 (rc _ _ z))
    have fr := fr.tr (fr9.sub (mF_sub rfl sub_nil rfl sud_nil))
    obtain ⟨σ7, e9⟩ : ∃ s : St, s = up3 σ6 2 0 4 x1 := ⟨_, rfl⟩
    have h := h σ7 e9
    have rb := fun Q9 z => rb Q9 (nm_n e9 z)
    have ok : okS σ7 := by rw [e9]; exact (ok_n ok (by decide))
    have fr : Fr (mF [23, 25, 26, 31, 32, 35, 36, 37] [] [(11, [2, 10, 11, 14, 15, 16, 17, 18, 19, 21, 22, 27, 28, 29, 30, 33, 34, 36, 37]), (2, [3, 4]), (3, [9]), (4, [0, 1, 2, 4]), (5, [2]), (6, [1]), (8, [3, 4])] []) σ σ7 := by rw [e9]; exact (Fr.up fr (mF_C (List.mem_of_getElem? (i := 1) rfl) rfl))
    exact ⟨σ7, h, ok, fr, fun Q9 hq => rb Q9 hq⟩
/-! WebHost$Requests.look(LWebHost$Inbox;LWebHost$Answer;Z)I -/
set_option maxHeartbeats 4000000 in
theorem e9_look_J34 {σ : St} {o1 : Nat} {o2 : Nat} {x3 : Int32} {x4 : Int32} {Q : Int32 → St → Prop} {K3 : St → Int32 → Prop} (ho1 : o1 < 16) (ho2 : o2 < 16) (ok : okS σ) (h : w9_look_J34 σ o1 o2 x3 x4 Q K3) : (∃ (σ' : St) (x4' : Int32), K3 σ' x4' ∧ okS σ' ∧ Fr (mF [] [(42, o1), (43, o1)] [] [(12, o1, [2])]) σ σ' ∧ ∀ (Q9 : Int32 → St → Prop) (K9_3 : St → Int32 → Prop), K9_3 σ' x4' → w9_look_J34 σ o1 o2 x3 x4 Q9 K9_3) := by
  have fr : Fr (mF [] [(42, o1), (43, o1)] [] [(12, o1, [2])]) σ σ := Fr.rf
  have rb : ∀ (Q9 : Int32 → St → Prop) (K9_3 : St → Int32 → Prop), w9_look_J34 σ o1 o2 x3 x4 Q9 K9_3 → w9_look_J34 σ o1 o2 x3 x4 Q9 K9_3 := fun _ _ z => z
  by_cases hc : (σ 12 o1 2) ≤ 1
  · have h := h.1 hc
    have rb := fun Q9 K9_3 z => rb Q9 K9_3 (br_t hc z)
    exact ⟨σ, 0, h, ok, fr, fun Q9 K9_3 hq => rb Q9 K9_3 hq⟩
  have h := h.2 hc
  have rb := fun Q9 K9_3 z => rb Q9 K9_3 (br_f hc z)
  obtain ⟨hc, h⟩ := h
  have rb := fun Q9 K9_3 z => rb Q9 K9_3 (And.intro hc z)
  have h := h ((ok 42 o1 _).2 (tyk_a 42 2 (by decide) (by decide) _))
  have rb := fun Q9 K9_3 z => rb Q9 K9_3 (im_n z)
  by_cases hc : (σ 42 o1 (0 : Int32).toNatClampNeg) = 13
  · have h := h.2 hc
    have rb := fun Q9 K9_3 z => rb Q9 K9_3 (br_u hc z)
    obtain ⟨hc, h⟩ := h
    have rb := fun Q9 K9_3 z => rb Q9 K9_3 (And.intro hc z)
    have h := h ((ok 42 o1 _).2 (tyk_a 42 2 (by decide) (by decide) _))
    have rb := fun Q9 K9_3 z => rb Q9 K9_3 (im_n z)
    by_cases hc : (σ 42 o1 (1 : Int32).toNatClampNeg) = 10
    · have h := h.2 hc
      have rb := fun Q9 K9_3 z => rb Q9 K9_3 (br_u hc z)
      obtain ⟨σ1, h, ok, fr9, rc⟩ := e12_take ho1 ok h
      have fr := fr.tr (fr9.sub (mF_sub rfl (sub_c (Or.inr (List.mem_of_getElem? (i := 0) rfl)) (sub_c (Or.inr (List.mem_of_getElem? (i := 1) rfl)) sub_nil)) rfl (sud_c (Or.inr ⟨_, List.mem_of_getElem? (i := 0) rfl, rfl⟩) sud_nil)))
      have rb := fun Q9 K9_3 z => rb Q9 K9_3 (rc _ z)
      exact ⟨σ1, x4, h, ok, fr, fun Q9 K9_3 hq => rb Q9 K9_3 hq⟩
    have h := h.1 hc
    have rb := fun Q9 K9_3 z => rb Q9 K9_3 (br_v hc z)
    exact ⟨σ, 0, h, ok, fr, fun Q9 K9_3 hq => rb Q9 K9_3 hq⟩
  have h := h.1 hc
  have rb := fun Q9 K9_3 z => rb Q9 K9_3 (br_v hc z)
  exact ⟨σ, 0, h, ok, fr, fun Q9 K9_3 hq => rb Q9 K9_3 hq⟩
set_option maxHeartbeats 4000000 in
theorem e9_look_L3 {o1 : Nat} {o2 : Nat} {x3 : Int32} {Q : Int32 → St → Prop} {K78 : St → Prop} (ho1 : o1 < 16) (ho2 : o2 < 16) :
    ∀ (n : Nat) {σ : St} {x4 : Int32} (ok : okS σ), w9_look_L3 o1 o2 x3 Q K78 n σ x4 → (∃ (σ' : St), K78 σ' ∧ okS σ' ∧ Fr (mF [] [(42, o1), (43, o1)] [] [(12, o1, [2])]) σ σ' ∧ ∀ (Q9 : Int32 → St → Prop) (K9_78 : St → Prop), K9_78 σ' → w9_look_L3 o1 o2 x3 Q9 K9_78 n σ x4) := by
  intro n
  induction n with
  | zero =>
    intro σ x4 ok h
    exact False.elim h
  | succ n ih =>
    intro σ x4 ok h
    have fr : Fr (mF [] [(42, o1), (43, o1)] [] [(12, o1, [2])]) σ σ := Fr.rf
    have rb : ∀ (Q9 : Int32 → St → Prop) (K9_78 : St → Prop), w9_look_L3 o1 o2 x3 Q9 K9_78 (n + 1) σ x4 → w9_look_L3 o1 o2 x3 Q9 K9_78 (n + 1) σ x4 := fun _ _ z => z
    by_cases hc : x4 = 0
    · have h := h.1 hc
      have rb := fun Q9 K9_78 z => rb Q9 K9_78 (br_t hc z)
      exact ⟨σ, h, ok, fr, fun Q9 K9_78 hq => rb Q9 K9_78 hq⟩
    have h := h.2 hc
    have rb := fun Q9 K9_78 z => rb Q9 K9_78 (br_f hc z)
    by_cases hc : (σ 12 o1 2) ≤ 0
    · have h := h.1 hc
      have rb := fun Q9 K9_78 z => rb Q9 K9_78 (br_t hc z)
      rcases e9_look_J34 ho1 ho2 ok h with ⟨σ', x4, h, ok, fr9, rc⟩
      · have fr := fr.tr (fr9.sub (mF_sub rfl (sub_c (Or.inr (List.mem_of_getElem? (i := 0) rfl)) (sub_c (Or.inr (List.mem_of_getElem? (i := 1) rfl)) sub_nil)) rfl (sud_c (Or.inr ⟨_, List.mem_of_getElem? (i := 0) rfl, rfl⟩) sud_nil)))
        rcases ih ok h with ⟨σ', h, ok, fr9, rd⟩
        · exact ⟨σ', h, ok, fr.tr fr9, fun Q9 K9_78 hq => rb Q9 K9_78 (rc _ _ (rd Q9 K9_78 hq))⟩
    have h := h.2 hc
    have rb := fun Q9 K9_78 z => rb Q9 K9_78 (br_f hc z)
    obtain ⟨hc, h⟩ := h
    have rb := fun Q9 K9_78 z => rb Q9 K9_78 (And.intro hc z)
    have h := h ((ok 42 o1 _).2 (tyk_a 42 2 (by decide) (by decide) _))
    have rb := fun Q9 K9_78 z => rb Q9 K9_78 (im_n z)
    by_cases hc : (σ 42 o1 (0 : Int32).toNatClampNeg) = 10
    · have h := h.2 hc
      have rb := fun Q9 K9_78 z => rb Q9 K9_78 (br_u hc z)
      obtain ⟨σ2, h, ok, fr9, rc⟩ := e12_take ho1 ok h
      have fr := fr.tr (fr9.sub (mF_sub rfl (sub_c (Or.inr (List.mem_of_getElem? (i := 0) rfl)) (sub_c (Or.inr (List.mem_of_getElem? (i := 1) rfl)) sub_nil)) rfl (sud_c (Or.inr ⟨_, List.mem_of_getElem? (i := 0) rfl, rfl⟩) sud_nil)))
      have rb := fun Q9 K9_78 z => rb Q9 K9_78 (rc _ z)
      rcases ih ok h with ⟨σ', h, ok, fr9, rc⟩
      · exact ⟨σ', h, ok, fr.tr fr9, fun Q9 K9_78 hq => rb Q9 K9_78 (rc Q9 K9_78 hq)⟩
    have h := h.1 hc
    have rb := fun Q9 K9_78 z => rb Q9 K9_78 (br_v hc z)
    rcases e9_look_J34 ho1 ho2 ok h with ⟨σ', x4, h, ok, fr9, rc⟩
    · have fr := fr.tr (fr9.sub (mF_sub rfl (sub_c (Or.inr (List.mem_of_getElem? (i := 0) rfl)) (sub_c (Or.inr (List.mem_of_getElem? (i := 1) rfl)) sub_nil)) rfl (sud_c (Or.inr ⟨_, List.mem_of_getElem? (i := 0) rfl, rfl⟩) sud_nil)))
      rcases ih ok h with ⟨σ', h, ok, fr9, rd⟩
      · exact ⟨σ', h, ok, fr.tr fr9, fun Q9 K9_78 hq => rb Q9 K9_78 (rc _ _ (rd Q9 K9_78 hq))⟩
set_option maxHeartbeats 4000000 in
theorem e9_look {σ : St} {o1 : Nat} {o2 : Nat} {x3 : Int32} {Q : Int32 → St → Prop} (ho1 : o1 < 16) (ho2 : o2 < 16) (ok : okS σ) (h : w9_look σ o1 o2 x3 Q) : (∃ (r : Int32) (σ' : St), Q r σ' ∧ okS σ' ∧ Fr (mF [40, 41] [(42, o1), (43, o1), (44, o2), (90, (o2 + 1))] [(9, [2, 3, 4, 5, 6, 7, 8, 9, 10, 11, 12, 13, 14, 15, 16, 18])] [(12, o1, [2, 3]), (13, o2, [1])]) σ σ' ∧ ∀ (Q9 : Int32 → St → Prop), Q9 r σ' → w9_look σ o1 o2 x3 Q9) := by
  have fr : Fr (mF [40, 41] [(42, o1), (43, o1), (44, o2), (90, (o2 + 1))] [(9, [2, 3, 4, 5, 6, 7, 8, 9, 10, 11, 12, 13, 14, 15, 16, 18])] [(12, o1, [2, 3]), (13, o2, [1])]) σ σ := Fr.rf
  have rb : ∀ (Q9 : Int32 → St → Prop), w9_look σ o1 o2 x3 Q9 → w9_look σ o1 o2 x3 Q9 := fun _ z => z
  obtain ⟨n9, h⟩ := h
  rcases e9_look_L3 ho1 ho2 n9 ok h with ⟨σ4, h, ok, fr9, rc⟩
  · have rb := fun Q9 z => rb Q9 (Exists.intro n9 (rc _ _ z))
    have fr := fr.tr (fr9.sub (mF_sub rfl (sub_c (Or.inr (List.mem_of_getElem? (i := 0) rfl)) (sub_c (Or.inr (List.mem_of_getElem? (i := 1) rfl)) sub_nil)) rfl (sud_c (Or.inr ⟨_, List.mem_of_getElem? (i := 0) rfl, rfl⟩) sud_nil)))
    obtain ⟨r5, h, rc⟩ := e9_headEnd ho1 ok h
    have rb := fun Q9 z => rb Q9 (rc _ z)
    obtain ⟨σ6, e9⟩ : ∃ s : St, s = up3 σ4 9 0 2 r5 := ⟨_, rfl⟩
    have h := h σ6 e9
    have rb := fun Q9 z => rb Q9 (nm_n e9 z)
    have ok : okS σ6 := by rw [e9]; exact (ok_n ok (by decide))
    have fr : Fr (mF [40, 41] [(42, o1), (43, o1), (44, o2), (90, (o2 + 1))] [(9, [2, 3, 4, 5, 6, 7, 8, 9, 10, 11, 12, 13, 14, 15, 16, 18])] [(12, o1, [2, 3]), (13, o2, [1])]) σ σ6 := by rw [e9]; exact (Fr.up fr (mF_C (List.mem_of_getElem? (i := 0) rfl) rfl))
    by_cases hc : 0 ≤ (σ6 9 0 2)
    · have h := h.1 hc
      have rb := fun Q9 z => rb Q9 (br_t hc z)
      obtain ⟨σ7, h, ok, fr9, rc⟩ := e19_copy (ok42 ho1) (by decide) ok h
      have fr := fr.tr (fr9.sub (mF_mR (Or.inl rfl)))
      have rb := fun Q9 z => rb Q9 (rc _ z)
      obtain ⟨σ8, h, ok, fr9, rc⟩ := e12_take ho1 ok h
      have fr := fr.tr (fr9.sub (mF_sub rfl (sub_c (Or.inr (List.mem_of_getElem? (i := 0) rfl)) (sub_c (Or.inr (List.mem_of_getElem? (i := 1) rfl)) sub_nil)) rfl (sud_c (Or.inr ⟨_, List.mem_of_getElem? (i := 0) rfl, rfl⟩) sud_nil)))
      have rb := fun Q9 z => rb Q9 (rc _ z)
      obtain ⟨r9, σ9, h, ok, fr9, rc⟩ := e9_answer ho1 ho2 ok h
      have fr := fr.tr (fr9.sub (mF_sub rfl (sub_c (Or.inr (List.mem_of_getElem? (i := 2) rfl)) (sub_c (Or.inr (List.mem_of_getElem? (i := 3) rfl)) sub_nil)) rfl (sud_c (Or.inr ⟨_, List.mem_of_getElem? (i := 0) rfl, rfl⟩) (sud_c (Or.inr ⟨_, List.mem_of_getElem? (i := 1) rfl, rfl⟩) sud_nil))))
      have rb := fun Q9 z => rb Q9 (rc _ z)
      exact ⟨r9, σ9, h, ok, fr, fun Q9 hq => rb Q9 hq⟩
    have h := h.2 hc
    have rb := fun Q9 z => rb Q9 (br_f hc z)
    by_cases hc : 4096 ≤ (σ6 12 o1 2)
    · have h := h.1 hc
      have rb := fun Q9 z => rb Q9 (br_t hc z)
      obtain ⟨σ10, h, ok, fr9, rc⟩ := e12_take ho1 ok h
      have fr := fr.tr (fr9.sub (mF_sub rfl (sub_c (Or.inr (List.mem_of_getElem? (i := 0) rfl)) (sub_c (Or.inr (List.mem_of_getElem? (i := 1) rfl)) sub_nil)) rfl (sud_c (Or.inr ⟨_, List.mem_of_getElem? (i := 0) rfl, rfl⟩) sud_nil)))
      have rb := fun Q9 z => rb Q9 (rc _ z)
      obtain ⟨σ11, e9⟩ : ∃ s : St, s = up3 σ10 9 0 5 0 := ⟨_, rfl⟩
      have h := h σ11 e9
      have rb := fun Q9 z => rb Q9 (nm_n e9 z)
      have ok : okS σ11 := by rw [e9]; exact (ok_z ok (by decide) (Or.inl rfl))
      have fr : Fr (mF [40, 41] [(42, o1), (43, o1), (44, o2), (90, (o2 + 1))] [(9, [2, 3, 4, 5, 6, 7, 8, 9, 10, 11, 12, 13, 14, 15, 16, 18])] [(12, o1, [2, 3]), (13, o2, [1])]) σ σ11 := by rw [e9]; exact (Fr.up fr (mF_C (List.mem_of_getElem? (i := 0) rfl) rfl))
      obtain ⟨σ12, h, ok, fr9, rc⟩ := e9_plain ho2 (by decide) ok h
      have fr := fr.tr (fr9.sub (mF_sub rfl (sub_c (Or.inr (List.mem_of_getElem? (i := 2) rfl)) (sub_c (Or.inr (List.mem_of_getElem? (i := 3) rfl)) sub_nil)) rfl (sud_c (Or.inr ⟨_, List.mem_of_getElem? (i := 1) rfl, rfl⟩) sud_nil)))
      have rb := fun Q9 z => rb Q9 (rc _ z)
      exact ⟨2, σ12, h, ok, fr, fun Q9 hq => rb Q9 hq⟩
    have h := h.2 hc
    have rb := fun Q9 z => rb Q9 (br_f hc z)
    by_cases hc : x3 = 0
    · have h := h.1 hc
      have rb := fun Q9 z => rb Q9 (br_t hc z)
      exact ⟨0, σ6, h, ok, fr, fun Q9 hq => rb Q9 hq⟩
    have h := h.2 hc
    have rb := fun Q9 z => rb Q9 (br_f hc z)
    exact ⟨3, σ6, h, ok, fr, fun Q9 hq => rb Q9 hq⟩
/-! WebHostModel.pass(I)I -/
set_option maxHeartbeats 4000000 in
theorem e14_pass {σ : St} {x1 : Int32} {Q : Int32 → St → Prop} (ok : okS σ) (h : w14_pass σ x1 Q) : (∃ (r : Int32) (σ' : St), Q r σ' ∧ okS σ' ∧ Fr (mF [56, 57, 58, 59, 60, 68] [] [(14, [10, 18, 23, 24, 25]), (15, [0, 5, 6, 11, 12, 13, 17, 18, 19, 20, 21, 22, 23, 24, 30, 31, 37, 39]), (17, [0, 1, 2, 3, 4, 5]), (18, [0])] []) σ σ' ∧ ∀ (Q9 : Int32 → St → Prop), Q9 r σ' → w14_pass σ x1 Q9) := by
  have fr : Fr (mF [56, 57, 58, 59, 60, 68] [] [(14, [10, 18, 23, 24, 25]), (15, [0, 5, 6, 11, 12, 13, 17, 18, 19, 20, 21, 22, 23, 24, 30, 31, 37, 39]), (17, [0, 1, 2, 3, 4, 5]), (18, [0])] []) σ σ := Fr.rf
  have rb : ∀ (Q9 : Int32 → St → Prop), w14_pass σ x1 Q9 → w14_pass σ x1 Q9 := fun _ z => z
  obtain ⟨r1, h, rc⟩ := e14_refused ok h
  have rb := fun Q9 z => rb Q9 (rc _ z)
  by_cases hc : 0 ≤ r1
  · have h := h.1 hc
    have rb := fun Q9 z => rb Q9 (br_t hc z)
    obtain ⟨σ2, h, ok, fr9, rc⟩ := e14_passTo ok h
    have fr := fr.tr (fr9.sub (mF_sub rfl sub_nil rfl sud_nil))
    have rb := fun Q9 z => rb Q9 (rc _ z)
    exact ⟨((σ2 14 0 23) - (σ 14 0 23)), σ2, h, ok, fr, fun Q9 hq => rb Q9 hq⟩
  have h := h.2 hc
  have rb := fun Q9 z => rb Q9 (br_f hc z)
  exact ⟨r1, σ, h, ok, fr, fun Q9 hq => rb Q9 hq⟩
/-! WebHostModel.tcp(I)V -/
set_option maxHeartbeats 4000000 in
theorem e14_tcp_L154 {σ : St} {Q : St → Prop} {K218 : Option Nat → Prop} (ok : okS σ) :
    ∀ (n : Nat) {p2 : Option Nat} {x3 : Int32}, w14_tcp_L154 σ Q K218 n p2 x3 → (∃ (p2' : Option Nat), K218 p2' ∧ ∀ (Q9 : St → Prop) (K9_218 : Option Nat → Prop), K9_218 p2' → w14_tcp_L154 σ Q9 K9_218 n p2 x3) := by
  intro n
  induction n with
  | zero =>
    intro p2 x3 h
    exact False.elim h
  | succ n ih =>
    intro p2 x3 h
    have rb : ∀ (Q9 : St → Prop) (K9_218 : Option Nat → Prop), w14_tcp_L154 σ Q9 K9_218 (n + 1) p2 x3 → w14_tcp_L154 σ Q9 K9_218 (n + 1) p2 x3 := fun _ _ z => z
    by_cases hc : 16 ≤ x3
    · have h := h.1 hc
      have rb := fun Q9 K9_218 z => rb Q9 K9_218 (br_t hc z)
      exact ⟨p2, h, fun Q9 K9_218 hq => rb Q9 K9_218 hq⟩
    have h := h.2 hc
    have rb := fun Q9 K9_218 z => rb Q9 K9_218 (br_f hc z)
    by_cases hc : (σ 14 0 33) = 80
    · have h := h.2 hc
      have rb := fun Q9 K9_218 z => rb Q9 K9_218 (br_u hc z)
      obtain ⟨hc, h⟩ := h
      have rb := fun Q9 K9_218 z => rb Q9 K9_218 (And.intro hc z)
      have hq18 := vp_lt hc
      by_cases hc : (σ 15 x3.toNatClampNeg 0) = 0
      · have h := h.1 hc
        have rb := fun Q9 K9_218 z => rb Q9 K9_218 (br_t hc z)
        rcases ih h with ⟨p2, h, rc⟩
        · exact ⟨p2, h, fun Q9 K9_218 hq => rb Q9 K9_218 (rc Q9 K9_218 hq)⟩
      have h := h.2 hc
      have rb := fun Q9 K9_218 z => rb Q9 K9_218 (br_f hc z)
      by_cases hc : (σ 15 x3.toNatClampNeg 1) = (σ 14 0 30)
      · have h := h.2 hc
        have rb := fun Q9 K9_218 z => rb Q9 K9_218 (br_u hc z)
        by_cases hc : (σ 15 x3.toNatClampNeg 2) = (σ 14 0 32)
        · have h := h.2 hc
          have rb := fun Q9 K9_218 z => rb Q9 K9_218 (br_u hc z)
          rcases ih h with ⟨p2, h, rc⟩
          · exact ⟨p2, h, fun Q9 K9_218 hq => rb Q9 K9_218 (rc Q9 K9_218 hq)⟩
        have h := h.1 hc
        have rb := fun Q9 K9_218 z => rb Q9 K9_218 (br_v hc z)
        rcases ih h with ⟨p2, h, rc⟩
        · exact ⟨p2, h, fun Q9 K9_218 hq => rb Q9 K9_218 (rc Q9 K9_218 hq)⟩
      have h := h.1 hc
      have rb := fun Q9 K9_218 z => rb Q9 K9_218 (br_v hc z)
      rcases ih h with ⟨p2, h, rc⟩
      · exact ⟨p2, h, fun Q9 K9_218 hq => rb Q9 K9_218 (rc Q9 K9_218 hq)⟩
    have h := h.1 hc
    have rb := fun Q9 K9_218 z => rb Q9 K9_218 (br_v hc z)
    exact ⟨p2, h, fun Q9 K9_218 hq => rb Q9 K9_218 hq⟩
set_option maxHeartbeats 4000000 in
theorem e14_tcp_J218 {σ : St} {p2 : Option Nat} {Q : St → Prop} (ok : okS σ) (h : w14_tcp_J218 σ p2 Q) : (∃ (σ' : St), Q σ' ∧ okS σ' ∧ Fr (mF [56, 57, 58, 59, 60, 66, 67, 68, 71, 72, 73] [] [(14, [12, 18, 23, 24, 25, 42, 43, 44, 45, 46, 47, 48, 49, 50, 51, 52, 53, 54, 55, 56, 57, 59, 60, 61, 62]), (15, [0, 1, 2, 3, 4, 5, 6, 7, 8, 9, 10, 11, 12, 13, 14, 15, 16, 17, 18, 19, 20, 21, 22, 23, 24, 26, 27, 28, 29, 30, 31, 34, 35, 36, 37, 38, 39, 40, 41, 42, 43, 44, 45]), (17, [0, 1, 2, 3, 4, 5])] []) σ σ' ∧ ∀ (Q9 : St → Prop), Q9 σ' → w14_tcp_J218 σ p2 Q9) := by
  have fr : Fr (mF [56, 57, 58, 59, 60, 66, 67, 68, 71, 72, 73] [] [(14, [12, 18, 23, 24, 25, 42, 43, 44, 45, 46, 47, 48, 49, 50, 51, 52, 53, 54, 55, 56, 57, 59, 60, 61, 62]), (15, [0, 1, 2, 3, 4, 5, 6, 7, 8, 9, 10, 11, 12, 13, 14, 15, 16, 17, 18, 19, 20, 21, 22, 23, 24, 26, 27, 28, 29, 30, 31, 34, 35, 36, 37, 38, 39, 40, 41, 42, 43, 44, 45]), (17, [0, 1, 2, 3, 4, 5])] []) σ σ := Fr.rf
  have rb : ∀ (Q9 : St → Prop), w14_tcp_J218 σ p2 Q9 → w14_tcp_J218 σ p2 Q9 := fun _ z => z
  rcases opt_or p2 with hp | ⟨i21, hp⟩
  · have h := h.1 hp
    have rb := fun Q9 z => rb Q9 (po_n hp z)
    obtain ⟨σ22, h, ok, fr9, rc⟩ := e14_alone ok h
    have fr := fr.tr (fr9.sub (mF_sub rfl sub_nil rfl sud_nil))
    have rb := fun Q9 z => rb Q9 (rc _ z)
    exact ⟨σ22, h, ok, fr, fun Q9 hq => rb Q9 hq⟩
  obtain ⟨hq21, h⟩ := h.2 i21 hp
  have rb := fun Q9 z => rb Q9 (po_s hp (And.intro hq21 z))
  obtain ⟨σ23, h, ok, fr9, rc⟩ := e14_segment hq21 ok h
  have fr := fr.tr (fr9.sub (mF_sub rfl (sub_c (Or.inl rfl) (sub_c (Or.inl rfl) (sub_c (Or.inl rfl) sub_nil))) rfl (sud_c (Or.inl ⟨_, List.mem_of_getElem? (i := 1) rfl, rfl⟩) sud_nil)))
  have rb := fun Q9 z => rb Q9 (rc _ z)
  exact ⟨σ23, h, ok, fr, fun Q9 hq => rb Q9 hq⟩
set_option maxHeartbeats 4000000 in
theorem e14_tcp {σ : St} {x1 : Int32} {Q : St → Prop} (ok : okS σ) (h : w14_tcp σ x1 Q) : (∃ (σ' : St), Q σ' ∧ okS σ' ∧ Fr (mF [56, 57, 58, 59, 60, 66, 67, 68, 71, 72, 73] [] [(14, [12, 18, 23, 24, 25, 32, 33, 34, 35, 36, 37, 38, 39, 40, 42, 43, 44, 45, 46, 47, 48, 49, 50, 51, 52, 53, 54, 55, 56, 57, 59, 60, 61, 62]), (15, [0, 1, 2, 3, 4, 5, 6, 7, 8, 9, 10, 11, 12, 13, 14, 15, 16, 17, 18, 19, 20, 21, 22, 23, 24, 26, 27, 28, 29, 30, 31, 34, 35, 36, 37, 38, 39, 40, 41, 42, 43, 44, 45]), (17, [0, 1, 2, 3, 4, 5])] []) σ σ' ∧ ∀ (Q9 : St → Prop), Q9 σ' → w14_tcp σ x1 Q9) := by
  have fr : Fr (mF [56, 57, 58, 59, 60, 66, 67, 68, 71, 72, 73] [] [(14, [12, 18, 23, 24, 25, 32, 33, 34, 35, 36, 37, 38, 39, 40, 42, 43, 44, 45, 46, 47, 48, 49, 50, 51, 52, 53, 54, 55, 56, 57, 59, 60, 61, 62]), (15, [0, 1, 2, 3, 4, 5, 6, 7, 8, 9, 10, 11, 12, 13, 14, 15, 16, 17, 18, 19, 20, 21, 22, 23, 24, 26, 27, 28, 29, 30, 31, 34, 35, 36, 37, 38, 39, 40, 41, 42, 43, 44, 45]), (17, [0, 1, 2, 3, 4, 5])] []) σ σ := Fr.rf
  have rb : ∀ (Q9 : St → Prop), w14_tcp σ x1 Q9 → w14_tcp σ x1 Q9 := fun _ z => z
  by_cases hc : 20 ≤ x1
  · have h := h.1 hc
    have rb := fun Q9 z => rb Q9 (br_t hc z)
    obtain ⟨hc, h⟩ := h
    have rb := fun Q9 z => rb Q9 (And.intro hc z)
    have h := h ((ok 64 0 _).2 (tyk_a 64 2 (by decide) (by decide) _))
    have rb := fun Q9 z => rb Q9 (im_n z)
    obtain ⟨σ1, e9⟩ : ∃ s : St, s = up3 σ 14 0 40 ((((σ 64 0 (12 : Int32).toNatClampNeg) >>> ((4 : Int32) &&& 31)) &&& 15) * 4) := ⟨_, rfl⟩
    have h := h σ1 e9
    have rb := fun Q9 z => rb Q9 (nm_n e9 z)
    have ok : okS σ1 := by rw [e9]; exact (ok_n ok (by decide))
    have fr : Fr (mF [56, 57, 58, 59, 60, 66, 67, 68, 71, 72, 73] [] [(14, [12, 18, 23, 24, 25, 32, 33, 34, 35, 36, 37, 38, 39, 40, 42, 43, 44, 45, 46, 47, 48, 49, 50, 51, 52, 53, 54, 55, 56, 57, 59, 60, 61, 62]), (15, [0, 1, 2, 3, 4, 5, 6, 7, 8, 9, 10, 11, 12, 13, 14, 15, 16, 17, 18, 19, 20, 21, 22, 23, 24, 26, 27, 28, 29, 30, 31, 34, 35, 36, 37, 38, 39, 40, 41, 42, 43, 44, 45]), (17, [0, 1, 2, 3, 4, 5])] []) σ σ1 := by rw [e9]; exact (Fr.up fr (mF_C (List.mem_of_getElem? (i := 0) rfl) rfl))
    by_cases hc : (σ1 14 0 40) < 20
    · have h := h.1 hc
      have rb := fun Q9 z => rb Q9 (br_t hc z)
      exact ⟨σ1, h, ok, fr, fun Q9 hq => rb Q9 hq⟩
    have h := h.2 hc
    have rb := fun Q9 z => rb Q9 (br_f hc z)
    by_cases hc : x1 < (σ1 14 0 40)
    · have h := h.1 hc
      have rb := fun Q9 z => rb Q9 (br_t hc z)
      exact ⟨σ1, h, ok, fr, fun Q9 hq => rb Q9 hq⟩
    have h := h.2 hc
    have rb := fun Q9 z => rb Q9 (br_f hc z)
    obtain ⟨r2, h, rc⟩ := e14_pseudo ok h
    have rb := fun Q9 z => rb Q9 (rc _ z)
    obtain ⟨r3, h, rc⟩ := e14_added (by decide) ok h
    have rb := fun Q9 z => rb Q9 (rc _ z)
    obtain ⟨r4, h, rc⟩ := e14_sixteen ok h
    have rb := fun Q9 z => rb Q9 (rc _ z)
    by_cases hc : r4 = 0
    · have h := h.1 hc
      have rb := fun Q9 z => rb Q9 (br_t hc z)
      obtain ⟨r5, h, rc⟩ := e14_half ok h
      have rb := fun Q9 z => rb Q9 (rc _ z)
      obtain ⟨σ6, e9⟩ : ∃ s : St, s = up3 σ1 14 0 32 r5 := ⟨_, rfl⟩
      have h := h σ6 e9
      have rb := fun Q9 z => rb Q9 (nm_n e9 z)
      have ok : okS σ6 := by rw [e9]; exact (ok_n ok (by decide))
      have fr : Fr (mF [56, 57, 58, 59, 60, 66, 67, 68, 71, 72, 73] [] [(14, [12, 18, 23, 24, 25, 32, 33, 34, 35, 36, 37, 38, 39, 40, 42, 43, 44, 45, 46, 47, 48, 49, 50, 51, 52, 53, 54, 55, 56, 57, 59, 60, 61, 62]), (15, [0, 1, 2, 3, 4, 5, 6, 7, 8, 9, 10, 11, 12, 13, 14, 15, 16, 17, 18, 19, 20, 21, 22, 23, 24, 26, 27, 28, 29, 30, 31, 34, 35, 36, 37, 38, 39, 40, 41, 42, 43, 44, 45]), (17, [0, 1, 2, 3, 4, 5])] []) σ σ6 := by rw [e9]; exact (Fr.up fr (mF_C (List.mem_of_getElem? (i := 0) rfl) rfl))
      obtain ⟨r7, h, rc⟩ := e14_half ok h
      have rb := fun Q9 z => rb Q9 (rc _ z)
      obtain ⟨σ8, e9⟩ : ∃ s : St, s = up3 σ6 14 0 33 r7 := ⟨_, rfl⟩
      have h := h σ8 e9
      have rb := fun Q9 z => rb Q9 (nm_n e9 z)
      have ok : okS σ8 := by rw [e9]; exact (ok_n ok (by decide))
      have fr : Fr (mF [56, 57, 58, 59, 60, 66, 67, 68, 71, 72, 73] [] [(14, [12, 18, 23, 24, 25, 32, 33, 34, 35, 36, 37, 38, 39, 40, 42, 43, 44, 45, 46, 47, 48, 49, 50, 51, 52, 53, 54, 55, 56, 57, 59, 60, 61, 62]), (15, [0, 1, 2, 3, 4, 5, 6, 7, 8, 9, 10, 11, 12, 13, 14, 15, 16, 17, 18, 19, 20, 21, 22, 23, 24, 26, 27, 28, 29, 30, 31, 34, 35, 36, 37, 38, 39, 40, 41, 42, 43, 44, 45]), (17, [0, 1, 2, 3, 4, 5])] []) σ σ8 := by rw [e9]; exact (Fr.up fr (mF_C (List.mem_of_getElem? (i := 0) rfl) rfl))
      obtain ⟨r9, h, rc⟩ := e14_wholeWord ok h
      have rb := fun Q9 z => rb Q9 (rc _ z)
      obtain ⟨σ10, e9⟩ : ∃ s : St, s = up3 σ8 14 0 34 r9 := ⟨_, rfl⟩
      have h := h σ10 e9
      have rb := fun Q9 z => rb Q9 (nm_n e9 z)
      have ok : okS σ10 := by rw [e9]; exact (ok_n ok (by decide))
      have fr : Fr (mF [56, 57, 58, 59, 60, 66, 67, 68, 71, 72, 73] [] [(14, [12, 18, 23, 24, 25, 32, 33, 34, 35, 36, 37, 38, 39, 40, 42, 43, 44, 45, 46, 47, 48, 49, 50, 51, 52, 53, 54, 55, 56, 57, 59, 60, 61, 62]), (15, [0, 1, 2, 3, 4, 5, 6, 7, 8, 9, 10, 11, 12, 13, 14, 15, 16, 17, 18, 19, 20, 21, 22, 23, 24, 26, 27, 28, 29, 30, 31, 34, 35, 36, 37, 38, 39, 40, 41, 42, 43, 44, 45]), (17, [0, 1, 2, 3, 4, 5])] []) σ σ10 := by rw [e9]; exact (Fr.up fr (mF_C (List.mem_of_getElem? (i := 0) rfl) rfl))
      obtain ⟨r11, h, rc⟩ := e14_wholeWord ok h
      have rb := fun Q9 z => rb Q9 (rc _ z)
      obtain ⟨σ12, e9⟩ : ∃ s : St, s = up3 σ10 14 0 35 r11 := ⟨_, rfl⟩
      have h := h σ12 e9
      have rb := fun Q9 z => rb Q9 (nm_n e9 z)
      have ok : okS σ12 := by rw [e9]; exact (ok_n ok (by decide))
      have fr : Fr (mF [56, 57, 58, 59, 60, 66, 67, 68, 71, 72, 73] [] [(14, [12, 18, 23, 24, 25, 32, 33, 34, 35, 36, 37, 38, 39, 40, 42, 43, 44, 45, 46, 47, 48, 49, 50, 51, 52, 53, 54, 55, 56, 57, 59, 60, 61, 62]), (15, [0, 1, 2, 3, 4, 5, 6, 7, 8, 9, 10, 11, 12, 13, 14, 15, 16, 17, 18, 19, 20, 21, 22, 23, 24, 26, 27, 28, 29, 30, 31, 34, 35, 36, 37, 38, 39, 40, 41, 42, 43, 44, 45]), (17, [0, 1, 2, 3, 4, 5])] []) σ σ12 := by rw [e9]; exact (Fr.up fr (mF_C (List.mem_of_getElem? (i := 0) rfl) rfl))
      obtain ⟨hc, h⟩ := h
      have rb := fun Q9 z => rb Q9 (And.intro hc z)
      have h := h ((ok 64 0 _).2 (tyk_a 64 2 (by decide) (by decide) _))
      have rb := fun Q9 z => rb Q9 (im_n z)
      obtain ⟨σ13, e9⟩ : ∃ s : St, s = up3 σ12 14 0 36 ((σ12 64 0 (13 : Int32).toNatClampNeg) &&& 31) := ⟨_, rfl⟩
      have h := h σ13 e9
      have rb := fun Q9 z => rb Q9 (nm_n e9 z)
      have ok : okS σ13 := by rw [e9]; exact (ok_n ok (by decide))
      have fr : Fr (mF [56, 57, 58, 59, 60, 66, 67, 68, 71, 72, 73] [] [(14, [12, 18, 23, 24, 25, 32, 33, 34, 35, 36, 37, 38, 39, 40, 42, 43, 44, 45, 46, 47, 48, 49, 50, 51, 52, 53, 54, 55, 56, 57, 59, 60, 61, 62]), (15, [0, 1, 2, 3, 4, 5, 6, 7, 8, 9, 10, 11, 12, 13, 14, 15, 16, 17, 18, 19, 20, 21, 22, 23, 24, 26, 27, 28, 29, 30, 31, 34, 35, 36, 37, 38, 39, 40, 41, 42, 43, 44, 45]), (17, [0, 1, 2, 3, 4, 5])] []) σ σ13 := by rw [e9]; exact (Fr.up fr (mF_C (List.mem_of_getElem? (i := 0) rfl) rfl))
      obtain ⟨r14, h, rc⟩ := e14_half ok h
      have rb := fun Q9 z => rb Q9 (rc _ z)
      obtain ⟨σ15, e9⟩ : ∃ s : St, s = up3 σ13 14 0 37 r14 := ⟨_, rfl⟩
      have h := h σ15 e9
      have rb := fun Q9 z => rb Q9 (nm_n e9 z)
      have ok : okS σ15 := by rw [e9]; exact (ok_n ok (by decide))
      have fr : Fr (mF [56, 57, 58, 59, 60, 66, 67, 68, 71, 72, 73] [] [(14, [12, 18, 23, 24, 25, 32, 33, 34, 35, 36, 37, 38, 39, 40, 42, 43, 44, 45, 46, 47, 48, 49, 50, 51, 52, 53, 54, 55, 56, 57, 59, 60, 61, 62]), (15, [0, 1, 2, 3, 4, 5, 6, 7, 8, 9, 10, 11, 12, 13, 14, 15, 16, 17, 18, 19, 20, 21, 22, 23, 24, 26, 27, 28, 29, 30, 31, 34, 35, 36, 37, 38, 39, 40, 41, 42, 43, 44, 45]), (17, [0, 1, 2, 3, 4, 5])] []) σ σ15 := by rw [e9]; exact (Fr.up fr (mF_C (List.mem_of_getElem? (i := 0) rfl) rfl))
      obtain ⟨σ16, e9⟩ : ∃ s : St, s = up3 σ15 14 0 38 (σ15 14 0 40) := ⟨_, rfl⟩
      have h := h σ16 e9
      have rb := fun Q9 z => rb Q9 (nm_n e9 z)
      have ok : okS σ16 := by rw [e9]; exact (ok_n ok (by decide))
      have fr : Fr (mF [56, 57, 58, 59, 60, 66, 67, 68, 71, 72, 73] [] [(14, [12, 18, 23, 24, 25, 32, 33, 34, 35, 36, 37, 38, 39, 40, 42, 43, 44, 45, 46, 47, 48, 49, 50, 51, 52, 53, 54, 55, 56, 57, 59, 60, 61, 62]), (15, [0, 1, 2, 3, 4, 5, 6, 7, 8, 9, 10, 11, 12, 13, 14, 15, 16, 17, 18, 19, 20, 21, 22, 23, 24, 26, 27, 28, 29, 30, 31, 34, 35, 36, 37, 38, 39, 40, 41, 42, 43, 44, 45]), (17, [0, 1, 2, 3, 4, 5])] []) σ σ16 := by rw [e9]; exact (Fr.up fr (mF_C (List.mem_of_getElem? (i := 0) rfl) rfl))
      obtain ⟨σ17, e9⟩ : ∃ s : St, s = up3 σ16 14 0 39 (x1 - (σ16 14 0 40)) := ⟨_, rfl⟩
      have h := h σ17 e9
      have rb := fun Q9 z => rb Q9 (nm_n e9 z)
      have ok : okS σ17 := by rw [e9]; exact (ok_n ok (by decide))
      have fr : Fr (mF [56, 57, 58, 59, 60, 66, 67, 68, 71, 72, 73] [] [(14, [12, 18, 23, 24, 25, 32, 33, 34, 35, 36, 37, 38, 39, 40, 42, 43, 44, 45, 46, 47, 48, 49, 50, 51, 52, 53, 54, 55, 56, 57, 59, 60, 61, 62]), (15, [0, 1, 2, 3, 4, 5, 6, 7, 8, 9, 10, 11, 12, 13, 14, 15, 16, 17, 18, 19, 20, 21, 22, 23, 24, 26, 27, 28, 29, 30, 31, 34, 35, 36, 37, 38, 39, 40, 41, 42, 43, 44, 45]), (17, [0, 1, 2, 3, 4, 5])] []) σ σ17 := by rw [e9]; exact (Fr.up fr (mF_C (List.mem_of_getElem? (i := 0) rfl) rfl))
      obtain ⟨n9, h⟩ := h
      rcases e14_tcp_L154 ok n9 h with ⟨p2_20, h, rc⟩
      · have rb := fun Q9 z => rb Q9 (Exists.intro n9 (rc _ _ z))
        obtain ⟨σ9, h, ok, fr9, rc⟩ := e14_tcp_J218 ok h
        exact ⟨σ9, h, ok, fr.tr (fr9.sub (mF_sub rfl sub_nil rfl sud_nil)), fun Q9 hq => rb Q9 (rc Q9 hq)⟩
    have h := h.2 hc
    have rb := fun Q9 z => rb Q9 (br_f hc z)
    exact ⟨σ1, h, ok, fr, fun Q9 hq => rb Q9 hq⟩
  have h := h.2 hc
  have rb := fun Q9 z => rb Q9 (br_f hc z)
  exact ⟨σ, h, ok, fr, fun Q9 hq => rb Q9 hq⟩
/-! WebHost.pass(I)I -/
set_option maxHeartbeats 4000000 in
theorem e0_pass {σ : St} {x1 : Int32} {Q : Int32 → St → Prop} (ok : okS σ) (h : w0_pass σ x1 Q) : (∃ (r : Int32) (σ' : St), Q r σ' ∧ okS σ' ∧ Fr (mF [23, 25, 26, 31, 32, 35, 36, 37] [] [(11, [2, 10, 11, 14, 15, 16, 17, 18, 19, 21, 22, 27, 28, 29, 30, 33, 34, 36, 37]), (2, [3, 4]), (3, [9]), (4, [0, 1, 2, 4]), (5, [2]), (6, [1]), (8, [3, 4])] []) σ σ' ∧ ∀ (Q9 : Int32 → St → Prop), Q9 r σ' → w0_pass σ x1 Q9) := by
  have fr : Fr (mF [23, 25, 26, 31, 32, 35, 36, 37] [] [(11, [2, 10, 11, 14, 15, 16, 17, 18, 19, 21, 22, 27, 28, 29, 30, 33, 34, 36, 37]), (2, [3, 4]), (3, [9]), (4, [0, 1, 2, 4]), (5, [2]), (6, [1]), (8, [3, 4])] []) σ σ := Fr.rf
  have rb : ∀ (Q9 : Int32 → St → Prop), w0_pass σ x1 Q9 → w0_pass σ x1 Q9 := fun _ z => z
  obtain ⟨r1, h, rc⟩ := e0_refusal ok h
  have rb := fun Q9 z => rb Q9 (rc _ z)
  by_cases hc : 0 ≤ r1
  · have h := h.1 hc
    have rb := fun Q9 z => rb Q9 (br_t hc z)
    obtain ⟨σ2, h, ok, fr9, rc⟩ := e0_goOn ok h
    have fr := fr.tr (fr9.sub (mF_sub rfl sub_nil rfl sud_nil))
    have rb := fun Q9 z => rb Q9 (rc _ z)
    exact ⟨((σ2 2 0 3) - (σ 2 0 3)), σ2, h, ok, fr, fun Q9 hq => rb Q9 hq⟩
  have h := h.2 hc
  have rb := fun Q9 z => rb Q9 (br_f hc z)
  exact ⟨r1, σ, h, ok, fr, fun Q9 hq => rb Q9 hq⟩
/-! WebHost$Connection.look()V -/
set_option maxHeartbeats 4000000 in
theorem e11_look_J92 {σ : St} {o0 : Nat} {x1 : Int32} {Q : St → Prop} (ho0 : o0 < 16) (ok : okS σ) (h : w11_look_J92 σ o0 x1 Q) : (∃ (σ' : St), Q σ' ∧ okS σ' ∧ Fr (mF [] [(42, o0), (43, o0)] [] [(11, o0, [27]), (12, o0, [2, 3])]) σ σ' ∧ ∀ (Q9 : St → Prop), Q9 σ' → w11_look_J92 σ o0 x1 Q9) := by
  have fr : Fr (mF [] [(42, o0), (43, o0)] [] [(11, o0, [27]), (12, o0, [2, 3])]) σ σ := Fr.rf
  have rb : ∀ (Q9 : St → Prop), w11_look_J92 σ o0 x1 Q9 → w11_look_J92 σ o0 x1 Q9 := fun _ z => z
  by_cases hc : x1 = 1
  · have h := h.1 hc
    have rb := fun Q9 z => rb Q9 (br_t hc z)
    obtain ⟨σ7, e9⟩ : ∃ s : St, s = up3 σ 11 o0 27 0 := ⟨_, rfl⟩
    have h := h σ7 e9
    have rb := fun Q9 z => rb Q9 (nm_n e9 z)
    have ok : okS σ7 := by rw [e9]; exact (ok_z ok (by decide) (Or.inl rfl))
    have fr : Fr (mF [] [(42, o0), (43, o0)] [] [(11, o0, [27]), (12, o0, [2, 3])]) σ σ7 := by rw [e9]; exact (Fr.up fr (mF_D (List.mem_of_getElem? (i := 0) rfl) rfl))
    obtain ⟨σ8, h, ok, fr9, rc⟩ := e12_leaveOut ho0 ok h
    have fr := fr.tr (fr9.sub (mF_sub rfl (sub_c (Or.inr (List.mem_of_getElem? (i := 0) rfl)) (sub_c (Or.inr (List.mem_of_getElem? (i := 1) rfl)) sub_nil)) rfl (sud_c (Or.inr ⟨_, List.mem_of_getElem? (i := 1) rfl, rfl⟩) sud_nil)))
    have rb := fun Q9 z => rb Q9 (rc _ z)
    exact ⟨σ8, h, ok, fr, fun Q9 hq => rb Q9 hq⟩
  have h := h.2 hc
  have rb := fun Q9 z => rb Q9 (br_f hc z)
  obtain ⟨σ9, e9⟩ : ∃ s : St, s = up3 σ 11 o0 27 1 := ⟨_, rfl⟩
  have h := h σ9 e9
  have rb := fun Q9 z => rb Q9 (nm_n e9 z)
  have ok : okS σ9 := by rw [e9]; exact (ok_z ok (by decide) (Or.inr rfl))
  have fr : Fr (mF [] [(42, o0), (43, o0)] [] [(11, o0, [27]), (12, o0, [2, 3])]) σ σ9 := by rw [e9]; exact (Fr.up fr (mF_D (List.mem_of_getElem? (i := 0) rfl) rfl))
  obtain ⟨σ10, h, ok, fr9, rc⟩ := e12_leaveOut ho0 ok h
  have fr := fr.tr (fr9.sub (mF_sub rfl (sub_c (Or.inr (List.mem_of_getElem? (i := 0) rfl)) (sub_c (Or.inr (List.mem_of_getElem? (i := 1) rfl)) sub_nil)) rfl (sud_c (Or.inr ⟨_, List.mem_of_getElem? (i := 1) rfl, rfl⟩) sud_nil)))
  have rb := fun Q9 z => rb Q9 (rc _ z)
  exact ⟨σ10, h, ok, fr, fun Q9 hq => rb Q9 hq⟩
set_option maxHeartbeats 4000000 in
theorem e11_look_J47 {σ : St} {o0 : Nat} {xs0 : Int32} {os1 : Nat} {os2 : Nat} {Q : St → Prop} (ho0 : o0 < 16) (hos1 : os1 < 16) (hos2 : os2 < 16) (ok : okS σ) (h : w11_look_J47 σ o0 xs0 os1 os2 Q) : (∃ (σ' : St), Q σ' ∧ okS σ' ∧ Fr (mF [40, 41] [(42, o0), (42, os2), (43, o0), (43, os2), (44, os1), (90, (os1 + 1))] [(8, [5]), (9, [2, 3, 4, 5, 6, 7, 8, 9, 10, 11, 12, 13, 14, 15, 16, 18])] [(11, o0, [26, 27]), (12, o0, [2, 3]), (12, os2, [2, 3]), (13, o0, [1]), (13, os1, [1])]) σ σ' ∧ ∀ (Q9 : St → Prop), Q9 σ' → w11_look_J47 σ o0 xs0 os1 os2 Q9) := by
  have fr : Fr (mF [40, 41] [(42, o0), (42, os2), (43, o0), (43, os2), (44, os1), (90, (os1 + 1))] [(8, [5]), (9, [2, 3, 4, 5, 6, 7, 8, 9, 10, 11, 12, 13, 14, 15, 16, 18])] [(11, o0, [26, 27]), (12, o0, [2, 3]), (12, os2, [2, 3]), (13, o0, [1]), (13, os1, [1])]) σ σ := Fr.rf
  have rb : ∀ (Q9 : St → Prop), w11_look_J47 σ o0 xs0 os1 os2 Q9 → w11_look_J47 σ o0 xs0 os1 os2 Q9 := fun _ z => z
  obtain ⟨r3, σ3, h, ok, fr9, rc⟩ := e9_look hos2 hos1 ok h
  have fr := fr.tr (fr9.sub (mF_sub rfl (sub_c (Or.inr (List.mem_of_getElem? (i := 1) rfl)) (sub_c (Or.inr (List.mem_of_getElem? (i := 3) rfl)) (sub_c (Or.inr (List.mem_of_getElem? (i := 4) rfl)) (sub_c (Or.inr (List.mem_of_getElem? (i := 5) rfl)) sub_nil)))) rfl (sud_c (Or.inr ⟨_, List.mem_of_getElem? (i := 2) rfl, rfl⟩) (sud_c (Or.inr ⟨_, List.mem_of_getElem? (i := 4) rfl, rfl⟩) sud_nil))))
  have rb := fun Q9 z => rb Q9 (rc _ z)
  by_cases hc : r3 = 0
  · have h := h.1 hc
    have rb := fun Q9 z => rb Q9 (br_t hc z)
    obtain ⟨σ4, h, ok, fr9, rc⟩ := e12_leaveOut ho0 ok h
    have fr := fr.tr (fr9.sub (mF_sub rfl (sub_c (Or.inr (List.mem_of_getElem? (i := 0) rfl)) (sub_c (Or.inr (List.mem_of_getElem? (i := 2) rfl)) sub_nil)) rfl (sud_c (Or.inr ⟨_, List.mem_of_getElem? (i := 1) rfl, rfl⟩) sud_nil)))
    have rb := fun Q9 z => rb Q9 (rc _ z)
    exact ⟨σ4, h, ok, fr, fun Q9 hq => rb Q9 hq⟩
  have h := h.2 hc
  have rb := fun Q9 z => rb Q9 (br_f hc z)
  obtain ⟨σ5, e9⟩ : ∃ s : St, s = up3 σ3 11 o0 26 (σ3 11 o0 10) := ⟨_, rfl⟩
  have h := h σ5 e9
  have rb := fun Q9 z => rb Q9 (nm_n e9 z)
  have ok : okS σ5 := by rw [e9]; exact (ok_n ok (by decide))
  have fr : Fr (mF [40, 41] [(42, o0), (42, os2), (43, o0), (43, os2), (44, os1), (90, (os1 + 1))] [(8, [5]), (9, [2, 3, 4, 5, 6, 7, 8, 9, 10, 11, 12, 13, 14, 15, 16, 18])] [(11, o0, [26, 27]), (12, o0, [2, 3]), (12, os2, [2, 3]), (13, o0, [1]), (13, os1, [1])]) σ σ5 := by rw [e9]; exact (Fr.up fr (mF_D (List.mem_of_getElem? (i := 0) rfl) rfl))
  by_cases hc : r3 = 3
  · have h := h.2 hc
    have rb := fun Q9 z => rb Q9 (br_u hc z)
    obtain ⟨σ11, e9⟩ : ∃ s : St, s = up3 σ5 13 o0 1 0 := ⟨_, rfl⟩
    have h := h σ11 e9
    have rb := fun Q9 z => rb Q9 (nm_n e9 z)
    have ok : okS σ11 := by rw [e9]; exact (ok_n ok (by decide))
    have fr : Fr (mF [40, 41] [(42, o0), (42, os2), (43, o0), (43, os2), (44, os1), (90, (os1 + 1))] [(8, [5]), (9, [2, 3, 4, 5, 6, 7, 8, 9, 10, 11, 12, 13, 14, 15, 16, 18])] [(11, o0, [26, 27]), (12, o0, [2, 3]), (12, os2, [2, 3]), (13, o0, [1]), (13, os1, [1])]) σ σ11 := by rw [e9]; exact (Fr.up fr (mF_D (List.mem_of_getElem? (i := 3) rfl) rfl))
    obtain ⟨σ9, h, ok, fr9, rc⟩ := e11_look_J92 ho0 ok h
    exact ⟨σ9, h, ok, fr.tr (fr9.sub (mF_sub rfl (sub_c (Or.inr (List.mem_of_getElem? (i := 0) rfl)) (sub_c (Or.inr (List.mem_of_getElem? (i := 2) rfl)) sub_nil)) rfl (sud_c (Or.inr ⟨_, List.mem_of_getElem? (i := 0) rfl, rfl⟩) (sud_c (Or.inr ⟨_, List.mem_of_getElem? (i := 1) rfl, rfl⟩) sud_nil)))), fun Q9 hq => rb Q9 (rc Q9 hq)⟩
  have h := h.1 hc
  have rb := fun Q9 z => rb Q9 (br_v hc z)
  obtain ⟨σ6, e9⟩ : ∃ s : St, s = up3 σ5 8 0 5 ((σ5 8 0 5) + 1) := ⟨_, rfl⟩
  have h := h σ6 e9
  have rb := fun Q9 z => rb Q9 (nm_n e9 z)
  have ok : okS σ6 := by rw [e9]; exact (ok_n ok (by decide))
  have fr : Fr (mF [40, 41] [(42, o0), (42, os2), (43, o0), (43, os2), (44, os1), (90, (os1 + 1))] [(8, [5]), (9, [2, 3, 4, 5, 6, 7, 8, 9, 10, 11, 12, 13, 14, 15, 16, 18])] [(11, o0, [26, 27]), (12, o0, [2, 3]), (12, os2, [2, 3]), (13, o0, [1]), (13, os1, [1])]) σ σ6 := by rw [e9]; exact (Fr.up fr (mF_C (List.mem_of_getElem? (i := 0) rfl) rfl))
  obtain ⟨σ9, h, ok, fr9, rc⟩ := e11_look_J92 ho0 ok h
  exact ⟨σ9, h, ok, fr.tr (fr9.sub (mF_sub rfl (sub_c (Or.inr (List.mem_of_getElem? (i := 0) rfl)) (sub_c (Or.inr (List.mem_of_getElem? (i := 2) rfl)) sub_nil)) rfl (sud_c (Or.inr ⟨_, List.mem_of_getElem? (i := 0) rfl, rfl⟩) (sud_c (Or.inr ⟨_, List.mem_of_getElem? (i := 1) rfl, rfl⟩) sud_nil)))), fun Q9 hq => rb Q9 (rc Q9 hq)⟩
set_option maxHeartbeats 4000000 in
theorem e11_look {σ : St} {o0 : Nat} {Q : St → Prop} (ho0 : o0 < 16) (ok : okS σ) (h : w11_look σ o0 Q) : (∃ (σ' : St), Q σ' ∧ okS σ' ∧ Fr (mF [40, 41] [(42, o0), (43, o0), (44, o0), (90, (o0 + 1))] [(8, [5]), (9, [2, 3, 4, 5, 6, 7, 8, 9, 10, 11, 12, 13, 14, 15, 16, 18])] [(11, o0, [26, 27]), (12, o0, [2, 3]), (13, o0, [1])]) σ σ' ∧ ∀ (Q9 : St → Prop), Q9 σ' → w11_look σ o0 Q9) := by
  have fr : Fr (mF [40, 41] [(42, o0), (43, o0), (44, o0), (90, (o0 + 1))] [(8, [5]), (9, [2, 3, 4, 5, 6, 7, 8, 9, 10, 11, 12, 13, 14, 15, 16, 18])] [(11, o0, [26, 27]), (12, o0, [2, 3]), (13, o0, [1])]) σ σ := Fr.rf
  have rb : ∀ (Q9 : St → Prop), w11_look σ o0 Q9 → w11_look σ o0 Q9 := fun _ z => z
  have h := h ((ok 11 o0 27).1 (by decide))
  have rb := fun Q9 z => rb Q9 (im_n z)
  by_cases hc : (σ 11 o0 27) = 0
  · have h := h.2 hc
    have rb := fun Q9 z => rb Q9 (br_u hc z)
    obtain ⟨r1, h, rc⟩ := e11_left ho0 ok h
    have rb := fun Q9 z => rb Q9 (rc _ z)
    by_cases hc : r1 = 0
    · have h := h.2 hc
      have rb := fun Q9 z => rb Q9 (br_u hc z)
      obtain ⟨r2, h, rc⟩ := e11_flight ho0 ok h
      have rb := fun Q9 z => rb Q9 (rc _ z)
      by_cases hc : r2 = 0
      · have h := h.2 hc
        have rb := fun Q9 z => rb Q9 (br_u hc z)
        by_cases hc : (σ 11 o0 2) = 7
        · have h := h.2 hc
          have rb := fun Q9 z => rb Q9 (br_u hc z)
          obtain ⟨σ9, h, ok, fr9, rc⟩ := e11_look_J47 ho0 ho0 ho0 ok h
          exact ⟨σ9, h, ok, fr.tr (fr9.sub (mF_sub rfl (sub_c (Or.inr (List.mem_of_getElem? (i := 0) rfl)) (sub_c (Or.inr (List.mem_of_getElem? (i := 0) rfl)) (sub_c (Or.inr (List.mem_of_getElem? (i := 1) rfl)) (sub_c (Or.inr (List.mem_of_getElem? (i := 1) rfl)) (sub_c (Or.inr (List.mem_of_getElem? (i := 2) rfl)) (sub_c (Or.inr (List.mem_of_getElem? (i := 3) rfl)) sub_nil)))))) rfl (sud_c (Or.inr ⟨_, List.mem_of_getElem? (i := 0) rfl, rfl⟩) (sud_c (Or.inr ⟨_, List.mem_of_getElem? (i := 1) rfl, rfl⟩) (sud_c (Or.inr ⟨_, List.mem_of_getElem? (i := 1) rfl, rfl⟩) (sud_c (Or.inr ⟨_, List.mem_of_getElem? (i := 2) rfl, rfl⟩) (sud_c (Or.inr ⟨_, List.mem_of_getElem? (i := 2) rfl, rfl⟩) sud_nil))))))), fun Q9 hq => rb Q9 (rc Q9 hq)⟩
        have h := h.1 hc
        have rb := fun Q9 z => rb Q9 (br_v hc z)
        obtain ⟨σ9, h, ok, fr9, rc⟩ := e11_look_J47 ho0 ho0 ho0 ok h
        exact ⟨σ9, h, ok, fr.tr (fr9.sub (mF_sub rfl (sub_c (Or.inr (List.mem_of_getElem? (i := 0) rfl)) (sub_c (Or.inr (List.mem_of_getElem? (i := 0) rfl)) (sub_c (Or.inr (List.mem_of_getElem? (i := 1) rfl)) (sub_c (Or.inr (List.mem_of_getElem? (i := 1) rfl)) (sub_c (Or.inr (List.mem_of_getElem? (i := 2) rfl)) (sub_c (Or.inr (List.mem_of_getElem? (i := 3) rfl)) sub_nil)))))) rfl (sud_c (Or.inr ⟨_, List.mem_of_getElem? (i := 0) rfl, rfl⟩) (sud_c (Or.inr ⟨_, List.mem_of_getElem? (i := 1) rfl, rfl⟩) (sud_c (Or.inr ⟨_, List.mem_of_getElem? (i := 1) rfl, rfl⟩) (sud_c (Or.inr ⟨_, List.mem_of_getElem? (i := 2) rfl, rfl⟩) (sud_c (Or.inr ⟨_, List.mem_of_getElem? (i := 2) rfl, rfl⟩) sud_nil))))))), fun Q9 hq => rb Q9 (rc Q9 hq)⟩
      have h := h.1 hc
      have rb := fun Q9 z => rb Q9 (br_v hc z)
      exact ⟨σ, h, ok, fr, fun Q9 hq => rb Q9 hq⟩
    have h := h.1 hc
    have rb := fun Q9 z => rb Q9 (br_v hc z)
    exact ⟨σ, h, ok, fr, fun Q9 hq => rb Q9 hq⟩
  have h := h.1 hc
  have rb := fun Q9 z => rb Q9 (br_v hc z)
  exact ⟨σ, h, ok, fr, fun Q9 hq => rb Q9 hq⟩
/-! WebHostModel.taken(II)V -/
set_option maxHeartbeats 4000000 in
theorem e14_taken {σ : St} {x1 : Int32} {x2 : Int32} {Q : St → Prop} (ok : okS σ) (h : w14_taken σ x1 x2 Q) : (∃ (σ' : St), Q σ' ∧ okS σ' ∧ Fr (mF [56, 57, 58, 59, 60, 66, 67, 68, 71, 72, 73] [] [(14, [12, 18, 23, 24, 25, 32, 33, 34, 35, 36, 37, 38, 39, 40, 42, 43, 44, 45, 46, 47, 48, 49, 50, 51, 52, 53, 54, 55, 56, 57, 59, 60, 61, 62]), (15, [0, 1, 2, 3, 4, 5, 6, 7, 8, 9, 10, 11, 12, 13, 14, 15, 16, 17, 18, 19, 20, 21, 22, 23, 24, 26, 27, 28, 29, 30, 31, 34, 35, 36, 37, 38, 39, 40, 41, 42, 43, 44, 45]), (17, [0, 1, 2, 3, 4, 5])] []) σ σ' ∧ ∀ (Q9 : St → Prop), Q9 σ' → w14_taken σ x1 x2 Q9) := by
  have fr : Fr (mF [56, 57, 58, 59, 60, 66, 67, 68, 71, 72, 73] [] [(14, [12, 18, 23, 24, 25, 32, 33, 34, 35, 36, 37, 38, 39, 40, 42, 43, 44, 45, 46, 47, 48, 49, 50, 51, 52, 53, 54, 55, 56, 57, 59, 60, 61, 62]), (15, [0, 1, 2, 3, 4, 5, 6, 7, 8, 9, 10, 11, 12, 13, 14, 15, 16, 17, 18, 19, 20, 21, 22, 23, 24, 26, 27, 28, 29, 30, 31, 34, 35, 36, 37, 38, 39, 40, 41, 42, 43, 44, 45]), (17, [0, 1, 2, 3, 4, 5])] []) σ σ := Fr.rf
  have rb : ∀ (Q9 : St → Prop), w14_taken σ x1 x2 Q9 → w14_taken σ x1 x2 Q9 := fun _ z => z
  by_cases hc : x1 = 1
  · have h := h.2 hc
    have rb := fun Q9 z => rb Q9 (br_u hc z)
    obtain ⟨σ2, h, ok, fr9, rc⟩ := e14_echo ok h
    have fr := fr.tr (fr9.sub (mF_sub rfl sub_nil rfl sud_nil))
    have rb := fun Q9 z => rb Q9 (rc _ z)
    exact ⟨σ2, h, ok, fr, fun Q9 hq => rb Q9 hq⟩
  have h := h.1 hc
  have rb := fun Q9 z => rb Q9 (br_v hc z)
  by_cases hc : x1 = 6
  · have h := h.2 hc
    have rb := fun Q9 z => rb Q9 (br_u hc z)
    obtain ⟨σ1, h, ok, fr9, rc⟩ := e14_tcp ok h
    have fr := fr.tr (fr9.sub (mF_sub rfl sub_nil rfl sud_nil))
    have rb := fun Q9 z => rb Q9 (rc _ z)
    exact ⟨σ1, h, ok, fr, fun Q9 hq => rb Q9 hq⟩
  have h := h.1 hc
  have rb := fun Q9 z => rb Q9 (br_v hc z)
  exact ⟨σ, h, ok, fr, fun Q9 hq => rb Q9 hq⟩
/-! WebHost$Connection.goOn()V -/
set_option maxHeartbeats 4000000 in
theorem e11_goOn_J66 {σ : St} {o0 : Nat} {Q : St → Prop} (ho0 : o0 < 16) (ok : okS σ) (h : w11_goOn_J66 σ o0 Q) : (∃ (σ' : St), Q σ' ∧ okS σ' ∧ Fr (mF [] [] [] [(11, o0, [31, 33])]) σ σ' ∧ ∀ (Q9 : St → Prop), Q9 σ' → w11_goOn_J66 σ o0 Q9) := by
  have fr : Fr (mF [] [] [] [(11, o0, [31, 33])]) σ σ := Fr.rf
  have rb : ∀ (Q9 : St → Prop), w11_goOn_J66 σ o0 Q9 → w11_goOn_J66 σ o0 Q9 := fun _ z => z
  by_cases hc : (σ 11 o0 2) = 2
  · have h := h.2 hc
    have rb := fun Q9 z => rb Q9 (br_u hc z)
    obtain ⟨r5, h, rc⟩ := e11_left ho0 ok h
    have rb := fun Q9 z => rb Q9 (rc _ z)
    by_cases hc : r5 = 0
    · have h := h.2 hc
      have rb := fun Q9 z => rb Q9 (br_u hc z)
      by_cases hc : (σ 11 o0 11) = (σ 11 o0 9)
      · have h := h.2 hc
        have rb := fun Q9 z => rb Q9 (br_u hc z)
        obtain ⟨σ10, e9⟩ : ∃ s : St, s = up3 σ 11 o0 33 1 := ⟨_, rfl⟩
        have h := h σ10 e9
        have rb := fun Q9 z => rb Q9 (nm_n e9 z)
        have ok : okS σ10 := by rw [e9]; exact (ok_z ok (by decide) (Or.inr rfl))
        have fr : Fr (mF [] [] [] [(11, o0, [31, 33])]) σ σ10 := by rw [e9]; exact (Fr.up fr (mF_D (List.mem_of_getElem? (i := 0) rfl) rfl))
        obtain ⟨σ11, e9⟩ : ∃ s : St, s = up3 σ10 11 o0 31 ((σ10 11 o0 32) + 30000) := ⟨_, rfl⟩
        have h := h σ11 e9
        have rb := fun Q9 z => rb Q9 (nm_n e9 z)
        have ok : okS σ11 := by rw [e9]; exact (ok_n ok (by decide))
        have fr : Fr (mF [] [] [] [(11, o0, [31, 33])]) σ σ11 := by rw [e9]; exact (Fr.up fr (mF_D (List.mem_of_getElem? (i := 0) rfl) rfl))
        exact ⟨σ11, h, ok, fr, fun Q9 hq => rb Q9 hq⟩
      have h := h.1 hc
      have rb := fun Q9 z => rb Q9 (br_v hc z)
      obtain ⟨σ8, e9⟩ : ∃ s : St, s = up3 σ 11 o0 33 0 := ⟨_, rfl⟩
      have h := h σ8 e9
      have rb := fun Q9 z => rb Q9 (nm_n e9 z)
      have ok : okS σ8 := by rw [e9]; exact (ok_z ok (by decide) (Or.inl rfl))
      have fr : Fr (mF [] [] [] [(11, o0, [31, 33])]) σ σ8 := by rw [e9]; exact (Fr.up fr (mF_D (List.mem_of_getElem? (i := 0) rfl) rfl))
      obtain ⟨σ9, e9⟩ : ∃ s : St, s = up3 σ8 11 o0 31 ((σ8 11 o0 32) + 30000) := ⟨_, rfl⟩
      have h := h σ9 e9
      have rb := fun Q9 z => rb Q9 (nm_n e9 z)
      have ok : okS σ9 := by rw [e9]; exact (ok_n ok (by decide))
      have fr : Fr (mF [] [] [] [(11, o0, [31, 33])]) σ σ9 := by rw [e9]; exact (Fr.up fr (mF_D (List.mem_of_getElem? (i := 0) rfl) rfl))
      exact ⟨σ9, h, ok, fr, fun Q9 hq => rb Q9 hq⟩
    have h := h.1 hc
    have rb := fun Q9 z => rb Q9 (br_v hc z)
    obtain ⟨σ6, e9⟩ : ∃ s : St, s = up3 σ 11 o0 33 0 := ⟨_, rfl⟩
    have h := h σ6 e9
    have rb := fun Q9 z => rb Q9 (nm_n e9 z)
    have ok : okS σ6 := by rw [e9]; exact (ok_z ok (by decide) (Or.inl rfl))
    have fr : Fr (mF [] [] [] [(11, o0, [31, 33])]) σ σ6 := by rw [e9]; exact (Fr.up fr (mF_D (List.mem_of_getElem? (i := 0) rfl) rfl))
    obtain ⟨σ7, e9⟩ : ∃ s : St, s = up3 σ6 11 o0 31 ((σ6 11 o0 32) + 30000) := ⟨_, rfl⟩
    have h := h σ7 e9
    have rb := fun Q9 z => rb Q9 (nm_n e9 z)
    have ok : okS σ7 := by rw [e9]; exact (ok_n ok (by decide))
    have fr : Fr (mF [] [] [] [(11, o0, [31, 33])]) σ σ7 := by rw [e9]; exact (Fr.up fr (mF_D (List.mem_of_getElem? (i := 0) rfl) rfl))
    exact ⟨σ7, h, ok, fr, fun Q9 hq => rb Q9 hq⟩
  have h := h.1 hc
  have rb := fun Q9 z => rb Q9 (br_v hc z)
  exact ⟨σ, h, ok, fr, fun Q9 hq => rb Q9 hq⟩
set_option maxHeartbeats 4000000 in
theorem e11_goOn_J51 {σ : St} {o0 : Nat} {Q : St → Prop} (ho0 : o0 < 16) (ok : okS σ) (h : w11_goOn_J51 σ o0 Q) : (∃ (σ' : St), Q σ' ∧ okS σ' ∧ Fr (mF [23, 25, 26, 32, 35, 36] [] [(2, [3]), (3, [9]), (4, [0, 1, 2, 4]), (5, [2]), (8, [4])] [(11, o0, [2, 10, 11, 21, 22, 28, 29, 30, 31, 33, 34, 36, 37])]) σ σ' ∧ ∀ (Q9 : St → Prop), Q9 σ' → w11_goOn_J51 σ o0 Q9) := by
  have fr : Fr (mF [23, 25, 26, 32, 35, 36] [] [(2, [3]), (3, [9]), (4, [0, 1, 2, 4]), (5, [2]), (8, [4])] [(11, o0, [2, 10, 11, 21, 22, 28, 29, 30, 31, 33, 34, 36, 37])]) σ σ := Fr.rf
  have rb : ∀ (Q9 : St → Prop), w11_goOn_J51 σ o0 Q9 → w11_goOn_J51 σ o0 Q9 := fun _ z => z
  obtain ⟨σ4, h, ok, fr9, rc⟩ := e11_output ho0 ok h
  have fr := fr.tr (fr9.sub (mF_sub rfl sub_nil rfl (sud_c (Or.inr ⟨_, List.mem_of_getElem? (i := 0) rfl, rfl⟩) sud_nil)))
  have rb := fun Q9 z => rb Q9 (rc _ z)
  have h := h ((ok 11 o0 22).1 (by decide))
  have rb := fun Q9 z => rb Q9 (im_n z)
  by_cases hc : (σ4 11 o0 22) = 0
  · have h := h.1 hc
    have rb := fun Q9 z => rb Q9 (br_t hc z)
    obtain ⟨σ9, h, ok, fr9, rc⟩ := e11_goOn_J66 ho0 ok h
    exact ⟨σ9, h, ok, fr.tr (fr9.sub (mF_sub rfl sub_nil rfl (sud_c (Or.inr ⟨_, List.mem_of_getElem? (i := 0) rfl, rfl⟩) sud_nil))), fun Q9 hq => rb Q9 (rc Q9 hq)⟩
  have h := h.2 hc
  have rb := fun Q9 z => rb Q9 (br_f hc z)
  obtain ⟨σ12, h, ok, fr9, rc⟩ := e11_acknowledge ho0 ok h
  have fr := fr.tr (fr9.sub (mF_sub rfl sub_nil rfl (sud_c (Or.inr ⟨_, List.mem_of_getElem? (i := 0) rfl, rfl⟩) sud_nil)))
  have rb := fun Q9 z => rb Q9 (rc _ z)
  obtain ⟨σ9, h, ok, fr9, rc⟩ := e11_goOn_J66 ho0 ok h
  exact ⟨σ9, h, ok, fr.tr (fr9.sub (mF_sub rfl sub_nil rfl (sud_c (Or.inr ⟨_, List.mem_of_getElem? (i := 0) rfl, rfl⟩) sud_nil))), fun Q9 hq => rb Q9 (rc Q9 hq)⟩
set_option maxHeartbeats 4000000 in
theorem e11_goOn_J28 {σ : St} {o0 : Nat} {Q : St → Prop} (ho0 : o0 < 16) (ok : okS σ) (h : w11_goOn_J28 σ o0 Q) : (∃ (σ' : St), Q σ' ∧ okS σ' ∧ Fr (mF [23, 25, 26, 32, 35, 36] [] [(2, [3]), (3, [9]), (4, [0, 1, 2, 4]), (5, [2]), (8, [4])] [(11, o0, [2, 10, 11, 21, 22, 28, 29, 30, 31, 33, 34, 36, 37])]) σ σ' ∧ ∀ (Q9 : St → Prop), Q9 σ' → w11_goOn_J28 σ o0 Q9) := by
  have fr : Fr (mF [23, 25, 26, 32, 35, 36] [] [(2, [3]), (3, [9]), (4, [0, 1, 2, 4]), (5, [2]), (8, [4])] [(11, o0, [2, 10, 11, 21, 22, 28, 29, 30, 31, 33, 34, 36, 37])]) σ σ := Fr.rf
  have rb : ∀ (Q9 : St → Prop), w11_goOn_J28 σ o0 Q9 → w11_goOn_J28 σ o0 Q9 := fun _ z => z
  obtain ⟨r3, h, rc⟩ := e12_window ho0 ok h
  have rb := fun Q9 z => rb Q9 (rc _ z)
  by_cases hc : (r3 - (σ 11 o0 21)) < 2048
  · have h := h.1 hc
    have rb := fun Q9 z => rb Q9 (br_t hc z)
    obtain ⟨σ9, h, ok, fr9, rc⟩ := e11_goOn_J51 ho0 ok h
    exact ⟨σ9, h, ok, fr.tr (fr9.sub (mF_sub rfl sub_nil rfl (sud_c (Or.inr ⟨_, List.mem_of_getElem? (i := 0) rfl, rfl⟩) sud_nil))), fun Q9 hq => rb Q9 (rc Q9 hq)⟩
  have h := h.2 hc
  have rb := fun Q9 z => rb Q9 (br_f hc z)
  obtain ⟨σ13, e9⟩ : ∃ s : St, s = up3 σ 11 o0 22 1 := ⟨_, rfl⟩
  have h := h σ13 e9
  have rb := fun Q9 z => rb Q9 (nm_n e9 z)
  have ok : okS σ13 := by rw [e9]; exact (ok_z ok (by decide) (Or.inr rfl))
  have fr : Fr (mF [23, 25, 26, 32, 35, 36] [] [(2, [3]), (3, [9]), (4, [0, 1, 2, 4]), (5, [2]), (8, [4])] [(11, o0, [2, 10, 11, 21, 22, 28, 29, 30, 31, 33, 34, 36, 37])]) σ σ13 := by rw [e9]; exact (Fr.up fr (mF_D (List.mem_of_getElem? (i := 0) rfl) rfl))
  obtain ⟨σ9, h, ok, fr9, rc⟩ := e11_goOn_J51 ho0 ok h
  exact ⟨σ9, h, ok, fr.tr (fr9.sub (mF_sub rfl sub_nil rfl (sud_c (Or.inr ⟨_, List.mem_of_getElem? (i := 0) rfl, rfl⟩) sud_nil))), fun Q9 hq => rb Q9 (rc Q9 hq)⟩
set_option maxHeartbeats 4000000 in
theorem e11_goOn {σ : St} {o0 : Nat} {Q : St → Prop} (ho0 : o0 < 16) (ok : okS σ) (h : w11_goOn σ o0 Q) : (∃ (σ' : St), Q σ' ∧ okS σ' ∧ Fr (mF [23, 25, 26, 32, 35, 36, 40, 41] [(42, o0), (43, o0), (44, o0), (90, (o0 + 1))] [(2, [3]), (3, [9]), (4, [0, 1, 2, 4]), (5, [2]), (8, [4, 5]), (9, [2, 3, 4, 5, 6, 7, 8, 9, 10, 11, 12, 13, 14, 15, 16, 18])] [(11, o0, [2, 10, 11, 21, 22, 26, 27, 28, 29, 30, 31, 33, 34, 36, 37]), (12, o0, [2, 3]), (13, o0, [1])]) σ σ' ∧ ∀ (Q9 : St → Prop), Q9 σ' → w11_goOn σ o0 Q9) := by
  have fr : Fr (mF [23, 25, 26, 32, 35, 36, 40, 41] [(42, o0), (43, o0), (44, o0), (90, (o0 + 1))] [(2, [3]), (3, [9]), (4, [0, 1, 2, 4]), (5, [2]), (8, [4, 5]), (9, [2, 3, 4, 5, 6, 7, 8, 9, 10, 11, 12, 13, 14, 15, 16, 18])] [(11, o0, [2, 10, 11, 21, 22, 26, 27, 28, 29, 30, 31, 33, 34, 36, 37]), (12, o0, [2, 3]), (13, o0, [1])]) σ σ := Fr.rf
  have rb : ∀ (Q9 : St → Prop), w11_goOn σ o0 Q9 → w11_goOn σ o0 Q9 := fun _ z => z
  obtain ⟨σ1, h, ok, fr9, rc⟩ := e12_leaveOut ho0 ok h
  have fr := fr.tr (fr9.sub (mF_sub rfl (sub_c (Or.inr (List.mem_of_getElem? (i := 0) rfl)) (sub_c (Or.inr (List.mem_of_getElem? (i := 1) rfl)) sub_nil)) rfl (sud_c (Or.inr ⟨_, List.mem_of_getElem? (i := 1) rfl, rfl⟩) sud_nil)))
  have rb := fun Q9 z => rb Q9 (rc _ z)
  by_cases hc : (σ1 11 o0 2) = 2
  · have h := h.1 hc
    have rb := fun Q9 z => rb Q9 (br_t hc z)
    obtain ⟨σ2, h, ok, fr9, rc⟩ := e11_look ho0 ok h
    have fr := fr.tr (fr9.sub (mF_sub rfl (sub_c (Or.inr (List.mem_of_getElem? (i := 0) rfl)) (sub_c (Or.inr (List.mem_of_getElem? (i := 1) rfl)) (sub_c (Or.inr (List.mem_of_getElem? (i := 2) rfl)) (sub_c (Or.inr (List.mem_of_getElem? (i := 3) rfl)) sub_nil)))) rfl (sud_c (Or.inr ⟨_, List.mem_of_getElem? (i := 0) rfl, rfl⟩) (sud_c (Or.inr ⟨_, List.mem_of_getElem? (i := 1) rfl, rfl⟩) (sud_c (Or.inr ⟨_, List.mem_of_getElem? (i := 2) rfl, rfl⟩) sud_nil)))))
    have rb := fun Q9 z => rb Q9 (rc _ z)
    obtain ⟨σ9, h, ok, fr9, rc⟩ := e11_goOn_J28 ho0 ok h
    exact ⟨σ9, h, ok, fr.tr (fr9.sub (mF_sub rfl sub_nil rfl (sud_c (Or.inr ⟨_, List.mem_of_getElem? (i := 0) rfl, rfl⟩) sud_nil))), fun Q9 hq => rb Q9 (rc Q9 hq)⟩
  have h := h.2 hc
  have rb := fun Q9 z => rb Q9 (br_f hc z)
  by_cases hc : (σ1 11 o0 2) = 7
  · have h := h.2 hc
    have rb := fun Q9 z => rb Q9 (br_u hc z)
    obtain ⟨σ14, h, ok, fr9, rc⟩ := e11_look ho0 ok h
    have fr := fr.tr (fr9.sub (mF_sub rfl (sub_c (Or.inr (List.mem_of_getElem? (i := 0) rfl)) (sub_c (Or.inr (List.mem_of_getElem? (i := 1) rfl)) (sub_c (Or.inr (List.mem_of_getElem? (i := 2) rfl)) (sub_c (Or.inr (List.mem_of_getElem? (i := 3) rfl)) sub_nil)))) rfl (sud_c (Or.inr ⟨_, List.mem_of_getElem? (i := 0) rfl, rfl⟩) (sud_c (Or.inr ⟨_, List.mem_of_getElem? (i := 1) rfl, rfl⟩) (sud_c (Or.inr ⟨_, List.mem_of_getElem? (i := 2) rfl, rfl⟩) sud_nil)))))
    have rb := fun Q9 z => rb Q9 (rc _ z)
    obtain ⟨σ9, h, ok, fr9, rc⟩ := e11_goOn_J28 ho0 ok h
    exact ⟨σ9, h, ok, fr.tr (fr9.sub (mF_sub rfl sub_nil rfl (sud_c (Or.inr ⟨_, List.mem_of_getElem? (i := 0) rfl, rfl⟩) sud_nil))), fun Q9 hq => rb Q9 (rc Q9 hq)⟩
  have h := h.1 hc
  have rb := fun Q9 z => rb Q9 (br_v hc z)
  obtain ⟨σ9, h, ok, fr9, rc⟩ := e11_goOn_J28 ho0 ok h
  exact ⟨σ9, h, ok, fr.tr (fr9.sub (mF_sub rfl sub_nil rfl (sud_c (Or.inr ⟨_, List.mem_of_getElem? (i := 0) rfl, rfl⟩) sud_nil))), fun Q9 hq => rb Q9 (rc Q9 hq)⟩
