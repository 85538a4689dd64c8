/-! runs -/
set_option maxRecDepth 100000
/-! WebHost.counted(I)I -/
set_option maxHeartbeats 4000000 in
theorem e0_counted {σ : St} {x1 : Int32} {Q : Int32 → Prop} (ok : okS σ) (h : w0_counted σ x1 Q) : (∃ r : Int32, Q r ∧ ∀ (Q9 : Int32 → Prop), Q9 r → w0_counted σ x1 Q9) := by
  have rb : ∀ (Q9 : Int32 → Prop), w0_counted σ x1 Q9 → w0_counted σ x1 Q9 := fun _ z => z
  have h := h ((ok 0 0 11).1 (by decide))
  have rb := fun Q9 z => rb Q9 (im_n z)
  by_cases hc : (σ 0 0 11) = 0
  · have h := h.2 hc
    have rb := fun Q9 z => rb Q9 (br_u hc z)
    exact ⟨(-1), h, fun Q9 hq => rb Q9 hq⟩
  have h := h.1 hc
  have rb := fun Q9 z => rb Q9 (br_v hc z)
  by_cases hc : x1 = 0
  · have h := h.1 hc
    have rb := fun Q9 z => rb Q9 (br_t hc z)
    exact ⟨(σ 0 0 13), h, fun Q9 hq => rb Q9 hq⟩
  have h := h.2 hc
  have rb := fun Q9 z => rb Q9 (br_f hc z)
  by_cases hc : x1 = 1
  · have h := h.1 hc
    have rb := fun Q9 z => rb Q9 (br_t hc z)
    exact ⟨(σ 6 0 2), h, fun Q9 hq => rb Q9 hq⟩
  have h := h.2 hc
  have rb := fun Q9 z => rb Q9 (br_f hc z)
  by_cases hc : x1 = 2
  · have h := h.1 hc
    have rb := fun Q9 z => rb Q9 (br_t hc z)
    exact ⟨(σ 8 0 3), h, fun Q9 hq => rb Q9 hq⟩
  have h := h.2 hc
  have rb := fun Q9 z => rb Q9 (br_f hc z)
  by_cases hc : x1 = 3
  · have h := h.1 hc
    have rb := fun Q9 z => rb Q9 (br_t hc z)
    exact ⟨(σ 8 0 4), h, fun Q9 hq => rb Q9 hq⟩
  have h := h.2 hc
  have rb := fun Q9 z => rb Q9 (br_f hc z)
  by_cases hc : x1 = 4
  · have h := h.1 hc
    have rb := fun Q9 z => rb Q9 (br_t hc z)
    exact ⟨(σ 8 0 5), h, fun Q9 hq => rb Q9 hq⟩
  have h := h.2 hc
  have rb := fun Q9 z => rb Q9 (br_f hc z)
  by_cases hc : x1 = 5
  · have h := h.1 hc
    have rb := fun Q9 z => rb Q9 (br_t hc z)
    exact ⟨(σ 8 0 6), h, fun Q9 hq => rb Q9 hq⟩
  have h := h.2 hc
  have rb := fun Q9 z => rb Q9 (br_f hc z)
  by_cases hc : x1 = 6
  · have h := h.1 hc
    have rb := fun Q9 z => rb Q9 (br_t hc z)
    exact ⟨(σ 8 0 7), h, fun Q9 hq => rb Q9 hq⟩
  have h := h.2 hc
  have rb := fun Q9 z => rb Q9 (br_f hc z)
  by_cases hc : x1 = 7
  · have h := h.1 hc
    have rb := fun Q9 z => rb Q9 (br_t hc z)
    exact ⟨(σ 8 0 8), h, fun Q9 hq => rb Q9 hq⟩
  have h := h.2 hc
  have rb := fun Q9 z => rb Q9 (br_f hc z)
  exact ⟨(-1), h, fun Q9 hq => rb Q9 hq⟩
/-! WebHost.end(I)I -/
set_option maxHeartbeats 4000000 in
theorem e0_end {σ : St} {x1 : Int32} {Q : Int32 → St → Prop} (ok : okS σ) (h : w0_end σ x1 Q) : (∃ (r : Int32) (σ' : St), Q r σ' ∧ okS σ' ∧ Fr (mF [] [] [(0, [1])] []) σ σ' ∧ ∀ (Q9 : Int32 → St → Prop), Q9 r σ' → w0_end σ x1 Q9) := by
  have fr : Fr (mF [] [] [(0, [1])] []) σ σ := Fr.rf
  have rb : ∀ (Q9 : Int32 → St → Prop), w0_end σ x1 Q9 → w0_end σ x1 Q9 := fun _ z => z
  by_cases hc : x1 < 0
  · have h := h.1 hc
    have rb := fun Q9 z => rb Q9 (br_t hc z)
    exact ⟨(-1), σ, h, ok, fr, fun Q9 hq => rb Q9 hq⟩
  have h := h.2 hc
  have rb := fun Q9 z => rb Q9 (br_f hc z)
  by_cases hc : x1 ≤ (σ 0 0 1)
  · have h := h.1 hc
    have rb := fun Q9 z => rb Q9 (br_t hc z)
    obtain ⟨σ1, e9⟩ : ∃ s : St, s = up3 σ 0 0 1 x1 := ⟨_, rfl⟩
    have h := h σ1 e9
    have rb := fun Q9 z => rb Q9 (nm_n e9 z)
    have ok : okS σ1 := by rw [e9]; exact (ok_n ok (by decide))
    have fr : Fr (mF [] [] [(0, [1])] []) σ σ1 := by rw [e9]; exact (Fr.up fr (mF_C (List.mem_of_getElem? (i := 0) rfl) rfl))
    exact ⟨x1, σ1, h, ok, fr, fun Q9 hq => rb Q9 hq⟩
  have h := h.2 hc
  have rb := fun Q9 z => rb Q9 (br_f hc z)
  exact ⟨(-1), σ, h, ok, fr, fun Q9 hq => rb Q9 hq⟩
/-! WebHost.find(LWebHost$Segment;)I -/
set_option maxHeartbeats 4000000 in
theorem e0_find_L2 {σ : St} {Q : Int32 → Prop} {K52 : Int32 → Prop} {K60 : Prop} (ok : okS σ) :
    ∀ (n : Nat) {x2 : Int32}, w0_find_L2 σ Q K52 K60 n x2 → (∃ (x2' : Int32), K52 x2' ∧ ∀ (Q9 : Int32 → Prop) (K9_52 : Int32 → Prop) (K9_60 : Prop), K9_52 x2' → w0_find_L2 σ Q9 K9_52 K9_60 n x2) ∨ (K60 ∧ ∀ (Q9 : Int32 → Prop) (K9_52 : Int32 → Prop) (K9_60 : Prop), K9_60 → w0_find_L2 σ Q9 K9_52 K9_60 n x2) := by
  intro n
  induction n with
  | zero =>
    intro x2 h
    exact False.elim h
  | succ n ih =>
    intro x2 h
    have rb : ∀ (Q9 : Int32 → Prop) (K9_52 : Int32 → Prop) (K9_60 : Prop), w0_find_L2 σ Q9 K9_52 K9_60 (n + 1) x2 → w0_find_L2 σ Q9 K9_52 K9_60 (n + 1) x2 := fun _ _ _ z => z
    by_cases hc : 16 ≤ x2
    · have h := h.1 hc
      have rb := fun Q9 K9_52 K9_60 z => rb Q9 K9_52 K9_60 (br_t hc z)
      exact (Or.inr ⟨h, fun Q9 K9_52 K9_60 hq => rb Q9 K9_52 K9_60 hq⟩)
    have h := h.2 hc
    have rb := fun Q9 K9_52 K9_60 z => rb Q9 K9_52 K9_60 (br_f hc z)
    obtain ⟨hc, h⟩ := h
    have rb := fun Q9 K9_52 K9_60 z => rb Q9 K9_52 K9_60 (And.intro hc z)
    have hq1 := vp_lt hc
    by_cases hc : (σ 11 x2.toNatClampNeg 2) = 0
    · have h := h.1 hc
      have rb := fun Q9 K9_52 K9_60 z => rb Q9 K9_52 K9_60 (br_t hc z)
      rcases ih h with ⟨x2, h, rc⟩ | ⟨h, rc⟩
      · exact (Or.inl ⟨x2, h, fun Q9 K9_52 K9_60 hq => rb Q9 K9_52 K9_60 (rc Q9 K9_52 K9_60 hq)⟩)
      · exact (Or.inr ⟨h, fun Q9 K9_52 K9_60 hq => rb Q9 K9_52 K9_60 (rc Q9 K9_52 K9_60 hq)⟩)
    have h := h.2 hc
    have rb := fun Q9 K9_52 K9_60 z => rb Q9 K9_52 K9_60 (br_f hc z)
    obtain ⟨hc, h⟩ := h
    have rb := fun Q9 K9_52 K9_60 z => rb Q9 K9_52 K9_60 (And.intro hc z)
    have hq2 := vp_lt hc
    by_cases hc : (σ 11 x2.toNatClampNeg 3) = (σ 10 0 0)
    · have h := h.2 hc
      have rb := fun Q9 K9_52 K9_60 z => rb Q9 K9_52 K9_60 (br_u hc z)
      obtain ⟨hc, h⟩ := h
      have rb := fun Q9 K9_52 K9_60 z => rb Q9 K9_52 K9_60 (And.intro hc z)
      have hq3 := vp_lt hc
      by_cases hc : (σ 11 x2.toNatClampNeg 4) = (σ 10 0 1)
      · have h := h.2 hc
        have rb := fun Q9 K9_52 K9_60 z => rb Q9 K9_52 K9_60 (br_u hc z)
        exact (Or.inl ⟨x2, h, fun Q9 K9_52 K9_60 hq => rb Q9 K9_52 K9_60 hq⟩)
      have h := h.1 hc
      have rb := fun Q9 K9_52 K9_60 z => rb Q9 K9_52 K9_60 (br_v hc z)
      rcases ih h with ⟨x2, h, rc⟩ | ⟨h, rc⟩
      · exact (Or.inl ⟨x2, h, fun Q9 K9_52 K9_60 hq => rb Q9 K9_52 K9_60 (rc Q9 K9_52 K9_60 hq)⟩)
      · exact (Or.inr ⟨h, fun Q9 K9_52 K9_60 hq => rb Q9 K9_52 K9_60 (rc Q9 K9_52 K9_60 hq)⟩)
    have h := h.1 hc
    have rb := fun Q9 K9_52 K9_60 z => rb Q9 K9_52 K9_60 (br_v hc z)
    rcases ih h with ⟨x2, h, rc⟩ | ⟨h, rc⟩
    · exact (Or.inl ⟨x2, h, fun Q9 K9_52 K9_60 hq => rb Q9 K9_52 K9_60 (rc Q9 K9_52 K9_60 hq)⟩)
    · exact (Or.inr ⟨h, fun Q9 K9_52 K9_60 hq => rb Q9 K9_52 K9_60 (rc Q9 K9_52 K9_60 hq)⟩)
set_option maxHeartbeats 4000000 in
theorem e0_find {σ : St} {Q : Int32 → Prop} (ok : okS σ) (h : w0_find σ Q) : (∃ r : Int32, Q r ∧ ∀ (Q9 : Int32 → Prop), Q9 r → w0_find σ Q9) := by
  have rb : ∀ (Q9 : Int32 → Prop), w0_find σ Q9 → w0_find σ Q9 := fun _ z => z
  obtain ⟨n9, h⟩ := h
  rcases e0_find_L2 ok n9 h with ⟨x2_5, h, rc⟩ | ⟨h, rc⟩
  · have rb := fun Q9 z => rb Q9 (Exists.intro n9 (rc _ _ _ z))
    exact ⟨x2_5, h, fun Q9 hq => rb Q9 hq⟩
  · have rb := fun Q9 z => rb Q9 (Exists.intro n9 (rc _ _ _ z))
    exact ⟨(-1), h, fun Q9 hq => rb Q9 hq⟩
/-! WebHost.isPlace(I)Z -/
set_option maxHeartbeats 4000000 in
theorem e0_isPlace {σ : St} {x0 : Int32} {Q : Int32 → Prop} (ok : okS σ) (h : w0_isPlace σ x0 Q) : (∃ r : Int32, Q r ∧ ∀ (Q9 : Int32 → Prop), Q9 r → w0_isPlace σ x0 Q9) := by
  have rb : ∀ (Q9 : Int32 → Prop), w0_isPlace σ x0 Q9 → w0_isPlace σ x0 Q9 := fun _ z => z
  by_cases hc : x0 < 0
  · have h := h.1 hc
    have rb := fun Q9 z => rb Q9 (br_t hc z)
    exact ⟨0, h, fun Q9 hq => rb Q9 hq⟩
  have h := h.2 hc
  have rb := fun Q9 z => rb Q9 (br_f hc z)
  by_cases hc : 16 ≤ x0
  · have h := h.1 hc
    have rb := fun Q9 z => rb Q9 (br_t hc z)
    exact ⟨0, h, fun Q9 hq => rb Q9 hq⟩
  have h := h.2 hc
  have rb := fun Q9 z => rb Q9 (br_f hc z)
  exact ⟨1, h, fun Q9 hq => rb Q9 hq⟩
/-! WebHost.now()I -/
set_option maxHeartbeats 4000000 in
theorem e0_now {σ : St} {Q : Int32 → Prop} (ok : okS σ) (h : w0_now σ Q) : (∃ r : Int32, Q r ∧ ∀ (Q9 : Int32 → Prop), Q9 r → w0_now σ Q9) := by
  have rb : ∀ (Q9 : Int32 → Prop), w0_now σ Q9 → w0_now σ Q9 := fun _ z => z
  have h := h ((ok 0 0 11).1 (by decide))
  have rb := fun Q9 z => rb Q9 (im_n z)
  by_cases hc : (σ 0 0 11) = 0
  · have h := h.1 hc
    have rb := fun Q9 z => rb Q9 (br_t hc z)
    exact ⟨(-1), h, fun Q9 hq => rb Q9 hq⟩
  have h := h.2 hc
  have rb := fun Q9 z => rb Q9 (br_f hc z)
  exact ⟨(σ 2 0 4), h, fun Q9 hq => rb Q9 hq⟩
/-! WebHost.refusal(I)I -/
set_option maxHeartbeats 4000000 in
theorem e0_refusal {σ : St} {x1 : Int32} {Q : Int32 → Prop} (ok : okS σ) (h : w0_refusal σ x1 Q) : (∃ r : Int32, Q r ∧ ∀ (Q9 : Int32 → Prop), Q9 r → w0_refusal σ x1 Q9) := by
  have rb : ∀ (Q9 : Int32 → Prop), w0_refusal σ x1 Q9 → w0_refusal σ x1 Q9 := fun _ z => z
  have h := h ((ok 0 0 11).1 (by decide))
  have rb := fun Q9 z => rb Q9 (im_n z)
  by_cases hc : (σ 0 0 11) = 0
  · have h := h.2 hc
    have rb := fun Q9 z => rb Q9 (br_u hc z)
    exact ⟨(-1), h, fun Q9 hq => rb Q9 hq⟩
  have h := h.1 hc
  have rb := fun Q9 z => rb Q9 (br_v hc z)
  by_cases hc : x1 < (σ 2 0 4)
  · have h := h.1 hc
    have rb := fun Q9 z => rb Q9 (br_t hc z)
    exact ⟨(-2), h, fun Q9 hq => rb Q9 hq⟩
  have h := h.2 hc
  have rb := fun Q9 z => rb Q9 (br_f hc z)
  by_cases hc : 600000 < (x1 - (σ 2 0 4))
  · have h := h.1 hc
    have rb := fun Q9 z => rb Q9 (br_t hc z)
    exact ⟨(-2), h, fun Q9 hq => rb Q9 hq⟩
  have h := h.2 hc
  have rb := fun Q9 z => rb Q9 (br_f hc z)
  by_cases hc : x1 ≤ 2000000000
  · have h := h.1 hc
    have rb := fun Q9 z => rb Q9 (br_t hc z)
    exact ⟨0, h, fun Q9 hq => rb Q9 hq⟩
  have h := h.2 hc
  have rb := fun Q9 z => rb Q9 (br_f hc z)
  exact ⟨(-2), h, fun Q9 hq => rb Q9 hq⟩
/-! WebHost.sent()I -/
set_option maxHeartbeats 4000000 in
theorem e0_sent {σ : St} {Q : Int32 → Prop} (ok : okS σ) (h : w0_sent σ Q) : (∃ r : Int32, Q r ∧ ∀ (Q9 : Int32 → Prop), Q9 r → w0_sent σ Q9) := by
  have rb : ∀ (Q9 : Int32 → Prop), w0_sent σ Q9 → w0_sent σ Q9 := fun _ z => z
  have h := h ((ok 0 0 11).1 (by decide))
  have rb := fun Q9 z => rb Q9 (im_n z)
  by_cases hc : (σ 0 0 11) = 0
  · have h := h.1 hc
    have rb := fun Q9 z => rb Q9 (br_t hc z)
    exact ⟨(-1), h, fun Q9 hq => rb Q9 hq⟩
  have h := h.2 hc
  have rb := fun Q9 z => rb Q9 (br_f hc z)
  exact ⟨(σ 2 0 3), h, fun Q9 hq => rb Q9 hq⟩
/-! WebHost.strays()I -/
set_option maxHeartbeats 4000000 in
theorem e0_strays {σ : St} {Q : Int32 → Prop} (ok : okS σ) (h : w0_strays σ Q) : (∃ r : Int32, Q r ∧ ∀ (Q9 : Int32 → Prop), Q9 r → w0_strays σ Q9) := by
  have rb : ∀ (Q9 : Int32 → Prop), w0_strays σ Q9 → w0_strays σ Q9 := fun _ z => z
  exact ⟨0, h, fun Q9 hq => rb Q9 hq⟩
/-! WebHost.waiting()I -/
set_option maxHeartbeats 4000000 in
theorem e0_waiting {σ : St} {Q : Int32 → Prop} (ok : okS σ) (h : w0_waiting σ Q) : (∃ r : Int32, Q r ∧ ∀ (Q9 : Int32 → Prop), Q9 r → w0_waiting σ Q9) := by
  have rb : ∀ (Q9 : Int32 → Prop), w0_waiting σ Q9 → w0_waiting σ Q9 := fun _ z => z
  have h := h ((ok 0 0 11).1 (by decide))
  have rb := fun Q9 z => rb Q9 (im_n z)
  by_cases hc : (σ 0 0 11) = 0
  · have h := h.1 hc
    have rb := fun Q9 z => rb Q9 (br_t hc z)
    exact ⟨0, h, fun Q9 hq => rb Q9 hq⟩
  have h := h.2 hc
  have rb := fun Q9 z => rb Q9 (br_f hc z)
  exact ⟨(σ 3 0 9), h, fun Q9 hq => rb Q9 hq⟩
/-! WebHost$Store.check(II)I -/
set_option maxHeartbeats 4000000 in
theorem e1_check_L30 {σ : St} {x1 : Int32} {x2 : Int32} {x4 : Int32} {Q : Int32 → Prop} {K63 : Int32 → Prop} (ok : okS σ) :
    ∀ (n : Nat) {x3 : Int32} {x5 : Int32}, w1_check_L30 σ x1 x2 x4 Q K63 n x3 x5 → (∃ (x3' : Int32), K63 x3' ∧ ∀ (Q9 : Int32 → Prop) (K9_63 : Int32 → Prop), K9_63 x3' → w1_check_L30 σ x1 x2 x4 Q9 K9_63 n x3 x5) := by
  intro n
  induction n with
  | zero =>
    intro x3 x5 h
    exact False.elim h
  | succ n ih =>
    intro x3 x5 h
    have rb : ∀ (Q9 : Int32 → Prop) (K9_63 : Int32 → Prop), w1_check_L30 σ x1 x2 x4 Q9 K9_63 (n + 1) x3 x5 → w1_check_L30 σ x1 x2 x4 Q9 K9_63 (n + 1) x3 x5 := fun _ _ z => z
    by_cases hc : 8 ≤ x5
    · have h := h.1 hc
      have rb := fun Q9 K9_63 z => rb Q9 K9_63 (br_t hc z)
      exact ⟨x3, h, fun Q9 K9_63 hq => rb Q9 K9_63 hq⟩
    have h := h.2 hc
    have rb := fun Q9 K9_63 z => rb Q9 K9_63 (br_f hc z)
    by_cases hc : (x3 &&& 1) = 1
    · have h := h.2 hc
      have rb := fun Q9 K9_63 z => rb Q9 K9_63 (br_u hc z)
      rcases ih h with ⟨x3, h, rc⟩
      · exact ⟨x3, h, fun Q9 K9_63 hq => rb Q9 K9_63 (rc Q9 K9_63 hq)⟩
    have h := h.1 hc
    have rb := fun Q9 K9_63 z => rb Q9 K9_63 (br_v hc z)
    rcases ih h with ⟨x3, h, rc⟩
    · exact ⟨x3, h, fun Q9 K9_63 hq => rb Q9 K9_63 (rc Q9 K9_63 hq)⟩
set_option maxHeartbeats 4000000 in
theorem e1_check_L5 {σ : St} {x1 : Int32} {x2 : Int32} {Q : Int32 → Prop} {K69 : Int32 → Prop} (ok : okS σ) :
    ∀ (n : Nat) {x3 : Int32} {x4 : Int32}, w1_check_L5 σ x1 x2 Q K69 n x3 x4 → (∃ (x3' : Int32), K69 x3' ∧ ∀ (Q9 : Int32 → Prop) (K9_69 : Int32 → Prop), K9_69 x3' → w1_check_L5 σ x1 x2 Q9 K9_69 n x3 x4) := by
  intro n
  induction n with
  | zero =>
    intro x3 x4 h
    exact False.elim h
  | succ n ih =>
    intro x3 x4 h
    have rb : ∀ (Q9 : Int32 → Prop) (K9_69 : Int32 → Prop), w1_check_L5 σ x1 x2 Q9 K9_69 (n + 1) x3 x4 → w1_check_L5 σ x1 x2 Q9 K9_69 (n + 1) x3 x4 := fun _ _ z => z
    by_cases hc : x2 ≤ x4
    · have h := h.1 hc
      have rb := fun Q9 K9_69 z => rb Q9 K9_69 (br_t hc z)
      exact ⟨x3, h, fun Q9 K9_69 hq => rb Q9 K9_69 hq⟩
    have h := h.2 hc
    have rb := fun Q9 K9_69 z => rb Q9 K9_69 (br_f hc z)
    obtain ⟨hc, h⟩ := h
    have rb := fun Q9 K9_69 z => rb Q9 K9_69 (And.intro hc z)
    have h := h ((ok 21 0 _).2 (tyk_a 21 2 (by decide) (by decide) _))
    have rb := fun Q9 K9_69 z => rb Q9 K9_69 (im_n z)
    obtain ⟨n9, h⟩ := h
    rcases e1_check_L30 ok n9 h with ⟨x3_2, h, rc⟩
    · have rb := fun Q9 K9_69 z => rb Q9 K9_69 (Exists.intro n9 (rc _ _ z))
      rcases ih h with ⟨x3, h, rc⟩
      · exact ⟨x3, h, fun Q9 K9_69 hq => rb Q9 K9_69 (rc Q9 K9_69 hq)⟩
set_option maxHeartbeats 4000000 in
theorem e1_check {σ : St} {x1 : Int32} {x2 : Int32} {Q : Int32 → Prop} (ok : okS σ) (h : w1_check σ x1 x2 Q) : (∃ r : Int32, Q r ∧ ∀ (Q9 : Int32 → Prop), Q9 r → w1_check σ x1 x2 Q9) := by
  have rb : ∀ (Q9 : Int32 → Prop), w1_check σ x1 x2 Q9 → w1_check σ x1 x2 Q9 := fun _ z => z
  obtain ⟨n9, h⟩ := h
  rcases e1_check_L5 ok n9 h with ⟨x3_4, h, rc⟩
  · have rb := fun Q9 z => rb Q9 (Exists.intro n9 (rc _ _ z))
    exact ⟨(x3_4 ^^^ (-1)), h, fun Q9 hq => rb Q9 hq⟩
/-! WebHost$Store.entry(I)I -/
set_option maxHeartbeats 4000000 in
theorem e1_entry {σ : St} {x1 : Int32} {Q : Int32 → Prop} (ok : okS σ) (h : w1_entry σ x1 Q) : (∃ r : Int32, Q r ∧ ∀ (Q9 : Int32 → Prop), Q9 r → w1_entry σ x1 Q9) := by
  have rb : ∀ (Q9 : Int32 → Prop), w1_entry σ x1 Q9 → w1_entry σ x1 Q9 := fun _ z => z
  exact ⟨(8 + (64 * x1)), h, fun Q9 hq => rb Q9 hq⟩
/-! WebHost$Store.look(I)I -/
set_option maxHeartbeats 4000000 in
theorem e1_look {σ : St} {x1 : Int32} {Q : Int32 → Prop} (ok : okS σ) (h : w1_look σ x1 Q) : (∃ r : Int32, Q r ∧ ∀ (Q9 : Int32 → Prop), Q9 r → w1_look σ x1 Q9) := by
  have rb : ∀ (Q9 : Int32 → Prop), w1_look σ x1 Q9 → w1_look σ x1 Q9 := fun _ z => z
  obtain ⟨hq1, h⟩ := h
  have rb := fun Q9 z => rb Q9 (And.intro hq1 z)
  obtain ⟨hc, h⟩ := h
  have rb := fun Q9 z => rb Q9 (And.intro hc z)
  have h := h ((ok ((σ 1 0 3).toNatClampNeg) ((σ 1 0 103).toNatClampNeg) _).2 ((ab_spec (abc_spec hq1).1).2.2.2.2.2.2.2 _))
  have rb := fun Q9 z => rb Q9 (im_n z)
  exact ⟨((σ ((σ 1 0 3).toNatClampNeg) ((σ 1 0 103).toNatClampNeg) x1.toNatClampNeg) &&& 255), h, fun Q9 hq => rb Q9 hq⟩
/-! WebHost$Device.isForUs([B)Z -/
set_option maxHeartbeats 4000000 in
theorem e2_isForUs_J31 {σ : St} {k1 : Nat} {i1 : Nat} {x3 : Int32} {x4 : Int32} {xs0 : Int32} {Q : Int32 → Prop} {K7 : Int32 → Int32 → Int32 → Prop} (hk1 : abc k1 i1 = true) (ok : okS σ) (h : w2_isForUs_J31 σ k1 i1 x3 x4 xs0 Q K7) : (∃ (x2' : Int32) (x3' : Int32) (x4' : Int32), K7 x2' x3' x4' ∧ ∀ (Q9 : Int32 → Prop) (K9_7 : Int32 → Int32 → Int32 → Prop), K9_7 x2' x3' x4' → w2_isForUs_J31 σ k1 i1 x3 x4 xs0 Q9 K9_7) := by
  have rb : ∀ (Q9 : Int32 → Prop) (K9_7 : Int32 → Int32 → Int32 → Prop), w2_isForUs_J31 σ k1 i1 x3 x4 xs0 Q9 K9_7 → w2_isForUs_J31 σ k1 i1 x3 x4 xs0 Q9 K9_7 := fun _ _ z => z
  by_cases hc : x3 = 0
  · have h := h.1 hc
    have rb := fun Q9 K9_7 z => rb Q9 K9_7 (br_t hc z)
    exact ⟨xs0, 0, x4 + 1, h, fun Q9 K9_7 hq => rb Q9 K9_7 hq⟩
  have h := h.2 hc
  have rb := fun Q9 K9_7 z => rb Q9 K9_7 (br_f hc z)
  obtain ⟨hc, h⟩ := h
  have rb := fun Q9 K9_7 z => rb Q9 K9_7 (And.intro hc z)
  have h := h ((ok k1 i1 _).2 ((ab_spec (abc_spec hk1).1).2.2.2.2.2.2.2 _))
  have rb := fun Q9 K9_7 z => rb Q9 K9_7 (im_n z)
  obtain ⟨hc, h⟩ := h
  have rb := fun Q9 K9_7 z => rb Q9 K9_7 (And.intro hc z)
  have h := h ((ok 27 0 _).2 (tyk_a 27 2 (by decide) (by decide) _))
  have rb := fun Q9 K9_7 z => rb Q9 K9_7 (im_n z)
  by_cases hc : (σ k1 i1 x4.toNatClampNeg) = (σ 27 0 x4.toNatClampNeg)
  · have h := h.2 hc
    have rb := fun Q9 K9_7 z => rb Q9 K9_7 (br_u hc z)
    exact ⟨xs0, 1, x4 + 1, h, fun Q9 K9_7 hq => rb Q9 K9_7 hq⟩
  have h := h.1 hc
  have rb := fun Q9 K9_7 z => rb Q9 K9_7 (br_v hc z)
  exact ⟨xs0, 0, x4 + 1, h, fun Q9 K9_7 hq => rb Q9 K9_7 hq⟩
set_option maxHeartbeats 4000000 in
theorem e2_isForUs_L7 {σ : St} {k1 : Nat} {i1 : Nat} {Q : Int32 → Prop} {K62 : Int32 → Int32 → Prop} (hk1 : abc k1 i1 = true) (ok : okS σ) :
    ∀ (n : Nat) {x2 : Int32} {x3 : Int32} {x4 : Int32}, w2_isForUs_L7 σ k1 i1 Q K62 n x2 x3 x4 → (∃ (x2' : Int32) (x3' : Int32), K62 x2' x3' ∧ ∀ (Q9 : Int32 → Prop) (K9_62 : Int32 → Int32 → Prop), K9_62 x2' x3' → w2_isForUs_L7 σ k1 i1 Q9 K9_62 n x2 x3 x4) := by
  intro n
  induction n with
  | zero =>
    intro x2 x3 x4 h
    exact False.elim h
  | succ n ih =>
    intro x2 x3 x4 h
    have rb : ∀ (Q9 : Int32 → Prop) (K9_62 : Int32 → Int32 → Prop), w2_isForUs_L7 σ k1 i1 Q9 K9_62 (n + 1) x2 x3 x4 → w2_isForUs_L7 σ k1 i1 Q9 K9_62 (n + 1) x2 x3 x4 := fun _ _ z => z
    by_cases hc : 6 ≤ x4
    · have h := h.1 hc
      have rb := fun Q9 K9_62 z => rb Q9 K9_62 (br_t hc z)
      exact ⟨x2, x3, h, fun Q9 K9_62 hq => rb Q9 K9_62 hq⟩
    have h := h.2 hc
    have rb := fun Q9 K9_62 z => rb Q9 K9_62 (br_f hc z)
    by_cases hc : x2 = 0
    · have h := h.1 hc
      have rb := fun Q9 K9_62 z => rb Q9 K9_62 (br_t hc z)
      rcases e2_isForUs_J31 hk1 ok h with ⟨x2, x3, x4, h, rc⟩
      · rcases ih h with ⟨x2, x3, h, rd⟩
        · exact ⟨x2, x3, h, fun Q9 K9_62 hq => rb Q9 K9_62 (rc _ _ (rd Q9 K9_62 hq))⟩
    have h := h.2 hc
    have rb := fun Q9 K9_62 z => rb Q9 K9_62 (br_f hc z)
    obtain ⟨hc, h⟩ := h
    have rb := fun Q9 K9_62 z => rb Q9 K9_62 (And.intro hc z)
    have h := h ((ok k1 i1 _).2 ((ab_spec (abc_spec hk1).1).2.2.2.2.2.2.2 _))
    have rb := fun Q9 K9_62 z => rb Q9 K9_62 (im_n z)
    by_cases hc : (σ k1 i1 x4.toNatClampNeg) = (-1)
    · have h := h.2 hc
      have rb := fun Q9 K9_62 z => rb Q9 K9_62 (br_u hc z)
      rcases e2_isForUs_J31 hk1 ok h with ⟨x2, x3, x4, h, rc⟩
      · rcases ih h with ⟨x2, x3, h, rd⟩
        · exact ⟨x2, x3, h, fun Q9 K9_62 hq => rb Q9 K9_62 (rc _ _ (rd Q9 K9_62 hq))⟩
    have h := h.1 hc
    have rb := fun Q9 K9_62 z => rb Q9 K9_62 (br_v hc z)
    rcases e2_isForUs_J31 hk1 ok h with ⟨x2, x3, x4, h, rc⟩
    · rcases ih h with ⟨x2, x3, h, rd⟩
      · exact ⟨x2, x3, h, fun Q9 K9_62 hq => rb Q9 K9_62 (rc _ _ (rd Q9 K9_62 hq))⟩
set_option maxHeartbeats 4000000 in
theorem e2_isForUs {σ : St} {k1 : Nat} {i1 : Nat} {Q : Int32 → Prop} (hk1 : abc k1 i1 = true) (ok : okS σ) (h : w2_isForUs σ k1 i1 Q) : (∃ r : Int32, Q r ∧ ∀ (Q9 : Int32 → Prop), Q9 r → w2_isForUs σ k1 i1 Q9) := by
  have rb : ∀ (Q9 : Int32 → Prop), w2_isForUs σ k1 i1 Q9 → w2_isForUs σ k1 i1 Q9 := fun _ z => z
  obtain ⟨n9, h⟩ := h
  rcases e2_isForUs_L7 hk1 ok n9 h with ⟨x2_2, x3_2, h, rc⟩
  · have rb := fun Q9 z => rb Q9 (Exists.intro n9 (rc _ _ z))
    by_cases hc : x2_2 = 0
    · have h := h.2 hc
      have rb := fun Q9 z => rb Q9 (br_u hc z)
      by_cases hc : x3_2 = 0
      · have h := h.1 hc
        have rb := fun Q9 z => rb Q9 (br_t hc z)
        exact ⟨0, h, fun Q9 hq => rb Q9 hq⟩
      have h := h.2 hc
      have rb := fun Q9 z => rb Q9 (br_f hc z)
      exact ⟨1, h, fun Q9 hq => rb Q9 hq⟩
    have h := h.1 hc
    have rb := fun Q9 z => rb Q9 (br_v hc z)
    exact ⟨1, h, fun Q9 hq => rb Q9 hq⟩
/-! WebHost$Device.isKept(I)Z -/
set_option maxHeartbeats 4000000 in
theorem e2_isKept {σ : St} {x1 : Int32} {Q : Int32 → Prop} (ok : okS σ) (h : w2_isKept σ x1 Q) : (∃ r : Int32, Q r ∧ ∀ (Q9 : Int32 → Prop), Q9 r → w2_isKept σ x1 Q9) := by
  have rb : ∀ (Q9 : Int32 → Prop), w2_isKept σ x1 Q9 → w2_isKept σ x1 Q9 := fun _ z => z
  by_cases hc : x1 < 0
  · have h := h.1 hc
    have rb := fun Q9 z => rb Q9 (br_t hc z)
    exact ⟨0, h, fun Q9 hq => rb Q9 hq⟩
  have h := h.2 hc
  have rb := fun Q9 z => rb Q9 (br_f hc z)
  by_cases hc : 32 ≤ x1
  · have h := h.1 hc
    have rb := fun Q9 z => rb Q9 (br_t hc z)
    exact ⟨0, h, fun Q9 hq => rb Q9 hq⟩
  have h := h.2 hc
  have rb := fun Q9 z => rb Q9 (br_f hc z)
  by_cases hc : (σ 2 0 3) ≤ x1
  · have h := h.1 hc
    have rb := fun Q9 z => rb Q9 (br_t hc z)
    exact ⟨0, h, fun Q9 hq => rb Q9 hq⟩
  have h := h.2 hc
  have rb := fun Q9 z => rb Q9 (br_f hc z)
  exact ⟨1, h, fun Q9 hq => rb Q9 hq⟩
/-! WebHost$Device.slot(I)I -/
set_option maxHeartbeats 4000000 in
theorem e2_slot {σ : St} {x1 : Int32} {Q : Int32 → Prop} (ok : okS σ) (h : w2_slot σ x1 Q) : (∃ r : Int32, Q r ∧ ∀ (Q9 : Int32 → Prop), Q9 r → w2_slot σ x1 Q9) := by
  have rb : ∀ (Q9 : Int32 → Prop), w2_slot σ x1 Q9 → w2_slot σ x1 Q9 := fun _ z => z
  exact ⟨((((σ 2 0 3) - 1) - x1) - (((σ 2 0 3) - 1) - x1) / 32 * 32), h, fun Q9 hq => rb Q9 hq⟩
/-! WebHost$Hops.begin(III)V -/
set_option maxHeartbeats 4000000 in
theorem e3_begin {σ : St} {x1 : Int32} {x2 : Int32} {x3 : Int32} {Q : St → Prop} (ok : okS σ) (h : w3_begin σ x1 x2 x3 Q) : (∃ (σ' : St), Q σ' ∧ okS σ' ∧ Fr (mF [] [] [(3, [1, 2, 3, 7, 9])] []) σ σ' ∧ ∀ (Q9 : St → Prop), Q9 σ' → w3_begin σ x1 x2 x3 Q9) := by
  have fr : Fr (mF [] [] [(3, [1, 2, 3, 7, 9])] []) σ σ := Fr.rf
  have rb : ∀ (Q9 : St → Prop), w3_begin σ x1 x2 x3 Q9 → w3_begin σ x1 x2 x3 Q9 := fun _ z => z
  obtain ⟨σ1, e9⟩ : ∃ s : St, s = up3 σ 3 0 1 x1 := ⟨_, rfl⟩
  have h := h σ1 e9
  have rb := fun Q9 z => rb Q9 (nm_n e9 z)
  have ok : okS σ1 := by rw [e9]; exact (ok_n ok (by decide))
  have fr : Fr (mF [] [] [(3, [1, 2, 3, 7, 9])] []) σ σ1 := by rw [e9]; exact (Fr.up fr (mF_C (List.mem_of_getElem? (i := 0) rfl) rfl))
  obtain ⟨σ2, e9⟩ : ∃ s : St, s = up3 σ1 3 0 2 ((-1) <<< ((32 - x2) &&& 31)) := ⟨_, rfl⟩
  have h := h σ2 e9
  have rb := fun Q9 z => rb Q9 (nm_n e9 z)
  have ok : okS σ2 := by rw [e9]; exact (ok_n ok (by decide))
  have fr : Fr (mF [] [] [(3, [1, 2, 3, 7, 9])] []) σ σ2 := by rw [e9]; exact (Fr.up fr (mF_C (List.mem_of_getElem? (i := 0) rfl) rfl))
  obtain ⟨σ3, e9⟩ : ∃ s : St, s = up3 σ2 3 0 3 x3 := ⟨_, rfl⟩
  have h := h σ3 e9
  have rb := fun Q9 z => rb Q9 (nm_n e9 z)
  have ok : okS σ3 := by rw [e9]; exact (ok_n ok (by decide))
  have fr : Fr (mF [] [] [(3, [1, 2, 3, 7, 9])] []) σ σ3 := by rw [e9]; exact (Fr.up fr (mF_C (List.mem_of_getElem? (i := 0) rfl) rfl))
  obtain ⟨σ4, e9⟩ : ∃ s : St, s = up3 σ3 3 0 7 0 := ⟨_, rfl⟩
  have h := h σ4 e9
  have rb := fun Q9 z => rb Q9 (nm_n e9 z)
  have ok : okS σ4 := by rw [e9]; exact (ok_n ok (by decide))
  have fr : Fr (mF [] [] [(3, [1, 2, 3, 7, 9])] []) σ σ4 := by rw [e9]; exact (Fr.up fr (mF_C (List.mem_of_getElem? (i := 0) rfl) rfl))
  obtain ⟨σ5, e9⟩ : ∃ s : St, s = up3 σ4 3 0 9 0 := ⟨_, rfl⟩
  have h := h σ5 e9
  have rb := fun Q9 z => rb Q9 (nm_n e9 z)
  have ok : okS σ5 := by rw [e9]; exact (ok_n ok (by decide))
  have fr : Fr (mF [] [] [(3, [1, 2, 3, 7, 9])] []) σ σ5 := by rw [e9]; exact (Fr.up fr (mF_C (List.mem_of_getElem? (i := 0) rfl) rfl))
  exact ⟨σ5, h, ok, fr, fun Q9 hq => rb Q9 hq⟩
/-! WebHost$Hops.find(I)I -/
set_option maxHeartbeats 4000000 in
theorem e3_find_L2 {σ : St} {x1 : Int32} {Q : Int32 → Prop} {K20 : Int32 → Prop} {K28 : Prop} (ok : okS σ) :
    ∀ (n : Nat) {x2 : Int32}, w3_find_L2 σ x1 Q K20 K28 n x2 → (∃ (x2' : Int32), K20 x2' ∧ ∀ (Q9 : Int32 → Prop) (K9_20 : Int32 → Prop) (K9_28 : Prop), K9_20 x2' → w3_find_L2 σ x1 Q9 K9_20 K9_28 n x2) ∨ (K28 ∧ ∀ (Q9 : Int32 → Prop) (K9_20 : Int32 → Prop) (K9_28 : Prop), K9_28 → w3_find_L2 σ x1 Q9 K9_20 K9_28 n x2) := by
  intro n
  induction n with
  | zero =>
    intro x2 h
    exact False.elim h
  | succ n ih =>
    intro x2 h
    have rb : ∀ (Q9 : Int32 → Prop) (K9_20 : Int32 → Prop) (K9_28 : Prop), w3_find_L2 σ x1 Q9 K9_20 K9_28 (n + 1) x2 → w3_find_L2 σ x1 Q9 K9_20 K9_28 (n + 1) x2 := fun _ _ _ z => z
    by_cases hc : (σ 3 0 7) ≤ x2
    · have h := h.1 hc
      have rb := fun Q9 K9_20 K9_28 z => rb Q9 K9_20 K9_28 (br_t hc z)
      exact (Or.inr ⟨h, fun Q9 K9_20 K9_28 hq => rb Q9 K9_20 K9_28 hq⟩)
    have h := h.2 hc
    have rb := fun Q9 K9_20 K9_28 z => rb Q9 K9_20 K9_28 (br_f hc z)
    obtain ⟨hc, h⟩ := h
    have rb := fun Q9 K9_20 K9_28 z => rb Q9 K9_20 K9_28 (And.intro hc z)
    by_cases hc : (σ 28 0 x2.toNatClampNeg) = x1
    · have h := h.2 hc
      have rb := fun Q9 K9_20 K9_28 z => rb Q9 K9_20 K9_28 (br_u hc z)
      exact (Or.inl ⟨x2, h, fun Q9 K9_20 K9_28 hq => rb Q9 K9_20 K9_28 hq⟩)
    have h := h.1 hc
    have rb := fun Q9 K9_20 K9_28 z => rb Q9 K9_20 K9_28 (br_v hc z)
    rcases ih h with ⟨x2, h, rc⟩ | ⟨h, rc⟩
    · exact (Or.inl ⟨x2, h, fun Q9 K9_20 K9_28 hq => rb Q9 K9_20 K9_28 (rc Q9 K9_20 K9_28 hq)⟩)
    · exact (Or.inr ⟨h, fun Q9 K9_20 K9_28 hq => rb Q9 K9_20 K9_28 (rc Q9 K9_20 K9_28 hq)⟩)
set_option maxHeartbeats 4000000 in
theorem e3_find {σ : St} {x1 : Int32} {Q : Int32 → Prop} (ok : okS σ) (h : w3_find σ x1 Q) : (∃ r : Int32, Q r ∧ ∀ (Q9 : Int32 → Prop), Q9 r → w3_find σ x1 Q9) := by
  have rb : ∀ (Q9 : Int32 → Prop), w3_find σ x1 Q9 → w3_find σ x1 Q9 := fun _ z => z
  obtain ⟨n9, h⟩ := h
  rcases e3_find_L2 ok n9 h with ⟨x2_2, h, rc⟩ | ⟨h, rc⟩
  · have rb := fun Q9 z => rb Q9 (Exists.intro n9 (rc _ _ _ z))
    exact ⟨x2_2, h, fun Q9 hq => rb Q9 hq⟩
  · have rb := fun Q9 z => rb Q9 (Exists.intro n9 (rc _ _ _ z))
    exact ⟨(-1), h, fun Q9 hq => rb Q9 hq⟩
/-! WebHost$Hops.oldest()I -/
set_option maxHeartbeats 4000000 in
theorem e3_oldest_L4 {σ : St} {Q : Int32 → Prop} {K35 : Int32 → Prop} (ok : okS σ) :
    ∀ (n : Nat) {x1 : Int32} {x2 : Int32}, w3_oldest_L4 σ Q K35 n x1 x2 → (∃ (x1' : Int32), K35 x1' ∧ ∀ (Q9 : Int32 → Prop) (K9_35 : Int32 → Prop), K9_35 x1' → w3_oldest_L4 σ Q9 K9_35 n x1 x2) := by
  intro n
  induction n with
  | zero =>
    intro x1 x2 h
    exact False.elim h
  | succ n ih =>
    intro x1 x2 h
    have rb : ∀ (Q9 : Int32 → Prop) (K9_35 : Int32 → Prop), w3_oldest_L4 σ Q9 K9_35 (n + 1) x1 x2 → w3_oldest_L4 σ Q9 K9_35 (n + 1) x1 x2 := fun _ _ z => z
    by_cases hc : (σ 3 0 7) ≤ x2
    · have h := h.1 hc
      have rb := fun Q9 K9_35 z => rb Q9 K9_35 (br_t hc z)
      exact ⟨x1, h, fun Q9 K9_35 hq => rb Q9 K9_35 hq⟩
    have h := h.2 hc
    have rb := fun Q9 K9_35 z => rb Q9 K9_35 (br_f hc z)
    obtain ⟨hc, h⟩ := h
    have rb := fun Q9 K9_35 z => rb Q9 K9_35 (And.intro hc z)
    obtain ⟨hc, h⟩ := h
    have rb := fun Q9 K9_35 z => rb Q9 K9_35 (And.intro hc z)
    by_cases hc : (σ 29 0 x1.toNatClampNeg) ≤ (σ 29 0 x2.toNatClampNeg)
    · have h := h.1 hc
      have rb := fun Q9 K9_35 z => rb Q9 K9_35 (br_t hc z)
      rcases ih h with ⟨x1, h, rc⟩
      · exact ⟨x1, h, fun Q9 K9_35 hq => rb Q9 K9_35 (rc Q9 K9_35 hq)⟩
    have h := h.2 hc
    have rb := fun Q9 K9_35 z => rb Q9 K9_35 (br_f hc z)
    rcases ih h with ⟨x1, h, rc⟩
    · exact ⟨x1, h, fun Q9 K9_35 hq => rb Q9 K9_35 (rc Q9 K9_35 hq)⟩
set_option maxHeartbeats 4000000 in
theorem e3_oldest {σ : St} {Q : Int32 → Prop} (ok : okS σ) (h : w3_oldest σ Q) : (∃ r : Int32, Q r ∧ ∀ (Q9 : Int32 → Prop), Q9 r → w3_oldest σ Q9) := by
  have rb : ∀ (Q9 : Int32 → Prop), w3_oldest σ Q9 → w3_oldest σ Q9 := fun _ z => z
  obtain ⟨n9, h⟩ := h
  rcases e3_oldest_L4 ok n9 h with ⟨x1_2, h, rc⟩
  · have rb := fun Q9 z => rb Q9 (Exists.intro n9 (rc _ _ z))
    exact ⟨x1_2, h, fun Q9 hq => rb Q9 hq⟩
/-! WebHost$Hops.remove(I)V -/
set_option maxHeartbeats 4000000 in
theorem e3_remove_L9 {o2 : Nat} {Q : St → Prop} {K39 : St → Prop} (ho2 : o2 < 8) :
    ∀ (n : Nat) {σ : St} {x3 : Int32} (ok : okS σ), w3_remove_L9 o2 Q K39 n σ x3 → (∃ (σ' : St), K39 σ' ∧ okS σ' ∧ Fr (mF [31] [] [] []) σ σ' ∧ ∀ (Q9 : St → Prop) (K9_39 : St → Prop), K9_39 σ' → w3_remove_L9 o2 Q9 K9_39 n σ x3) := by
  intro n
  induction n with
  | zero =>
    intro σ x3 ok h
    exact False.elim h
  | succ n ih =>
    intro σ x3 ok h
    have fr : Fr (mF [31] [] [] []) σ σ := Fr.rf
    have rb : ∀ (Q9 : St → Prop) (K9_39 : St → Prop), w3_remove_L9 o2 Q9 K9_39 (n + 1) σ x3 → w3_remove_L9 o2 Q9 K9_39 (n + 1) σ x3 := fun _ _ z => z
    by_cases hc : (σ 3 0 9) ≤ (x3 + 1)
    · have h := h.1 hc
      have rb := fun Q9 K9_39 z => rb Q9 K9_39 (br_t hc z)
      exact ⟨σ, h, ok, fr, fun Q9 K9_39 hq => rb Q9 K9_39 hq⟩
    have h := h.2 hc
    have rb := fun Q9 K9_39 z => rb Q9 K9_39 (br_f hc z)
    obtain ⟨hc, h⟩ := h
    have rb := fun Q9 K9_39 z => rb Q9 K9_39 (And.intro hc z)
    obtain ⟨hq2, h⟩ := h
    have rb := fun Q9 K9_39 z => rb Q9 K9_39 (And.intro hq2 z)
    obtain ⟨hc, h⟩ := h
    have rb := fun Q9 K9_39 z => rb Q9 K9_39 (And.intro hc z)
    obtain ⟨σ3, e9⟩ : ∃ s : St, s = up3 σ 31 0 x3.toNatClampNeg (nI ((σ 31 0 (x3 + 1).toNatClampNeg).toNatClampNeg)) := ⟨_, rfl⟩
    have h := h σ3 e9
    have rb := fun Q9 K9_39 z => rb Q9 K9_39 (nm_n e9 z)
    have ok : okS σ3 := by rw [e9]; exact (ok_n ok (tyk_a 31 0 (by decide) (by decide) _))
    have fr : Fr (mF [31] [] [] []) σ σ3 := by rw [e9]; exact (Fr.up fr (mF_A rfl))
    rcases ih ok h with ⟨σ', h, ok, fr9, rc⟩
    · exact ⟨σ', h, ok, fr.tr fr9, fun Q9 K9_39 hq => rb Q9 K9_39 (rc Q9 K9_39 hq)⟩
set_option maxHeartbeats 4000000 in
theorem e3_remove {σ : St} {x1 : Int32} {Q : St → Prop} (ok : okS σ) (h : w3_remove σ x1 Q) : (∃ (σ' : St), Q σ' ∧ okS σ' ∧ Fr (mF [31] [] [(3, [9])] []) σ σ' ∧ ∀ (Q9 : St → Prop), Q9 σ' → w3_remove σ x1 Q9) := by
  have fr : Fr (mF [31] [] [(3, [9])] []) σ σ := Fr.rf
  have rb : ∀ (Q9 : St → Prop), w3_remove σ x1 Q9 → w3_remove σ x1 Q9 := fun _ z => z
  obtain ⟨hc, h⟩ := h
  have rb := fun Q9 z => rb Q9 (And.intro hc z)
  obtain ⟨hq1, h⟩ := h
  have rb := fun Q9 z => rb Q9 (And.intro hq1 z)
  obtain ⟨n9, h⟩ := h
  rcases e3_remove_L9 hq1 n9 ok h with ⟨σ5, h, ok, fr9, rc⟩
  · have rb := fun Q9 z => rb Q9 (Exists.intro n9 (rc _ _ z))
    have fr := fr.tr (fr9.sub (mF_sub rfl sub_nil rfl sud_nil))
    obtain ⟨σ6, e9⟩ : ∃ s : St, s = up3 σ5 3 0 9 ((σ5 3 0 9) - 1) := ⟨_, rfl⟩
    have h := h σ6 e9
    have rb := fun Q9 z => rb Q9 (nm_n e9 z)
    have ok : okS σ6 := by rw [e9]; exact (ok_n ok (by decide))
    have fr : Fr (mF [31] [] [(3, [9])] []) σ σ6 := by rw [e9]; exact (Fr.up fr (mF_C (List.mem_of_getElem? (i := 0) rfl) rfl))
    obtain ⟨hc, h⟩ := h
    have rb := fun Q9 z => rb Q9 (And.intro hc z)
    obtain ⟨σ7, e9⟩ : ∃ s : St, s = up3 σ6 31 0 (σ6 3 0 9).toNatClampNeg (nI ((σ 31 0 x1.toNatClampNeg).toNatClampNeg)) := ⟨_, rfl⟩
    have h := h σ7 e9
    have rb := fun Q9 z => rb Q9 (nm_n e9 z)
    have ok : okS σ7 := by rw [e9]; exact (ok_n ok (tyk_a 31 0 (by decide) (by decide) _))
    have fr : Fr (mF [31] [] [(3, [9])] []) σ σ7 := by rw [e9]; exact (Fr.up fr (mF_A rfl))
    exact ⟨σ7, h, ok, fr, fun Q9 hq => rb Q9 hq⟩
/-! WebHost$Waiting.due()I -/
set_option maxHeartbeats 4000000 in
theorem e4_due {σ : St} {o0 : Nat} {Q : Int32 → Prop} (ho0 : o0 < 8) (ok : okS σ) (h : w4_due σ o0 Q) : (∃ r : Int32, Q r ∧ ∀ (Q9 : Int32 → Prop), Q9 r → w4_due σ o0 Q9) := by
  have rb : ∀ (Q9 : Int32 → Prop), w4_due σ o0 Q9 → w4_due σ o0 Q9 := fun _ z => z
  exact ⟨((σ 4 o0 1) + (1000 * (σ 4 o0 2))), h, fun Q9 hq => rb Q9 hq⟩
/-! WebHost$Packets.begin(I)V -/
set_option maxHeartbeats 4000000 in
theorem e5_begin {σ : St} {x1 : Int32} {Q : St → Prop} (ok : okS σ) (h : w5_begin σ x1 Q) : (∃ (σ' : St), Q σ' ∧ okS σ' ∧ Fr (mF [] [] [(5, [1, 2])] []) σ σ' ∧ ∀ (Q9 : St → Prop), Q9 σ' → w5_begin σ x1 Q9) := by
  have fr : Fr (mF [] [] [(5, [1, 2])] []) σ σ := Fr.rf
  have rb : ∀ (Q9 : St → Prop), w5_begin σ x1 Q9 → w5_begin σ x1 Q9 := fun _ z => z
  obtain ⟨σ1, e9⟩ : ∃ s : St, s = up3 σ 5 0 1 x1 := ⟨_, rfl⟩
  have h := h σ1 e9
  have rb := fun Q9 z => rb Q9 (nm_n e9 z)
  have ok : okS σ1 := by rw [e9]; exact (ok_n ok (by decide))
  have fr : Fr (mF [] [] [(5, [1, 2])] []) σ σ1 := by rw [e9]; exact (Fr.up fr (mF_C (List.mem_of_getElem? (i := 0) rfl) rfl))
  obtain ⟨σ2, e9⟩ : ∃ s : St, s = up3 σ1 5 0 2 0 := ⟨_, rfl⟩
  have h := h σ2 e9
  have rb := fun Q9 z => rb Q9 (nm_n e9 z)
  have ok : okS σ2 := by rw [e9]; exact (ok_n ok (by decide))
  have fr : Fr (mF [] [] [(5, [1, 2])] []) σ σ2 := by rw [e9]; exact (Fr.up fr (mF_C (List.mem_of_getElem? (i := 0) rfl) rfl))
  exact ⟨σ2, h, ok, fr, fun Q9 hq => rb Q9 hq⟩
/-! WebHost$Fragments.begin()V -/
set_option maxHeartbeats 4000000 in
theorem e6_begin {σ : St} {Q : St → Prop} (ok : okS σ) (h : w6_begin σ Q) : (∃ (σ' : St), Q σ' ∧ okS σ' ∧ Fr (mF [] [] [(6, [1, 2])] []) σ σ' ∧ ∀ (Q9 : St → Prop), Q9 σ' → w6_begin σ Q9) := by
  have fr : Fr (mF [] [] [(6, [1, 2])] []) σ σ := Fr.rf
  have rb : ∀ (Q9 : St → Prop), w6_begin σ Q9 → w6_begin σ Q9 := fun _ z => z
  obtain ⟨σ1, e9⟩ : ∃ s : St, s = up3 σ 6 0 1 0 := ⟨_, rfl⟩
  have h := h σ1 e9
  have rb := fun Q9 z => rb Q9 (nm_n e9 z)
  have ok : okS σ1 := by rw [e9]; exact (ok_n ok (by decide))
  have fr : Fr (mF [] [] [(6, [1, 2])] []) σ σ1 := by rw [e9]; exact (Fr.up fr (mF_C (List.mem_of_getElem? (i := 0) rfl) rfl))
  obtain ⟨σ2, e9⟩ : ∃ s : St, s = up3 σ1 6 0 2 0 := ⟨_, rfl⟩
  have h := h σ2 e9
  have rb := fun Q9 z => rb Q9 (nm_n e9 z)
  have ok : okS σ2 := by rw [e9]; exact (ok_n ok (by decide))
  have fr : Fr (mF [] [] [(6, [1, 2])] []) σ σ2 := by rw [e9]; exact (Fr.up fr (mF_C (List.mem_of_getElem? (i := 0) rfl) rfl))
  exact ⟨σ2, h, ok, fr, fun Q9 hq => rb Q9 hq⟩
/-! WebHost$Fragments.due()I -/
set_option maxHeartbeats 4000000 in
theorem e6_due {σ : St} {Q : Int32 → Prop} (ok : okS σ) (h : w6_due σ Q) : (∃ r : Int32, Q r ∧ ∀ (Q9 : Int32 → Prop), Q9 r → w6_due σ Q9) := by
  have rb : ∀ (Q9 : Int32 → Prop), w6_due σ Q9 → w6_due σ Q9 := fun _ z => z
  by_cases hc : (σ 6 0 1) = 0
  · have h := h.2 hc
    have rb := fun Q9 z => rb Q9 (br_u hc z)
    exact ⟨2147483647, h, fun Q9 hq => rb Q9 hq⟩
  have h := h.1 hc
  have rb := fun Q9 z => rb Q9 (br_v hc z)
  obtain ⟨hc, h⟩ := h
  have rb := fun Q9 z => rb Q9 (And.intro hc z)
  obtain ⟨hq1, h⟩ := h
  have rb := fun Q9 z => rb Q9 (And.intro hq1 z)
  exact ⟨((σ 7 ((σ 37 0 (0 : Int32).toNatClampNeg).toNatClampNeg) 3) + 15000), h, fun Q9 hq => rb Q9 hq⟩
/-! WebHost$Fragments.find(III)I -/
set_option maxHeartbeats 4000000 in
theorem e6_find_L3 {σ : St} {x1 : Int32} {x2 : Int32} {x3 : Int32} {Q : Int32 → Prop} {K60 : Int32 → Prop} (ok : okS σ) :
    ∀ (n : Nat) {x4 : Int32}, w6_find_L3 σ x1 x2 x3 Q K60 n x4 → (∃ (x4' : Int32), K60 x4' ∧ ∀ (Q9 : Int32 → Prop) (K9_60 : Int32 → Prop), K9_60 x4' → w6_find_L3 σ x1 x2 x3 Q9 K9_60 n x4) := by
  intro n
  induction n with
  | zero =>
    intro x4 h
    exact False.elim h
  | succ n ih =>
    intro x4 h
    have rb : ∀ (Q9 : Int32 → Prop) (K9_60 : Int32 → Prop), w6_find_L3 σ x1 x2 x3 Q9 K9_60 (n + 1) x4 → w6_find_L3 σ x1 x2 x3 Q9 K9_60 (n + 1) x4 := fun _ _ z => z
    by_cases hc : (σ 6 0 1) ≤ x4
    · have h := h.1 hc
      have rb := fun Q9 K9_60 z => rb Q9 K9_60 (br_t hc z)
      exact ⟨x4, h, fun Q9 K9_60 hq => rb Q9 K9_60 hq⟩
    have h := h.2 hc
    have rb := fun Q9 K9_60 z => rb Q9 K9_60 (br_f hc z)
    obtain ⟨hc, h⟩ := h
    have rb := fun Q9 K9_60 z => rb Q9 K9_60 (And.intro hc z)
    obtain ⟨hq1, h⟩ := h
    have rb := fun Q9 K9_60 z => rb Q9 K9_60 (And.intro hq1 z)
    by_cases hc : (σ 7 ((σ 37 0 x4.toNatClampNeg).toNatClampNeg) 0) = x1
    · have h := h.2 hc
      have rb := fun Q9 K9_60 z => rb Q9 K9_60 (br_u hc z)
      obtain ⟨hc, h⟩ := h
      have rb := fun Q9 K9_60 z => rb Q9 K9_60 (And.intro hc z)
      obtain ⟨hq2, h⟩ := h
      have rb := fun Q9 K9_60 z => rb Q9 K9_60 (And.intro hq2 z)
      by_cases hc : (σ 7 ((σ 37 0 x4.toNatClampNeg).toNatClampNeg) 1) = x2
      · have h := h.2 hc
        have rb := fun Q9 K9_60 z => rb Q9 K9_60 (br_u hc z)
        obtain ⟨hc, h⟩ := h
        have rb := fun Q9 K9_60 z => rb Q9 K9_60 (And.intro hc z)
        obtain ⟨hq3, h⟩ := h
        have rb := fun Q9 K9_60 z => rb Q9 K9_60 (And.intro hq3 z)
        by_cases hc : (σ 7 ((σ 37 0 x4.toNatClampNeg).toNatClampNeg) 2) = x3
        · have h := h.1 hc
          have rb := fun Q9 K9_60 z => rb Q9 K9_60 (br_t hc z)
          exact ⟨x4, h, fun Q9 K9_60 hq => rb Q9 K9_60 hq⟩
        have h := h.2 hc
        have rb := fun Q9 K9_60 z => rb Q9 K9_60 (br_f hc z)
        rcases ih h with ⟨x4, h, rc⟩
        · exact ⟨x4, h, fun Q9 K9_60 hq => rb Q9 K9_60 (rc Q9 K9_60 hq)⟩
      have h := h.1 hc
      have rb := fun Q9 K9_60 z => rb Q9 K9_60 (br_v hc z)
      rcases ih h with ⟨x4, h, rc⟩
      · exact ⟨x4, h, fun Q9 K9_60 hq => rb Q9 K9_60 (rc Q9 K9_60 hq)⟩
    have h := h.1 hc
    have rb := fun Q9 K9_60 z => rb Q9 K9_60 (br_v hc z)
    rcases ih h with ⟨x4, h, rc⟩
    · exact ⟨x4, h, fun Q9 K9_60 hq => rb Q9 K9_60 (rc Q9 K9_60 hq)⟩
set_option maxHeartbeats 4000000 in
theorem e6_find {σ : St} {x1 : Int32} {x2 : Int32} {x3 : Int32} {Q : Int32 → Prop} (ok : okS σ) (h : w6_find σ x1 x2 x3 Q) : (∃ r : Int32, Q r ∧ ∀ (Q9 : Int32 → Prop), Q9 r → w6_find σ x1 x2 x3 Q9) := by
  have rb : ∀ (Q9 : Int32 → Prop), w6_find σ x1 x2 x3 Q9 → w6_find σ x1 x2 x3 Q9 := fun _ z => z
  obtain ⟨n9, h⟩ := h
  rcases e6_find_L3 ok n9 h with ⟨x4_5, h, rc⟩
  · have rb := fun Q9 z => rb Q9 (Exists.intro n9 (rc _ _ z))
    exact ⟨x4_5, h, fun Q9 hq => rb Q9 hq⟩
/-! WebHost$Fragments.remove(I)V -/
set_option maxHeartbeats 4000000 in
theorem e6_remove_L9 {o2 : Nat} {Q : St → Prop} {K39 : St → Prop} (ho2 : o2 < 4) :
    ∀ (n : Nat) {σ : St} {x3 : Int32} (ok : okS σ), w6_remove_L9 o2 Q K39 n σ x3 → (∃ (σ' : St), K39 σ' ∧ okS σ' ∧ Fr (mF [37] [] [] []) σ σ' ∧ ∀ (Q9 : St → Prop) (K9_39 : St → Prop), K9_39 σ' → w6_remove_L9 o2 Q9 K9_39 n σ x3) := by
  intro n
  induction n with
  | zero =>
    intro σ x3 ok h
    exact False.elim h
  | succ n ih =>
    intro σ x3 ok h
    have fr : Fr (mF [37] [] [] []) σ σ := Fr.rf
    have rb : ∀ (Q9 : St → Prop) (K9_39 : St → Prop), w6_remove_L9 o2 Q9 K9_39 (n + 1) σ x3 → w6_remove_L9 o2 Q9 K9_39 (n + 1) σ x3 := fun _ _ z => z
    by_cases hc : (σ 6 0 1) ≤ (x3 + 1)
    · have h := h.1 hc
      have rb := fun Q9 K9_39 z => rb Q9 K9_39 (br_t hc z)
      exact ⟨σ, h, ok, fr, fun Q9 K9_39 hq => rb Q9 K9_39 hq⟩
    have h := h.2 hc
    have rb := fun Q9 K9_39 z => rb Q9 K9_39 (br_f hc z)
    obtain ⟨hc, h⟩ := h
    have rb := fun Q9 K9_39 z => rb Q9 K9_39 (And.intro hc z)
    obtain ⟨hq2, h⟩ := h
    have rb := fun Q9 K9_39 z => rb Q9 K9_39 (And.intro hq2 z)
    obtain ⟨hc, h⟩ := h
    have rb := fun Q9 K9_39 z => rb Q9 K9_39 (And.intro hc z)
    obtain ⟨σ3, e9⟩ : ∃ s : St, s = up3 σ 37 0 x3.toNatClampNeg (nI ((σ 37 0 (x3 + 1).toNatClampNeg).toNatClampNeg)) := ⟨_, rfl⟩
    have h := h σ3 e9
    have rb := fun Q9 K9_39 z => rb Q9 K9_39 (nm_n e9 z)
    have ok : okS σ3 := by rw [e9]; exact (ok_n ok (tyk_a 37 0 (by decide) (by decide) _))
    have fr : Fr (mF [37] [] [] []) σ σ3 := by rw [e9]; exact (Fr.up fr (mF_A rfl))
    rcases ih ok h with ⟨σ', h, ok, fr9, rc⟩
    · exact ⟨σ', h, ok, fr.tr fr9, fun Q9 K9_39 hq => rb Q9 K9_39 (rc Q9 K9_39 hq)⟩
set_option maxHeartbeats 4000000 in
theorem e6_remove {σ : St} {x1 : Int32} {Q : St → Prop} (ok : okS σ) (h : w6_remove σ x1 Q) : (∃ (σ' : St), Q σ' ∧ okS σ' ∧ Fr (mF [37] [] [(6, [1])] []) σ σ' ∧ ∀ (Q9 : St → Prop), Q9 σ' → w6_remove σ x1 Q9) := by
  have fr : Fr (mF [37] [] [(6, [1])] []) σ σ := Fr.rf
  have rb : ∀ (Q9 : St → Prop), w6_remove σ x1 Q9 → w6_remove σ x1 Q9 := fun _ z => z
  obtain ⟨hc, h⟩ := h
  have rb := fun Q9 z => rb Q9 (And.intro hc z)
  obtain ⟨hq1, h⟩ := h
  have rb := fun Q9 z => rb Q9 (And.intro hq1 z)
  obtain ⟨n9, h⟩ := h
  rcases e6_remove_L9 hq1 n9 ok h with ⟨σ5, h, ok, fr9, rc⟩
  · have rb := fun Q9 z => rb Q9 (Exists.intro n9 (rc _ _ z))
    have fr := fr.tr (fr9.sub (mF_sub rfl sub_nil rfl sud_nil))
    obtain ⟨σ6, e9⟩ : ∃ s : St, s = up3 σ5 6 0 1 ((σ5 6 0 1) - 1) := ⟨_, rfl⟩
    have h := h σ6 e9
    have rb := fun Q9 z => rb Q9 (nm_n e9 z)
    have ok : okS σ6 := by rw [e9]; exact (ok_n ok (by decide))
    have fr : Fr (mF [37] [] [(6, [1])] []) σ σ6 := by rw [e9]; exact (Fr.up fr (mF_C (List.mem_of_getElem? (i := 0) rfl) rfl))
    obtain ⟨hc, h⟩ := h
    have rb := fun Q9 z => rb Q9 (And.intro hc z)
    obtain ⟨σ7, e9⟩ : ∃ s : St, s = up3 σ6 37 0 (σ6 6 0 1).toNatClampNeg (nI ((σ 37 0 x1.toNatClampNeg).toNatClampNeg)) := ⟨_, rfl⟩
    have h := h σ7 e9
    have rb := fun Q9 z => rb Q9 (nm_n e9 z)
    have ok : okS σ7 := by rw [e9]; exact (ok_n ok (tyk_a 37 0 (by decide) (by decide) _))
    have fr : Fr (mF [37] [] [(6, [1])] []) σ σ7 := by rw [e9]; exact (Fr.up fr (mF_A rfl))
    exact ⟨σ7, h, ok, fr, fun Q9 hq => rb Q9 hq⟩
/-! WebHost$Making.add([BIIIZ)Z -/
set_option maxHeartbeats 4000000 in
theorem e7_add_L73 {o0 : Nat} {k1 : Nat} {i1 : Nat} {x2 : Int32} {x3 : Int32} {x4 : Int32} {x6 : Int32} {Q : Int32 → St → Prop} {K123 : St → Prop} (ho0 : o0 < 4) (hk1 : abc k1 i1 = true) :
    ∀ (n : Nat) {σ : St} {x7 : Int32} (ok : okS σ), w7_add_L73 o0 k1 i1 x2 x3 x4 x6 Q K123 n σ x7 → (∃ (σ' : St), K123 σ' ∧ okS σ' ∧ Fr (mF [] [(38, o0), (39, o0)] [] []) σ σ' ∧ ∀ (Q9 : Int32 → St → Prop) (K9_123 : St → Prop), K9_123 σ' → w7_add_L73 o0 k1 i1 x2 x3 x4 x6 Q9 K9_123 n σ x7) := by
  intro n
  induction n with
  | zero =>
    intro σ x7 ok h
    exact False.elim h
  | succ n ih =>
    intro σ x7 ok h
    have fr : Fr (mF [] [(38, o0), (39, o0)] [] []) σ σ := Fr.rf
    have rb : ∀ (Q9 : Int32 → St → Prop) (K9_123 : St → Prop), w7_add_L73 o0 k1 i1 x2 x3 x4 x6 Q9 K9_123 (n + 1) σ x7 → w7_add_L73 o0 k1 i1 x2 x3 x4 x6 Q9 K9_123 (n + 1) σ x7 := fun _ _ z => z
    by_cases hc : x4 ≤ x7
    · have h := h.1 hc
      have rb := fun Q9 K9_123 z => rb Q9 K9_123 (br_t hc z)
      exact ⟨σ, h, ok, fr, fun Q9 K9_123 hq => rb Q9 K9_123 hq⟩
    have h := h.2 hc
    have rb := fun Q9 K9_123 z => rb Q9 K9_123 (br_f hc z)
    obtain ⟨hc, h⟩ := h
    have rb := fun Q9 K9_123 z => rb Q9 K9_123 (And.intro hc z)
    have h := h ((ok 39 o0 _).1 (tyk_a 39 1 (by decide) (by decide) _))
    have rb := fun Q9 K9_123 z => rb Q9 K9_123 (im_n z)
    by_cases hc : (σ 39 o0 (x3 + x7).toNatClampNeg) = 0
    · have h := h.2 hc
      have rb := fun Q9 K9_123 z => rb Q9 K9_123 (br_u hc z)
      obtain ⟨hc, h⟩ := h
      have rb := fun Q9 K9_123 z => rb Q9 K9_123 (And.intro hc z)
      have h := h ((ok k1 i1 _).2 ((ab_spec (abc_spec hk1).1).2.2.2.2.2.2.2 _))
      have rb := fun Q9 K9_123 z => rb Q9 K9_123 (im_n z)
      obtain ⟨hc, h⟩ := h
      have rb := fun Q9 K9_123 z => rb Q9 K9_123 (And.intro hc z)
      obtain ⟨σ2, e9⟩ : ∃ s : St, s = up3 σ 38 o0 (x3 + x7).toNatClampNeg (σ k1 i1 (x2 + x7).toNatClampNeg).toInt8.toInt32 := ⟨_, rfl⟩
      have h := h σ2 e9
      have rb := fun Q9 K9_123 z => rb Q9 K9_123 (nm_n e9 z)
      have ok : okS σ2 := by rw [e9]; exact (ok_b ok (tyk_a 38 2 (by decide) (by decide) _))
      have fr : Fr (mF [] [(38, o0), (39, o0)] [] []) σ σ2 := by rw [e9]; exact (Fr.up fr (mF_B (List.mem_of_getElem? (i := 0) rfl)))
      obtain ⟨hc, h⟩ := h
      have rb := fun Q9 K9_123 z => rb Q9 K9_123 (And.intro hc z)
      obtain ⟨σ3, e9⟩ : ∃ s : St, s = up3 σ2 39 o0 (x3 + x7).toNatClampNeg 1 := ⟨_, rfl⟩
      have h := h σ3 e9
      have rb := fun Q9 K9_123 z => rb Q9 K9_123 (nm_n e9 z)
      have ok : okS σ3 := by rw [e9]; exact (ok_z ok (tyk_a 39 1 (by decide) (by decide) _) (Or.inr rfl))
      have fr : Fr (mF [] [(38, o0), (39, o0)] [] []) σ σ3 := by rw [e9]; exact (Fr.up fr (mF_B (List.mem_of_getElem? (i := 1) rfl)))
      rcases ih ok h with ⟨σ', h, ok, fr9, rc⟩
      · exact ⟨σ', h, ok, fr.tr fr9, fun Q9 K9_123 hq => rb Q9 K9_123 (rc Q9 K9_123 hq)⟩
    have h := h.1 hc
    have rb := fun Q9 K9_123 z => rb Q9 K9_123 (br_v hc z)
    obtain ⟨hc, h⟩ := h
    have rb := fun Q9 K9_123 z => rb Q9 K9_123 (And.intro hc z)
    obtain ⟨σ1, e9⟩ : ∃ s : St, s = up3 σ 39 o0 (x3 + x7).toNatClampNeg 1 := ⟨_, rfl⟩
    have h := h σ1 e9
    have rb := fun Q9 K9_123 z => rb Q9 K9_123 (nm_n e9 z)
    have ok : okS σ1 := by rw [e9]; exact (ok_z ok (tyk_a 39 1 (by decide) (by decide) _) (Or.inr rfl))
    have fr : Fr (mF [] [(38, o0), (39, o0)] [] []) σ σ1 := by rw [e9]; exact (Fr.up fr (mF_B (List.mem_of_getElem? (i := 1) rfl)))
    rcases ih ok h with ⟨σ', h, ok, fr9, rc⟩
    · exact ⟨σ', h, ok, fr.tr fr9, fun Q9 K9_123 hq => rb Q9 K9_123 (rc Q9 K9_123 hq)⟩
set_option maxHeartbeats 4000000 in
theorem e7_add_J43 {σ : St} {o0 : Nat} {k1 : Nat} {i1 : Nat} {x2 : Int32} {x3 : Int32} {x4 : Int32} {x5 : Int32} {x6 : Int32} {Q : Int32 → St → Prop} (ho0 : o0 < 4) (hk1 : abc k1 i1 = true) (ok : okS σ) (h : w7_add_J43 σ o0 k1 i1 x2 x3 x4 x5 x6 Q) : (∃ (r : Int32) (σ' : St), Q r σ' ∧ okS σ' ∧ Fr (mF [] [(38, o0), (39, o0)] [] [(7, o0, [6, 7])]) σ σ' ∧ ∀ (Q9 : Int32 → St → Prop), Q9 r σ' → w7_add_J43 σ o0 k1 i1 x2 x3 x4 x5 x6 Q9) := by
  have fr : Fr (mF [] [(38, o0), (39, o0)] [] [(7, o0, [6, 7])]) σ σ := Fr.rf
  have rb : ∀ (Q9 : Int32 → St → Prop), w7_add_J43 σ o0 k1 i1 x2 x3 x4 x5 x6 Q9 → w7_add_J43 σ o0 k1 i1 x2 x3 x4 x5 x6 Q9 := fun _ z => z
  by_cases hc : x5 = 0
  · have h := h.1 hc
    have rb := fun Q9 z => rb Q9 (br_t hc z)
    by_cases hc : x5 = 0
    · have h := h.1 hc
      have rb := fun Q9 z => rb Q9 (br_t hc z)
      obtain ⟨n9, h⟩ := h
      rcases e7_add_L73 ho0 hk1 n9 ok h with ⟨σ5, h, ok, fr9, rc⟩
      · have rb := fun Q9 z => rb Q9 (Exists.intro n9 (rc _ _ z))
        have fr := fr.tr (fr9.sub (mF_sub rfl (sub_c (Or.inr (List.mem_of_getElem? (i := 0) rfl)) (sub_c (Or.inr (List.mem_of_getElem? (i := 1) rfl)) sub_nil)) rfl sud_nil))
        obtain ⟨σ6, e9⟩ : ∃ s : St, s = up3 σ5 7 o0 6 (imax (σ5 7 o0 6) x6) := ⟨_, rfl⟩
        have h := h σ6 e9
        have rb := fun Q9 z => rb Q9 (nm_n e9 z)
        have ok : okS σ6 := by rw [e9]; exact (ok_n ok (by decide))
        have fr : Fr (mF [] [(38, o0), (39, o0)] [] [(7, o0, [6, 7])]) σ σ6 := by rw [e9]; exact (Fr.up fr (mF_D (List.mem_of_getElem? (i := 0) rfl) rfl))
        exact ⟨1, σ6, h, ok, fr, fun Q9 hq => rb Q9 hq⟩
    have h := h.2 hc
    have rb := fun Q9 z => rb Q9 (br_f hc z)
    obtain ⟨σ7, e9⟩ : ∃ s : St, s = up3 σ 7 o0 7 x6 := ⟨_, rfl⟩
    have h := h σ7 e9
    have rb := fun Q9 z => rb Q9 (nm_n e9 z)
    have ok : okS σ7 := by rw [e9]; exact (ok_n ok (by decide))
    have fr : Fr (mF [] [(38, o0), (39, o0)] [] [(7, o0, [6, 7])]) σ σ7 := by rw [e9]; exact (Fr.up fr (mF_D (List.mem_of_getElem? (i := 0) rfl) rfl))
    obtain ⟨n9, h⟩ := h
    rcases e7_add_L73 ho0 hk1 n9 ok h with ⟨σ9, h, ok, fr9, rc⟩
    · have rb := fun Q9 z => rb Q9 (Exists.intro n9 (rc _ _ z))
      have fr := fr.tr (fr9.sub (mF_sub rfl (sub_c (Or.inr (List.mem_of_getElem? (i := 0) rfl)) (sub_c (Or.inr (List.mem_of_getElem? (i := 1) rfl)) sub_nil)) rfl sud_nil))
      obtain ⟨σ10, e9⟩ : ∃ s : St, s = up3 σ9 7 o0 6 (imax (σ9 7 o0 6) x6) := ⟨_, rfl⟩
      have h := h σ10 e9
      have rb := fun Q9 z => rb Q9 (nm_n e9 z)
      have ok : okS σ10 := by rw [e9]; exact (ok_n ok (by decide))
      have fr : Fr (mF [] [(38, o0), (39, o0)] [] [(7, o0, [6, 7])]) σ σ10 := by rw [e9]; exact (Fr.up fr (mF_D (List.mem_of_getElem? (i := 0) rfl) rfl))
      exact ⟨1, σ10, h, ok, fr, fun Q9 hq => rb Q9 hq⟩
  have h := h.2 hc
  have rb := fun Q9 z => rb Q9 (br_f hc z)
  by_cases hc : (σ 7 o0 6) ≤ x6
  · have h := h.1 hc
    have rb := fun Q9 z => rb Q9 (br_t hc z)
    by_cases hc : x5 = 0
    · have h := h.1 hc
      have rb := fun Q9 z => rb Q9 (br_t hc z)
      obtain ⟨n9, h⟩ := h
      rcases e7_add_L73 ho0 hk1 n9 ok h with ⟨σ12, h, ok, fr9, rc⟩
      · have rb := fun Q9 z => rb Q9 (Exists.intro n9 (rc _ _ z))
        have fr := fr.tr (fr9.sub (mF_sub rfl (sub_c (Or.inr (List.mem_of_getElem? (i := 0) rfl)) (sub_c (Or.inr (List.mem_of_getElem? (i := 1) rfl)) sub_nil)) rfl sud_nil))
        obtain ⟨σ13, e9⟩ : ∃ s : St, s = up3 σ12 7 o0 6 (imax (σ12 7 o0 6) x6) := ⟨_, rfl⟩
        have h := h σ13 e9
        have rb := fun Q9 z => rb Q9 (nm_n e9 z)
        have ok : okS σ13 := by rw [e9]; exact (ok_n ok (by decide))
        have fr : Fr (mF [] [(38, o0), (39, o0)] [] [(7, o0, [6, 7])]) σ σ13 := by rw [e9]; exact (Fr.up fr (mF_D (List.mem_of_getElem? (i := 0) rfl) rfl))
        exact ⟨1, σ13, h, ok, fr, fun Q9 hq => rb Q9 hq⟩
    have h := h.2 hc
    have rb := fun Q9 z => rb Q9 (br_f hc z)
    obtain ⟨σ14, e9⟩ : ∃ s : St, s = up3 σ 7 o0 7 x6 := ⟨_, rfl⟩
    have h := h σ14 e9
    have rb := fun Q9 z => rb Q9 (nm_n e9 z)
    have ok : okS σ14 := by rw [e9]; exact (ok_n ok (by decide))
    have fr : Fr (mF [] [(38, o0), (39, o0)] [] [(7, o0, [6, 7])]) σ σ14 := by rw [e9]; exact (Fr.up fr (mF_D (List.mem_of_getElem? (i := 0) rfl) rfl))
    obtain ⟨n9, h⟩ := h
    rcases e7_add_L73 ho0 hk1 n9 ok h with ⟨σ16, h, ok, fr9, rc⟩
    · have rb := fun Q9 z => rb Q9 (Exists.intro n9 (rc _ _ z))
      have fr := fr.tr (fr9.sub (mF_sub rfl (sub_c (Or.inr (List.mem_of_getElem? (i := 0) rfl)) (sub_c (Or.inr (List.mem_of_getElem? (i := 1) rfl)) sub_nil)) rfl sud_nil))
      obtain ⟨σ17, e9⟩ : ∃ s : St, s = up3 σ16 7 o0 6 (imax (σ16 7 o0 6) x6) := ⟨_, rfl⟩
      have h := h σ17 e9
      have rb := fun Q9 z => rb Q9 (nm_n e9 z)
      have ok : okS σ17 := by rw [e9]; exact (ok_n ok (by decide))
      have fr : Fr (mF [] [(38, o0), (39, o0)] [] [(7, o0, [6, 7])]) σ σ17 := by rw [e9]; exact (Fr.up fr (mF_D (List.mem_of_getElem? (i := 0) rfl) rfl))
      exact ⟨1, σ17, h, ok, fr, fun Q9 hq => rb Q9 hq⟩
  have h := h.2 hc
  have rb := fun Q9 z => rb Q9 (br_f hc z)
  exact ⟨0, σ, h, ok, fr, fun Q9 hq => rb Q9 hq⟩
set_option maxHeartbeats 4000000 in
theorem e7_add {σ : St} {o0 : Nat} {k1 : Nat} {i1 : Nat} {x2 : Int32} {x3 : Int32} {x4 : Int32} {x5 : Int32} {Q : Int32 → St → Prop} (ho0 : o0 < 4) (hk1 : abc k1 i1 = true) (ok : okS σ) (h : w7_add σ o0 k1 i1 x2 x3 x4 x5 Q) : (∃ (r : Int32) (σ' : St), Q r σ' ∧ okS σ' ∧ Fr (mF [] [(38, o0), (39, o0)] [] [(7, o0, [6, 7])]) σ σ' ∧ ∀ (Q9 : Int32 → St → Prop), Q9 r σ' → w7_add σ o0 k1 i1 x2 x3 x4 x5 Q9) := by
  have fr : Fr (mF [] [(38, o0), (39, o0)] [] [(7, o0, [6, 7])]) σ σ := Fr.rf
  have rb : ∀ (Q9 : Int32 → St → Prop), w7_add σ o0 k1 i1 x2 x3 x4 x5 Q9 → w7_add σ o0 k1 i1 x2 x3 x4 x5 Q9 := fun _ z => z
  by_cases hc : x5 = 0
  · have h := h.1 hc
    have rb := fun Q9 z => rb Q9 (br_t hc z)
    by_cases hc : (σ 7 o0 7) < 0
    · have h := h.1 hc
      have rb := fun Q9 z => rb Q9 (br_t hc z)
      obtain ⟨r9, σ9, h, ok, fr9, rc⟩ := e7_add_J43 ho0 hk1 ok h
      exact ⟨r9, σ9, h, ok, fr.tr (fr9.sub (mF_sub rfl (sub_c (Or.inr (List.mem_of_getElem? (i := 0) rfl)) (sub_c (Or.inr (List.mem_of_getElem? (i := 1) rfl)) sub_nil)) rfl (sud_c (Or.inr ⟨_, List.mem_of_getElem? (i := 0) rfl, rfl⟩) sud_nil))), fun Q9 hq => rb Q9 (rc Q9 hq)⟩
    have h := h.2 hc
    have rb := fun Q9 z => rb Q9 (br_f hc z)
    by_cases hc : (σ 7 o0 7) < (x3 + x4)
    · have h := h.1 hc
      have rb := fun Q9 z => rb Q9 (br_t hc z)
      exact ⟨0, σ, h, ok, fr, fun Q9 hq => rb Q9 hq⟩
    have h := h.2 hc
    have rb := fun Q9 z => rb Q9 (br_f hc z)
    obtain ⟨r9, σ9, h, ok, fr9, rc⟩ := e7_add_J43 ho0 hk1 ok h
    exact ⟨r9, σ9, h, ok, fr.tr (fr9.sub (mF_sub rfl (sub_c (Or.inr (List.mem_of_getElem? (i := 0) rfl)) (sub_c (Or.inr (List.mem_of_getElem? (i := 1) rfl)) sub_nil)) rfl (sud_c (Or.inr ⟨_, List.mem_of_getElem? (i := 0) rfl, rfl⟩) sud_nil))), fun Q9 hq => rb Q9 (rc Q9 hq)⟩
  have h := h.2 hc
  have rb := fun Q9 z => rb Q9 (br_f hc z)
  by_cases hc : (σ 7 o0 7) < 0
  · have h := h.1 hc
    have rb := fun Q9 z => rb Q9 (br_t hc z)
    by_cases hc : (σ 7 o0 7) < 0
    · have h := h.1 hc
      have rb := fun Q9 z => rb Q9 (br_t hc z)
      obtain ⟨r9, σ9, h, ok, fr9, rc⟩ := e7_add_J43 ho0 hk1 ok h
      exact ⟨r9, σ9, h, ok, fr.tr (fr9.sub (mF_sub rfl (sub_c (Or.inr (List.mem_of_getElem? (i := 0) rfl)) (sub_c (Or.inr (List.mem_of_getElem? (i := 1) rfl)) sub_nil)) rfl (sud_c (Or.inr ⟨_, List.mem_of_getElem? (i := 0) rfl, rfl⟩) sud_nil))), fun Q9 hq => rb Q9 (rc Q9 hq)⟩
    have h := h.2 hc
    have rb := fun Q9 z => rb Q9 (br_f hc z)
    by_cases hc : (σ 7 o0 7) < (x3 + x4)
    · have h := h.1 hc
      have rb := fun Q9 z => rb Q9 (br_t hc z)
      exact ⟨0, σ, h, ok, fr, fun Q9 hq => rb Q9 hq⟩
    have h := h.2 hc
    have rb := fun Q9 z => rb Q9 (br_f hc z)
    obtain ⟨r9, σ9, h, ok, fr9, rc⟩ := e7_add_J43 ho0 hk1 ok h
    exact ⟨r9, σ9, h, ok, fr.tr (fr9.sub (mF_sub rfl (sub_c (Or.inr (List.mem_of_getElem? (i := 0) rfl)) (sub_c (Or.inr (List.mem_of_getElem? (i := 1) rfl)) sub_nil)) rfl (sud_c (Or.inr ⟨_, List.mem_of_getElem? (i := 0) rfl, rfl⟩) sud_nil))), fun Q9 hq => rb Q9 (rc Q9 hq)⟩
  have h := h.2 hc
  have rb := fun Q9 z => rb Q9 (br_f hc z)
  by_cases hc : (σ 7 o0 7) = (x3 + x4)
  · have h := h.2 hc
    have rb := fun Q9 z => rb Q9 (br_u hc z)
    by_cases hc : (σ 7 o0 7) < 0
    · have h := h.1 hc
      have rb := fun Q9 z => rb Q9 (br_t hc z)
      obtain ⟨r9, σ9, h, ok, fr9, rc⟩ := e7_add_J43 ho0 hk1 ok h
      exact ⟨r9, σ9, h, ok, fr.tr (fr9.sub (mF_sub rfl (sub_c (Or.inr (List.mem_of_getElem? (i := 0) rfl)) (sub_c (Or.inr (List.mem_of_getElem? (i := 1) rfl)) sub_nil)) rfl (sud_c (Or.inr ⟨_, List.mem_of_getElem? (i := 0) rfl, rfl⟩) sud_nil))), fun Q9 hq => rb Q9 (rc Q9 hq)⟩
    have h := h.2 hc
    have rb := fun Q9 z => rb Q9 (br_f hc z)
    by_cases hc : (σ 7 o0 7) < (x3 + x4)
    · have h := h.1 hc
      have rb := fun Q9 z => rb Q9 (br_t hc z)
      exact ⟨0, σ, h, ok, fr, fun Q9 hq => rb Q9 hq⟩
    have h := h.2 hc
    have rb := fun Q9 z => rb Q9 (br_f hc z)
    obtain ⟨r9, σ9, h, ok, fr9, rc⟩ := e7_add_J43 ho0 hk1 ok h
    exact ⟨r9, σ9, h, ok, fr.tr (fr9.sub (mF_sub rfl (sub_c (Or.inr (List.mem_of_getElem? (i := 0) rfl)) (sub_c (Or.inr (List.mem_of_getElem? (i := 1) rfl)) sub_nil)) rfl (sud_c (Or.inr ⟨_, List.mem_of_getElem? (i := 0) rfl, rfl⟩) sud_nil))), fun Q9 hq => rb Q9 (rc Q9 hq)⟩
  have h := h.1 hc
  have rb := fun Q9 z => rb Q9 (br_v hc z)
  exact ⟨0, σ, h, ok, fr, fun Q9 hq => rb Q9 hq⟩
/-! WebHost$Making.begin(IIII)V -/
set_option maxHeartbeats 4000000 in
theorem e7_begin_L34 {o0 : Nat} {Q : St → Prop} {K56 : St → Prop} (ho0 : o0 < 4) :
    ∀ (n : Nat) {σ : St} {x5 : Int32} (ok : okS σ), w7_begin_L34 o0 Q K56 n σ x5 → (∃ (σ' : St), K56 σ' ∧ okS σ' ∧ Fr (mF [] [(39, o0)] [] []) σ σ' ∧ ∀ (Q9 : St → Prop) (K9_56 : St → Prop), K9_56 σ' → w7_begin_L34 o0 Q9 K9_56 n σ x5) := by
  intro n
  induction n with
  | zero =>
    intro σ x5 ok h
    exact False.elim h
  | succ n ih =>
    intro σ x5 ok h
    have fr : Fr (mF [] [(39, o0)] [] []) σ σ := Fr.rf
    have rb : ∀ (Q9 : St → Prop) (K9_56 : St → Prop), w7_begin_L34 o0 Q9 K9_56 (n + 1) σ x5 → w7_begin_L34 o0 Q9 K9_56 (n + 1) σ x5 := fun _ _ z => z
    by_cases hc : 4096 ≤ x5
    · have h := h.1 hc
      have rb := fun Q9 K9_56 z => rb Q9 K9_56 (br_t hc z)
      exact ⟨σ, h, ok, fr, fun Q9 K9_56 hq => rb Q9 K9_56 hq⟩
    have h := h.2 hc
    have rb := fun Q9 K9_56 z => rb Q9 K9_56 (br_f hc z)
    obtain ⟨hc, h⟩ := h
    have rb := fun Q9 K9_56 z => rb Q9 K9_56 (And.intro hc z)
    obtain ⟨σ7, e9⟩ : ∃ s : St, s = up3 σ 39 o0 x5.toNatClampNeg 0 := ⟨_, rfl⟩
    have h := h σ7 e9
    have rb := fun Q9 K9_56 z => rb Q9 K9_56 (nm_n e9 z)
    have ok : okS σ7 := by rw [e9]; exact (ok_z ok (tyk_a 39 1 (by decide) (by decide) _) (Or.inl rfl))
    have fr : Fr (mF [] [(39, o0)] [] []) σ σ7 := by rw [e9]; exact (Fr.up fr (mF_B (List.mem_of_getElem? (i := 0) rfl)))
    rcases ih ok h with ⟨σ', h, ok, fr9, rc⟩
    · exact ⟨σ', h, ok, fr.tr fr9, fun Q9 K9_56 hq => rb Q9 K9_56 (rc Q9 K9_56 hq)⟩
set_option maxHeartbeats 4000000 in
theorem e7_begin {σ : St} {o0 : Nat} {x1 : Int32} {x2 : Int32} {x3 : Int32} {x4 : Int32} {Q : St → Prop} (ho0 : o0 < 4) (ok : okS σ) (h : w7_begin σ o0 x1 x2 x3 x4 Q) : (∃ (σ' : St), Q σ' ∧ okS σ' ∧ Fr (mF [] [(39, o0)] [] [(7, o0, [0, 1, 2, 3, 6, 7])]) σ σ' ∧ ∀ (Q9 : St → Prop), Q9 σ' → w7_begin σ o0 x1 x2 x3 x4 Q9) := by
  have fr : Fr (mF [] [(39, o0)] [] [(7, o0, [0, 1, 2, 3, 6, 7])]) σ σ := Fr.rf
  have rb : ∀ (Q9 : St → Prop), w7_begin σ o0 x1 x2 x3 x4 Q9 → w7_begin σ o0 x1 x2 x3 x4 Q9 := fun _ z => z
  obtain ⟨σ1, e9⟩ : ∃ s : St, s = up3 σ 7 o0 0 x1 := ⟨_, rfl⟩
  have h := h σ1 e9
  have rb := fun Q9 z => rb Q9 (nm_n e9 z)
  have ok : okS σ1 := by rw [e9]; exact (ok_n ok (by decide))
  have fr : Fr (mF [] [(39, o0)] [] [(7, o0, [0, 1, 2, 3, 6, 7])]) σ σ1 := by rw [e9]; exact (Fr.up fr (mF_D (List.mem_of_getElem? (i := 0) rfl) rfl))
  obtain ⟨σ2, e9⟩ : ∃ s : St, s = up3 σ1 7 o0 1 x2 := ⟨_, rfl⟩
  have h := h σ2 e9
  have rb := fun Q9 z => rb Q9 (nm_n e9 z)
  have ok : okS σ2 := by rw [e9]; exact (ok_n ok (by decide))
  have fr : Fr (mF [] [(39, o0)] [] [(7, o0, [0, 1, 2, 3, 6, 7])]) σ σ2 := by rw [e9]; exact (Fr.up fr (mF_D (List.mem_of_getElem? (i := 0) rfl) rfl))
  obtain ⟨σ3, e9⟩ : ∃ s : St, s = up3 σ2 7 o0 2 x3 := ⟨_, rfl⟩
  have h := h σ3 e9
  have rb := fun Q9 z => rb Q9 (nm_n e9 z)
  have ok : okS σ3 := by rw [e9]; exact (ok_n ok (by decide))
  have fr : Fr (mF [] [(39, o0)] [] [(7, o0, [0, 1, 2, 3, 6, 7])]) σ σ3 := by rw [e9]; exact (Fr.up fr (mF_D (List.mem_of_getElem? (i := 0) rfl) rfl))
  obtain ⟨σ4, e9⟩ : ∃ s : St, s = up3 σ3 7 o0 3 x4 := ⟨_, rfl⟩
  have h := h σ4 e9
  have rb := fun Q9 z => rb Q9 (nm_n e9 z)
  have ok : okS σ4 := by rw [e9]; exact (ok_n ok (by decide))
  have fr : Fr (mF [] [(39, o0)] [] [(7, o0, [0, 1, 2, 3, 6, 7])]) σ σ4 := by rw [e9]; exact (Fr.up fr (mF_D (List.mem_of_getElem? (i := 0) rfl) rfl))
  obtain ⟨σ5, e9⟩ : ∃ s : St, s = up3 σ4 7 o0 6 0 := ⟨_, rfl⟩
  have h := h σ5 e9
  have rb := fun Q9 z => rb Q9 (nm_n e9 z)
  have ok : okS σ5 := by rw [e9]; exact (ok_n ok (by decide))
  have fr : Fr (mF [] [(39, o0)] [] [(7, o0, [0, 1, 2, 3, 6, 7])]) σ σ5 := by rw [e9]; exact (Fr.up fr (mF_D (List.mem_of_getElem? (i := 0) rfl) rfl))
  obtain ⟨σ6, e9⟩ : ∃ s : St, s = up3 σ5 7 o0 7 (-1) := ⟨_, rfl⟩
  have h := h σ6 e9
  have rb := fun Q9 z => rb Q9 (nm_n e9 z)
  have ok : okS σ6 := by rw [e9]; exact (ok_n ok (by decide))
  have fr : Fr (mF [] [(39, o0)] [] [(7, o0, [0, 1, 2, 3, 6, 7])]) σ σ6 := by rw [e9]; exact (Fr.up fr (mF_D (List.mem_of_getElem? (i := 0) rfl) rfl))
  obtain ⟨n9, h⟩ := h
  rcases e7_begin_L34 ho0 n9 ok h with ⟨σ9, h, ok, fr9, rc⟩
  · have rb := fun Q9 z => rb Q9 (Exists.intro n9 (rc _ _ z))
    have fr := fr.tr (fr9.sub (mF_sub rfl (sub_c (Or.inr (List.mem_of_getElem? (i := 0) rfl)) sub_nil) rfl sud_nil))
    exact ⟨σ9, h, ok, fr, fun Q9 hq => rb Q9 hq⟩
/-! WebHost$Making.isWhole()Z -/
set_option maxHeartbeats 4000000 in
theorem e7_isWhole_L2 {σ : St} {o0 : Nat} {Q : Int32 → Prop} {K19 : Prop} {K27 : Prop} (ho0 : o0 < 4) (ok : okS σ) :
    ∀ (n : Nat) {x1 : Int32}, w7_isWhole_L2 σ o0 Q K19 K27 n x1 → (K19 ∧ ∀ (Q9 : Int32 → Prop) (K9_19 : Prop) (K9_27 : Prop), K9_19 → w7_isWhole_L2 σ o0 Q9 K9_19 K9_27 n x1) ∨ (K27 ∧ ∀ (Q9 : Int32 → Prop) (K9_19 : Prop) (K9_27 : Prop), K9_27 → w7_isWhole_L2 σ o0 Q9 K9_19 K9_27 n x1) := by
  intro n
  induction n with
  | zero =>
    intro x1 h
    exact False.elim h
  | succ n ih =>
    intro x1 h
    have rb : ∀ (Q9 : Int32 → Prop) (K9_19 : Prop) (K9_27 : Prop), w7_isWhole_L2 σ o0 Q9 K9_19 K9_27 (n + 1) x1 → w7_isWhole_L2 σ o0 Q9 K9_19 K9_27 (n + 1) x1 := fun _ _ _ z => z
    by_cases hc : (σ 7 o0 7) ≤ x1
    · have h := h.1 hc
      have rb := fun Q9 K9_19 K9_27 z => rb Q9 K9_19 K9_27 (br_t hc z)
      exact (Or.inr ⟨h, fun Q9 K9_19 K9_27 hq => rb Q9 K9_19 K9_27 hq⟩)
    have h := h.2 hc
    have rb := fun Q9 K9_19 K9_27 z => rb Q9 K9_19 K9_27 (br_f hc z)
    obtain ⟨hc, h⟩ := h
    have rb := fun Q9 K9_19 K9_27 z => rb Q9 K9_19 K9_27 (And.intro hc z)
    have h := h ((ok 39 o0 _).1 (tyk_a 39 1 (by decide) (by decide) _))
    have rb := fun Q9 K9_19 K9_27 z => rb Q9 K9_19 K9_27 (im_n z)
    by_cases hc : (σ 39 o0 x1.toNatClampNeg) = 0
    · have h := h.2 hc
      have rb := fun Q9 K9_19 K9_27 z => rb Q9 K9_19 K9_27 (br_u hc z)
      exact (Or.inl ⟨h, fun Q9 K9_19 K9_27 hq => rb Q9 K9_19 K9_27 hq⟩)
    have h := h.1 hc
    have rb := fun Q9 K9_19 K9_27 z => rb Q9 K9_19 K9_27 (br_v hc z)
    rcases ih h with ⟨h, rc⟩ | ⟨h, rc⟩
    · exact (Or.inl ⟨h, fun Q9 K9_19 K9_27 hq => rb Q9 K9_19 K9_27 (rc Q9 K9_19 K9_27 hq)⟩)
    · exact (Or.inr ⟨h, fun Q9 K9_19 K9_27 hq => rb Q9 K9_19 K9_27 (rc Q9 K9_19 K9_27 hq)⟩)
set_option maxHeartbeats 4000000 in
theorem e7_isWhole {σ : St} {o0 : Nat} {Q : Int32 → Prop} (ho0 : o0 < 4) (ok : okS σ) (h : w7_isWhole σ o0 Q) : (∃ r : Int32, Q r ∧ ∀ (Q9 : Int32 → Prop), Q9 r → w7_isWhole σ o0 Q9) := by
  have rb : ∀ (Q9 : Int32 → Prop), w7_isWhole σ o0 Q9 → w7_isWhole σ o0 Q9 := fun _ z => z
  obtain ⟨n9, h⟩ := h
  rcases e7_isWhole_L2 ho0 ok n9 h with ⟨h, rc⟩ | ⟨h, rc⟩
  · have rb := fun Q9 z => rb Q9 (Exists.intro n9 (rc _ _ _ z))
    exact ⟨0, h, fun Q9 hq => rb Q9 hq⟩
  · have rb := fun Q9 z => rb Q9 (Exists.intro n9 (rc _ _ _ z))
    by_cases hc : (σ 7 o0 7) < 0
    · have h := h.1 hc
      have rb := fun Q9 z => rb Q9 (br_t hc z)
      exact ⟨0, h, fun Q9 hq => rb Q9 hq⟩
    have h := h.2 hc
    have rb := fun Q9 z => rb Q9 (br_f hc z)
    exact ⟨1, h, fun Q9 hq => rb Q9 hq⟩
/-! WebHost$Wire.begin(I)V -/
set_option maxHeartbeats 4000000 in
theorem e8_begin {σ : St} {x1 : Int32} {Q : St → Prop} (ok : okS σ) (h : w8_begin σ x1 Q) : (∃ (σ' : St), Q σ' ∧ okS σ' ∧ Fr (mF [] [] [(8, [2, 3, 4, 5, 6, 7, 8])] []) σ σ' ∧ ∀ (Q9 : St → Prop), Q9 σ' → w8_begin σ x1 Q9) := by
  have fr : Fr (mF [] [] [(8, [2, 3, 4, 5, 6, 7, 8])] []) σ σ := Fr.rf
  have rb : ∀ (Q9 : St → Prop), w8_begin σ x1 Q9 → w8_begin σ x1 Q9 := fun _ z => z
  obtain ⟨σ1, e9⟩ : ∃ s : St, s = up3 σ 8 0 2 x1 := ⟨_, rfl⟩
  have h := h σ1 e9
  have rb := fun Q9 z => rb Q9 (nm_n e9 z)
  have ok : okS σ1 := by rw [e9]; exact (ok_n ok (by decide))
  have fr : Fr (mF [] [] [(8, [2, 3, 4, 5, 6, 7, 8])] []) σ σ1 := by rw [e9]; exact (Fr.up fr (mF_C (List.mem_of_getElem? (i := 0) rfl) rfl))
  obtain ⟨σ2, e9⟩ : ∃ s : St, s = up3 σ1 8 0 3 0 := ⟨_, rfl⟩
  have h := h σ2 e9
  have rb := fun Q9 z => rb Q9 (nm_n e9 z)
  have ok : okS σ2 := by rw [e9]; exact (ok_n ok (by decide))
  have fr : Fr (mF [] [] [(8, [2, 3, 4, 5, 6, 7, 8])] []) σ σ2 := by rw [e9]; exact (Fr.up fr (mF_C (List.mem_of_getElem? (i := 0) rfl) rfl))
  obtain ⟨σ3, e9⟩ : ∃ s : St, s = up3 σ2 8 0 4 0 := ⟨_, rfl⟩
  have h := h σ3 e9
  have rb := fun Q9 z => rb Q9 (nm_n e9 z)
  have ok : okS σ3 := by rw [e9]; exact (ok_n ok (by decide))
  have fr : Fr (mF [] [] [(8, [2, 3, 4, 5, 6, 7, 8])] []) σ σ3 := by rw [e9]; exact (Fr.up fr (mF_C (List.mem_of_getElem? (i := 0) rfl) rfl))
  obtain ⟨σ4, e9⟩ : ∃ s : St, s = up3 σ3 8 0 5 0 := ⟨_, rfl⟩
  have h := h σ4 e9
  have rb := fun Q9 z => rb Q9 (nm_n e9 z)
  have ok : okS σ4 := by rw [e9]; exact (ok_n ok (by decide))
  have fr : Fr (mF [] [] [(8, [2, 3, 4, 5, 6, 7, 8])] []) σ σ4 := by rw [e9]; exact (Fr.up fr (mF_C (List.mem_of_getElem? (i := 0) rfl) rfl))
  obtain ⟨σ5, e9⟩ : ∃ s : St, s = up3 σ4 8 0 6 0 := ⟨_, rfl⟩
  have h := h σ5 e9
  have rb := fun Q9 z => rb Q9 (nm_n e9 z)
  have ok : okS σ5 := by rw [e9]; exact (ok_n ok (by decide))
  have fr : Fr (mF [] [] [(8, [2, 3, 4, 5, 6, 7, 8])] []) σ σ5 := by rw [e9]; exact (Fr.up fr (mF_C (List.mem_of_getElem? (i := 0) rfl) rfl))
  obtain ⟨σ6, e9⟩ : ∃ s : St, s = up3 σ5 8 0 7 0 := ⟨_, rfl⟩
  have h := h σ6 e9
  have rb := fun Q9 z => rb Q9 (nm_n e9 z)
  have ok : okS σ6 := by rw [e9]; exact (ok_n ok (by decide))
  have fr : Fr (mF [] [] [(8, [2, 3, 4, 5, 6, 7, 8])] []) σ σ6 := by rw [e9]; exact (Fr.up fr (mF_C (List.mem_of_getElem? (i := 0) rfl) rfl))
  obtain ⟨σ7, e9⟩ : ∃ s : St, s = up3 σ6 8 0 8 0 := ⟨_, rfl⟩
  have h := h σ7 e9
  have rb := fun Q9 z => rb Q9 (nm_n e9 z)
  have ok : okS σ7 := by rw [e9]; exact (ok_n ok (by decide))
  have fr : Fr (mF [] [] [(8, [2, 3, 4, 5, 6, 7, 8])] []) σ σ7 := by rw [e9]; exact (Fr.up fr (mF_C (List.mem_of_getElem? (i := 0) rfl) rfl))
  exact ⟨σ7, h, ok, fr, fun Q9 hq => rb Q9 hq⟩
/-! WebHost$Wire.now()I -/
set_option maxHeartbeats 4000000 in
theorem e8_now {σ : St} {Q : Int32 → Prop} (ok : okS σ) (h : w8_now σ Q) : (∃ r : Int32, Q r ∧ ∀ (Q9 : Int32 → Prop), Q9 r → w8_now σ Q9) := by
  have rb : ∀ (Q9 : Int32 → Prop), w8_now σ Q9 → w8_now σ Q9 := fun _ z => z
  exact ⟨(σ 2 0 4), h, fun Q9 hq => rb Q9 hq⟩
/-! WebHost$Requests.headEnd(LWebHost$Inbox;)I -/
set_option maxHeartbeats 4000000 in
theorem e9_headEnd_L4 {σ : St} {o0 : Nat} {Q : Int32 → Prop} {K49 : Int32 → Prop} {K63 : Prop} (ho0 : o0 < 16) (ok : okS σ) :
    ∀ (n : Nat) {x1 : Int32} {x2 : Int32}, w9_headEnd_L4 σ o0 Q K49 K63 n x1 x2 → (∃ (x2' : Int32), K49 x2' ∧ ∀ (Q9 : Int32 → Prop) (K9_49 : Int32 → Prop) (K9_63 : Prop), K9_49 x2' → w9_headEnd_L4 σ o0 Q9 K9_49 K9_63 n x1 x2) ∨ (K63 ∧ ∀ (Q9 : Int32 → Prop) (K9_49 : Int32 → Prop) (K9_63 : Prop), K9_63 → w9_headEnd_L4 σ o0 Q9 K9_49 K9_63 n x1 x2) := by
  intro n
  induction n with
  | zero =>
    intro x1 x2 h
    exact False.elim h
  | succ n ih =>
    intro x1 x2 h
    have rb : ∀ (Q9 : Int32 → Prop) (K9_49 : Int32 → Prop) (K9_63 : Prop), w9_headEnd_L4 σ o0 Q9 K9_49 K9_63 (n + 1) x1 x2 → w9_headEnd_L4 σ o0 Q9 K9_49 K9_63 (n + 1) x1 x2 := fun _ _ _ z => z
    by_cases hc : (σ 12 o0 2) ≤ x2
    · have h := h.1 hc
      have rb := fun Q9 K9_49 K9_63 z => rb Q9 K9_49 K9_63 (br_t hc z)
      exact (Or.inr ⟨h, fun Q9 K9_49 K9_63 hq => rb Q9 K9_49 K9_63 hq⟩)
    have h := h.2 hc
    have rb := fun Q9 K9_49 K9_63 z => rb Q9 K9_49 K9_63 (br_f hc z)
    obtain ⟨hc, h⟩ := h
    have rb := fun Q9 K9_49 K9_63 z => rb Q9 K9_49 K9_63 (And.intro hc z)
    have h := h ((ok 42 o0 _).2 (tyk_a 42 2 (by decide) (by decide) _))
    have rb := fun Q9 K9_49 K9_63 z => rb Q9 K9_49 K9_63 (im_n z)
    by_cases hc : (σ 42 o0 x2.toNatClampNeg) = 10
    · have h := h.1 hc
      have rb := fun Q9 K9_49 K9_63 z => rb Q9 K9_49 K9_63 (br_t hc z)
      by_cases hc : x2 = x1
      · have h := h.1 hc
        have rb := fun Q9 K9_49 K9_63 z => rb Q9 K9_49 K9_63 (br_t hc z)
        exact (Or.inl ⟨x2, h, fun Q9 K9_49 K9_63 hq => rb Q9 K9_49 K9_63 hq⟩)
      have h := h.2 hc
      have rb := fun Q9 K9_49 K9_63 z => rb Q9 K9_49 K9_63 (br_f hc z)
      by_cases hc : x2 = (x1 + 1)
      · have h := h.2 hc
        have rb := fun Q9 K9_49 K9_63 z => rb Q9 K9_49 K9_63 (br_u hc z)
        obtain ⟨hc, h⟩ := h
        have rb := fun Q9 K9_49 K9_63 z => rb Q9 K9_49 K9_63 (And.intro hc z)
        have h := h ((ok 42 o0 _).2 (tyk_a 42 2 (by decide) (by decide) _))
        have rb := fun Q9 K9_49 K9_63 z => rb Q9 K9_49 K9_63 (im_n z)
        by_cases hc : (σ 42 o0 x1.toNatClampNeg) = 13
        · have h := h.2 hc
          have rb := fun Q9 K9_49 K9_63 z => rb Q9 K9_49 K9_63 (br_u hc z)
          exact (Or.inl ⟨x2, h, fun Q9 K9_49 K9_63 hq => rb Q9 K9_49 K9_63 hq⟩)
        have h := h.1 hc
        have rb := fun Q9 K9_49 K9_63 z => rb Q9 K9_49 K9_63 (br_v hc z)
        rcases ih h with ⟨x2, h, rc⟩ | ⟨h, rc⟩
        · exact (Or.inl ⟨x2, h, fun Q9 K9_49 K9_63 hq => rb Q9 K9_49 K9_63 (rc Q9 K9_49 K9_63 hq)⟩)
        · exact (Or.inr ⟨h, fun Q9 K9_49 K9_63 hq => rb Q9 K9_49 K9_63 (rc Q9 K9_49 K9_63 hq)⟩)
      have h := h.1 hc
      have rb := fun Q9 K9_49 K9_63 z => rb Q9 K9_49 K9_63 (br_v hc z)
      rcases ih h with ⟨x2, h, rc⟩ | ⟨h, rc⟩
      · exact (Or.inl ⟨x2, h, fun Q9 K9_49 K9_63 hq => rb Q9 K9_49 K9_63 (rc Q9 K9_49 K9_63 hq)⟩)
      · exact (Or.inr ⟨h, fun Q9 K9_49 K9_63 hq => rb Q9 K9_49 K9_63 (rc Q9 K9_49 K9_63 hq)⟩)
    have h := h.2 hc
    have rb := fun Q9 K9_49 K9_63 z => rb Q9 K9_49 K9_63 (br_f hc z)
    rcases ih h with ⟨x2, h, rc⟩ | ⟨h, rc⟩
    · exact (Or.inl ⟨x2, h, fun Q9 K9_49 K9_63 hq => rb Q9 K9_49 K9_63 (rc Q9 K9_49 K9_63 hq)⟩)
    · exact (Or.inr ⟨h, fun Q9 K9_49 K9_63 hq => rb Q9 K9_49 K9_63 (rc Q9 K9_49 K9_63 hq)⟩)
set_option maxHeartbeats 4000000 in
theorem e9_headEnd {σ : St} {o0 : Nat} {Q : Int32 → Prop} (ho0 : o0 < 16) (ok : okS σ) (h : w9_headEnd σ o0 Q) : (∃ r : Int32, Q r ∧ ∀ (Q9 : Int32 → Prop), Q9 r → w9_headEnd σ o0 Q9) := by
  have rb : ∀ (Q9 : Int32 → Prop), w9_headEnd σ o0 Q9 → w9_headEnd σ o0 Q9 := fun _ z => z
  obtain ⟨n9, h⟩ := h
  rcases e9_headEnd_L4 ho0 ok n9 h with ⟨x2_2, h, rc⟩ | ⟨h, rc⟩
  · have rb := fun Q9 z => rb Q9 (Exists.intro n9 (rc _ _ _ z))
    exact ⟨(x2_2 + 1), h, fun Q9 hq => rb Q9 hq⟩
  · have rb := fun Q9 z => rb Q9 (Exists.intro n9 (rc _ _ _ z))
    exact ⟨(-1), h, fun Q9 hq => rb Q9 hq⟩
/-! WebHost$Requests.isBlank(I)Z -/
set_option maxHeartbeats 4000000 in
theorem e9_isBlank {σ : St} {x0 : Int32} {Q : Int32 → Prop} (ok : okS σ) (h : w9_isBlank σ x0 Q) : (∃ r : Int32, Q r ∧ ∀ (Q9 : Int32 → Prop), Q9 r → w9_isBlank σ x0 Q9) := by
  have rb : ∀ (Q9 : Int32 → Prop), w9_isBlank σ x0 Q9 → w9_isBlank σ x0 Q9 := fun _ z => z
  by_cases hc : x0 = 32
  · have h := h.1 hc
    have rb := fun Q9 z => rb Q9 (br_t hc z)
    exact ⟨1, h, fun Q9 hq => rb Q9 hq⟩
  have h := h.2 hc
  have rb := fun Q9 z => rb Q9 (br_f hc z)
  by_cases hc : x0 = 9
  · have h := h.2 hc
    have rb := fun Q9 z => rb Q9 (br_u hc z)
    exact ⟨1, h, fun Q9 hq => rb Q9 hq⟩
  have h := h.1 hc
  have rb := fun Q9 z => rb Q9 (br_v hc z)
  exact ⟨0, h, fun Q9 hq => rb Q9 hq⟩
/-! WebHost$Requests.isIn(III)Z -/
set_option maxHeartbeats 4000000 in
theorem e9_isIn {σ : St} {x0 : Int32} {x1 : Int32} {x2 : Int32} {Q : Int32 → Prop} (ok : okS σ) (h : w9_isIn σ x0 x1 x2 Q) : (∃ r : Int32, Q r ∧ ∀ (Q9 : Int32 → Prop), Q9 r → w9_isIn σ x0 x1 x2 Q9) := by
  have rb : ∀ (Q9 : Int32 → Prop), w9_isIn σ x0 x1 x2 Q9 → w9_isIn σ x0 x1 x2 Q9 := fun _ z => z
  by_cases hc : x0 < x1
  · have h := h.1 hc
    have rb := fun Q9 z => rb Q9 (br_t hc z)
    exact ⟨0, h, fun Q9 hq => rb Q9 hq⟩
  have h := h.2 hc
  have rb := fun Q9 z => rb Q9 (br_f hc z)
  by_cases hc : x2 < x0
  · have h := h.1 hc
    have rb := fun Q9 z => rb Q9 (br_t hc z)
    exact ⟨0, h, fun Q9 hq => rb Q9 hq⟩
  have h := h.2 hc
  have rb := fun Q9 z => rb Q9 (br_f hc z)
  exact ⟨1, h, fun Q9 hq => rb Q9 hq⟩
/-! WebHost$Requests.lineEnd(I)I -/
set_option maxHeartbeats 4000000 in
theorem e9_lineEnd_L2 {σ : St} {Q : Int32 → Prop} {K19 : Int32 → Prop} (ok : okS σ) :
    ∀ (n : Nat) {x2 : Int32}, w9_lineEnd_L2 σ Q K19 n x2 → (∃ (x2' : Int32), K19 x2' ∧ ∀ (Q9 : Int32 → Prop) (K9_19 : Int32 → Prop), K9_19 x2' → w9_lineEnd_L2 σ Q9 K9_19 n x2) := by
  intro n
  induction n with
  | zero =>
    intro x2 h
    exact False.elim h
  | succ n ih =>
    intro x2 h
    have rb : ∀ (Q9 : Int32 → Prop) (K9_19 : Int32 → Prop), w9_lineEnd_L2 σ Q9 K9_19 (n + 1) x2 → w9_lineEnd_L2 σ Q9 K9_19 (n + 1) x2 := fun _ _ z => z
    obtain ⟨hc, h⟩ := h
    have rb := fun Q9 K9_19 z => rb Q9 K9_19 (And.intro hc z)
    have h := h ((ok 40 0 _).2 (tyk_a 40 2 (by decide) (by decide) _))
    have rb := fun Q9 K9_19 z => rb Q9 K9_19 (im_n z)
    by_cases hc : (σ 40 0 x2.toNatClampNeg) = 10
    · have h := h.1 hc
      have rb := fun Q9 K9_19 z => rb Q9 K9_19 (br_t hc z)
      exact ⟨x2, h, fun Q9 K9_19 hq => rb Q9 K9_19 hq⟩
    have h := h.2 hc
    have rb := fun Q9 K9_19 z => rb Q9 K9_19 (br_f hc z)
    rcases ih h with ⟨x2, h, rc⟩
    · exact ⟨x2, h, fun Q9 K9_19 hq => rb Q9 K9_19 (rc Q9 K9_19 hq)⟩
set_option maxHeartbeats 4000000 in
theorem e9_lineEnd {σ : St} {x1 : Int32} {Q : Int32 → Prop} (ok : okS σ) (h : w9_lineEnd σ x1 Q) : (∃ r : Int32, Q r ∧ ∀ (Q9 : Int32 → Prop), Q9 r → w9_lineEnd σ x1 Q9) := by
  have rb : ∀ (Q9 : Int32 → Prop), w9_lineEnd σ x1 Q9 → w9_lineEnd σ x1 Q9 := fun _ z => z
  obtain ⟨n9, h⟩ := h
  rcases e9_lineEnd_L2 ok n9 h with ⟨x2_2, h, rc⟩
  · have rb := fun Q9 z => rb Q9 (Exists.intro n9 (rc _ _ z))
    exact ⟨x2_2, h, fun Q9 hq => rb Q9 hq⟩
/-! WebHost$Requests.step(I)V -/
set_option maxHeartbeats 4000000 in
theorem e9_step {σ : St} {x1 : Int32} {Q : St → Prop} (ok : okS σ) (h : w9_step σ x1 Q) : (∃ (σ' : St), Q σ' ∧ okS σ' ∧ Fr (mF [41] [] [(9, [18])] []) σ σ' ∧ ∀ (Q9 : St → Prop), Q9 σ' → w9_step σ x1 Q9) := by
  have fr : Fr (mF [41] [] [(9, [18])] []) σ σ := Fr.rf
  have rb : ∀ (Q9 : St → Prop), w9_step σ x1 Q9 → w9_step σ x1 Q9 := fun _ z => z
  by_cases hc : 47 < (σ 9 0 18)
  · have h := h.1 hc
    have rb := fun Q9 z => rb Q9 (br_t hc z)
    obtain ⟨σ1, e9⟩ : ∃ s : St, s = up3 σ 9 0 18 ((σ 9 0 18) + 1) := ⟨_, rfl⟩
    have h := h σ1 e9
    have rb := fun Q9 z => rb Q9 (nm_n e9 z)
    have ok : okS σ1 := by rw [e9]; exact (ok_n ok (by decide))
    have fr : Fr (mF [41] [] [(9, [18])] []) σ σ1 := by rw [e9]; exact (Fr.up fr (mF_C (List.mem_of_getElem? (i := 0) rfl) rfl))
    exact ⟨σ1, h, ok, fr, fun Q9 hq => rb Q9 hq⟩
  have h := h.2 hc
  have rb := fun Q9 z => rb Q9 (br_f hc z)
  obtain ⟨hc, h⟩ := h
  have rb := fun Q9 z => rb Q9 (And.intro hc z)
  obtain ⟨σ2, e9⟩ : ∃ s : St, s = up3 σ 41 0 (imin (σ 9 0 18) 47).toNatClampNeg x1.toInt8.toInt32.toInt8.toInt32 := ⟨_, rfl⟩
  have h := h σ2 e9
  have rb := fun Q9 z => rb Q9 (nm_n e9 z)
  have ok : okS σ2 := by rw [e9]; exact (ok_b ok (tyk_a 41 2 (by decide) (by decide) _))
  have fr : Fr (mF [41] [] [(9, [18])] []) σ σ2 := by rw [e9]; exact (Fr.up fr (mF_A rfl))
  obtain ⟨σ3, e9⟩ : ∃ s : St, s = up3 σ2 9 0 18 ((σ2 9 0 18) + 1) := ⟨_, rfl⟩
  have h := h σ3 e9
  have rb := fun Q9 z => rb Q9 (nm_n e9 z)
  have ok : okS σ3 := by rw [e9]; exact (ok_n ok (by decide))
  have fr : Fr (mF [41] [] [(9, [18])] []) σ σ3 := by rw [e9]; exact (Fr.up fr (mF_C (List.mem_of_getElem? (i := 0) rfl) rfl))
  exact ⟨σ3, h, ok, fr, fun Q9 hq => rb Q9 hq⟩
/-! WebHost$Requests.textEnd(II)I -/
set_option maxHeartbeats 4000000 in
theorem e9_textEnd {σ : St} {x1 : Int32} {x2 : Int32} {Q : Int32 → Prop} (ok : okS σ) (h : w9_textEnd σ x1 x2 Q) : (∃ r : Int32, Q r ∧ ∀ (Q9 : Int32 → Prop), Q9 r → w9_textEnd σ x1 x2 Q9) := by
  have rb : ∀ (Q9 : Int32 → Prop), w9_textEnd σ x1 x2 Q9 → w9_textEnd σ x1 x2 Q9 := fun _ z => z
  by_cases hc : x2 ≤ x1
  · have h := h.1 hc
    have rb := fun Q9 z => rb Q9 (br_t hc z)
    exact ⟨x2, h, fun Q9 hq => rb Q9 hq⟩
  have h := h.2 hc
  have rb := fun Q9 z => rb Q9 (br_f hc z)
  obtain ⟨hc, h⟩ := h
  have rb := fun Q9 z => rb Q9 (And.intro hc z)
  have h := h ((ok 40 0 _).2 (tyk_a 40 2 (by decide) (by decide) _))
  have rb := fun Q9 z => rb Q9 (im_n z)
  by_cases hc : (σ 40 0 (x2 - 1).toNatClampNeg) = 13
  · have h := h.2 hc
    have rb := fun Q9 z => rb Q9 (br_u hc z)
    exact ⟨(x2 - 1), h, fun Q9 hq => rb Q9 hq⟩
  have h := h.1 hc
  have rb := fun Q9 z => rb Q9 (br_v hc z)
  exact ⟨x2, h, fun Q9 hq => rb Q9 hq⟩
/-! WebHost$Segment.has(I)Z -/
set_option maxHeartbeats 4000000 in
theorem e10_has {σ : St} {x1 : Int32} {Q : Int32 → Prop} (ok : okS σ) (h : w10_has σ x1 Q) : (∃ r : Int32, Q r ∧ ∀ (Q9 : Int32 → Prop), Q9 r → w10_has σ x1 Q9) := by
  have rb : ∀ (Q9 : Int32 → Prop), w10_has σ x1 Q9 → w10_has σ x1 Q9 := fun _ z => z
  by_cases hc : ((σ 10 0 5) &&& x1) = 0
  · have h := h.1 hc
    have rb := fun Q9 z => rb Q9 (br_t hc z)
    exact ⟨0, h, fun Q9 hq => rb Q9 hq⟩
  have h := h.2 hc
  have rb := fun Q9 z => rb Q9 (br_f hc z)
  exact ⟨1, h, fun Q9 hq => rb Q9 hq⟩
/-! WebHost$Connection.end()I -/
set_option maxHeartbeats 4000000 in
theorem e11_end {σ : St} {o0 : Nat} {Q : Int32 → Prop} (ho0 : o0 < 16) (ok : okS σ) (h : w11_end σ o0 Q) : (∃ r : Int32, Q r ∧ ∀ (Q9 : Int32 → Prop), Q9 r → w11_end σ o0 Q9) := by
  have rb : ∀ (Q9 : Int32 → Prop), w11_end σ o0 Q9 → w11_end σ o0 Q9 := fun _ z => z
  exact ⟨((σ 11 o0 26) + (σ 13 o0 1)), h, fun Q9 hq => rb Q9 hq⟩
/-! WebHost$Connection.flight()I -/
set_option maxHeartbeats 4000000 in
theorem e11_flight {σ : St} {o0 : Nat} {Q : Int32 → Prop} (ho0 : o0 < 16) (ok : okS σ) (h : w11_flight σ o0 Q) : (∃ r : Int32, Q r ∧ ∀ (Q9 : Int32 → Prop), Q9 r → w11_flight σ o0 Q9) := by
  have rb : ∀ (Q9 : Int32 → Prop), w11_flight σ o0 Q9 → w11_flight σ o0 Q9 := fun _ z => z
  exact ⟨((σ 11 o0 10) - (σ 11 o0 9)), h, fun Q9 hq => rb Q9 hq⟩
/-! WebHost$Connection.gone()V -/
set_option maxHeartbeats 4000000 in
theorem e11_gone {σ : St} {o0 : Nat} {Q : St → Prop} (ho0 : o0 < 16) (ok : okS σ) (h : w11_gone σ o0 Q) : (∃ (σ' : St), Q σ' ∧ okS σ' ∧ Fr (mF [] [] [] [(11, o0, [2, 29, 33])]) σ σ' ∧ ∀ (Q9 : St → Prop), Q9 σ' → w11_gone σ o0 Q9) := by
  have fr : Fr (mF [] [] [] [(11, o0, [2, 29, 33])]) σ σ := Fr.rf
  have rb : ∀ (Q9 : St → Prop), w11_gone σ o0 Q9 → w11_gone σ o0 Q9 := fun _ z => z
  obtain ⟨σ1, e9⟩ : ∃ s : St, s = up3 σ 11 o0 2 0 := ⟨_, rfl⟩
  have h := h σ1 e9
  have rb := fun Q9 z => rb Q9 (nm_n e9 z)
  have ok : okS σ1 := by rw [e9]; exact (ok_n ok (by decide))
  have fr : Fr (mF [] [] [] [(11, o0, [2, 29, 33])]) σ σ1 := by rw [e9]; exact (Fr.up fr (mF_D (List.mem_of_getElem? (i := 0) rfl) rfl))
  obtain ⟨σ2, e9⟩ : ∃ s : St, s = up3 σ1 11 o0 29 0 := ⟨_, rfl⟩
  have h := h σ2 e9
  have rb := fun Q9 z => rb Q9 (nm_n e9 z)
  have ok : okS σ2 := by rw [e9]; exact (ok_z ok (by decide) (Or.inl rfl))
  have fr : Fr (mF [] [] [] [(11, o0, [2, 29, 33])]) σ σ2 := by rw [e9]; exact (Fr.up fr (mF_D (List.mem_of_getElem? (i := 0) rfl) rfl))
  obtain ⟨σ3, e9⟩ : ∃ s : St, s = up3 σ2 11 o0 33 0 := ⟨_, rfl⟩
  have h := h σ3 e9
  have rb := fun Q9 z => rb Q9 (nm_n e9 z)
  have ok : okS σ3 := by rw [e9]; exact (ok_z ok (by decide) (Or.inl rfl))
  have fr : Fr (mF [] [] [] [(11, o0, [2, 29, 33])]) σ σ3 := by rw [e9]; exact (Fr.up fr (mF_D (List.mem_of_getElem? (i := 0) rfl) rfl))
  exact ⟨σ3, h, ok, fr, fun Q9 hq => rb Q9 hq⟩
/-! WebHost$Connection.grow(I)V -/
set_option maxHeartbeats 4000000 in
theorem e11_grow {σ : St} {o0 : Nat} {x1 : Int32} {Q : St → Prop} (ho0 : o0 < 16) (ok : okS σ) (h : w11_grow σ o0 x1 Q) : (∃ (σ' : St), Q σ' ∧ okS σ' ∧ Fr (mF [] [] [] [(11, o0, [14])]) σ σ' ∧ ∀ (Q9 : St → Prop), Q9 σ' → w11_grow σ o0 x1 Q9) := by
  have fr : Fr (mF [] [] [] [(11, o0, [14])]) σ σ := Fr.rf
  have rb : ∀ (Q9 : St → Prop), w11_grow σ o0 x1 Q9 → w11_grow σ o0 x1 Q9 := fun _ z => z
  obtain ⟨σ1, e9⟩ : ∃ s : St, s = up3 σ 11 o0 14 (imin ((σ 11 o0 14) + x1) 65535) := ⟨_, rfl⟩
  have h := h σ1 e9
  have rb := fun Q9 z => rb Q9 (nm_n e9 z)
  have ok : okS σ1 := by rw [e9]; exact (ok_n ok (by decide))
  have fr : Fr (mF [] [] [] [(11, o0, [14])]) σ σ1 := by rw [e9]; exact (Fr.up fr (mF_D (List.mem_of_getElem? (i := 0) rfl) rfl))
  exact ⟨σ1, h, ok, fr, fun Q9 hq => rb Q9 hq⟩
/-! WebHost$Connection.half()I -/
set_option maxHeartbeats 4000000 in
theorem e11_half {σ : St} {o0 : Nat} {Q : Int32 → Prop} (ho0 : o0 < 16) (ok : okS σ) (h : w11_half σ o0 Q) : (∃ r : Int32, Q r ∧ ∀ (Q9 : Int32 → Prop), Q9 r → w11_half σ o0 Q9) := by
  have rb : ∀ (Q9 : Int32 → Prop), w11_half σ o0 Q9 → w11_half σ o0 Q9 := fun _ z => z
  exact ⟨(imax (((σ 11 o0 11) - (σ 11 o0 9)) / 2) (2 * (σ 11 o0 13))), h, fun Q9 hq => rb Q9 hq⟩
/-! WebHost$Connection.lifeDue()I -/
set_option maxHeartbeats 4000000 in
theorem e11_lifeDue {σ : St} {o0 : Nat} {Q : Int32 → Prop} (ho0 : o0 < 16) (ok : okS σ) (h : w11_lifeDue σ o0 Q) : (∃ r : Int32, Q r ∧ ∀ (Q9 : Int32 → Prop), Q9 r → w11_lifeDue σ o0 Q9) := by
  have rb : ∀ (Q9 : Int32 → Prop), w11_lifeDue σ o0 Q9 → w11_lifeDue σ o0 Q9 := fun _ z => z
  have h := h ((ok 11 o0 33).1 (by decide))
  have rb := fun Q9 z => rb Q9 (im_n z)
  by_cases hc : (σ 11 o0 33) = 0
  · have h := h.1 hc
    have rb := fun Q9 z => rb Q9 (br_t hc z)
    exact ⟨2147483647, h, fun Q9 hq => rb Q9 hq⟩
  have h := h.2 hc
  have rb := fun Q9 z => rb Q9 (br_f hc z)
  exact ⟨(σ 11 o0 31), h, fun Q9 hq => rb Q9 hq⟩
/-! WebHost$Connection.next()I -/
set_option maxHeartbeats 4000000 in
theorem e11_next {σ : St} {o0 : Nat} {Q : Int32 → Prop} (ho0 : o0 < 16) (ok : okS σ) (h : w11_next σ o0 Q) : (∃ r : Int32, Q r ∧ ∀ (Q9 : Int32 → Prop), Q9 r → w11_next σ o0 Q9) := by
  have rb : ∀ (Q9 : Int32 → Prop), w11_next σ o0 Q9 → w11_next σ o0 Q9 := fun _ z => z
  exact ⟨(σ 11 o0 6), h, fun Q9 hq => rb Q9 hq⟩
/-! WebHost$Connection.takeWindow(LWebHost$Segment;)V -/
set_option maxHeartbeats 4000000 in
theorem e11_takeWindow {σ : St} {o0 : Nat} {Q : St → Prop} (ho0 : o0 < 16) (ok : okS σ) (h : w11_takeWindow σ o0 Q) : (∃ (σ' : St), Q σ' ∧ okS σ' ∧ Fr (mF [] [] [] [(11, o0, [7, 8, 12])]) σ σ' ∧ ∀ (Q9 : St → Prop), Q9 σ' → w11_takeWindow σ o0 Q9) := by
  have fr : Fr (mF [] [] [] [(11, o0, [7, 8, 12])]) σ σ := Fr.rf
  have rb : ∀ (Q9 : St → Prop), w11_takeWindow σ o0 Q9 → w11_takeWindow σ o0 Q9 := fun _ z => z
  obtain ⟨σ1, e9⟩ : ∃ s : St, s = up3 σ 11 o0 12 (σ 10 0 6) := ⟨_, rfl⟩
  have h := h σ1 e9
  have rb := fun Q9 z => rb Q9 (nm_n e9 z)
  have ok : okS σ1 := by rw [e9]; exact (ok_n ok (by decide))
  have fr : Fr (mF [] [] [] [(11, o0, [7, 8, 12])]) σ σ1 := by rw [e9]; exact (Fr.up fr (mF_D (List.mem_of_getElem? (i := 0) rfl) rfl))
  obtain ⟨σ2, e9⟩ : ∃ s : St, s = up3 σ1 11 o0 7 (σ1 10 0 3) := ⟨_, rfl⟩
  have h := h σ2 e9
  have rb := fun Q9 z => rb Q9 (nm_n e9 z)
  have ok : okS σ2 := by rw [e9]; exact (ok_n ok (by decide))
  have fr : Fr (mF [] [] [] [(11, o0, [7, 8, 12])]) σ σ2 := by rw [e9]; exact (Fr.up fr (mF_D (List.mem_of_getElem? (i := 0) rfl) rfl))
  obtain ⟨σ3, e9⟩ : ∃ s : St, s = up3 σ2 11 o0 8 (σ2 10 0 4) := ⟨_, rfl⟩
  have h := h σ3 e9
  have rb := fun Q9 z => rb Q9 (nm_n e9 z)
  have ok : okS σ3 := by rw [e9]; exact (ok_n ok (by decide))
  have fr : Fr (mF [] [] [] [(11, o0, [7, 8, 12])]) σ σ3 := by rw [e9]; exact (Fr.up fr (mF_D (List.mem_of_getElem? (i := 0) rfl) rfl))
  exact ⟨σ3, h, ok, fr, fun Q9 hq => rb Q9 hq⟩
/-! WebHost$Connection.timerDue()I -/
set_option maxHeartbeats 4000000 in
theorem e11_timerDue {σ : St} {o0 : Nat} {Q : Int32 → Prop} (ho0 : o0 < 16) (ok : okS σ) (h : w11_timerDue σ o0 Q) : (∃ r : Int32, Q r ∧ ∀ (Q9 : Int32 → Prop), Q9 r → w11_timerDue σ o0 Q9) := by
  have rb : ∀ (Q9 : Int32 → Prop), w11_timerDue σ o0 Q9 → w11_timerDue σ o0 Q9 := fun _ z => z
  have h := h ((ok 11 o0 29).1 (by decide))
  have rb := fun Q9 z => rb Q9 (im_n z)
  by_cases hc : (σ 11 o0 29) = 0
  · have h := h.1 hc
    have rb := fun Q9 z => rb Q9 (br_t hc z)
    exact ⟨2147483647, h, fun Q9 hq => rb Q9 hq⟩
  have h := h.2 hc
  have rb := fun Q9 z => rb Q9 (br_f hc z)
  exact ⟨(σ 11 o0 30), h, fun Q9 hq => rb Q9 hq⟩
/-! WebHost$Inbox.advance()I -/
set_option maxHeartbeats 4000000 in
theorem e12_advance_L5 {o0 : Nat} {x1 : Int32} {Q : Int32 → St → Prop} {K40 : St → Prop} (ho0 : o0 < 16) :
    ∀ (n : Nat) {σ : St} (ok : okS σ), w12_advance_L5 o0 x1 Q K40 n σ → (∃ (σ' : St), K40 σ' ∧ okS σ' ∧ Fr (mF [] [] [] [(12, o0, [2])]) σ σ' ∧ ∀ (Q9 : Int32 → St → Prop) (K9_40 : St → Prop), K9_40 σ' → w12_advance_L5 o0 x1 Q9 K9_40 n σ) := by
  intro n
  induction n with
  | zero =>
    intro σ ok h
    exact False.elim h
  | succ n ih =>
    intro σ ok h
    have fr : Fr (mF [] [] [] [(12, o0, [2])]) σ σ := Fr.rf
    have rb : ∀ (Q9 : Int32 → St → Prop) (K9_40 : St → Prop), w12_advance_L5 o0 x1 Q9 K9_40 (n + 1) σ → w12_advance_L5 o0 x1 Q9 K9_40 (n + 1) σ := fun _ _ z => z
    by_cases hc : 4096 ≤ (σ 12 o0 2)
    · have h := h.1 hc
      have rb := fun Q9 K9_40 z => rb Q9 K9_40 (br_t hc z)
      exact ⟨σ, h, ok, fr, fun Q9 K9_40 hq => rb Q9 K9_40 hq⟩
    have h := h.2 hc
    have rb := fun Q9 K9_40 z => rb Q9 K9_40 (br_f hc z)
    obtain ⟨hc, h⟩ := h
    have rb := fun Q9 K9_40 z => rb Q9 K9_40 (And.intro hc z)
    have h := h ((ok 43 o0 _).1 (tyk_a 43 1 (by decide) (by decide) _))
    have rb := fun Q9 K9_40 z => rb Q9 K9_40 (im_n z)
    by_cases hc : (σ 43 o0 (σ 12 o0 2).toNatClampNeg) = 0
    · have h := h.1 hc
      have rb := fun Q9 K9_40 z => rb Q9 K9_40 (br_t hc z)
      exact ⟨σ, h, ok, fr, fun Q9 K9_40 hq => rb Q9 K9_40 hq⟩
    have h := h.2 hc
    have rb := fun Q9 K9_40 z => rb Q9 K9_40 (br_f hc z)
    obtain ⟨σ1, e9⟩ : ∃ s : St, s = up3 σ 12 o0 2 ((σ 12 o0 2) + 1) := ⟨_, rfl⟩
    have h := h σ1 e9
    have rb := fun Q9 K9_40 z => rb Q9 K9_40 (nm_n e9 z)
    have ok : okS σ1 := by rw [e9]; exact (ok_n ok (by decide))
    have fr : Fr (mF [] [] [] [(12, o0, [2])]) σ σ1 := by rw [e9]; exact (Fr.up fr (mF_D (List.mem_of_getElem? (i := 0) rfl) rfl))
    rcases ih ok h with ⟨σ', h, ok, fr9, rc⟩
    · exact ⟨σ', h, ok, fr.tr fr9, fun Q9 K9_40 hq => rb Q9 K9_40 (rc Q9 K9_40 hq)⟩
set_option maxHeartbeats 4000000 in
theorem e12_advance {σ : St} {o0 : Nat} {Q : Int32 → St → Prop} (ho0 : o0 < 16) (ok : okS σ) (h : w12_advance σ o0 Q) : (∃ (r : Int32) (σ' : St), Q r σ' ∧ okS σ' ∧ Fr (mF [] [] [] [(12, o0, [2])]) σ σ' ∧ ∀ (Q9 : Int32 → St → Prop), Q9 r σ' → w12_advance σ o0 Q9) := by
  have fr : Fr (mF [] [] [] [(12, o0, [2])]) σ σ := Fr.rf
  have rb : ∀ (Q9 : Int32 → St → Prop), w12_advance σ o0 Q9 → w12_advance σ o0 Q9 := fun _ z => z
  obtain ⟨n9, h⟩ := h
  rcases e12_advance_L5 ho0 n9 ok h with ⟨σ3, h, ok, fr9, rc⟩
  · have rb := fun Q9 z => rb Q9 (Exists.intro n9 (rc _ _ z))
    have fr := fr.tr (fr9.sub (mF_sub rfl sub_nil rfl (sud_c (Or.inr ⟨_, List.mem_of_getElem? (i := 0) rfl, rfl⟩) sud_nil)))
    exact ⟨((σ3 12 o0 2) - (σ 12 o0 2)), σ3, h, ok, fr, fun Q9 hq => rb Q9 hq⟩
/-! WebHost$Inbox.clear()V -/
set_option maxHeartbeats 4000000 in
theorem e12_clear_L12 {o0 : Nat} {Q : St → Prop} {K32 : St → Prop} (ho0 : o0 < 16) :
    ∀ (n : Nat) {σ : St} {x1 : Int32} (ok : okS σ), w12_clear_L12 o0 Q K32 n σ x1 → (∃ (σ' : St), K32 σ' ∧ okS σ' ∧ Fr (mF [] [(43, o0)] [] []) σ σ' ∧ ∀ (Q9 : St → Prop) (K9_32 : St → Prop), K9_32 σ' → w12_clear_L12 o0 Q9 K9_32 n σ x1) := by
  intro n
  induction n with
  | zero =>
    intro σ x1 ok h
    exact False.elim h
  | succ n ih =>
    intro σ x1 ok h
    have fr : Fr (mF [] [(43, o0)] [] []) σ σ := Fr.rf
    have rb : ∀ (Q9 : St → Prop) (K9_32 : St → Prop), w12_clear_L12 o0 Q9 K9_32 (n + 1) σ x1 → w12_clear_L12 o0 Q9 K9_32 (n + 1) σ x1 := fun _ _ z => z
    by_cases hc : 4096 ≤ x1
    · have h := h.1 hc
      have rb := fun Q9 K9_32 z => rb Q9 K9_32 (br_t hc z)
      exact ⟨σ, h, ok, fr, fun Q9 K9_32 hq => rb Q9 K9_32 hq⟩
    have h := h.2 hc
    have rb := fun Q9 K9_32 z => rb Q9 K9_32 (br_f hc z)
    obtain ⟨hc, h⟩ := h
    have rb := fun Q9 K9_32 z => rb Q9 K9_32 (And.intro hc z)
    obtain ⟨σ3, e9⟩ : ∃ s : St, s = up3 σ 43 o0 x1.toNatClampNeg 0 := ⟨_, rfl⟩
    have h := h σ3 e9
    have rb := fun Q9 K9_32 z => rb Q9 K9_32 (nm_n e9 z)
    have ok : okS σ3 := by rw [e9]; exact (ok_z ok (tyk_a 43 1 (by decide) (by decide) _) (Or.inl rfl))
    have fr : Fr (mF [] [(43, o0)] [] []) σ σ3 := by rw [e9]; exact (Fr.up fr (mF_B (List.mem_of_getElem? (i := 0) rfl)))
    rcases ih ok h with ⟨σ', h, ok, fr9, rc⟩
    · exact ⟨σ', h, ok, fr.tr fr9, fun Q9 K9_32 hq => rb Q9 K9_32 (rc Q9 K9_32 hq)⟩
set_option maxHeartbeats 4000000 in
theorem e12_clear {σ : St} {o0 : Nat} {Q : St → Prop} (ho0 : o0 < 16) (ok : okS σ) (h : w12_clear σ o0 Q) : (∃ (σ' : St), Q σ' ∧ okS σ' ∧ Fr (mF [] [(43, o0)] [] [(12, o0, [2, 3])]) σ σ' ∧ ∀ (Q9 : St → Prop), Q9 σ' → w12_clear σ o0 Q9) := by
  have fr : Fr (mF [] [(43, o0)] [] [(12, o0, [2, 3])]) σ σ := Fr.rf
  have rb : ∀ (Q9 : St → Prop), w12_clear σ o0 Q9 → w12_clear σ o0 Q9 := fun _ z => z
  obtain ⟨σ1, e9⟩ : ∃ s : St, s = up3 σ 12 o0 2 0 := ⟨_, rfl⟩
  have h := h σ1 e9
  have rb := fun Q9 z => rb Q9 (nm_n e9 z)
  have ok : okS σ1 := by rw [e9]; exact (ok_n ok (by decide))
  have fr : Fr (mF [] [(43, o0)] [] [(12, o0, [2, 3])]) σ σ1 := by rw [e9]; exact (Fr.up fr (mF_D (List.mem_of_getElem? (i := 0) rfl) rfl))
  obtain ⟨σ2, e9⟩ : ∃ s : St, s = up3 σ1 12 o0 3 0 := ⟨_, rfl⟩
  have h := h σ2 e9
  have rb := fun Q9 z => rb Q9 (nm_n e9 z)
  have ok : okS σ2 := by rw [e9]; exact (ok_n ok (by decide))
  have fr : Fr (mF [] [(43, o0)] [] [(12, o0, [2, 3])]) σ σ2 := by rw [e9]; exact (Fr.up fr (mF_D (List.mem_of_getElem? (i := 0) rfl) rfl))
  obtain ⟨n9, h⟩ := h
  rcases e12_clear_L12 ho0 n9 ok h with ⟨σ5, h, ok, fr9, rc⟩
  · have rb := fun Q9 z => rb Q9 (Exists.intro n9 (rc _ _ z))
    have fr := fr.tr (fr9.sub (mF_sub rfl (sub_c (Or.inr (List.mem_of_getElem? (i := 0) rfl)) sub_nil) rfl sud_nil))
    exact ⟨σ5, h, ok, fr, fun Q9 hq => rb Q9 hq⟩
/-! WebHost$Inbox.put(IB)V -/
set_option maxHeartbeats 4000000 in
theorem e12_put {σ : St} {o0 : Nat} {x1 : Int32} {x2 : Int32} {Q : St → Prop} (ho0 : o0 < 16) (ok : okS σ) (h : w12_put σ o0 x1 x2 Q) : (∃ (σ' : St), Q σ' ∧ okS σ' ∧ Fr (mF [] [(42, o0), (43, o0)] [] []) σ σ' ∧ ∀ (Q9 : St → Prop), Q9 σ' → w12_put σ o0 x1 x2 Q9) := by
  have fr : Fr (mF [] [(42, o0), (43, o0)] [] []) σ σ := Fr.rf
  have rb : ∀ (Q9 : St → Prop), w12_put σ o0 x1 x2 Q9 → w12_put σ o0 x1 x2 Q9 := fun _ z => z
  obtain ⟨hc, h⟩ := h
  have rb := fun Q9 z => rb Q9 (And.intro hc z)
  have h := h ((ok 43 o0 _).1 (tyk_a 43 1 (by decide) (by decide) _))
  have rb := fun Q9 z => rb Q9 (im_n z)
  by_cases hc : (σ 43 o0 ((σ 12 o0 2) + x1).toNatClampNeg) = 0
  · have h := h.2 hc
    have rb := fun Q9 z => rb Q9 (br_u hc z)
    obtain ⟨hc, h⟩ := h
    have rb := fun Q9 z => rb Q9 (And.intro hc z)
    obtain ⟨σ2, e9⟩ : ∃ s : St, s = up3 σ 42 o0 ((σ 12 o0 2) + x1).toNatClampNeg x2.toInt8.toInt32 := ⟨_, rfl⟩
    have h := h σ2 e9
    have rb := fun Q9 z => rb Q9 (nm_n e9 z)
    have ok : okS σ2 := by rw [e9]; exact (ok_b ok (tyk_a 42 2 (by decide) (by decide) _))
    have fr : Fr (mF [] [(42, o0), (43, o0)] [] []) σ σ2 := by rw [e9]; exact (Fr.up fr (mF_B (List.mem_of_getElem? (i := 0) rfl)))
    obtain ⟨hc, h⟩ := h
    have rb := fun Q9 z => rb Q9 (And.intro hc z)
    obtain ⟨σ3, e9⟩ : ∃ s : St, s = up3 σ2 43 o0 ((σ 12 o0 2) + x1).toNatClampNeg 1 := ⟨_, rfl⟩
    have h := h σ3 e9
    have rb := fun Q9 z => rb Q9 (nm_n e9 z)
    have ok : okS σ3 := by rw [e9]; exact (ok_z ok (tyk_a 43 1 (by decide) (by decide) _) (Or.inr rfl))
    have fr : Fr (mF [] [(42, o0), (43, o0)] [] []) σ σ3 := by rw [e9]; exact (Fr.up fr (mF_B (List.mem_of_getElem? (i := 1) rfl)))
    exact ⟨σ3, h, ok, fr, fun Q9 hq => rb Q9 hq⟩
  have h := h.1 hc
  have rb := fun Q9 z => rb Q9 (br_v hc z)
  obtain ⟨hc, h⟩ := h
  have rb := fun Q9 z => rb Q9 (And.intro hc z)
  obtain ⟨σ1, e9⟩ : ∃ s : St, s = up3 σ 43 o0 ((σ 12 o0 2) + x1).toNatClampNeg 1 := ⟨_, rfl⟩
  have h := h σ1 e9
  have rb := fun Q9 z => rb Q9 (nm_n e9 z)
  have ok : okS σ1 := by rw [e9]; exact (ok_z ok (tyk_a 43 1 (by decide) (by decide) _) (Or.inr rfl))
  have fr : Fr (mF [] [(42, o0), (43, o0)] [] []) σ σ1 := by rw [e9]; exact (Fr.up fr (mF_B (List.mem_of_getElem? (i := 1) rfl)))
  exact ⟨σ1, h, ok, fr, fun Q9 hq => rb Q9 hq⟩
/-! WebHost$Inbox.take(I)V -/
set_option maxHeartbeats 4000000 in
theorem e12_take_L2 {o0 : Nat} {x1 : Int32} {Q : St → Prop} {K45 : St → Prop} (ho0 : o0 < 16) :
    ∀ (n : Nat) {σ : St} {x2 : Int32} (ok : okS σ), w12_take_L2 o0 x1 Q K45 n σ x2 → (∃ (σ' : St), K45 σ' ∧ okS σ' ∧ Fr (mF [] [(42, o0), (43, o0)] [] []) σ σ' ∧ ∀ (Q9 : St → Prop) (K9_45 : St → Prop), K9_45 σ' → w12_take_L2 o0 x1 Q9 K9_45 n σ x2) := by
  intro n
  induction n with
  | zero =>
    intro σ x2 ok h
    exact False.elim h
  | succ n ih =>
    intro σ x2 ok h
    have fr : Fr (mF [] [(42, o0), (43, o0)] [] []) σ σ := Fr.rf
    have rb : ∀ (Q9 : St → Prop) (K9_45 : St → Prop), w12_take_L2 o0 x1 Q9 K9_45 (n + 1) σ x2 → w12_take_L2 o0 x1 Q9 K9_45 (n + 1) σ x2 := fun _ _ z => z
    by_cases hc : 4096 ≤ (x2 + x1)
    · have h := h.1 hc
      have rb := fun Q9 K9_45 z => rb Q9 K9_45 (br_t hc z)
      exact ⟨σ, h, ok, fr, fun Q9 K9_45 hq => rb Q9 K9_45 hq⟩
    have h := h.2 hc
    have rb := fun Q9 K9_45 z => rb Q9 K9_45 (br_f hc z)
    obtain ⟨hc, h⟩ := h
    have rb := fun Q9 K9_45 z => rb Q9 K9_45 (And.intro hc z)
    have h := h ((ok 42 o0 _).2 (tyk_a 42 2 (by decide) (by decide) _))
    have rb := fun Q9 K9_45 z => rb Q9 K9_45 (im_n z)
    obtain ⟨hc, h⟩ := h
    have rb := fun Q9 K9_45 z => rb Q9 K9_45 (And.intro hc z)
    obtain ⟨σ1, e9⟩ : ∃ s : St, s = up3 σ 42 o0 x2.toNatClampNeg (σ 42 o0 (x2 + x1).toNatClampNeg).toInt8.toInt32 := ⟨_, rfl⟩
    have h := h σ1 e9
    have rb := fun Q9 K9_45 z => rb Q9 K9_45 (nm_n e9 z)
    have ok : okS σ1 := by rw [e9]; exact (ok_b ok (tyk_a 42 2 (by decide) (by decide) _))
    have fr : Fr (mF [] [(42, o0), (43, o0)] [] []) σ σ1 := by rw [e9]; exact (Fr.up fr (mF_B (List.mem_of_getElem? (i := 0) rfl)))
    obtain ⟨hc, h⟩ := h
    have rb := fun Q9 K9_45 z => rb Q9 K9_45 (And.intro hc z)
    have h := h ((ok 43 o0 _).1 (tyk_a 43 1 (by decide) (by decide) _))
    have rb := fun Q9 K9_45 z => rb Q9 K9_45 (im_n z)
    obtain ⟨hc, h⟩ := h
    have rb := fun Q9 K9_45 z => rb Q9 K9_45 (And.intro hc z)
    obtain ⟨hbo, h⟩ := h
    have rb := fun Q9 K9_45 z => rb Q9 K9_45 (And.intro hbo z)
    obtain ⟨σ2, e9⟩ : ∃ s : St, s = up3 σ1 43 o0 x2.toNatClampNeg (σ1 43 o0 (x2 + x1).toNatClampNeg) := ⟨_, rfl⟩
    have h := h σ2 e9
    have rb := fun Q9 K9_45 z => rb Q9 K9_45 (nm_n e9 z)
    have ok : okS σ2 := by rw [e9]; exact (ok_z ok (tyk_a 43 1 (by decide) (by decide) _) hbo)
    have fr : Fr (mF [] [(42, o0), (43, o0)] [] []) σ σ2 := by rw [e9]; exact (Fr.up fr (mF_B (List.mem_of_getElem? (i := 1) rfl)))
    rcases ih ok h with ⟨σ', h, ok, fr9, rc⟩
    · exact ⟨σ', h, ok, fr.tr fr9, fun Q9 K9_45 hq => rb Q9 K9_45 (rc Q9 K9_45 hq)⟩
set_option maxHeartbeats 4000000 in
theorem e12_take_L51 {o0 : Nat} {x1 : Int32} {Q : St → Prop} {K71 : St → Prop} (ho0 : o0 < 16) :
    ∀ (n : Nat) {σ : St} {x2 : Int32} (ok : okS σ), w12_take_L51 o0 x1 Q K71 n σ x2 → (∃ (σ' : St), K71 σ' ∧ okS σ' ∧ Fr (mF [] [(43, o0)] [] []) σ σ' ∧ ∀ (Q9 : St → Prop) (K9_71 : St → Prop), K9_71 σ' → w12_take_L51 o0 x1 Q9 K9_71 n σ x2) := by
  intro n
  induction n with
  | zero =>
    intro σ x2 ok h
    exact False.elim h
  | succ n ih =>
    intro σ x2 ok h
    have fr : Fr (mF [] [(43, o0)] [] []) σ σ := Fr.rf
    have rb : ∀ (Q9 : St → Prop) (K9_71 : St → Prop), w12_take_L51 o0 x1 Q9 K9_71 (n + 1) σ x2 → w12_take_L51 o0 x1 Q9 K9_71 (n + 1) σ x2 := fun _ _ z => z
    by_cases hc : 4096 ≤ x2
    · have h := h.1 hc
      have rb := fun Q9 K9_71 z => rb Q9 K9_71 (br_t hc z)
      exact ⟨σ, h, ok, fr, fun Q9 K9_71 hq => rb Q9 K9_71 hq⟩
    have h := h.2 hc
    have rb := fun Q9 K9_71 z => rb Q9 K9_71 (br_f hc z)
    obtain ⟨hc, h⟩ := h
    have rb := fun Q9 K9_71 z => rb Q9 K9_71 (And.intro hc z)
    obtain ⟨σ5, e9⟩ : ∃ s : St, s = up3 σ 43 o0 x2.toNatClampNeg 0 := ⟨_, rfl⟩
    have h := h σ5 e9
    have rb := fun Q9 K9_71 z => rb Q9 K9_71 (nm_n e9 z)
    have ok : okS σ5 := by rw [e9]; exact (ok_z ok (tyk_a 43 1 (by decide) (by decide) _) (Or.inl rfl))
    have fr : Fr (mF [] [(43, o0)] [] []) σ σ5 := by rw [e9]; exact (Fr.up fr (mF_B (List.mem_of_getElem? (i := 0) rfl)))
    rcases ih ok h with ⟨σ', h, ok, fr9, rc⟩
    · exact ⟨σ', h, ok, fr.tr fr9, fun Q9 K9_71 hq => rb Q9 K9_71 (rc Q9 K9_71 hq)⟩
set_option maxHeartbeats 4000000 in
theorem e12_take {σ : St} {o0 : Nat} {x1 : Int32} {Q : St → Prop} (ho0 : o0 < 16) (ok : okS σ) (h : w12_take σ o0 x1 Q) : (∃ (σ' : St), Q σ' ∧ okS σ' ∧ Fr (mF [] [(42, o0), (43, o0)] [] [(12, o0, [2])]) σ σ' ∧ ∀ (Q9 : St → Prop), Q9 σ' → w12_take σ o0 x1 Q9) := by
  have fr : Fr (mF [] [(42, o0), (43, o0)] [] [(12, o0, [2])]) σ σ := Fr.rf
  have rb : ∀ (Q9 : St → Prop), w12_take σ o0 x1 Q9 → w12_take σ o0 x1 Q9 := fun _ z => z
  obtain ⟨n9, h⟩ := h
  rcases e12_take_L2 ho0 n9 ok h with ⟨σ4, h, ok, fr9, rc⟩
  · have rb := fun Q9 z => rb Q9 (Exists.intro n9 (rc _ _ z))
    have fr := fr.tr (fr9.sub (mF_sub rfl (sub_c (Or.inr (List.mem_of_getElem? (i := 0) rfl)) (sub_c (Or.inr (List.mem_of_getElem? (i := 1) rfl)) sub_nil)) rfl sud_nil))
    obtain ⟨n9, h⟩ := h
    rcases e12_take_L51 ho0 n9 ok h with ⟨σ7, h, ok, fr9, rc⟩
    · have rb := fun Q9 z => rb Q9 (Exists.intro n9 (rc _ _ z))
      have fr := fr.tr (fr9.sub (mF_sub rfl (sub_c (Or.inr (List.mem_of_getElem? (i := 1) rfl)) sub_nil) rfl sud_nil))
      obtain ⟨σ8, e9⟩ : ∃ s : St, s = up3 σ7 12 o0 2 ((σ7 12 o0 2) - x1) := ⟨_, rfl⟩
      have h := h σ8 e9
      have rb := fun Q9 z => rb Q9 (nm_n e9 z)
      have ok : okS σ8 := by rw [e9]; exact (ok_n ok (by decide))
      have fr : Fr (mF [] [(42, o0), (43, o0)] [] [(12, o0, [2])]) σ σ8 := by rw [e9]; exact (Fr.up fr (mF_D (List.mem_of_getElem? (i := 0) rfl) rfl))
      exact ⟨σ8, h, ok, fr, fun Q9 hq => rb Q9 hq⟩
/-! WebHost$Inbox.window()I -/
set_option maxHeartbeats 4000000 in
theorem e12_window {σ : St} {o0 : Nat} {Q : Int32 → Prop} (ho0 : o0 < 16) (ok : okS σ) (h : w12_window σ o0 Q) : (∃ r : Int32, Q r ∧ ∀ (Q9 : Int32 → Prop), Q9 r → w12_window σ o0 Q9) := by
  have rb : ∀ (Q9 : Int32 → Prop), w12_window σ o0 Q9 → w12_window σ o0 Q9 := fun _ z => z
  exact ⟨(4096 - (σ 12 o0 2)), h, fun Q9 hq => rb Q9 hq⟩
/-! WebHost$Answer.clear()V -/
set_option maxHeartbeats 4000000 in
theorem e13_clear {σ : St} {o0 : Nat} {Q : St → Prop} (ho0 : o0 < 16) (ok : okS σ) (h : w13_clear σ o0 Q) : (∃ (σ' : St), Q σ' ∧ okS σ' ∧ Fr (mF [] [(44, o0), (90, (o0 + 1))] [] [(13, o0, [1])]) σ σ' ∧ ∀ (Q9 : St → Prop), Q9 σ' → w13_clear σ o0 Q9) := by
  have fr : Fr (mF [] [(44, o0), (90, (o0 + 1))] [] [(13, o0, [1])]) σ σ := Fr.rf
  have rb : ∀ (Q9 : St → Prop), w13_clear σ o0 Q9 → w13_clear σ o0 Q9 := fun _ z => z
  by_cases hc : (nI (σ 90 (o0 + 1) 0).toNatClampNeg) = 0
  · have h := h.2 hc
    have rb := fun Q9 z => rb Q9 (br_u hc z)
    obtain ⟨h1, h2, h3, h⟩ := h
    have rb := fun Q9 z => rb Q9 (And.intro h1 (And.intro h2 (And.intro h3 z)))
    obtain ⟨σ2, e9⟩ : ∃ s : St, s = nw44 σ o0 66047 := ⟨_, rfl⟩
    have h := h σ2 e9
    have rb := fun Q9 z => rb Q9 (nm_n e9 z)
    have ok : okS σ2 := by rw [e9]; exact (ok_nw44 ok)
    have fr : Fr (mF [] [(44, o0), (90, (o0 + 1))] [] [(13, o0, [1])]) σ σ2 := by rw [e9]; exact fr.nw44 (fun _ => (mF_B (List.mem_of_getElem? (i := 0) rfl))) (mF_B (List.mem_of_getElem? (i := 1) rfl))
    obtain ⟨σ3, e9⟩ : ∃ s : St, s = up3 σ2 13 o0 1 0 := ⟨_, rfl⟩
    have h := h σ3 e9
    have rb := fun Q9 z => rb Q9 (nm_n e9 z)
    have ok : okS σ3 := by rw [e9]; exact (ok_n ok (by decide))
    have fr : Fr (mF [] [(44, o0), (90, (o0 + 1))] [] [(13, o0, [1])]) σ σ3 := by rw [e9]; exact (Fr.up fr (mF_D (List.mem_of_getElem? (i := 0) rfl) rfl))
    exact ⟨σ3, h, ok, fr, fun Q9 hq => rb Q9 hq⟩
  have h := h.1 hc
  have rb := fun Q9 z => rb Q9 (br_v hc z)
  obtain ⟨σ1, e9⟩ : ∃ s : St, s = up3 σ 13 o0 1 0 := ⟨_, rfl⟩
  have h := h σ1 e9
  have rb := fun Q9 z => rb Q9 (nm_n e9 z)
  have ok : okS σ1 := by rw [e9]; exact (ok_n ok (by decide))
  have fr : Fr (mF [] [(44, o0), (90, (o0 + 1))] [] [(13, o0, [1])]) σ σ1 := by rw [e9]; exact (Fr.up fr (mF_D (List.mem_of_getElem? (i := 0) rfl) rfl))
  exact ⟨σ1, h, ok, fr, fun Q9 hq => rb Q9 hq⟩
/-! WebHost$Answer.put(I)V -/
set_option maxHeartbeats 4000000 in
theorem e13_put {σ : St} {o0 : Nat} {x1 : Int32} {Q : St → Prop} (ho0 : o0 < 16) (ok : okS σ) (h : w13_put σ o0 x1 Q) : (∃ (σ' : St), Q σ' ∧ okS σ' ∧ Fr (mF [] [(44, o0)] [] [(13, o0, [1])]) σ σ' ∧ ∀ (Q9 : St → Prop), Q9 σ' → w13_put σ o0 x1 Q9) := by
  have fr : Fr (mF [] [(44, o0)] [] [(13, o0, [1])]) σ σ := Fr.rf
  have rb : ∀ (Q9 : St → Prop), w13_put σ o0 x1 Q9 → w13_put σ o0 x1 Q9 := fun _ z => z
  obtain ⟨hc, h⟩ := h
  have rb := fun Q9 z => rb Q9 (And.intro hc z)
  obtain ⟨σ1, e9⟩ : ∃ s : St, s = up3 σ 44 o0 (σ 13 o0 1).toNatClampNeg x1.toInt8.toInt32.toInt8.toInt32 := ⟨_, rfl⟩
  have h := h σ1 e9
  have rb := fun Q9 z => rb Q9 (nm_n e9 z)
  have ok : okS σ1 := by rw [e9]; exact (ok_b ok (tyk_a 44 2 (by decide) (by decide) _))
  have fr : Fr (mF [] [(44, o0)] [] [(13, o0, [1])]) σ σ1 := by rw [e9]; exact (Fr.up fr (mF_B (List.mem_of_getElem? (i := 0) rfl)))
  obtain ⟨σ2, e9⟩ : ∃ s : St, s = up3 σ1 13 o0 1 ((σ1 13 o0 1) + 1) := ⟨_, rfl⟩
  have h := h σ2 e9
  have rb := fun Q9 z => rb Q9 (nm_n e9 z)
  have ok : okS σ2 := by rw [e9]; exact (ok_n ok (by decide))
  have fr : Fr (mF [] [(44, o0)] [] [(13, o0, [1])]) σ σ2 := by rw [e9]; exact (Fr.up fr (mF_D (List.mem_of_getElem? (i := 0) rfl) rfl))
  exact ⟨σ2, h, ok, fr, fun Q9 hq => rb Q9 hq⟩
/-! WebHost$Net.added(I[BII)I -/
set_option maxHeartbeats 4000000 in
theorem e19_added_L6 {σ : St} {k1 : Nat} {i1 : Nat} {x2 : Int32} {x3 : Int32} {Q : Int32 → Prop} {K56 : Int32 → Prop} (hk1 : abc k1 i1 = true) (ok : okS σ) :
    ∀ (n : Nat) {x4 : Int32} {x5 : Int32}, w19_added_L6 σ k1 i1 x2 x3 Q K56 n x4 x5 → (∃ (x4' : Int32), K56 x4' ∧ ∀ (Q9 : Int32 → Prop) (K9_56 : Int32 → Prop), K9_56 x4' → w19_added_L6 σ k1 i1 x2 x3 Q9 K9_56 n x4 x5) := by
  intro n
  induction n with
  | zero =>
    intro x4 x5 h
    exact False.elim h
  | succ n ih =>
    intro x4 x5 h
    have rb : ∀ (Q9 : Int32 → Prop) (K9_56 : Int32 → Prop), w19_added_L6 σ k1 i1 x2 x3 Q9 K9_56 (n + 1) x4 x5 → w19_added_L6 σ k1 i1 x2 x3 Q9 K9_56 (n + 1) x4 x5 := fun _ _ z => z
    by_cases hc : x3 ≤ x5
    · have h := h.1 hc
      have rb := fun Q9 K9_56 z => rb Q9 K9_56 (br_t hc z)
      exact ⟨x4, h, fun Q9 K9_56 hq => rb Q9 K9_56 hq⟩
    have h := h.2 hc
    have rb := fun Q9 K9_56 z => rb Q9 K9_56 (br_f hc z)
    by_cases hc : (x5 - x5 / 2 * 2) = 0
    · have h := h.2 hc
      have rb := fun Q9 K9_56 z => rb Q9 K9_56 (br_u hc z)
      obtain ⟨hc, h⟩ := h
      have rb := fun Q9 K9_56 z => rb Q9 K9_56 (And.intro hc z)
      have h := h ((ok k1 i1 _).2 ((ab_spec (abc_spec hk1).1).2.2.2.2.2.2.2 _))
      have rb := fun Q9 K9_56 z => rb Q9 K9_56 (im_n z)
      rcases ih h with ⟨x4, h, rc⟩
      · exact ⟨x4, h, fun Q9 K9_56 hq => rb Q9 K9_56 (rc Q9 K9_56 hq)⟩
    have h := h.1 hc
    have rb := fun Q9 K9_56 z => rb Q9 K9_56 (br_v hc z)
    obtain ⟨hc, h⟩ := h
    have rb := fun Q9 K9_56 z => rb Q9 K9_56 (And.intro hc z)
    have h := h ((ok k1 i1 _).2 ((ab_spec (abc_spec hk1).1).2.2.2.2.2.2.2 _))
    have rb := fun Q9 K9_56 z => rb Q9 K9_56 (im_n z)
    rcases ih h with ⟨x4, h, rc⟩
    · exact ⟨x4, h, fun Q9 K9_56 hq => rb Q9 K9_56 (rc Q9 K9_56 hq)⟩
set_option maxHeartbeats 4000000 in
theorem e19_added {σ : St} {x0 : Int32} {k1 : Nat} {i1 : Nat} {x2 : Int32} {x3 : Int32} {Q : Int32 → Prop} (hk1 : abc k1 i1 = true) (ok : okS σ) (h : w19_added σ x0 k1 i1 x2 x3 Q) : (∃ r : Int32, Q r ∧ ∀ (Q9 : Int32 → Prop), Q9 r → w19_added σ x0 k1 i1 x2 x3 Q9) := by
  have rb : ∀ (Q9 : Int32 → Prop), w19_added σ x0 k1 i1 x2 x3 Q9 → w19_added σ x0 k1 i1 x2 x3 Q9 := fun _ z => z
  obtain ⟨n9, h⟩ := h
  rcases e19_added_L6 hk1 ok n9 h with ⟨x4_2, h, rc⟩
  · have rb := fun Q9 z => rb Q9 (Exists.intro n9 (rc _ _ z))
    exact ⟨x4_2, h, fun Q9 hq => rb Q9 hq⟩
/-! WebHost$Net.copy([BI[BII)V -/
set_option maxHeartbeats 4000000 in
theorem e19_copy_L3 {k0 : Nat} {i0 : Nat} {x1 : Int32} {k2 : Nat} {i2 : Nat} {x3 : Int32} {x4 : Int32} {Q : St → Prop} {K28 : St → Prop} (hk0 : abc k0 i0 = true) (hk2 : abc k2 i2 = true) :
    ∀ (n : Nat) {σ : St} {x5 : Int32} (ok : okS σ), w19_copy_L3 k0 i0 x1 k2 i2 x3 x4 Q K28 n σ x5 → (∃ (σ' : St), K28 σ' ∧ okS σ' ∧ Fr (mR k2 i2) σ σ' ∧ ∀ (Q9 : St → Prop) (K9_28 : St → Prop), K9_28 σ' → w19_copy_L3 k0 i0 x1 k2 i2 x3 x4 Q9 K9_28 n σ x5) := by
  intro n
  induction n with
  | zero =>
    intro σ x5 ok h
    exact False.elim h
  | succ n ih =>
    intro σ x5 ok h
    have fr : Fr (mR k2 i2) σ σ := Fr.rf
    have rb : ∀ (Q9 : St → Prop) (K9_28 : St → Prop), w19_copy_L3 k0 i0 x1 k2 i2 x3 x4 Q9 K9_28 (n + 1) σ x5 → w19_copy_L3 k0 i0 x1 k2 i2 x3 x4 Q9 K9_28 (n + 1) σ x5 := fun _ _ z => z
    by_cases hc : x4 ≤ x5
    · have h := h.1 hc
      have rb := fun Q9 K9_28 z => rb Q9 K9_28 (br_t hc z)
      exact ⟨σ, h, ok, fr, fun Q9 K9_28 hq => rb Q9 K9_28 hq⟩
    have h := h.2 hc
    have rb := fun Q9 K9_28 z => rb Q9 K9_28 (br_f hc z)
    obtain ⟨hc, h⟩ := h
    have rb := fun Q9 K9_28 z => rb Q9 K9_28 (And.intro hc z)
    have h := h ((ok k0 i0 _).2 ((ab_spec (abc_spec hk0).1).2.2.2.2.2.2.2 _))
    have rb := fun Q9 K9_28 z => rb Q9 K9_28 (im_n z)
    obtain ⟨hc, h⟩ := h
    have rb := fun Q9 K9_28 z => rb Q9 K9_28 (And.intro hc z)
    obtain ⟨σ1, e9⟩ : ∃ s : St, s = up3 σ k2 i2 (x3 + x5).toNatClampNeg (σ k0 i0 (x1 + x5).toNatClampNeg).toInt8.toInt32 := ⟨_, rfl⟩
    have h := h σ1 e9
    have rb := fun Q9 K9_28 z => rb Q9 K9_28 (nm_n e9 z)
    have ok : okS σ1 := by rw [e9]; exact (ok_b ok ((ab_spec (abc_spec hk2).1).2.2.2.2.2.2.2 _))
    have fr : Fr (mR k2 i2) σ σ1 := by rw [e9]; exact (Fr.up fr mR_s)
    rcases ih ok h with ⟨σ', h, ok, fr9, rc⟩
    · exact ⟨σ', h, ok, fr.tr fr9, fun Q9 K9_28 hq => rb Q9 K9_28 (rc Q9 K9_28 hq)⟩
set_option maxHeartbeats 4000000 in
theorem e19_copy {σ : St} {k0 : Nat} {i0 : Nat} {x1 : Int32} {k2 : Nat} {i2 : Nat} {x3 : Int32} {x4 : Int32} {Q : St → Prop} (hk0 : abc k0 i0 = true) (hk2 : abc k2 i2 = true) (ok : okS σ) (h : w19_copy σ k0 i0 x1 k2 i2 x3 x4 Q) : (∃ (σ' : St), Q σ' ∧ okS σ' ∧ Fr (mR k2 i2) σ σ' ∧ ∀ (Q9 : St → Prop), Q9 σ' → w19_copy σ k0 i0 x1 k2 i2 x3 x4 Q9) := by
  have fr : Fr (mR k2 i2) σ σ := Fr.rf
  have rb : ∀ (Q9 : St → Prop), w19_copy σ k0 i0 x1 k2 i2 x3 x4 Q9 → w19_copy σ k0 i0 x1 k2 i2 x3 x4 Q9 := fun _ z => z
  obtain ⟨n9, h⟩ := h
  rcases e19_copy_L3 hk0 hk2 n9 ok h with ⟨σ3, h, ok, fr9, rc⟩
  · have rb := fun Q9 z => rb Q9 (Exists.intro n9 (rc _ _ z))
    have fr := fr.tr (fr9.sub (fun _ _ _ h => h))
    exact ⟨σ3, h, ok, fr, fun Q9 hq => rb Q9 hq⟩
/-! WebHost$Net.folded(I)I -/
set_option maxHeartbeats 4000000 in
theorem e19_folded_L2 {σ : St} {Q : Int32 → Prop} {K21 : Int32 → Prop} (ok : okS σ) :
    ∀ (n : Nat) {x1 : Int32}, w19_folded_L2 σ Q K21 n x1 → (∃ (x1' : Int32), K21 x1' ∧ ∀ (Q9 : Int32 → Prop) (K9_21 : Int32 → Prop), K9_21 x1' → w19_folded_L2 σ Q9 K9_21 n x1) := by
  intro n
  induction n with
  | zero =>
    intro x1 h
    exact False.elim h
  | succ n ih =>
    intro x1 h
    have rb : ∀ (Q9 : Int32 → Prop) (K9_21 : Int32 → Prop), w19_folded_L2 σ Q9 K9_21 (n + 1) x1 → w19_folded_L2 σ Q9 K9_21 (n + 1) x1 := fun _ _ z => z
    by_cases hc : x1 ≤ 65535
    · have h := h.1 hc
      have rb := fun Q9 K9_21 z => rb Q9 K9_21 (br_t hc z)
      exact ⟨x1, h, fun Q9 K9_21 hq => rb Q9 K9_21 hq⟩
    have h := h.2 hc
    have rb := fun Q9 K9_21 z => rb Q9 K9_21 (br_f hc z)
    rcases ih h with ⟨x1, h, rc⟩
    · exact ⟨x1, h, fun Q9 K9_21 hq => rb Q9 K9_21 (rc Q9 K9_21 hq)⟩
set_option maxHeartbeats 4000000 in
theorem e19_folded {σ : St} {x0 : Int32} {Q : Int32 → Prop} (ok : okS σ) (h : w19_folded σ x0 Q) : (∃ r : Int32, Q r ∧ ∀ (Q9 : Int32 → Prop), Q9 r → w19_folded σ x0 Q9) := by
  have rb : ∀ (Q9 : Int32 → Prop), w19_folded σ x0 Q9 → w19_folded σ x0 Q9 := fun _ z => z
  obtain ⟨n9, h⟩ := h
  rcases e19_folded_L2 ok n9 h with ⟨x1_2, h, rc⟩
  · have rb := fun Q9 z => rb Q9 (Exists.intro n9 (rc _ _ z))
    exact ⟨((x1_2 ^^^ (-1)) &&& 65535), h, fun Q9 hq => rb Q9 hq⟩
/-! WebHost$Net.isBefore(II)Z -/
set_option maxHeartbeats 4000000 in
theorem e19_isBefore {σ : St} {x0 : Int32} {x1 : Int32} {Q : Int32 → Prop} (ok : okS σ) (h : w19_isBefore σ x0 x1 Q) : (∃ r : Int32, Q r ∧ ∀ (Q9 : Int32 → Prop), Q9 r → w19_isBefore σ x0 x1 Q9) := by
  have rb : ∀ (Q9 : Int32 → Prop), w19_isBefore σ x0 x1 Q9 → w19_isBefore σ x0 x1 Q9 := fun _ z => z
  by_cases hc : 0 ≤ (x0 - x1)
  · have h := h.1 hc
    have rb := fun Q9 z => rb Q9 (br_t hc z)
    exact ⟨0, h, fun Q9 hq => rb Q9 hq⟩
  have h := h.2 hc
  have rb := fun Q9 z => rb Q9 (br_f hc z)
  exact ⟨1, h, fun Q9 hq => rb Q9 hq⟩
/-! WebHost$Net.isUsual(I)Z -/
set_option maxHeartbeats 4000000 in
theorem e19_isUsual {σ : St} {x0 : Int32} {Q : Int32 → Prop} (ok : okS σ) (h : w19_isUsual σ x0 Q) : (∃ r : Int32, Q r ∧ ∀ (Q9 : Int32 → Prop), Q9 r → w19_isUsual σ x0 Q9) := by
  have rb : ∀ (Q9 : Int32 → Prop), w19_isUsual σ x0 Q9 → w19_isUsual σ x0 Q9 := fun _ z => z
  by_cases hc : (ushr x0 24) < 1
  · have h := h.1 hc
    have rb := fun Q9 z => rb Q9 (br_t hc z)
    exact ⟨0, h, fun Q9 hq => rb Q9 hq⟩
  have h := h.2 hc
  have rb := fun Q9 z => rb Q9 (br_f hc z)
  by_cases hc : 223 < (ushr x0 24)
  · have h := h.1 hc
    have rb := fun Q9 z => rb Q9 (br_t hc z)
    exact ⟨0, h, fun Q9 hq => rb Q9 hq⟩
  have h := h.2 hc
  have rb := fun Q9 z => rb Q9 (br_f hc z)
  by_cases hc : (ushr x0 24) = 127
  · have h := h.1 hc
    have rb := fun Q9 z => rb Q9 (br_t hc z)
    exact ⟨0, h, fun Q9 hq => rb Q9 hq⟩
  have h := h.2 hc
  have rb := fun Q9 z => rb Q9 (br_f hc z)
  exact ⟨1, h, fun Q9 hq => rb Q9 hq⟩
/-! WebHost$Net.putTwo([BII)V -/
set_option maxHeartbeats 4000000 in
theorem e19_putTwo {σ : St} {k0 : Nat} {i0 : Nat} {x1 : Int32} {x2 : Int32} {Q : St → Prop} (hk0 : abc k0 i0 = true) (ok : okS σ) (h : w19_putTwo σ k0 i0 x1 x2 Q) : (∃ (σ' : St), Q σ' ∧ okS σ' ∧ Fr (mR k0 i0) σ σ' ∧ ∀ (Q9 : St → Prop), Q9 σ' → w19_putTwo σ k0 i0 x1 x2 Q9) := by
  have fr : Fr (mR k0 i0) σ σ := Fr.rf
  have rb : ∀ (Q9 : St → Prop), w19_putTwo σ k0 i0 x1 x2 Q9 → w19_putTwo σ k0 i0 x1 x2 Q9 := fun _ z => z
  obtain ⟨hc, h⟩ := h
  have rb := fun Q9 z => rb Q9 (And.intro hc z)
  obtain ⟨σ1, e9⟩ : ∃ s : St, s = up3 σ k0 i0 x1.toNatClampNeg ((x2 >>> ((8 : Int32) &&& 31)).toInt8.toInt32).toInt8.toInt32 := ⟨_, rfl⟩
  have h := h σ1 e9
  have rb := fun Q9 z => rb Q9 (nm_n e9 z)
  have ok : okS σ1 := by rw [e9]; exact (ok_b ok ((ab_spec (abc_spec hk0).1).2.2.2.2.2.2.2 _))
  have fr : Fr (mR k0 i0) σ σ1 := by rw [e9]; exact (Fr.up fr mR_s)
  obtain ⟨hc, h⟩ := h
  have rb := fun Q9 z => rb Q9 (And.intro hc z)
  obtain ⟨σ2, e9⟩ : ∃ s : St, s = up3 σ1 k0 i0 (x1 + 1).toNatClampNeg x2.toInt8.toInt32.toInt8.toInt32 := ⟨_, rfl⟩
  have h := h σ2 e9
  have rb := fun Q9 z => rb Q9 (nm_n e9 z)
  have ok : okS σ2 := by rw [e9]; exact (ok_b ok ((ab_spec (abc_spec hk0).1).2.2.2.2.2.2.2 _))
  have fr : Fr (mR k0 i0) σ σ2 := by rw [e9]; exact (Fr.up fr mR_s)
  exact ⟨σ2, h, ok, fr, fun Q9 hq => rb Q9 hq⟩
/-! WebHost$Net.two([BI)I -/
set_option maxHeartbeats 4000000 in
theorem e19_two {σ : St} {k0 : Nat} {i0 : Nat} {x1 : Int32} {Q : Int32 → Prop} (hk0 : abc k0 i0 = true) (ok : okS σ) (h : w19_two σ k0 i0 x1 Q) : (∃ r : Int32, Q r ∧ ∀ (Q9 : Int32 → Prop), Q9 r → w19_two σ k0 i0 x1 Q9) := by
  have rb : ∀ (Q9 : Int32 → Prop), w19_two σ k0 i0 x1 Q9 → w19_two σ k0 i0 x1 Q9 := fun _ z => z
  obtain ⟨hc, h⟩ := h
  have rb := fun Q9 z => rb Q9 (And.intro hc z)
  have h := h ((ok k0 i0 _).2 ((ab_spec (abc_spec hk0).1).2.2.2.2.2.2.2 _))
  have rb := fun Q9 z => rb Q9 (im_n z)
  obtain ⟨hc, h⟩ := h
  have rb := fun Q9 z => rb Q9 (And.intro hc z)
  have h := h ((ok k0 i0 _).2 ((ab_spec (abc_spec hk0).1).2.2.2.2.2.2.2 _))
  have rb := fun Q9 z => rb Q9 (im_n z)
  exact ⟨((((σ k0 i0 x1.toNatClampNeg) &&& 255) <<< ((8 : Int32) &&& 31)) ||| ((σ k0 i0 (x1 + 1).toNatClampNeg) &&& 255)), h, fun Q9 hq => rb Q9 hq⟩
/-! java/lang/StringLatin1.canEncode(I)Z -/
set_option maxHeartbeats 4000000 in
theorem eJ2_canEncode {x0 : Int32} {Q : Int32 → Prop} (h : wJ2_canEncode x0 Q) : (∃ r : Int32, Q r ∧ ∀ (Q9 : Int32 → Prop), Q9 r → wJ2_canEncode x0 Q9) := by
  have rb : ∀ (Q9 : Int32 → Prop), wJ2_canEncode x0 Q9 → wJ2_canEncode x0 Q9 := fun _ z => z
  by_cases hc : x0 < 0
  · have h := h.1 hc
    have rb := fun Q9 z => rb Q9 (br_t hc z)
    exact ⟨0, h, fun Q9 hq => rb Q9 hq⟩
  have h := h.2 hc
  have rb := fun Q9 z => rb Q9 (br_f hc z)
  by_cases hc : 255 < x0
  · have h := h.1 hc
    have rb := fun Q9 z => rb Q9 (br_t hc z)
    exact ⟨0, h, fun Q9 hq => rb Q9 hq⟩
  have h := h.2 hc
  have rb := fun Q9 z => rb Q9 (br_f hc z)
  exact ⟨1, h, fun Q9 hq => rb Q9 hq⟩
/-! jdk/internal/util/Preconditions.checkIndex(IILjava/util/function/BiFunction;)I -/
set_option maxHeartbeats 4000000 in
theorem eJ3_checkIndex {x0 : Int32} {x1 : Int32} {Q : Int32 → Prop} (h : wJ3_checkIndex x0 x1 Q) : (∃ r : Int32, Q r ∧ ∀ (Q9 : Int32 → Prop), Q9 r → wJ3_checkIndex x0 x1 Q9) := by
  have rb : ∀ (Q9 : Int32 → Prop), wJ3_checkIndex x0 x1 Q9 → wJ3_checkIndex x0 x1 Q9 := fun _ z => z
  by_cases hc : x0 < 0
  · have h := h.1 hc
    have rb := fun Q9 z => rb Q9 (br_t hc z)
    exact h.elim
  have h := h.2 hc
  have rb := fun Q9 z => rb Q9 (br_f hc z)
  by_cases hc : x0 < x1
  · have h := h.1 hc
    have rb := fun Q9 z => rb Q9 (br_t hc z)
    exact ⟨x0, h, fun Q9 hq => rb Q9 hq⟩
  have h := h.2 hc
  have rb := fun Q9 z => rb Q9 (br_f hc z)
  exact h.elim
/-! java/lang/String.coder()B -/
set_option maxHeartbeats 4000000 in
theorem eJ1_coder {t0 : Nat} {Q : Int32 → Prop} (ht0 : t0 < nS) (h : wJ1_coder t0 Q) : (∃ r : Int32, Q r ∧ ∀ (Q9 : Int32 → Prop), Q9 r → wJ1_coder t0 Q9) := by
  have rb : ∀ (Q9 : Int32 → Prop), wJ1_coder t0 Q9 → wJ1_coder t0 Q9 := fun _ z => z
  by_cases hc : (1 : Int32) = 0
  · have h := h.1 hc
    have rb := fun Q9 z => rb Q9 (br_t hc z)
    obtain ⟨hc, h⟩ := h
    have rb := fun Q9 z => rb Q9 (And.intro hc z)
    exact ⟨1, h, fun Q9 hq => rb Q9 hq⟩
  have h := h.2 hc
  have rb := fun Q9 z => rb Q9 (br_f hc z)
  obtain ⟨hc, h⟩ := h
  have rb := fun Q9 z => rb Q9 (And.intro hc z)
  exact ⟨0, h, fun Q9 hq => rb Q9 hq⟩
/-! java/lang/StringLatin1.indexOfChar([BIII)I -/
set_option maxHeartbeats 4000000 in
theorem eJ2_indexOfChar_L7 {t0 : Nat} {x3 : Int32} {x4 : Int32} {Q : Int32 → Prop} {K22 : Int32 → Prop} {K31 : Prop} (ht0 : t0 < nS) :
    ∀ (n : Nat) {x5 : Int32}, wJ2_indexOfChar_L7 t0 x3 x4 Q K22 K31 n x5 → (∃ (x5' : Int32), K22 x5' ∧ ∀ (Q9 : Int32 → Prop) (K9_22 : Int32 → Prop) (K9_31 : Prop), K9_22 x5' → wJ2_indexOfChar_L7 t0 x3 x4 Q9 K9_22 K9_31 n x5) ∨ (K31 ∧ ∀ (Q9 : Int32 → Prop) (K9_22 : Int32 → Prop) (K9_31 : Prop), K9_31 → wJ2_indexOfChar_L7 t0 x3 x4 Q9 K9_22 K9_31 n x5) := by
  intro n
  induction n with
  | zero =>
    intro x5 h
    exact False.elim h
  | succ n ih =>
    intro x5 h
    have rb : ∀ (Q9 : Int32 → Prop) (K9_22 : Int32 → Prop) (K9_31 : Prop), wJ2_indexOfChar_L7 t0 x3 x4 Q9 K9_22 K9_31 (n + 1) x5 → wJ2_indexOfChar_L7 t0 x3 x4 Q9 K9_22 K9_31 (n + 1) x5 := fun _ _ _ z => z
    by_cases hc : x3 ≤ x5
    · have h := h.1 hc
      have rb := fun Q9 K9_22 K9_31 z => rb Q9 K9_22 K9_31 (br_t hc z)
      exact (Or.inr ⟨h, fun Q9 K9_22 K9_31 hq => rb Q9 K9_22 K9_31 hq⟩)
    have h := h.2 hc
    have rb := fun Q9 K9_22 K9_31 z => rb Q9 K9_22 K9_31 (br_f hc z)
    obtain ⟨hc, h⟩ := h
    have rb := fun Q9 K9_22 K9_31 z => rb Q9 K9_22 K9_31 (And.intro hc z)
    by_cases hc : (sby t0 x5) = x4
    · have h := h.2 hc
      have rb := fun Q9 K9_22 K9_31 z => rb Q9 K9_22 K9_31 (br_u hc z)
      exact (Or.inl ⟨x5, h, fun Q9 K9_22 K9_31 hq => rb Q9 K9_22 K9_31 hq⟩)
    have h := h.1 hc
    have rb := fun Q9 K9_22 K9_31 z => rb Q9 K9_22 K9_31 (br_v hc z)
    rcases ih h with ⟨x5, h, rc⟩ | ⟨h, rc⟩
    · exact (Or.inl ⟨x5, h, fun Q9 K9_22 K9_31 hq => rb Q9 K9_22 K9_31 (rc Q9 K9_22 K9_31 hq)⟩)
    · exact (Or.inr ⟨h, fun Q9 K9_22 K9_31 hq => rb Q9 K9_22 K9_31 (rc Q9 K9_22 K9_31 hq)⟩)
set_option maxHeartbeats 4000000 in
theorem eJ2_indexOfChar {t0 : Nat} {x1 : Int32} {x2 : Int32} {x3 : Int32} {Q : Int32 → Prop} (ht0 : t0 < nS) (h : wJ2_indexOfChar t0 x1 x2 x3 Q) : (∃ r : Int32, Q r ∧ ∀ (Q9 : Int32 → Prop), Q9 r → wJ2_indexOfChar t0 x1 x2 x3 Q9) := by
  have rb : ∀ (Q9 : Int32 → Prop), wJ2_indexOfChar t0 x1 x2 x3 Q9 → wJ2_indexOfChar t0 x1 x2 x3 Q9 := fun _ z => z
  obtain ⟨n9, h⟩ := h
  rcases eJ2_indexOfChar_L7 ht0 n9 h with ⟨x5_2, h, rc⟩ | ⟨h, rc⟩
  · have rb := fun Q9 z => rb Q9 (Exists.intro n9 (rc _ _ _ z))
    exact ⟨x5_2, h, fun Q9 hq => rb Q9 hq⟩
  · have rb := fun Q9 z => rb Q9 (Exists.intro n9 (rc _ _ _ z))
    exact ⟨(-1), h, fun Q9 hq => rb Q9 hq⟩
/-! java/lang/String.isLatin1()Z -/
set_option maxHeartbeats 4000000 in
theorem eJ1_isLatin1 {t0 : Nat} {Q : Int32 → Prop} (ht0 : t0 < nS) (h : wJ1_isLatin1 t0 Q) : (∃ r : Int32, Q r ∧ ∀ (Q9 : Int32 → Prop), Q9 r → wJ1_isLatin1 t0 Q9) := by
  have rb : ∀ (Q9 : Int32 → Prop), wJ1_isLatin1 t0 Q9 → wJ1_isLatin1 t0 Q9 := fun _ z => z
  by_cases hc : (1 : Int32) = 0
  · have h := h.1 hc
    have rb := fun Q9 z => rb Q9 (br_t hc z)
    exact ⟨0, h, fun Q9 hq => rb Q9 hq⟩
  have h := h.2 hc
  have rb := fun Q9 z => rb Q9 (br_f hc z)
  by_cases hc : (0 : Int32) = 0
  · have h := h.2 hc
    have rb := fun Q9 z => rb Q9 (br_u hc z)
    exact ⟨1, h, fun Q9 hq => rb Q9 hq⟩
  have h := h.1 hc
  have rb := fun Q9 z => rb Q9 (br_v hc z)
  exact ⟨0, h, fun Q9 hq => rb Q9 hq⟩
/-! WebHostModel.added([BIIJ)J -/
set_option maxHeartbeats 4000000 in
theorem e14_added_L6 {σ : St} {k0 : Nat} {i0 : Nat} {x1 : Int32} {x2 : Int32} {Q : Int64 → Prop} {K48 : Int64 → Prop} (hk0 : abm k0 i0 = true) (ok : okS σ) :
    ∀ (n : Nat) {y5 : Int64} {x7 : Int32}, w14_added_L6 σ k0 i0 x1 x2 Q K48 n y5 x7 → (∃ (y5' : Int64), K48 y5' ∧ ∀ (Q9 : Int64 → Prop) (K9_48 : Int64 → Prop), K9_48 y5' → w14_added_L6 σ k0 i0 x1 x2 Q9 K9_48 n y5 x7) := by
  intro n
  induction n with
  | zero =>
    intro y5 x7 h
    exact False.elim h
  | succ n ih =>
    intro y5 x7 h
    have rb : ∀ (Q9 : Int64 → Prop) (K9_48 : Int64 → Prop), w14_added_L6 σ k0 i0 x1 x2 Q9 K9_48 (n + 1) y5 x7 → w14_added_L6 σ k0 i0 x1 x2 Q9 K9_48 (n + 1) y5 x7 := fun _ _ z => z
    by_cases hc : x2 ≤ x7
    · have h := h.1 hc
      have rb := fun Q9 K9_48 z => rb Q9 K9_48 (br_t hc z)
      exact ⟨y5, h, fun Q9 K9_48 hq => rb Q9 K9_48 hq⟩
    have h := h.2 hc
    have rb := fun Q9 K9_48 z => rb Q9 K9_48 (br_f hc z)
    obtain ⟨hc, h⟩ := h
    have rb := fun Q9 K9_48 z => rb Q9 K9_48 (And.intro hc z)
    have h := h ((ok k0 i0 _).2 ((ab_spec (abm_spec hk0).1).2.2.2.2.2.2.2 _))
    have rb := fun Q9 K9_48 z => rb Q9 K9_48 (im_n z)
    by_cases hc : (x7 - x7 / 2 * 2) = 0
    · have h := h.2 hc
      have rb := fun Q9 K9_48 z => rb Q9 K9_48 (br_u hc z)
      rcases ih h with ⟨y5, h, rc⟩
      · exact ⟨y5, h, fun Q9 K9_48 hq => rb Q9 K9_48 (rc Q9 K9_48 hq)⟩
    have h := h.1 hc
    have rb := fun Q9 K9_48 z => rb Q9 K9_48 (br_v hc z)
    rcases ih h with ⟨y5, h, rc⟩
    · exact ⟨y5, h, fun Q9 K9_48 hq => rb Q9 K9_48 (rc Q9 K9_48 hq)⟩
set_option maxHeartbeats 4000000 in
theorem e14_added {σ : St} {k0 : Nat} {i0 : Nat} {x1 : Int32} {x2 : Int32} {y3 : Int64} {Q : Int64 → Prop} (hk0 : abm k0 i0 = true) (ok : okS σ) (h : w14_added σ k0 i0 x1 x2 y3 Q) : (∃ r : Int64, Q r ∧ ∀ (Q9 : Int64 → Prop), Q9 r → w14_added σ k0 i0 x1 x2 y3 Q9) := by
  have rb : ∀ (Q9 : Int64 → Prop), w14_added σ k0 i0 x1 x2 y3 Q9 → w14_added σ k0 i0 x1 x2 y3 Q9 := fun _ z => z
  obtain ⟨n9, h⟩ := h
  rcases e14_added_L6 hk0 ok n9 h with ⟨y5_2, h, rc⟩
  · have rb := fun Q9 z => rb Q9 (Exists.intro n9 (rc _ _ z))
    exact ⟨y5_2, h, fun Q9 hq => rb Q9 hq⟩
/-! WebHostModel.askDue(LWebHostModel$Packet;)J -/
set_option maxHeartbeats 4000000 in
theorem e14_askDue {σ : St} {o0 : Nat} {Q : Int64 → Prop} (ho0 : o0 < 8) (ok : okS σ) (h : w14_askDue σ o0 Q) : (∃ r : Int64, Q r ∧ ∀ (Q9 : Int64 → Prop), Q9 r → w14_askDue σ o0 Q9) := by
  have rb : ∀ (Q9 : Int64 → Prop), w14_askDue σ o0 Q9 → w14_askDue σ o0 Q9 := fun _ z => z
  exact ⟨(((σ 17 o0 3).toInt64) + (1000 * ((σ 17 o0 4).toInt64))), h, fun Q9 hq => rb Q9 hq⟩
/-! WebHostModel.before(II)Z -/
set_option maxHeartbeats 4000000 in
theorem e14_before {σ : St} {x0 : Int32} {x1 : Int32} {Q : Int32 → Prop} (ok : okS σ) (h : w14_before σ x0 x1 Q) : (∃ r : Int32, Q r ∧ ∀ (Q9 : Int32 → Prop), Q9 r → w14_before σ x0 x1 Q9) := by
  have rb : ∀ (Q9 : Int32 → Prop), w14_before σ x0 x1 Q9 → w14_before σ x0 x1 Q9 := fun _ z => z
  by_cases hc : 0 ≤ (x0 - x1)
  · have h := h.1 hc
    have rb := fun Q9 z => rb Q9 (br_t hc z)
    exact ⟨0, h, fun Q9 hq => rb Q9 hq⟩
  have h := h.2 hc
  have rb := fun Q9 z => rb Q9 (br_f hc z)
  exact ⟨1, h, fun Q9 hq => rb Q9 hq⟩
/-! WebHostModel.check(II)I -/
set_option maxHeartbeats 4000000 in
theorem e14_check_L28 {σ : St} {x2 : Int32} {x4 : Int32} {Q : Int32 → Prop} {K61 : Int32 → Prop} (ok : okS σ) :
    ∀ (n : Nat) {x3 : Int32} {x5 : Int32}, w14_check_L28 σ x2 x4 Q K61 n x3 x5 → (∃ (x3' : Int32), K61 x3' ∧ ∀ (Q9 : Int32 → Prop) (K9_61 : Int32 → Prop), K9_61 x3' → w14_check_L28 σ x2 x4 Q9 K9_61 n x3 x5) := by
  intro n
  induction n with
  | zero =>
    intro x3 x5 h
    exact False.elim h
  | succ n ih =>
    intro x3 x5 h
    have rb : ∀ (Q9 : Int32 → Prop) (K9_61 : Int32 → Prop), w14_check_L28 σ x2 x4 Q9 K9_61 (n + 1) x3 x5 → w14_check_L28 σ x2 x4 Q9 K9_61 (n + 1) x3 x5 := fun _ _ z => z
    by_cases hc : 8 ≤ x5
    · have h := h.1 hc
      have rb := fun Q9 K9_61 z => rb Q9 K9_61 (br_t hc z)
      exact ⟨x3, h, fun Q9 K9_61 hq => rb Q9 K9_61 hq⟩
    have h := h.2 hc
    have rb := fun Q9 K9_61 z => rb Q9 K9_61 (br_f hc z)
    by_cases hc : (x3 &&& 1) = 1
    · have h := h.2 hc
      have rb := fun Q9 K9_61 z => rb Q9 K9_61 (br_u hc z)
      rcases ih h with ⟨x3, h, rc⟩
      · exact ⟨x3, h, fun Q9 K9_61 hq => rb Q9 K9_61 (rc Q9 K9_61 hq)⟩
    have h := h.1 hc
    have rb := fun Q9 K9_61 z => rb Q9 K9_61 (br_v hc z)
    rcases ih h with ⟨x3, h, rc⟩
    · exact ⟨x3, h, fun Q9 K9_61 hq => rb Q9 K9_61 (rc Q9 K9_61 hq)⟩
set_option maxHeartbeats 4000000 in
theorem e14_check_L5 {σ : St} {x2 : Int32} {Q : Int32 → Prop} {K67 : Int32 → Prop} (ok : okS σ) :
    ∀ (n : Nat) {x3 : Int32} {x4 : Int32}, w14_check_L5 σ x2 Q K67 n x3 x4 → (∃ (x3' : Int32), K67 x3' ∧ ∀ (Q9 : Int32 → Prop) (K9_67 : Int32 → Prop), K9_67 x3' → w14_check_L5 σ x2 Q9 K9_67 n x3 x4) := by
  intro n
  induction n with
  | zero =>
    intro x3 x4 h
    exact False.elim h
  | succ n ih =>
    intro x3 x4 h
    have rb : ∀ (Q9 : Int32 → Prop) (K9_67 : Int32 → Prop), w14_check_L5 σ x2 Q9 K9_67 (n + 1) x3 x4 → w14_check_L5 σ x2 Q9 K9_67 (n + 1) x3 x4 := fun _ _ z => z
    by_cases hc : x2 ≤ x4
    · have h := h.1 hc
      have rb := fun Q9 K9_67 z => rb Q9 K9_67 (br_t hc z)
      exact ⟨x3, h, fun Q9 K9_67 hq => rb Q9 K9_67 hq⟩
    have h := h.2 hc
    have rb := fun Q9 K9_67 z => rb Q9 K9_67 (br_f hc z)
    obtain ⟨hc, h⟩ := h
    have rb := fun Q9 K9_67 z => rb Q9 K9_67 (And.intro hc z)
    have h := h ((ok 51 0 _).2 (tyk_a 51 2 (by decide) (by decide) _))
    have rb := fun Q9 K9_67 z => rb Q9 K9_67 (im_n z)
    obtain ⟨n9, h⟩ := h
    rcases e14_check_L28 ok n9 h with ⟨x3_2, h, rc⟩
    · have rb := fun Q9 K9_67 z => rb Q9 K9_67 (Exists.intro n9 (rc _ _ z))
      rcases ih h with ⟨x3, h, rc⟩
      · exact ⟨x3, h, fun Q9 K9_67 hq => rb Q9 K9_67 (rc Q9 K9_67 hq)⟩
set_option maxHeartbeats 4000000 in
theorem e14_check {σ : St} {x1 : Int32} {x2 : Int32} {Q : Int32 → Prop} (ok : okS σ) (h : w14_check σ x1 x2 Q) : (∃ r : Int32, Q r ∧ ∀ (Q9 : Int32 → Prop), Q9 r → w14_check σ x1 x2 Q9) := by
  have rb : ∀ (Q9 : Int32 → Prop), w14_check σ x1 x2 Q9 → w14_check σ x1 x2 Q9 := fun _ z => z
  obtain ⟨n9, h⟩ := h
  rcases e14_check_L5 ok n9 h with ⟨x3_4, h, rc⟩
  · have rb := fun Q9 z => rb Q9 (Exists.intro n9 (rc _ _ z))
    exact ⟨(x3_4 ^^^ (-1)), h, fun Q9 hq => rb Q9 hq⟩
/-! WebHostModel.code(LWebHostModel$Connection;I)V -/
set_option maxHeartbeats 4000000 in
theorem e14_code {σ : St} {o1 : Nat} {x2 : Int32} {Q : St → Prop} (ho1 : o1 < 16) (ok : okS σ) (h : w14_code σ o1 x2 Q) : (∃ (σ' : St), Q σ' ∧ okS σ' ∧ Fr (mF [] [(71, o1)] [] [(15, o1, [26])]) σ σ' ∧ ∀ (Q9 : St → Prop), Q9 σ' → w14_code σ o1 x2 Q9) := by
  have fr : Fr (mF [] [(71, o1)] [] [(15, o1, [26])]) σ σ := Fr.rf
  have rb : ∀ (Q9 : St → Prop), w14_code σ o1 x2 Q9 → w14_code σ o1 x2 Q9 := fun _ z => z
  obtain ⟨hc, h⟩ := h
  have rb := fun Q9 z => rb Q9 (And.intro hc z)
  obtain ⟨σ1, e9⟩ : ∃ s : St, s = up3 σ 71 o1 (σ 15 o1 26).toNatClampNeg x2.toInt8.toInt32.toInt8.toInt32 := ⟨_, rfl⟩
  have h := h σ1 e9
  have rb := fun Q9 z => rb Q9 (nm_n e9 z)
  have ok : okS σ1 := by rw [e9]; exact (ok_b ok (tyk_a 71 2 (by decide) (by decide) _))
  have fr : Fr (mF [] [(71, o1)] [] [(15, o1, [26])]) σ σ1 := by rw [e9]; exact (Fr.up fr (mF_B (List.mem_of_getElem? (i := 0) rfl)))
  obtain ⟨σ2, e9⟩ : ∃ s : St, s = up3 σ1 15 o1 26 ((σ1 15 o1 26) + 1) := ⟨_, rfl⟩
  have h := h σ2 e9
  have rb := fun Q9 z => rb Q9 (nm_n e9 z)
  have ok : okS σ2 := by rw [e9]; exact (ok_n ok (by decide))
  have fr : Fr (mF [] [(71, o1)] [] [(15, o1, [26])]) σ σ2 := by rw [e9]; exact (Fr.up fr (mF_D (List.mem_of_getElem? (i := 0) rfl) rfl))
  exact ⟨σ2, h, ok, fr, fun Q9 hq => rb Q9 hq⟩
/-! WebHostModel.counted(I)I -/
set_option maxHeartbeats 4000000 in
theorem e14_counted {σ : St} {x1 : Int32} {Q : Int32 → Prop} (ok : okS σ) (h : w14_counted σ x1 Q) : (∃ r : Int32, Q r ∧ ∀ (Q9 : Int32 → Prop), Q9 r → w14_counted σ x1 Q9) := by
  have rb : ∀ (Q9 : Int32 → Prop), w14_counted σ x1 Q9 → w14_counted σ x1 Q9 := fun _ z => z
  have h := h ((ok 14 0 4).1 (by decide))
  have rb := fun Q9 z => rb Q9 (im_n z)
  by_cases hc : (σ 14 0 4) = 0
  · have h := h.1 hc
    have rb := fun Q9 z => rb Q9 (br_t hc z)
    exact ⟨(-1), h, fun Q9 hq => rb Q9 hq⟩
  have h := h.2 hc
  have rb := fun Q9 z => rb Q9 (br_f hc z)
  by_cases hc : x1 < 0
  · have h := h.1 hc
    have rb := fun Q9 z => rb Q9 (br_t hc z)
    exact ⟨(-1), h, fun Q9 hq => rb Q9 hq⟩
  have h := h.2 hc
  have rb := fun Q9 z => rb Q9 (br_f hc z)
  by_cases hc : 8 ≤ x1
  · have h := h.1 hc
    have rb := fun Q9 z => rb Q9 (br_t hc z)
    exact ⟨(-1), h, fun Q9 hq => rb Q9 hq⟩
  have h := h.2 hc
  have rb := fun Q9 z => rb Q9 (br_f hc z)
  obtain ⟨hc, h⟩ := h
  have rb := fun Q9 z => rb Q9 (And.intro hc z)
  exact ⟨(σ 56 0 x1.toNatClampNeg), h, fun Q9 hq => rb Q9 hq⟩
/-! WebHostModel.end(I)I -/
set_option maxHeartbeats 4000000 in
theorem e14_end {σ : St} {x1 : Int32} {Q : Int32 → St → Prop} (ok : okS σ) (h : w14_end σ x1 Q) : (∃ (r : Int32) (σ' : St), Q r σ' ∧ okS σ' ∧ Fr (mF [] [] [(14, [1])] []) σ σ' ∧ ∀ (Q9 : Int32 → St → Prop), Q9 r σ' → w14_end σ x1 Q9) := by
  have fr : Fr (mF [] [] [(14, [1])] []) σ σ := Fr.rf
  have rb : ∀ (Q9 : Int32 → St → Prop), w14_end σ x1 Q9 → w14_end σ x1 Q9 := fun _ z => z
  by_cases hc : x1 < 0
  · have h := h.1 hc
    have rb := fun Q9 z => rb Q9 (br_t hc z)
    exact ⟨(-1), σ, h, ok, fr, fun Q9 hq => rb Q9 hq⟩
  have h := h.2 hc
  have rb := fun Q9 z => rb Q9 (br_f hc z)
  by_cases hc : x1 ≤ (σ 14 0 1)
  · have h := h.1 hc
    have rb := fun Q9 z => rb Q9 (br_t hc z)
    obtain ⟨σ1, e9⟩ : ∃ s : St, s = up3 σ 14 0 1 x1 := ⟨_, rfl⟩
    have h := h σ1 e9
    have rb := fun Q9 z => rb Q9 (nm_n e9 z)
    have ok : okS σ1 := by rw [e9]; exact (ok_n ok (by decide))
    have fr : Fr (mF [] [] [(14, [1])] []) σ σ1 := by rw [e9]; exact (Fr.up fr (mF_C (List.mem_of_getElem? (i := 0) rfl) rfl))
    exact ⟨x1, σ1, h, ok, fr, fun Q9 hq => rb Q9 hq⟩
  have h := h.2 hc
  have rb := fun Q9 z => rb Q9 (br_f hc z)
  exact ⟨(-1), σ, h, ok, fr, fun Q9 hq => rb Q9 hq⟩
/-! WebHostModel.entry(I)LWebHostModel$Entry; -/
set_option maxHeartbeats 4000000 in
theorem e14_entry_L2 {σ : St} {x1 : Int32} {Q : Option Nat → Prop} {K33 : Int32 → Prop} {K46 : Prop} (ok : okS σ) :
    ∀ (n : Nat) {x2 : Int32}, w14_entry_L2 σ x1 Q K33 K46 n x2 → (∃ (x2' : Int32), K33 x2' ∧ ∀ (Q9 : Option Nat → Prop) (K9_33 : Int32 → Prop) (K9_46 : Prop), K9_33 x2' → w14_entry_L2 σ x1 Q9 K9_33 K9_46 n x2) ∨ (K46 ∧ ∀ (Q9 : Option Nat → Prop) (K9_33 : Int32 → Prop) (K9_46 : Prop), K9_46 → w14_entry_L2 σ x1 Q9 K9_33 K9_46 n x2) := by
  intro n
  induction n with
  | zero =>
    intro x2 h
    exact False.elim h
  | succ n ih =>
    intro x2 h
    have rb : ∀ (Q9 : Option Nat → Prop) (K9_33 : Int32 → Prop) (K9_46 : Prop), w14_entry_L2 σ x1 Q9 K9_33 K9_46 (n + 1) x2 → w14_entry_L2 σ x1 Q9 K9_33 K9_46 (n + 1) x2 := fun _ _ _ z => z
    by_cases hc : 16 ≤ x2
    · have h := h.1 hc
      have rb := fun Q9 K9_33 K9_46 z => rb Q9 K9_33 K9_46 (br_t hc z)
      exact (Or.inr ⟨h, fun Q9 K9_33 K9_46 hq => rb Q9 K9_33 K9_46 hq⟩)
    have h := h.2 hc
    have rb := fun Q9 K9_33 K9_46 z => rb Q9 K9_33 K9_46 (br_f hc z)
    obtain ⟨hc, h⟩ := h
    have rb := fun Q9 K9_33 K9_46 z => rb Q9 K9_33 K9_46 (And.intro hc z)
    have hq1 := vp_lt hc
    have h := h ((ok 16 x2.toNatClampNeg 0).1 (by decide))
    have rb := fun Q9 K9_33 K9_46 z => rb Q9 K9_33 K9_46 (im_n z)
    by_cases hc : (σ 16 x2.toNatClampNeg 0) = 0
    · have h := h.1 hc
      have rb := fun Q9 K9_33 K9_46 z => rb Q9 K9_33 K9_46 (br_t hc z)
      rcases ih h with ⟨x2, h, rc⟩ | ⟨h, rc⟩
      · exact (Or.inl ⟨x2, h, fun Q9 K9_33 K9_46 hq => rb Q9 K9_33 K9_46 (rc Q9 K9_33 K9_46 hq)⟩)
      · exact (Or.inr ⟨h, fun Q9 K9_33 K9_46 hq => rb Q9 K9_33 K9_46 (rc Q9 K9_33 K9_46 hq)⟩)
    have h := h.2 hc
    have rb := fun Q9 K9_33 K9_46 z => rb Q9 K9_33 K9_46 (br_f hc z)
    obtain ⟨hc, h⟩ := h
    have rb := fun Q9 K9_33 K9_46 z => rb Q9 K9_33 K9_46 (And.intro hc z)
    have hq2 := vp_lt hc
    by_cases hc : (σ 16 x2.toNatClampNeg 1) = x1
    · have h := h.2 hc
      have rb := fun Q9 K9_33 K9_46 z => rb Q9 K9_33 K9_46 (br_u hc z)
      exact (Or.inl ⟨x2, h, fun Q9 K9_33 K9_46 hq => rb Q9 K9_33 K9_46 hq⟩)
    have h := h.1 hc
    have rb := fun Q9 K9_33 K9_46 z => rb Q9 K9_33 K9_46 (br_v hc z)
    rcases ih h with ⟨x2, h, rc⟩ | ⟨h, rc⟩
    · exact (Or.inl ⟨x2, h, fun Q9 K9_33 K9_46 hq => rb Q9 K9_33 K9_46 (rc Q9 K9_33 K9_46 hq)⟩)
    · exact (Or.inr ⟨h, fun Q9 K9_33 K9_46 hq => rb Q9 K9_33 K9_46 (rc Q9 K9_33 K9_46 hq)⟩)
set_option maxHeartbeats 4000000 in
theorem e14_entry {σ : St} {x1 : Int32} {Q : Option Nat → Prop} (ok : okS σ) (h : w14_entry σ x1 Q) : (∃ r : Option Nat, Q r ∧ ∀ (Q9 : Option Nat → Prop), Q9 r → w14_entry σ x1 Q9) := by
  have rb : ∀ (Q9 : Option Nat → Prop), w14_entry σ x1 Q9 → w14_entry σ x1 Q9 := fun _ z => z
  obtain ⟨n9, h⟩ := h
  rcases e14_entry_L2 ok n9 h with ⟨x2_4, h, rc⟩ | ⟨h, rc⟩
  · have rb := fun Q9 z => rb Q9 (Exists.intro n9 (rc _ _ _ z))
    obtain ⟨hc, h⟩ := h
    have rb := fun Q9 z => rb Q9 (And.intro hc z)
    have hq6 := vp_lt hc
    exact ⟨(some x2_4.toNatClampNeg), h, fun Q9 hq => rb Q9 hq⟩
  · have rb := fun Q9 z => rb Q9 (Exists.intro n9 (rc _ _ _ z))
    exact ⟨none, h, fun Q9 hq => rb Q9 hq⟩
/-! WebHostModel.found()I -/
set_option maxHeartbeats 4000000 in
theorem e14_found_L23 {σ : St} {x1 : Int32} {Q : Int32 → Prop} {K77 : Int32 → Prop} (ok : okS σ) :
    ∀ (n : Nat) {x2 : Int32} {x3 : Int32}, w14_found_L23 σ x1 Q K77 n x2 x3 → (∃ (x2' : Int32), K77 x2' ∧ ∀ (Q9 : Int32 → Prop) (K9_77 : Int32 → Prop), K9_77 x2' → w14_found_L23 σ x1 Q9 K9_77 n x2 x3) := by
  intro n
  induction n with
  | zero =>
    intro x2 x3 h
    exact False.elim h
  | succ n ih =>
    intro x2 x3 h
    have rb : ∀ (Q9 : Int32 → Prop) (K9_77 : Int32 → Prop), w14_found_L23 σ x1 Q9 K9_77 (n + 1) x2 x3 → w14_found_L23 σ x1 Q9 K9_77 (n + 1) x2 x3 := fun _ _ z => z
    by_cases hc : 48 ≤ x3
    · have h := h.1 hc
      have rb := fun Q9 K9_77 z => rb Q9 K9_77 (br_t hc z)
      exact ⟨x2, h, fun Q9 K9_77 hq => rb Q9 K9_77 hq⟩
    have h := h.2 hc
    have rb := fun Q9 K9_77 z => rb Q9 K9_77 (br_f hc z)
    by_cases hc : x2 = 0
    · have h := h.1 hc
      have rb := fun Q9 K9_77 z => rb Q9 K9_77 (br_t hc z)
      rcases ih h with ⟨x2, h, rc⟩
      · exact ⟨x2, h, fun Q9 K9_77 hq => rb Q9 K9_77 (rc Q9 K9_77 hq)⟩
    have h := h.2 hc
    have rb := fun Q9 K9_77 z => rb Q9 K9_77 (br_f hc z)
    obtain ⟨hc, h⟩ := h
    have rb := fun Q9 K9_77 z => rb Q9 K9_77 (And.intro hc z)
    have h := h ((ok 52 0 _).2 (tyk_a 52 2 (by decide) (by decide) _))
    have rb := fun Q9 K9_77 z => rb Q9 K9_77 (im_n z)
    by_cases hc : (σ 14 0 59) ≤ x3
    · have h := h.1 hc
      have rb := fun Q9 K9_77 z => rb Q9 K9_77 (br_t hc z)
      by_cases hc : (σ 52 0 ((48 * x1) + x3).toNatClampNeg) = 0
      · have h := h.2 hc
        have rb := fun Q9 K9_77 z => rb Q9 K9_77 (br_u hc z)
        rcases ih h with ⟨x2, h, rc⟩
        · exact ⟨x2, h, fun Q9 K9_77 hq => rb Q9 K9_77 (rc Q9 K9_77 hq)⟩
      have h := h.1 hc
      have rb := fun Q9 K9_77 z => rb Q9 K9_77 (br_v hc z)
      rcases ih h with ⟨x2, h, rc⟩
      · exact ⟨x2, h, fun Q9 K9_77 hq => rb Q9 K9_77 (rc Q9 K9_77 hq)⟩
    have h := h.2 hc
    have rb := fun Q9 K9_77 z => rb Q9 K9_77 (br_f hc z)
    obtain ⟨hc, h⟩ := h
    have rb := fun Q9 K9_77 z => rb Q9 K9_77 (And.intro hc z)
    have h := h ((ok 67 0 _).2 (tyk_a 67 2 (by decide) (by decide) _))
    have rb := fun Q9 K9_77 z => rb Q9 K9_77 (im_n z)
    by_cases hc : (σ 52 0 ((48 * x1) + x3).toNatClampNeg) = (σ 67 0 x3.toNatClampNeg)
    · have h := h.2 hc
      have rb := fun Q9 K9_77 z => rb Q9 K9_77 (br_u hc z)
      rcases ih h with ⟨x2, h, rc⟩
      · exact ⟨x2, h, fun Q9 K9_77 hq => rb Q9 K9_77 (rc Q9 K9_77 hq)⟩
    have h := h.1 hc
    have rb := fun Q9 K9_77 z => rb Q9 K9_77 (br_v hc z)
    rcases ih h with ⟨x2, h, rc⟩
    · exact ⟨x2, h, fun Q9 K9_77 hq => rb Q9 K9_77 (rc Q9 K9_77 hq)⟩
set_option maxHeartbeats 4000000 in
theorem e14_found_L2 {σ : St} {Q : Int32 → Prop} {K81 : Int32 → Prop} {K89 : Prop} (ok : okS σ) :
    ∀ (n : Nat) {x1 : Int32}, w14_found_L2 σ Q K81 K89 n x1 → (∃ (x1' : Int32), K81 x1' ∧ ∀ (Q9 : Int32 → Prop) (K9_81 : Int32 → Prop) (K9_89 : Prop), K9_81 x1' → w14_found_L2 σ Q9 K9_81 K9_89 n x1) ∨ (K89 ∧ ∀ (Q9 : Int32 → Prop) (K9_81 : Int32 → Prop) (K9_89 : Prop), K9_89 → w14_found_L2 σ Q9 K9_81 K9_89 n x1) := by
  intro n
  induction n with
  | zero =>
    intro x1 h
    exact False.elim h
  | succ n ih =>
    intro x1 h
    have rb : ∀ (Q9 : Int32 → Prop) (K9_81 : Int32 → Prop) (K9_89 : Prop), w14_found_L2 σ Q9 K9_81 K9_89 (n + 1) x1 → w14_found_L2 σ Q9 K9_81 K9_89 (n + 1) x1 := fun _ _ _ z => z
    by_cases hc : (σ 14 0 11) ≤ x1
    · have h := h.1 hc
      have rb := fun Q9 K9_81 K9_89 z => rb Q9 K9_81 K9_89 (br_t hc z)
      exact (Or.inr ⟨h, fun Q9 K9_81 K9_89 hq => rb Q9 K9_81 K9_89 hq⟩)
    have h := h.2 hc
    have rb := fun Q9 K9_81 K9_89 z => rb Q9 K9_81 K9_89 (br_f hc z)
    by_cases hc : 48 ≤ (σ 14 0 59)
    · have h := h.1 hc
      have rb := fun Q9 K9_81 K9_89 z => rb Q9 K9_81 K9_89 (br_t hc z)
      exact (Or.inr ⟨h, fun Q9 K9_81 K9_89 hq => rb Q9 K9_81 K9_89 hq⟩)
    have h := h.2 hc
    have rb := fun Q9 K9_81 K9_89 z => rb Q9 K9_81 K9_89 (br_f hc z)
    obtain ⟨n9, h⟩ := h
    rcases e14_found_L23 ok n9 h with ⟨x2_2, h, rc⟩
    · have rb := fun Q9 K9_81 K9_89 z => rb Q9 K9_81 K9_89 (Exists.intro n9 (rc _ _ z))
      by_cases hc : x2_2 = 0
      · have h := h.1 hc
        have rb := fun Q9 K9_81 K9_89 z => rb Q9 K9_81 K9_89 (br_t hc z)
        rcases ih h with ⟨x1, h, rc⟩ | ⟨h, rc⟩
        · exact (Or.inl ⟨x1, h, fun Q9 K9_81 K9_89 hq => rb Q9 K9_81 K9_89 (rc Q9 K9_81 K9_89 hq)⟩)
        · exact (Or.inr ⟨h, fun Q9 K9_81 K9_89 hq => rb Q9 K9_81 K9_89 (rc Q9 K9_81 K9_89 hq)⟩)
      have h := h.2 hc
      have rb := fun Q9 K9_81 K9_89 z => rb Q9 K9_81 K9_89 (br_f hc z)
      exact (Or.inl ⟨x1, h, fun Q9 K9_81 K9_89 hq => rb Q9 K9_81 K9_89 hq⟩)
set_option maxHeartbeats 4000000 in
theorem e14_found {σ : St} {Q : Int32 → Prop} (ok : okS σ) (h : w14_found σ Q) : (∃ r : Int32, Q r ∧ ∀ (Q9 : Int32 → Prop), Q9 r → w14_found σ Q9) := by
  have rb : ∀ (Q9 : Int32 → Prop), w14_found σ Q9 → w14_found σ Q9 := fun _ z => z
  obtain ⟨n9, h⟩ := h
  rcases e14_found_L2 ok n9 h with ⟨x1_4, h, rc⟩ | ⟨h, rc⟩
  · have rb := fun Q9 z => rb Q9 (Exists.intro n9 (rc _ _ _ z))
    exact ⟨x1_4, h, fun Q9 hq => rb Q9 hq⟩
  · have rb := fun Q9 z => rb Q9 (Exists.intro n9 (rc _ _ _ z))
    exact ⟨(-1), h, fun Q9 hq => rb Q9 hq⟩
/-! WebHostModel.gone(LWebHostModel$Connection;)V -/
set_option maxHeartbeats 4000000 in
theorem e14_gone {σ : St} {o1 : Nat} {Q : St → Prop} (ho1 : o1 < 16) (ok : okS σ) (h : w14_gone σ o1 Q) : (∃ (σ' : St), Q σ' ∧ okS σ' ∧ Fr (mF [] [] [] [(15, o1, [0, 21])]) σ σ' ∧ ∀ (Q9 : St → Prop), Q9 σ' → w14_gone σ o1 Q9) := by
  have fr : Fr (mF [] [] [] [(15, o1, [0, 21])]) σ σ := Fr.rf
  have rb : ∀ (Q9 : St → Prop), w14_gone σ o1 Q9 → w14_gone σ o1 Q9 := fun _ z => z
  obtain ⟨σ1, e9⟩ : ∃ s : St, s = up3 σ 15 o1 0 0 := ⟨_, rfl⟩
  have h := h σ1 e9
  have rb := fun Q9 z => rb Q9 (nm_n e9 z)
  have ok : okS σ1 := by rw [e9]; exact (ok_n ok (by decide))
  have fr : Fr (mF [] [] [] [(15, o1, [0, 21])]) σ σ1 := by rw [e9]; exact (Fr.up fr (mF_D (List.mem_of_getElem? (i := 0) rfl) rfl))
  obtain ⟨σ2, e9⟩ : ∃ s : St, s = up3 σ1 15 o1 21 0 := ⟨_, rfl⟩
  have h := h σ2 e9
  have rb := fun Q9 z => rb Q9 (nm_n e9 z)
  have ok : okS σ2 := by rw [e9]; exact (ok_z ok (by decide) (Or.inl rfl))
  have fr : Fr (mF [] [] [] [(15, o1, [0, 21])]) σ σ2 := by rw [e9]; exact (Fr.up fr (mF_D (List.mem_of_getElem? (i := 0) rfl) rfl))
  exact ⟨σ2, h, ok, fr, fun Q9 hq => rb Q9 hq⟩
/-! WebHostModel.half(I)I -/
set_option maxHeartbeats 4000000 in
theorem e14_half {σ : St} {x1 : Int32} {Q : Int32 → Prop} (ok : okS σ) (h : w14_half σ x1 Q) : (∃ r : Int32, Q r ∧ ∀ (Q9 : Int32 → Prop), Q9 r → w14_half σ x1 Q9) := by
  have rb : ∀ (Q9 : Int32 → Prop), w14_half σ x1 Q9 → w14_half σ x1 Q9 := fun _ z => z
  obtain ⟨hc, h⟩ := h
  have rb := fun Q9 z => rb Q9 (And.intro hc z)
  have h := h ((ok 64 0 _).2 (tyk_a 64 2 (by decide) (by decide) _))
  have rb := fun Q9 z => rb Q9 (im_n z)
  obtain ⟨hc, h⟩ := h
  have rb := fun Q9 z => rb Q9 (And.intro hc z)
  have h := h ((ok 64 0 _).2 (tyk_a 64 2 (by decide) (by decide) _))
  have rb := fun Q9 z => rb Q9 (im_n z)
  exact ⟨((((σ 64 0 x1.toNatClampNeg) &&& 255) <<< ((8 : Int32) &&& 31)) ||| ((σ 64 0 (x1 + 1).toNatClampNeg) &&& 255)), h, fun Q9 hq => rb Q9 hq⟩
/-! WebHostModel.headAt(I)I -/
set_option maxHeartbeats 4000000 in
theorem e14_headAt {σ : St} {x1 : Int32} {Q : Int32 → Prop} (ok : okS σ) (h : w14_headAt σ x1 Q) : (∃ r : Int32, Q r ∧ ∀ (Q9 : Int32 → Prop), Q9 r → w14_headAt σ x1 Q9) := by
  have rb : ∀ (Q9 : Int32 → Prop), w14_headAt σ x1 Q9 → w14_headAt σ x1 Q9 := fun _ z => z
  obtain ⟨hc, h⟩ := h
  have rb := fun Q9 z => rb Q9 (And.intro hc z)
  have h := h ((ok 66 0 _).2 (tyk_a 66 2 (by decide) (by decide) _))
  have rb := fun Q9 z => rb Q9 (im_n z)
  exact ⟨((σ 66 0 x1.toNatClampNeg) &&& 255), h, fun Q9 hq => rb Q9 hq⟩
/-! WebHostModel.hexDigit(II)I -/
set_option maxHeartbeats 4000000 in
theorem e14_hexDigit {σ : St} {x0 : Int32} {x1 : Int32} {Q : Int32 → Prop} (ok : okS σ) (h : w14_hexDigit σ x0 x1 Q) : (∃ r : Int32, Q r ∧ ∀ (Q9 : Int32 → Prop), Q9 r → w14_hexDigit σ x0 x1 Q9) := by
  have rb : ∀ (Q9 : Int32 → Prop), w14_hexDigit σ x0 x1 Q9 → w14_hexDigit σ x0 x1 Q9 := fun _ z => z
  by_cases hc : 10 ≤ ((x0 >>> ((28 - (4 * x1)) &&& 31)) &&& 15)
  · have h := h.1 hc
    have rb := fun Q9 z => rb Q9 (br_t hc z)
    exact ⟨((97 + ((x0 >>> ((28 - (4 * x1)) &&& 31)) &&& 15)) - 10), h, fun Q9 hq => rb Q9 hq⟩
  have h := h.2 hc
  have rb := fun Q9 z => rb Q9 (br_f hc z)
  exact ⟨(48 + ((x0 >>> ((28 - (4 * x1)) &&& 31)) &&& 15)), h, fun Q9 hq => rb Q9 hq⟩
/-! WebHostModel.imageWord(I)J -/
set_option maxHeartbeats 4000000 in
theorem e14_imageWord_L5 {σ : St} {x1 : Int32} {Q : Int64 → Prop} {K37 : Int64 → Prop} (ok : okS σ) :
    ∀ (n : Nat) {y2 : Int64} {x4 : Int32}, w14_imageWord_L5 σ x1 Q K37 n y2 x4 → (∃ (y2' : Int64), K37 y2' ∧ ∀ (Q9 : Int64 → Prop) (K9_37 : Int64 → Prop), K9_37 y2' → w14_imageWord_L5 σ x1 Q9 K9_37 n y2 x4) := by
  intro n
  induction n with
  | zero =>
    intro y2 x4 h
    exact False.elim h
  | succ n ih =>
    intro y2 x4 h
    have rb : ∀ (Q9 : Int64 → Prop) (K9_37 : Int64 → Prop), w14_imageWord_L5 σ x1 Q9 K9_37 (n + 1) y2 x4 → w14_imageWord_L5 σ x1 Q9 K9_37 (n + 1) y2 x4 := fun _ _ z => z
    by_cases hc : 4 ≤ x4
    · have h := h.1 hc
      have rb := fun Q9 K9_37 z => rb Q9 K9_37 (br_t hc z)
      exact ⟨y2, h, fun Q9 K9_37 hq => rb Q9 K9_37 hq⟩
    have h := h.2 hc
    have rb := fun Q9 K9_37 z => rb Q9 K9_37 (br_f hc z)
    obtain ⟨hc, h⟩ := h
    have rb := fun Q9 K9_37 z => rb Q9 K9_37 (And.intro hc z)
    have h := h ((ok 51 0 _).2 (tyk_a 51 2 (by decide) (by decide) _))
    have rb := fun Q9 K9_37 z => rb Q9 K9_37 (im_n z)
    rcases ih h with ⟨y2, h, rc⟩
    · exact ⟨y2, h, fun Q9 K9_37 hq => rb Q9 K9_37 (rc Q9 K9_37 hq)⟩
set_option maxHeartbeats 4000000 in
theorem e14_imageWord {σ : St} {x1 : Int32} {Q : Int64 → Prop} (ok : okS σ) (h : w14_imageWord σ x1 Q) : (∃ r : Int64, Q r ∧ ∀ (Q9 : Int64 → Prop), Q9 r → w14_imageWord σ x1 Q9) := by
  have rb : ∀ (Q9 : Int64 → Prop), w14_imageWord σ x1 Q9 → w14_imageWord σ x1 Q9 := fun _ z => z
  obtain ⟨n9, h⟩ := h
  rcases e14_imageWord_L5 ok n9 h with ⟨y2_2, h, rc⟩
  · have rb := fun Q9 z => rb Q9 (Exists.intro n9 (rc _ _ z))
    exact ⟨y2_2, h, fun Q9 hq => rb Q9 hq⟩
/-! WebHostModel.install()I -/
set_option maxHeartbeats 4000000 in
theorem e14_install_L13 {Q : Int32 → St → Prop} {K39 : St → Prop} :
    ∀ (n : Nat) {σ : St} {x1 : Int32} (ok : okS σ), w14_install_L13 Q K39 n σ x1 → (∃ (σ' : St), K39 σ' ∧ okS σ' ∧ Fr (mF [51] [] [] []) σ σ' ∧ ∀ (Q9 : Int32 → St → Prop) (K9_39 : St → Prop), K9_39 σ' → w14_install_L13 Q9 K9_39 n σ x1) := by
  intro n
  induction n with
  | zero =>
    intro σ x1 ok h
    exact False.elim h
  | succ n ih =>
    intro σ x1 ok h
    have fr : Fr (mF [51] [] [] []) σ σ := Fr.rf
    have rb : ∀ (Q9 : Int32 → St → Prop) (K9_39 : St → Prop), w14_install_L13 Q9 K9_39 (n + 1) σ x1 → w14_install_L13 Q9 K9_39 (n + 1) σ x1 := fun _ _ z => z
    by_cases hc : (σ 14 0 1) ≤ x1
    · have h := h.1 hc
      have rb := fun Q9 K9_39 z => rb Q9 K9_39 (br_t hc z)
      exact ⟨σ, h, ok, fr, fun Q9 K9_39 hq => rb Q9 K9_39 hq⟩
    have h := h.2 hc
    have rb := fun Q9 K9_39 z => rb Q9 K9_39 (br_f hc z)
    obtain ⟨hc, h⟩ := h
    have rb := fun Q9 K9_39 z => rb Q9 K9_39 (And.intro hc z)
    have h := h ((ok 50 0 _).2 (tyk_a 50 2 (by decide) (by decide) _))
    have rb := fun Q9 K9_39 z => rb Q9 K9_39 (im_n z)
    obtain ⟨hc, h⟩ := h
    have rb := fun Q9 K9_39 z => rb Q9 K9_39 (And.intro hc z)
    obtain ⟨σ1, e9⟩ : ∃ s : St, s = up3 σ 51 0 x1.toNatClampNeg (σ 50 0 x1.toNatClampNeg).toInt8.toInt32 := ⟨_, rfl⟩
    have h := h σ1 e9
    have rb := fun Q9 K9_39 z => rb Q9 K9_39 (nm_n e9 z)
    have ok : okS σ1 := by rw [e9]; exact (ok_b ok (tyk_a 51 2 (by decide) (by decide) _))
    have fr : Fr (mF [51] [] [] []) σ σ1 := by rw [e9]; exact (Fr.up fr (mF_A rfl))
    rcases ih ok h with ⟨σ', h, ok, fr9, rc⟩
    · exact ⟨σ', h, ok, fr.tr fr9, fun Q9 K9_39 hq => rb Q9 K9_39 (rc Q9 K9_39 hq)⟩
set_option maxHeartbeats 4000000 in
theorem e14_install {σ : St} {Q : Int32 → St → Prop} (ok : okS σ) (h : w14_install σ Q) : (∃ (r : Int32) (σ' : St), Q r σ' ∧ okS σ' ∧ Fr (mF [51] [] [(14, [1, 3, 4])] []) σ σ' ∧ ∀ (Q9 : Int32 → St → Prop), Q9 r σ' → w14_install σ Q9) := by
  have fr : Fr (mF [51] [] [(14, [1, 3, 4])] []) σ σ := Fr.rf
  have rb : ∀ (Q9 : Int32 → St → Prop), w14_install σ Q9 → w14_install σ Q9 := fun _ z => z
  by_cases hc : (σ 14 0 1) ≤ 65535
  · have h := h.1 hc
    have rb := fun Q9 z => rb Q9 (br_t hc z)
    obtain ⟨n9, h⟩ := h
    rcases e14_install_L13 n9 ok h with ⟨σ3, h, ok, fr9, rc⟩
    · have rb := fun Q9 z => rb Q9 (Exists.intro n9 (rc _ _ z))
      have fr := fr.tr (fr9.sub (mF_sub rfl sub_nil rfl sud_nil))
      obtain ⟨σ4, e9⟩ : ∃ s : St, s = up3 σ3 14 0 3 (σ3 14 0 1) := ⟨_, rfl⟩
      have h := h σ4 e9
      have rb := fun Q9 z => rb Q9 (nm_n e9 z)
      have ok : okS σ4 := by rw [e9]; exact (ok_n ok (by decide))
      have fr : Fr (mF [51] [] [(14, [1, 3, 4])] []) σ σ4 := by rw [e9]; exact (Fr.up fr (mF_C (List.mem_of_getElem? (i := 0) rfl) rfl))
      obtain ⟨σ5, e9⟩ : ∃ s : St, s = up3 σ4 14 0 1 0 := ⟨_, rfl⟩
      have h := h σ5 e9
      have rb := fun Q9 z => rb Q9 (nm_n e9 z)
      have ok : okS σ5 := by rw [e9]; exact (ok_n ok (by decide))
      have fr : Fr (mF [51] [] [(14, [1, 3, 4])] []) σ σ5 := by rw [e9]; exact (Fr.up fr (mF_C (List.mem_of_getElem? (i := 0) rfl) rfl))
      obtain ⟨σ6, e9⟩ : ∃ s : St, s = up3 σ5 14 0 4 0 := ⟨_, rfl⟩
      have h := h σ6 e9
      have rb := fun Q9 z => rb Q9 (nm_n e9 z)
      have ok : okS σ6 := by rw [e9]; exact (ok_z ok (by decide) (Or.inl rfl))
      have fr : Fr (mF [51] [] [(14, [1, 3, 4])] []) σ σ6 := by rw [e9]; exact (Fr.up fr (mF_C (List.mem_of_getElem? (i := 0) rfl) rfl))
      exact ⟨(σ6 14 0 3), σ6, h, ok, fr, fun Q9 hq => rb Q9 hq⟩
  have h := h.2 hc
  have rb := fun Q9 z => rb Q9 (br_f hc z)
  exact ⟨(-1), σ, h, ok, fr, fun Q9 hq => rb Q9 hq⟩
/-! WebHostModel.is(I)Z -/
set_option maxHeartbeats 4000000 in
theorem e14_is {σ : St} {x1 : Int32} {Q : Int32 → Prop} (ok : okS σ) (h : w14_is σ x1 Q) : (∃ r : Int32, Q r ∧ ∀ (Q9 : Int32 → Prop), Q9 r → w14_is σ x1 Q9) := by
  have rb : ∀ (Q9 : Int32 → Prop), w14_is σ x1 Q9 → w14_is σ x1 Q9 := fun _ z => z
  by_cases hc : ((σ 14 0 36) &&& x1) = 0
  · have h := h.1 hc
    have rb := fun Q9 z => rb Q9 (br_t hc z)
    exact ⟨0, h, fun Q9 hq => rb Q9 hq⟩
  have h := h.2 hc
  have rb := fun Q9 z => rb Q9 (br_f hc z)
  exact ⟨1, h, fun Q9 hq => rb Q9 hq⟩
/-! WebHostModel.isBehind(II)Z -/
set_option maxHeartbeats 4000000 in
theorem e14_isBehind {σ : St} {x0 : Int32} {x1 : Int32} {Q : Int32 → Prop} (ok : okS σ) (h : w14_isBehind σ x0 x1 Q) : (∃ r : Int32, Q r ∧ ∀ (Q9 : Int32 → Prop), Q9 r → w14_isBehind σ x0 x1 Q9) := by
  have rb : ∀ (Q9 : Int32 → Prop), w14_isBehind σ x0 x1 Q9 → w14_isBehind σ x0 x1 Q9 := fun _ z => z
  by_cases hc : (x0 - x1) ≤ 0
  · have h := h.1 hc
    have rb := fun Q9 z => rb Q9 (br_t hc z)
    exact ⟨0, h, fun Q9 hq => rb Q9 hq⟩
  have h := h.2 hc
  have rb := fun Q9 z => rb Q9 (br_f hc z)
  exact ⟨1, h, fun Q9 hq => rb Q9 hq⟩
/-! WebHostModel.isBlank(I)Z -/
set_option maxHeartbeats 4000000 in
theorem e14_isBlank {σ : St} {x0 : Int32} {Q : Int32 → Prop} (ok : okS σ) (h : w14_isBlank σ x0 Q) : (∃ r : Int32, Q r ∧ ∀ (Q9 : Int32 → Prop), Q9 r → w14_isBlank σ x0 Q9) := by
  have rb : ∀ (Q9 : Int32 → Prop), w14_isBlank σ x0 Q9 → w14_isBlank σ x0 Q9 := fun _ z => z
  by_cases hc : x0 = 32
  · have h := h.1 hc
    have rb := fun Q9 z => rb Q9 (br_t hc z)
    exact ⟨1, h, fun Q9 hq => rb Q9 hq⟩
  have h := h.2 hc
  have rb := fun Q9 z => rb Q9 (br_f hc z)
  by_cases hc : x0 = 9
  · have h := h.2 hc
    have rb := fun Q9 z => rb Q9 (br_u hc z)
    exact ⟨1, h, fun Q9 hq => rb Q9 hq⟩
  have h := h.1 hc
  have rb := fun Q9 z => rb Q9 (br_v hc z)
  exact ⟨0, h, fun Q9 hq => rb Q9 hq⟩
/-! WebHostModel.isDigit(I)Z -/
set_option maxHeartbeats 4000000 in
theorem e14_isDigit {σ : St} {x0 : Int32} {Q : Int32 → Prop} (ok : okS σ) (h : w14_isDigit σ x0 Q) : (∃ r : Int32, Q r ∧ ∀ (Q9 : Int32 → Prop), Q9 r → w14_isDigit σ x0 Q9) := by
  have rb : ∀ (Q9 : Int32 → Prop), w14_isDigit σ x0 Q9 → w14_isDigit σ x0 Q9 := fun _ z => z
  by_cases hc : x0 < 48
  · have h := h.1 hc
    have rb := fun Q9 z => rb Q9 (br_t hc z)
    exact ⟨0, h, fun Q9 hq => rb Q9 hq⟩
  have h := h.2 hc
  have rb := fun Q9 z => rb Q9 (br_f hc z)
  by_cases hc : 57 < x0
  · have h := h.1 hc
    have rb := fun Q9 z => rb Q9 (br_t hc z)
    exact ⟨0, h, fun Q9 hq => rb Q9 hq⟩
  have h := h.2 hc
  have rb := fun Q9 z => rb Q9 (br_f hc z)
  exact ⟨1, h, fun Q9 hq => rb Q9 hq⟩
/-! WebHostModel.isHost(I)Z -/
set_option maxHeartbeats 4000000 in
theorem e14_isHost {σ : St} {x0 : Int32} {Q : Int32 → Prop} (ok : okS σ) (h : w14_isHost σ x0 Q) : (∃ r : Int32, Q r ∧ ∀ (Q9 : Int32 → Prop), Q9 r → w14_isHost σ x0 Q9) := by
  have rb : ∀ (Q9 : Int32 → Prop), w14_isHost σ x0 Q9 → w14_isHost σ x0 Q9 := fun _ z => z
  by_cases hc : (ushr x0 24) < 1
  · have h := h.1 hc
    have rb := fun Q9 z => rb Q9 (br_t hc z)
    exact ⟨0, h, fun Q9 hq => rb Q9 hq⟩
  have h := h.2 hc
  have rb := fun Q9 z => rb Q9 (br_f hc z)
  by_cases hc : 223 < (ushr x0 24)
  · have h := h.1 hc
    have rb := fun Q9 z => rb Q9 (br_t hc z)
    exact ⟨0, h, fun Q9 hq => rb Q9 hq⟩
  have h := h.2 hc
  have rb := fun Q9 z => rb Q9 (br_f hc z)
  by_cases hc : (ushr x0 24) = 127
  · have h := h.1 hc
    have rb := fun Q9 z => rb Q9 (br_t hc z)
    exact ⟨0, h, fun Q9 hq => rb Q9 hq⟩
  have h := h.2 hc
  have rb := fun Q9 z => rb Q9 (br_f hc z)
  exact ⟨1, h, fun Q9 hq => rb Q9 hq⟩
/-! WebHostModel.lineEnd(I)I -/
set_option maxHeartbeats 4000000 in
theorem e14_lineEnd_L2 {σ : St} {Q : Int32 → Prop} {K19 : Int32 → Prop} (ok : okS σ) :
    ∀ (n : Nat) {x2 : Int32}, w14_lineEnd_L2 σ Q K19 n x2 → (∃ (x2' : Int32), K19 x2' ∧ ∀ (Q9 : Int32 → Prop) (K9_19 : Int32 → Prop), K9_19 x2' → w14_lineEnd_L2 σ Q9 K9_19 n x2) := by
  intro n
  induction n with
  | zero =>
    intro x2 h
    exact False.elim h
  | succ n ih =>
    intro x2 h
    have rb : ∀ (Q9 : Int32 → Prop) (K9_19 : Int32 → Prop), w14_lineEnd_L2 σ Q9 K9_19 (n + 1) x2 → w14_lineEnd_L2 σ Q9 K9_19 (n + 1) x2 := fun _ _ z => z
    obtain ⟨hc, h⟩ := h
    have rb := fun Q9 K9_19 z => rb Q9 K9_19 (And.intro hc z)
    have h := h ((ok 66 0 _).2 (tyk_a 66 2 (by decide) (by decide) _))
    have rb := fun Q9 K9_19 z => rb Q9 K9_19 (im_n z)
    by_cases hc : (σ 66 0 x2.toNatClampNeg) = 10
    · have h := h.1 hc
      have rb := fun Q9 K9_19 z => rb Q9 K9_19 (br_t hc z)
      exact ⟨x2, h, fun Q9 K9_19 hq => rb Q9 K9_19 hq⟩
    have h := h.2 hc
    have rb := fun Q9 K9_19 z => rb Q9 K9_19 (br_f hc z)
    rcases ih h with ⟨x2, h, rc⟩
    · exact ⟨x2, h, fun Q9 K9_19 hq => rb Q9 K9_19 (rc Q9 K9_19 hq)⟩
set_option maxHeartbeats 4000000 in
theorem e14_lineEnd {σ : St} {x1 : Int32} {Q : Int32 → Prop} (ok : okS σ) (h : w14_lineEnd σ x1 Q) : (∃ r : Int32, Q r ∧ ∀ (Q9 : Int32 → Prop), Q9 r → w14_lineEnd σ x1 Q9) := by
  have rb : ∀ (Q9 : Int32 → Prop), w14_lineEnd σ x1 Q9 → w14_lineEnd σ x1 Q9 := fun _ z => z
  obtain ⟨n9, h⟩ := h
  rcases e14_lineEnd_L2 ok n9 h with ⟨x2_2, h, rc⟩
  · have rb := fun Q9 z => rb Q9 (Exists.intro n9 (rc _ _ z))
    exact ⟨x2_2, h, fun Q9 hq => rb Q9 hq⟩
/-! WebHostModel.measure(LWebHostModel$Connection;I)V -/
set_option maxHeartbeats 4000000 in
theorem e14_measure_J73 {σ : St} {o0 : Nat} {Q : St → Prop} (ho0 : o0 < 16) (ok : okS σ) (h : w14_measure_J73 σ o0 Q) : (∃ (σ' : St), Q σ' ∧ okS σ' ∧ Fr (mF [] [] [] [(15, o0, [13])]) σ σ' ∧ ∀ (Q9 : St → Prop), Q9 σ' → w14_measure_J73 σ o0 Q9) := by
  have fr : Fr (mF [] [] [] [(15, o0, [13])]) σ σ := Fr.rf
  have rb : ∀ (Q9 : St → Prop), w14_measure_J73 σ o0 Q9 → w14_measure_J73 σ o0 Q9 := fun _ z => z
  obtain ⟨σ4, e9⟩ : ∃ s : St, s = up3 σ 15 o0 13 ((lmax 1000 (lmin 60000 (((σ 15 o0 14).toInt64) + (lmax 10 (4 * ((σ 15 o0 15).toInt64)))))).toInt32) := ⟨_, rfl⟩
  have h := h σ4 e9
  have rb := fun Q9 z => rb Q9 (nm_n e9 z)
  have ok : okS σ4 := by rw [e9]; exact (ok_n ok (by decide))
  have fr : Fr (mF [] [] [] [(15, o0, [13])]) σ σ4 := by rw [e9]; exact (Fr.up fr (mF_D (List.mem_of_getElem? (i := 0) rfl) rfl))
  exact ⟨σ4, h, ok, fr, fun Q9 hq => rb Q9 hq⟩
set_option maxHeartbeats 4000000 in
theorem e14_measure_J31 {σ : St} {o0 : Nat} {x1 : Int32} {xs0 : Int32} {xs1 : Int32} {os2 : Nat} {Q : St → Prop} (ho0 : o0 < 16) (hos2 : os2 < 16) (ok : okS σ) (h : w14_measure_J31 σ o0 x1 xs0 xs1 os2 Q) : (∃ (σ' : St), Q σ' ∧ okS σ' ∧ Fr (mF [] [] [] [(15, o0, [13, 14]), (15, os2, [15])]) σ σ' ∧ ∀ (Q9 : St → Prop), Q9 σ' → w14_measure_J31 σ o0 x1 xs0 xs1 os2 Q9) := by
  have fr : Fr (mF [] [] [] [(15, o0, [13, 14]), (15, os2, [15])]) σ σ := Fr.rf
  have rb : ∀ (Q9 : St → Prop), w14_measure_J31 σ o0 x1 xs0 xs1 os2 Q9 → w14_measure_J31 σ o0 x1 xs0 xs1 os2 Q9 := fun _ z => z
  obtain ⟨σ5, e9⟩ : ∃ s : St, s = up3 σ 15 os2 15 ((xs1 + xs0) / 4) := ⟨_, rfl⟩
  have h := h σ5 e9
  have rb := fun Q9 z => rb Q9 (nm_n e9 z)
  have ok : okS σ5 := by rw [e9]; exact (ok_n ok (by decide))
  have fr : Fr (mF [] [] [] [(15, o0, [13, 14]), (15, os2, [15])]) σ σ5 := by rw [e9]; exact (Fr.up fr (mF_D (List.mem_of_getElem? (i := 1) rfl) rfl))
  obtain ⟨σ6, e9⟩ : ∃ s : St, s = up3 σ5 15 o0 14 (((7 * (σ5 15 o0 14)) + x1) / 8) := ⟨_, rfl⟩
  have h := h σ6 e9
  have rb := fun Q9 z => rb Q9 (nm_n e9 z)
  have ok : okS σ6 := by rw [e9]; exact (ok_n ok (by decide))
  have fr : Fr (mF [] [] [] [(15, o0, [13, 14]), (15, os2, [15])]) σ σ6 := by rw [e9]; exact (Fr.up fr (mF_D (List.mem_of_getElem? (i := 0) rfl) rfl))
  obtain ⟨σ9, h, ok, fr9, rc⟩ := e14_measure_J73 ho0 ok h
  exact ⟨σ9, h, ok, fr.tr (fr9.sub (mF_sub rfl sub_nil rfl (sud_c (Or.inr ⟨_, List.mem_of_getElem? (i := 0) rfl, rfl⟩) sud_nil))), fun Q9 hq => rb Q9 (rc Q9 hq)⟩
set_option maxHeartbeats 4000000 in
theorem e14_measure {σ : St} {o0 : Nat} {x1 : Int32} {Q : St → Prop} (ho0 : o0 < 16) (ok : okS σ) (h : w14_measure σ o0 x1 Q) : (∃ (σ' : St), Q σ' ∧ okS σ' ∧ Fr (mF [] [] [] [(15, o0, [13, 14, 15, 16])]) σ σ' ∧ ∀ (Q9 : St → Prop), Q9 σ' → w14_measure σ o0 x1 Q9) := by
  have fr : Fr (mF [] [] [] [(15, o0, [13, 14, 15, 16])]) σ σ := Fr.rf
  have rb : ∀ (Q9 : St → Prop), w14_measure σ o0 x1 Q9 → w14_measure σ o0 x1 Q9 := fun _ z => z
  have h := h ((ok 15 o0 16).1 (by decide))
  have rb := fun Q9 z => rb Q9 (im_n z)
  by_cases hc : (σ 15 o0 16) = 0
  · have h := h.1 hc
    have rb := fun Q9 z => rb Q9 (br_t hc z)
    obtain ⟨σ1, e9⟩ : ∃ s : St, s = up3 σ 15 o0 16 1 := ⟨_, rfl⟩
    have h := h σ1 e9
    have rb := fun Q9 z => rb Q9 (nm_n e9 z)
    have ok : okS σ1 := by rw [e9]; exact (ok_z ok (by decide) (Or.inr rfl))
    have fr : Fr (mF [] [] [] [(15, o0, [13, 14, 15, 16])]) σ σ1 := by rw [e9]; exact (Fr.up fr (mF_D (List.mem_of_getElem? (i := 0) rfl) rfl))
    obtain ⟨σ2, e9⟩ : ∃ s : St, s = up3 σ1 15 o0 14 x1 := ⟨_, rfl⟩
    have h := h σ2 e9
    have rb := fun Q9 z => rb Q9 (nm_n e9 z)
    have ok : okS σ2 := by rw [e9]; exact (ok_n ok (by decide))
    have fr : Fr (mF [] [] [] [(15, o0, [13, 14, 15, 16])]) σ σ2 := by rw [e9]; exact (Fr.up fr (mF_D (List.mem_of_getElem? (i := 0) rfl) rfl))
    obtain ⟨σ3, e9⟩ : ∃ s : St, s = up3 σ2 15 o0 15 (x1 / 2) := ⟨_, rfl⟩
    have h := h σ3 e9
    have rb := fun Q9 z => rb Q9 (nm_n e9 z)
    have ok : okS σ3 := by rw [e9]; exact (ok_n ok (by decide))
    have fr : Fr (mF [] [] [] [(15, o0, [13, 14, 15, 16])]) σ σ3 := by rw [e9]; exact (Fr.up fr (mF_D (List.mem_of_getElem? (i := 0) rfl) rfl))
    obtain ⟨σ9, h, ok, fr9, rc⟩ := e14_measure_J73 ho0 ok h
    exact ⟨σ9, h, ok, fr.tr (fr9.sub (mF_sub rfl sub_nil rfl (sud_c (Or.inr ⟨_, List.mem_of_getElem? (i := 0) rfl, rfl⟩) sud_nil))), fun Q9 hq => rb Q9 (rc Q9 hq)⟩
  have h := h.2 hc
  have rb := fun Q9 z => rb Q9 (br_f hc z)
  by_cases hc : 0 ≤ ((σ 15 o0 14) - x1)
  · have h := h.1 hc
    have rb := fun Q9 z => rb Q9 (br_t hc z)
    obtain ⟨σ9, h, ok, fr9, rc⟩ := e14_measure_J31 ho0 ho0 ok h
    exact ⟨σ9, h, ok, fr.tr (fr9.sub (mF_sub rfl sub_nil rfl (sud_c (Or.inr ⟨_, List.mem_of_getElem? (i := 0) rfl, rfl⟩) (sud_c (Or.inr ⟨_, List.mem_of_getElem? (i := 0) rfl, rfl⟩) sud_nil)))), fun Q9 hq => rb Q9 (rc Q9 hq)⟩
  have h := h.2 hc
  have rb := fun Q9 z => rb Q9 (br_f hc z)
  obtain ⟨σ9, h, ok, fr9, rc⟩ := e14_measure_J31 ho0 ho0 ok h
  exact ⟨σ9, h, ok, fr.tr (fr9.sub (mF_sub rfl sub_nil rfl (sud_c (Or.inr ⟨_, List.mem_of_getElem? (i := 0) rfl, rfl⟩) (sud_c (Or.inr ⟨_, List.mem_of_getElem? (i := 0) rfl, rfl⟩) sud_nil)))), fun Q9 hq => rb Q9 (rc Q9 hq)⟩
/-! WebHostModel.net(I)I -/
set_option maxHeartbeats 4000000 in
theorem e14_net {σ : St} {x1 : Int32} {Q : Int32 → Prop} (ok : okS σ) (h : w14_net σ x1 Q) : (∃ r : Int32, Q r ∧ ∀ (Q9 : Int32 → Prop), Q9 r → w14_net σ x1 Q9) := by
  have rb : ∀ (Q9 : Int32 → Prop), w14_net σ x1 Q9 → w14_net σ x1 Q9 := fun _ z => z
  exact ⟨((x1 >>> ((32 - (σ 14 0 6)) &&& 31)) <<< ((32 - (σ 14 0 6)) &&& 31)), h, fun Q9 hq => rb Q9 hq⟩
/-! WebHostModel.now()I -/
set_option maxHeartbeats 4000000 in
theorem e14_now {σ : St} {Q : Int32 → Prop} (ok : okS σ) (h : w14_now σ Q) : (∃ r : Int32, Q r ∧ ∀ (Q9 : Int32 → Prop), Q9 r → w14_now σ Q9) := by
  have rb : ∀ (Q9 : Int32 → Prop), w14_now σ Q9 → w14_now σ Q9 := fun _ z => z
  have h := h ((ok 14 0 4).1 (by decide))
  have rb := fun Q9 z => rb Q9 (im_n z)
  by_cases hc : (σ 14 0 4) = 0
  · have h := h.1 hc
    have rb := fun Q9 z => rb Q9 (br_t hc z)
    exact ⟨(-1), h, fun Q9 hq => rb Q9 hq⟩
  have h := h.2 hc
  have rb := fun Q9 z => rb Q9 (br_f hc z)
  exact ⟨(σ 14 0 10), h, fun Q9 hq => rb Q9 hq⟩
/-! WebHostModel.packet(I)LWebHostModel$Packet; -/
set_option maxHeartbeats 4000000 in
theorem e14_packet_L2 {σ : St} {x1 : Int32} {Q : Option Nat → Prop} {K33 : Int32 → Prop} {K46 : Prop} (ok : okS σ) :
    ∀ (n : Nat) {x2 : Int32}, w14_packet_L2 σ x1 Q K33 K46 n x2 → (∃ (x2' : Int32), K33 x2' ∧ ∀ (Q9 : Option Nat → Prop) (K9_33 : Int32 → Prop) (K9_46 : Prop), K9_33 x2' → w14_packet_L2 σ x1 Q9 K9_33 K9_46 n x2) ∨ (K46 ∧ ∀ (Q9 : Option Nat → Prop) (K9_33 : Int32 → Prop) (K9_46 : Prop), K9_46 → w14_packet_L2 σ x1 Q9 K9_33 K9_46 n x2) := by
  intro n
  induction n with
  | zero =>
    intro x2 h
    exact False.elim h
  | succ n ih =>
    intro x2 h
    have rb : ∀ (Q9 : Option Nat → Prop) (K9_33 : Int32 → Prop) (K9_46 : Prop), w14_packet_L2 σ x1 Q9 K9_33 K9_46 (n + 1) x2 → w14_packet_L2 σ x1 Q9 K9_33 K9_46 (n + 1) x2 := fun _ _ _ z => z
    by_cases hc : 8 ≤ x2
    · have h := h.1 hc
      have rb := fun Q9 K9_33 K9_46 z => rb Q9 K9_33 K9_46 (br_t hc z)
      exact (Or.inr ⟨h, fun Q9 K9_33 K9_46 hq => rb Q9 K9_33 K9_46 hq⟩)
    have h := h.2 hc
    have rb := fun Q9 K9_33 K9_46 z => rb Q9 K9_33 K9_46 (br_f hc z)
    obtain ⟨hc, h⟩ := h
    have rb := fun Q9 K9_33 K9_46 z => rb Q9 K9_33 K9_46 (And.intro hc z)
    have hq1 := vp_lt hc
    have h := h ((ok 17 x2.toNatClampNeg 0).1 (by decide))
    have rb := fun Q9 K9_33 K9_46 z => rb Q9 K9_33 K9_46 (im_n z)
    by_cases hc : (σ 17 x2.toNatClampNeg 0) = 0
    · have h := h.1 hc
      have rb := fun Q9 K9_33 K9_46 z => rb Q9 K9_33 K9_46 (br_t hc z)
      rcases ih h with ⟨x2, h, rc⟩ | ⟨h, rc⟩
      · exact (Or.inl ⟨x2, h, fun Q9 K9_33 K9_46 hq => rb Q9 K9_33 K9_46 (rc Q9 K9_33 K9_46 hq)⟩)
      · exact (Or.inr ⟨h, fun Q9 K9_33 K9_46 hq => rb Q9 K9_33 K9_46 (rc Q9 K9_33 K9_46 hq)⟩)
    have h := h.2 hc
    have rb := fun Q9 K9_33 K9_46 z => rb Q9 K9_33 K9_46 (br_f hc z)
    obtain ⟨hc, h⟩ := h
    have rb := fun Q9 K9_33 K9_46 z => rb Q9 K9_33 K9_46 (And.intro hc z)
    have hq2 := vp_lt hc
    by_cases hc : (σ 17 x2.toNatClampNeg 1) = x1
    · have h := h.2 hc
      have rb := fun Q9 K9_33 K9_46 z => rb Q9 K9_33 K9_46 (br_u hc z)
      exact (Or.inl ⟨x2, h, fun Q9 K9_33 K9_46 hq => rb Q9 K9_33 K9_46 hq⟩)
    have h := h.1 hc
    have rb := fun Q9 K9_33 K9_46 z => rb Q9 K9_33 K9_46 (br_v hc z)
    rcases ih h with ⟨x2, h, rc⟩ | ⟨h, rc⟩
    · exact (Or.inl ⟨x2, h, fun Q9 K9_33 K9_46 hq => rb Q9 K9_33 K9_46 (rc Q9 K9_33 K9_46 hq)⟩)
    · exact (Or.inr ⟨h, fun Q9 K9_33 K9_46 hq => rb Q9 K9_33 K9_46 (rc Q9 K9_33 K9_46 hq)⟩)
set_option maxHeartbeats 4000000 in
theorem e14_packet {σ : St} {x1 : Int32} {Q : Option Nat → Prop} (ok : okS σ) (h : w14_packet σ x1 Q) : (∃ r : Option Nat, Q r ∧ ∀ (Q9 : Option Nat → Prop), Q9 r → w14_packet σ x1 Q9) := by
  have rb : ∀ (Q9 : Option Nat → Prop), w14_packet σ x1 Q9 → w14_packet σ x1 Q9 := fun _ z => z
  obtain ⟨n9, h⟩ := h
  rcases e14_packet_L2 ok n9 h with ⟨x2_4, h, rc⟩ | ⟨h, rc⟩
  · have rb := fun Q9 z => rb Q9 (Exists.intro n9 (rc _ _ _ z))
    obtain ⟨hc, h⟩ := h
    have rb := fun Q9 z => rb Q9 (And.intro hc z)
    have hq6 := vp_lt hc
    exact ⟨(some x2_4.toNatClampNeg), h, fun Q9 hq => rb Q9 hq⟩
  · have rb := fun Q9 z => rb Q9 (Exists.intro n9 (rc _ _ _ z))
    exact ⟨none, h, fun Q9 hq => rb Q9 hq⟩
/-! WebHostModel.phrase(I)Ljava/lang/String; -/
set_option maxHeartbeats 4000000 in
theorem e14_phrase {σ : St} {x0 : Int32} {Q : Nat → Prop} (ok : okS σ) (h : w14_phrase σ x0 Q) : (∃ r : Nat, Q r ∧ ∀ (Q9 : Nat → Prop), Q9 r → w14_phrase σ x0 Q9) := by
  have rb : ∀ (Q9 : Nat → Prop), w14_phrase σ x0 Q9 → w14_phrase σ x0 Q9 := fun _ z => z
  by_cases hc : x0 = 200
  · have h := h.1 hc
    have rb := fun Q9 z => rb Q9 (br_t hc z)
    exact ⟨57, h, fun Q9 hq => rb Q9 hq⟩
  have h := h.2 hc
  have rb := fun Q9 z => rb Q9 (br_f hc z)
  by_cases hc : x0 = 304
  · have h := h.1 hc
    have rb := fun Q9 z => rb Q9 (br_t hc z)
    exact ⟨58, h, fun Q9 hq => rb Q9 hq⟩
  have h := h.2 hc
  have rb := fun Q9 z => rb Q9 (br_f hc z)
  by_cases hc : x0 = 400
  · have h := h.1 hc
    have rb := fun Q9 z => rb Q9 (br_t hc z)
    exact ⟨59, h, fun Q9 hq => rb Q9 hq⟩
  have h := h.2 hc
  have rb := fun Q9 z => rb Q9 (br_f hc z)
  by_cases hc : x0 = 404
  · have h := h.1 hc
    have rb := fun Q9 z => rb Q9 (br_t hc z)
    exact ⟨60, h, fun Q9 hq => rb Q9 hq⟩
  have h := h.2 hc
  have rb := fun Q9 z => rb Q9 (br_f hc z)
  by_cases hc : x0 = 405
  · have h := h.1 hc
    have rb := fun Q9 z => rb Q9 (br_t hc z)
    exact ⟨61, h, fun Q9 hq => rb Q9 hq⟩
  have h := h.2 hc
  have rb := fun Q9 z => rb Q9 (br_f hc z)
  by_cases hc : x0 = 413
  · have h := h.1 hc
    have rb := fun Q9 z => rb Q9 (br_t hc z)
    exact ⟨62, h, fun Q9 hq => rb Q9 hq⟩
  have h := h.2 hc
  have rb := fun Q9 z => rb Q9 (br_f hc z)
  by_cases hc : x0 = 431
  · have h := h.1 hc
    have rb := fun Q9 z => rb Q9 (br_t hc z)
    exact ⟨63, h, fun Q9 hq => rb Q9 hq⟩
  have h := h.2 hc
  have rb := fun Q9 z => rb Q9 (br_f hc z)
  by_cases hc : x0 = 500
  · have h := h.1 hc
    have rb := fun Q9 z => rb Q9 (br_t hc z)
    exact ⟨64, h, fun Q9 hq => rb Q9 hq⟩
  have h := h.2 hc
  have rb := fun Q9 z => rb Q9 (br_f hc z)
  exact ⟨65, h, fun Q9 hq => rb Q9 hq⟩
/-! WebHostModel.pseudo(III)J -/
set_option maxHeartbeats 4000000 in
theorem e14_pseudo {σ : St} {x1 : Int32} {x2 : Int32} {x3 : Int32} {Q : Int64 → Prop} (ok : okS σ) (h : w14_pseudo σ x1 x2 x3 Q) : (∃ r : Int64, Q r ∧ ∀ (Q9 : Int64 → Prop), Q9 r → w14_pseudo σ x1 x2 x3 Q9) := by
  have rb : ∀ (Q9 : Int64 → Prop), w14_pseudo σ x1 x2 x3 Q9 → w14_pseudo σ x1 x2 x3 Q9 := fun _ z => z
  exact ⟨(((((((ushr x1 16) + (x1 &&& 65535)) + (ushr x2 16)) + (x2 &&& 65535)).toInt64) + 6) + x3.toInt64), h, fun Q9 hq => rb Q9 hq⟩
/-! WebHostModel.put(III)V -/
set_option maxHeartbeats 4000000 in
theorem e14_put_L3 {x1 : Int32} {x2 : Int32} {x3 : Int32} {Q : St → Prop} {K36 : St → Prop} :
    ∀ (n : Nat) {σ : St} {x4 : Int32} (ok : okS σ), w14_put_L3 x1 x2 x3 Q K36 n σ x4 → (∃ (σ' : St), K36 σ' ∧ okS σ' ∧ Fr (mF [57] [] [] []) σ σ' ∧ ∀ (Q9 : St → Prop) (K9_36 : St → Prop), K9_36 σ' → w14_put_L3 x1 x2 x3 Q9 K9_36 n σ x4) := by
  intro n
  induction n with
  | zero =>
    intro σ x4 ok h
    exact False.elim h
  | succ n ih =>
    intro σ x4 ok h
    have fr : Fr (mF [57] [] [] []) σ σ := Fr.rf
    have rb : ∀ (Q9 : St → Prop) (K9_36 : St → Prop), w14_put_L3 x1 x2 x3 Q9 K9_36 (n + 1) σ x4 → w14_put_L3 x1 x2 x3 Q9 K9_36 (n + 1) σ x4 := fun _ _ z => z
    by_cases hc : x2 ≤ x4
    · have h := h.1 hc
      have rb := fun Q9 K9_36 z => rb Q9 K9_36 (br_t hc z)
      exact ⟨σ, h, ok, fr, fun Q9 K9_36 hq => rb Q9 K9_36 hq⟩
    have h := h.2 hc
    have rb := fun Q9 K9_36 z => rb Q9 K9_36 (br_f hc z)
    obtain ⟨hc, h⟩ := h
    have rb := fun Q9 K9_36 z => rb Q9 K9_36 (And.intro hc z)
    obtain ⟨σ1, e9⟩ : ∃ s : St, s = up3 σ 57 0 (x1 + x4).toNatClampNeg ((x3 >>> ((8 * ((x2 - 1) - x4)) &&& 31)).toInt8.toInt32).toInt8.toInt32 := ⟨_, rfl⟩
    have h := h σ1 e9
    have rb := fun Q9 K9_36 z => rb Q9 K9_36 (nm_n e9 z)
    have ok : okS σ1 := by rw [e9]; exact (ok_b ok (tyk_a 57 2 (by decide) (by decide) _))
    have fr : Fr (mF [57] [] [] []) σ σ1 := by rw [e9]; exact (Fr.up fr (mF_A rfl))
    rcases ih ok h with ⟨σ', h, ok, fr9, rc⟩
    · exact ⟨σ', h, ok, fr.tr fr9, fun Q9 K9_36 hq => rb Q9 K9_36 (rc Q9 K9_36 hq)⟩
set_option maxHeartbeats 4000000 in
theorem e14_put {σ : St} {x1 : Int32} {x2 : Int32} {x3 : Int32} {Q : St → Prop} (ok : okS σ) (h : w14_put σ x1 x2 x3 Q) : (∃ (σ' : St), Q σ' ∧ okS σ' ∧ Fr (mF [57] [] [] []) σ σ' ∧ ∀ (Q9 : St → Prop), Q9 σ' → w14_put σ x1 x2 x3 Q9) := by
  have fr : Fr (mF [57] [] [] []) σ σ := Fr.rf
  have rb : ∀ (Q9 : St → Prop), w14_put σ x1 x2 x3 Q9 → w14_put σ x1 x2 x3 Q9 := fun _ z => z
  obtain ⟨n9, h⟩ := h
  rcases e14_put_L3 n9 ok h with ⟨σ3, h, ok, fr9, rc⟩
  · have rb := fun Q9 z => rb Q9 (Exists.intro n9 (rc _ _ z))
    have fr := fr.tr (fr9.sub (mF_sub rfl sub_nil rfl sud_nil))
    exact ⟨σ3, h, ok, fr, fun Q9 hq => rb Q9 hq⟩
/-! WebHostModel.refused(I)I -/
set_option maxHeartbeats 4000000 in
theorem e14_refused {σ : St} {x1 : Int32} {Q : Int32 → Prop} (ok : okS σ) (h : w14_refused σ x1 Q) : (∃ r : Int32, Q r ∧ ∀ (Q9 : Int32 → Prop), Q9 r → w14_refused σ x1 Q9) := by
  have rb : ∀ (Q9 : Int32 → Prop), w14_refused σ x1 Q9 → w14_refused σ x1 Q9 := fun _ z => z
  have h := h ((ok 14 0 4).1 (by decide))
  have rb := fun Q9 z => rb Q9 (im_n z)
  by_cases hc : (σ 14 0 4) = 0
  · have h := h.2 hc
    have rb := fun Q9 z => rb Q9 (br_u hc z)
    exact ⟨(-1), h, fun Q9 hq => rb Q9 hq⟩
  have h := h.1 hc
  have rb := fun Q9 z => rb Q9 (br_v hc z)
  by_cases hc : x1 < (σ 14 0 10)
  · have h := h.1 hc
    have rb := fun Q9 z => rb Q9 (br_t hc z)
    exact ⟨(-2), h, fun Q9 hq => rb Q9 hq⟩
  have h := h.2 hc
  have rb := fun Q9 z => rb Q9 (br_f hc z)
  by_cases hc : 2000000000 < x1
  · have h := h.1 hc
    have rb := fun Q9 z => rb Q9 (br_t hc z)
    exact ⟨(-2), h, fun Q9 hq => rb Q9 hq⟩
  have h := h.2 hc
  have rb := fun Q9 z => rb Q9 (br_f hc z)
  by_cases hc : (x1 - (σ 14 0 10)) ≤ 600000
  · have h := h.1 hc
    have rb := fun Q9 z => rb Q9 (br_t hc z)
    exact ⟨0, h, fun Q9 hq => rb Q9 hq⟩
  have h := h.2 hc
  have rb := fun Q9 z => rb Q9 (br_f hc z)
  exact ⟨(-2), h, fun Q9 hq => rb Q9 hq⟩
/-! WebHostModel.sent()I -/
set_option maxHeartbeats 4000000 in
theorem e14_sent {σ : St} {Q : Int32 → Prop} (ok : okS σ) (h : w14_sent σ Q) : (∃ r : Int32, Q r ∧ ∀ (Q9 : Int32 → Prop), Q9 r → w14_sent σ Q9) := by
  have rb : ∀ (Q9 : Int32 → Prop), w14_sent σ Q9 → w14_sent σ Q9 := fun _ z => z
  have h := h ((ok 14 0 4).1 (by decide))
  have rb := fun Q9 z => rb Q9 (im_n z)
  by_cases hc : (σ 14 0 4) = 0
  · have h := h.1 hc
    have rb := fun Q9 z => rb Q9 (br_t hc z)
    exact ⟨(-1), h, fun Q9 hq => rb Q9 hq⟩
  have h := h.2 hc
  have rb := fun Q9 z => rb Q9 (br_f hc z)
  exact ⟨(σ 14 0 23), h, fun Q9 hq => rb Q9 hq⟩
/-! WebHostModel.shown(II)I -/
set_option maxHeartbeats 4000000 in
theorem e14_shown {σ : St} {x1 : Int32} {x2 : Int32} {Q : Int32 → Prop} (ok : okS σ) (h : w14_shown σ x1 x2 Q) : (∃ r : Int32, Q r ∧ ∀ (Q9 : Int32 → Prop), Q9 r → w14_shown σ x1 x2 Q9) := by
  have rb : ∀ (Q9 : Int32 → Prop), w14_shown σ x1 x2 Q9 → w14_shown σ x1 x2 Q9 := fun _ z => z
  by_cases hc : x2 ≤ x1
  · have h := h.1 hc
    have rb := fun Q9 z => rb Q9 (br_t hc z)
    exact ⟨x2, h, fun Q9 hq => rb Q9 hq⟩
  have h := h.2 hc
  have rb := fun Q9 z => rb Q9 (br_f hc z)
  obtain ⟨hc, h⟩ := h
  have rb := fun Q9 z => rb Q9 (And.intro hc z)
  have h := h ((ok 66 0 _).2 (tyk_a 66 2 (by decide) (by decide) _))
  have rb := fun Q9 z => rb Q9 (im_n z)
  by_cases hc : (σ 66 0 (x2 - 1).toNatClampNeg) = 13
  · have h := h.2 hc
    have rb := fun Q9 z => rb Q9 (br_u hc z)
    exact ⟨(x2 - 1), h, fun Q9 hq => rb Q9 hq⟩
  have h := h.1 hc
  have rb := fun Q9 z => rb Q9 (br_v hc z)
  exact ⟨x2, h, fun Q9 hq => rb Q9 hq⟩
/-! WebHostModel.sixteen(J)I -/
set_option maxHeartbeats 4000000 in
theorem e14_sixteen_L2 {σ : St} {Q : Int32 → Prop} {K24 : Int64 → Prop} (ok : okS σ) :
    ∀ (n : Nat) {y2 : Int64}, w14_sixteen_L2 σ Q K24 n y2 → (∃ (y2' : Int64), K24 y2' ∧ ∀ (Q9 : Int32 → Prop) (K9_24 : Int64 → Prop), K9_24 y2' → w14_sixteen_L2 σ Q9 K9_24 n y2) := by
  intro n
  induction n with
  | zero =>
    intro y2 h
    exact False.elim h
  | succ n ih =>
    intro y2 h
    have rb : ∀ (Q9 : Int32 → Prop) (K9_24 : Int64 → Prop), w14_sixteen_L2 σ Q9 K9_24 (n + 1) y2 → w14_sixteen_L2 σ Q9 K9_24 (n + 1) y2 := fun _ _ z => z
    by_cases hc : (lg_cmp y2 65535) ≤ 0
    · have h := h.1 hc
      have rb := fun Q9 K9_24 z => rb Q9 K9_24 (br_t hc z)
      exact ⟨y2, h, fun Q9 K9_24 hq => rb Q9 K9_24 hq⟩
    have h := h.2 hc
    have rb := fun Q9 K9_24 z => rb Q9 K9_24 (br_f hc z)
    rcases ih h with ⟨y2, h, rc⟩
    · exact ⟨y2, h, fun Q9 K9_24 hq => rb Q9 K9_24 (rc Q9 K9_24 hq)⟩
set_option maxHeartbeats 4000000 in
theorem e14_sixteen {σ : St} {y0 : Int64} {Q : Int32 → Prop} (ok : okS σ) (h : w14_sixteen σ y0 Q) : (∃ r : Int32, Q r ∧ ∀ (Q9 : Int32 → Prop), Q9 r → w14_sixteen σ y0 Q9) := by
  have rb : ∀ (Q9 : Int32 → Prop), w14_sixteen σ y0 Q9 → w14_sixteen σ y0 Q9 := fun _ z => z
  obtain ⟨n9, h⟩ := h
  rcases e14_sixteen_L2 ok n9 h with ⟨y2_2, h, rc⟩
  · have rb := fun Q9 z => rb Q9 (Exists.intro n9 (rc _ _ z))
    exact ⟨((65535 - y2_2).toInt32), h, fun Q9 hq => rb Q9 hq⟩
/-! WebHostModel.slot(I)I -/
set_option maxHeartbeats 4000000 in
theorem e14_slot {σ : St} {x1 : Int32} {Q : Int32 → Prop} (ok : okS σ) (h : w14_slot σ x1 Q) : (∃ r : Int32, Q r ∧ ∀ (Q9 : Int32 → Prop), Q9 r → w14_slot σ x1 Q9) := by
  have rb : ∀ (Q9 : Int32 → Prop), w14_slot σ x1 Q9 → w14_slot σ x1 Q9 := fun _ z => z
  have h := h ((ok 14 0 4).1 (by decide))
  have rb := fun Q9 z => rb Q9 (im_n z)
  by_cases hc : (σ 14 0 4) = 0
  · have h := h.1 hc
    have rb := fun Q9 z => rb Q9 (br_t hc z)
    exact ⟨(-1), h, fun Q9 hq => rb Q9 hq⟩
  have h := h.2 hc
  have rb := fun Q9 z => rb Q9 (br_f hc z)
  by_cases hc : x1 < 0
  · have h := h.1 hc
    have rb := fun Q9 z => rb Q9 (br_t hc z)
    exact ⟨(-1), h, fun Q9 hq => rb Q9 hq⟩
  have h := h.2 hc
  have rb := fun Q9 z => rb Q9 (br_f hc z)
  by_cases hc : 32 ≤ x1
  · have h := h.1 hc
    have rb := fun Q9 z => rb Q9 (br_t hc z)
    exact ⟨(-1), h, fun Q9 hq => rb Q9 hq⟩
  have h := h.2 hc
  have rb := fun Q9 z => rb Q9 (br_f hc z)
  by_cases hc : (σ 14 0 23) ≤ x1
  · have h := h.1 hc
    have rb := fun Q9 z => rb Q9 (br_t hc z)
    exact ⟨(-1), h, fun Q9 hq => rb Q9 hq⟩
  have h := h.2 hc
  have rb := fun Q9 z => rb Q9 (br_f hc z)
  exact ⟨((((σ 14 0 23) - 1) - x1) - (((σ 14 0 23) - 1) - x1) / 32 * 32), h, fun Q9 hq => rb Q9 hq⟩
/-! WebHostModel.small(I)I -/
set_option maxHeartbeats 4000000 in
theorem e14_small {σ : St} {x0 : Int32} {Q : Int32 → Prop} (ok : okS σ) (h : w14_small σ x0 Q) : (∃ r : Int32, Q r ∧ ∀ (Q9 : Int32 → Prop), Q9 r → w14_small σ x0 Q9) := by
  have rb : ∀ (Q9 : Int32 → Prop), w14_small σ x0 Q9 → w14_small σ x0 Q9 := fun _ z => z
  by_cases hc : x0 < 65
  · have h := h.1 hc
    have rb := fun Q9 z => rb Q9 (br_t hc z)
    exact ⟨x0, h, fun Q9 hq => rb Q9 hq⟩
  have h := h.2 hc
  have rb := fun Q9 z => rb Q9 (br_f hc z)
  by_cases hc : 90 < x0
  · have h := h.1 hc
    have rb := fun Q9 z => rb Q9 (br_t hc z)
    exact ⟨x0, h, fun Q9 hq => rb Q9 hq⟩
  have h := h.2 hc
  have rb := fun Q9 z => rb Q9 (br_f hc z)
  exact ⟨(x0 + 32), h, fun Q9 hq => rb Q9 hq⟩
/-! WebHostModel.state(I)I -/
set_option maxHeartbeats 4000000 in
theorem e14_state {σ : St} {x1 : Int32} {Q : Int32 → Prop} (ok : okS σ) (h : w14_state σ x1 Q) : (∃ r : Int32, Q r ∧ ∀ (Q9 : Int32 → Prop), Q9 r → w14_state σ x1 Q9) := by
  have rb : ∀ (Q9 : Int32 → Prop), w14_state σ x1 Q9 → w14_state σ x1 Q9 := fun _ z => z
  by_cases hc : x1 < 0
  · have h := h.1 hc
    have rb := fun Q9 z => rb Q9 (br_t hc z)
    exact ⟨(-1), h, fun Q9 hq => rb Q9 hq⟩
  have h := h.2 hc
  have rb := fun Q9 z => rb Q9 (br_f hc z)
  by_cases hc : x1 < 16
  · have h := h.1 hc
    have rb := fun Q9 z => rb Q9 (br_t hc z)
    have h := h ((ok 14 0 4).1 (by decide))
    have rb := fun Q9 z => rb Q9 (im_n z)
    by_cases hc : (σ 14 0 4) = 0
    · have h := h.1 hc
      have rb := fun Q9 z => rb Q9 (br_t hc z)
      exact ⟨0, h, fun Q9 hq => rb Q9 hq⟩
    have h := h.2 hc
    have rb := fun Q9 z => rb Q9 (br_f hc z)
    obtain ⟨hc, h⟩ := h
    have rb := fun Q9 z => rb Q9 (And.intro hc z)
    have hq1 := vp_lt hc
    exact ⟨(σ 15 x1.toNatClampNeg 0), h, fun Q9 hq => rb Q9 hq⟩
  have h := h.2 hc
  have rb := fun Q9 z => rb Q9 (br_f hc z)
  exact ⟨(-1), h, fun Q9 hq => rb Q9 hq⟩
/-! WebHostModel.strays()I -/
set_option maxHeartbeats 4000000 in
theorem e14_strays {σ : St} {Q : Int32 → Prop} (ok : okS σ) (h : w14_strays σ Q) : (∃ r : Int32, Q r ∧ ∀ (Q9 : Int32 → Prop), Q9 r → w14_strays σ Q9) := by
  have rb : ∀ (Q9 : Int32 → Prop), w14_strays σ Q9 → w14_strays σ Q9 := fun _ z => z
  exact ⟨(σ 14 0 18), h, fun Q9 hq => rb Q9 hq⟩
/-! WebHostModel.takeWindow(LWebHostModel$Connection;)V -/
set_option maxHeartbeats 4000000 in
theorem e14_takeWindow {σ : St} {o1 : Nat} {Q : St → Prop} (ho1 : o1 < 16) (ok : okS σ) (h : w14_takeWindow σ o1 Q) : (∃ (σ' : St), Q σ' ∧ okS σ' ∧ Fr (mF [] [] [] [(15, o1, [7, 8, 9])]) σ σ' ∧ ∀ (Q9 : St → Prop), Q9 σ' → w14_takeWindow σ o1 Q9) := by
  have fr : Fr (mF [] [] [] [(15, o1, [7, 8, 9])]) σ σ := Fr.rf
  have rb : ∀ (Q9 : St → Prop), w14_takeWindow σ o1 Q9 → w14_takeWindow σ o1 Q9 := fun _ z => z
  obtain ⟨σ1, e9⟩ : ∃ s : St, s = up3 σ 15 o1 7 (σ 14 0 37) := ⟨_, rfl⟩
  have h := h σ1 e9
  have rb := fun Q9 z => rb Q9 (nm_n e9 z)
  have ok : okS σ1 := by rw [e9]; exact (ok_n ok (by decide))
  have fr : Fr (mF [] [] [] [(15, o1, [7, 8, 9])]) σ σ1 := by rw [e9]; exact (Fr.up fr (mF_D (List.mem_of_getElem? (i := 0) rfl) rfl))
  obtain ⟨σ2, e9⟩ : ∃ s : St, s = up3 σ1 15 o1 8 (σ1 14 0 34) := ⟨_, rfl⟩
  have h := h σ2 e9
  have rb := fun Q9 z => rb Q9 (nm_n e9 z)
  have ok : okS σ2 := by rw [e9]; exact (ok_n ok (by decide))
  have fr : Fr (mF [] [] [] [(15, o1, [7, 8, 9])]) σ σ2 := by rw [e9]; exact (Fr.up fr (mF_D (List.mem_of_getElem? (i := 0) rfl) rfl))
  obtain ⟨σ3, e9⟩ : ∃ s : St, s = up3 σ2 15 o1 9 (σ2 14 0 35) := ⟨_, rfl⟩
  have h := h σ3 e9
  have rb := fun Q9 z => rb Q9 (nm_n e9 z)
  have ok : okS σ3 := by rw [e9]; exact (ok_n ok (by decide))
  have fr : Fr (mF [] [] [] [(15, o1, [7, 8, 9])]) σ σ3 := by rw [e9]; exact (Fr.up fr (mF_D (List.mem_of_getElem? (i := 0) rfl) rfl))
  exact ⟨σ3, h, ok, fr, fun Q9 hq => rb Q9 hq⟩
/-! WebHostModel.takesData(LWebHostModel$Connection;)Z -/
set_option maxHeartbeats 4000000 in
theorem e14_takesData {σ : St} {o0 : Nat} {Q : Int32 → Prop} (ho0 : o0 < 16) (ok : okS σ) (h : w14_takesData σ o0 Q) : (∃ r : Int32, Q r ∧ ∀ (Q9 : Int32 → Prop), Q9 r → w14_takesData σ o0 Q9) := by
  have rb : ∀ (Q9 : Int32 → Prop), w14_takesData σ o0 Q9 → w14_takesData σ o0 Q9 := fun _ z => z
  by_cases hc : (σ 15 o0 0) = 2
  · have h := h.1 hc
    have rb := fun Q9 z => rb Q9 (br_t hc z)
    exact ⟨1, h, fun Q9 hq => rb Q9 hq⟩
  have h := h.2 hc
  have rb := fun Q9 z => rb Q9 (br_f hc z)
  by_cases hc : (σ 15 o0 0) = 3
  · have h := h.1 hc
    have rb := fun Q9 z => rb Q9 (br_t hc z)
    exact ⟨1, h, fun Q9 hq => rb Q9 hq⟩
  have h := h.2 hc
  have rb := fun Q9 z => rb Q9 (br_f hc z)
  by_cases hc : (σ 15 o0 0) = 4
  · have h := h.2 hc
    have rb := fun Q9 z => rb Q9 (br_u hc z)
    exact ⟨1, h, fun Q9 hq => rb Q9 hq⟩
  have h := h.1 hc
  have rb := fun Q9 z => rb Q9 (br_v hc z)
  exact ⟨0, h, fun Q9 hq => rb Q9 hq⟩
/-! WebHostModel.timerSet(LWebHostModel$Connection;)V -/
set_option maxHeartbeats 4000000 in
theorem e14_timerSet {σ : St} {o1 : Nat} {Q : St → Prop} (ho1 : o1 < 16) (ok : okS σ) (h : w14_timerSet σ o1 Q) : (∃ (σ' : St), Q σ' ∧ okS σ' ∧ Fr (mF [] [] [] [(15, o1, [21, 22])]) σ σ' ∧ ∀ (Q9 : St → Prop), Q9 σ' → w14_timerSet σ o1 Q9) := by
  have fr : Fr (mF [] [] [] [(15, o1, [21, 22])]) σ σ := Fr.rf
  have rb : ∀ (Q9 : St → Prop), w14_timerSet σ o1 Q9 → w14_timerSet σ o1 Q9 := fun _ z => z
  obtain ⟨σ1, e9⟩ : ∃ s : St, s = up3 σ 15 o1 21 1 := ⟨_, rfl⟩
  have h := h σ1 e9
  have rb := fun Q9 z => rb Q9 (nm_n e9 z)
  have ok : okS σ1 := by rw [e9]; exact (ok_z ok (by decide) (Or.inr rfl))
  have fr : Fr (mF [] [] [] [(15, o1, [21, 22])]) σ σ1 := by rw [e9]; exact (Fr.up fr (mF_D (List.mem_of_getElem? (i := 0) rfl) rfl))
  obtain ⟨σ2, e9⟩ : ∃ s : St, s = up3 σ1 15 o1 22 ((σ1 14 0 10) + (σ1 15 o1 13)) := ⟨_, rfl⟩
  have h := h σ2 e9
  have rb := fun Q9 z => rb Q9 (nm_n e9 z)
  have ok : okS σ2 := by rw [e9]; exact (ok_n ok (by decide))
  have fr : Fr (mF [] [] [] [(15, o1, [21, 22])]) σ σ2 := by rw [e9]; exact (Fr.up fr (mF_D (List.mem_of_getElem? (i := 0) rfl) rfl))
  exact ⟨σ2, h, ok, fr, fun Q9 hq => rb Q9 hq⟩
/-! WebHostModel.toSend(LWebHostModel$Connection;I)B -/
set_option maxHeartbeats 4000000 in
theorem e14_toSend {σ : St} {o1 : Nat} {x2 : Int32} {Q : Int32 → Prop} (ho1 : o1 < 16) (ok : okS σ) (h : w14_toSend σ o1 x2 Q) : (∃ r : Int32, Q r ∧ ∀ (Q9 : Int32 → Prop), Q9 r → w14_toSend σ o1 x2 Q9) := by
  have rb : ∀ (Q9 : Int32 → Prop), w14_toSend σ o1 x2 Q9 → w14_toSend σ o1 x2 Q9 := fun _ z => z
  by_cases hc : (σ 15 o1 26) ≤ (x2 - (σ 15 o1 29))
  · have h := h.1 hc
    have rb := fun Q9 z => rb Q9 (br_t hc z)
    obtain ⟨hc, h⟩ := h
    have rb := fun Q9 z => rb Q9 (And.intro hc z)
    have h := h ((ok 51 0 _).2 (tyk_a 51 2 (by decide) (by decide) _))
    have rb := fun Q9 z => rb Q9 (im_n z)
    obtain ⟨hc, h⟩ := h
    have rb := fun Q9 z => rb Q9 (And.intro hc z)
    exact ⟨(σ 51 0 (((σ 15 o1 27) + (x2 - (σ 15 o1 29))) - (σ 15 o1 26)).toNatClampNeg), h, fun Q9 hq => rb Q9 hq⟩
  have h := h.2 hc
  have rb := fun Q9 z => rb Q9 (br_f hc z)
  obtain ⟨hc, h⟩ := h
  have rb := fun Q9 z => rb Q9 (And.intro hc z)
  have h := h ((ok 71 o1 _).2 (tyk_a 71 2 (by decide) (by decide) _))
  have rb := fun Q9 z => rb Q9 (im_n z)
  obtain ⟨hc, h⟩ := h
  have rb := fun Q9 z => rb Q9 (And.intro hc z)
  exact ⟨(σ 71 o1 (x2 - (σ 15 o1 29)).toNatClampNeg), h, fun Q9 hq => rb Q9 hq⟩
/-! WebHostModel.trayHalf(I)I -/
set_option maxHeartbeats 4000000 in
theorem e14_trayHalf {σ : St} {x1 : Int32} {Q : Int32 → Prop} (ok : okS σ) (h : w14_trayHalf σ x1 Q) : (∃ r : Int32, Q r ∧ ∀ (Q9 : Int32 → Prop), Q9 r → w14_trayHalf σ x1 Q9) := by
  have rb : ∀ (Q9 : Int32 → Prop), w14_trayHalf σ x1 Q9 → w14_trayHalf σ x1 Q9 := fun _ z => z
  obtain ⟨hc, h⟩ := h
  have rb := fun Q9 z => rb Q9 (And.intro hc z)
  have h := h ((ok 50 0 _).2 (tyk_a 50 2 (by decide) (by decide) _))
  have rb := fun Q9 z => rb Q9 (im_n z)
  obtain ⟨hc, h⟩ := h
  have rb := fun Q9 z => rb Q9 (And.intro hc z)
  have h := h ((ok 50 0 _).2 (tyk_a 50 2 (by decide) (by decide) _))
  have rb := fun Q9 z => rb Q9 (im_n z)
  exact ⟨((((σ 50 0 x1.toNatClampNeg) &&& 255) <<< ((8 : Int32) &&& 31)) ||| ((σ 50 0 (x1 + 1).toNatClampNeg) &&& 255)), h, fun Q9 hq => rb Q9 hq⟩
/-! WebHostModel.waiting()I -/
set_option maxHeartbeats 4000000 in
theorem e14_waiting_L4 {σ : St} {Q : Int32 → Prop} {K38 : Int32 → Prop} (ok : okS σ) :
    ∀ (n : Nat) {x1 : Int32} {x2 : Int32}, w14_waiting_L4 σ Q K38 n x1 x2 → (∃ (x1' : Int32), K38 x1' ∧ ∀ (Q9 : Int32 → Prop) (K9_38 : Int32 → Prop), K9_38 x1' → w14_waiting_L4 σ Q9 K9_38 n x1 x2) := by
  intro n
  induction n with
  | zero =>
    intro x1 x2 h
    exact False.elim h
  | succ n ih =>
    intro x1 x2 h
    have rb : ∀ (Q9 : Int32 → Prop) (K9_38 : Int32 → Prop), w14_waiting_L4 σ Q9 K9_38 (n + 1) x1 x2 → w14_waiting_L4 σ Q9 K9_38 (n + 1) x1 x2 := fun _ _ z => z
    by_cases hc : 8 ≤ x2
    · have h := h.1 hc
      have rb := fun Q9 K9_38 z => rb Q9 K9_38 (br_t hc z)
      exact ⟨x1, h, fun Q9 K9_38 hq => rb Q9 K9_38 hq⟩
    have h := h.2 hc
    have rb := fun Q9 K9_38 z => rb Q9 K9_38 (br_f hc z)
    have h := h ((ok 14 0 4).1 (by decide))
    have rb := fun Q9 K9_38 z => rb Q9 K9_38 (im_n z)
    by_cases hc : (σ 14 0 4) = 0
    · have h := h.1 hc
      have rb := fun Q9 K9_38 z => rb Q9 K9_38 (br_t hc z)
      exact ⟨x1, h, fun Q9 K9_38 hq => rb Q9 K9_38 hq⟩
    have h := h.2 hc
    have rb := fun Q9 K9_38 z => rb Q9 K9_38 (br_f hc z)
    obtain ⟨hc, h⟩ := h
    have rb := fun Q9 K9_38 z => rb Q9 K9_38 (And.intro hc z)
    have hq1 := vp_lt hc
    have h := h ((ok 17 x2.toNatClampNeg 0).1 (by decide))
    have rb := fun Q9 K9_38 z => rb Q9 K9_38 (im_n z)
    by_cases hc : (σ 17 x2.toNatClampNeg 0) = 0
    · have h := h.1 hc
      have rb := fun Q9 K9_38 z => rb Q9 K9_38 (br_t hc z)
      rcases ih h with ⟨x1, h, rc⟩
      · exact ⟨x1, h, fun Q9 K9_38 hq => rb Q9 K9_38 (rc Q9 K9_38 hq)⟩
    have h := h.2 hc
    have rb := fun Q9 K9_38 z => rb Q9 K9_38 (br_f hc z)
    rcases ih h with ⟨x1, h, rc⟩
    · exact ⟨x1, h, fun Q9 K9_38 hq => rb Q9 K9_38 (rc Q9 K9_38 hq)⟩
set_option maxHeartbeats 4000000 in
theorem e14_waiting {σ : St} {Q : Int32 → Prop} (ok : okS σ) (h : w14_waiting σ Q) : (∃ r : Int32, Q r ∧ ∀ (Q9 : Int32 → Prop), Q9 r → w14_waiting σ Q9) := by
  have rb : ∀ (Q9 : Int32 → Prop), w14_waiting σ Q9 → w14_waiting σ Q9 := fun _ z => z
  obtain ⟨n9, h⟩ := h
  rcases e14_waiting_L4 ok n9 h with ⟨x1_3, h, rc⟩
  · have rb := fun Q9 z => rb Q9 (Exists.intro n9 (rc _ _ z))
    exact ⟨x1_3, h, fun Q9 hq => rb Q9 hq⟩
/-! WebHostModel.word(I)V -/
set_option maxHeartbeats 4000000 in
theorem e14_word_L2 {x1 : Int32} {Q : St → Prop} {K42 : St → Prop} :
    ∀ (n : Nat) {σ : St} {x2 : Int32} (ok : okS σ), w14_word_L2 x1 Q K42 n σ x2 → (∃ (σ' : St), K42 σ' ∧ okS σ' ∧ Fr (mF [50] [] [(14, [1])] []) σ σ' ∧ ∀ (Q9 : St → Prop) (K9_42 : St → Prop), K9_42 σ' → w14_word_L2 x1 Q9 K9_42 n σ x2) := by
  intro n
  induction n with
  | zero =>
    intro σ x2 ok h
    exact False.elim h
  | succ n ih =>
    intro σ x2 ok h
    have fr : Fr (mF [50] [] [(14, [1])] []) σ σ := Fr.rf
    have rb : ∀ (Q9 : St → Prop) (K9_42 : St → Prop), w14_word_L2 x1 Q9 K9_42 (n + 1) σ x2 → w14_word_L2 x1 Q9 K9_42 (n + 1) σ x2 := fun _ _ z => z
    by_cases hc : 4 ≤ x2
    · have h := h.1 hc
      have rb := fun Q9 K9_42 z => rb Q9 K9_42 (br_t hc z)
      exact ⟨σ, h, ok, fr, fun Q9 K9_42 hq => rb Q9 K9_42 hq⟩
    have h := h.2 hc
    have rb := fun Q9 K9_42 z => rb Q9 K9_42 (br_f hc z)
    obtain ⟨hc, h⟩ := h
    have rb := fun Q9 K9_42 z => rb Q9 K9_42 (And.intro hc z)
    obtain ⟨σ1, e9⟩ : ∃ s : St, s = up3 σ 50 0 (σ 14 0 1).toNatClampNeg ((x1 >>> ((24 - (8 * x2)) &&& 31)).toInt8.toInt32).toInt8.toInt32 := ⟨_, rfl⟩
    have h := h σ1 e9
    have rb := fun Q9 K9_42 z => rb Q9 K9_42 (nm_n e9 z)
    have ok : okS σ1 := by rw [e9]; exact (ok_b ok (tyk_a 50 2 (by decide) (by decide) _))
    have fr : Fr (mF [50] [] [(14, [1])] []) σ σ1 := by rw [e9]; exact (Fr.up fr (mF_A rfl))
    obtain ⟨σ2, e9⟩ : ∃ s : St, s = up3 σ1 14 0 1 ((σ1 14 0 1) + 1) := ⟨_, rfl⟩
    have h := h σ2 e9
    have rb := fun Q9 K9_42 z => rb Q9 K9_42 (nm_n e9 z)
    have ok : okS σ2 := by rw [e9]; exact (ok_n ok (by decide))
    have fr : Fr (mF [50] [] [(14, [1])] []) σ σ2 := by rw [e9]; exact (Fr.up fr (mF_C (List.mem_of_getElem? (i := 0) rfl) rfl))
    rcases ih ok h with ⟨σ', h, ok, fr9, rc⟩
    · exact ⟨σ', h, ok, fr.tr fr9, fun Q9 K9_42 hq => rb Q9 K9_42 (rc Q9 K9_42 hq)⟩
set_option maxHeartbeats 4000000 in
theorem e14_word {σ : St} {x1 : Int32} {Q : St → Prop} (ok : okS σ) (h : w14_word σ x1 Q) : (∃ (σ' : St), Q σ' ∧ okS σ' ∧ Fr (mF [50] [] [(14, [1])] []) σ σ' ∧ ∀ (Q9 : St → Prop), Q9 σ' → w14_word σ x1 Q9) := by
  have fr : Fr (mF [50] [] [(14, [1])] []) σ σ := Fr.rf
  have rb : ∀ (Q9 : St → Prop), w14_word σ x1 Q9 → w14_word σ x1 Q9 := fun _ z => z
  obtain ⟨n9, h⟩ := h
  rcases e14_word_L2 n9 ok h with ⟨σ4, h, ok, fr9, rc⟩
  · have rb := fun Q9 z => rb Q9 (Exists.intro n9 (rc _ _ z))
    have fr := fr.tr (fr9.sub (mF_sub rfl sub_nil rfl sud_nil))
    exact ⟨σ4, h, ok, fr, fun Q9 hq => rb Q9 hq⟩
/-! WebHostModel$Connection.behind()I -/
set_option maxHeartbeats 4000000 in
theorem e15_behind {σ : St} {o0 : Nat} {Q : Int32 → Prop} (ho0 : o0 < 16) (ok : okS σ) (h : w15_behind σ o0 Q) : (∃ r : Int32, Q r ∧ ∀ (Q9 : Int32 → Prop), Q9 r → w15_behind σ o0 Q9) := by
  have rb : ∀ (Q9 : Int32 → Prop), w15_behind σ o0 Q9 → w15_behind σ o0 Q9 := fun _ z => z
  exact ⟨(((σ 15 o0 29) + (σ 15 o0 26)) + (σ 15 o0 28)), h, fun Q9 hq => rb Q9 hq⟩
/-! WebHostModel$Connection.held()I -/
set_option maxHeartbeats 4000000 in
theorem e15_held {σ : St} {o0 : Nat} {Q : Int32 → Prop} (ho0 : o0 < 16) (ok : okS σ) (h : w15_held σ o0 Q) : (∃ r : Int32, Q r ∧ ∀ (Q9 : Int32 → Prop), Q9 r → w15_held σ o0 Q9) := by
  have rb : ∀ (Q9 : Int32 → Prop), w15_held σ o0 Q9 → w15_held σ o0 Q9 := fun _ z => z
  have h := h ((ok 15 o0 41).1 (by decide))
  have rb := fun Q9 z => rb Q9 (im_n z)
  by_cases hc : (σ 15 o0 41) = 0
  · have h := h.1 hc
    have rb := fun Q9 z => rb Q9 (br_t hc z)
    exact ⟨(((σ 15 o0 36) - (σ 15 o0 35)) - 0), h, fun Q9 hq => rb Q9 hq⟩
  have h := h.2 hc
  have rb := fun Q9 z => rb Q9 (br_f hc z)
  exact ⟨(((σ 15 o0 36) - (σ 15 o0 35)) - 1), h, fun Q9 hq => rb Q9 hq⟩
/-! WebHost.install()I -/
set_option maxHeartbeats 4000000 in
theorem e0_install {σ : St} {Q : Int32 → St → Prop} (ok : okS σ) (h : w0_install σ Q) : (∃ (r : Int32) (σ' : St), Q r σ' ∧ okS σ' ∧ Fr (mF [21] [(90, 0)] [(0, [1, 11])] []) σ σ' ∧ ∀ (Q9 : Int32 → St → Prop), Q9 r σ' → w0_install σ Q9) := by
  have fr : Fr (mF [21] [(90, 0)] [(0, [1, 11])] []) σ σ := Fr.rf
  have rb : ∀ (Q9 : Int32 → St → Prop), w0_install σ Q9 → w0_install σ Q9 := fun _ z => z
  by_cases hc : (σ 0 0 1) ≤ 65535
  · have h := h.1 hc
    have rb := fun Q9 z => rb Q9 (br_t hc z)
    obtain ⟨h1, h2, h3, h⟩ := h
    have rb := fun Q9 z => rb Q9 (And.intro h1 (And.intro h2 (And.intro h3 z)))
    obtain ⟨σ1, e9⟩ : ∃ s : St, s = nw21 σ (σ 0 0 1) := ⟨_, rfl⟩
    have h := h σ1 e9
    have rb := fun Q9 z => rb Q9 (nm_n e9 z)
    have ok : okS σ1 := by rw [e9]; exact (ok_nw21 ok)
    have fr : Fr (mF [21] [(90, 0)] [(0, [1, 11])] []) σ σ1 := by rw [e9]; exact fr.nw21 (fun _ => (mF_A rfl)) (mF_B (List.mem_of_getElem? (i := 0) rfl))
    obtain ⟨σ2, h, ok, fr9, rc⟩ := e19_copy (by decide) (by decide) ok h
    have fr := fr.tr (fr9.sub (mF_mR (Or.inl rfl)))
    have rb := fun Q9 z => rb Q9 (rc _ z)
    obtain ⟨σ3, e9⟩ : ∃ s : St, s = up3 σ2 0 0 1 0 := ⟨_, rfl⟩
    have h := h σ3 e9
    have rb := fun Q9 z => rb Q9 (nm_n e9 z)
    have ok : okS σ3 := by rw [e9]; exact (ok_n ok (by decide))
    have fr : Fr (mF [21] [(90, 0)] [(0, [1, 11])] []) σ σ3 := by rw [e9]; exact (Fr.up fr (mF_C (List.mem_of_getElem? (i := 0) rfl) rfl))
    obtain ⟨σ4, e9⟩ : ∃ s : St, s = up3 σ3 0 0 11 0 := ⟨_, rfl⟩
    have h := h σ4 e9
    have rb := fun Q9 z => rb Q9 (nm_n e9 z)
    have ok : okS σ4 := by rw [e9]; exact (ok_z ok (by decide) (Or.inl rfl))
    have fr : Fr (mF [21] [(90, 0)] [(0, [1, 11])] []) σ σ4 := by rw [e9]; exact (Fr.up fr (mF_C (List.mem_of_getElem? (i := 0) rfl) rfl))
    exact ⟨(σ 0 0 1), σ4, h, ok, fr, fun Q9 hq => rb Q9 hq⟩
  have h := h.2 hc
  have rb := fun Q9 z => rb Q9 (br_f hc z)
  exact ⟨(-1), σ, h, ok, fr, fun Q9 hq => rb Q9 hq⟩
/-! WebHost.isKept(I)Z -/
set_option maxHeartbeats 4000000 in
theorem e0_isKept {σ : St} {x1 : Int32} {Q : Int32 → Prop} (ok : okS σ) (h : w0_isKept σ x1 Q) : (∃ r : Int32, Q r ∧ ∀ (Q9 : Int32 → Prop), Q9 r → w0_isKept σ x1 Q9) := by
  have rb : ∀ (Q9 : Int32 → Prop), w0_isKept σ x1 Q9 → w0_isKept σ x1 Q9 := fun _ z => z
  have h := h ((ok 0 0 11).1 (by decide))
  have rb := fun Q9 z => rb Q9 (im_n z)
  by_cases hc : (σ 0 0 11) = 0
  · have h := h.1 hc
    have rb := fun Q9 z => rb Q9 (br_t hc z)
    exact ⟨0, h, fun Q9 hq => rb Q9 hq⟩
  have h := h.2 hc
  have rb := fun Q9 z => rb Q9 (br_f hc z)
  obtain ⟨r1, h, rc⟩ := e2_isKept ok h
  have rb := fun Q9 z => rb Q9 (rc _ z)
  by_cases hc : r1 = 0
  · have h := h.1 hc
    have rb := fun Q9 z => rb Q9 (br_t hc z)
    exact ⟨0, h, fun Q9 hq => rb Q9 hq⟩
  have h := h.2 hc
  have rb := fun Q9 z => rb Q9 (br_f hc z)
  exact ⟨1, h, fun Q9 hq => rb Q9 hq⟩
/-! WebHost.state(I)I -/
set_option maxHeartbeats 4000000 in
theorem e0_state {σ : St} {x1 : Int32} {Q : Int32 → Prop} (ok : okS σ) (h : w0_state σ x1 Q) : (∃ r : Int32, Q r ∧ ∀ (Q9 : Int32 → Prop), Q9 r → w0_state σ x1 Q9) := by
  have rb : ∀ (Q9 : Int32 → Prop), w0_state σ x1 Q9 → w0_state σ x1 Q9 := fun _ z => z
  obtain ⟨r1, h, rc⟩ := e0_isPlace ok h
  have rb := fun Q9 z => rb Q9 (rc _ z)
  by_cases hc : r1 = 0
  · have h := h.2 hc
    have rb := fun Q9 z => rb Q9 (br_u hc z)
    exact ⟨(-1), h, fun Q9 hq => rb Q9 hq⟩
  have h := h.1 hc
  have rb := fun Q9 z => rb Q9 (br_v hc z)
  have h := h ((ok 0 0 11).1 (by decide))
  have rb := fun Q9 z => rb Q9 (im_n z)
  by_cases hc : (σ 0 0 11) = 0
  · have h := h.1 hc
    have rb := fun Q9 z => rb Q9 (br_t hc z)
    exact ⟨0, h, fun Q9 hq => rb Q9 hq⟩
  have h := h.2 hc
  have rb := fun Q9 z => rb Q9 (br_f hc z)
  obtain ⟨hc, h⟩ := h
  have rb := fun Q9 z => rb Q9 (And.intro hc z)
  have hq2 := vp_lt hc
  exact ⟨(σ 11 x1.toNatClampNeg 2), h, fun Q9 hq => rb Q9 hq⟩
/-! WebHost$Store.nameLength(I)I -/
set_option maxHeartbeats 4000000 in
theorem e1_nameLength_L2 {σ : St} {x1 : Int32} {Q : Int32 → Prop} {K28 : Int32 → Prop} (ok : okS σ) :
    ∀ (n : Nat) {x2 : Int32}, w1_nameLength_L2 σ x1 Q K28 n x2 → (∃ (x2' : Int32), K28 x2' ∧ ∀ (Q9 : Int32 → Prop) (K9_28 : Int32 → Prop), K9_28 x2' → w1_nameLength_L2 σ x1 Q9 K9_28 n x2) := by
  intro n
  induction n with
  | zero =>
    intro x2 h
    exact False.elim h
  | succ n ih =>
    intro x2 h
    have rb : ∀ (Q9 : Int32 → Prop) (K9_28 : Int32 → Prop), w1_nameLength_L2 σ x1 Q9 K9_28 (n + 1) x2 → w1_nameLength_L2 σ x1 Q9 K9_28 (n + 1) x2 := fun _ _ z => z
    by_cases hc : 48 ≤ x2
    · have h := h.1 hc
      have rb := fun Q9 K9_28 z => rb Q9 K9_28 (br_t hc z)
      exact ⟨x2, h, fun Q9 K9_28 hq => rb Q9 K9_28 hq⟩
    have h := h.2 hc
    have rb := fun Q9 K9_28 z => rb Q9 K9_28 (br_f hc z)
    obtain ⟨r1, h, rc⟩ := e1_entry ok h
    have rb := fun Q9 K9_28 z => rb Q9 K9_28 (rc _ z)
    obtain ⟨r2, h, rc⟩ := e1_look ok h
    have rb := fun Q9 K9_28 z => rb Q9 K9_28 (rc _ z)
    by_cases hc : r2 = 0
    · have h := h.1 hc
      have rb := fun Q9 K9_28 z => rb Q9 K9_28 (br_t hc z)
      exact ⟨x2, h, fun Q9 K9_28 hq => rb Q9 K9_28 hq⟩
    have h := h.2 hc
    have rb := fun Q9 K9_28 z => rb Q9 K9_28 (br_f hc z)
    rcases ih h with ⟨x2, h, rc⟩
    · exact ⟨x2, h, fun Q9 K9_28 hq => rb Q9 K9_28 (rc Q9 K9_28 hq)⟩
set_option maxHeartbeats 4000000 in
theorem e1_nameLength {σ : St} {x1 : Int32} {Q : Int32 → Prop} (ok : okS σ) (h : w1_nameLength σ x1 Q) : (∃ r : Int32, Q r ∧ ∀ (Q9 : Int32 → Prop), Q9 r → w1_nameLength σ x1 Q9) := by
  have rb : ∀ (Q9 : Int32 → Prop), w1_nameLength σ x1 Q9 → w1_nameLength σ x1 Q9 := fun _ z => z
  obtain ⟨n9, h⟩ := h
  rcases e1_nameLength_L2 ok n9 h with ⟨x2_4, h, rc⟩
  · have rb := fun Q9 z => rb Q9 (Exists.intro n9 (rc _ _ z))
    exact ⟨x2_4, h, fun Q9 hq => rb Q9 hq⟩
/-! WebHost$Device.length(I)I -/
set_option maxHeartbeats 4000000 in
theorem e2_length {σ : St} {x1 : Int32} {Q : Int32 → Prop} (ok : okS σ) (h : w2_length σ x1 Q) : (∃ r : Int32, Q r ∧ ∀ (Q9 : Int32 → Prop), Q9 r → w2_length σ x1 Q9) := by
  have rb : ∀ (Q9 : Int32 → Prop), w2_length σ x1 Q9 → w2_length σ x1 Q9 := fun _ z => z
  obtain ⟨r1, h, rc⟩ := e2_slot ok h
  have rb := fun Q9 z => rb Q9 (rc _ z)
  obtain ⟨hc, h⟩ := h
  have rb := fun Q9 z => rb Q9 (And.intro hc z)
  exact ⟨(σ 25 0 r1.toNatClampNeg), h, fun Q9 hq => rb Q9 hq⟩
/-! WebHost$Device.send([BII[BI)V -/
set_option maxHeartbeats 4000000 in
theorem e2_send_L81 {x6 : Int32} {o7 : Nat} {x8 : Int32} {Q : St → Prop} {K100 : St → Prop} (ho7 : o7 < 32) :
    ∀ (n : Nat) {σ : St} {x9 : Int32} (ok : okS σ), w2_send_L81 x6 o7 x8 Q K100 n σ x9 → (∃ (σ' : St), K100 σ' ∧ okS σ' ∧ Fr (mF [] [(23, o7)] [] []) σ σ' ∧ ∀ (Q9 : St → Prop) (K9_100 : St → Prop), K9_100 σ' → w2_send_L81 x6 o7 x8 Q9 K9_100 n σ x9) := by
  intro n
  induction n with
  | zero =>
    intro σ x9 ok h
    exact False.elim h
  | succ n ih =>
    intro σ x9 ok h
    have fr : Fr (mF [] [(23, o7)] [] []) σ σ := Fr.rf
    have rb : ∀ (Q9 : St → Prop) (K9_100 : St → Prop), w2_send_L81 x6 o7 x8 Q9 K9_100 (n + 1) σ x9 → w2_send_L81 x6 o7 x8 Q9 K9_100 (n + 1) σ x9 := fun _ _ z => z
    by_cases hc : x8 ≤ x9
    · have h := h.1 hc
      have rb := fun Q9 K9_100 z => rb Q9 K9_100 (br_t hc z)
      exact ⟨σ, h, ok, fr, fun Q9 K9_100 hq => rb Q9 K9_100 hq⟩
    have h := h.2 hc
    have rb := fun Q9 K9_100 z => rb Q9 K9_100 (br_f hc z)
    obtain ⟨hc, h⟩ := h
    have rb := fun Q9 K9_100 z => rb Q9 K9_100 (And.intro hc z)
    obtain ⟨σ6, e9⟩ : ∃ s : St, s = up3 σ 23 o7 x9.toNatClampNeg (0 : Int32).toInt8.toInt32 := ⟨_, rfl⟩
    have h := h σ6 e9
    have rb := fun Q9 K9_100 z => rb Q9 K9_100 (nm_n e9 z)
    have ok : okS σ6 := by rw [e9]; exact (ok_b ok (tyk_a 23 2 (by decide) (by decide) _))
    have fr : Fr (mF [] [(23, o7)] [] []) σ σ6 := by rw [e9]; exact (Fr.up fr (mF_B (List.mem_of_getElem? (i := 0) rfl)))
    rcases ih ok h with ⟨σ', h, ok, fr9, rc⟩
    · exact ⟨σ', h, ok, fr.tr fr9, fun Q9 K9_100 hq => rb Q9 K9_100 (rc Q9 K9_100 hq)⟩
set_option maxHeartbeats 4000000 in
theorem e2_send {σ : St} {k1 : Nat} {i1 : Nat} {x2 : Int32} {x3 : Int32} {k4 : Nat} {i4 : Nat} {x5 : Int32} {Q : St → Prop} (hk1 : abc k1 i1 = true) (hk4 : abc k4 i4 = true) (ok : okS σ) (h : w2_send σ k1 i1 x2 x3 k4 i4 x5 Q) : (∃ (σ' : St), Q σ' ∧ okS σ' ∧ Fr (mF [23, 25, 26] [] [(2, [3])] []) σ σ' ∧ ∀ (Q9 : St → Prop), Q9 σ' → w2_send σ k1 i1 x2 x3 k4 i4 x5 Q9) := by
  have fr : Fr (mF [23, 25, 26] [] [(2, [3])] []) σ σ := Fr.rf
  have rb : ∀ (Q9 : St → Prop), w2_send σ k1 i1 x2 x3 k4 i4 x5 Q9 → w2_send σ k1 i1 x2 x3 k4 i4 x5 Q9 := fun _ z => z
  obtain ⟨hc, h⟩ := h
  have rb := fun Q9 z => rb Q9 (And.intro hc z)
  have hq1 := vp_lt hc
  obtain ⟨σ2, h, ok, fr9, rc⟩ := e19_copy hk1 (ok23 hq1) ok h
  have fr := fr.tr (fr9.sub (mF_mR (Or.inl rfl)))
  have rb := fun Q9 z => rb Q9 (rc _ z)
  obtain ⟨σ3, h, ok, fr9, rc⟩ := e19_copy (by decide) (ok23 hq1) ok h
  have fr := fr.tr (fr9.sub (mF_mR (Or.inl rfl)))
  have rb := fun Q9 z => rb Q9 (rc _ z)
  obtain ⟨σ4, h, ok, fr9, rc⟩ := e19_putTwo (ok23 hq1) ok h
  have fr := fr.tr (fr9.sub (mF_mR (Or.inl rfl)))
  have rb := fun Q9 z => rb Q9 (rc _ z)
  obtain ⟨σ5, h, ok, fr9, rc⟩ := e19_copy hk4 (ok23 hq1) ok h
  have fr := fr.tr (fr9.sub (mF_mR (Or.inl rfl)))
  have rb := fun Q9 z => rb Q9 (rc _ z)
  obtain ⟨n9, h⟩ := h
  rcases e2_send_L81 hq1 n9 ok h with ⟨σ8, h, ok, fr9, rc⟩
  · have rb := fun Q9 z => rb Q9 (Exists.intro n9 (rc _ _ z))
    have fr := fr.tr (fr9.sub (mF_sub rfl (sub_c (Or.inl rfl) sub_nil) rfl sud_nil))
    obtain ⟨hc, h⟩ := h
    have rb := fun Q9 z => rb Q9 (And.intro hc z)
    obtain ⟨σ9, e9⟩ : ∃ s : St, s = up3 σ8 25 0 ((σ 2 0 3) - (σ 2 0 3) / 32 * 32).toNatClampNeg (imax (14 + x5) 60) := ⟨_, rfl⟩
    have h := h σ9 e9
    have rb := fun Q9 z => rb Q9 (nm_n e9 z)
    have ok : okS σ9 := by rw [e9]; exact (ok_n ok (tyk_a 25 0 (by decide) (by decide) _))
    have fr : Fr (mF [23, 25, 26] [] [(2, [3])] []) σ σ9 := by rw [e9]; exact (Fr.up fr (mF_A rfl))
    obtain ⟨hc, h⟩ := h
    have rb := fun Q9 z => rb Q9 (And.intro hc z)
    obtain ⟨σ10, e9⟩ : ∃ s : St, s = up3 σ9 26 0 ((σ 2 0 3) - (σ 2 0 3) / 32 * 32).toNatClampNeg (σ9 2 0 4) := ⟨_, rfl⟩
    have h := h σ10 e9
    have rb := fun Q9 z => rb Q9 (nm_n e9 z)
    have ok : okS σ10 := by rw [e9]; exact (ok_n ok (tyk_a 26 0 (by decide) (by decide) _))
    have fr : Fr (mF [23, 25, 26] [] [(2, [3])] []) σ σ10 := by rw [e9]; exact (Fr.up fr (mF_A rfl))
    obtain ⟨σ11, e9⟩ : ∃ s : St, s = up3 σ10 2 0 3 ((σ10 2 0 3) + 1) := ⟨_, rfl⟩
    have h := h σ11 e9
    have rb := fun Q9 z => rb Q9 (nm_n e9 z)
    have ok : okS σ11 := by rw [e9]; exact (ok_n ok (by decide))
    have fr : Fr (mF [23, 25, 26] [] [(2, [3])] []) σ σ11 := by rw [e9]; exact (Fr.up fr (mF_C (List.mem_of_getElem? (i := 0) rfl) rfl))
    exact ⟨σ11, h, ok, fr, fun Q9 hq => rb Q9 hq⟩
/-! WebHost$Device.time(I)I -/
set_option maxHeartbeats 4000000 in
theorem e2_time {σ : St} {x1 : Int32} {Q : Int32 → Prop} (ok : okS σ) (h : w2_time σ x1 Q) : (∃ r : Int32, Q r ∧ ∀ (Q9 : Int32 → Prop), Q9 r → w2_time σ x1 Q9) := by
  have rb : ∀ (Q9 : Int32 → Prop), w2_time σ x1 Q9 → w2_time σ x1 Q9 := fun _ z => z
  obtain ⟨r1, h, rc⟩ := e2_slot ok h
  have rb := fun Q9 z => rb Q9 (rc _ z)
  obtain ⟨hc, h⟩ := h
  have rb := fun Q9 z => rb Q9 (And.intro hc z)
  exact ⟨(σ 26 0 r1.toNatClampNeg), h, fun Q9 hq => rb Q9 hq⟩
/-! WebHost$Hops.due()I -/
set_option maxHeartbeats 4000000 in
theorem e3_due_L5 {σ : St} {Q : Int32 → Prop} {K33 : Int32 → Prop} (ok : okS σ) :
    ∀ (n : Nat) {x1 : Int32} {x2 : Int32}, w3_due_L5 σ Q K33 n x1 x2 → (∃ (x1' : Int32), K33 x1' ∧ ∀ (Q9 : Int32 → Prop) (K9_33 : Int32 → Prop), K9_33 x1' → w3_due_L5 σ Q9 K9_33 n x1 x2) := by
  intro n
  induction n with
  | zero =>
    intro x1 x2 h
    exact False.elim h
  | succ n ih =>
    intro x1 x2 h
    have rb : ∀ (Q9 : Int32 → Prop) (K9_33 : Int32 → Prop), w3_due_L5 σ Q9 K9_33 (n + 1) x1 x2 → w3_due_L5 σ Q9 K9_33 (n + 1) x1 x2 := fun _ _ z => z
    by_cases hc : (σ 3 0 9) ≤ x2
    · have h := h.1 hc
      have rb := fun Q9 K9_33 z => rb Q9 K9_33 (br_t hc z)
      exact ⟨x1, h, fun Q9 K9_33 hq => rb Q9 K9_33 hq⟩
    have h := h.2 hc
    have rb := fun Q9 K9_33 z => rb Q9 K9_33 (br_f hc z)
    obtain ⟨hc, h⟩ := h
    have rb := fun Q9 K9_33 z => rb Q9 K9_33 (And.intro hc z)
    obtain ⟨hq1, h⟩ := h
    have rb := fun Q9 K9_33 z => rb Q9 K9_33 (And.intro hq1 z)
    obtain ⟨r2, h, rc⟩ := e4_due hq1 ok h
    have rb := fun Q9 K9_33 z => rb Q9 K9_33 (rc _ z)
    rcases ih h with ⟨x1, h, rc⟩
    · exact ⟨x1, h, fun Q9 K9_33 hq => rb Q9 K9_33 (rc Q9 K9_33 hq)⟩
set_option maxHeartbeats 4000000 in
theorem e3_due {σ : St} {Q : Int32 → Prop} (ok : okS σ) (h : w3_due σ Q) : (∃ r : Int32, Q r ∧ ∀ (Q9 : Int32 → Prop), Q9 r → w3_due σ Q9) := by
  have rb : ∀ (Q9 : Int32 → Prop), w3_due σ Q9 → w3_due σ Q9 := fun _ z => z
  obtain ⟨n9, h⟩ := h
  rcases e3_due_L5 ok n9 h with ⟨x1_4, h, rc⟩
  · have rb := fun Q9 z => rb Q9 (Exists.intro n9 (rc _ _ z))
    exact ⟨x1_4, h, fun Q9 hq => rb Q9 hq⟩
/-! WebHost$Hops.knows(I)Z -/
set_option maxHeartbeats 4000000 in
theorem e3_knows {σ : St} {x1 : Int32} {Q : Int32 → Prop} (ok : okS σ) (h : w3_knows σ x1 Q) : (∃ r : Int32, Q r ∧ ∀ (Q9 : Int32 → Prop), Q9 r → w3_knows σ x1 Q9) := by
  have rb : ∀ (Q9 : Int32 → Prop), w3_knows σ x1 Q9 → w3_knows σ x1 Q9 := fun _ z => z
  obtain ⟨r1, h, rc⟩ := e3_find ok h
  have rb := fun Q9 z => rb Q9 (rc _ z)
  by_cases hc : r1 < 0
  · have h := h.1 hc
    have rb := fun Q9 z => rb Q9 (br_t hc z)
    exact ⟨0, h, fun Q9 hq => rb Q9 hq⟩
  have h := h.2 hc
  have rb := fun Q9 z => rb Q9 (br_f hc z)
  obtain ⟨hc, h⟩ := h
  have rb := fun Q9 z => rb Q9 (And.intro hc z)
  by_cases hc : 60000 ≤ ((σ 2 0 4) - (σ 29 0 r1.toNatClampNeg))
  · have h := h.1 hc
    have rb := fun Q9 z => rb Q9 (br_t hc z)
    exact ⟨0, h, fun Q9 hq => rb Q9 hq⟩
  have h := h.2 hc
  have rb := fun Q9 z => rb Q9 (br_f hc z)
  exact ⟨1, h, fun Q9 hq => rb Q9 hq⟩
/-! WebHost$Fragments.act()V -/
set_option maxHeartbeats 4000000 in
theorem e6_act {σ : St} {Q : St → Prop} (ok : okS σ) (h : w6_act σ Q) : (∃ (σ' : St), Q σ' ∧ okS σ' ∧ Fr (mF [37] [] [(6, [1])] []) σ σ' ∧ ∀ (Q9 : St → Prop), Q9 σ' → w6_act σ Q9) := by
  have fr : Fr (mF [37] [] [(6, [1])] []) σ σ := Fr.rf
  have rb : ∀ (Q9 : St → Prop), w6_act σ Q9 → w6_act σ Q9 := fun _ z => z
  obtain ⟨σ1, h, ok, fr9, rc⟩ := e6_remove ok h
  have fr := fr.tr (fr9.sub (mF_sub rfl sub_nil rfl sud_nil))
  have rb := fun Q9 z => rb Q9 (rc _ z)
  exact ⟨σ1, h, ok, fr, fun Q9 hq => rb Q9 hq⟩
/-! WebHost$Fragments.take([BIIIIIIZI)LWebHost$Making; -/
set_option maxHeartbeats 4000000 in
theorem e6_take_J87 {σ : St} {k1 : Nat} {i1 : Nat} {x2 : Int32} {x3 : Int32} {x7 : Int32} {x8 : Int32} {x10 : Int32} {Q : Option Nat → St → Prop} (hk1 : abc k1 i1 = true) (ok : okS σ) (h : w6_take_J87 σ k1 i1 x2 x3 x7 x8 x10 Q) : (∃ (r : Option Nat) (σ' : St), Q r σ' ∧ okS σ' ∧ Fr (mF [37, 38, 39] [] [(6, [1, 2]), (7, [6, 7])] []) σ σ' ∧ ∀ (Q9 : Option Nat → St → Prop), Q9 r σ' → w6_take_J87 σ k1 i1 x2 x3 x7 x8 x10 Q9) := by
  have fr : Fr (mF [37, 38, 39] [] [(6, [1, 2]), (7, [6, 7])] []) σ σ := Fr.rf
  have rb : ∀ (Q9 : Option Nat → St → Prop), w6_take_J87 σ k1 i1 x2 x3 x7 x8 x10 Q9 → w6_take_J87 σ k1 i1 x2 x3 x7 x8 x10 Q9 := fun _ z => z
  obtain ⟨hc, h⟩ := h
  have rb := fun Q9 z => rb Q9 (And.intro hc z)
  obtain ⟨hq2, h⟩ := h
  have rb := fun Q9 z => rb Q9 (And.intro hq2 z)
  obtain ⟨r3, σ3, h, ok, fr9, rc⟩ := e7_add hq2 hk1 ok h
  have fr := fr.tr (fr9.sub (mF_sub rfl (sub_c (Or.inl rfl) (sub_c (Or.inl rfl) sub_nil)) rfl (sud_c (Or.inl ⟨_, List.mem_of_getElem? (i := 1) rfl, rfl⟩) sud_nil)))
  have rb := fun Q9 z => rb Q9 (rc _ z)
  by_cases hc : r3 = 0
  · have h := h.2 hc
    have rb := fun Q9 z => rb Q9 (br_u hc z)
    obtain ⟨σ7, h, ok, fr9, rc⟩ := e6_remove ok h
    have fr := fr.tr (fr9.sub (mF_sub rfl sub_nil rfl sud_nil))
    have rb := fun Q9 z => rb Q9 (rc _ z)
    exact ⟨none, σ7, h, ok, fr, fun Q9 hq => rb Q9 hq⟩
  have h := h.1 hc
  have rb := fun Q9 z => rb Q9 (br_v hc z)
  obtain ⟨r4, h, rc⟩ := e7_isWhole hq2 ok h
  have rb := fun Q9 z => rb Q9 (rc _ z)
  by_cases hc : r4 = 0
  · have h := h.2 hc
    have rb := fun Q9 z => rb Q9 (br_u hc z)
    exact ⟨none, σ3, h, ok, fr, fun Q9 hq => rb Q9 hq⟩
  have h := h.1 hc
  have rb := fun Q9 z => rb Q9 (br_v hc z)
  obtain ⟨σ5, h, ok, fr9, rc⟩ := e6_remove ok h
  have fr := fr.tr (fr9.sub (mF_sub rfl sub_nil rfl sud_nil))
  have rb := fun Q9 z => rb Q9 (rc _ z)
  obtain ⟨σ6, e9⟩ : ∃ s : St, s = up3 σ5 6 0 2 ((σ5 6 0 2) + 1) := ⟨_, rfl⟩
  have h := h σ6 e9
  have rb := fun Q9 z => rb Q9 (nm_n e9 z)
  have ok : okS σ6 := by rw [e9]; exact (ok_n ok (by decide))
  have fr : Fr (mF [37, 38, 39] [] [(6, [1, 2]), (7, [6, 7])] []) σ σ6 := by rw [e9]; exact (Fr.up fr (mF_C (List.mem_of_getElem? (i := 0) rfl) rfl))
  exact ⟨(some ((σ 37 0 x10.toNatClampNeg).toNatClampNeg)), σ6, h, ok, fr, fun Q9 hq => rb Q9 hq⟩
set_option maxHeartbeats 4000000 in
theorem e6_take_J18 {σ : St} {k1 : Nat} {i1 : Nat} {x2 : Int32} {x3 : Int32} {x4 : Int32} {x5 : Int32} {x6 : Int32} {x7 : Int32} {x8 : Int32} {x9 : Int32} {Q : Option Nat → St → Prop} (hk1 : abc k1 i1 = true) (ok : okS σ) (h : w6_take_J18 σ k1 i1 x2 x3 x4 x5 x6 x7 x8 x9 Q) : (∃ (r : Option Nat) (σ' : St), Q r σ' ∧ okS σ' ∧ Fr (mF [37, 38, 39] [] [(6, [1, 2]), (7, [0, 1, 2, 3, 6, 7])] []) σ σ' ∧ ∀ (Q9 : Option Nat → St → Prop), Q9 r σ' → w6_take_J18 σ k1 i1 x2 x3 x4 x5 x6 x7 x8 x9 Q9) := by
  have fr : Fr (mF [37, 38, 39] [] [(6, [1, 2]), (7, [0, 1, 2, 3, 6, 7])] []) σ σ := Fr.rf
  have rb : ∀ (Q9 : Option Nat → St → Prop), w6_take_J18 σ k1 i1 x2 x3 x4 x5 x6 x7 x8 x9 Q9 → w6_take_J18 σ k1 i1 x2 x3 x4 x5 x6 x7 x8 x9 Q9 := fun _ z => z
  by_cases hc : (x7 + x3) ≤ 4096
  · have h := h.1 hc
    have rb := fun Q9 z => rb Q9 (br_t hc z)
    obtain ⟨r1, h, rc⟩ := e6_find ok h
    have rb := fun Q9 z => rb Q9 (rc _ z)
    by_cases hc : r1 = 4
    · have h := h.2 hc
      have rb := fun Q9 z => rb Q9 (br_u hc z)
      exact ⟨none, σ, h, ok, fr, fun Q9 hq => rb Q9 hq⟩
    have h := h.1 hc
    have rb := fun Q9 z => rb Q9 (br_v hc z)
    by_cases hc : r1 = (σ 6 0 1)
    · have h := h.2 hc
      have rb := fun Q9 z => rb Q9 (br_u hc z)
      obtain ⟨hc, h⟩ := h
      have rb := fun Q9 z => rb Q9 (And.intro hc z)
      obtain ⟨hq8, h⟩ := h
      have rb := fun Q9 z => rb Q9 (And.intro hq8 z)
      obtain ⟨σ9, h, ok, fr9, rc⟩ := e7_begin hq8 ok h
      have fr := fr.tr (fr9.sub (mF_sub rfl (sub_c (Or.inl rfl) sub_nil) rfl (sud_c (Or.inl ⟨_, List.mem_of_getElem? (i := 1) rfl, rfl⟩) sud_nil)))
      have rb := fun Q9 z => rb Q9 (rc _ z)
      obtain ⟨σ10, e9⟩ : ∃ s : St, s = up3 σ9 6 0 1 ((σ9 6 0 1) + 1) := ⟨_, rfl⟩
      have h := h σ10 e9
      have rb := fun Q9 z => rb Q9 (nm_n e9 z)
      have ok : okS σ10 := by rw [e9]; exact (ok_n ok (by decide))
      have fr : Fr (mF [37, 38, 39] [] [(6, [1, 2]), (7, [0, 1, 2, 3, 6, 7])] []) σ σ10 := by rw [e9]; exact (Fr.up fr (mF_C (List.mem_of_getElem? (i := 0) rfl) rfl))
      obtain ⟨r9, σ9, h, ok, fr9, rc⟩ := e6_take_J87 hk1 ok h
      exact ⟨r9, σ9, h, ok, fr.tr (fr9.sub (mF_sub rfl sub_nil rfl sud_nil)), fun Q9 hq => rb Q9 (rc Q9 hq)⟩
    have h := h.1 hc
    have rb := fun Q9 z => rb Q9 (br_v hc z)
    obtain ⟨r9, σ9, h, ok, fr9, rc⟩ := e6_take_J87 hk1 ok h
    exact ⟨r9, σ9, h, ok, fr.tr (fr9.sub (mF_sub rfl sub_nil rfl sud_nil)), fun Q9 hq => rb Q9 (rc Q9 hq)⟩
  have h := h.2 hc
  have rb := fun Q9 z => rb Q9 (br_f hc z)
  exact ⟨none, σ, h, ok, fr, fun Q9 hq => rb Q9 hq⟩
set_option maxHeartbeats 4000000 in
theorem e6_take {σ : St} {k1 : Nat} {i1 : Nat} {x2 : Int32} {x3 : Int32} {x4 : Int32} {x5 : Int32} {x6 : Int32} {x7 : Int32} {x8 : Int32} {x9 : Int32} {Q : Option Nat → St → Prop} (hk1 : abc k1 i1 = true) (ok : okS σ) (h : w6_take σ k1 i1 x2 x3 x4 x5 x6 x7 x8 x9 Q) : (∃ (r : Option Nat) (σ' : St), Q r σ' ∧ okS σ' ∧ Fr (mF [37, 38, 39] [] [(6, [1, 2]), (7, [0, 1, 2, 3, 6, 7])] []) σ σ' ∧ ∀ (Q9 : Option Nat → St → Prop), Q9 r σ' → w6_take σ k1 i1 x2 x3 x4 x5 x6 x7 x8 x9 Q9) := by
  have fr : Fr (mF [37, 38, 39] [] [(6, [1, 2]), (7, [0, 1, 2, 3, 6, 7])] []) σ σ := Fr.rf
  have rb : ∀ (Q9 : Option Nat → St → Prop), w6_take σ k1 i1 x2 x3 x4 x5 x6 x7 x8 x9 Q9 → w6_take σ k1 i1 x2 x3 x4 x5 x6 x7 x8 x9 Q9 := fun _ z => z
  by_cases hc : x8 = 0
  · have h := h.2 hc
    have rb := fun Q9 z => rb Q9 (br_u hc z)
    by_cases hc : x3 < 8
    · have h := h.1 hc
      have rb := fun Q9 z => rb Q9 (br_t hc z)
      exact ⟨none, σ, h, ok, fr, fun Q9 hq => rb Q9 hq⟩
    have h := h.2 hc
    have rb := fun Q9 z => rb Q9 (br_f hc z)
    by_cases hc : (x3 - x3 / 8 * 8) = 0
    · have h := h.2 hc
      have rb := fun Q9 z => rb Q9 (br_u hc z)
      obtain ⟨r9, σ9, h, ok, fr9, rc⟩ := e6_take_J18 hk1 ok h
      exact ⟨r9, σ9, h, ok, fr.tr (fr9.sub (mF_sub rfl sub_nil rfl sud_nil)), fun Q9 hq => rb Q9 (rc Q9 hq)⟩
    have h := h.1 hc
    have rb := fun Q9 z => rb Q9 (br_v hc z)
    exact ⟨none, σ, h, ok, fr, fun Q9 hq => rb Q9 hq⟩
  have h := h.1 hc
  have rb := fun Q9 z => rb Q9 (br_v hc z)
  obtain ⟨r9, σ9, h, ok, fr9, rc⟩ := e6_take_J18 hk1 ok h
  exact ⟨r9, σ9, h, ok, fr.tr (fr9.sub (mF_sub rfl sub_nil rfl sud_nil)), fun Q9 hq => rb Q9 (rc Q9 hq)⟩
/-! WebHost$Requests.hexadecimal(I)I -/
set_option maxHeartbeats 4000000 in
theorem e9_hexadecimal {σ : St} {x0 : Int32} {Q : Int32 → Prop} (ok : okS σ) (h : w9_hexadecimal σ x0 Q) : (∃ r : Int32, Q r ∧ ∀ (Q9 : Int32 → Prop), Q9 r → w9_hexadecimal σ x0 Q9) := by
  have rb : ∀ (Q9 : Int32 → Prop), w9_hexadecimal σ x0 Q9 → w9_hexadecimal σ x0 Q9 := fun _ z => z
  obtain ⟨r1, h, rc⟩ := e9_isIn ok h
  have rb := fun Q9 z => rb Q9 (rc _ z)
  by_cases hc : r1 = 0
  · have h := h.1 hc
    have rb := fun Q9 z => rb Q9 (br_t hc z)
    obtain ⟨r2, h, rc⟩ := e9_isIn ok h
    have rb := fun Q9 z => rb Q9 (rc _ z)
    by_cases hc : r2 = 0
    · have h := h.1 hc
      have rb := fun Q9 z => rb Q9 (br_t hc z)
      obtain ⟨r3, h, rc⟩ := e9_isIn ok h
      have rb := fun Q9 z => rb Q9 (rc _ z)
      by_cases hc : r3 = 0
      · have h := h.1 hc
        have rb := fun Q9 z => rb Q9 (br_t hc z)
        exact ⟨(-1), h, fun Q9 hq => rb Q9 hq⟩
      have h := h.2 hc
      have rb := fun Q9 z => rb Q9 (br_f hc z)
      exact ⟨((x0 - 65) + 10), h, fun Q9 hq => rb Q9 hq⟩
    have h := h.2 hc
    have rb := fun Q9 z => rb Q9 (br_f hc z)
    exact ⟨((x0 - 97) + 10), h, fun Q9 hq => rb Q9 hq⟩
  have h := h.2 hc
  have rb := fun Q9 z => rb Q9 (br_f hc z)
  exact ⟨(x0 - 48), h, fun Q9 hq => rb Q9 hq⟩
/-! WebHost$Requests.length(II)V -/
set_option maxHeartbeats 4000000 in
theorem e9_length_2_L39 {x2 : Int32} {Q : St → Prop} {K95 : St → Prop} :
    ∀ (n : Nat) {σ : St} {x3 : Int32} (ok : okS σ), w9_length_2_L39 x2 Q K95 n σ x3 → (∃ (σ' : St), K95 σ' ∧ okS σ' ∧ Fr (mF [] [] [(9, [9, 13])] []) σ σ' ∧ ∀ (Q9 : St → Prop) (K9_95 : St → Prop), K9_95 σ' → w9_length_2_L39 x2 Q9 K9_95 n σ x3) := by
  intro n
  induction n with
  | zero =>
    intro σ x3 ok h
    exact False.elim h
  | succ n ih =>
    intro σ x3 ok h
    have fr : Fr (mF [] [] [(9, [9, 13])] []) σ σ := Fr.rf
    have rb : ∀ (Q9 : St → Prop) (K9_95 : St → Prop), w9_length_2_L39 x2 Q9 K9_95 (n + 1) σ x3 → w9_length_2_L39 x2 Q9 K9_95 (n + 1) σ x3 := fun _ _ z => z
    by_cases hc : x2 ≤ x3
    · have h := h.1 hc
      have rb := fun Q9 K9_95 z => rb Q9 K9_95 (br_t hc z)
      exact ⟨σ, h, ok, fr, fun Q9 K9_95 hq => rb Q9 K9_95 hq⟩
    have h := h.2 hc
    have rb := fun Q9 K9_95 z => rb Q9 K9_95 (br_f hc z)
    have h := h ((ok 9 0 13).1 (by decide))
    have rb := fun Q9 K9_95 z => rb Q9 K9_95 (im_n z)
    by_cases hc : (σ 9 0 13) = 0
    · have h := h.1 hc
      have rb := fun Q9 K9_95 z => rb Q9 K9_95 (br_t hc z)
      exact ⟨σ, h, ok, fr, fun Q9 K9_95 hq => rb Q9 K9_95 hq⟩
    have h := h.2 hc
    have rb := fun Q9 K9_95 z => rb Q9 K9_95 (br_f hc z)
    obtain ⟨hc, h⟩ := h
    have rb := fun Q9 K9_95 z => rb Q9 K9_95 (And.intro hc z)
    have h := h ((ok 40 0 _).2 (tyk_a 40 2 (by decide) (by decide) _))
    have rb := fun Q9 K9_95 z => rb Q9 K9_95 (im_n z)
    obtain ⟨r4, h, rc⟩ := e9_isIn ok h
    have rb := fun Q9 K9_95 z => rb Q9 K9_95 (rc _ z)
    obtain ⟨hbo, h⟩ := h
    have rb := fun Q9 K9_95 z => rb Q9 K9_95 (And.intro hbo z)
    obtain ⟨σ5, e9⟩ : ∃ s : St, s = up3 σ 9 0 13 r4 := ⟨_, rfl⟩
    have h := h σ5 e9
    have rb := fun Q9 K9_95 z => rb Q9 K9_95 (nm_n e9 z)
    have ok : okS σ5 := by rw [e9]; exact (ok_z ok (by decide) hbo)
    have fr : Fr (mF [] [] [(9, [9, 13])] []) σ σ5 := by rw [e9]; exact (Fr.up fr (mF_C (List.mem_of_getElem? (i := 0) rfl) rfl))
    obtain ⟨hc, h⟩ := h
    have rb := fun Q9 K9_95 z => rb Q9 K9_95 (And.intro hc z)
    have h := h ((ok 40 0 _).2 (tyk_a 40 2 (by decide) (by decide) _))
    have rb := fun Q9 K9_95 z => rb Q9 K9_95 (im_n z)
    obtain ⟨σ6, e9⟩ : ∃ s : St, s = up3 σ5 9 0 9 (((10 * (σ5 9 0 9)) + (σ5 40 0 x3.toNatClampNeg)) - 48) := ⟨_, rfl⟩
    have h := h σ6 e9
    have rb := fun Q9 K9_95 z => rb Q9 K9_95 (nm_n e9 z)
    have ok : okS σ6 := by rw [e9]; exact (ok_n ok (by decide))
    have fr : Fr (mF [] [] [(9, [9, 13])] []) σ σ6 := by rw [e9]; exact (Fr.up fr (mF_C (List.mem_of_getElem? (i := 0) rfl) rfl))
    rcases ih ok h with ⟨σ', h, ok, fr9, rc⟩
    · exact ⟨σ', h, ok, fr.tr fr9, fun Q9 K9_95 hq => rb Q9 K9_95 (rc Q9 K9_95 hq)⟩
set_option maxHeartbeats 4000000 in
theorem e9_length_2 {σ : St} {x1 : Int32} {x2 : Int32} {Q : St → Prop} (ok : okS σ) (h : w9_length_2 σ x1 x2 Q) : (∃ (σ' : St), Q σ' ∧ okS σ' ∧ Fr (mF [] [] [(9, [8, 9, 13])] []) σ σ' ∧ ∀ (Q9 : St → Prop), Q9 σ' → w9_length_2 σ x1 x2 Q9) := by
  have fr : Fr (mF [] [] [(9, [8, 9, 13])] []) σ σ := Fr.rf
  have rb : ∀ (Q9 : St → Prop), w9_length_2 σ x1 x2 Q9 → w9_length_2 σ x1 x2 Q9 := fun _ z => z
  obtain ⟨σ1, e9⟩ : ∃ s : St, s = up3 σ 9 0 8 ((σ 9 0 8) + 1) := ⟨_, rfl⟩
  have h := h σ1 e9
  have rb := fun Q9 z => rb Q9 (nm_n e9 z)
  have ok : okS σ1 := by rw [e9]; exact (ok_n ok (by decide))
  have fr : Fr (mF [] [] [(9, [8, 9, 13])] []) σ σ1 := by rw [e9]; exact (Fr.up fr (mF_C (List.mem_of_getElem? (i := 0) rfl) rfl))
  by_cases hc : x2 ≤ x1
  · have h := h.1 hc
    have rb := fun Q9 z => rb Q9 (br_t hc z)
    obtain ⟨σ2, e9⟩ : ∃ s : St, s = up3 σ1 9 0 13 0 := ⟨_, rfl⟩
    have h := h σ2 e9
    have rb := fun Q9 z => rb Q9 (nm_n e9 z)
    have ok : okS σ2 := by rw [e9]; exact (ok_z ok (by decide) (Or.inl rfl))
    have fr : Fr (mF [] [] [(9, [8, 9, 13])] []) σ σ2 := by rw [e9]; exact (Fr.up fr (mF_C (List.mem_of_getElem? (i := 0) rfl) rfl))
    obtain ⟨σ3, e9⟩ : ∃ s : St, s = up3 σ2 9 0 9 0 := ⟨_, rfl⟩
    have h := h σ3 e9
    have rb := fun Q9 z => rb Q9 (nm_n e9 z)
    have ok : okS σ3 := by rw [e9]; exact (ok_n ok (by decide))
    have fr : Fr (mF [] [] [(9, [8, 9, 13])] []) σ σ3 := by rw [e9]; exact (Fr.up fr (mF_C (List.mem_of_getElem? (i := 0) rfl) rfl))
    obtain ⟨n9, h⟩ := h
    rcases e9_length_2_L39 n9 ok h with ⟨σ8, h, ok, fr9, rc⟩
    · have rb := fun Q9 z => rb Q9 (Exists.intro n9 (rc _ _ z))
      have fr := fr.tr (fr9.sub (mF_sub rfl sub_nil rfl sud_nil))
      exact ⟨σ8, h, ok, fr, fun Q9 hq => rb Q9 hq⟩
  have h := h.2 hc
  have rb := fun Q9 z => rb Q9 (br_f hc z)
  by_cases hc : 9 < (x2 - x1)
  · have h := h.1 hc
    have rb := fun Q9 z => rb Q9 (br_t hc z)
    obtain ⟨σ9, e9⟩ : ∃ s : St, s = up3 σ1 9 0 13 0 := ⟨_, rfl⟩
    have h := h σ9 e9
    have rb := fun Q9 z => rb Q9 (nm_n e9 z)
    have ok : okS σ9 := by rw [e9]; exact (ok_z ok (by decide) (Or.inl rfl))
    have fr : Fr (mF [] [] [(9, [8, 9, 13])] []) σ σ9 := by rw [e9]; exact (Fr.up fr (mF_C (List.mem_of_getElem? (i := 0) rfl) rfl))
    obtain ⟨σ10, e9⟩ : ∃ s : St, s = up3 σ9 9 0 9 0 := ⟨_, rfl⟩
    have h := h σ10 e9
    have rb := fun Q9 z => rb Q9 (nm_n e9 z)
    have ok : okS σ10 := by rw [e9]; exact (ok_n ok (by decide))
    have fr : Fr (mF [] [] [(9, [8, 9, 13])] []) σ σ10 := by rw [e9]; exact (Fr.up fr (mF_C (List.mem_of_getElem? (i := 0) rfl) rfl))
    obtain ⟨n9, h⟩ := h
    rcases e9_length_2_L39 n9 ok h with ⟨σ12, h, ok, fr9, rc⟩
    · have rb := fun Q9 z => rb Q9 (Exists.intro n9 (rc _ _ z))
      have fr := fr.tr (fr9.sub (mF_sub rfl sub_nil rfl sud_nil))
      exact ⟨σ12, h, ok, fr, fun Q9 hq => rb Q9 hq⟩
  have h := h.2 hc
  have rb := fun Q9 z => rb Q9 (br_f hc z)
  obtain ⟨σ13, e9⟩ : ∃ s : St, s = up3 σ1 9 0 13 1 := ⟨_, rfl⟩
  have h := h σ13 e9
  have rb := fun Q9 z => rb Q9 (nm_n e9 z)
  have ok : okS σ13 := by rw [e9]; exact (ok_z ok (by decide) (Or.inr rfl))
  have fr : Fr (mF [] [] [(9, [8, 9, 13])] []) σ σ13 := by rw [e9]; exact (Fr.up fr (mF_C (List.mem_of_getElem? (i := 0) rfl) rfl))
  obtain ⟨σ14, e9⟩ : ∃ s : St, s = up3 σ13 9 0 9 0 := ⟨_, rfl⟩
  have h := h σ14 e9
  have rb := fun Q9 z => rb Q9 (nm_n e9 z)
  have ok : okS σ14 := by rw [e9]; exact (ok_n ok (by decide))
  have fr : Fr (mF [] [] [(9, [8, 9, 13])] []) σ σ14 := by rw [e9]; exact (Fr.up fr (mF_C (List.mem_of_getElem? (i := 0) rfl) rfl))
  obtain ⟨n9, h⟩ := h
  rcases e9_length_2_L39 n9 ok h with ⟨σ16, h, ok, fr9, rc⟩
  · have rb := fun Q9 z => rb Q9 (Exists.intro n9 (rc _ _ z))
    have fr := fr.tr (fr9.sub (mF_sub rfl sub_nil rfl sud_nil))
    exact ⟨σ16, h, ok, fr, fun Q9 hq => rb Q9 hq⟩
/-! WebHost$Requests.small(I)I -/
set_option maxHeartbeats 4000000 in
theorem e9_small {σ : St} {x0 : Int32} {Q : Int32 → Prop} (ok : okS σ) (h : w9_small σ x0 Q) : (∃ r : Int32, Q r ∧ ∀ (Q9 : Int32 → Prop), Q9 r → w9_small σ x0 Q9) := by
  have rb : ∀ (Q9 : Int32 → Prop), w9_small σ x0 Q9 → w9_small σ x0 Q9 := fun _ z => z
  obtain ⟨r1, h, rc⟩ := e9_isIn ok h
  have rb := fun Q9 z => rb Q9 (rc _ z)
  by_cases hc : r1 = 0
  · have h := h.1 hc
    have rb := fun Q9 z => rb Q9 (br_t hc z)
    exact ⟨x0, h, fun Q9 hq => rb Q9 hq⟩
  have h := h.2 hc
  have rb := fun Q9 z => rb Q9 (br_f hc z)
  exact ⟨(x0 + 32), h, fun Q9 hq => rb Q9 hq⟩
/-! WebHost$Segment.end()I -/
set_option maxHeartbeats 4000000 in
theorem e10_end {σ : St} {Q : Int32 → Prop} (ok : okS σ) (h : w10_end σ Q) : (∃ r : Int32, Q r ∧ ∀ (Q9 : Int32 → Prop), Q9 r → w10_end σ Q9) := by
  have rb : ∀ (Q9 : Int32 → Prop), w10_end σ Q9 → w10_end σ Q9 := fun _ z => z
  obtain ⟨r1, h, rc⟩ := e10_has ok h
  have rb := fun Q9 z => rb Q9 (rc _ z)
  by_cases hc : r1 = 0
  · have h := h.1 hc
    have rb := fun Q9 z => rb Q9 (br_t hc z)
    exact ⟨(((σ 10 0 3) + 0) + (σ 10 0 9)), h, fun Q9 hq => rb Q9 hq⟩
  have h := h.2 hc
  have rb := fun Q9 z => rb Q9 (br_f hc z)
  exact ⟨(((σ 10 0 3) + 1) + (σ 10 0 9)), h, fun Q9 hq => rb Q9 hq⟩
/-! WebHost$Segment.option(II)I -/
set_option maxHeartbeats 4000000 in
theorem e10_option_J63 {σ : St} {x2 : Int32} {x3 : Int32} {x4 : Int32} {xs0 : Int32} {Q : Int32 → Prop} {K2 : Int32 → Prop} {K79 : Prop} {K95 : Int32 → Prop} (ok : okS σ) (h : w10_option_J63 σ x2 x3 x4 xs0 Q K2 K79 K95) : (∃ (x3' : Int32), K2 x3' ∧ ∀ (Q9 : Int32 → Prop) (K9_2 : Int32 → Prop) (K9_79 : Prop) (K9_95 : Int32 → Prop), K9_2 x3' → w10_option_J63 σ x2 x3 x4 xs0 Q9 K9_2 K9_79 K9_95) ∨ (K79 ∧ ∀ (Q9 : Int32 → Prop) (K9_2 : Int32 → Prop) (K9_79 : Prop) (K9_95 : Int32 → Prop), K9_79 → w10_option_J63 σ x2 x3 x4 xs0 Q9 K9_2 K9_79 K9_95) ∨ (∃ (x3' : Int32), K95 x3' ∧ ∀ (Q9 : Int32 → Prop) (K9_2 : Int32 → Prop) (K9_79 : Prop) (K9_95 : Int32 → Prop), K9_95 x3' → w10_option_J63 σ x2 x3 x4 xs0 Q9 K9_2 K9_79 K9_95) := by
  have rb : ∀ (Q9 : Int32 → Prop) (K9_2 : Int32 → Prop) (K9_79 : Prop) (K9_95 : Int32 → Prop), w10_option_J63 σ x2 x3 x4 xs0 Q9 K9_2 K9_79 K9_95 → w10_option_J63 σ x2 x3 x4 xs0 Q9 K9_2 K9_79 K9_95 := fun _ _ _ _ z => z
  by_cases hc : xs0 < 2
  · have h := h.1 hc
    have rb := fun Q9 K9_2 K9_79 K9_95 z => rb Q9 K9_2 K9_79 K9_95 (br_t hc z)
    exact (Or.inr (Or.inl ⟨h, fun Q9 K9_2 K9_79 K9_95 hq => rb Q9 K9_2 K9_79 K9_95 hq⟩))
  have h := h.2 hc
  have rb := fun Q9 K9_2 K9_79 K9_95 z => rb Q9 K9_2 K9_79 K9_95 (br_f hc z)
  by_cases hc : (x3 + xs0) ≤ x2
  · have h := h.1 hc
    have rb := fun Q9 K9_2 K9_79 K9_95 z => rb Q9 K9_2 K9_79 K9_95 (br_t hc z)
    by_cases hc : x4 = 2
    · have h := h.2 hc
      have rb := fun Q9 K9_2 K9_79 K9_95 z => rb Q9 K9_2 K9_79 K9_95 (br_u hc z)
      by_cases hc : xs0 = 4
      · have h := h.2 hc
        have rb := fun Q9 K9_2 K9_79 K9_95 z => rb Q9 K9_2 K9_79 K9_95 (br_u hc z)
        exact (Or.inr (Or.inr ⟨x3, h, fun Q9 K9_2 K9_79 K9_95 hq => rb Q9 K9_2 K9_79 K9_95 hq⟩))
      have h := h.1 hc
      have rb := fun Q9 K9_2 K9_79 K9_95 z => rb Q9 K9_2 K9_79 K9_95 (br_v hc z)
      exact (Or.inl ⟨x3 + xs0, h, fun Q9 K9_2 K9_79 K9_95 hq => rb Q9 K9_2 K9_79 K9_95 hq⟩)
    have h := h.1 hc
    have rb := fun Q9 K9_2 K9_79 K9_95 z => rb Q9 K9_2 K9_79 K9_95 (br_v hc z)
    exact (Or.inl ⟨x3 + xs0, h, fun Q9 K9_2 K9_79 K9_95 hq => rb Q9 K9_2 K9_79 K9_95 hq⟩)
  have h := h.2 hc
  have rb := fun Q9 K9_2 K9_79 K9_95 z => rb Q9 K9_2 K9_79 K9_95 (br_f hc z)
  exact (Or.inr (Or.inl ⟨h, fun Q9 K9_2 K9_79 K9_95 hq => rb Q9 K9_2 K9_79 K9_95 hq⟩))
set_option maxHeartbeats 4000000 in
theorem e10_option_L2 {σ : St} {x2 : Int32} {Q : Int32 → Prop} {K24 : Prop} {K79 : Prop} {K95 : Int32 → Prop} {K125 : Prop} (ok : okS σ) :
    ∀ (n : Nat) {x3 : Int32}, w10_option_L2 σ x2 Q K24 K79 K95 K125 n x3 → (K24 ∧ ∀ (Q9 : Int32 → Prop) (K9_24 : Prop) (K9_79 : Prop) (K9_95 : Int32 → Prop) (K9_125 : Prop), K9_24 → w10_option_L2 σ x2 Q9 K9_24 K9_79 K9_95 K9_125 n x3) ∨ (K79 ∧ ∀ (Q9 : Int32 → Prop) (K9_24 : Prop) (K9_79 : Prop) (K9_95 : Int32 → Prop) (K9_125 : Prop), K9_79 → w10_option_L2 σ x2 Q9 K9_24 K9_79 K9_95 K9_125 n x3) ∨ (∃ (x3' : Int32), K95 x3' ∧ ∀ (Q9 : Int32 → Prop) (K9_24 : Prop) (K9_79 : Prop) (K9_95 : Int32 → Prop) (K9_125 : Prop), K9_95 x3' → w10_option_L2 σ x2 Q9 K9_24 K9_79 K9_95 K9_125 n x3) ∨ (K125 ∧ ∀ (Q9 : Int32 → Prop) (K9_24 : Prop) (K9_79 : Prop) (K9_95 : Int32 → Prop) (K9_125 : Prop), K9_125 → w10_option_L2 σ x2 Q9 K9_24 K9_79 K9_95 K9_125 n x3) := by
  intro n
  induction n with
  | zero =>
    intro x3 h
    exact False.elim h
  | succ n ih =>
    intro x3 h
    have rb : ∀ (Q9 : Int32 → Prop) (K9_24 : Prop) (K9_79 : Prop) (K9_95 : Int32 → Prop) (K9_125 : Prop), w10_option_L2 σ x2 Q9 K9_24 K9_79 K9_95 K9_125 (n + 1) x3 → w10_option_L2 σ x2 Q9 K9_24 K9_79 K9_95 K9_125 (n + 1) x3 := fun _ _ _ _ _ z => z
    by_cases hc : x2 ≤ x3
    · have h := h.1 hc
      have rb := fun Q9 K9_24 K9_79 K9_95 K9_125 z => rb Q9 K9_24 K9_79 K9_95 K9_125 (br_t hc z)
      exact (Or.inr (Or.inr (Or.inr ⟨h, fun Q9 K9_24 K9_79 K9_95 K9_125 hq => rb Q9 K9_24 K9_79 K9_95 K9_125 hq⟩)))
    have h := h.2 hc
    have rb := fun Q9 K9_24 K9_79 K9_95 K9_125 z => rb Q9 K9_24 K9_79 K9_95 K9_125 (br_f hc z)
    obtain ⟨hq1, h⟩ := h
    have rb := fun Q9 K9_24 K9_79 K9_95 K9_125 z => rb Q9 K9_24 K9_79 K9_95 K9_125 (And.intro hq1 z)
    obtain ⟨hc, h⟩ := h
    have rb := fun Q9 K9_24 K9_79 K9_95 K9_125 z => rb Q9 K9_24 K9_79 K9_95 K9_125 (And.intro hc z)
    have h := h ((ok ((σ 10 0 7).toNatClampNeg) ((σ 10 0 107).toNatClampNeg) _).2 ((ab_spec (abc_spec hq1).1).2.2.2.2.2.2.2 _))
    have rb := fun Q9 K9_24 K9_79 K9_95 K9_125 z => rb Q9 K9_24 K9_79 K9_95 K9_125 (im_n z)
    by_cases hc : ((σ ((σ 10 0 7).toNatClampNeg) ((σ 10 0 107).toNatClampNeg) x3.toNatClampNeg) &&& 255) = 0
    · have h := h.2 hc
      have rb := fun Q9 K9_24 K9_79 K9_95 K9_125 z => rb Q9 K9_24 K9_79 K9_95 K9_125 (br_u hc z)
      exact (Or.inl ⟨h, fun Q9 K9_24 K9_79 K9_95 K9_125 hq => rb Q9 K9_24 K9_79 K9_95 K9_125 hq⟩)
    have h := h.1 hc
    have rb := fun Q9 K9_24 K9_79 K9_95 K9_125 z => rb Q9 K9_24 K9_79 K9_95 K9_125 (br_v hc z)
    by_cases hc : ((σ ((σ 10 0 7).toNatClampNeg) ((σ 10 0 107).toNatClampNeg) x3.toNatClampNeg) &&& 255) = 1
    · have h := h.2 hc
      have rb := fun Q9 K9_24 K9_79 K9_95 K9_125 z => rb Q9 K9_24 K9_79 K9_95 K9_125 (br_u hc z)
      rcases ih h with ⟨h, rc⟩ | ⟨h, rc⟩ | ⟨x3, h, rc⟩ | ⟨h, rc⟩
      · exact (Or.inl ⟨h, fun Q9 K9_24 K9_79 K9_95 K9_125 hq => rb Q9 K9_24 K9_79 K9_95 K9_125 (rc Q9 K9_24 K9_79 K9_95 K9_125 hq)⟩)
      · exact (Or.inr (Or.inl ⟨h, fun Q9 K9_24 K9_79 K9_95 K9_125 hq => rb Q9 K9_24 K9_79 K9_95 K9_125 (rc Q9 K9_24 K9_79 K9_95 K9_125 hq)⟩))
      · exact (Or.inr (Or.inr (Or.inl ⟨x3, h, fun Q9 K9_24 K9_79 K9_95 K9_125 hq => rb Q9 K9_24 K9_79 K9_95 K9_125 (rc Q9 K9_24 K9_79 K9_95 K9_125 hq)⟩)))
      · exact (Or.inr (Or.inr (Or.inr ⟨h, fun Q9 K9_24 K9_79 K9_95 K9_125 hq => rb Q9 K9_24 K9_79 K9_95 K9_125 (rc Q9 K9_24 K9_79 K9_95 K9_125 hq)⟩)))
    have h := h.1 hc
    have rb := fun Q9 K9_24 K9_79 K9_95 K9_125 z => rb Q9 K9_24 K9_79 K9_95 K9_125 (br_v hc z)
    by_cases hc : x2 ≤ (x3 + 1)
    · have h := h.1 hc
      have rb := fun Q9 K9_24 K9_79 K9_95 K9_125 z => rb Q9 K9_24 K9_79 K9_95 K9_125 (br_t hc z)
      rcases e10_option_J63 ok h with ⟨x3, h, rc⟩ | ⟨h, rc⟩ | ⟨x3, h, rc⟩
      · rcases ih h with ⟨h, rd⟩ | ⟨h, rd⟩ | ⟨x3, h, rd⟩ | ⟨h, rd⟩
        · exact (Or.inl ⟨h, fun Q9 K9_24 K9_79 K9_95 K9_125 hq => rb Q9 K9_24 K9_79 K9_95 K9_125 (rc _ _ _ _ (rd Q9 K9_24 K9_79 K9_95 K9_125 hq))⟩)
        · exact (Or.inr (Or.inl ⟨h, fun Q9 K9_24 K9_79 K9_95 K9_125 hq => rb Q9 K9_24 K9_79 K9_95 K9_125 (rc _ _ _ _ (rd Q9 K9_24 K9_79 K9_95 K9_125 hq))⟩))
        · exact (Or.inr (Or.inr (Or.inl ⟨x3, h, fun Q9 K9_24 K9_79 K9_95 K9_125 hq => rb Q9 K9_24 K9_79 K9_95 K9_125 (rc _ _ _ _ (rd Q9 K9_24 K9_79 K9_95 K9_125 hq))⟩)))
        · exact (Or.inr (Or.inr (Or.inr ⟨h, fun Q9 K9_24 K9_79 K9_95 K9_125 hq => rb Q9 K9_24 K9_79 K9_95 K9_125 (rc _ _ _ _ (rd Q9 K9_24 K9_79 K9_95 K9_125 hq))⟩)))
      · exact (Or.inr (Or.inl ⟨h, fun Q9 K9_24 K9_79 K9_95 K9_125 hq => rb Q9 K9_24 K9_79 K9_95 K9_125 (rc _ _ _ _ hq)⟩))
      · exact (Or.inr (Or.inr (Or.inl ⟨x3, h, fun Q9 K9_24 K9_79 K9_95 K9_125 hq => rb Q9 K9_24 K9_79 K9_95 K9_125 (rc _ _ _ _ hq)⟩)))
    have h := h.2 hc
    have rb := fun Q9 K9_24 K9_79 K9_95 K9_125 z => rb Q9 K9_24 K9_79 K9_95 K9_125 (br_f hc z)
    obtain ⟨hq2, h⟩ := h
    have rb := fun Q9 K9_24 K9_79 K9_95 K9_125 z => rb Q9 K9_24 K9_79 K9_95 K9_125 (And.intro hq2 z)
    obtain ⟨hc, h⟩ := h
    have rb := fun Q9 K9_24 K9_79 K9_95 K9_125 z => rb Q9 K9_24 K9_79 K9_95 K9_125 (And.intro hc z)
    have h := h ((ok ((σ 10 0 7).toNatClampNeg) ((σ 10 0 107).toNatClampNeg) _).2 ((ab_spec (abc_spec hq2).1).2.2.2.2.2.2.2 _))
    have rb := fun Q9 K9_24 K9_79 K9_95 K9_125 z => rb Q9 K9_24 K9_79 K9_95 K9_125 (im_n z)
    rcases e10_option_J63 ok h with ⟨x3, h, rc⟩ | ⟨h, rc⟩ | ⟨x3, h, rc⟩
    · rcases ih h with ⟨h, rd⟩ | ⟨h, rd⟩ | ⟨x3, h, rd⟩ | ⟨h, rd⟩
      · exact (Or.inl ⟨h, fun Q9 K9_24 K9_79 K9_95 K9_125 hq => rb Q9 K9_24 K9_79 K9_95 K9_125 (rc _ _ _ _ (rd Q9 K9_24 K9_79 K9_95 K9_125 hq))⟩)
      · exact (Or.inr (Or.inl ⟨h, fun Q9 K9_24 K9_79 K9_95 K9_125 hq => rb Q9 K9_24 K9_79 K9_95 K9_125 (rc _ _ _ _ (rd Q9 K9_24 K9_79 K9_95 K9_125 hq))⟩))
      · exact (Or.inr (Or.inr (Or.inl ⟨x3, h, fun Q9 K9_24 K9_79 K9_95 K9_125 hq => rb Q9 K9_24 K9_79 K9_95 K9_125 (rc _ _ _ _ (rd Q9 K9_24 K9_79 K9_95 K9_125 hq))⟩)))
      · exact (Or.inr (Or.inr (Or.inr ⟨h, fun Q9 K9_24 K9_79 K9_95 K9_125 hq => rb Q9 K9_24 K9_79 K9_95 K9_125 (rc _ _ _ _ (rd Q9 K9_24 K9_79 K9_95 K9_125 hq))⟩)))
    · exact (Or.inr (Or.inl ⟨h, fun Q9 K9_24 K9_79 K9_95 K9_125 hq => rb Q9 K9_24 K9_79 K9_95 K9_125 (rc _ _ _ _ hq)⟩))
    · exact (Or.inr (Or.inr (Or.inl ⟨x3, h, fun Q9 K9_24 K9_79 K9_95 K9_125 hq => rb Q9 K9_24 K9_79 K9_95 K9_125 (rc _ _ _ _ hq)⟩)))
set_option maxHeartbeats 4000000 in
theorem e10_option {σ : St} {x1 : Int32} {x2 : Int32} {Q : Int32 → Prop} (ok : okS σ) (h : w10_option σ x1 x2 Q) : (∃ r : Int32, Q r ∧ ∀ (Q9 : Int32 → Prop), Q9 r → w10_option σ x1 x2 Q9) := by
  have rb : ∀ (Q9 : Int32 → Prop), w10_option σ x1 x2 Q9 → w10_option σ x1 x2 Q9 := fun _ z => z
  obtain ⟨n9, h⟩ := h
  rcases e10_option_L2 ok n9 h with ⟨h, rc⟩ | ⟨h, rc⟩ | ⟨x3_6, h, rc⟩ | ⟨h, rc⟩
  · have rb := fun Q9 z => rb Q9 (Exists.intro n9 (rc _ _ _ _ _ z))
    exact ⟨536, h, fun Q9 hq => rb Q9 hq⟩
  · have rb := fun Q9 z => rb Q9 (Exists.intro n9 (rc _ _ _ _ _ z))
    exact ⟨536, h, fun Q9 hq => rb Q9 hq⟩
  · have rb := fun Q9 z => rb Q9 (Exists.intro n9 (rc _ _ _ _ _ z))
    obtain ⟨hq8, h⟩ := h
    have rb := fun Q9 z => rb Q9 (And.intro hq8 z)
    obtain ⟨r9, h, rc⟩ := e19_two hq8 ok h
    have rb := fun Q9 z => rb Q9 (rc _ z)
    exact ⟨(imax 64 (imin r9 1460)), h, fun Q9 hq => rb Q9 hq⟩
  · have rb := fun Q9 z => rb Q9 (Exists.intro n9 (rc _ _ _ _ _ z))
    exact ⟨536, h, fun Q9 hq => rb Q9 hq⟩
/-! WebHost$Segment.span()I -/
set_option maxHeartbeats 4000000 in
theorem e10_span_J17 {σ : St} {xs0 : Int32} {xs1 : Int32} {Q : Int32 → Prop} (ok : okS σ) (h : w10_span_J17 σ xs0 xs1 Q) : (∃ r : Int32, Q r ∧ ∀ (Q9 : Int32 → Prop), Q9 r → w10_span_J17 σ xs0 xs1 Q9) := by
  have rb : ∀ (Q9 : Int32 → Prop), w10_span_J17 σ xs0 xs1 Q9 → w10_span_J17 σ xs0 xs1 Q9 := fun _ z => z
  obtain ⟨r2, h, rc⟩ := e10_has ok h
  have rb := fun Q9 z => rb Q9 (rc _ z)
  by_cases hc : r2 = 0
  · have h := h.1 hc
    have rb := fun Q9 z => rb Q9 (br_t hc z)
    exact ⟨((xs1 + xs0) + 0), h, fun Q9 hq => rb Q9 hq⟩
  have h := h.2 hc
  have rb := fun Q9 z => rb Q9 (br_f hc z)
  exact ⟨((xs1 + xs0) + 1), h, fun Q9 hq => rb Q9 hq⟩
set_option maxHeartbeats 4000000 in
theorem e10_span {σ : St} {Q : Int32 → Prop} (ok : okS σ) (h : w10_span σ Q) : (∃ r : Int32, Q r ∧ ∀ (Q9 : Int32 → Prop), Q9 r → w10_span σ Q9) := by
  have rb : ∀ (Q9 : Int32 → Prop), w10_span σ Q9 → w10_span σ Q9 := fun _ z => z
  obtain ⟨r1, h, rc⟩ := e10_has ok h
  have rb := fun Q9 z => rb Q9 (rc _ z)
  by_cases hc : r1 = 0
  · have h := h.1 hc
    have rb := fun Q9 z => rb Q9 (br_t hc z)
    obtain ⟨r9, h, rc⟩ := e10_span_J17 ok h
    exact ⟨r9, h, fun Q9 hq => rb Q9 (rc Q9 hq)⟩
  have h := h.2 hc
  have rb := fun Q9 z => rb Q9 (br_f hc z)
  obtain ⟨r9, h, rc⟩ := e10_span_J17 ok h
  exact ⟨r9, h, fun Q9 hq => rb Q9 (rc Q9 hq)⟩
/-! WebHost$Connection.isIn(II)Z -/
set_option maxHeartbeats 4000000 in
theorem e11_isIn {σ : St} {o0 : Nat} {x1 : Int32} {x2 : Int32} {Q : Int32 → Prop} (ho0 : o0 < 16) (ok : okS σ) (h : w11_isIn σ o0 x1 x2 Q) : (∃ r : Int32, Q r ∧ ∀ (Q9 : Int32 → Prop), Q9 r → w11_isIn σ o0 x1 x2 Q9) := by
  have rb : ∀ (Q9 : Int32 → Prop), w11_isIn σ o0 x1 x2 Q9 → w11_isIn σ o0 x1 x2 Q9 := fun _ z => z
  obtain ⟨r1, h, rc⟩ := e19_isBefore ok h
  have rb := fun Q9 z => rb Q9 (rc _ z)
  by_cases hc : r1 = 0
  · have h := h.2 hc
    have rb := fun Q9 z => rb Q9 (br_u hc z)
    obtain ⟨r2, h, rc⟩ := e19_isBefore ok h
    have rb := fun Q9 z => rb Q9 (rc _ z)
    by_cases hc : r2 = 0
    · have h := h.1 hc
      have rb := fun Q9 z => rb Q9 (br_t hc z)
      exact ⟨0, h, fun Q9 hq => rb Q9 hq⟩
    have h := h.2 hc
    have rb := fun Q9 z => rb Q9 (br_f hc z)
    exact ⟨1, h, fun Q9 hq => rb Q9 hq⟩
  have h := h.1 hc
  have rb := fun Q9 z => rb Q9 (br_v hc z)
  exact ⟨0, h, fun Q9 hq => rb Q9 hq⟩
/-! WebHost$Connection.left()I -/
set_option maxHeartbeats 4000000 in
theorem e11_left {σ : St} {o0 : Nat} {Q : Int32 → Prop} (ho0 : o0 < 16) (ok : okS σ) (h : w11_left σ o0 Q) : (∃ r : Int32, Q r ∧ ∀ (Q9 : Int32 → Prop), Q9 r → w11_left σ o0 Q9) := by
  have rb : ∀ (Q9 : Int32 → Prop), w11_left σ o0 Q9 → w11_left σ o0 Q9 := fun _ z => z
  by_cases hc : 2 ≤ (σ 11 o0 2)
  · have h := h.1 hc
    have rb := fun Q9 z => rb Q9 (br_t hc z)
    obtain ⟨r1, h, rc⟩ := e11_end ho0 ok h
    have rb := fun Q9 z => rb Q9 (rc _ z)
    have h := h ((ok 11 o0 27).1 (by decide))
    have rb := fun Q9 z => rb Q9 (im_n z)
    by_cases hc : (σ 11 o0 27) = 0
    · have h := h.1 hc
      have rb := fun Q9 z => rb Q9 (br_t hc z)
      exact ⟨((r1 + 0) - (σ 11 o0 10)), h, fun Q9 hq => rb Q9 hq⟩
    have h := h.2 hc
    have rb := fun Q9 z => rb Q9 (br_f hc z)
    exact ⟨((r1 + 1) - (σ 11 o0 10)), h, fun Q9 hq => rb Q9 hq⟩
  have h := h.2 hc
  have rb := fun Q9 z => rb Q9 (br_f hc z)
  exact ⟨0, h, fun Q9 hq => rb Q9 hq⟩
/-! WebHost$Connection.live(I)V -/
set_option maxHeartbeats 4000000 in
theorem e11_live {σ : St} {o0 : Nat} {x1 : Int32} {Q : St → Prop} (ho0 : o0 < 16) (ok : okS σ) (h : w11_live σ o0 x1 Q) : (∃ (σ' : St), Q σ' ∧ okS σ' ∧ Fr (mF [] [] [] [(11, o0, [31, 33])]) σ σ' ∧ ∀ (Q9 : St → Prop), Q9 σ' → w11_live σ o0 x1 Q9) := by
  have fr : Fr (mF [] [] [] [(11, o0, [31, 33])]) σ σ := Fr.rf
  have rb : ∀ (Q9 : St → Prop), w11_live σ o0 x1 Q9 → w11_live σ o0 x1 Q9 := fun _ z => z
  obtain ⟨σ1, e9⟩ : ∃ s : St, s = up3 σ 11 o0 33 1 := ⟨_, rfl⟩
  have h := h σ1 e9
  have rb := fun Q9 z => rb Q9 (nm_n e9 z)
  have ok : okS σ1 := by rw [e9]; exact (ok_z ok (by decide) (Or.inr rfl))
  have fr : Fr (mF [] [] [] [(11, o0, [31, 33])]) σ σ1 := by rw [e9]; exact (Fr.up fr (mF_D (List.mem_of_getElem? (i := 0) rfl) rfl))
  obtain ⟨r2, h, rc⟩ := e8_now ok h
  have rb := fun Q9 z => rb Q9 (rc _ z)
  obtain ⟨σ3, e9⟩ : ∃ s : St, s = up3 σ1 11 o0 31 (r2 + x1) := ⟨_, rfl⟩
  have h := h σ3 e9
  have rb := fun Q9 z => rb Q9 (nm_n e9 z)
  have ok : okS σ3 := by rw [e9]; exact (ok_n ok (by decide))
  have fr : Fr (mF [] [] [] [(11, o0, [31, 33])]) σ σ3 := by rw [e9]; exact (Fr.up fr (mF_D (List.mem_of_getElem? (i := 0) rfl) rfl))
  exact ⟨σ3, h, ok, fr, fun Q9 hq => rb Q9 hq⟩
/-! WebHost$Connection.measure(I)V -/
set_option maxHeartbeats 4000000 in
theorem e11_measure_J100 {σ : St} {o0 : Nat} {Q : St → Prop} (ho0 : o0 < 16) (ok : okS σ) (h : w11_measure_J100 σ o0 Q) : (∃ (σ' : St), Q σ' ∧ okS σ' ∧ Fr (mF [] [] [] [(11, o0, [16])]) σ σ' ∧ ∀ (Q9 : St → Prop), Q9 σ' → w11_measure_J100 σ o0 Q9) := by
  have fr : Fr (mF [] [] [] [(11, o0, [16])]) σ σ := Fr.rf
  have rb : ∀ (Q9 : St → Prop), w11_measure_J100 σ o0 Q9 → w11_measure_J100 σ o0 Q9 := fun _ z => z
  obtain ⟨σ5, e9⟩ : ∃ s : St, s = up3 σ 11 o0 16 (imax 1000 (imin ((σ 11 o0 38) + (imax 10 (4 * (σ 11 o0 39)))) 60000)) := ⟨_, rfl⟩
  have h := h σ5 e9
  have rb := fun Q9 z => rb Q9 (nm_n e9 z)
  have ok : okS σ5 := by rw [e9]; exact (ok_n ok (by decide))
  have fr : Fr (mF [] [] [] [(11, o0, [16])]) σ σ5 := by rw [e9]; exact (Fr.up fr (mF_D (List.mem_of_getElem? (i := 0) rfl) rfl))
  exact ⟨σ5, h, ok, fr, fun Q9 hq => rb Q9 hq⟩
set_option maxHeartbeats 4000000 in
theorem e11_measure {σ : St} {o0 : Nat} {x1 : Int32} {Q : St → Prop} (ho0 : o0 < 16) (ok : okS σ) (h : w11_measure σ o0 x1 Q) : (∃ (σ' : St), Q σ' ∧ okS σ' ∧ Fr (mF [] [] [] [(11, o0, [16, 34, 35, 38, 39])]) σ σ' ∧ ∀ (Q9 : St → Prop), Q9 σ' → w11_measure σ o0 x1 Q9) := by
  have fr : Fr (mF [] [] [] [(11, o0, [16, 34, 35, 38, 39])]) σ σ := Fr.rf
  have rb : ∀ (Q9 : St → Prop), w11_measure σ o0 x1 Q9 → w11_measure σ o0 x1 Q9 := fun _ z => z
  have h := h ((ok 11 o0 34).1 (by decide))
  have rb := fun Q9 z => rb Q9 (im_n z)
  by_cases hc : (σ 11 o0 34) = 0
  · have h := h.1 hc
    have rb := fun Q9 z => rb Q9 (br_t hc z)
    exact ⟨σ, h, ok, fr, fun Q9 hq => rb Q9 hq⟩
  have h := h.2 hc
  have rb := fun Q9 z => rb Q9 (br_f hc z)
  by_cases hc : 0 < (x1 - (σ 11 o0 36))
  · have h := h.1 hc
    have rb := fun Q9 z => rb Q9 (br_t hc z)
    obtain ⟨σ1, e9⟩ : ∃ s : St, s = up3 σ 11 o0 34 0 := ⟨_, rfl⟩
    have h := h σ1 e9
    have rb := fun Q9 z => rb Q9 (nm_n e9 z)
    have ok : okS σ1 := by rw [e9]; exact (ok_z ok (by decide) (Or.inl rfl))
    have fr : Fr (mF [] [] [] [(11, o0, [16, 34, 35, 38, 39])]) σ σ1 := by rw [e9]; exact (Fr.up fr (mF_D (List.mem_of_getElem? (i := 0) rfl) rfl))
    obtain ⟨r2, h, rc⟩ := e8_now ok h
    have rb := fun Q9 z => rb Q9 (rc _ z)
    have h := h ((ok 11 o0 35).1 (by decide))
    have rb := fun Q9 z => rb Q9 (im_n z)
    by_cases hc : (σ1 11 o0 35) = 0
    · have h := h.2 hc
      have rb := fun Q9 z => rb Q9 (br_u hc z)
      obtain ⟨σ6, e9⟩ : ∃ s : St, s = up3 σ1 11 o0 35 1 := ⟨_, rfl⟩
      have h := h σ6 e9
      have rb := fun Q9 z => rb Q9 (nm_n e9 z)
      have ok : okS σ6 := by rw [e9]; exact (ok_z ok (by decide) (Or.inr rfl))
      have fr : Fr (mF [] [] [] [(11, o0, [16, 34, 35, 38, 39])]) σ σ6 := by rw [e9]; exact (Fr.up fr (mF_D (List.mem_of_getElem? (i := 0) rfl) rfl))
      obtain ⟨σ7, e9⟩ : ∃ s : St, s = up3 σ6 11 o0 38 (r2 - (σ1 11 o0 37)) := ⟨_, rfl⟩
      have h := h σ7 e9
      have rb := fun Q9 z => rb Q9 (nm_n e9 z)
      have ok : okS σ7 := by rw [e9]; exact (ok_n ok (by decide))
      have fr : Fr (mF [] [] [] [(11, o0, [16, 34, 35, 38, 39])]) σ σ7 := by rw [e9]; exact (Fr.up fr (mF_D (List.mem_of_getElem? (i := 0) rfl) rfl))
      obtain ⟨σ8, e9⟩ : ∃ s : St, s = up3 σ7 11 o0 39 ((r2 - (σ1 11 o0 37)) / 2) := ⟨_, rfl⟩
      have h := h σ8 e9
      have rb := fun Q9 z => rb Q9 (nm_n e9 z)
      have ok : okS σ8 := by rw [e9]; exact (ok_n ok (by decide))
      have fr : Fr (mF [] [] [] [(11, o0, [16, 34, 35, 38, 39])]) σ σ8 := by rw [e9]; exact (Fr.up fr (mF_D (List.mem_of_getElem? (i := 0) rfl) rfl))
      obtain ⟨σ9, h, ok, fr9, rc⟩ := e11_measure_J100 ho0 ok h
      exact ⟨σ9, h, ok, fr.tr (fr9.sub (mF_sub rfl sub_nil rfl (sud_c (Or.inr ⟨_, List.mem_of_getElem? (i := 0) rfl, rfl⟩) sud_nil))), fun Q9 hq => rb Q9 (rc Q9 hq)⟩
    have h := h.1 hc
    have rb := fun Q9 z => rb Q9 (br_v hc z)
    obtain ⟨σ3, e9⟩ : ∃ s : St, s = up3 σ1 11 o0 39 (((3 * (σ1 11 o0 39)) + (iabs ((σ1 11 o0 38) - (r2 - (σ1 11 o0 37))))) / 4) := ⟨_, rfl⟩
    have h := h σ3 e9
    have rb := fun Q9 z => rb Q9 (nm_n e9 z)
    have ok : okS σ3 := by rw [e9]; exact (ok_n ok (by decide))
    have fr : Fr (mF [] [] [] [(11, o0, [16, 34, 35, 38, 39])]) σ σ3 := by rw [e9]; exact (Fr.up fr (mF_D (List.mem_of_getElem? (i := 0) rfl) rfl))
    obtain ⟨σ4, e9⟩ : ∃ s : St, s = up3 σ3 11 o0 38 (((7 * (σ3 11 o0 38)) + (r2 - (σ1 11 o0 37))) / 8) := ⟨_, rfl⟩
    have h := h σ4 e9
    have rb := fun Q9 z => rb Q9 (nm_n e9 z)
    have ok : okS σ4 := by rw [e9]; exact (ok_n ok (by decide))
    have fr : Fr (mF [] [] [] [(11, o0, [16, 34, 35, 38, 39])]) σ σ4 := by rw [e9]; exact (Fr.up fr (mF_D (List.mem_of_getElem? (i := 0) rfl) rfl))
    obtain ⟨σ9, h, ok, fr9, rc⟩ := e11_measure_J100 ho0 ok h
    exact ⟨σ9, h, ok, fr.tr (fr9.sub (mF_sub rfl sub_nil rfl (sud_c (Or.inr ⟨_, List.mem_of_getElem? (i := 0) rfl, rfl⟩) sud_nil))), fun Q9 hq => rb Q9 (rc Q9 hq)⟩
  have h := h.2 hc
  have rb := fun Q9 z => rb Q9 (br_f hc z)
  exact ⟨σ, h, ok, fr, fun Q9 hq => rb Q9 hq⟩
/-! WebHost$Connection.startTimer()V -/
set_option maxHeartbeats 4000000 in
theorem e11_startTimer {σ : St} {o0 : Nat} {Q : St → Prop} (ho0 : o0 < 16) (ok : okS σ) (h : w11_startTimer σ o0 Q) : (∃ (σ' : St), Q σ' ∧ okS σ' ∧ Fr (mF [] [] [] [(11, o0, [29, 30])]) σ σ' ∧ ∀ (Q9 : St → Prop), Q9 σ' → w11_startTimer σ o0 Q9) := by
  have fr : Fr (mF [] [] [] [(11, o0, [29, 30])]) σ σ := Fr.rf
  have rb : ∀ (Q9 : St → Prop), w11_startTimer σ o0 Q9 → w11_startTimer σ o0 Q9 := fun _ z => z
  have h := h ((ok 11 o0 29).1 (by decide))
  have rb := fun Q9 z => rb Q9 (im_n z)
  by_cases hc : (σ 11 o0 29) = 0
  · have h := h.1 hc
    have rb := fun Q9 z => rb Q9 (br_t hc z)
    obtain ⟨σ1, e9⟩ : ∃ s : St, s = up3 σ 11 o0 29 1 := ⟨_, rfl⟩
    have h := h σ1 e9
    have rb := fun Q9 z => rb Q9 (nm_n e9 z)
    have ok : okS σ1 := by rw [e9]; exact (ok_z ok (by decide) (Or.inr rfl))
    have fr : Fr (mF [] [] [] [(11, o0, [29, 30])]) σ σ1 := by rw [e9]; exact (Fr.up fr (mF_D (List.mem_of_getElem? (i := 0) rfl) rfl))
    obtain ⟨r2, h, rc⟩ := e8_now ok h
    have rb := fun Q9 z => rb Q9 (rc _ z)
    obtain ⟨σ3, e9⟩ : ∃ s : St, s = up3 σ1 11 o0 30 (r2 + (σ1 11 o0 16)) := ⟨_, rfl⟩
    have h := h σ3 e9
    have rb := fun Q9 z => rb Q9 (nm_n e9 z)
    have ok : okS σ3 := by rw [e9]; exact (ok_n ok (by decide))
    have fr : Fr (mF [] [] [] [(11, o0, [29, 30])]) σ σ3 := by rw [e9]; exact (Fr.up fr (mF_D (List.mem_of_getElem? (i := 0) rfl) rfl))
    exact ⟨σ3, h, ok, fr, fun Q9 hq => rb Q9 hq⟩
  have h := h.2 hc
  have rb := fun Q9 z => rb Q9 (br_f hc z)
  exact ⟨σ, h, ok, fr, fun Q9 hq => rb Q9 hq⟩
/-! WebHost$Connection.time(I)V -/
set_option maxHeartbeats 4000000 in
theorem e11_time {σ : St} {o0 : Nat} {x1 : Int32} {Q : St → Prop} (ho0 : o0 < 16) (ok : okS σ) (h : w11_time σ o0 x1 Q) : (∃ (σ' : St), Q σ' ∧ okS σ' ∧ Fr (mF [] [] [] [(11, o0, [34, 36, 37])]) σ σ' ∧ ∀ (Q9 : St → Prop), Q9 σ' → w11_time σ o0 x1 Q9) := by
  have fr : Fr (mF [] [] [] [(11, o0, [34, 36, 37])]) σ σ := Fr.rf
  have rb : ∀ (Q9 : St → Prop), w11_time σ o0 x1 Q9 → w11_time σ o0 x1 Q9 := fun _ z => z
  obtain ⟨σ1, e9⟩ : ∃ s : St, s = up3 σ 11 o0 34 1 := ⟨_, rfl⟩
  have h := h σ1 e9
  have rb := fun Q9 z => rb Q9 (nm_n e9 z)
  have ok : okS σ1 := by rw [e9]; exact (ok_z ok (by decide) (Or.inr rfl))
  have fr : Fr (mF [] [] [] [(11, o0, [34, 36, 37])]) σ σ1 := by rw [e9]; exact (Fr.up fr (mF_D (List.mem_of_getElem? (i := 0) rfl) rfl))
  obtain ⟨σ2, e9⟩ : ∃ s : St, s = up3 σ1 11 o0 36 x1 := ⟨_, rfl⟩
  have h := h σ2 e9
  have rb := fun Q9 z => rb Q9 (nm_n e9 z)
  have ok : okS σ2 := by rw [e9]; exact (ok_n ok (by decide))
  have fr : Fr (mF [] [] [] [(11, o0, [34, 36, 37])]) σ σ2 := by rw [e9]; exact (Fr.up fr (mF_D (List.mem_of_getElem? (i := 0) rfl) rfl))
  obtain ⟨r3, h, rc⟩ := e8_now ok h
  have rb := fun Q9 z => rb Q9 (rc _ z)
  obtain ⟨σ4, e9⟩ : ∃ s : St, s = up3 σ2 11 o0 37 r3 := ⟨_, rfl⟩
  have h := h σ4 e9
  have rb := fun Q9 z => rb Q9 (nm_n e9 z)
  have ok : okS σ4 := by rw [e9]; exact (ok_n ok (by decide))
  have fr : Fr (mF [] [] [] [(11, o0, [34, 36, 37])]) σ σ4 := by rw [e9]; exact (Fr.up fr (mF_D (List.mem_of_getElem? (i := 0) rfl) rfl))
  exact ⟨σ4, h, ok, fr, fun Q9 hq => rb Q9 hq⟩
/-! WebHost$Inbox.leaveOut()V -/
set_option maxHeartbeats 4000000 in
theorem e12_leaveOut {σ : St} {o0 : Nat} {Q : St → Prop} (ho0 : o0 < 16) (ok : okS σ) (h : w12_leaveOut σ o0 Q) : (∃ (σ' : St), Q σ' ∧ okS σ' ∧ Fr (mF [] [(42, o0), (43, o0)] [] [(12, o0, [2, 3])]) σ σ' ∧ ∀ (Q9 : St → Prop), Q9 σ' → w12_leaveOut σ o0 Q9) := by
  have fr : Fr (mF [] [(42, o0), (43, o0)] [] [(12, o0, [2, 3])]) σ σ := Fr.rf
  have rb : ∀ (Q9 : St → Prop), w12_leaveOut σ o0 Q9 → w12_leaveOut σ o0 Q9 := fun _ z => z
  by_cases hc : (imin (σ 12 o0 3) (σ 12 o0 2)) ≤ 0
  · have h := h.1 hc
    have rb := fun Q9 z => rb Q9 (br_t hc z)
    obtain ⟨σ1, e9⟩ : ∃ s : St, s = up3 σ 12 o0 3 ((σ 12 o0 3) - (imin (σ 12 o0 3) (σ 12 o0 2))) := ⟨_, rfl⟩
    have h := h σ1 e9
    have rb := fun Q9 z => rb Q9 (nm_n e9 z)
    have ok : okS σ1 := by rw [e9]; exact (ok_n ok (by decide))
    have fr : Fr (mF [] [(42, o0), (43, o0)] [] [(12, o0, [2, 3])]) σ σ1 := by rw [e9]; exact (Fr.up fr (mF_D (List.mem_of_getElem? (i := 0) rfl) rfl))
    exact ⟨σ1, h, ok, fr, fun Q9 hq => rb Q9 hq⟩
  have h := h.2 hc
  have rb := fun Q9 z => rb Q9 (br_f hc z)
  obtain ⟨σ2, h, ok, fr9, rc⟩ := e12_take ho0 ok h
  have fr := fr.tr (fr9.sub (mF_sub rfl (sub_c (Or.inr (List.mem_of_getElem? (i := 0) rfl)) (sub_c (Or.inr (List.mem_of_getElem? (i := 1) rfl)) sub_nil)) rfl (sud_c (Or.inr ⟨_, List.mem_of_getElem? (i := 0) rfl, rfl⟩) sud_nil)))
  have rb := fun Q9 z => rb Q9 (rc _ z)
  obtain ⟨σ3, e9⟩ : ∃ s : St, s = up3 σ2 12 o0 3 ((σ2 12 o0 3) - (imin (σ 12 o0 3) (σ 12 o0 2))) := ⟨_, rfl⟩
  have h := h σ3 e9
  have rb := fun Q9 z => rb Q9 (nm_n e9 z)
  have ok : okS σ3 := by rw [e9]; exact (ok_n ok (by decide))
  have fr : Fr (mF [] [(42, o0), (43, o0)] [] [(12, o0, [2, 3])]) σ σ3 := by rw [e9]; exact (Fr.up fr (mF_D (List.mem_of_getElem? (i := 0) rfl) rfl))
  exact ⟨σ3, h, ok, fr, fun Q9 hq => rb Q9 hq⟩
