/-! runs -/
set_option maxRecDepth 100000
/-! WebHost$Store.find([BI)I -/
set_option maxHeartbeats 4000000 in
theorem e1_find_L2 {σ : St} {k1 : Nat} {i1 : Nat} {x2 : Int32} {Q : Int32 → Prop} {K21 : Int32 → Prop} {K29 : Prop} (hk1 : abc k1 i1 = true) (ok : okS σ) :
    ∀ (n : Nat) {x3 : Int32}, w1_find_L2 σ k1 i1 x2 Q K21 K29 n x3 → (∃ (x3' : Int32), K21 x3' ∧ ∀ (Q9 : Int32 → Prop) (K9_21 : Int32 → Prop) (K9_29 : Prop), K9_21 x3' → w1_find_L2 σ k1 i1 x2 Q9 K9_21 K9_29 n x3) ∨ (K29 ∧ ∀ (Q9 : Int32 → Prop) (K9_21 : Int32 → Prop) (K9_29 : Prop), K9_29 → w1_find_L2 σ k1 i1 x2 Q9 K9_21 K9_29 n x3) := by
  intro n
  induction n with
  | zero =>
    intro x3 h
    exact False.elim h
  | succ n ih =>
    intro x3 h
    have rb : ∀ (Q9 : Int32 → Prop) (K9_21 : Int32 → Prop) (K9_29 : Prop), w1_find_L2 σ k1 i1 x2 Q9 K9_21 K9_29 (n + 1) x3 → w1_find_L2 σ k1 i1 x2 Q9 K9_21 K9_29 (n + 1) x3 := fun _ _ _ z => z
    by_cases hc : (σ 1 0 1) ≤ x3
    · have h := h.1 hc
      have rb := fun Q9 K9_21 K9_29 z => rb Q9 K9_21 K9_29 (br_t hc z)
      exact (Or.inr ⟨h, fun Q9 K9_21 K9_29 hq => rb Q9 K9_21 K9_29 hq⟩)
    have h := h.2 hc
    have rb := fun Q9 K9_21 K9_29 z => rb Q9 K9_21 K9_29 (br_f hc z)
    obtain ⟨r1, h, rc⟩ := e1_isNamed hk1 ok h
    have rb := fun Q9 K9_21 K9_29 z => rb Q9 K9_21 K9_29 (rc _ z)
    by_cases hc : r1 = 0
    · have h := h.1 hc
      have rb := fun Q9 K9_21 K9_29 z => rb Q9 K9_21 K9_29 (br_t hc z)
      rcases ih h with ⟨x3, h, rc⟩ | ⟨h, rc⟩
      · exact (Or.inl ⟨x3, h, fun Q9 K9_21 K9_29 hq => rb Q9 K9_21 K9_29 (rc Q9 K9_21 K9_29 hq)⟩)
      · exact (Or.inr ⟨h, fun Q9 K9_21 K9_29 hq => rb Q9 K9_21 K9_29 (rc Q9 K9_21 K9_29 hq)⟩)
    have h := h.2 hc
    have rb := fun Q9 K9_21 K9_29 z => rb Q9 K9_21 K9_29 (br_f hc z)
    exact (Or.inl ⟨x3, h, fun Q9 K9_21 K9_29 hq => rb Q9 K9_21 K9_29 hq⟩)
set_option maxHeartbeats 4000000 in
theorem e1_find {σ : St} {k1 : Nat} {i1 : Nat} {x2 : Int32} {Q : Int32 → Prop} (hk1 : abc k1 i1 = true) (ok : okS σ) (h : w1_find σ k1 i1 x2 Q) : (∃ r : Int32, Q r ∧ ∀ (Q9 : Int32 → Prop), Q9 r → w1_find σ k1 i1 x2 Q9) := by
  have rb : ∀ (Q9 : Int32 → Prop), w1_find σ k1 i1 x2 Q9 → w1_find σ k1 i1 x2 Q9 := fun _ z => z
  obtain ⟨n9, h⟩ := h
  rcases e1_find_L2 hk1 ok n9 h with ⟨x3_3, h, rc⟩ | ⟨h, rc⟩
  · have rb := fun Q9 z => rb Q9 (Exists.intro n9 (rc _ _ _ z))
    exact ⟨x3_3, h, fun Q9 hq => rb Q9 hq⟩
  · have rb := fun Q9 z => rb Q9 (Exists.intro n9 (rc _ _ _ z))
    exact ⟨(-1), h, fun Q9 hq => rb Q9 hq⟩
/-! WebHost$Store.isRight(I)Z -/
set_option maxHeartbeats 4000000 in
theorem e1_isRight_L34 {σ : St} {x1 : Int32} {x2 : Int32} {Q : Int32 → Prop} {K71 : Prop} {K79 : Prop} (ok : okS σ) :
    ∀ (n : Nat) {x3 : Int32}, w1_isRight_L34 σ x1 x2 Q K71 K79 n x3 → (K71 ∧ ∀ (Q9 : Int32 → Prop) (K9_71 : Prop) (K9_79 : Prop), K9_71 → w1_isRight_L34 σ x1 x2 Q9 K9_71 K9_79 n x3) ∨ (K79 ∧ ∀ (Q9 : Int32 → Prop) (K9_71 : Prop) (K9_79 : Prop), K9_79 → w1_isRight_L34 σ x1 x2 Q9 K9_71 K9_79 n x3) := by
  intro n
  induction n with
  | zero =>
    intro x3 h
    exact False.elim h
  | succ n ih =>
    intro x3 h
    have rb : ∀ (Q9 : Int32 → Prop) (K9_71 : Prop) (K9_79 : Prop), w1_isRight_L34 σ x1 x2 Q9 K9_71 K9_79 (n + 1) x3 → w1_isRight_L34 σ x1 x2 Q9 K9_71 K9_79 (n + 1) x3 := fun _ _ _ z => z
    by_cases hc : x2 ≤ x3
    · have h := h.1 hc
      have rb := fun Q9 K9_71 K9_79 z => rb Q9 K9_71 K9_79 (br_t hc z)
      exact (Or.inr ⟨h, fun Q9 K9_71 K9_79 hq => rb Q9 K9_71 K9_79 hq⟩)
    have h := h.2 hc
    have rb := fun Q9 K9_71 K9_79 z => rb Q9 K9_71 K9_79 (br_f hc z)
    obtain ⟨r4, h, rc⟩ := e1_entry ok h
    have rb := fun Q9 K9_71 K9_79 z => rb Q9 K9_71 K9_79 (rc _ z)
    obtain ⟨r5, h, rc⟩ := e1_look ok h
    have rb := fun Q9 K9_71 K9_79 z => rb Q9 K9_71 K9_79 (rc _ z)
    by_cases hc : r5 < 33
    · have h := h.1 hc
      have rb := fun Q9 K9_71 K9_79 z => rb Q9 K9_71 K9_79 (br_t hc z)
      exact (Or.inl ⟨h, fun Q9 K9_71 K9_79 hq => rb Q9 K9_71 K9_79 hq⟩)
    have h := h.2 hc
    have rb := fun Q9 K9_71 K9_79 z => rb Q9 K9_71 K9_79 (br_f hc z)
    obtain ⟨r6, h, rc⟩ := e1_entry ok h
    have rb := fun Q9 K9_71 K9_79 z => rb Q9 K9_71 K9_79 (rc _ z)
    obtain ⟨r7, h, rc⟩ := e1_look ok h
    have rb := fun Q9 K9_71 K9_79 z => rb Q9 K9_71 K9_79 (rc _ z)
    by_cases hc : r7 ≤ 126
    · have h := h.1 hc
      have rb := fun Q9 K9_71 K9_79 z => rb Q9 K9_71 K9_79 (br_t hc z)
      rcases ih h with ⟨h, rc⟩ | ⟨h, rc⟩
      · exact (Or.inl ⟨h, fun Q9 K9_71 K9_79 hq => rb Q9 K9_71 K9_79 (rc Q9 K9_71 K9_79 hq)⟩)
      · exact (Or.inr ⟨h, fun Q9 K9_71 K9_79 hq => rb Q9 K9_71 K9_79 (rc Q9 K9_71 K9_79 hq)⟩)
    have h := h.2 hc
    have rb := fun Q9 K9_71 K9_79 z => rb Q9 K9_71 K9_79 (br_f hc z)
    exact (Or.inl ⟨h, fun Q9 K9_71 K9_79 hq => rb Q9 K9_71 K9_79 hq⟩)
set_option maxHeartbeats 4000000 in
theorem e1_isRight_L81 {σ : St} {x1 : Int32} {x2 : Int32} {Q : Int32 → Prop} {K101 : Prop} {K109 : Prop} (ok : okS σ) :
    ∀ (n : Nat) {x3 : Int32}, w1_isRight_L81 σ x1 x2 Q K101 K109 n x3 → (K101 ∧ ∀ (Q9 : Int32 → Prop) (K9_101 : Prop) (K9_109 : Prop), K9_101 → w1_isRight_L81 σ x1 x2 Q9 K9_101 K9_109 n x3) ∨ (K109 ∧ ∀ (Q9 : Int32 → Prop) (K9_101 : Prop) (K9_109 : Prop), K9_109 → w1_isRight_L81 σ x1 x2 Q9 K9_101 K9_109 n x3) := by
  intro n
  induction n with
  | zero =>
    intro x3 h
    exact False.elim h
  | succ n ih =>
    intro x3 h
    have rb : ∀ (Q9 : Int32 → Prop) (K9_101 : Prop) (K9_109 : Prop), w1_isRight_L81 σ x1 x2 Q9 K9_101 K9_109 (n + 1) x3 → w1_isRight_L81 σ x1 x2 Q9 K9_101 K9_109 (n + 1) x3 := fun _ _ _ z => z
    by_cases hc : 48 ≤ x3
    · have h := h.1 hc
      have rb := fun Q9 K9_101 K9_109 z => rb Q9 K9_101 K9_109 (br_t hc z)
      exact (Or.inr ⟨h, fun Q9 K9_101 K9_109 hq => rb Q9 K9_101 K9_109 hq⟩)
    have h := h.2 hc
    have rb := fun Q9 K9_101 K9_109 z => rb Q9 K9_101 K9_109 (br_f hc z)
    obtain ⟨r11, h, rc⟩ := e1_entry ok h
    have rb := fun Q9 K9_101 K9_109 z => rb Q9 K9_101 K9_109 (rc _ z)
    obtain ⟨r12, h, rc⟩ := e1_look ok h
    have rb := fun Q9 K9_101 K9_109 z => rb Q9 K9_101 K9_109 (rc _ z)
    by_cases hc : r12 = 0
    · have h := h.1 hc
      have rb := fun Q9 K9_101 K9_109 z => rb Q9 K9_101 K9_109 (br_t hc z)
      rcases ih h with ⟨h, rc⟩ | ⟨h, rc⟩
      · exact (Or.inl ⟨h, fun Q9 K9_101 K9_109 hq => rb Q9 K9_101 K9_109 (rc Q9 K9_101 K9_109 hq)⟩)
      · exact (Or.inr ⟨h, fun Q9 K9_101 K9_109 hq => rb Q9 K9_101 K9_109 (rc Q9 K9_101 K9_109 hq)⟩)
    have h := h.2 hc
    have rb := fun Q9 K9_101 K9_109 z => rb Q9 K9_101 K9_109 (br_f hc z)
    exact (Or.inl ⟨h, fun Q9 K9_101 K9_109 hq => rb Q9 K9_101 K9_109 hq⟩)
set_option maxHeartbeats 4000000 in
theorem e1_isRight_L178 {σ : St} {x1 : Int32} {x2 : Int32} {Q : Int32 → Prop} {K203 : Prop} {K211 : Prop} (ok : okS σ) :
    ∀ (n : Nat) {x5 : Int32}, w1_isRight_L178 σ x1 x2 Q K203 K211 n x5 → (K203 ∧ ∀ (Q9 : Int32 → Prop) (K9_203 : Prop) (K9_211 : Prop), K9_203 → w1_isRight_L178 σ x1 x2 Q9 K9_203 K9_211 n x5) ∨ (K211 ∧ ∀ (Q9 : Int32 → Prop) (K9_203 : Prop) (K9_211 : Prop), K9_211 → w1_isRight_L178 σ x1 x2 Q9 K9_203 K9_211 n x5) := by
  intro n
  induction n with
  | zero =>
    intro x5 h
    exact False.elim h
  | succ n ih =>
    intro x5 h
    have rb : ∀ (Q9 : Int32 → Prop) (K9_203 : Prop) (K9_211 : Prop), w1_isRight_L178 σ x1 x2 Q9 K9_203 K9_211 (n + 1) x5 → w1_isRight_L178 σ x1 x2 Q9 K9_203 K9_211 (n + 1) x5 := fun _ _ _ z => z
    by_cases hc : x1 ≤ x5
    · have h := h.1 hc
      have rb := fun Q9 K9_203 K9_211 z => rb Q9 K9_203 K9_211 (br_t hc z)
      exact (Or.inr ⟨h, fun Q9 K9_203 K9_211 hq => rb Q9 K9_203 K9_211 hq⟩)
    have h := h.2 hc
    have rb := fun Q9 K9_203 K9_211 z => rb Q9 K9_203 K9_211 (br_f hc z)
    obtain ⟨hq21, h⟩ := h
    have rb := fun Q9 K9_203 K9_211 z => rb Q9 K9_203 K9_211 (And.intro hq21 z)
    obtain ⟨r22, h, rc⟩ := e1_entry ok h
    have rb := fun Q9 K9_203 K9_211 z => rb Q9 K9_203 K9_211 (rc _ z)
    obtain ⟨r23, h, rc⟩ := e1_isNamed hq21 ok h
    have rb := fun Q9 K9_203 K9_211 z => rb Q9 K9_203 K9_211 (rc _ z)
    by_cases hc : r23 = 0
    · have h := h.1 hc
      have rb := fun Q9 K9_203 K9_211 z => rb Q9 K9_203 K9_211 (br_t hc z)
      rcases ih h with ⟨h, rc⟩ | ⟨h, rc⟩
      · exact (Or.inl ⟨h, fun Q9 K9_203 K9_211 hq => rb Q9 K9_203 K9_211 (rc Q9 K9_203 K9_211 hq)⟩)
      · exact (Or.inr ⟨h, fun Q9 K9_203 K9_211 hq => rb Q9 K9_203 K9_211 (rc Q9 K9_203 K9_211 hq)⟩)
    have h := h.2 hc
    have rb := fun Q9 K9_203 K9_211 z => rb Q9 K9_203 K9_211 (br_f hc z)
    exact (Or.inl ⟨h, fun Q9 K9_203 K9_211 hq => rb Q9 K9_203 K9_211 hq⟩)
set_option maxHeartbeats 4000000 in
theorem e1_isRight {σ : St} {x1 : Int32} {Q : Int32 → Prop} (ok : okS σ) (h : w1_isRight σ x1 Q) : (∃ r : Int32, Q r ∧ ∀ (Q9 : Int32 → Prop), Q9 r → w1_isRight σ x1 Q9) := by
  have rb : ∀ (Q9 : Int32 → Prop), w1_isRight σ x1 Q9 → w1_isRight σ x1 Q9 := fun _ z => z
  obtain ⟨r1, h, rc⟩ := e1_nameLength ok h
  have rb := fun Q9 z => rb Q9 (rc _ z)
  by_cases hc : r1 = 0
  · have h := h.1 hc
    have rb := fun Q9 z => rb Q9 (br_t hc z)
    exact ⟨0, h, fun Q9 hq => rb Q9 hq⟩
  have h := h.2 hc
  have rb := fun Q9 z => rb Q9 (br_f hc z)
  by_cases hc : r1 = 48
  · have h := h.1 hc
    have rb := fun Q9 z => rb Q9 (br_t hc z)
    exact ⟨0, h, fun Q9 hq => rb Q9 hq⟩
  have h := h.2 hc
  have rb := fun Q9 z => rb Q9 (br_f hc z)
  obtain ⟨r2, h, rc⟩ := e1_entry ok h
  have rb := fun Q9 z => rb Q9 (rc _ z)
  obtain ⟨r3, h, rc⟩ := e1_look ok h
  have rb := fun Q9 z => rb Q9 (rc _ z)
  by_cases hc : r3 = 47
  · have h := h.1 hc
    have rb := fun Q9 z => rb Q9 (br_t hc z)
    obtain ⟨n9, h⟩ := h
    rcases e1_isRight_L34 ok n9 h with ⟨h, rc⟩ | ⟨h, rc⟩
    · have rb := fun Q9 z => rb Q9 (Exists.intro n9 (rc _ _ _ z))
      exact ⟨0, h, fun Q9 hq => rb Q9 hq⟩
    · have rb := fun Q9 z => rb Q9 (Exists.intro n9 (rc _ _ _ z))
      obtain ⟨n9, h⟩ := h
      rcases e1_isRight_L81 ok n9 h with ⟨h, rc⟩ | ⟨h, rc⟩
      · have rb := fun Q9 z => rb Q9 (Exists.intro n9 (rc _ _ _ z))
        exact ⟨0, h, fun Q9 hq => rb Q9 hq⟩
      · have rb := fun Q9 z => rb Q9 (Exists.intro n9 (rc _ _ _ z))
        obtain ⟨r16, h, rc⟩ := e1_place ok h
        have rb := fun Q9 z => rb Q9 (rc _ z)
        obtain ⟨r17, h, rc⟩ := e1_length ok h
        have rb := fun Q9 z => rb Q9 (rc _ z)
        by_cases hc : r16 < 0
        · have h := h.1 hc
          have rb := fun Q9 z => rb Q9 (br_t hc z)
          exact ⟨0, h, fun Q9 hq => rb Q9 hq⟩
        have h := h.2 hc
        have rb := fun Q9 z => rb Q9 (br_f hc z)
        by_cases hc : r17 < 0
        · have h := h.1 hc
          have rb := fun Q9 z => rb Q9 (br_t hc z)
          exact ⟨0, h, fun Q9 hq => rb Q9 hq⟩
        have h := h.2 hc
        have rb := fun Q9 z => rb Q9 (br_f hc z)
        by_cases hc : (nI (σ 90 0 0).toNatClampNeg) < r16
        · have h := h.1 hc
          have rb := fun Q9 z => rb Q9 (br_t hc z)
          exact ⟨0, h, fun Q9 hq => rb Q9 hq⟩
        have h := h.2 hc
        have rb := fun Q9 z => rb Q9 (br_f hc z)
        by_cases hc : ((nI (σ 90 0 0).toNatClampNeg) - r16) < r17
        · have h := h.1 hc
          have rb := fun Q9 z => rb Q9 (br_t hc z)
          exact ⟨0, h, fun Q9 hq => rb Q9 hq⟩
        have h := h.2 hc
        have rb := fun Q9 z => rb Q9 (br_f hc z)
        obtain ⟨hq18, h⟩ := h
        have rb := fun Q9 z => rb Q9 (And.intro hq18 z)
        obtain ⟨r19, h, rc⟩ := e1_entry ok h
        have rb := fun Q9 z => rb Q9 (rc _ z)
        obtain ⟨r20, h, rc⟩ := e19_four hq18 ok h
        have rb := fun Q9 z => rb Q9 (rc _ z)
        by_cases hc : r20 = 0
        · have h := h.1 hc
          have rb := fun Q9 z => rb Q9 (br_t hc z)
          obtain ⟨n9, h⟩ := h
          rcases e1_isRight_L178 ok n9 h with ⟨h, rc⟩ | ⟨h, rc⟩
          · have rb := fun Q9 z => rb Q9 (Exists.intro n9 (rc _ _ _ z))
            exact ⟨0, h, fun Q9 hq => rb Q9 hq⟩
          · have rb := fun Q9 z => rb Q9 (Exists.intro n9 (rc _ _ _ z))
            exact ⟨1, h, fun Q9 hq => rb Q9 hq⟩
        have h := h.2 hc
        have rb := fun Q9 z => rb Q9 (br_f hc z)
        exact ⟨0, h, fun Q9 hq => rb Q9 hq⟩
  have h := h.2 hc
  have rb := fun Q9 z => rb Q9 (br_f hc z)
  exact ⟨0, h, fun Q9 hq => rb Q9 hq⟩
/-! WebHost$Store.isWhole(I)Z -/
set_option maxHeartbeats 4000000 in
theorem e1_isWhole {σ : St} {x1 : Int32} {Q : Int32 → Prop} (ok : okS σ) (h : w1_isWhole σ x1 Q) : (∃ r : Int32, Q r ∧ ∀ (Q9 : Int32 → Prop), Q9 r → w1_isWhole σ x1 Q9) := by
  have rb : ∀ (Q9 : Int32 → Prop), w1_isWhole σ x1 Q9 → w1_isWhole σ x1 Q9 := fun _ z => z
  obtain ⟨r1, h, rc⟩ := e1_place ok h
  have rb := fun Q9 z => rb Q9 (rc _ z)
  obtain ⟨r2, h, rc⟩ := e1_length ok h
  have rb := fun Q9 z => rb Q9 (rc _ z)
  obtain ⟨r3, h, rc⟩ := e1_check ok h
  have rb := fun Q9 z => rb Q9 (rc _ z)
  obtain ⟨r4, h, rc⟩ := e1_mark ok h
  have rb := fun Q9 z => rb Q9 (rc _ z)
  by_cases hc : r3 = r4
  · have h := h.2 hc
    have rb := fun Q9 z => rb Q9 (br_u hc z)
    exact ⟨1, h, fun Q9 hq => rb Q9 hq⟩
  have h := h.1 hc
  have rb := fun Q9 z => rb Q9 (br_v hc z)
  exact ⟨0, h, fun Q9 hq => rb Q9 hq⟩
/-! WebHost$Hops.act()V -/
set_option maxHeartbeats 4000000 in
theorem e3_act_L2 {σ : St} {Q : St → Prop} {K27 : Int32 → Prop} (ok : okS σ) :
    ∀ (n : Nat) {x1 : Int32}, w3_act_L2 σ Q K27 n x1 → (∃ (x1' : Int32), K27 x1' ∧ ∀ (Q9 : St → Prop) (K9_27 : Int32 → Prop), K9_27 x1' → w3_act_L2 σ Q9 K9_27 n x1) := by
  intro n
  induction n with
  | zero =>
    intro x1 h
    exact False.elim h
  | succ n ih =>
    intro x1 h
    have rb : ∀ (Q9 : St → Prop) (K9_27 : Int32 → Prop), w3_act_L2 σ Q9 K9_27 (n + 1) x1 → w3_act_L2 σ Q9 K9_27 (n + 1) x1 := fun _ _ z => z
    obtain ⟨hc, h⟩ := h
    have rb := fun Q9 K9_27 z => rb Q9 K9_27 (And.intro hc z)
    obtain ⟨hq1, h⟩ := h
    have rb := fun Q9 K9_27 z => rb Q9 K9_27 (And.intro hq1 z)
    obtain ⟨r2, h, rc⟩ := e4_due hq1 ok h
    have rb := fun Q9 K9_27 z => rb Q9 K9_27 (rc _ z)
    by_cases hc : r2 = (σ 2 0 4)
    · have h := h.1 hc
      have rb := fun Q9 K9_27 z => rb Q9 K9_27 (br_t hc z)
      exact ⟨x1, h, fun Q9 K9_27 hq => rb Q9 K9_27 hq⟩
    have h := h.2 hc
    have rb := fun Q9 K9_27 z => rb Q9 K9_27 (br_f hc z)
    rcases ih h with ⟨x1, h, rc⟩
    · exact ⟨x1, h, fun Q9 K9_27 hq => rb Q9 K9_27 (rc Q9 K9_27 hq)⟩
set_option maxHeartbeats 4000000 in
theorem e3_act {σ : St} {Q : St → Prop} (ok : okS σ) (h : w3_act σ Q) : (∃ (σ' : St), Q σ' ∧ okS σ' ∧ Fr (mF [23, 25, 26, 31, 32] [] [(2, [3]), (3, [9]), (4, [2])] []) σ σ' ∧ ∀ (Q9 : St → Prop), Q9 σ' → w3_act σ Q9) := by
  have fr : Fr (mF [23, 25, 26, 31, 32] [] [(2, [3]), (3, [9]), (4, [2])] []) σ σ := Fr.rf
  have rb : ∀ (Q9 : St → Prop), w3_act σ Q9 → w3_act σ Q9 := fun _ z => z
  obtain ⟨n9, h⟩ := h
  rcases e3_act_L2 ok n9 h with ⟨x1_4, h, rc⟩
  · have rb := fun Q9 z => rb Q9 (Exists.intro n9 (rc _ _ z))
    obtain ⟨hc, h⟩ := h
    have rb := fun Q9 z => rb Q9 (And.intro hc z)
    obtain ⟨hq5, h⟩ := h
    have rb := fun Q9 z => rb Q9 (And.intro hq5 z)
    by_cases hc : (σ 4 ((σ 31 0 x1_4.toNatClampNeg).toNatClampNeg) 2) = 3
    · have h := h.2 hc
      have rb := fun Q9 z => rb Q9 (br_u hc z)
      obtain ⟨σ10, h, ok, fr9, rc⟩ := e3_remove ok h
      have fr := fr.tr (fr9.sub (mF_sub rfl sub_nil rfl sud_nil))
      have rb := fun Q9 z => rb Q9 (rc _ z)
      exact ⟨σ10, h, ok, fr, fun Q9 hq => rb Q9 hq⟩
    have h := h.1 hc
    have rb := fun Q9 z => rb Q9 (br_v hc z)
    obtain ⟨hc, h⟩ := h
    have rb := fun Q9 z => rb Q9 (And.intro hc z)
    obtain ⟨hq6, h⟩ := h
    have rb := fun Q9 z => rb Q9 (And.intro hq6 z)
    obtain ⟨σ7, e9⟩ : ∃ s : St, s = up3 σ 4 ((σ 31 0 x1_4.toNatClampNeg).toNatClampNeg) 2 ((σ 4 ((σ 31 0 x1_4.toNatClampNeg).toNatClampNeg) 2) + 1) := ⟨_, rfl⟩
    have h := h σ7 e9
    have rb := fun Q9 z => rb Q9 (nm_n e9 z)
    have ok : okS σ7 := by rw [e9]; exact (ok_n ok (by decide))
    have fr : Fr (mF [23, 25, 26, 31, 32] [] [(2, [3]), (3, [9]), (4, [2])] []) σ σ7 := by rw [e9]; exact (Fr.up fr (mF_C (List.mem_of_getElem? (i := 2) rfl) rfl))
    obtain ⟨hc, h⟩ := h
    have rb := fun Q9 z => rb Q9 (And.intro hc z)
    obtain ⟨hq8, h⟩ := h
    have rb := fun Q9 z => rb Q9 (And.intro hq8 z)
    obtain ⟨σ9, h, ok, fr9, rc⟩ := e3_tell (by decide) ok h
    have fr := fr.tr (fr9.sub (mF_sub rfl sub_nil rfl sud_nil))
    have rb := fun Q9 z => rb Q9 (rc _ z)
    exact ⟨σ9, h, ok, fr, fun Q9 hq => rb Q9 hq⟩
/-! WebHost$Hops.learn(I[BI)V -/
set_option maxHeartbeats 4000000 in
theorem e3_learn_J53 {σ : St} {x1 : Int32} {k2 : Nat} {i2 : Nat} {x3 : Int32} {x4 : Int32} {Q : St → Prop} (hk2 : abc k2 i2 = true) (ok : okS σ) (h : w3_learn_J53 σ x1 k2 i2 x3 x4 Q) : (∃ (σ' : St), Q σ' ∧ okS σ' ∧ Fr (mF [23, 25, 26, 28, 29, 30, 31] [] [(2, [3]), (3, [9])] []) σ σ' ∧ ∀ (Q9 : St → Prop), Q9 σ' → w3_learn_J53 σ x1 k2 i2 x3 x4 Q9) := by
  have fr : Fr (mF [23, 25, 26, 28, 29, 30, 31] [] [(2, [3]), (3, [9])] []) σ σ := Fr.rf
  have rb : ∀ (Q9 : St → Prop), w3_learn_J53 σ x1 k2 i2 x3 x4 Q9 → w3_learn_J53 σ x1 k2 i2 x3 x4 Q9 := fun _ z => z
  obtain ⟨hc, h⟩ := h
  have rb := fun Q9 z => rb Q9 (And.intro hc z)
  obtain ⟨σ2, e9⟩ : ∃ s : St, s = up3 σ 28 0 x4.toNatClampNeg x1 := ⟨_, rfl⟩
  have h := h σ2 e9
  have rb := fun Q9 z => rb Q9 (nm_n e9 z)
  have ok : okS σ2 := by rw [e9]; exact (ok_n ok (tyk_a 28 0 (by decide) (by decide) _))
  have fr : Fr (mF [23, 25, 26, 28, 29, 30, 31] [] [(2, [3]), (3, [9])] []) σ σ2 := by rw [e9]; exact (Fr.up fr (mF_A rfl))
  obtain ⟨hc, h⟩ := h
  have rb := fun Q9 z => rb Q9 (And.intro hc z)
  obtain ⟨σ3, e9⟩ : ∃ s : St, s = up3 σ2 29 0 x4.toNatClampNeg (σ2 2 0 4) := ⟨_, rfl⟩
  have h := h σ3 e9
  have rb := fun Q9 z => rb Q9 (nm_n e9 z)
  have ok : okS σ3 := by rw [e9]; exact (ok_n ok (tyk_a 29 0 (by decide) (by decide) _))
  have fr : Fr (mF [23, 25, 26, 28, 29, 30, 31] [] [(2, [3]), (3, [9])] []) σ σ3 := by rw [e9]; exact (Fr.up fr (mF_A rfl))
  obtain ⟨σ4, h, ok, fr9, rc⟩ := e19_copy hk2 (by decide) ok h
  have fr := fr.tr (fr9.sub (mF_mR (Or.inl rfl)))
  have rb := fun Q9 z => rb Q9 (rc _ z)
  obtain ⟨σ5, h, ok, fr9, rc⟩ := e3_release ok h
  have fr := fr.tr (fr9.sub (mF_sub rfl sub_nil rfl sud_nil))
  have rb := fun Q9 z => rb Q9 (rc _ z)
  exact ⟨σ5, h, ok, fr, fun Q9 hq => rb Q9 hq⟩
set_option maxHeartbeats 4000000 in
theorem e3_learn {σ : St} {x1 : Int32} {k2 : Nat} {i2 : Nat} {x3 : Int32} {Q : St → Prop} (hk2 : abc k2 i2 = true) (ok : okS σ) (h : w3_learn σ x1 k2 i2 x3 Q) : (∃ (σ' : St), Q σ' ∧ okS σ' ∧ Fr (mF [23, 25, 26, 28, 29, 30, 31] [] [(2, [3]), (3, [7, 9])] []) σ σ' ∧ ∀ (Q9 : St → Prop), Q9 σ' → w3_learn σ x1 k2 i2 x3 Q9) := by
  have fr : Fr (mF [23, 25, 26, 28, 29, 30, 31] [] [(2, [3]), (3, [7, 9])] []) σ σ := Fr.rf
  have rb : ∀ (Q9 : St → Prop), w3_learn σ x1 k2 i2 x3 Q9 → w3_learn σ x1 k2 i2 x3 Q9 := fun _ z => z
  obtain ⟨r1, h, rc⟩ := e3_find ok h
  have rb := fun Q9 z => rb Q9 (rc _ z)
  by_cases hc : 0 ≤ r1
  · have h := h.1 hc
    have rb := fun Q9 z => rb Q9 (br_t hc z)
    obtain ⟨σ9, h, ok, fr9, rc⟩ := e3_learn_J53 hk2 ok h
    exact ⟨σ9, h, ok, fr.tr (fr9.sub (mF_sub rfl sub_nil rfl sud_nil)), fun Q9 hq => rb Q9 (rc Q9 hq)⟩
  have h := h.2 hc
  have rb := fun Q9 z => rb Q9 (br_f hc z)
  by_cases hc : 16 ≤ (σ 3 0 7)
  · have h := h.1 hc
    have rb := fun Q9 z => rb Q9 (br_t hc z)
    obtain ⟨r6, h, rc⟩ := e3_oldest ok h
    have rb := fun Q9 z => rb Q9 (rc _ z)
    by_cases hc : 16 ≤ (σ 3 0 7)
    · have h := h.1 hc
      have rb := fun Q9 z => rb Q9 (br_t hc z)
      obtain ⟨σ9, h, ok, fr9, rc⟩ := e3_learn_J53 hk2 ok h
      exact ⟨σ9, h, ok, fr.tr (fr9.sub (mF_sub rfl sub_nil rfl sud_nil)), fun Q9 hq => rb Q9 (rc Q9 hq)⟩
    have h := h.2 hc
    have rb := fun Q9 z => rb Q9 (br_f hc z)
    obtain ⟨σ7, e9⟩ : ∃ s : St, s = up3 σ 3 0 7 ((σ 3 0 7) + 1) := ⟨_, rfl⟩
    have h := h σ7 e9
    have rb := fun Q9 z => rb Q9 (nm_n e9 z)
    have ok : okS σ7 := by rw [e9]; exact (ok_n ok (by decide))
    have fr : Fr (mF [23, 25, 26, 28, 29, 30, 31] [] [(2, [3]), (3, [7, 9])] []) σ σ7 := by rw [e9]; exact (Fr.up fr (mF_C (List.mem_of_getElem? (i := 1) rfl) rfl))
    obtain ⟨σ9, h, ok, fr9, rc⟩ := e3_learn_J53 hk2 ok h
    exact ⟨σ9, h, ok, fr.tr (fr9.sub (mF_sub rfl sub_nil rfl sud_nil)), fun Q9 hq => rb Q9 (rc Q9 hq)⟩
  have h := h.2 hc
  have rb := fun Q9 z => rb Q9 (br_f hc z)
  by_cases hc : 16 ≤ (σ 3 0 7)
  · have h := h.1 hc
    have rb := fun Q9 z => rb Q9 (br_t hc z)
    obtain ⟨σ9, h, ok, fr9, rc⟩ := e3_learn_J53 hk2 ok h
    exact ⟨σ9, h, ok, fr.tr (fr9.sub (mF_sub rfl sub_nil rfl sud_nil)), fun Q9 hq => rb Q9 (rc Q9 hq)⟩
  have h := h.2 hc
  have rb := fun Q9 z => rb Q9 (br_f hc z)
  obtain ⟨σ8, e9⟩ : ∃ s : St, s = up3 σ 3 0 7 ((σ 3 0 7) + 1) := ⟨_, rfl⟩
  have h := h σ8 e9
  have rb := fun Q9 z => rb Q9 (nm_n e9 z)
  have ok : okS σ8 := by rw [e9]; exact (ok_n ok (by decide))
  have fr : Fr (mF [23, 25, 26, 28, 29, 30, 31] [] [(2, [3]), (3, [7, 9])] []) σ σ8 := by rw [e9]; exact (Fr.up fr (mF_C (List.mem_of_getElem? (i := 1) rfl) rfl))
  obtain ⟨σ9, h, ok, fr9, rc⟩ := e3_learn_J53 hk2 ok h
  exact ⟨σ9, h, ok, fr.tr (fr9.sub (mF_sub rfl sub_nil rfl sud_nil)), fun Q9 hq => rb Q9 (rc Q9 hq)⟩
/-! WebHost$Hops.send(I[BI)V -/
set_option maxHeartbeats 4000000 in
theorem e3_send_L66 {σ : St} {k2 : Nat} {i2 : Nat} {x3 : Int32} {x4 : Int32} {Q : St → Prop} {K96 : Int32 → Prop} (hk2 : abc k2 i2 = true) (ok : okS σ) :
    ∀ (n : Nat) {x5 : Int32}, w3_send_L66 σ k2 i2 x3 x4 Q K96 n x5 → (∃ (x5' : Int32), K96 x5' ∧ ∀ (Q9 : St → Prop) (K9_96 : Int32 → Prop), K9_96 x5' → w3_send_L66 σ k2 i2 x3 x4 Q9 K9_96 n x5) := by
  intro n
  induction n with
  | zero =>
    intro x5 h
    exact False.elim h
  | succ n ih =>
    intro x5 h
    have rb : ∀ (Q9 : St → Prop) (K9_96 : Int32 → Prop), w3_send_L66 σ k2 i2 x3 x4 Q9 K9_96 (n + 1) x5 → w3_send_L66 σ k2 i2 x3 x4 Q9 K9_96 (n + 1) x5 := fun _ _ z => z
    by_cases hc : (σ 3 0 9) ≤ x5
    · have h := h.1 hc
      have rb := fun Q9 K9_96 z => rb Q9 K9_96 (br_t hc z)
      exact ⟨x5, h, fun Q9 K9_96 hq => rb Q9 K9_96 hq⟩
    have h := h.2 hc
    have rb := fun Q9 K9_96 z => rb Q9 K9_96 (br_f hc z)
    obtain ⟨hc, h⟩ := h
    have rb := fun Q9 K9_96 z => rb Q9 K9_96 (And.intro hc z)
    obtain ⟨hq2, h⟩ := h
    have rb := fun Q9 K9_96 z => rb Q9 K9_96 (And.intro hq2 z)
    by_cases hc : (σ 4 ((σ 31 0 x5.toNatClampNeg).toNatClampNeg) 0) = x4
    · have h := h.1 hc
      have rb := fun Q9 K9_96 z => rb Q9 K9_96 (br_t hc z)
      exact ⟨x5, h, fun Q9 K9_96 hq => rb Q9 K9_96 hq⟩
    have h := h.2 hc
    have rb := fun Q9 K9_96 z => rb Q9 K9_96 (br_f hc z)
    rcases ih h with ⟨x5, h, rc⟩
    · exact ⟨x5, h, fun Q9 K9_96 hq => rb Q9 K9_96 (rc Q9 K9_96 hq)⟩
set_option maxHeartbeats 4000000 in
theorem e3_send_J96 {σ : St} {k2 : Nat} {i2 : Nat} {x3 : Int32} {x4 : Int32} {x5 : Int32} {Q : St → Prop} (hk2 : abc k2 i2 = true) (ok : okS σ) (h : w3_send_J96 σ k2 i2 x3 x4 x5 Q) : (∃ (σ' : St), Q σ' ∧ okS σ' ∧ Fr (mF [23, 25, 26, 32, 35] [] [(2, [3]), (3, [9]), (4, [0, 1, 2, 4])] []) σ σ' ∧ ∀ (Q9 : St → Prop), Q9 σ' → w3_send_J96 σ k2 i2 x3 x4 x5 Q9) := by
  have fr : Fr (mF [23, 25, 26, 32, 35] [] [(2, [3]), (3, [9]), (4, [0, 1, 2, 4])] []) σ σ := Fr.rf
  have rb : ∀ (Q9 : St → Prop), w3_send_J96 σ k2 i2 x3 x4 x5 Q9 → w3_send_J96 σ k2 i2 x3 x4 x5 Q9 := fun _ z => z
  by_cases hc : x5 = 8
  · have h := h.2 hc
    have rb := fun Q9 z => rb Q9 (br_u hc z)
    exact ⟨σ, h, ok, fr, fun Q9 hq => rb Q9 hq⟩
  have h := h.1 hc
  have rb := fun Q9 z => rb Q9 (br_v hc z)
  obtain ⟨hc, h⟩ := h
  have rb := fun Q9 z => rb Q9 (And.intro hc z)
  obtain ⟨hq5, h⟩ := h
  have rb := fun Q9 z => rb Q9 (And.intro hq5 z)
  obtain ⟨σ6, h, ok, fr9, rc⟩ := e19_copy hk2 (ok35 hq5) ok h
  have fr := fr.tr (fr9.sub (mF_mR (Or.inl rfl)))
  have rb := fun Q9 z => rb Q9 (rc _ z)
  obtain ⟨σ7, e9⟩ : ∃ s : St, s = up3 σ6 4 ((σ 31 0 x5.toNatClampNeg).toNatClampNeg) 4 x3 := ⟨_, rfl⟩
  have h := h σ7 e9
  have rb := fun Q9 z => rb Q9 (nm_n e9 z)
  have ok : okS σ7 := by rw [e9]; exact (ok_n ok (by decide))
  have fr : Fr (mF [23, 25, 26, 32, 35] [] [(2, [3]), (3, [9]), (4, [0, 1, 2, 4])] []) σ σ7 := by rw [e9]; exact (Fr.up fr (mF_C (List.mem_of_getElem? (i := 2) rfl) rfl))
  by_cases hc : (σ7 3 0 9) ≤ x5
  · have h := h.1 hc
    have rb := fun Q9 z => rb Q9 (br_t hc z)
    obtain ⟨σ8, e9⟩ : ∃ s : St, s = up3 σ7 3 0 9 ((σ7 3 0 9) + 1) := ⟨_, rfl⟩
    have h := h σ8 e9
    have rb := fun Q9 z => rb Q9 (nm_n e9 z)
    have ok : okS σ8 := by rw [e9]; exact (ok_n ok (by decide))
    have fr : Fr (mF [23, 25, 26, 32, 35] [] [(2, [3]), (3, [9]), (4, [0, 1, 2, 4])] []) σ σ8 := by rw [e9]; exact (Fr.up fr (mF_C (List.mem_of_getElem? (i := 1) rfl) rfl))
    obtain ⟨σ9, e9⟩ : ∃ s : St, s = up3 σ8 4 ((σ 31 0 x5.toNatClampNeg).toNatClampNeg) 0 x4 := ⟨_, rfl⟩
    have h := h σ9 e9
    have rb := fun Q9 z => rb Q9 (nm_n e9 z)
    have ok : okS σ9 := by rw [e9]; exact (ok_n ok (by decide))
    have fr : Fr (mF [23, 25, 26, 32, 35] [] [(2, [3]), (3, [9]), (4, [0, 1, 2, 4])] []) σ σ9 := by rw [e9]; exact (Fr.up fr (mF_C (List.mem_of_getElem? (i := 2) rfl) rfl))
    obtain ⟨σ10, e9⟩ : ∃ s : St, s = up3 σ9 4 ((σ 31 0 x5.toNatClampNeg).toNatClampNeg) 1 (σ9 2 0 4) := ⟨_, rfl⟩
    have h := h σ10 e9
    have rb := fun Q9 z => rb Q9 (nm_n e9 z)
    have ok : okS σ10 := by rw [e9]; exact (ok_n ok (by decide))
    have fr : Fr (mF [23, 25, 26, 32, 35] [] [(2, [3]), (3, [9]), (4, [0, 1, 2, 4])] []) σ σ10 := by rw [e9]; exact (Fr.up fr (mF_C (List.mem_of_getElem? (i := 2) rfl) rfl))
    obtain ⟨σ11, e9⟩ : ∃ s : St, s = up3 σ10 4 ((σ 31 0 x5.toNatClampNeg).toNatClampNeg) 2 1 := ⟨_, rfl⟩
    have h := h σ11 e9
    have rb := fun Q9 z => rb Q9 (nm_n e9 z)
    have ok : okS σ11 := by rw [e9]; exact (ok_n ok (by decide))
    have fr : Fr (mF [23, 25, 26, 32, 35] [] [(2, [3]), (3, [9]), (4, [0, 1, 2, 4])] []) σ σ11 := by rw [e9]; exact (Fr.up fr (mF_C (List.mem_of_getElem? (i := 2) rfl) rfl))
    obtain ⟨σ12, h, ok, fr9, rc⟩ := e3_tell (by decide) ok h
    have fr := fr.tr (fr9.sub (mF_sub rfl sub_nil rfl sud_nil))
    have rb := fun Q9 z => rb Q9 (rc _ z)
    exact ⟨σ12, h, ok, fr, fun Q9 hq => rb Q9 hq⟩
  have h := h.2 hc
  have rb := fun Q9 z => rb Q9 (br_f hc z)
  exact ⟨σ7, h, ok, fr, fun Q9 hq => rb Q9 hq⟩
set_option maxHeartbeats 4000000 in
theorem e3_send_J26 {σ : St} {k2 : Nat} {i2 : Nat} {x3 : Int32} {xs0 : Int32} {Q : St → Prop} (hk2 : abc k2 i2 = true) (ok : okS σ) (h : w3_send_J26 σ k2 i2 x3 xs0 Q) : (∃ (σ' : St), Q σ' ∧ okS σ' ∧ Fr (mF [23, 25, 26, 32, 35] [] [(2, [3]), (3, [9]), (4, [0, 1, 2, 4])] []) σ σ' ∧ ∀ (Q9 : St → Prop), Q9 σ' → w3_send_J26 σ k2 i2 x3 xs0 Q9) := by
  have fr : Fr (mF [23, 25, 26, 32, 35] [] [(2, [3]), (3, [9]), (4, [0, 1, 2, 4])] []) σ σ := Fr.rf
  have rb : ∀ (Q9 : St → Prop), w3_send_J26 σ k2 i2 x3 xs0 Q9 → w3_send_J26 σ k2 i2 x3 xs0 Q9 := fun _ z => z
  obtain ⟨r1, h, rc⟩ := e3_knows ok h
  have rb := fun Q9 z => rb Q9 (rc _ z)
  by_cases hc : r1 = 0
  · have h := h.1 hc
    have rb := fun Q9 z => rb Q9 (br_t hc z)
    obtain ⟨n9, h⟩ := h
    rcases e3_send_L66 hk2 ok n9 h with ⟨x5_4, h, rc⟩
    · have rb := fun Q9 z => rb Q9 (Exists.intro n9 (rc _ _ z))
      obtain ⟨σ9, h, ok, fr9, rc⟩ := e3_send_J96 hk2 ok h
      exact ⟨σ9, h, ok, fr.tr (fr9.sub (mF_sub rfl sub_nil rfl sud_nil)), fun Q9 hq => rb Q9 (rc Q9 hq)⟩
  have h := h.2 hc
  have rb := fun Q9 z => rb Q9 (br_f hc z)
  obtain ⟨r13, h, rc⟩ := e3_find ok h
  have rb := fun Q9 z => rb Q9 (rc _ z)
  obtain ⟨σ14, h, ok, fr9, rc⟩ := e2_send (by decide) hk2 ok h
  have fr := fr.tr (fr9.sub (mF_sub rfl sub_nil rfl sud_nil))
  have rb := fun Q9 z => rb Q9 (rc _ z)
  exact ⟨σ14, h, ok, fr, fun Q9 hq => rb Q9 hq⟩
set_option maxHeartbeats 4000000 in
theorem e3_send {σ : St} {x1 : Int32} {k2 : Nat} {i2 : Nat} {x3 : Int32} {Q : St → Prop} (hk2 : abc k2 i2 = true) (ok : okS σ) (h : w3_send σ x1 k2 i2 x3 Q) : (∃ (σ' : St), Q σ' ∧ okS σ' ∧ Fr (mF [23, 25, 26, 32, 35] [] [(2, [3]), (3, [9]), (4, [0, 1, 2, 4])] []) σ σ' ∧ ∀ (Q9 : St → Prop), Q9 σ' → w3_send σ x1 k2 i2 x3 Q9) := by
  have fr : Fr (mF [23, 25, 26, 32, 35] [] [(2, [3]), (3, [9]), (4, [0, 1, 2, 4])] []) σ σ := Fr.rf
  have rb : ∀ (Q9 : St → Prop), w3_send σ x1 k2 i2 x3 Q9 → w3_send σ x1 k2 i2 x3 Q9 := fun _ z => z
  by_cases hc : (x1 &&& (σ 3 0 2)) = ((σ 3 0 1) &&& (σ 3 0 2))
  · have h := h.2 hc
    have rb := fun Q9 z => rb Q9 (br_u hc z)
    obtain ⟨σ9, h, ok, fr9, rc⟩ := e3_send_J26 hk2 ok h
    exact ⟨σ9, h, ok, fr.tr (fr9.sub (mF_sub rfl sub_nil rfl sud_nil)), fun Q9 hq => rb Q9 (rc Q9 hq)⟩
  have h := h.1 hc
  have rb := fun Q9 z => rb Q9 (br_v hc z)
  obtain ⟨σ9, h, ok, fr9, rc⟩ := e3_send_J26 hk2 ok h
  exact ⟨σ9, h, ok, fr.tr (fr9.sub (mF_sub rfl sub_nil rfl sud_nil)), fun Q9 hq => rb Q9 (rc Q9 hq)⟩
/-! WebHost$Connection.finDone()V -/
set_option maxHeartbeats 4000000 in
theorem e11_finDone {σ : St} {o0 : Nat} {Q : St → Prop} (ho0 : o0 < 16) (ok : okS σ) (h : w11_finDone σ o0 Q) : (∃ (σ' : St), Q σ' ∧ okS σ' ∧ Fr (mF [] [] [] [(11, o0, [2, 29, 31, 33])]) σ σ' ∧ ∀ (Q9 : St → Prop), Q9 σ' → w11_finDone σ o0 Q9) := by
  have fr : Fr (mF [] [] [] [(11, o0, [2, 29, 31, 33])]) σ σ := Fr.rf
  have rb : ∀ (Q9 : St → Prop), w11_finDone σ o0 Q9 → w11_finDone σ o0 Q9 := fun _ z => z
  by_cases hc : (σ 11 o0 2) = 3
  · have h := h.2 hc
    have rb := fun Q9 z => rb Q9 (br_u hc z)
    obtain ⟨σ3, e9⟩ : ∃ s : St, s = up3 σ 11 o0 2 4 := ⟨_, rfl⟩
    have h := h σ3 e9
    have rb := fun Q9 z => rb Q9 (nm_n e9 z)
    have ok : okS σ3 := by rw [e9]; exact (ok_n ok (by decide))
    have fr : Fr (mF [] [] [] [(11, o0, [2, 29, 31, 33])]) σ σ3 := by rw [e9]; exact (Fr.up fr (mF_D (List.mem_of_getElem? (i := 0) rfl) rfl))
    obtain ⟨σ4, h, ok, fr9, rc⟩ := e11_live ho0 ok h
    have fr := fr.tr (fr9.sub (mF_sub rfl sub_nil rfl (sud_c (Or.inr ⟨_, List.mem_of_getElem? (i := 0) rfl, rfl⟩) sud_nil)))
    have rb := fun Q9 z => rb Q9 (rc _ z)
    exact ⟨σ4, h, ok, fr, fun Q9 hq => rb Q9 hq⟩
  have h := h.1 hc
  have rb := fun Q9 z => rb Q9 (br_v hc z)
  by_cases hc : (σ 11 o0 2) = 5
  · have h := h.2 hc
    have rb := fun Q9 z => rb Q9 (br_u hc z)
    obtain ⟨σ2, h, ok, fr9, rc⟩ := e11_wait2 ho0 ok h
    have fr := fr.tr (fr9.sub (mF_sub rfl sub_nil rfl (sud_c (Or.inr ⟨_, List.mem_of_getElem? (i := 0) rfl, rfl⟩) sud_nil)))
    have rb := fun Q9 z => rb Q9 (rc _ z)
    exact ⟨σ2, h, ok, fr, fun Q9 hq => rb Q9 hq⟩
  have h := h.1 hc
  have rb := fun Q9 z => rb Q9 (br_v hc z)
  by_cases hc : (σ 11 o0 2) = 8
  · have h := h.2 hc
    have rb := fun Q9 z => rb Q9 (br_u hc z)
    obtain ⟨σ1, h, ok, fr9, rc⟩ := e11_gone ho0 ok h
    have fr := fr.tr (fr9.sub (mF_sub rfl sub_nil rfl (sud_c (Or.inr ⟨_, List.mem_of_getElem? (i := 0) rfl, rfl⟩) sud_nil)))
    have rb := fun Q9 z => rb Q9 (rc _ z)
    exact ⟨σ1, h, ok, fr, fun Q9 hq => rb Q9 hq⟩
  have h := h.1 hc
  have rb := fun Q9 z => rb Q9 (br_v hc z)
  exact ⟨σ, h, ok, fr, fun Q9 hq => rb Q9 hq⟩
/-! WebHost$Connection.renew(II)V -/
set_option maxHeartbeats 4000000 in
theorem e11_renew_J146 {σ : St} {o0 : Nat} {Q : St → Prop} (ho0 : o0 < 16) (ok : okS σ) (h : w11_renew_J146 σ o0 Q) : (∃ (σ' : St), Q σ' ∧ okS σ' ∧ Fr (mF [] [] [] [(11, o0, [29, 30])]) σ σ' ∧ ∀ (Q9 : St → Prop), Q9 σ' → w11_renew_J146 σ o0 Q9) := by
  have fr : Fr (mF [] [] [] [(11, o0, [29, 30])]) σ σ := Fr.rf
  have rb : ∀ (Q9 : St → Prop), w11_renew_J146 σ o0 Q9 → w11_renew_J146 σ o0 Q9 := fun _ z => z
  by_cases hc : (σ 11 o0 11) = (σ 11 o0 9)
  · have h := h.1 hc
    have rb := fun Q9 z => rb Q9 (br_t hc z)
    obtain ⟨σ11, e9⟩ : ∃ s : St, s = up3 σ 11 o0 29 0 := ⟨_, rfl⟩
    have h := h σ11 e9
    have rb := fun Q9 z => rb Q9 (nm_n e9 z)
    have ok : okS σ11 := by rw [e9]; exact (ok_z ok (by decide) (Or.inl rfl))
    have fr : Fr (mF [] [] [] [(11, o0, [29, 30])]) σ σ11 := by rw [e9]; exact (Fr.up fr (mF_D (List.mem_of_getElem? (i := 0) rfl) rfl))
    exact ⟨σ11, h, ok, fr, fun Q9 hq => rb Q9 hq⟩
  have h := h.2 hc
  have rb := fun Q9 z => rb Q9 (br_f hc z)
  obtain ⟨σ12, h, ok, fr9, rc⟩ := e11_restartTimer ho0 ok h
  have fr := fr.tr (fr9.sub (mF_sub rfl sub_nil rfl (sud_c (Or.inr ⟨_, List.mem_of_getElem? (i := 0) rfl, rfl⟩) sud_nil)))
  have rb := fun Q9 z => rb Q9 (rc _ z)
  exact ⟨σ12, h, ok, fr, fun Q9 hq => rb Q9 hq⟩
set_option maxHeartbeats 4000000 in
theorem e11_renew_J27 {σ : St} {o0 : Nat} {x1 : Int32} {x2 : Int32} {Q : St → Prop} (ho0 : o0 < 16) (ok : okS σ) (h : w11_renew_J27 σ o0 x1 x2 Q) : (∃ (σ' : St), Q σ' ∧ okS σ' ∧ Fr (mF [] [] [(8, [7, 8])] [(11, o0, [14, 16, 17, 18, 19, 29, 30, 32, 34, 35, 38, 39])]) σ σ' ∧ ∀ (Q9 : St → Prop), Q9 σ' → w11_renew_J27 σ o0 x1 x2 Q9) := by
  have fr : Fr (mF [] [] [(8, [7, 8])] [(11, o0, [14, 16, 17, 18, 19, 29, 30, 32, 34, 35, 38, 39])]) σ σ := Fr.rf
  have rb : ∀ (Q9 : St → Prop), w11_renew_J27 σ o0 x1 x2 Q9 → w11_renew_J27 σ o0 x1 x2 Q9 := fun _ z => z
  obtain ⟨σ3, e9⟩ : ∃ s : St, s = up3 σ 11 o0 17 0 := ⟨_, rfl⟩
  have h := h σ3 e9
  have rb := fun Q9 z => rb Q9 (nm_n e9 z)
  have ok : okS σ3 := by rw [e9]; exact (ok_n ok (by decide))
  have fr : Fr (mF [] [] [(8, [7, 8])] [(11, o0, [14, 16, 17, 18, 19, 29, 30, 32, 34, 35, 38, 39])]) σ σ3 := by rw [e9]; exact (Fr.up fr (mF_D (List.mem_of_getElem? (i := 0) rfl) rfl))
  obtain ⟨σ4, e9⟩ : ∃ s : St, s = up3 σ3 11 o0 18 0 := ⟨_, rfl⟩
  have h := h σ4 e9
  have rb := fun Q9 z => rb Q9 (nm_n e9 z)
  have ok : okS σ4 := by rw [e9]; exact (ok_n ok (by decide))
  have fr : Fr (mF [] [] [(8, [7, 8])] [(11, o0, [14, 16, 17, 18, 19, 29, 30, 32, 34, 35, 38, 39])]) σ σ4 := by rw [e9]; exact (Fr.up fr (mF_D (List.mem_of_getElem? (i := 0) rfl) rfl))
  obtain ⟨r5, h, rc⟩ := e8_now ok h
  have rb := fun Q9 z => rb Q9 (rc _ z)
  obtain ⟨σ6, e9⟩ : ∃ s : St, s = up3 σ4 11 o0 32 r5 := ⟨_, rfl⟩
  have h := h σ6 e9
  have rb := fun Q9 z => rb Q9 (nm_n e9 z)
  have ok : okS σ6 := by rw [e9]; exact (ok_n ok (by decide))
  have fr : Fr (mF [] [] [(8, [7, 8])] [(11, o0, [14, 16, 17, 18, 19, 29, 30, 32, 34, 35, 38, 39])]) σ σ6 := by rw [e9]; exact (Fr.up fr (mF_D (List.mem_of_getElem? (i := 0) rfl) rfl))
  obtain ⟨σ7, e9⟩ : ∃ s : St, s = up3 σ6 8 0 7 ((σ6 8 0 7) + 1) := ⟨_, rfl⟩
  have h := h σ7 e9
  have rb := fun Q9 z => rb Q9 (nm_n e9 z)
  have ok : okS σ7 := by rw [e9]; exact (ok_n ok (by decide))
  have fr : Fr (mF [] [] [(8, [7, 8])] [(11, o0, [14, 16, 17, 18, 19, 29, 30, 32, 34, 35, 38, 39])]) σ σ7 := by rw [e9]; exact (Fr.up fr (mF_C (List.mem_of_getElem? (i := 0) rfl) rfl))
  obtain ⟨σ8, e9⟩ : ∃ s : St, s = up3 σ7 8 0 8 ((σ7 8 0 8) + x2) := ⟨_, rfl⟩
  have h := h σ8 e9
  have rb := fun Q9 z => rb Q9 (nm_n e9 z)
  have ok : okS σ8 := by rw [e9]; exact (ok_n ok (by decide))
  have fr : Fr (mF [] [] [(8, [7, 8])] [(11, o0, [14, 16, 17, 18, 19, 29, 30, 32, 34, 35, 38, 39])]) σ σ8 := by rw [e9]; exact (Fr.up fr (mF_C (List.mem_of_getElem? (i := 0) rfl) rfl))
  obtain ⟨σ9, h, ok, fr9, rc⟩ := e11_measure ho0 ok h
  have fr := fr.tr (fr9.sub (mF_sub rfl sub_nil rfl (sud_c (Or.inr ⟨_, List.mem_of_getElem? (i := 0) rfl, rfl⟩) sud_nil)))
  have rb := fun Q9 z => rb Q9 (rc _ z)
  have h := h ((ok 11 o0 19).1 (by decide))
  have rb := fun Q9 z => rb Q9 (im_n z)
  by_cases hc : (σ9 11 o0 19) = 0
  · have h := h.1 hc
    have rb := fun Q9 z => rb Q9 (br_t hc z)
    by_cases hc : (σ9 11 o0 15) ≤ (σ9 11 o0 14)
    · have h := h.1 hc
      have rb := fun Q9 z => rb Q9 (br_t hc z)
      obtain ⟨hc, h⟩ := h
      have rb := fun Q9 z => rb Q9 (And.intro hc z)
      obtain ⟨σ10, h, ok, fr9, rc⟩ := e11_grow ho0 ok h
      have fr := fr.tr (fr9.sub (mF_sub rfl sub_nil rfl (sud_c (Or.inr ⟨_, List.mem_of_getElem? (i := 0) rfl, rfl⟩) sud_nil)))
      have rb := fun Q9 z => rb Q9 (rc _ z)
      obtain ⟨σ9, h, ok, fr9, rc⟩ := e11_renew_J146 ho0 ok h
      exact ⟨σ9, h, ok, fr.tr (fr9.sub (mF_sub rfl sub_nil rfl (sud_c (Or.inr ⟨_, List.mem_of_getElem? (i := 0) rfl, rfl⟩) sud_nil))), fun Q9 hq => rb Q9 (rc Q9 hq)⟩
    have h := h.2 hc
    have rb := fun Q9 z => rb Q9 (br_f hc z)
    obtain ⟨σ13, h, ok, fr9, rc⟩ := e11_grow ho0 ok h
    have fr := fr.tr (fr9.sub (mF_sub rfl sub_nil rfl (sud_c (Or.inr ⟨_, List.mem_of_getElem? (i := 0) rfl, rfl⟩) sud_nil)))
    have rb := fun Q9 z => rb Q9 (rc _ z)
    obtain ⟨σ9, h, ok, fr9, rc⟩ := e11_renew_J146 ho0 ok h
    exact ⟨σ9, h, ok, fr.tr (fr9.sub (mF_sub rfl sub_nil rfl (sud_c (Or.inr ⟨_, List.mem_of_getElem? (i := 0) rfl, rfl⟩) sud_nil))), fun Q9 hq => rb Q9 (rc Q9 hq)⟩
  have h := h.2 hc
  have rb := fun Q9 z => rb Q9 (br_f hc z)
  obtain ⟨σ14, e9⟩ : ∃ s : St, s = up3 σ9 11 o0 19 0 := ⟨_, rfl⟩
  have h := h σ14 e9
  have rb := fun Q9 z => rb Q9 (nm_n e9 z)
  have ok : okS σ14 := by rw [e9]; exact (ok_z ok (by decide) (Or.inl rfl))
  have fr : Fr (mF [] [] [(8, [7, 8])] [(11, o0, [14, 16, 17, 18, 19, 29, 30, 32, 34, 35, 38, 39])]) σ σ14 := by rw [e9]; exact (Fr.up fr (mF_D (List.mem_of_getElem? (i := 0) rfl) rfl))
  obtain ⟨σ15, e9⟩ : ∃ s : St, s = up3 σ14 11 o0 14 (σ14 11 o0 15) := ⟨_, rfl⟩
  have h := h σ15 e9
  have rb := fun Q9 z => rb Q9 (nm_n e9 z)
  have ok : okS σ15 := by rw [e9]; exact (ok_n ok (by decide))
  have fr : Fr (mF [] [] [(8, [7, 8])] [(11, o0, [14, 16, 17, 18, 19, 29, 30, 32, 34, 35, 38, 39])]) σ σ15 := by rw [e9]; exact (Fr.up fr (mF_D (List.mem_of_getElem? (i := 0) rfl) rfl))
  obtain ⟨σ9, h, ok, fr9, rc⟩ := e11_renew_J146 ho0 ok h
  exact ⟨σ9, h, ok, fr.tr (fr9.sub (mF_sub rfl sub_nil rfl (sud_c (Or.inr ⟨_, List.mem_of_getElem? (i := 0) rfl, rfl⟩) sud_nil))), fun Q9 hq => rb Q9 (rc Q9 hq)⟩
set_option maxHeartbeats 4000000 in
theorem e11_renew {σ : St} {o0 : Nat} {x1 : Int32} {x2 : Int32} {Q : St → Prop} (ho0 : o0 < 16) (ok : okS σ) (h : w11_renew σ o0 x1 x2 Q) : (∃ (σ' : St), Q σ' ∧ okS σ' ∧ Fr (mF [] [] [(8, [7, 8])] [(11, o0, [9, 10, 14, 16, 17, 18, 19, 29, 30, 32, 34, 35, 38, 39])]) σ σ' ∧ ∀ (Q9 : St → Prop), Q9 σ' → w11_renew σ o0 x1 x2 Q9) := by
  have fr : Fr (mF [] [] [(8, [7, 8])] [(11, o0, [9, 10, 14, 16, 17, 18, 19, 29, 30, 32, 34, 35, 38, 39])]) σ σ := Fr.rf
  have rb : ∀ (Q9 : St → Prop), w11_renew σ o0 x1 x2 Q9 → w11_renew σ o0 x1 x2 Q9 := fun _ z => z
  obtain ⟨σ1, e9⟩ : ∃ s : St, s = up3 σ 11 o0 9 x1 := ⟨_, rfl⟩
  have h := h σ1 e9
  have rb := fun Q9 z => rb Q9 (nm_n e9 z)
  have ok : okS σ1 := by rw [e9]; exact (ok_n ok (by decide))
  have fr : Fr (mF [] [] [(8, [7, 8])] [(11, o0, [9, 10, 14, 16, 17, 18, 19, 29, 30, 32, 34, 35, 38, 39])]) σ σ1 := by rw [e9]; exact (Fr.up fr (mF_D (List.mem_of_getElem? (i := 0) rfl) rfl))
  obtain ⟨r2, h, rc⟩ := e19_isBefore ok h
  have rb := fun Q9 z => rb Q9 (rc _ z)
  by_cases hc : r2 = 0
  · have h := h.1 hc
    have rb := fun Q9 z => rb Q9 (br_t hc z)
    obtain ⟨σ9, h, ok, fr9, rc⟩ := e11_renew_J27 ho0 ok h
    exact ⟨σ9, h, ok, fr.tr (fr9.sub (mF_sub rfl sub_nil rfl (sud_c (Or.inr ⟨_, List.mem_of_getElem? (i := 0) rfl, rfl⟩) sud_nil))), fun Q9 hq => rb Q9 (rc Q9 hq)⟩
  have h := h.2 hc
  have rb := fun Q9 z => rb Q9 (br_f hc z)
  obtain ⟨σ16, e9⟩ : ∃ s : St, s = up3 σ1 11 o0 10 (σ1 11 o0 9) := ⟨_, rfl⟩
  have h := h σ16 e9
  have rb := fun Q9 z => rb Q9 (nm_n e9 z)
  have ok : okS σ16 := by rw [e9]; exact (ok_n ok (by decide))
  have fr : Fr (mF [] [] [(8, [7, 8])] [(11, o0, [9, 10, 14, 16, 17, 18, 19, 29, 30, 32, 34, 35, 38, 39])]) σ σ16 := by rw [e9]; exact (Fr.up fr (mF_D (List.mem_of_getElem? (i := 0) rfl) rfl))
  obtain ⟨σ9, h, ok, fr9, rc⟩ := e11_renew_J27 ho0 ok h
  exact ⟨σ9, h, ok, fr.tr (fr9.sub (mF_sub rfl sub_nil rfl (sud_c (Or.inr ⟨_, List.mem_of_getElem? (i := 0) rfl, rfl⟩) sud_nil))), fun Q9 hq => rb Q9 (rc Q9 hq)⟩
/-! WebHost$Connection.takeData(LWebHost$Segment;)V -/
set_option maxHeartbeats 4000000 in
theorem e11_takeData_L16 {o0 : Nat} {x2 : Int32} {x3 : Int32} {Q : St → Prop} {K71 : St → Prop} (ho0 : o0 < 16) :
    ∀ (n : Nat) {σ : St} {x4 : Int32} (ok : okS σ), w11_takeData_L16 o0 x2 x3 Q K71 n σ x4 → (∃ (σ' : St), K71 σ' ∧ okS σ' ∧ Fr (mF [] [(42, o0), (43, o0)] [] []) σ σ' ∧ ∀ (Q9 : St → Prop) (K9_71 : St → Prop), K9_71 σ' → w11_takeData_L16 o0 x2 x3 Q9 K9_71 n σ x4) := by
  intro n
  induction n with
  | zero =>
    intro σ x4 ok h
    exact False.elim h
  | succ n ih =>
    intro σ x4 ok h
    have fr : Fr (mF [] [(42, o0), (43, o0)] [] []) σ σ := Fr.rf
    have rb : ∀ (Q9 : St → Prop) (K9_71 : St → Prop), w11_takeData_L16 o0 x2 x3 Q9 K9_71 (n + 1) σ x4 → w11_takeData_L16 o0 x2 x3 Q9 K9_71 (n + 1) σ x4 := fun _ _ z => z
    by_cases hc : (σ 10 0 9) ≤ x4
    · have h := h.1 hc
      have rb := fun Q9 K9_71 z => rb Q9 K9_71 (br_t hc z)
      exact ⟨σ, h, ok, fr, fun Q9 K9_71 hq => rb Q9 K9_71 hq⟩
    have h := h.2 hc
    have rb := fun Q9 K9_71 z => rb Q9 K9_71 (br_f hc z)
    obtain ⟨r2, h, rc⟩ := e11_isIn ho0 ok h
    have rb := fun Q9 K9_71 z => rb Q9 K9_71 (rc _ z)
    by_cases hc : r2 = 0
    · have h := h.1 hc
      have rb := fun Q9 K9_71 z => rb Q9 K9_71 (br_t hc z)
      rcases ih ok h with ⟨σ', h, ok, fr9, rc⟩
      · exact ⟨σ', h, ok, fr.tr fr9, fun Q9 K9_71 hq => rb Q9 K9_71 (rc Q9 K9_71 hq)⟩
    have h := h.2 hc
    have rb := fun Q9 K9_71 z => rb Q9 K9_71 (br_f hc z)
    obtain ⟨hq3, h⟩ := h
    have rb := fun Q9 K9_71 z => rb Q9 K9_71 (And.intro hq3 z)
    obtain ⟨hc, h⟩ := h
    have rb := fun Q9 K9_71 z => rb Q9 K9_71 (And.intro hc z)
    have h := h ((ok ((σ 10 0 7).toNatClampNeg) ((σ 10 0 107).toNatClampNeg) _).2 ((ab_spec (abc_spec hq3).1).2.2.2.2.2.2.2 _))
    have rb := fun Q9 K9_71 z => rb Q9 K9_71 (im_n z)
    obtain ⟨σ4, h, ok, fr9, rc⟩ := e12_put ho0 ok h
    have fr := fr.tr (fr9.sub (mF_sub rfl (sub_c (Or.inr (List.mem_of_getElem? (i := 0) rfl)) (sub_c (Or.inr (List.mem_of_getElem? (i := 1) rfl)) sub_nil)) rfl sud_nil))
    have rb := fun Q9 K9_71 z => rb Q9 K9_71 (rc _ z)
    rcases ih ok h with ⟨σ', h, ok, fr9, rc⟩
    · exact ⟨σ', h, ok, fr.tr fr9, fun Q9 K9_71 hq => rb Q9 K9_71 (rc Q9 K9_71 hq)⟩
set_option maxHeartbeats 4000000 in
theorem e11_takeData_J139 {σ : St} {o0 : Nat} {Q : St → Prop} (ho0 : o0 < 16) (ok : okS σ) (h : w11_takeData_J139 σ o0 Q) : (∃ (σ' : St), Q σ' ∧ okS σ' ∧ Fr (mF [] [] [] [(11, o0, [2, 6, 22, 29, 31, 33]), (12, o0, [2])]) σ σ' ∧ ∀ (Q9 : St → Prop), Q9 σ' → w11_takeData_J139 σ o0 Q9) := by
  have fr : Fr (mF [] [] [] [(11, o0, [2, 6, 22, 29, 31, 33]), (12, o0, [2])]) σ σ := Fr.rf
  have rb : ∀ (Q9 : St → Prop), w11_takeData_J139 σ o0 Q9 → w11_takeData_J139 σ o0 Q9 := fun _ z => z
  obtain ⟨r8, σ8, h, ok, fr9, rc⟩ := e12_advance ho0 ok h
  have fr := fr.tr (fr9.sub (mF_sub rfl sub_nil rfl (sud_c (Or.inr ⟨_, List.mem_of_getElem? (i := 1) rfl, rfl⟩) sud_nil)))
  have rb := fun Q9 z => rb Q9 (rc _ z)
  obtain ⟨σ9, e9⟩ : ∃ s : St, s = up3 σ8 11 o0 6 ((σ 11 o0 6) + r8) := ⟨_, rfl⟩
  have h := h σ9 e9
  have rb := fun Q9 z => rb Q9 (nm_n e9 z)
  have ok : okS σ9 := by rw [e9]; exact (ok_n ok (by decide))
  have fr : Fr (mF [] [] [] [(11, o0, [2, 6, 22, 29, 31, 33]), (12, o0, [2])]) σ σ9 := by rw [e9]; exact (Fr.up fr (mF_D (List.mem_of_getElem? (i := 0) rfl) rfl))
  have h := h ((ok 11 o0 23).1 (by decide))
  have rb := fun Q9 z => rb Q9 (im_n z)
  by_cases hc : (σ9 11 o0 23) = 0
  · have h := h.1 hc
    have rb := fun Q9 z => rb Q9 (br_t hc z)
    exact ⟨σ9, h, ok, fr, fun Q9 hq => rb Q9 hq⟩
  have h := h.2 hc
  have rb := fun Q9 z => rb Q9 (br_f hc z)
  by_cases hc : (σ9 11 o0 24) = (σ9 11 o0 6)
  · have h := h.1 hc
    have rb := fun Q9 z => rb Q9 (br_t hc z)
    obtain ⟨σ10, e9⟩ : ∃ s : St, s = up3 σ9 11 o0 6 ((σ9 11 o0 6) + 1) := ⟨_, rfl⟩
    have h := h σ10 e9
    have rb := fun Q9 z => rb Q9 (nm_n e9 z)
    have ok : okS σ10 := by rw [e9]; exact (ok_n ok (by decide))
    have fr : Fr (mF [] [] [] [(11, o0, [2, 6, 22, 29, 31, 33]), (12, o0, [2])]) σ σ10 := by rw [e9]; exact (Fr.up fr (mF_D (List.mem_of_getElem? (i := 0) rfl) rfl))
    obtain ⟨σ11, e9⟩ : ∃ s : St, s = up3 σ10 11 o0 22 1 := ⟨_, rfl⟩
    have h := h σ11 e9
    have rb := fun Q9 z => rb Q9 (nm_n e9 z)
    have ok : okS σ11 := by rw [e9]; exact (ok_z ok (by decide) (Or.inr rfl))
    have fr : Fr (mF [] [] [] [(11, o0, [2, 6, 22, 29, 31, 33]), (12, o0, [2])]) σ σ11 := by rw [e9]; exact (Fr.up fr (mF_D (List.mem_of_getElem? (i := 0) rfl) rfl))
    by_cases hc : (σ11 11 o0 2) = 2
    · have h := h.2 hc
      have rb := fun Q9 z => rb Q9 (br_u hc z)
      obtain ⟨σ14, e9⟩ : ∃ s : St, s = up3 σ11 11 o0 2 7 := ⟨_, rfl⟩
      have h := h σ14 e9
      have rb := fun Q9 z => rb Q9 (nm_n e9 z)
      have ok : okS σ14 := by rw [e9]; exact (ok_n ok (by decide))
      have fr : Fr (mF [] [] [] [(11, o0, [2, 6, 22, 29, 31, 33]), (12, o0, [2])]) σ σ14 := by rw [e9]; exact (Fr.up fr (mF_D (List.mem_of_getElem? (i := 0) rfl) rfl))
      obtain ⟨σ15, e9⟩ : ∃ s : St, s = up3 σ14 11 o0 33 0 := ⟨_, rfl⟩
      have h := h σ15 e9
      have rb := fun Q9 z => rb Q9 (nm_n e9 z)
      have ok : okS σ15 := by rw [e9]; exact (ok_z ok (by decide) (Or.inl rfl))
      have fr : Fr (mF [] [] [] [(11, o0, [2, 6, 22, 29, 31, 33]), (12, o0, [2])]) σ σ15 := by rw [e9]; exact (Fr.up fr (mF_D (List.mem_of_getElem? (i := 0) rfl) rfl))
      exact ⟨σ15, h, ok, fr, fun Q9 hq => rb Q9 hq⟩
    have h := h.1 hc
    have rb := fun Q9 z => rb Q9 (br_v hc z)
    by_cases hc : (σ11 11 o0 2) = 3
    · have h := h.2 hc
      have rb := fun Q9 z => rb Q9 (br_u hc z)
      obtain ⟨σ13, e9⟩ : ∃ s : St, s = up3 σ11 11 o0 2 5 := ⟨_, rfl⟩
      have h := h σ13 e9
      have rb := fun Q9 z => rb Q9 (nm_n e9 z)
      have ok : okS σ13 := by rw [e9]; exact (ok_n ok (by decide))
      have fr : Fr (mF [] [] [] [(11, o0, [2, 6, 22, 29, 31, 33]), (12, o0, [2])]) σ σ13 := by rw [e9]; exact (Fr.up fr (mF_D (List.mem_of_getElem? (i := 0) rfl) rfl))
      exact ⟨σ13, h, ok, fr, fun Q9 hq => rb Q9 hq⟩
    have h := h.1 hc
    have rb := fun Q9 z => rb Q9 (br_v hc z)
    obtain ⟨σ12, h, ok, fr9, rc⟩ := e11_wait2 ho0 ok h
    have fr := fr.tr (fr9.sub (mF_sub rfl sub_nil rfl (sud_c (Or.inr ⟨_, List.mem_of_getElem? (i := 0) rfl, rfl⟩) sud_nil)))
    have rb := fun Q9 z => rb Q9 (rc _ z)
    exact ⟨σ12, h, ok, fr, fun Q9 hq => rb Q9 hq⟩
  have h := h.2 hc
  have rb := fun Q9 z => rb Q9 (br_f hc z)
  exact ⟨σ9, h, ok, fr, fun Q9 hq => rb Q9 hq⟩
set_option maxHeartbeats 4000000 in
theorem e11_takeData_J94 {σ : St} {o0 : Nat} {x2 : Int32} {Q : St → Prop} (ho0 : o0 < 16) (ok : okS σ) (h : w11_takeData_J94 σ o0 x2 Q) : (∃ (σ' : St), Q σ' ∧ okS σ' ∧ Fr (mF [] [] [] [(11, o0, [2, 6, 22, 23, 24, 29, 31, 33]), (12, o0, [2])]) σ σ' ∧ ∀ (Q9 : St → Prop), Q9 σ' → w11_takeData_J94 σ o0 x2 Q9) := by
  have fr : Fr (mF [] [] [] [(11, o0, [2, 6, 22, 23, 24, 29, 31, 33]), (12, o0, [2])]) σ σ := Fr.rf
  have rb : ∀ (Q9 : St → Prop), w11_takeData_J94 σ o0 x2 Q9 → w11_takeData_J94 σ o0 x2 Q9 := fun _ z => z
  obtain ⟨r7, h, rc⟩ := e10_has ok h
  have rb := fun Q9 z => rb Q9 (rc _ z)
  by_cases hc : r7 = 0
  · have h := h.1 hc
    have rb := fun Q9 z => rb Q9 (br_t hc z)
    obtain ⟨σ9, h, ok, fr9, rc⟩ := e11_takeData_J139 ho0 ok h
    exact ⟨σ9, h, ok, fr.tr (fr9.sub (mF_sub rfl sub_nil rfl (sud_c (Or.inr ⟨_, List.mem_of_getElem? (i := 0) rfl, rfl⟩) (sud_c (Or.inr ⟨_, List.mem_of_getElem? (i := 1) rfl, rfl⟩) sud_nil)))), fun Q9 hq => rb Q9 (rc Q9 hq)⟩
  have h := h.2 hc
  have rb := fun Q9 z => rb Q9 (br_f hc z)
  obtain ⟨σ16, e9⟩ : ∃ s : St, s = up3 σ 11 o0 22 1 := ⟨_, rfl⟩
  have h := h σ16 e9
  have rb := fun Q9 z => rb Q9 (nm_n e9 z)
  have ok : okS σ16 := by rw [e9]; exact (ok_z ok (by decide) (Or.inr rfl))
  have fr : Fr (mF [] [] [] [(11, o0, [2, 6, 22, 23, 24, 29, 31, 33]), (12, o0, [2])]) σ σ16 := by rw [e9]; exact (Fr.up fr (mF_D (List.mem_of_getElem? (i := 0) rfl) rfl))
  obtain ⟨r17, h, rc⟩ := e10_end ok h
  have rb := fun Q9 z => rb Q9 (rc _ z)
  obtain ⟨r18, h, rc⟩ := e11_isIn ho0 ok h
  have rb := fun Q9 z => rb Q9 (rc _ z)
  by_cases hc : r18 = 0
  · have h := h.1 hc
    have rb := fun Q9 z => rb Q9 (br_t hc z)
    obtain ⟨σ9, h, ok, fr9, rc⟩ := e11_takeData_J139 ho0 ok h
    exact ⟨σ9, h, ok, fr.tr (fr9.sub (mF_sub rfl sub_nil rfl (sud_c (Or.inr ⟨_, List.mem_of_getElem? (i := 0) rfl, rfl⟩) (sud_c (Or.inr ⟨_, List.mem_of_getElem? (i := 1) rfl, rfl⟩) sud_nil)))), fun Q9 hq => rb Q9 (rc Q9 hq)⟩
  have h := h.2 hc
  have rb := fun Q9 z => rb Q9 (br_f hc z)
  have h := h ((ok 11 o0 23).1 (by decide))
  have rb := fun Q9 z => rb Q9 (im_n z)
  by_cases hc : (σ16 11 o0 23) = 0
  · have h := h.2 hc
    have rb := fun Q9 z => rb Q9 (br_u hc z)
    obtain ⟨σ19, e9⟩ : ∃ s : St, s = up3 σ16 11 o0 23 1 := ⟨_, rfl⟩
    have h := h σ19 e9
    have rb := fun Q9 z => rb Q9 (nm_n e9 z)
    have ok : okS σ19 := by rw [e9]; exact (ok_z ok (by decide) (Or.inr rfl))
    have fr : Fr (mF [] [] [] [(11, o0, [2, 6, 22, 23, 24, 29, 31, 33]), (12, o0, [2])]) σ σ19 := by rw [e9]; exact (Fr.up fr (mF_D (List.mem_of_getElem? (i := 0) rfl) rfl))
    obtain ⟨r20, h, rc⟩ := e10_end ok h
    have rb := fun Q9 z => rb Q9 (rc _ z)
    obtain ⟨σ21, e9⟩ : ∃ s : St, s = up3 σ19 11 o0 24 r20 := ⟨_, rfl⟩
    have h := h σ21 e9
    have rb := fun Q9 z => rb Q9 (nm_n e9 z)
    have ok : okS σ21 := by rw [e9]; exact (ok_n ok (by decide))
    have fr : Fr (mF [] [] [] [(11, o0, [2, 6, 22, 23, 24, 29, 31, 33]), (12, o0, [2])]) σ σ21 := by rw [e9]; exact (Fr.up fr (mF_D (List.mem_of_getElem? (i := 0) rfl) rfl))
    obtain ⟨σ9, h, ok, fr9, rc⟩ := e11_takeData_J139 ho0 ok h
    exact ⟨σ9, h, ok, fr.tr (fr9.sub (mF_sub rfl sub_nil rfl (sud_c (Or.inr ⟨_, List.mem_of_getElem? (i := 0) rfl, rfl⟩) (sud_c (Or.inr ⟨_, List.mem_of_getElem? (i := 1) rfl, rfl⟩) sud_nil)))), fun Q9 hq => rb Q9 (rc Q9 hq)⟩
  have h := h.1 hc
  have rb := fun Q9 z => rb Q9 (br_v hc z)
  obtain ⟨σ9, h, ok, fr9, rc⟩ := e11_takeData_J139 ho0 ok h
  exact ⟨σ9, h, ok, fr.tr (fr9.sub (mF_sub rfl sub_nil rfl (sud_c (Or.inr ⟨_, List.mem_of_getElem? (i := 0) rfl, rfl⟩) (sud_c (Or.inr ⟨_, List.mem_of_getElem? (i := 1) rfl, rfl⟩) sud_nil)))), fun Q9 hq => rb Q9 (rc Q9 hq)⟩
set_option maxHeartbeats 4000000 in
theorem e11_takeData {σ : St} {o0 : Nat} {Q : St → Prop} (ho0 : o0 < 16) (ok : okS σ) (h : w11_takeData σ o0 Q) : (∃ (σ' : St), Q σ' ∧ okS σ' ∧ Fr (mF [] [(42, o0), (43, o0)] [] [(11, o0, [2, 6, 22, 23, 24, 29, 31, 32, 33]), (12, o0, [2])]) σ σ' ∧ ∀ (Q9 : St → Prop), Q9 σ' → w11_takeData σ o0 Q9) := by
  have fr : Fr (mF [] [(42, o0), (43, o0)] [] [(11, o0, [2, 6, 22, 23, 24, 29, 31, 32, 33]), (12, o0, [2])]) σ σ := Fr.rf
  have rb : ∀ (Q9 : St → Prop), w11_takeData σ o0 Q9 → w11_takeData σ o0 Q9 := fun _ z => z
  obtain ⟨r1, h, rc⟩ := e12_window ho0 ok h
  have rb := fun Q9 z => rb Q9 (rc _ z)
  obtain ⟨n9, h⟩ := h
  rcases e11_takeData_L16 ho0 n9 ok h with ⟨σ6, h, ok, fr9, rc⟩
  · have rb := fun Q9 z => rb Q9 (Exists.intro n9 (rc _ _ z))
    have fr := fr.tr (fr9.sub (mF_sub rfl (sub_c (Or.inr (List.mem_of_getElem? (i := 0) rfl)) (sub_c (Or.inr (List.mem_of_getElem? (i := 1) rfl)) sub_nil)) rfl sud_nil))
    by_cases hc : (σ6 10 0 9) ≤ 0
    · have h := h.1 hc
      have rb := fun Q9 z => rb Q9 (br_t hc z)
      obtain ⟨σ9, h, ok, fr9, rc⟩ := e11_takeData_J94 ho0 ok h
      exact ⟨σ9, h, ok, fr.tr (fr9.sub (mF_sub rfl sub_nil rfl (sud_c (Or.inr ⟨_, List.mem_of_getElem? (i := 0) rfl, rfl⟩) (sud_c (Or.inr ⟨_, List.mem_of_getElem? (i := 1) rfl, rfl⟩) sud_nil)))), fun Q9 hq => rb Q9 (rc Q9 hq)⟩
    have h := h.2 hc
    have rb := fun Q9 z => rb Q9 (br_f hc z)
    obtain ⟨σ22, e9⟩ : ∃ s : St, s = up3 σ6 11 o0 22 1 := ⟨_, rfl⟩
    have h := h σ22 e9
    have rb := fun Q9 z => rb Q9 (nm_n e9 z)
    have ok : okS σ22 := by rw [e9]; exact (ok_z ok (by decide) (Or.inr rfl))
    have fr : Fr (mF [] [(42, o0), (43, o0)] [] [(11, o0, [2, 6, 22, 23, 24, 29, 31, 32, 33]), (12, o0, [2])]) σ σ22 := by rw [e9]; exact (Fr.up fr (mF_D (List.mem_of_getElem? (i := 0) rfl) rfl))
    obtain ⟨r23, h, rc⟩ := e8_now ok h
    have rb := fun Q9 z => rb Q9 (rc _ z)
    obtain ⟨σ24, e9⟩ : ∃ s : St, s = up3 σ22 11 o0 32 r23 := ⟨_, rfl⟩
    have h := h σ24 e9
    have rb := fun Q9 z => rb Q9 (nm_n e9 z)
    have ok : okS σ24 := by rw [e9]; exact (ok_n ok (by decide))
    have fr : Fr (mF [] [(42, o0), (43, o0)] [] [(11, o0, [2, 6, 22, 23, 24, 29, 31, 32, 33]), (12, o0, [2])]) σ σ24 := by rw [e9]; exact (Fr.up fr (mF_D (List.mem_of_getElem? (i := 0) rfl) rfl))
    obtain ⟨σ9, h, ok, fr9, rc⟩ := e11_takeData_J94 ho0 ok h
    exact ⟨σ9, h, ok, fr.tr (fr9.sub (mF_sub rfl sub_nil rfl (sud_c (Or.inr ⟨_, List.mem_of_getElem? (i := 0) rfl, rfl⟩) (sud_c (Or.inr ⟨_, List.mem_of_getElem? (i := 1) rfl, rfl⟩) sud_nil)))), fun Q9 hq => rb Q9 (rc Q9 hq)⟩
/-! java/lang/String.charAt(I)C -/
set_option maxHeartbeats 4000000 in
theorem eJ1_charAt {t0 : Nat} {x1 : Int32} {Q : Int32 → Prop} (ht0 : t0 < nS) (h : wJ1_charAt t0 x1 Q) : (∃ r : Int32, Q r ∧ ∀ (Q9 : Int32 → Prop), Q9 r → wJ1_charAt t0 x1 Q9) := by
  have rb : ∀ (Q9 : Int32 → Prop), wJ1_charAt t0 x1 Q9 → wJ1_charAt t0 x1 Q9 := fun _ z => z
  obtain ⟨r1, h, rc⟩ := eJ1_isLatin1 ht0 h
  have rb := fun Q9 z => rb Q9 (rc _ z)
  by_cases hc : r1 = 0
  · have h := h.1 hc
    have rb := fun Q9 z => rb Q9 (br_t hc z)
    exact h.elim
  have h := h.2 hc
  have rb := fun Q9 z => rb Q9 (br_f hc z)
  obtain ⟨r2, h, rc⟩ := eJ2_charAt ht0 h
  have rb := fun Q9 z => rb Q9 (rc _ z)
  obtain ⟨hc, h⟩ := h
  have rb := fun Q9 z => rb Q9 (And.intro hc z)
  exact ⟨r2, h, fun Q9 hq => rb Q9 hq⟩
/-! java/lang/String.indexOf(I)I -/
set_option maxHeartbeats 4000000 in
theorem eJ1_indexOf {t0 : Nat} {x1 : Int32} {Q : Int32 → Prop} (ht0 : t0 < nS) (h : wJ1_indexOf t0 x1 Q) : (∃ r : Int32, Q r ∧ ∀ (Q9 : Int32 → Prop), Q9 r → wJ1_indexOf t0 x1 Q9) := by
  have rb : ∀ (Q9 : Int32 → Prop), wJ1_indexOf t0 x1 Q9 → wJ1_indexOf t0 x1 Q9 := fun _ z => z
  obtain ⟨r1, h, rc⟩ := eJ1_indexOf_2 ht0 h
  have rb := fun Q9 z => rb Q9 (rc _ z)
  exact ⟨r1, h, fun Q9 hq => rb Q9 hq⟩
/-! WebHostModel.arp()V -/
set_option maxHeartbeats 4000000 in
theorem e14_arp_J116 {σ : St} {x1 : Int32} {x2 : Int32} {x3 : Int32} {x4 : Int32} {x5 : Int32} {Q : St → Prop} (ok : okS σ) (h : w14_arp_J116 σ x1 x2 x3 x4 x5 Q) : (∃ (σ' : St), Q σ' ∧ okS σ' ∧ Fr (mF [57, 58, 59, 60] [] [(14, [18, 23])] []) σ σ' ∧ ∀ (Q9 : St → Prop), Q9 σ' → w14_arp_J116 σ x1 x2 x3 x4 x5 Q9) := by
  have fr : Fr (mF [57, 58, 59, 60] [] [(14, [18, 23])] []) σ σ := Fr.rf
  have rb : ∀ (Q9 : St → Prop), w14_arp_J116 σ x1 x2 x3 x4 x5 Q9 → w14_arp_J116 σ x1 x2 x3 x4 x5 Q9 := fun _ z => z
  by_cases hc : x1 = 1
  · have h := h.2 hc
    have rb := fun Q9 z => rb Q9 (br_u hc z)
    by_cases hc : x5 = (σ 14 0 5)
    · have h := h.2 hc
      have rb := fun Q9 z => rb Q9 (br_u hc z)
      obtain ⟨σ10, h, ok, fr9, rc⟩ := e14_arpFrame ok h
      have fr := fr.tr (fr9.sub (mF_sub rfl sub_nil rfl sud_nil))
      have rb := fun Q9 z => rb Q9 (rc _ z)
      exact ⟨σ10, h, ok, fr, fun Q9 hq => rb Q9 hq⟩
    have h := h.1 hc
    have rb := fun Q9 z => rb Q9 (br_v hc z)
    exact ⟨σ, h, ok, fr, fun Q9 hq => rb Q9 hq⟩
  have h := h.1 hc
  have rb := fun Q9 z => rb Q9 (br_v hc z)
  exact ⟨σ, h, ok, fr, fun Q9 hq => rb Q9 hq⟩
set_option maxHeartbeats 4000000 in
theorem e14_arp_J51 {σ : St} {x1 : Int32} {Q : St → Prop} (ok : okS σ) (h : w14_arp_J51 σ x1 Q) : (∃ (σ' : St), Q σ' ∧ okS σ' ∧ Fr (mF [57, 58, 59, 60] [] [(14, [18, 23]), (16, [0, 1, 2, 3, 4]), (17, [0])] []) σ σ' ∧ ∀ (Q9 : St → Prop), Q9 σ' → w14_arp_J51 σ x1 Q9) := by
  have fr : Fr (mF [57, 58, 59, 60] [] [(14, [18, 23]), (16, [0, 1, 2, 3, 4]), (17, [0])] []) σ σ := Fr.rf
  have rb : ∀ (Q9 : St → Prop), w14_arp_J51 σ x1 Q9 → w14_arp_J51 σ x1 Q9 := fun _ z => z
  obtain ⟨r4, h, rc⟩ := e14_trayHalf ok h
  have rb := fun Q9 z => rb Q9 (rc _ z)
  obtain ⟨r5, h, rc⟩ := e14_trayWord ok h
  have rb := fun Q9 z => rb Q9 (rc _ z)
  obtain ⟨r6, h, rc⟩ := e14_trayWord ok h
  have rb := fun Q9 z => rb Q9 (rc _ z)
  obtain ⟨r7, h, rc⟩ := e14_trayWord ok h
  have rb := fun Q9 z => rb Q9 (rc _ z)
  obtain ⟨p8, h, rc⟩ := e14_entry ok h
  have rb := fun Q9 z => rb Q9 (rc _ z)
  rcases opt_or p8 with hp | ⟨i9, hp⟩
  · have h := h.1 hp
    have rb := fun Q9 z => rb Q9 (po_n hp z)
    by_cases hc : r7 = (σ 14 0 5)
    · have h := h.2 hc
      have rb := fun Q9 z => rb Q9 (br_u hc z)
      by_cases hc : r6 = (σ 14 0 5)
      · have h := h.1 hc
        have rb := fun Q9 z => rb Q9 (br_t hc z)
        obtain ⟨σ9, h, ok, fr9, rc⟩ := e14_arp_J116 ok h
        exact ⟨σ9, h, ok, fr.tr (fr9.sub (mF_sub rfl sub_nil rfl sud_nil)), fun Q9 hq => rb Q9 (rc Q9 hq)⟩
      have h := h.2 hc
      have rb := fun Q9 z => rb Q9 (br_f hc z)
      obtain ⟨σ11, h, ok, fr9, rc⟩ := e14_remember ok h
      have fr := fr.tr (fr9.sub (mF_sub rfl sub_nil rfl sud_nil))
      have rb := fun Q9 z => rb Q9 (rc _ z)
      obtain ⟨σ9, h, ok, fr9, rc⟩ := e14_arp_J116 ok h
      exact ⟨σ9, h, ok, fr.tr (fr9.sub (mF_sub rfl sub_nil rfl sud_nil)), fun Q9 hq => rb Q9 (rc Q9 hq)⟩
    have h := h.1 hc
    have rb := fun Q9 z => rb Q9 (br_v hc z)
    obtain ⟨σ9, h, ok, fr9, rc⟩ := e14_arp_J116 ok h
    exact ⟨σ9, h, ok, fr.tr (fr9.sub (mF_sub rfl sub_nil rfl sud_nil)), fun Q9 hq => rb Q9 (rc Q9 hq)⟩
  obtain ⟨hq9, h⟩ := h.2 i9 hp
  have rb := fun Q9 z => rb Q9 (po_s hp (And.intro hq9 z))
  obtain ⟨σ12, h, ok, fr9, rc⟩ := e14_remember ok h
  have fr := fr.tr (fr9.sub (mF_sub rfl sub_nil rfl sud_nil))
  have rb := fun Q9 z => rb Q9 (rc _ z)
  obtain ⟨σ9, h, ok, fr9, rc⟩ := e14_arp_J116 ok h
  exact ⟨σ9, h, ok, fr.tr (fr9.sub (mF_sub rfl sub_nil rfl sud_nil)), fun Q9 hq => rb Q9 (rc Q9 hq)⟩
set_option maxHeartbeats 4000000 in
theorem e14_arp {σ : St} {Q : St → Prop} (ok : okS σ) (h : w14_arp σ Q) : (∃ (σ' : St), Q σ' ∧ okS σ' ∧ Fr (mF [57, 58, 59, 60] [] [(14, [18, 23]), (16, [0, 1, 2, 3, 4]), (17, [0])] []) σ σ' ∧ ∀ (Q9 : St → Prop), Q9 σ' → w14_arp σ Q9) := by
  have fr : Fr (mF [57, 58, 59, 60] [] [(14, [18, 23]), (16, [0, 1, 2, 3, 4]), (17, [0])] []) σ σ := Fr.rf
  have rb : ∀ (Q9 : St → Prop), w14_arp σ Q9 → w14_arp σ Q9 := fun _ z => z
  by_cases hc : (σ 14 0 1) < 42
  · have h := h.1 hc
    have rb := fun Q9 z => rb Q9 (br_t hc z)
    exact ⟨σ, h, ok, fr, fun Q9 hq => rb Q9 hq⟩
  have h := h.2 hc
  have rb := fun Q9 z => rb Q9 (br_f hc z)
  obtain ⟨r1, h, rc⟩ := e14_trayWord ok h
  have rb := fun Q9 z => rb Q9 (rc _ z)
  by_cases hc : r1 = 67584
  · have h := h.2 hc
    have rb := fun Q9 z => rb Q9 (br_u hc z)
    obtain ⟨r2, h, rc⟩ := e14_trayHalf ok h
    have rb := fun Q9 z => rb Q9 (rc _ z)
    by_cases hc : r2 = 1540
    · have h := h.1 hc
      have rb := fun Q9 z => rb Q9 (br_t hc z)
      obtain ⟨r3, h, rc⟩ := e14_trayHalf ok h
      have rb := fun Q9 z => rb Q9 (rc _ z)
      by_cases hc : r3 = 1
      · have h := h.1 hc
        have rb := fun Q9 z => rb Q9 (br_t hc z)
        obtain ⟨σ9, h, ok, fr9, rc⟩ := e14_arp_J51 ok h
        exact ⟨σ9, h, ok, fr.tr (fr9.sub (mF_sub rfl sub_nil rfl sud_nil)), fun Q9 hq => rb Q9 (rc Q9 hq)⟩
      have h := h.2 hc
      have rb := fun Q9 z => rb Q9 (br_f hc z)
      by_cases hc : r3 = 2
      · have h := h.1 hc
        have rb := fun Q9 z => rb Q9 (br_t hc z)
        obtain ⟨σ9, h, ok, fr9, rc⟩ := e14_arp_J51 ok h
        exact ⟨σ9, h, ok, fr.tr (fr9.sub (mF_sub rfl sub_nil rfl sud_nil)), fun Q9 hq => rb Q9 (rc Q9 hq)⟩
      have h := h.2 hc
      have rb := fun Q9 z => rb Q9 (br_f hc z)
      exact ⟨σ, h, ok, fr, fun Q9 hq => rb Q9 hq⟩
    have h := h.2 hc
    have rb := fun Q9 z => rb Q9 (br_f hc z)
    exact ⟨σ, h, ok, fr, fun Q9 hq => rb Q9 hq⟩
  have h := h.1 hc
  have rb := fun Q9 z => rb Q9 (br_v hc z)
  exact ⟨σ, h, ok, fr, fun Q9 hq => rb Q9 hq⟩
/-! WebHostModel.ask(I)V -/
set_option maxHeartbeats 4000000 in
theorem e14_ask {σ : St} {x1 : Int32} {Q : St → Prop} (ok : okS σ) (h : w14_ask σ x1 Q) : (∃ (σ' : St), Q σ' ∧ okS σ' ∧ Fr (mF [57, 58, 59, 60] [] [(14, [18, 23])] []) σ σ' ∧ ∀ (Q9 : St → Prop), Q9 σ' → w14_ask σ x1 Q9) := by
  have fr : Fr (mF [57, 58, 59, 60] [] [(14, [18, 23])] []) σ σ := Fr.rf
  have rb : ∀ (Q9 : St → Prop), w14_ask σ x1 Q9 → w14_ask σ x1 Q9 := fun _ z => z
  obtain ⟨σ1, h, ok, fr9, rc⟩ := e14_arpFrame ok h
  have fr := fr.tr (fr9.sub (mF_sub rfl sub_nil rfl sud_nil))
  have rb := fun Q9 z => rb Q9 (rc _ z)
  exact ⟨σ1, h, ok, fr, fun Q9 hq => rb Q9 hq⟩
/-! WebHostModel.life(LWebHostModel$Connection;)J -/
set_option maxHeartbeats 4000000 in
theorem e14_life {σ : St} {o0 : Nat} {Q : Int64 → Prop} (ho0 : o0 < 16) (ok : okS σ) (h : w14_life σ o0 Q) : (∃ r : Int64, Q r ∧ ∀ (Q9 : Int64 → Prop), Q9 r → w14_life σ o0 Q9) := by
  have rb : ∀ (Q9 : Int64 → Prop), w14_life σ o0 Q9 → w14_life σ o0 Q9 := fun _ z => z
  by_cases hc : (σ 15 o0 0) = 6
  · have h := h.1 hc
    have rb := fun Q9 z => rb Q9 (br_t hc z)
    exact ⟨(((σ 15 o0 45).toInt64) + 60000), h, fun Q9 hq => rb Q9 hq⟩
  have h := h.2 hc
  have rb := fun Q9 z => rb Q9 (br_f hc z)
  by_cases hc : (σ 15 o0 0) = 4
  · have h := h.2 hc
    have rb := fun Q9 z => rb Q9 (br_u hc z)
    exact ⟨(((σ 15 o0 45).toInt64) + 60000), h, fun Q9 hq => rb Q9 hq⟩
  have h := h.1 hc
  have rb := fun Q9 z => rb Q9 (br_v hc z)
  obtain ⟨r1, h, rc⟩ := e14_isIdle ho0 ok h
  have rb := fun Q9 z => rb Q9 (rc _ z)
  by_cases hc : r1 = 0
  · have h := h.1 hc
    have rb := fun Q9 z => rb Q9 (br_t hc z)
    exact ⟨9223372036854775807, h, fun Q9 hq => rb Q9 hq⟩
  have h := h.2 hc
  have rb := fun Q9 z => rb Q9 (br_f hc z)
  exact ⟨(((σ 15 o0 44).toInt64) + 30000), h, fun Q9 hq => rb Q9 hq⟩
/-! WebHost$Store.endsWith(ILjava/lang/String;)Z -/
set_option maxHeartbeats 4000000 in
theorem e1_endsWith_L19 {σ : St} {x1 : Int32} {t2 : Nat} {x3 : Int32} {Q : Int32 → Prop} {K56 : Prop} {K64 : Prop} (ht2 : t2 < nS) (ok : okS σ) :
    ∀ (n : Nat) {x4 : Int32}, w1_endsWith_L19 σ x1 t2 x3 Q K56 K64 n x4 → (K56 ∧ ∀ (Q9 : Int32 → Prop) (K9_56 : Prop) (K9_64 : Prop), K9_56 → w1_endsWith_L19 σ x1 t2 x3 Q9 K9_56 K9_64 n x4) ∨ (K64 ∧ ∀ (Q9 : Int32 → Prop) (K9_56 : Prop) (K9_64 : Prop), K9_64 → w1_endsWith_L19 σ x1 t2 x3 Q9 K9_56 K9_64 n x4) := by
  intro n
  induction n with
  | zero =>
    intro x4 h
    exact False.elim h
  | succ n ih =>
    intro x4 h
    have rb : ∀ (Q9 : Int32 → Prop) (K9_56 : Prop) (K9_64 : Prop), w1_endsWith_L19 σ x1 t2 x3 Q9 K9_56 K9_64 (n + 1) x4 → w1_endsWith_L19 σ x1 t2 x3 Q9 K9_56 K9_64 (n + 1) x4 := fun _ _ _ z => z
    obtain ⟨r3, h, rc⟩ := eJ1_length ht2 h
    have rb := fun Q9 K9_56 K9_64 z => rb Q9 K9_56 K9_64 (rc _ z)
    by_cases hc : r3 ≤ x4
    · have h := h.1 hc
      have rb := fun Q9 K9_56 K9_64 z => rb Q9 K9_56 K9_64 (br_t hc z)
      exact (Or.inr ⟨h, fun Q9 K9_56 K9_64 hq => rb Q9 K9_56 K9_64 hq⟩)
    have h := h.2 hc
    have rb := fun Q9 K9_56 K9_64 z => rb Q9 K9_56 K9_64 (br_f hc z)
    obtain ⟨r4, h, rc⟩ := e1_entry ok h
    have rb := fun Q9 K9_56 K9_64 z => rb Q9 K9_56 K9_64 (rc _ z)
    obtain ⟨r5, h, rc⟩ := eJ1_length ht2 h
    have rb := fun Q9 K9_56 K9_64 z => rb Q9 K9_56 K9_64 (rc _ z)
    obtain ⟨r6, h, rc⟩ := e1_look ok h
    have rb := fun Q9 K9_56 K9_64 z => rb Q9 K9_56 K9_64 (rc _ z)
    obtain ⟨r7, h, rc⟩ := eJ1_charAt ht2 h
    have rb := fun Q9 K9_56 K9_64 z => rb Q9 K9_56 K9_64 (rc _ z)
    by_cases hc : r6 = r7
    · have h := h.1 hc
      have rb := fun Q9 K9_56 K9_64 z => rb Q9 K9_56 K9_64 (br_t hc z)
      rcases ih h with ⟨h, rc⟩ | ⟨h, rc⟩
      · exact (Or.inl ⟨h, fun Q9 K9_56 K9_64 hq => rb Q9 K9_56 K9_64 (rc Q9 K9_56 K9_64 hq)⟩)
      · exact (Or.inr ⟨h, fun Q9 K9_56 K9_64 hq => rb Q9 K9_56 K9_64 (rc Q9 K9_56 K9_64 hq)⟩)
    have h := h.2 hc
    have rb := fun Q9 K9_56 K9_64 z => rb Q9 K9_56 K9_64 (br_f hc z)
    exact (Or.inl ⟨h, fun Q9 K9_56 K9_64 hq => rb Q9 K9_56 K9_64 hq⟩)
set_option maxHeartbeats 4000000 in
theorem e1_endsWith {σ : St} {x1 : Int32} {t2 : Nat} {Q : Int32 → Prop} (ht2 : t2 < nS) (ok : okS σ) (h : w1_endsWith σ x1 t2 Q) : (∃ r : Int32, Q r ∧ ∀ (Q9 : Int32 → Prop), Q9 r → w1_endsWith σ x1 t2 Q9) := by
  have rb : ∀ (Q9 : Int32 → Prop), w1_endsWith σ x1 t2 Q9 → w1_endsWith σ x1 t2 Q9 := fun _ z => z
  obtain ⟨r1, h, rc⟩ := e1_nameLength ok h
  have rb := fun Q9 z => rb Q9 (rc _ z)
  obtain ⟨r2, h, rc⟩ := eJ1_length ht2 h
  have rb := fun Q9 z => rb Q9 (rc _ z)
  by_cases hc : r2 ≤ r1
  · have h := h.1 hc
    have rb := fun Q9 z => rb Q9 (br_t hc z)
    obtain ⟨n9, h⟩ := h
    rcases e1_endsWith_L19 ht2 ok n9 h with ⟨h, rc⟩ | ⟨h, rc⟩
    · have rb := fun Q9 z => rb Q9 (Exists.intro n9 (rc _ _ _ z))
      exact ⟨0, h, fun Q9 hq => rb Q9 hq⟩
    · have rb := fun Q9 z => rb Q9 (Exists.intro n9 (rc _ _ _ z))
      exact ⟨1, h, fun Q9 hq => rb Q9 hq⟩
  have h := h.2 hc
  have rb := fun Q9 z => rb Q9 (br_f hc z)
  exact ⟨0, h, fun Q9 hq => rb Q9 hq⟩
/-! WebHost$Store.open()I -/
set_option maxHeartbeats 4000000 in
theorem e1_open_L105 {σ : St} {x1 : Int32} {x2 : Int32} {Q : Int32 → St → Prop} {K128 : Int32 → Prop} (ok : okS σ) :
    ∀ (n : Nat) {x3 : Int32} {x4 : Int32}, w1_open_L105 σ x1 x2 Q K128 n x3 x4 → (∃ (x3' : Int32), K128 x3' ∧ ∀ (Q9 : Int32 → St → Prop) (K9_128 : Int32 → Prop), K9_128 x3' → w1_open_L105 σ x1 x2 Q9 K9_128 n x3 x4) := by
  intro n
  induction n with
  | zero =>
    intro x3 x4 h
    exact False.elim h
  | succ n ih =>
    intro x3 x4 h
    have rb : ∀ (Q9 : Int32 → St → Prop) (K9_128 : Int32 → Prop), w1_open_L105 σ x1 x2 Q9 K9_128 (n + 1) x3 x4 → w1_open_L105 σ x1 x2 Q9 K9_128 (n + 1) x3 x4 := fun _ _ z => z
    by_cases hc : x1 ≤ x4
    · have h := h.1 hc
      have rb := fun Q9 K9_128 z => rb Q9 K9_128 (br_t hc z)
      exact ⟨x3, h, fun Q9 K9_128 hq => rb Q9 K9_128 hq⟩
    have h := h.2 hc
    have rb := fun Q9 K9_128 z => rb Q9 K9_128 (br_f hc z)
    by_cases hc : x3 = 0
    · have h := h.1 hc
      have rb := fun Q9 K9_128 z => rb Q9 K9_128 (br_t hc z)
      exact ⟨x3, h, fun Q9 K9_128 hq => rb Q9 K9_128 hq⟩
    have h := h.2 hc
    have rb := fun Q9 K9_128 z => rb Q9 K9_128 (br_f hc z)
    obtain ⟨r8, h, rc⟩ := e1_isRight ok h
    have rb := fun Q9 K9_128 z => rb Q9 K9_128 (rc _ z)
    rcases ih h with ⟨x3, h, rc⟩
    · exact ⟨x3, h, fun Q9 K9_128 hq => rb Q9 K9_128 (rc Q9 K9_128 hq)⟩
set_option maxHeartbeats 4000000 in
theorem e1_open_J128 {σ : St} {x1 : Int32} {x2 : Int32} {x3 : Int32} {Q : Int32 → St → Prop} (ok : okS σ) (h : w1_open_J128 σ x1 x2 x3 Q) : (∃ (r : Int32) (σ' : St), Q r σ' ∧ okS σ' ∧ Fr (mF [22] [] [(1, [1, 3, 103])] []) σ σ' ∧ ∀ (Q9 : Int32 → St → Prop), Q9 r σ' → w1_open_J128 σ x1 x2 x3 Q9) := by
  have fr : Fr (mF [22] [] [(1, [1, 3, 103])] []) σ σ := Fr.rf
  have rb : ∀ (Q9 : Int32 → St → Prop), w1_open_J128 σ x1 x2 x3 Q9 → w1_open_J128 σ x1 x2 x3 Q9 := fun _ z => z
  obtain ⟨σ11, e9⟩ : ∃ s : St, s = up3 (up3 σ 1 0 3 (nI 22)) 1 0 103 (nI 0) := ⟨_, rfl⟩
  have h := h σ11 e9
  have rb := fun Q9 z => rb Q9 (nm_n e9 z)
  have ok : okS σ11 := by rw [e9]; exact (ok_n (ok_n ok (by decide)) (by decide))
  have fr : Fr (mF [22] [] [(1, [1, 3, 103])] []) σ σ11 := by rw [e9]; exact (Fr.up (Fr.up fr (mF_C (List.mem_of_getElem? (i := 0) rfl) rfl)) (mF_C (List.mem_of_getElem? (i := 0) rfl) rfl))
  by_cases hc : x3 = 0
  · have h := h.2 hc
    have rb := fun Q9 z => rb Q9 (br_u hc z)
    exact ⟨(-1), σ11, h, ok, fr, fun Q9 hq => rb Q9 hq⟩
  have h := h.1 hc
  have rb := fun Q9 z => rb Q9 (br_v hc z)
  obtain ⟨σ12, h, ok, fr9, rc⟩ := e19_copy (by decide) (by decide) ok h
  have fr := fr.tr (fr9.sub (mF_mR (Or.inl rfl)))
  have rb := fun Q9 z => rb Q9 (rc _ z)
  obtain ⟨σ13, e9⟩ : ∃ s : St, s = up3 σ12 1 0 1 x1 := ⟨_, rfl⟩
  have h := h σ13 e9
  have rb := fun Q9 z => rb Q9 (nm_n e9 z)
  have ok : okS σ13 := by rw [e9]; exact (ok_n ok (by decide))
  have fr : Fr (mF [22] [] [(1, [1, 3, 103])] []) σ σ13 := by rw [e9]; exact (Fr.up fr (mF_C (List.mem_of_getElem? (i := 0) rfl) rfl))
  exact ⟨x1, σ13, h, ok, fr, fun Q9 hq => rb Q9 hq⟩
set_option maxHeartbeats 4000000 in
theorem e1_open {σ : St} {Q : Int32 → St → Prop} (ok : okS σ) (h : w1_open σ Q) : (∃ (r : Int32) (σ' : St), Q r σ' ∧ okS σ' ∧ Fr (mF [22] [] [(1, [1, 3, 103])] []) σ σ' ∧ ∀ (Q9 : Int32 → St → Prop), Q9 r σ' → w1_open σ Q9) := by
  have fr : Fr (mF [22] [] [(1, [1, 3, 103])] []) σ σ := Fr.rf
  have rb : ∀ (Q9 : Int32 → St → Prop), w1_open σ Q9 → w1_open σ Q9 := fun _ z => z
  by_cases hc : (nI (σ 90 0 0).toNatClampNeg) < 12
  · have h := h.1 hc
    have rb := fun Q9 z => rb Q9 (br_t hc z)
    exact ⟨(-1), σ, h, ok, fr, fun Q9 hq => rb Q9 hq⟩
  have h := h.2 hc
  have rb := fun Q9 z => rb Q9 (br_f hc z)
  obtain ⟨r1, h, rc⟩ := e19_four (by decide) ok h
  have rb := fun Q9 z => rb Q9 (rc _ z)
  by_cases hc : r1 = 1398034258
  · have h := h.2 hc
    have rb := fun Q9 z => rb Q9 (br_u hc z)
    obtain ⟨r2, h, rc⟩ := e19_two (by decide) ok h
    have rb := fun Q9 z => rb Q9 (rc _ z)
    by_cases hc : r2 = 0
    · have h := h.1 hc
      have rb := fun Q9 z => rb Q9 (br_t hc z)
      obtain ⟨r3, h, rc⟩ := e19_two (by decide) ok h
      have rb := fun Q9 z => rb Q9 (rc _ z)
      obtain ⟨r4, h, rc⟩ := e1_entry ok h
      have rb := fun Q9 z => rb Q9 (rc _ z)
      by_cases hc : 64 < r3
      · have h := h.1 hc
        have rb := fun Q9 z => rb Q9 (br_t hc z)
        exact ⟨(-1), σ, h, ok, fr, fun Q9 hq => rb Q9 hq⟩
      have h := h.2 hc
      have rb := fun Q9 z => rb Q9 (br_f hc z)
      by_cases hc : (r4 + 4) ≤ (nI (σ 90 0 0).toNatClampNeg)
      · have h := h.1 hc
        have rb := fun Q9 z => rb Q9 (br_t hc z)
        obtain ⟨r5, h, rc⟩ := e1_check ok h
        have rb := fun Q9 z => rb Q9 (rc _ z)
        obtain ⟨r6, h, rc⟩ := e19_four (by decide) ok h
        have rb := fun Q9 z => rb Q9 (rc _ z)
        by_cases hc : r5 = r6
        · have h := h.2 hc
          have rb := fun Q9 z => rb Q9 (br_u hc z)
          obtain ⟨σ14, e9⟩ : ∃ s : St, s = up3 (up3 σ 1 0 3 (nI 21)) 1 0 103 (nI 0) := ⟨_, rfl⟩
          have h := h σ14 e9
          have rb := fun Q9 z => rb Q9 (nm_n e9 z)
          have ok : okS σ14 := by rw [e9]; exact (ok_n (ok_n ok (by decide)) (by decide))
          have fr : Fr (mF [22] [] [(1, [1, 3, 103])] []) σ σ14 := by rw [e9]; exact (Fr.up (Fr.up fr (mF_C (List.mem_of_getElem? (i := 0) rfl) rfl)) (mF_C (List.mem_of_getElem? (i := 0) rfl) rfl))
          obtain ⟨n9, h⟩ := h
          rcases e1_open_L105 ok n9 h with ⟨x3_16, h, rc⟩
          · have rb := fun Q9 z => rb Q9 (Exists.intro n9 (rc _ _ z))
            obtain ⟨r9, σ9, h, ok, fr9, rc⟩ := e1_open_J128 ok h
            exact ⟨r9, σ9, h, ok, fr.tr (fr9.sub (mF_sub rfl sub_nil rfl sud_nil)), fun Q9 hq => rb Q9 (rc Q9 hq)⟩
        have h := h.1 hc
        have rb := fun Q9 z => rb Q9 (br_v hc z)
        obtain ⟨σ7, e9⟩ : ∃ s : St, s = up3 (up3 σ 1 0 3 (nI 21)) 1 0 103 (nI 0) := ⟨_, rfl⟩
        have h := h σ7 e9
        have rb := fun Q9 z => rb Q9 (nm_n e9 z)
        have ok : okS σ7 := by rw [e9]; exact (ok_n (ok_n ok (by decide)) (by decide))
        have fr : Fr (mF [22] [] [(1, [1, 3, 103])] []) σ σ7 := by rw [e9]; exact (Fr.up (Fr.up fr (mF_C (List.mem_of_getElem? (i := 0) rfl) rfl)) (mF_C (List.mem_of_getElem? (i := 0) rfl) rfl))
        obtain ⟨n9, h⟩ := h
        rcases e1_open_L105 ok n9 h with ⟨x3_10, h, rc⟩
        · have rb := fun Q9 z => rb Q9 (Exists.intro n9 (rc _ _ z))
          obtain ⟨r9, σ9, h, ok, fr9, rc⟩ := e1_open_J128 ok h
          exact ⟨r9, σ9, h, ok, fr.tr (fr9.sub (mF_sub rfl sub_nil rfl sud_nil)), fun Q9 hq => rb Q9 (rc Q9 hq)⟩
      have h := h.2 hc
      have rb := fun Q9 z => rb Q9 (br_f hc z)
      exact ⟨(-1), σ, h, ok, fr, fun Q9 hq => rb Q9 hq⟩
    have h := h.2 hc
    have rb := fun Q9 z => rb Q9 (br_f hc z)
    exact ⟨(-1), σ, h, ok, fr, fun Q9 hq => rb Q9 hq⟩
  have h := h.1 hc
  have rb := fun Q9 z => rb Q9 (br_v hc z)
  exact ⟨(-1), σ, h, ok, fr, fun Q9 hq => rb Q9 hq⟩
/-! WebHost$Hops.arrive([BI)V -/
set_option maxHeartbeats 4000000 in
theorem e3_arrive_J108 {σ : St} {k1 : Nat} {i1 : Nat} {x3 : Int32} {x4 : Int32} {x5 : Int32} {Q : St → Prop} (hk1 : abc k1 i1 = true) (ok : okS σ) (h : w3_arrive_J108 σ k1 i1 x3 x4 x5 Q) : (∃ (σ' : St), Q σ' ∧ okS σ' ∧ Fr (mF [23, 25, 26, 32] [] [(2, [3])] []) σ σ' ∧ ∀ (Q9 : St → Prop), Q9 σ' → w3_arrive_J108 σ k1 i1 x3 x4 x5 Q9) := by
  have fr : Fr (mF [23, 25, 26, 32] [] [(2, [3])] []) σ σ := Fr.rf
  have rb : ∀ (Q9 : St → Prop), w3_arrive_J108 σ k1 i1 x3 x4 x5 Q9 → w3_arrive_J108 σ k1 i1 x3 x4 x5 Q9 := fun _ z => z
  by_cases hc : x3 = 1
  · have h := h.2 hc
    have rb := fun Q9 z => rb Q9 (br_u hc z)
    by_cases hc : x5 = 0
    · have h := h.1 hc
      have rb := fun Q9 z => rb Q9 (br_t hc z)
      exact ⟨σ, h, ok, fr, fun Q9 hq => rb Q9 hq⟩
    have h := h.2 hc
    have rb := fun Q9 z => rb Q9 (br_f hc z)
    obtain ⟨σ8, h, ok, fr9, rc⟩ := e3_tell hk1 ok h
    have fr := fr.tr (fr9.sub (mF_sub rfl sub_nil rfl sud_nil))
    have rb := fun Q9 z => rb Q9 (rc _ z)
    exact ⟨σ8, h, ok, fr, fun Q9 hq => rb Q9 hq⟩
  have h := h.1 hc
  have rb := fun Q9 z => rb Q9 (br_v hc z)
  exact ⟨σ, h, ok, fr, fun Q9 hq => rb Q9 hq⟩
set_option maxHeartbeats 4000000 in
theorem e3_arrive_J74 {σ : St} {k1 : Nat} {i1 : Nat} {x3 : Int32} {x4 : Int32} {xs0 : Int32} {Q : St → Prop} (hk1 : abc k1 i1 = true) (ok : okS σ) (h : w3_arrive_J74 σ k1 i1 x3 x4 xs0 Q) : (∃ (σ' : St), Q σ' ∧ okS σ' ∧ Fr (mF [23, 25, 26, 28, 29, 30, 31, 32] [] [(2, [3]), (3, [7, 9])] []) σ σ' ∧ ∀ (Q9 : St → Prop), Q9 σ' → w3_arrive_J74 σ k1 i1 x3 x4 xs0 Q9) := by
  have fr : Fr (mF [23, 25, 26, 28, 29, 30, 31, 32] [] [(2, [3]), (3, [7, 9])] []) σ σ := Fr.rf
  have rb : ∀ (Q9 : St → Prop), w3_arrive_J74 σ k1 i1 x3 x4 xs0 Q9 → w3_arrive_J74 σ k1 i1 x3 x4 xs0 Q9 := fun _ z => z
  obtain ⟨r6, h, rc⟩ := e3_find ok h
  have rb := fun Q9 z => rb Q9 (rc _ z)
  by_cases hc : 0 ≤ r6
  · have h := h.1 hc
    have rb := fun Q9 z => rb Q9 (br_t hc z)
    obtain ⟨σ7, h, ok, fr9, rc⟩ := e3_learn hk1 ok h
    have fr := fr.tr (fr9.sub (mF_sub rfl sub_nil rfl sud_nil))
    have rb := fun Q9 z => rb Q9 (rc _ z)
    obtain ⟨σ9, h, ok, fr9, rc⟩ := e3_arrive_J108 hk1 ok h
    exact ⟨σ9, h, ok, fr.tr (fr9.sub (mF_sub rfl sub_nil rfl sud_nil)), fun Q9 hq => rb Q9 (rc Q9 hq)⟩
  have h := h.2 hc
  have rb := fun Q9 z => rb Q9 (br_f hc z)
  by_cases hc : xs0 = 0
  · have h := h.1 hc
    have rb := fun Q9 z => rb Q9 (br_t hc z)
    obtain ⟨σ9, h, ok, fr9, rc⟩ := e3_arrive_J108 hk1 ok h
    exact ⟨σ9, h, ok, fr.tr (fr9.sub (mF_sub rfl sub_nil rfl sud_nil)), fun Q9 hq => rb Q9 (rc Q9 hq)⟩
  have h := h.2 hc
  have rb := fun Q9 z => rb Q9 (br_f hc z)
  by_cases hc : x4 = (σ 3 0 1)
  · have h := h.1 hc
    have rb := fun Q9 z => rb Q9 (br_t hc z)
    obtain ⟨σ9, h, ok, fr9, rc⟩ := e3_arrive_J108 hk1 ok h
    exact ⟨σ9, h, ok, fr.tr (fr9.sub (mF_sub rfl sub_nil rfl sud_nil)), fun Q9 hq => rb Q9 (rc Q9 hq)⟩
  have h := h.2 hc
  have rb := fun Q9 z => rb Q9 (br_f hc z)
  obtain ⟨σ9, h, ok, fr9, rc⟩ := e3_learn hk1 ok h
  have fr := fr.tr (fr9.sub (mF_sub rfl sub_nil rfl sud_nil))
  have rb := fun Q9 z => rb Q9 (rc _ z)
  obtain ⟨σ9, h, ok, fr9, rc⟩ := e3_arrive_J108 hk1 ok h
  exact ⟨σ9, h, ok, fr.tr (fr9.sub (mF_sub rfl sub_nil rfl sud_nil)), fun Q9 hq => rb Q9 (rc Q9 hq)⟩
set_option maxHeartbeats 4000000 in
theorem e3_arrive_J48 {σ : St} {k1 : Nat} {i1 : Nat} {x3 : Int32} {Q : St → Prop} (hk1 : abc k1 i1 = true) (ok : okS σ) (h : w3_arrive_J48 σ k1 i1 x3 Q) : (∃ (σ' : St), Q σ' ∧ okS σ' ∧ Fr (mF [23, 25, 26, 28, 29, 30, 31, 32] [] [(2, [3]), (3, [7, 9])] []) σ σ' ∧ ∀ (Q9 : St → Prop), Q9 σ' → w3_arrive_J48 σ k1 i1 x3 Q9) := by
  have fr : Fr (mF [23, 25, 26, 28, 29, 30, 31, 32] [] [(2, [3]), (3, [7, 9])] []) σ σ := Fr.rf
  have rb : ∀ (Q9 : St → Prop), w3_arrive_J48 σ k1 i1 x3 Q9 → w3_arrive_J48 σ k1 i1 x3 Q9 := fun _ z => z
  obtain ⟨r4, h, rc⟩ := e19_four hk1 ok h
  have rb := fun Q9 z => rb Q9 (rc _ z)
  obtain ⟨r5, h, rc⟩ := e19_four hk1 ok h
  have rb := fun Q9 z => rb Q9 (rc _ z)
  by_cases hc : r5 = (σ 3 0 1)
  · have h := h.2 hc
    have rb := fun Q9 z => rb Q9 (br_u hc z)
    obtain ⟨σ9, h, ok, fr9, rc⟩ := e3_arrive_J74 hk1 ok h
    exact ⟨σ9, h, ok, fr.tr (fr9.sub (mF_sub rfl sub_nil rfl sud_nil)), fun Q9 hq => rb Q9 (rc Q9 hq)⟩
  have h := h.1 hc
  have rb := fun Q9 z => rb Q9 (br_v hc z)
  obtain ⟨σ9, h, ok, fr9, rc⟩ := e3_arrive_J74 hk1 ok h
  exact ⟨σ9, h, ok, fr.tr (fr9.sub (mF_sub rfl sub_nil rfl sud_nil)), fun Q9 hq => rb Q9 (rc Q9 hq)⟩
set_option maxHeartbeats 4000000 in
theorem e3_arrive {σ : St} {k1 : Nat} {i1 : Nat} {x2 : Int32} {Q : St → Prop} (hk1 : abc k1 i1 = true) (ok : okS σ) (h : w3_arrive σ k1 i1 x2 Q) : (∃ (σ' : St), Q σ' ∧ okS σ' ∧ Fr (mF [23, 25, 26, 28, 29, 30, 31, 32] [] [(2, [3]), (3, [7, 9])] []) σ σ' ∧ ∀ (Q9 : St → Prop), Q9 σ' → w3_arrive σ k1 i1 x2 Q9) := by
  have fr : Fr (mF [23, 25, 26, 28, 29, 30, 31, 32] [] [(2, [3]), (3, [7, 9])] []) σ σ := Fr.rf
  have rb : ∀ (Q9 : St → Prop), w3_arrive σ k1 i1 x2 Q9 → w3_arrive σ k1 i1 x2 Q9 := fun _ z => z
  by_cases hc : x2 < 42
  · have h := h.1 hc
    have rb := fun Q9 z => rb Q9 (br_t hc z)
    exact ⟨σ, h, ok, fr, fun Q9 hq => rb Q9 hq⟩
  have h := h.2 hc
  have rb := fun Q9 z => rb Q9 (br_f hc z)
  obtain ⟨r1, h, rc⟩ := e19_four hk1 ok h
  have rb := fun Q9 z => rb Q9 (rc _ z)
  by_cases hc : r1 = 67584
  · have h := h.2 hc
    have rb := fun Q9 z => rb Q9 (br_u hc z)
    obtain ⟨r2, h, rc⟩ := e19_two hk1 ok h
    have rb := fun Q9 z => rb Q9 (rc _ z)
    by_cases hc : r2 = 1540
    · have h := h.1 hc
      have rb := fun Q9 z => rb Q9 (br_t hc z)
      obtain ⟨r3, h, rc⟩ := e19_two hk1 ok h
      have rb := fun Q9 z => rb Q9 (rc _ z)
      by_cases hc : r3 = 1
      · have h := h.1 hc
        have rb := fun Q9 z => rb Q9 (br_t hc z)
        obtain ⟨σ9, h, ok, fr9, rc⟩ := e3_arrive_J48 hk1 ok h
        exact ⟨σ9, h, ok, fr.tr (fr9.sub (mF_sub rfl sub_nil rfl sud_nil)), fun Q9 hq => rb Q9 (rc Q9 hq)⟩
      have h := h.2 hc
      have rb := fun Q9 z => rb Q9 (br_f hc z)
      by_cases hc : r3 = 2
      · have h := h.1 hc
        have rb := fun Q9 z => rb Q9 (br_t hc z)
        obtain ⟨σ9, h, ok, fr9, rc⟩ := e3_arrive_J48 hk1 ok h
        exact ⟨σ9, h, ok, fr.tr (fr9.sub (mF_sub rfl sub_nil rfl sud_nil)), fun Q9 hq => rb Q9 (rc Q9 hq)⟩
      have h := h.2 hc
      have rb := fun Q9 z => rb Q9 (br_f hc z)
      exact ⟨σ, h, ok, fr, fun Q9 hq => rb Q9 hq⟩
    have h := h.2 hc
    have rb := fun Q9 z => rb Q9 (br_f hc z)
    exact ⟨σ, h, ok, fr, fun Q9 hq => rb Q9 hq⟩
  have h := h.1 hc
  have rb := fun Q9 z => rb Q9 (br_v hc z)
  exact ⟨σ, h, ok, fr, fun Q9 hq => rb Q9 hq⟩
/-! WebHost$Packets.send(III)V -/
set_option maxHeartbeats 4000000 in
theorem e5_send {σ : St} {x1 : Int32} {x2 : Int32} {x3 : Int32} {Q : St → Prop} (ok : okS σ) (h : w5_send σ x1 x2 x3 Q) : (∃ (σ' : St), Q σ' ∧ okS σ' ∧ Fr (mF [23, 25, 26, 32, 35, 36] [] [(2, [3]), (3, [9]), (4, [0, 1, 2, 4]), (5, [2])] []) σ σ' ∧ ∀ (Q9 : St → Prop), Q9 σ' → w5_send σ x1 x2 x3 Q9) := by
  have fr : Fr (mF [23, 25, 26, 32, 35, 36] [] [(2, [3]), (3, [9]), (4, [0, 1, 2, 4]), (5, [2])] []) σ σ := Fr.rf
  have rb : ∀ (Q9 : St → Prop), w5_send σ x1 x2 x3 Q9 → w5_send σ x1 x2 x3 Q9 := fun _ z => z
  obtain ⟨σ1, e9⟩ : ∃ s : St, s = up3 σ 5 0 2 (((σ 5 0 2) + 1) &&& 65535) := ⟨_, rfl⟩
  have h := h σ1 e9
  have rb := fun Q9 z => rb Q9 (nm_n e9 z)
  have ok : okS σ1 := by rw [e9]; exact (ok_n ok (by decide))
  have fr : Fr (mF [23, 25, 26, 32, 35, 36] [] [(2, [3]), (3, [9]), (4, [0, 1, 2, 4]), (5, [2])] []) σ σ1 := by rw [e9]; exact (Fr.up fr (mF_C (List.mem_of_getElem? (i := 3) rfl) rfl))
  obtain ⟨σ2, h, ok, fr9, rc⟩ := e19_putTwo (by decide) ok h
  have fr := fr.tr (fr9.sub (mF_mR (Or.inl rfl)))
  have rb := fun Q9 z => rb Q9 (rc _ z)
  obtain ⟨σ3, h, ok, fr9, rc⟩ := e19_putTwo (by decide) ok h
  have fr := fr.tr (fr9.sub (mF_mR (Or.inl rfl)))
  have rb := fun Q9 z => rb Q9 (rc _ z)
  obtain ⟨σ4, h, ok, fr9, rc⟩ := e19_putTwo (by decide) ok h
  have fr := fr.tr (fr9.sub (mF_mR (Or.inl rfl)))
  have rb := fun Q9 z => rb Q9 (rc _ z)
  obtain ⟨σ5, h, ok, fr9, rc⟩ := e19_putTwo (by decide) ok h
  have fr := fr.tr (fr9.sub (mF_mR (Or.inl rfl)))
  have rb := fun Q9 z => rb Q9 (rc _ z)
  obtain ⟨hc, h⟩ := h
  have rb := fun Q9 z => rb Q9 (And.intro hc z)
  obtain ⟨σ6, e9⟩ : ∃ s : St, s = up3 σ5 36 0 (8 : Int32).toNatClampNeg (64 : Int32).toInt8.toInt32 := ⟨_, rfl⟩
  have h := h σ6 e9
  have rb := fun Q9 z => rb Q9 (nm_n e9 z)
  have ok : okS σ6 := by rw [e9]; exact (ok_b ok (tyk_a 36 2 (by decide) (by decide) _))
  have fr : Fr (mF [23, 25, 26, 32, 35, 36] [] [(2, [3]), (3, [9]), (4, [0, 1, 2, 4]), (5, [2])] []) σ σ6 := by rw [e9]; exact (Fr.up fr (mF_A rfl))
  obtain ⟨hc, h⟩ := h
  have rb := fun Q9 z => rb Q9 (And.intro hc z)
  obtain ⟨σ7, e9⟩ : ∃ s : St, s = up3 σ6 36 0 (9 : Int32).toNatClampNeg x2.toInt8.toInt32.toInt8.toInt32 := ⟨_, rfl⟩
  have h := h σ7 e9
  have rb := fun Q9 z => rb Q9 (nm_n e9 z)
  have ok : okS σ7 := by rw [e9]; exact (ok_b ok (tyk_a 36 2 (by decide) (by decide) _))
  have fr : Fr (mF [23, 25, 26, 32, 35, 36] [] [(2, [3]), (3, [9]), (4, [0, 1, 2, 4]), (5, [2])] []) σ σ7 := by rw [e9]; exact (Fr.up fr (mF_A rfl))
  obtain ⟨σ8, h, ok, fr9, rc⟩ := e19_putTwo (by decide) ok h
  have fr := fr.tr (fr9.sub (mF_mR (Or.inl rfl)))
  have rb := fun Q9 z => rb Q9 (rc _ z)
  obtain ⟨σ9, h, ok, fr9, rc⟩ := e19_putFour (by decide) ok h
  have fr := fr.tr (fr9.sub (mF_mR (Or.inl rfl)))
  have rb := fun Q9 z => rb Q9 (rc _ z)
  obtain ⟨σ10, h, ok, fr9, rc⟩ := e19_putFour (by decide) ok h
  have fr := fr.tr (fr9.sub (mF_mR (Or.inl rfl)))
  have rb := fun Q9 z => rb Q9 (rc _ z)
  obtain ⟨r11, h, rc⟩ := e19_added (by decide) ok h
  have rb := fun Q9 z => rb Q9 (rc _ z)
  obtain ⟨r12, h, rc⟩ := e19_folded ok h
  have rb := fun Q9 z => rb Q9 (rc _ z)
  obtain ⟨σ13, h, ok, fr9, rc⟩ := e19_putTwo (by decide) ok h
  have fr := fr.tr (fr9.sub (mF_mR (Or.inl rfl)))
  have rb := fun Q9 z => rb Q9 (rc _ z)
  obtain ⟨σ14, h, ok, fr9, rc⟩ := e3_send (by decide) ok h
  have fr := fr.tr (fr9.sub (mF_sub rfl sub_nil rfl sud_nil))
  have rb := fun Q9 z => rb Q9 (rc _ z)
  exact ⟨σ14, h, ok, fr, fun Q9 hq => rb Q9 hq⟩
/-! WebHost$Requests.decode()Z -/
set_option maxHeartbeats 4000000 in
theorem e9_decode_J96 {σ : St} {x1 : Int32} {x3 : Int32} {xs0 : Int32} {Q : Int32 → St → Prop} {K14 : St → Int32 → Int32 → Prop} {K107 : St → Prop} {K128 : St → Prop} (ok : okS σ) (h : w9_decode_J96 σ x1 x3 xs0 Q K14 K107 K128) : (∃ (σ' : St) (x1' : Int32) (x2' : Int32), K14 σ' x1' x2' ∧ okS σ' ∧ Fr (mF [41] [] [(9, [18])] []) σ σ' ∧ ∀ (Q9 : Int32 → St → Prop) (K9_14 : St → Int32 → Int32 → Prop) (K9_107 : St → Prop) (K9_128 : St → Prop), K9_14 σ' x1' x2' → w9_decode_J96 σ x1 x3 xs0 Q9 K9_14 K9_107 K9_128) ∨ (∃ (σ' : St), K107 σ' ∧ okS σ' ∧ Fr (mF [41] [] [(9, [18])] []) σ σ' ∧ ∀ (Q9 : Int32 → St → Prop) (K9_14 : St → Int32 → Int32 → Prop) (K9_107 : St → Prop) (K9_128 : St → Prop), K9_107 σ' → w9_decode_J96 σ x1 x3 xs0 Q9 K9_14 K9_107 K9_128) ∨ (∃ (σ' : St), K128 σ' ∧ okS σ' ∧ Fr (mF [41] [] [(9, [18])] []) σ σ' ∧ ∀ (Q9 : Int32 → St → Prop) (K9_14 : St → Int32 → Int32 → Prop) (K9_107 : St → Prop) (K9_128 : St → Prop), K9_128 σ' → w9_decode_J96 σ x1 x3 xs0 Q9 K9_14 K9_107 K9_128) := by
  have fr : Fr (mF [41] [] [(9, [18])] []) σ σ := Fr.rf
  have rb : ∀ (Q9 : Int32 → St → Prop) (K9_14 : St → Int32 → Int32 → Prop) (K9_107 : St → Prop) (K9_128 : St → Prop), w9_decode_J96 σ x1 x3 xs0 Q9 K9_14 K9_107 K9_128 → w9_decode_J96 σ x1 x3 xs0 Q9 K9_14 K9_107 K9_128 := fun _ _ _ _ z => z
  by_cases hc : x3 < 0
  · have h := h.1 hc
    have rb := fun Q9 K9_14 K9_107 K9_128 z => rb Q9 K9_14 K9_107 K9_128 (br_t hc z)
    exact (Or.inr (Or.inl ⟨σ, h, ok, fr, fun Q9 K9_14 K9_107 K9_128 hq => rb Q9 K9_14 K9_107 K9_128 hq⟩))
  have h := h.2 hc
  have rb := fun Q9 K9_14 K9_107 K9_128 z => rb Q9 K9_14 K9_107 K9_128 (br_f hc z)
  by_cases hc : 0 ≤ xs0
  · have h := h.1 hc
    have rb := fun Q9 K9_14 K9_107 K9_128 z => rb Q9 K9_14 K9_107 K9_128 (br_t hc z)
    obtain ⟨r3, h, rc⟩ := e9_isIn ok h
    have rb := fun Q9 K9_14 K9_107 K9_128 z => rb Q9 K9_14 K9_107 K9_128 (rc _ z)
    by_cases hc : r3 = 0
    · have h := h.2 hc
      have rb := fun Q9 K9_14 K9_107 K9_128 z => rb Q9 K9_14 K9_107 K9_128 (br_u hc z)
      exact (Or.inr (Or.inr ⟨σ, h, ok, fr, fun Q9 K9_14 K9_107 K9_128 hq => rb Q9 K9_14 K9_107 K9_128 hq⟩))
    have h := h.1 hc
    have rb := fun Q9 K9_14 K9_107 K9_128 z => rb Q9 K9_14 K9_107 K9_128 (br_v hc z)
    obtain ⟨σ4, h, ok, fr9, rc⟩ := e9_step ok h
    have fr := fr.tr (fr9.sub (mF_sub rfl sub_nil rfl sud_nil))
    have rb := fun Q9 K9_14 K9_107 K9_128 z => rb Q9 K9_14 K9_107 K9_128 (rc _ z)
    exact (Or.inl ⟨σ4, x1 + 2, (16 * x3) + xs0, h, ok, fr, fun Q9 K9_14 K9_107 K9_128 hq => rb Q9 K9_14 K9_107 K9_128 hq⟩)
  have h := h.2 hc
  have rb := fun Q9 K9_14 K9_107 K9_128 z => rb Q9 K9_14 K9_107 K9_128 (br_f hc z)
  exact (Or.inr (Or.inl ⟨σ, h, ok, fr, fun Q9 K9_14 K9_107 K9_128 hq => rb Q9 K9_14 K9_107 K9_128 hq⟩))
set_option maxHeartbeats 4000000 in
theorem e9_decode_J70 {σ : St} {x1 : Int32} {xs0 : Int32} {Q : Int32 → St → Prop} {K14 : St → Int32 → Int32 → Prop} {K107 : St → Prop} {K128 : St → Prop} (ok : okS σ) (h : w9_decode_J70 σ x1 xs0 Q K14 K107 K128) : (∃ (σ' : St) (x1' : Int32) (x2' : Int32), K14 σ' x1' x2' ∧ okS σ' ∧ Fr (mF [41] [] [(9, [18])] []) σ σ' ∧ ∀ (Q9 : Int32 → St → Prop) (K9_14 : St → Int32 → Int32 → Prop) (K9_107 : St → Prop) (K9_128 : St → Prop), K9_14 σ' x1' x2' → w9_decode_J70 σ x1 xs0 Q9 K9_14 K9_107 K9_128) ∨ (∃ (σ' : St), K107 σ' ∧ okS σ' ∧ Fr (mF [41] [] [(9, [18])] []) σ σ' ∧ ∀ (Q9 : Int32 → St → Prop) (K9_14 : St → Int32 → Int32 → Prop) (K9_107 : St → Prop) (K9_128 : St → Prop), K9_107 σ' → w9_decode_J70 σ x1 xs0 Q9 K9_14 K9_107 K9_128) ∨ (∃ (σ' : St), K128 σ' ∧ okS σ' ∧ Fr (mF [41] [] [(9, [18])] []) σ σ' ∧ ∀ (Q9 : Int32 → St → Prop) (K9_14 : St → Int32 → Int32 → Prop) (K9_107 : St → Prop) (K9_128 : St → Prop), K9_128 σ' → w9_decode_J70 σ x1 xs0 Q9 K9_14 K9_107 K9_128) := by
  have fr : Fr (mF [41] [] [(9, [18])] []) σ σ := Fr.rf
  have rb : ∀ (Q9 : Int32 → St → Prop) (K9_14 : St → Int32 → Int32 → Prop) (K9_107 : St → Prop) (K9_128 : St → Prop), w9_decode_J70 σ x1 xs0 Q9 K9_14 K9_107 K9_128 → w9_decode_J70 σ x1 xs0 Q9 K9_14 K9_107 K9_128 := fun _ _ _ _ z => z
  by_cases hc : (σ 9 0 4) ≤ (x1 + 1)
  · have h := h.1 hc
    have rb := fun Q9 K9_14 K9_107 K9_128 z => rb Q9 K9_14 K9_107 K9_128 (br_t hc z)
    rcases e9_decode_J96 ok h with ⟨σ', x1, x2, h, ok, fr9, rc⟩ | ⟨σ', h, ok, fr9, rc⟩ | ⟨σ', h, ok, fr9, rc⟩
    · have fr := fr.tr (fr9.sub (mF_sub rfl sub_nil rfl sud_nil))
      exact (Or.inl ⟨σ', x1, x2, h, ok, fr, fun Q9 K9_14 K9_107 K9_128 hq => rb Q9 K9_14 K9_107 K9_128 (rc _ _ _ _ hq)⟩)
    · have fr := fr.tr (fr9.sub (mF_sub rfl sub_nil rfl sud_nil))
      exact (Or.inr (Or.inl ⟨σ', h, ok, fr, fun Q9 K9_14 K9_107 K9_128 hq => rb Q9 K9_14 K9_107 K9_128 (rc _ _ _ _ hq)⟩))
    · have fr := fr.tr (fr9.sub (mF_sub rfl sub_nil rfl sud_nil))
      exact (Or.inr (Or.inr ⟨σ', h, ok, fr, fun Q9 K9_14 K9_107 K9_128 hq => rb Q9 K9_14 K9_107 K9_128 (rc _ _ _ _ hq)⟩))
  have h := h.2 hc
  have rb := fun Q9 K9_14 K9_107 K9_128 z => rb Q9 K9_14 K9_107 K9_128 (br_f hc z)
  obtain ⟨hc, h⟩ := h
  have rb := fun Q9 K9_14 K9_107 K9_128 z => rb Q9 K9_14 K9_107 K9_128 (And.intro hc z)
  have h := h ((ok 40 0 _).2 (tyk_a 40 2 (by decide) (by decide) _))
  have rb := fun Q9 K9_14 K9_107 K9_128 z => rb Q9 K9_14 K9_107 K9_128 (im_n z)
  obtain ⟨r5, h, rc⟩ := e9_hexadecimal ok h
  have rb := fun Q9 K9_14 K9_107 K9_128 z => rb Q9 K9_14 K9_107 K9_128 (rc _ z)
  rcases e9_decode_J96 ok h with ⟨σ', x1, x2, h, ok, fr9, rc⟩ | ⟨σ', h, ok, fr9, rc⟩ | ⟨σ', h, ok, fr9, rc⟩
  · have fr := fr.tr (fr9.sub (mF_sub rfl sub_nil rfl sud_nil))
    exact (Or.inl ⟨σ', x1, x2, h, ok, fr, fun Q9 K9_14 K9_107 K9_128 hq => rb Q9 K9_14 K9_107 K9_128 (rc _ _ _ _ hq)⟩)
  · have fr := fr.tr (fr9.sub (mF_sub rfl sub_nil rfl sud_nil))
    exact (Or.inr (Or.inl ⟨σ', h, ok, fr, fun Q9 K9_14 K9_107 K9_128 hq => rb Q9 K9_14 K9_107 K9_128 (rc _ _ _ _ hq)⟩))
  · have fr := fr.tr (fr9.sub (mF_sub rfl sub_nil rfl sud_nil))
    exact (Or.inr (Or.inr ⟨σ', h, ok, fr, fun Q9 K9_14 K9_107 K9_128 hq => rb Q9 K9_14 K9_107 K9_128 (rc _ _ _ _ hq)⟩))
set_option maxHeartbeats 4000000 in
theorem e9_decode_L14 {Q : Int32 → St → Prop} {K107 : St → Prop} {K128 : St → Prop} {K141 : St → Int32 → Prop} :
    ∀ (n : Nat) {σ : St} {x1 : Int32} {x2 : Int32} (ok : okS σ), w9_decode_L14 Q K107 K128 K141 n σ x1 x2 → (∃ (σ' : St), K107 σ' ∧ okS σ' ∧ Fr (mF [41] [] [(9, [18])] []) σ σ' ∧ ∀ (Q9 : Int32 → St → Prop) (K9_107 : St → Prop) (K9_128 : St → Prop) (K9_141 : St → Int32 → Prop), K9_107 σ' → w9_decode_L14 Q9 K9_107 K9_128 K9_141 n σ x1 x2) ∨ (∃ (σ' : St), K128 σ' ∧ okS σ' ∧ Fr (mF [41] [] [(9, [18])] []) σ σ' ∧ ∀ (Q9 : Int32 → St → Prop) (K9_107 : St → Prop) (K9_128 : St → Prop) (K9_141 : St → Int32 → Prop), K9_128 σ' → w9_decode_L14 Q9 K9_107 K9_128 K9_141 n σ x1 x2) ∨ (∃ (σ' : St) (x2' : Int32), K141 σ' x2' ∧ okS σ' ∧ Fr (mF [41] [] [(9, [18])] []) σ σ' ∧ ∀ (Q9 : Int32 → St → Prop) (K9_107 : St → Prop) (K9_128 : St → Prop) (K9_141 : St → Int32 → Prop), K9_141 σ' x2' → w9_decode_L14 Q9 K9_107 K9_128 K9_141 n σ x1 x2) := by
  intro n
  induction n with
  | zero =>
    intro σ x1 x2 ok h
    exact False.elim h
  | succ n ih =>
    intro σ x1 x2 ok h
    have fr : Fr (mF [41] [] [(9, [18])] []) σ σ := Fr.rf
    have rb : ∀ (Q9 : Int32 → St → Prop) (K9_107 : St → Prop) (K9_128 : St → Prop) (K9_141 : St → Int32 → Prop), w9_decode_L14 Q9 K9_107 K9_128 K9_141 (n + 1) σ x1 x2 → w9_decode_L14 Q9 K9_107 K9_128 K9_141 (n + 1) σ x1 x2 := fun _ _ _ _ z => z
    by_cases hc : (σ 9 0 4) ≤ x1
    · have h := h.1 hc
      have rb := fun Q9 K9_107 K9_128 K9_141 z => rb Q9 K9_107 K9_128 K9_141 (br_t hc z)
      exact (Or.inr (Or.inr ⟨σ, x2, h, ok, fr, fun Q9 K9_107 K9_128 K9_141 hq => rb Q9 K9_107 K9_128 K9_141 hq⟩))
    have h := h.2 hc
    have rb := fun Q9 K9_107 K9_128 K9_141 z => rb Q9 K9_107 K9_128 K9_141 (br_f hc z)
    obtain ⟨hc, h⟩ := h
    have rb := fun Q9 K9_107 K9_128 K9_141 z => rb Q9 K9_107 K9_128 K9_141 (And.intro hc z)
    have h := h ((ok 40 0 _).2 (tyk_a 40 2 (by decide) (by decide) _))
    have rb := fun Q9 K9_107 K9_128 K9_141 z => rb Q9 K9_107 K9_128 K9_141 (im_n z)
    by_cases hc : (σ 40 0 x1.toNatClampNeg) = 63
    · have h := h.1 hc
      have rb := fun Q9 K9_107 K9_128 K9_141 z => rb Q9 K9_107 K9_128 K9_141 (br_t hc z)
      exact (Or.inr (Or.inr ⟨σ, x2, h, ok, fr, fun Q9 K9_107 K9_128 K9_141 hq => rb Q9 K9_107 K9_128 K9_141 hq⟩))
    have h := h.2 hc
    have rb := fun Q9 K9_107 K9_128 K9_141 z => rb Q9 K9_107 K9_128 K9_141 (br_f hc z)
    obtain ⟨hc, h⟩ := h
    have rb := fun Q9 K9_107 K9_128 K9_141 z => rb Q9 K9_107 K9_128 K9_141 (And.intro hc z)
    have h := h ((ok 40 0 _).2 (tyk_a 40 2 (by decide) (by decide) _))
    have rb := fun Q9 K9_107 K9_128 K9_141 z => rb Q9 K9_107 K9_128 K9_141 (im_n z)
    by_cases hc : (σ 40 0 x1.toNatClampNeg) = 37
    · have h := h.2 hc
      have rb := fun Q9 K9_107 K9_128 K9_141 z => rb Q9 K9_107 K9_128 K9_141 (br_u hc z)
      by_cases hc : (σ 9 0 4) ≤ (x1 + 1)
      · have h := h.1 hc
        have rb := fun Q9 K9_107 K9_128 K9_141 z => rb Q9 K9_107 K9_128 K9_141 (br_t hc z)
        rcases e9_decode_J70 ok h with ⟨σ', x1, x2, h, ok, fr9, rc⟩ | ⟨σ', h, ok, fr9, rc⟩ | ⟨σ', h, ok, fr9, rc⟩
        · have fr := fr.tr (fr9.sub (mF_sub rfl sub_nil rfl sud_nil))
          rcases ih ok h with ⟨σ', h, ok, fr9, rd⟩ | ⟨σ', h, ok, fr9, rd⟩ | ⟨σ', x2, h, ok, fr9, rd⟩
          · exact (Or.inl ⟨σ', h, ok, fr.tr fr9, fun Q9 K9_107 K9_128 K9_141 hq => rb Q9 K9_107 K9_128 K9_141 (rc _ _ _ _ (rd Q9 K9_107 K9_128 K9_141 hq))⟩)
          · exact (Or.inr (Or.inl ⟨σ', h, ok, fr.tr fr9, fun Q9 K9_107 K9_128 K9_141 hq => rb Q9 K9_107 K9_128 K9_141 (rc _ _ _ _ (rd Q9 K9_107 K9_128 K9_141 hq))⟩))
          · exact (Or.inr (Or.inr ⟨σ', x2, h, ok, fr.tr fr9, fun Q9 K9_107 K9_128 K9_141 hq => rb Q9 K9_107 K9_128 K9_141 (rc _ _ _ _ (rd Q9 K9_107 K9_128 K9_141 hq))⟩))
        · have fr := fr.tr (fr9.sub (mF_sub rfl sub_nil rfl sud_nil))
          exact (Or.inl ⟨σ', h, ok, fr, fun Q9 K9_107 K9_128 K9_141 hq => rb Q9 K9_107 K9_128 K9_141 (rc _ _ _ _ hq)⟩)
        · have fr := fr.tr (fr9.sub (mF_sub rfl sub_nil rfl sud_nil))
          exact (Or.inr (Or.inl ⟨σ', h, ok, fr, fun Q9 K9_107 K9_128 K9_141 hq => rb Q9 K9_107 K9_128 K9_141 (rc _ _ _ _ hq)⟩))
      have h := h.2 hc
      have rb := fun Q9 K9_107 K9_128 K9_141 z => rb Q9 K9_107 K9_128 K9_141 (br_f hc z)
      obtain ⟨hc, h⟩ := h
      have rb := fun Q9 K9_107 K9_128 K9_141 z => rb Q9 K9_107 K9_128 K9_141 (And.intro hc z)
      have h := h ((ok 40 0 _).2 (tyk_a 40 2 (by decide) (by decide) _))
      have rb := fun Q9 K9_107 K9_128 K9_141 z => rb Q9 K9_107 K9_128 K9_141 (im_n z)
      obtain ⟨r6, h, rc⟩ := e9_hexadecimal ok h
      have rb := fun Q9 K9_107 K9_128 K9_141 z => rb Q9 K9_107 K9_128 K9_141 (rc _ z)
      rcases e9_decode_J70 ok h with ⟨σ', x1, x2, h, ok, fr9, rc⟩ | ⟨σ', h, ok, fr9, rc⟩ | ⟨σ', h, ok, fr9, rc⟩
      · have fr := fr.tr (fr9.sub (mF_sub rfl sub_nil rfl sud_nil))
        rcases ih ok h with ⟨σ', h, ok, fr9, rd⟩ | ⟨σ', h, ok, fr9, rd⟩ | ⟨σ', x2, h, ok, fr9, rd⟩
        · exact (Or.inl ⟨σ', h, ok, fr.tr fr9, fun Q9 K9_107 K9_128 K9_141 hq => rb Q9 K9_107 K9_128 K9_141 (rc _ _ _ _ (rd Q9 K9_107 K9_128 K9_141 hq))⟩)
        · exact (Or.inr (Or.inl ⟨σ', h, ok, fr.tr fr9, fun Q9 K9_107 K9_128 K9_141 hq => rb Q9 K9_107 K9_128 K9_141 (rc _ _ _ _ (rd Q9 K9_107 K9_128 K9_141 hq))⟩))
        · exact (Or.inr (Or.inr ⟨σ', x2, h, ok, fr.tr fr9, fun Q9 K9_107 K9_128 K9_141 hq => rb Q9 K9_107 K9_128 K9_141 (rc _ _ _ _ (rd Q9 K9_107 K9_128 K9_141 hq))⟩))
      · have fr := fr.tr (fr9.sub (mF_sub rfl sub_nil rfl sud_nil))
        exact (Or.inl ⟨σ', h, ok, fr, fun Q9 K9_107 K9_128 K9_141 hq => rb Q9 K9_107 K9_128 K9_141 (rc _ _ _ _ hq)⟩)
      · have fr := fr.tr (fr9.sub (mF_sub rfl sub_nil rfl sud_nil))
        exact (Or.inr (Or.inl ⟨σ', h, ok, fr, fun Q9 K9_107 K9_128 K9_141 hq => rb Q9 K9_107 K9_128 K9_141 (rc _ _ _ _ hq)⟩))
    have h := h.1 hc
    have rb := fun Q9 K9_107 K9_128 K9_141 z => rb Q9 K9_107 K9_128 K9_141 (br_v hc z)
    obtain ⟨σ2, h, ok, fr9, rc⟩ := e9_step ok h
    have fr := fr.tr (fr9.sub (mF_sub rfl sub_nil rfl sud_nil))
    have rb := fun Q9 K9_107 K9_128 K9_141 z => rb Q9 K9_107 K9_128 K9_141 (rc _ z)
    rcases ih ok h with ⟨σ', h, ok, fr9, rc⟩ | ⟨σ', h, ok, fr9, rc⟩ | ⟨σ', x2, h, ok, fr9, rc⟩
    · exact (Or.inl ⟨σ', h, ok, fr.tr fr9, fun Q9 K9_107 K9_128 K9_141 hq => rb Q9 K9_107 K9_128 K9_141 (rc Q9 K9_107 K9_128 K9_141 hq)⟩)
    · exact (Or.inr (Or.inl ⟨σ', h, ok, fr.tr fr9, fun Q9 K9_107 K9_128 K9_141 hq => rb Q9 K9_107 K9_128 K9_141 (rc Q9 K9_107 K9_128 K9_141 hq)⟩))
    · exact (Or.inr (Or.inr ⟨σ', x2, h, ok, fr.tr fr9, fun Q9 K9_107 K9_128 K9_141 hq => rb Q9 K9_107 K9_128 K9_141 (rc Q9 K9_107 K9_128 K9_141 hq)⟩))
set_option maxHeartbeats 4000000 in
theorem e9_decode_L149 {Q : Int32 → St → Prop} {K171 : St → Prop} :
    ∀ (n : Nat) {σ : St} {x3 : Int32} (ok : okS σ), w9_decode_L149 Q K171 n σ x3 → (∃ (σ' : St), K171 σ' ∧ okS σ' ∧ Fr (mF [41] [] [(9, [18])] []) σ σ' ∧ ∀ (Q9 : Int32 → St → Prop) (K9_171 : St → Prop), K9_171 σ' → w9_decode_L149 Q9 K9_171 n σ x3) := by
  intro n
  induction n with
  | zero =>
    intro σ x3 ok h
    exact False.elim h
  | succ n ih =>
    intro σ x3 ok h
    have fr : Fr (mF [41] [] [(9, [18])] []) σ σ := Fr.rf
    have rb : ∀ (Q9 : Int32 → St → Prop) (K9_171 : St → Prop), w9_decode_L149 Q9 K9_171 (n + 1) σ x3 → w9_decode_L149 Q9 K9_171 (n + 1) σ x3 := fun _ _ z => z
    by_cases hc : 10 ≤ x3
    · have h := h.1 hc
      have rb := fun Q9 K9_171 z => rb Q9 K9_171 (br_t hc z)
      exact ⟨σ, h, ok, fr, fun Q9 K9_171 hq => rb Q9 K9_171 hq⟩
    have h := h.2 hc
    have rb := fun Q9 K9_171 z => rb Q9 K9_171 (br_f hc z)
    obtain ⟨r11, h, rc⟩ := eJ1_charAt (by decide) h
    have rb := fun Q9 K9_171 z => rb Q9 K9_171 (rc _ z)
    obtain ⟨σ12, h, ok, fr9, rc⟩ := e9_step ok h
    have fr := fr.tr (fr9.sub (mF_sub rfl sub_nil rfl sud_nil))
    have rb := fun Q9 K9_171 z => rb Q9 K9_171 (rc _ z)
    rcases ih ok h with ⟨σ', h, ok, fr9, rc⟩
    · exact ⟨σ', h, ok, fr.tr fr9, fun Q9 K9_171 hq => rb Q9 K9_171 (rc Q9 K9_171 hq)⟩
set_option maxHeartbeats 4000000 in
theorem e9_decode {σ : St} {Q : Int32 → St → Prop} (ok : okS σ) (h : w9_decode σ Q) : (∃ (r : Int32) (σ' : St), Q r σ' ∧ okS σ' ∧ Fr (mF [41] [] [(9, [18])] []) σ σ' ∧ ∀ (Q9 : Int32 → St → Prop), Q9 r σ' → w9_decode σ Q9) := by
  have fr : Fr (mF [41] [] [(9, [18])] []) σ σ := Fr.rf
  have rb : ∀ (Q9 : Int32 → St → Prop), w9_decode σ Q9 → w9_decode σ Q9 := fun _ z => z
  obtain ⟨σ1, e9⟩ : ∃ s : St, s = up3 σ 9 0 18 0 := ⟨_, rfl⟩
  have h := h σ1 e9
  have rb := fun Q9 z => rb Q9 (nm_n e9 z)
  have ok : okS σ1 := by rw [e9]; exact (ok_n ok (by decide))
  have fr : Fr (mF [41] [] [(9, [18])] []) σ σ1 := by rw [e9]; exact (Fr.up fr (mF_C (List.mem_of_getElem? (i := 0) rfl) rfl))
  obtain ⟨n9, h⟩ := h
  rcases e9_decode_L14 n9 ok h with ⟨σ8, h, ok, fr9, rc⟩ | ⟨σ9, h, ok, fr9, rc⟩ | ⟨σ10, x2_10, h, ok, fr9, rc⟩
  · have rb := fun Q9 z => rb Q9 (Exists.intro n9 (rc _ _ _ _ z))
    have fr := fr.tr (fr9.sub (mF_sub rfl sub_nil rfl sud_nil))
    exact ⟨0, σ8, h, ok, fr, fun Q9 hq => rb Q9 hq⟩
  · have rb := fun Q9 z => rb Q9 (Exists.intro n9 (rc _ _ _ _ z))
    have fr := fr.tr (fr9.sub (mF_sub rfl sub_nil rfl sud_nil))
    exact ⟨0, σ9, h, ok, fr, fun Q9 hq => rb Q9 hq⟩
  · have rb := fun Q9 z => rb Q9 (Exists.intro n9 (rc _ _ _ _ z))
    have fr := fr.tr (fr9.sub (mF_sub rfl sub_nil rfl sud_nil))
    by_cases hc : x2_10 = 47
    · have h := h.2 hc
      have rb := fun Q9 z => rb Q9 (br_u hc z)
      obtain ⟨n9, h⟩ := h
      rcases e9_decode_L149 n9 ok h with ⟨σ14, h, ok, fr9, rc⟩
      · have rb := fun Q9 z => rb Q9 (Exists.intro n9 (rc _ _ z))
        have fr := fr.tr (fr9.sub (mF_sub rfl sub_nil rfl sud_nil))
        exact ⟨1, σ14, h, ok, fr, fun Q9 hq => rb Q9 hq⟩
    have h := h.1 hc
    have rb := fun Q9 z => rb Q9 (br_v hc z)
    exact ⟨1, σ10, h, ok, fr, fun Q9 hq => rb Q9 hq⟩
/-! WebHost$Requests.is(IILjava/lang/String;)Z -/
set_option maxHeartbeats 4000000 in
theorem e9_is_L15 {σ : St} {x1 : Int32} {t3 : Nat} {Q : Int32 → Prop} {K45 : Prop} {K53 : Prop} (ht3 : t3 < nS) (ok : okS σ) :
    ∀ (n : Nat) {x4 : Int32}, w9_is_L15 σ x1 t3 Q K45 K53 n x4 → (K45 ∧ ∀ (Q9 : Int32 → Prop) (K9_45 : Prop) (K9_53 : Prop), K9_45 → w9_is_L15 σ x1 t3 Q9 K9_45 K9_53 n x4) ∨ (K53 ∧ ∀ (Q9 : Int32 → Prop) (K9_45 : Prop) (K9_53 : Prop), K9_53 → w9_is_L15 σ x1 t3 Q9 K9_45 K9_53 n x4) := by
  intro n
  induction n with
  | zero =>
    intro x4 h
    exact False.elim h
  | succ n ih =>
    intro x4 h
    have rb : ∀ (Q9 : Int32 → Prop) (K9_45 : Prop) (K9_53 : Prop), w9_is_L15 σ x1 t3 Q9 K9_45 K9_53 (n + 1) x4 → w9_is_L15 σ x1 t3 Q9 K9_45 K9_53 (n + 1) x4 := fun _ _ _ z => z
    obtain ⟨r2, h, rc⟩ := eJ1_length ht3 h
    have rb := fun Q9 K9_45 K9_53 z => rb Q9 K9_45 K9_53 (rc _ z)
    by_cases hc : r2 ≤ x4
    · have h := h.1 hc
      have rb := fun Q9 K9_45 K9_53 z => rb Q9 K9_45 K9_53 (br_t hc z)
      exact (Or.inr ⟨h, fun Q9 K9_45 K9_53 hq => rb Q9 K9_45 K9_53 hq⟩)
    have h := h.2 hc
    have rb := fun Q9 K9_45 K9_53 z => rb Q9 K9_45 K9_53 (br_f hc z)
    obtain ⟨hc, h⟩ := h
    have rb := fun Q9 K9_45 K9_53 z => rb Q9 K9_45 K9_53 (And.intro hc z)
    have h := h ((ok 40 0 _).2 (tyk_a 40 2 (by decide) (by decide) _))
    have rb := fun Q9 K9_45 K9_53 z => rb Q9 K9_45 K9_53 (im_n z)
    obtain ⟨r3, h, rc⟩ := e9_small ok h
    have rb := fun Q9 K9_45 K9_53 z => rb Q9 K9_45 K9_53 (rc _ z)
    obtain ⟨r4, h, rc⟩ := eJ1_charAt ht3 h
    have rb := fun Q9 K9_45 K9_53 z => rb Q9 K9_45 K9_53 (rc _ z)
    by_cases hc : r3 = r4
    · have h := h.1 hc
      have rb := fun Q9 K9_45 K9_53 z => rb Q9 K9_45 K9_53 (br_t hc z)
      rcases ih h with ⟨h, rc⟩ | ⟨h, rc⟩
      · exact (Or.inl ⟨h, fun Q9 K9_45 K9_53 hq => rb Q9 K9_45 K9_53 (rc Q9 K9_45 K9_53 hq)⟩)
      · exact (Or.inr ⟨h, fun Q9 K9_45 K9_53 hq => rb Q9 K9_45 K9_53 (rc Q9 K9_45 K9_53 hq)⟩)
    have h := h.2 hc
    have rb := fun Q9 K9_45 K9_53 z => rb Q9 K9_45 K9_53 (br_f hc z)
    exact (Or.inl ⟨h, fun Q9 K9_45 K9_53 hq => rb Q9 K9_45 K9_53 hq⟩)
set_option maxHeartbeats 4000000 in
theorem e9_is {σ : St} {x1 : Int32} {x2 : Int32} {t3 : Nat} {Q : Int32 → Prop} (ht3 : t3 < nS) (ok : okS σ) (h : w9_is σ x1 x2 t3 Q) : (∃ r : Int32, Q r ∧ ∀ (Q9 : Int32 → Prop), Q9 r → w9_is σ x1 x2 t3 Q9) := by
  have rb : ∀ (Q9 : Int32 → Prop), w9_is σ x1 x2 t3 Q9 → w9_is σ x1 x2 t3 Q9 := fun _ z => z
  obtain ⟨r1, h, rc⟩ := eJ1_length ht3 h
  have rb := fun Q9 z => rb Q9 (rc _ z)
  by_cases hc : (x2 - x1) = r1
  · have h := h.1 hc
    have rb := fun Q9 z => rb Q9 (br_t hc z)
    obtain ⟨n9, h⟩ := h
    rcases e9_is_L15 ht3 ok n9 h with ⟨h, rc⟩ | ⟨h, rc⟩
    · have rb := fun Q9 z => rb Q9 (Exists.intro n9 (rc _ _ _ z))
      exact ⟨0, h, fun Q9 hq => rb Q9 hq⟩
    · have rb := fun Q9 z => rb Q9 (Exists.intro n9 (rc _ _ _ z))
      exact ⟨1, h, fun Q9 hq => rb Q9 hq⟩
  have h := h.2 hc
  have rb := fun Q9 z => rb Q9 (br_f hc z)
  exact ⟨0, h, fun Q9 hq => rb Q9 hq⟩
/-! WebHost$Requests.isExactly(IILjava/lang/String;)Z -/
set_option maxHeartbeats 4000000 in
theorem e9_isExactly_L15 {σ : St} {x1 : Int32} {t3 : Nat} {Q : Int32 → Prop} {K42 : Prop} {K50 : Prop} (ht3 : t3 < nS) (ok : okS σ) :
    ∀ (n : Nat) {x4 : Int32}, w9_isExactly_L15 σ x1 t3 Q K42 K50 n x4 → (K42 ∧ ∀ (Q9 : Int32 → Prop) (K9_42 : Prop) (K9_50 : Prop), K9_42 → w9_isExactly_L15 σ x1 t3 Q9 K9_42 K9_50 n x4) ∨ (K50 ∧ ∀ (Q9 : Int32 → Prop) (K9_42 : Prop) (K9_50 : Prop), K9_50 → w9_isExactly_L15 σ x1 t3 Q9 K9_42 K9_50 n x4) := by
  intro n
  induction n with
  | zero =>
    intro x4 h
    exact False.elim h
  | succ n ih =>
    intro x4 h
    have rb : ∀ (Q9 : Int32 → Prop) (K9_42 : Prop) (K9_50 : Prop), w9_isExactly_L15 σ x1 t3 Q9 K9_42 K9_50 (n + 1) x4 → w9_isExactly_L15 σ x1 t3 Q9 K9_42 K9_50 (n + 1) x4 := fun _ _ _ z => z
    obtain ⟨r2, h, rc⟩ := eJ1_length ht3 h
    have rb := fun Q9 K9_42 K9_50 z => rb Q9 K9_42 K9_50 (rc _ z)
    by_cases hc : r2 ≤ x4
    · have h := h.1 hc
      have rb := fun Q9 K9_42 K9_50 z => rb Q9 K9_42 K9_50 (br_t hc z)
      exact (Or.inr ⟨h, fun Q9 K9_42 K9_50 hq => rb Q9 K9_42 K9_50 hq⟩)
    have h := h.2 hc
    have rb := fun Q9 K9_42 K9_50 z => rb Q9 K9_42 K9_50 (br_f hc z)
    obtain ⟨hc, h⟩ := h
    have rb := fun Q9 K9_42 K9_50 z => rb Q9 K9_42 K9_50 (And.intro hc z)
    have h := h ((ok 40 0 _).2 (tyk_a 40 2 (by decide) (by decide) _))
    have rb := fun Q9 K9_42 K9_50 z => rb Q9 K9_42 K9_50 (im_n z)
    obtain ⟨r3, h, rc⟩ := eJ1_charAt ht3 h
    have rb := fun Q9 K9_42 K9_50 z => rb Q9 K9_42 K9_50 (rc _ z)
    by_cases hc : (σ 40 0 (x1 + x4).toNatClampNeg) = r3
    · have h := h.1 hc
      have rb := fun Q9 K9_42 K9_50 z => rb Q9 K9_42 K9_50 (br_t hc z)
      rcases ih h with ⟨h, rc⟩ | ⟨h, rc⟩
      · exact (Or.inl ⟨h, fun Q9 K9_42 K9_50 hq => rb Q9 K9_42 K9_50 (rc Q9 K9_42 K9_50 hq)⟩)
      · exact (Or.inr ⟨h, fun Q9 K9_42 K9_50 hq => rb Q9 K9_42 K9_50 (rc Q9 K9_42 K9_50 hq)⟩)
    have h := h.2 hc
    have rb := fun Q9 K9_42 K9_50 z => rb Q9 K9_42 K9_50 (br_f hc z)
    exact (Or.inl ⟨h, fun Q9 K9_42 K9_50 hq => rb Q9 K9_42 K9_50 hq⟩)
set_option maxHeartbeats 4000000 in
theorem e9_isExactly {σ : St} {x1 : Int32} {x2 : Int32} {t3 : Nat} {Q : Int32 → Prop} (ht3 : t3 < nS) (ok : okS σ) (h : w9_isExactly σ x1 x2 t3 Q) : (∃ r : Int32, Q r ∧ ∀ (Q9 : Int32 → Prop), Q9 r → w9_isExactly σ x1 x2 t3 Q9) := by
  have rb : ∀ (Q9 : Int32 → Prop), w9_isExactly σ x1 x2 t3 Q9 → w9_isExactly σ x1 x2 t3 Q9 := fun _ z => z
  obtain ⟨r1, h, rc⟩ := eJ1_length ht3 h
  have rb := fun Q9 z => rb Q9 (rc _ z)
  by_cases hc : (x2 - x1) = r1
  · have h := h.1 hc
    have rb := fun Q9 z => rb Q9 (br_t hc z)
    obtain ⟨n9, h⟩ := h
    rcases e9_isExactly_L15 ht3 ok n9 h with ⟨h, rc⟩ | ⟨h, rc⟩
    · have rb := fun Q9 z => rb Q9 (Exists.intro n9 (rc _ _ _ z))
      exact ⟨0, h, fun Q9 hq => rb Q9 hq⟩
    · have rb := fun Q9 z => rb Q9 (Exists.intro n9 (rc _ _ _ z))
      exact ⟨1, h, fun Q9 hq => rb Q9 hq⟩
  have h := h.2 hc
  have rb := fun Q9 z => rb Q9 (br_f hc z)
  exact ⟨0, h, fun Q9 hq => rb Q9 hq⟩
/-! WebHost$Requests.isNameCode(I)Z -/
set_option maxHeartbeats 4000000 in
theorem e9_isNameCode {σ : St} {x0 : Int32} {Q : Int32 → Prop} (ok : okS σ) (h : w9_isNameCode σ x0 Q) : (∃ r : Int32, Q r ∧ ∀ (Q9 : Int32 → Prop), Q9 r → w9_isNameCode σ x0 Q9) := by
  have rb : ∀ (Q9 : Int32 → Prop), w9_isNameCode σ x0 Q9 → w9_isNameCode σ x0 Q9 := fun _ z => z
  obtain ⟨r1, h, rc⟩ := e9_isIn ok h
  have rb := fun Q9 z => rb Q9 (rc _ z)
  by_cases hc : r1 = 0
  · have h := h.2 hc
    have rb := fun Q9 z => rb Q9 (br_u hc z)
    obtain ⟨r2, h, rc⟩ := e9_isIn ok h
    have rb := fun Q9 z => rb Q9 (rc _ z)
    by_cases hc : r2 = 0
    · have h := h.2 hc
      have rb := fun Q9 z => rb Q9 (br_u hc z)
      obtain ⟨r3, h, rc⟩ := e9_isIn ok h
      have rb := fun Q9 z => rb Q9 (rc _ z)
      by_cases hc : r3 = 0
      · have h := h.2 hc
        have rb := fun Q9 z => rb Q9 (br_u hc z)
        by_cases hc : x0 ≤ 0
        · have h := h.1 hc
          have rb := fun Q9 z => rb Q9 (br_t hc z)
          exact ⟨0, h, fun Q9 hq => rb Q9 hq⟩
        have h := h.2 hc
        have rb := fun Q9 z => rb Q9 (br_f hc z)
        obtain ⟨r4, h, rc⟩ := eJ1_indexOf (by decide) h
        have rb := fun Q9 z => rb Q9 (rc _ z)
        by_cases hc : r4 < 0
        · have h := h.1 hc
          have rb := fun Q9 z => rb Q9 (br_t hc z)
          exact ⟨0, h, fun Q9 hq => rb Q9 hq⟩
        have h := h.2 hc
        have rb := fun Q9 z => rb Q9 (br_f hc z)
        exact ⟨1, h, fun Q9 hq => rb Q9 hq⟩
      have h := h.1 hc
      have rb := fun Q9 z => rb Q9 (br_v hc z)
      exact ⟨1, h, fun Q9 hq => rb Q9 hq⟩
    have h := h.1 hc
    have rb := fun Q9 z => rb Q9 (br_v hc z)
    exact ⟨1, h, fun Q9 hq => rb Q9 hq⟩
  have h := h.1 hc
  have rb := fun Q9 z => rb Q9 (br_v hc z)
  exact ⟨1, h, fun Q9 hq => rb Q9 hq⟩
/-! WebHost$Answer.mark(I)V -/
set_option maxHeartbeats 4000000 in
theorem e13_mark_L9 {o0 : Nat} {x1 : Int32} {Q : St → Prop} {K34 : St → Prop} (ho0 : o0 < 16) :
    ∀ (n : Nat) {σ : St} {x2 : Int32} (ok : okS σ), w13_mark_L9 o0 x1 Q K34 n σ x2 → (∃ (σ' : St), K34 σ' ∧ okS σ' ∧ Fr (mF [] [(44, o0)] [] [(13, o0, [1])]) σ σ' ∧ ∀ (Q9 : St → Prop) (K9_34 : St → Prop), K9_34 σ' → w13_mark_L9 o0 x1 Q9 K9_34 n σ x2) := by
  intro n
  induction n with
  | zero =>
    intro σ x2 ok h
    exact False.elim h
  | succ n ih =>
    intro σ x2 ok h
    have fr : Fr (mF [] [(44, o0)] [] [(13, o0, [1])]) σ σ := Fr.rf
    have rb : ∀ (Q9 : St → Prop) (K9_34 : St → Prop), w13_mark_L9 o0 x1 Q9 K9_34 (n + 1) σ x2 → w13_mark_L9 o0 x1 Q9 K9_34 (n + 1) σ x2 := fun _ _ z => z
    by_cases hc : x2 < 0
    · have h := h.1 hc
      have rb := fun Q9 K9_34 z => rb Q9 K9_34 (br_t hc z)
      exact ⟨σ, h, ok, fr, fun Q9 K9_34 hq => rb Q9 K9_34 hq⟩
    have h := h.2 hc
    have rb := fun Q9 K9_34 z => rb Q9 K9_34 (br_f hc z)
    obtain ⟨r2, h, rc⟩ := eJ1_charAt (by decide) h
    have rb := fun Q9 K9_34 z => rb Q9 K9_34 (rc _ z)
    obtain ⟨σ3, h, ok, fr9, rc⟩ := e13_put ho0 ok h
    have fr := fr.tr (fr9.sub (mF_sub rfl (sub_c (Or.inr (List.mem_of_getElem? (i := 0) rfl)) sub_nil) rfl (sud_c (Or.inr ⟨_, List.mem_of_getElem? (i := 0) rfl, rfl⟩) sud_nil)))
    have rb := fun Q9 K9_34 z => rb Q9 K9_34 (rc _ z)
    rcases ih ok h with ⟨σ', h, ok, fr9, rc⟩
    · exact ⟨σ', h, ok, fr.tr fr9, fun Q9 K9_34 hq => rb Q9 K9_34 (rc Q9 K9_34 hq)⟩
set_option maxHeartbeats 4000000 in
theorem e13_mark {σ : St} {o0 : Nat} {x1 : Int32} {Q : St → Prop} (ho0 : o0 < 16) (ok : okS σ) (h : w13_mark σ o0 x1 Q) : (∃ (σ' : St), Q σ' ∧ okS σ' ∧ Fr (mF [] [(44, o0)] [] [(13, o0, [1])]) σ σ' ∧ ∀ (Q9 : St → Prop), Q9 σ' → w13_mark σ o0 x1 Q9) := by
  have fr : Fr (mF [] [(44, o0)] [] [(13, o0, [1])]) σ σ := Fr.rf
  have rb : ∀ (Q9 : St → Prop), w13_mark σ o0 x1 Q9 → w13_mark σ o0 x1 Q9 := fun _ z => z
  obtain ⟨σ1, h, ok, fr9, rc⟩ := e13_put ho0 ok h
  have fr := fr.tr (fr9.sub (mF_sub rfl (sub_c (Or.inr (List.mem_of_getElem? (i := 0) rfl)) sub_nil) rfl (sud_c (Or.inr ⟨_, List.mem_of_getElem? (i := 0) rfl, rfl⟩) sud_nil)))
  have rb := fun Q9 z => rb Q9 (rc _ z)
  obtain ⟨n9, h⟩ := h
  rcases e13_mark_L9 ho0 n9 ok h with ⟨σ5, h, ok, fr9, rc⟩
  · have rb := fun Q9 z => rb Q9 (Exists.intro n9 (rc _ _ z))
    have fr := fr.tr (fr9.sub (mF_sub rfl (sub_c (Or.inr (List.mem_of_getElem? (i := 0) rfl)) sub_nil) rfl (sud_c (Or.inr ⟨_, List.mem_of_getElem? (i := 0) rfl, rfl⟩) sud_nil)))
    obtain ⟨σ6, h, ok, fr9, rc⟩ := e13_put ho0 ok h
    have fr := fr.tr (fr9.sub (mF_sub rfl (sub_c (Or.inr (List.mem_of_getElem? (i := 0) rfl)) sub_nil) rfl (sud_c (Or.inr ⟨_, List.mem_of_getElem? (i := 0) rfl, rfl⟩) sud_nil)))
    have rb := fun Q9 z => rb Q9 (rc _ z)
    exact ⟨σ6, h, ok, fr, fun Q9 hq => rb Q9 hq⟩
/-! WebHost$Answer.say(Ljava/lang/String;)V -/
set_option maxHeartbeats 4000000 in
theorem e13_say_L2 {o0 : Nat} {t1 : Nat} {Q : St → Prop} {K25 : St → Prop} (ho0 : o0 < 16) (ht1 : t1 < nS) :
    ∀ (n : Nat) {σ : St} {x2 : Int32} (ok : okS σ), w13_say_L2 o0 t1 Q K25 n σ x2 → (∃ (σ' : St), K25 σ' ∧ okS σ' ∧ Fr (mF [] [(44, o0)] [] [(13, o0, [1])]) σ σ' ∧ ∀ (Q9 : St → Prop) (K9_25 : St → Prop), K9_25 σ' → w13_say_L2 o0 t1 Q9 K9_25 n σ x2) := by
  intro n
  induction n with
  | zero =>
    intro σ x2 ok h
    exact False.elim h
  | succ n ih =>
    intro σ x2 ok h
    have fr : Fr (mF [] [(44, o0)] [] [(13, o0, [1])]) σ σ := Fr.rf
    have rb : ∀ (Q9 : St → Prop) (K9_25 : St → Prop), w13_say_L2 o0 t1 Q9 K9_25 (n + 1) σ x2 → w13_say_L2 o0 t1 Q9 K9_25 (n + 1) σ x2 := fun _ _ z => z
    obtain ⟨r1, h, rc⟩ := eJ1_length ht1 h
    have rb := fun Q9 K9_25 z => rb Q9 K9_25 (rc _ z)
    by_cases hc : r1 ≤ x2
    · have h := h.1 hc
      have rb := fun Q9 K9_25 z => rb Q9 K9_25 (br_t hc z)
      exact ⟨σ, h, ok, fr, fun Q9 K9_25 hq => rb Q9 K9_25 hq⟩
    have h := h.2 hc
    have rb := fun Q9 K9_25 z => rb Q9 K9_25 (br_f hc z)
    obtain ⟨r2, h, rc⟩ := eJ1_charAt ht1 h
    have rb := fun Q9 K9_25 z => rb Q9 K9_25 (rc _ z)
    obtain ⟨σ3, h, ok, fr9, rc⟩ := e13_put ho0 ok h
    have fr := fr.tr (fr9.sub (mF_sub rfl (sub_c (Or.inr (List.mem_of_getElem? (i := 0) rfl)) sub_nil) rfl (sud_c (Or.inr ⟨_, List.mem_of_getElem? (i := 0) rfl, rfl⟩) sud_nil)))
    have rb := fun Q9 K9_25 z => rb Q9 K9_25 (rc _ z)
    rcases ih ok h with ⟨σ', h, ok, fr9, rc⟩
    · exact ⟨σ', h, ok, fr.tr fr9, fun Q9 K9_25 hq => rb Q9 K9_25 (rc Q9 K9_25 hq)⟩
set_option maxHeartbeats 4000000 in
theorem e13_say {σ : St} {o0 : Nat} {t1 : Nat} {Q : St → Prop} (ho0 : o0 < 16) (ht1 : t1 < nS) (ok : okS σ) (h : w13_say σ o0 t1 Q) : (∃ (σ' : St), Q σ' ∧ okS σ' ∧ Fr (mF [] [(44, o0)] [] [(13, o0, [1])]) σ σ' ∧ ∀ (Q9 : St → Prop), Q9 σ' → w13_say σ o0 t1 Q9) := by
  have fr : Fr (mF [] [(44, o0)] [] [(13, o0, [1])]) σ σ := Fr.rf
  have rb : ∀ (Q9 : St → Prop), w13_say σ o0 t1 Q9 → w13_say σ o0 t1 Q9 := fun _ z => z
  obtain ⟨n9, h⟩ := h
  rcases e13_say_L2 ho0 ht1 n9 ok h with ⟨σ5, h, ok, fr9, rc⟩
  · have rb := fun Q9 z => rb Q9 (Exists.intro n9 (rc _ _ z))
    have fr := fr.tr (fr9.sub (mF_sub rfl (sub_c (Or.inr (List.mem_of_getElem? (i := 0) rfl)) sub_nil) rfl (sud_c (Or.inr ⟨_, List.mem_of_getElem? (i := 0) rfl, rfl⟩) sud_nil)))
    exact ⟨σ5, h, ok, fr, fun Q9 hq => rb Q9 hq⟩
/-! WebHostModel.askAgain(LWebHostModel$Packet;)V -/
set_option maxHeartbeats 4000000 in
theorem e14_askAgain {σ : St} {o1 : Nat} {Q : St → Prop} (ho1 : o1 < 8) (ok : okS σ) (h : w14_askAgain σ o1 Q) : (∃ (σ' : St), Q σ' ∧ okS σ' ∧ Fr (mF [57, 58, 59, 60] [] [(14, [18, 23])] [(17, o1, [0, 4])]) σ σ' ∧ ∀ (Q9 : St → Prop), Q9 σ' → w14_askAgain σ o1 Q9) := by
  have fr : Fr (mF [57, 58, 59, 60] [] [(14, [18, 23])] [(17, o1, [0, 4])]) σ σ := Fr.rf
  have rb : ∀ (Q9 : St → Prop), w14_askAgain σ o1 Q9 → w14_askAgain σ o1 Q9 := fun _ z => z
  by_cases hc : (σ 17 o1 4) = 3
  · have h := h.2 hc
    have rb := fun Q9 z => rb Q9 (br_u hc z)
    obtain ⟨σ3, e9⟩ : ∃ s : St, s = up3 σ 17 o1 0 0 := ⟨_, rfl⟩
    have h := h σ3 e9
    have rb := fun Q9 z => rb Q9 (nm_n e9 z)
    have ok : okS σ3 := by rw [e9]; exact (ok_z ok (by decide) (Or.inl rfl))
    have fr : Fr (mF [57, 58, 59, 60] [] [(14, [18, 23])] [(17, o1, [0, 4])]) σ σ3 := by rw [e9]; exact (Fr.up fr (mF_D (List.mem_of_getElem? (i := 0) rfl) rfl))
    exact ⟨σ3, h, ok, fr, fun Q9 hq => rb Q9 hq⟩
  have h := h.1 hc
  have rb := fun Q9 z => rb Q9 (br_v hc z)
  obtain ⟨σ1, e9⟩ : ∃ s : St, s = up3 σ 17 o1 4 ((σ 17 o1 4) + 1) := ⟨_, rfl⟩
  have h := h σ1 e9
  have rb := fun Q9 z => rb Q9 (nm_n e9 z)
  have ok : okS σ1 := by rw [e9]; exact (ok_n ok (by decide))
  have fr : Fr (mF [57, 58, 59, 60] [] [(14, [18, 23])] [(17, o1, [0, 4])]) σ σ1 := by rw [e9]; exact (Fr.up fr (mF_D (List.mem_of_getElem? (i := 0) rfl) rfl))
  obtain ⟨σ2, h, ok, fr9, rc⟩ := e14_ask ok h
  have fr := fr.tr (fr9.sub (mF_sub rfl sub_nil rfl sud_nil))
  have rb := fun Q9 z => rb Q9 (rc _ z)
  exact ⟨σ2, h, ok, fr, fun Q9 hq => rb Q9 hq⟩
/-! WebHostModel.endsWith(ILjava/lang/String;)Z -/
set_option maxHeartbeats 4000000 in
theorem e14_endsWith_L2 {σ : St} {x1 : Int32} {t2 : Nat} {Q : Int32 → Prop} {K28 : Int32 → Prop} (ht2 : t2 < nS) (ok : okS σ) :
    ∀ (n : Nat) {x3 : Int32}, w14_endsWith_L2 σ x1 t2 Q K28 n x3 → (∃ (x3' : Int32), K28 x3' ∧ ∀ (Q9 : Int32 → Prop) (K9_28 : Int32 → Prop), K9_28 x3' → w14_endsWith_L2 σ x1 t2 Q9 K9_28 n x3) := by
  intro n
  induction n with
  | zero =>
    intro x3 h
    exact False.elim h
  | succ n ih =>
    intro x3 h
    have rb : ∀ (Q9 : Int32 → Prop) (K9_28 : Int32 → Prop), w14_endsWith_L2 σ x1 t2 Q9 K9_28 (n + 1) x3 → w14_endsWith_L2 σ x1 t2 Q9 K9_28 (n + 1) x3 := fun _ _ z => z
    by_cases hc : 48 ≤ x3
    · have h := h.1 hc
      have rb := fun Q9 K9_28 z => rb Q9 K9_28 (br_t hc z)
      exact ⟨x3, h, fun Q9 K9_28 hq => rb Q9 K9_28 hq⟩
    have h := h.2 hc
    have rb := fun Q9 K9_28 z => rb Q9 K9_28 (br_f hc z)
    obtain ⟨hc, h⟩ := h
    have rb := fun Q9 K9_28 z => rb Q9 K9_28 (And.intro hc z)
    have h := h ((ok 52 0 _).2 (tyk_a 52 2 (by decide) (by decide) _))
    have rb := fun Q9 K9_28 z => rb Q9 K9_28 (im_n z)
    by_cases hc : (σ 52 0 ((48 * x1) + x3).toNatClampNeg) = 0
    · have h := h.1 hc
      have rb := fun Q9 K9_28 z => rb Q9 K9_28 (br_t hc z)
      exact ⟨x3, h, fun Q9 K9_28 hq => rb Q9 K9_28 hq⟩
    have h := h.2 hc
    have rb := fun Q9 K9_28 z => rb Q9 K9_28 (br_f hc z)
    rcases ih h with ⟨x3, h, rc⟩
    · exact ⟨x3, h, fun Q9 K9_28 hq => rb Q9 K9_28 (rc Q9 K9_28 hq)⟩
set_option maxHeartbeats 4000000 in
theorem e14_endsWith_L41 {σ : St} {x1 : Int32} {t2 : Nat} {x3 : Int32} {Q : Int32 → Prop} {K78 : Prop} {K86 : Prop} (ht2 : t2 < nS) (ok : okS σ) :
    ∀ (n : Nat) {x4 : Int32}, w14_endsWith_L41 σ x1 t2 x3 Q K78 K86 n x4 → (K78 ∧ ∀ (Q9 : Int32 → Prop) (K9_78 : Prop) (K9_86 : Prop), K9_78 → w14_endsWith_L41 σ x1 t2 x3 Q9 K9_78 K9_86 n x4) ∨ (K86 ∧ ∀ (Q9 : Int32 → Prop) (K9_78 : Prop) (K9_86 : Prop), K9_86 → w14_endsWith_L41 σ x1 t2 x3 Q9 K9_78 K9_86 n x4) := by
  intro n
  induction n with
  | zero =>
    intro x4 h
    exact False.elim h
  | succ n ih =>
    intro x4 h
    have rb : ∀ (Q9 : Int32 → Prop) (K9_78 : Prop) (K9_86 : Prop), w14_endsWith_L41 σ x1 t2 x3 Q9 K9_78 K9_86 (n + 1) x4 → w14_endsWith_L41 σ x1 t2 x3 Q9 K9_78 K9_86 (n + 1) x4 := fun _ _ _ z => z
    obtain ⟨r4, h, rc⟩ := eJ1_length ht2 h
    have rb := fun Q9 K9_78 K9_86 z => rb Q9 K9_78 K9_86 (rc _ z)
    by_cases hc : r4 ≤ x4
    · have h := h.1 hc
      have rb := fun Q9 K9_78 K9_86 z => rb Q9 K9_78 K9_86 (br_t hc z)
      exact (Or.inr ⟨h, fun Q9 K9_78 K9_86 hq => rb Q9 K9_78 K9_86 hq⟩)
    have h := h.2 hc
    have rb := fun Q9 K9_78 K9_86 z => rb Q9 K9_78 K9_86 (br_f hc z)
    obtain ⟨r5, h, rc⟩ := eJ1_length ht2 h
    have rb := fun Q9 K9_78 K9_86 z => rb Q9 K9_78 K9_86 (rc _ z)
    obtain ⟨hc, h⟩ := h
    have rb := fun Q9 K9_78 K9_86 z => rb Q9 K9_78 K9_86 (And.intro hc z)
    have h := h ((ok 52 0 _).2 (tyk_a 52 2 (by decide) (by decide) _))
    have rb := fun Q9 K9_78 K9_86 z => rb Q9 K9_78 K9_86 (im_n z)
    obtain ⟨r6, h, rc⟩ := eJ1_charAt ht2 h
    have rb := fun Q9 K9_78 K9_86 z => rb Q9 K9_78 K9_86 (rc _ z)
    by_cases hc : (σ 52 0 ((((48 * x1) + x3) - r5) + x4).toNatClampNeg) = r6
    · have h := h.1 hc
      have rb := fun Q9 K9_78 K9_86 z => rb Q9 K9_78 K9_86 (br_t hc z)
      rcases ih h with ⟨h, rc⟩ | ⟨h, rc⟩
      · exact (Or.inl ⟨h, fun Q9 K9_78 K9_86 hq => rb Q9 K9_78 K9_86 (rc Q9 K9_78 K9_86 hq)⟩)
      · exact (Or.inr ⟨h, fun Q9 K9_78 K9_86 hq => rb Q9 K9_78 K9_86 (rc Q9 K9_78 K9_86 hq)⟩)
    have h := h.2 hc
    have rb := fun Q9 K9_78 K9_86 z => rb Q9 K9_78 K9_86 (br_f hc z)
    exact (Or.inl ⟨h, fun Q9 K9_78 K9_86 hq => rb Q9 K9_78 K9_86 hq⟩)
set_option maxHeartbeats 4000000 in
theorem e14_endsWith {σ : St} {x1 : Int32} {t2 : Nat} {Q : Int32 → Prop} (ht2 : t2 < nS) (ok : okS σ) (h : w14_endsWith σ x1 t2 Q) : (∃ r : Int32, Q r ∧ ∀ (Q9 : Int32 → Prop), Q9 r → w14_endsWith σ x1 t2 Q9) := by
  have rb : ∀ (Q9 : Int32 → Prop), w14_endsWith σ x1 t2 Q9 → w14_endsWith σ x1 t2 Q9 := fun _ z => z
  obtain ⟨n9, h⟩ := h
  rcases e14_endsWith_L2 ht2 ok n9 h with ⟨x3_2, h, rc⟩
  · have rb := fun Q9 z => rb Q9 (Exists.intro n9 (rc _ _ z))
    obtain ⟨r3, h, rc⟩ := eJ1_length ht2 h
    have rb := fun Q9 z => rb Q9 (rc _ z)
    by_cases hc : r3 ≤ x3_2
    · have h := h.1 hc
      have rb := fun Q9 z => rb Q9 (br_t hc z)
      obtain ⟨n9, h⟩ := h
      rcases e14_endsWith_L41 ht2 ok n9 h with ⟨h, rc⟩ | ⟨h, rc⟩
      · have rb := fun Q9 z => rb Q9 (Exists.intro n9 (rc _ _ _ z))
        exact ⟨0, h, fun Q9 hq => rb Q9 hq⟩
      · have rb := fun Q9 z => rb Q9 (Exists.intro n9 (rc _ _ _ z))
        exact ⟨1, h, fun Q9 hq => rb Q9 hq⟩
    have h := h.2 hc
    have rb := fun Q9 z => rb Q9 (br_f hc z)
    exact ⟨0, h, fun Q9 hq => rb Q9 hq⟩
/-! WebHostModel.ipOut(III)V -/
set_option maxHeartbeats 4000000 in
theorem e14_ipOut_L200 {σ : St} {x3 : Int32} {x4 : Int32} {x7 : Int32} {Q : St → Prop} {K240 : Option Nat → Prop} (ok : okS σ) :
    ∀ (n : Nat) {p6 : Option Nat} {x8 : Int32}, w14_ipOut_L200 σ x3 x4 x7 Q K240 n p6 x8 → (∃ (p6' : Option Nat), K240 p6' ∧ ∀ (Q9 : St → Prop) (K9_240 : Option Nat → Prop), K9_240 p6' → w14_ipOut_L200 σ x3 x4 x7 Q9 K9_240 n p6 x8) := by
  intro n
  induction n with
  | zero =>
    intro p6 x8 h
    exact False.elim h
  | succ n ih =>
    intro p6 x8 h
    have rb : ∀ (Q9 : St → Prop) (K9_240 : Option Nat → Prop), w14_ipOut_L200 σ x3 x4 x7 Q9 K9_240 (n + 1) p6 x8 → w14_ipOut_L200 σ x3 x4 x7 Q9 K9_240 (n + 1) p6 x8 := fun _ _ z => z
    by_cases hc : 8 ≤ x8
    · have h := h.1 hc
      have rb := fun Q9 K9_240 z => rb Q9 K9_240 (br_t hc z)
      exact ⟨p6, h, fun Q9 K9_240 hq => rb Q9 K9_240 hq⟩
    have h := h.2 hc
    have rb := fun Q9 K9_240 z => rb Q9 K9_240 (br_f hc z)
    rcases opt_or p6 with hp | ⟨i19, hp⟩
    · have h := h.1 hp
      have rb := fun Q9 K9_240 z => rb Q9 K9_240 (po_n hp z)
      obtain ⟨hc, h⟩ := h
      have rb := fun Q9 K9_240 z => rb Q9 K9_240 (And.intro hc z)
      have hq20 := vp_lt hc
      have h := h ((ok 17 x8.toNatClampNeg 0).1 (by decide))
      have rb := fun Q9 K9_240 z => rb Q9 K9_240 (im_n z)
      by_cases hc : (σ 17 x8.toNatClampNeg 0) = 0
      · have h := h.2 hc
        have rb := fun Q9 K9_240 z => rb Q9 K9_240 (br_u hc z)
        obtain ⟨hc, h⟩ := h
        have rb := fun Q9 K9_240 z => rb Q9 K9_240 (And.intro hc z)
        have hq21 := vp_lt hc
        rcases ih h with ⟨p6, h, rc⟩
        · exact ⟨p6, h, fun Q9 K9_240 hq => rb Q9 K9_240 (rc Q9 K9_240 hq)⟩
      have h := h.1 hc
      have rb := fun Q9 K9_240 z => rb Q9 K9_240 (br_v hc z)
      rcases ih h with ⟨p6, h, rc⟩
      · exact ⟨p6, h, fun Q9 K9_240 hq => rb Q9 K9_240 (rc Q9 K9_240 hq)⟩
    obtain ⟨hq19, h⟩ := h.2 i19 hp
    have rb := fun Q9 K9_240 z => rb Q9 K9_240 (po_s hp (And.intro hq19 z))
    exact ⟨(some i19), h, fun Q9 K9_240 hq => rb Q9 K9_240 hq⟩
set_option maxHeartbeats 4000000 in
theorem e14_ipOut_L271 {x4 : Int32} {o6 : Nat} {x7 : Int32} {Q : St → Prop} {K305 : St → Prop} (ho6 : o6 < 8) :
    ∀ (n : Nat) {σ : St} {x8 : Int32} (ok : okS σ), w14_ipOut_L271 x4 o6 x7 Q K305 n σ x8 → (∃ (σ' : St), K305 σ' ∧ okS σ' ∧ Fr (mF [] [(68, o6)] [] []) σ σ' ∧ ∀ (Q9 : St → Prop) (K9_305 : St → Prop), K9_305 σ' → w14_ipOut_L271 x4 o6 x7 Q9 K9_305 n σ x8) := by
  intro n
  induction n with
  | zero =>
    intro σ x8 ok h
    exact False.elim h
  | succ n ih =>
    intro σ x8 ok h
    have fr : Fr (mF [] [(68, o6)] [] []) σ σ := Fr.rf
    have rb : ∀ (Q9 : St → Prop) (K9_305 : St → Prop), w14_ipOut_L271 x4 o6 x7 Q9 K9_305 (n + 1) σ x8 → w14_ipOut_L271 x4 o6 x7 Q9 K9_305 (n + 1) σ x8 := fun _ _ z => z
    by_cases hc : (σ 17 o6 2) ≤ x8
    · have h := h.1 hc
      have rb := fun Q9 K9_305 z => rb Q9 K9_305 (br_t hc z)
      exact ⟨σ, h, ok, fr, fun Q9 K9_305 hq => rb Q9 K9_305 hq⟩
    have h := h.2 hc
    have rb := fun Q9 K9_305 z => rb Q9 K9_305 (br_f hc z)
    obtain ⟨hc, h⟩ := h
    have rb := fun Q9 K9_305 z => rb Q9 K9_305 (And.intro hc z)
    have h := h ((ok 57 0 _).2 (tyk_a 57 2 (by decide) (by decide) _))
    have rb := fun Q9 K9_305 z => rb Q9 K9_305 (im_n z)
    obtain ⟨hc, h⟩ := h
    have rb := fun Q9 K9_305 z => rb Q9 K9_305 (And.intro hc z)
    obtain ⟨σ28, e9⟩ : ∃ s : St, s = up3 σ 68 o6 x8.toNatClampNeg (σ 57 0 (14 + x8).toNatClampNeg).toInt8.toInt32 := ⟨_, rfl⟩
    have h := h σ28 e9
    have rb := fun Q9 K9_305 z => rb Q9 K9_305 (nm_n e9 z)
    have ok : okS σ28 := by rw [e9]; exact (ok_b ok (tyk_a 68 2 (by decide) (by decide) _))
    have fr : Fr (mF [] [(68, o6)] [] []) σ σ28 := by rw [e9]; exact (Fr.up fr (mF_B (List.mem_of_getElem? (i := 0) rfl)))
    rcases ih ok h with ⟨σ', h, ok, fr9, rc⟩
    · exact ⟨σ', h, ok, fr.tr fr9, fun Q9 K9_305 hq => rb Q9 K9_305 (rc Q9 K9_305 hq)⟩
set_option maxHeartbeats 4000000 in
theorem e14_ipOut_J240 {σ : St} {x3 : Int32} {x4 : Int32} {p6 : Option Nat} {x7 : Int32} {Q : St → Prop} (ok : okS σ) (h : w14_ipOut_J240 σ x3 x4 p6 x7 Q) : (∃ (σ' : St), Q σ' ∧ okS σ' ∧ Fr (mF [57, 58, 59, 60, 68] [] [(14, [18, 23, 25]), (17, [0, 1, 2, 3, 4, 5])] []) σ σ' ∧ ∀ (Q9 : St → Prop), Q9 σ' → w14_ipOut_J240 σ x3 x4 p6 x7 Q9) := by
  have fr : Fr (mF [57, 58, 59, 60, 68] [] [(14, [18, 23, 25]), (17, [0, 1, 2, 3, 4, 5])] []) σ σ := Fr.rf
  have rb : ∀ (Q9 : St → Prop), w14_ipOut_J240 σ x3 x4 p6 x7 Q9 → w14_ipOut_J240 σ x3 x4 p6 x7 Q9 := fun _ z => z
  rcases opt_or p6 with hp | ⟨i24, hp⟩
  · have h := h.1 hp
    have rb := fun Q9 z => rb Q9 (po_n hp z)
    exact ⟨σ, h, ok, fr, fun Q9 hq => rb Q9 hq⟩
  obtain ⟨hq24, h⟩ := h.2 i24 hp
  have rb := fun Q9 z => rb Q9 (po_s hp (And.intro hq24 z))
  obtain ⟨σ25, e9⟩ : ∃ s : St, s = up3 σ 17 i24 0 1 := ⟨_, rfl⟩
  have h := h σ25 e9
  have rb := fun Q9 z => rb Q9 (nm_n e9 z)
  have ok : okS σ25 := by rw [e9]; exact (ok_z ok (by decide) (Or.inr rfl))
  have fr : Fr (mF [57, 58, 59, 60, 68] [] [(14, [18, 23, 25]), (17, [0, 1, 2, 3, 4, 5])] []) σ σ25 := by rw [e9]; exact (Fr.up fr (mF_C (List.mem_of_getElem? (i := 1) rfl) rfl))
  obtain ⟨σ26, e9⟩ : ∃ s : St, s = up3 σ25 17 i24 1 x4 := ⟨_, rfl⟩
  have h := h σ26 e9
  have rb := fun Q9 z => rb Q9 (nm_n e9 z)
  have ok : okS σ26 := by rw [e9]; exact (ok_n ok (by decide))
  have fr : Fr (mF [57, 58, 59, 60, 68] [] [(14, [18, 23, 25]), (17, [0, 1, 2, 3, 4, 5])] []) σ σ26 := by rw [e9]; exact (Fr.up fr (mF_C (List.mem_of_getElem? (i := 1) rfl) rfl))
  obtain ⟨σ27, e9⟩ : ∃ s : St, s = up3 σ26 17 i24 2 (20 + x3) := ⟨_, rfl⟩
  have h := h σ27 e9
  have rb := fun Q9 z => rb Q9 (nm_n e9 z)
  have ok : okS σ27 := by rw [e9]; exact (ok_n ok (by decide))
  have fr : Fr (mF [57, 58, 59, 60, 68] [] [(14, [18, 23, 25]), (17, [0, 1, 2, 3, 4, 5])] []) σ σ27 := by rw [e9]; exact (Fr.up fr (mF_C (List.mem_of_getElem? (i := 1) rfl) rfl))
  obtain ⟨n9, h⟩ := h
  rcases e14_ipOut_L271 hq24 n9 ok h with ⟨σ30, h, ok, fr9, rc⟩
  · have rb := fun Q9 z => rb Q9 (Exists.intro n9 (rc _ _ z))
    have fr := fr.tr (fr9.sub (mF_sub rfl (sub_c (Or.inl rfl) sub_nil) rfl sud_nil))
    by_cases hc : x7 = 0
    · have h := h.2 hc
      have rb := fun Q9 z => rb Q9 (br_u hc z)
      exact ⟨σ30, h, ok, fr, fun Q9 hq => rb Q9 hq⟩
    have h := h.1 hc
    have rb := fun Q9 z => rb Q9 (br_v hc z)
    obtain ⟨σ31, e9⟩ : ∃ s : St, s = up3 σ30 17 i24 3 (σ30 14 0 10) := ⟨_, rfl⟩
    have h := h σ31 e9
    have rb := fun Q9 z => rb Q9 (nm_n e9 z)
    have ok : okS σ31 := by rw [e9]; exact (ok_n ok (by decide))
    have fr : Fr (mF [57, 58, 59, 60, 68] [] [(14, [18, 23, 25]), (17, [0, 1, 2, 3, 4, 5])] []) σ σ31 := by rw [e9]; exact (Fr.up fr (mF_C (List.mem_of_getElem? (i := 1) rfl) rfl))
    obtain ⟨σ32, e9⟩ : ∃ s : St, s = up3 σ31 17 i24 4 1 := ⟨_, rfl⟩
    have h := h σ32 e9
    have rb := fun Q9 z => rb Q9 (nm_n e9 z)
    have ok : okS σ32 := by rw [e9]; exact (ok_n ok (by decide))
    have fr : Fr (mF [57, 58, 59, 60, 68] [] [(14, [18, 23, 25]), (17, [0, 1, 2, 3, 4, 5])] []) σ σ32 := by rw [e9]; exact (Fr.up fr (mF_C (List.mem_of_getElem? (i := 1) rfl) rfl))
    obtain ⟨σ33, e9⟩ : ∃ s : St, s = up3 σ32 14 0 25 ((σ32 14 0 25) + 1) := ⟨_, rfl⟩
    have h := h σ33 e9
    have rb := fun Q9 z => rb Q9 (nm_n e9 z)
    have ok : okS σ33 := by rw [e9]; exact (ok_n ok (by decide))
    have fr : Fr (mF [57, 58, 59, 60, 68] [] [(14, [18, 23, 25]), (17, [0, 1, 2, 3, 4, 5])] []) σ σ33 := by rw [e9]; exact (Fr.up fr (mF_C (List.mem_of_getElem? (i := 0) rfl) rfl))
    obtain ⟨σ34, e9⟩ : ∃ s : St, s = up3 σ33 17 i24 5 (σ33 14 0 25) := ⟨_, rfl⟩
    have h := h σ34 e9
    have rb := fun Q9 z => rb Q9 (nm_n e9 z)
    have ok : okS σ34 := by rw [e9]; exact (ok_n ok (by decide))
    have fr : Fr (mF [57, 58, 59, 60, 68] [] [(14, [18, 23, 25]), (17, [0, 1, 2, 3, 4, 5])] []) σ σ34 := by rw [e9]; exact (Fr.up fr (mF_C (List.mem_of_getElem? (i := 1) rfl) rfl))
    obtain ⟨σ35, h, ok, fr9, rc⟩ := e14_ask ok h
    have fr := fr.tr (fr9.sub (mF_sub rfl sub_nil rfl sud_nil))
    have rb := fun Q9 z => rb Q9 (rc _ z)
    exact ⟨σ35, h, ok, fr, fun Q9 hq => rb Q9 hq⟩
set_option maxHeartbeats 4000000 in
theorem e14_ipOut_J140 {σ : St} {x3 : Int32} {xs0 : Int32} {Q : St → Prop} (ok : okS σ) (h : w14_ipOut_J140 σ x3 xs0 Q) : (∃ (σ' : St), Q σ' ∧ okS σ' ∧ Fr (mF [57, 58, 59, 60, 68] [] [(14, [18, 23, 25]), (17, [0, 1, 2, 3, 4, 5])] []) σ σ' ∧ ∀ (Q9 : St → Prop), Q9 σ' → w14_ipOut_J140 σ x3 xs0 Q9) := by
  have fr : Fr (mF [57, 58, 59, 60, 68] [] [(14, [18, 23, 25]), (17, [0, 1, 2, 3, 4, 5])] []) σ σ := Fr.rf
  have rb : ∀ (Q9 : St → Prop), w14_ipOut_J140 σ x3 xs0 Q9 → w14_ipOut_J140 σ x3 xs0 Q9 := fun _ z => z
  obtain ⟨p15, h, rc⟩ := e14_counting ok h
  have rb := fun Q9 z => rb Q9 (rc _ z)
  rcases opt_or p15 with hp | ⟨i16, hp⟩
  · have h := h.1 hp
    have rb := fun Q9 z => rb Q9 (po_n hp z)
    obtain ⟨p17, h, rc⟩ := e14_packet ok h
    have rb := fun Q9 z => rb Q9 (rc _ z)
    rcases opt_or p17 with hp | ⟨i18, hp⟩
    · have h := h.1 hp
      have rb := fun Q9 z => rb Q9 (po_n hp z)
      obtain ⟨n9, h⟩ := h
      rcases e14_ipOut_L200 ok n9 h with ⟨p6_23, h, rc⟩
      · have rb := fun Q9 z => rb Q9 (Exists.intro n9 (rc _ _ z))
        obtain ⟨σ9, h, ok, fr9, rc⟩ := e14_ipOut_J240 ok h
        exact ⟨σ9, h, ok, fr.tr (fr9.sub (mF_sub rfl sub_nil rfl sud_nil)), fun Q9 hq => rb Q9 (rc Q9 hq)⟩
    obtain ⟨hq18, h⟩ := h.2 i18 hp
    have rb := fun Q9 z => rb Q9 (po_s hp (And.intro hq18 z))
    obtain ⟨n9, h⟩ := h
    rcases e14_ipOut_L200 ok n9 h with ⟨p6_37, h, rc⟩
    · have rb := fun Q9 z => rb Q9 (Exists.intro n9 (rc _ _ z))
      obtain ⟨σ9, h, ok, fr9, rc⟩ := e14_ipOut_J240 ok h
      exact ⟨σ9, h, ok, fr.tr (fr9.sub (mF_sub rfl sub_nil rfl sud_nil)), fun Q9 hq => rb Q9 (rc Q9 hq)⟩
  obtain ⟨hq16, h⟩ := h.2 i16 hp
  have rb := fun Q9 z => rb Q9 (po_s hp (And.intro hq16 z))
  obtain ⟨σ38, h, ok, fr9, rc⟩ := e14_send ok h
  have fr := fr.tr (fr9.sub (mF_sub rfl sub_nil rfl sud_nil))
  have rb := fun Q9 z => rb Q9 (rc _ z)
  exact ⟨σ38, h, ok, fr, fun Q9 hq => rb Q9 hq⟩
set_option maxHeartbeats 4000000 in
theorem e14_ipOut {σ : St} {x1 : Int32} {x2 : Int32} {x3 : Int32} {Q : St → Prop} (ok : okS σ) (h : w14_ipOut σ x1 x2 x3 Q) : (∃ (σ' : St), Q σ' ∧ okS σ' ∧ Fr (mF [57, 58, 59, 60, 68] [] [(14, [18, 23, 24, 25]), (17, [0, 1, 2, 3, 4, 5])] []) σ σ' ∧ ∀ (Q9 : St → Prop), Q9 σ' → w14_ipOut σ x1 x2 x3 Q9) := by
  have fr : Fr (mF [57, 58, 59, 60, 68] [] [(14, [18, 23, 24, 25]), (17, [0, 1, 2, 3, 4, 5])] []) σ σ := Fr.rf
  have rb : ∀ (Q9 : St → Prop), w14_ipOut σ x1 x2 x3 Q9 → w14_ipOut σ x1 x2 x3 Q9 := fun _ z => z
  obtain ⟨σ1, e9⟩ : ∃ s : St, s = up3 σ 14 0 24 (((σ 14 0 24) + 1) &&& 65535) := ⟨_, rfl⟩
  have h := h σ1 e9
  have rb := fun Q9 z => rb Q9 (nm_n e9 z)
  have ok : okS σ1 := by rw [e9]; exact (ok_n ok (by decide))
  have fr : Fr (mF [57, 58, 59, 60, 68] [] [(14, [18, 23, 24, 25]), (17, [0, 1, 2, 3, 4, 5])] []) σ σ1 := by rw [e9]; exact (Fr.up fr (mF_C (List.mem_of_getElem? (i := 0) rfl) rfl))
  obtain ⟨σ2, h, ok, fr9, rc⟩ := e14_put ok h
  have fr := fr.tr (fr9.sub (mF_sub rfl sub_nil rfl sud_nil))
  have rb := fun Q9 z => rb Q9 (rc _ z)
  obtain ⟨σ3, h, ok, fr9, rc⟩ := e14_put ok h
  have fr := fr.tr (fr9.sub (mF_sub rfl sub_nil rfl sud_nil))
  have rb := fun Q9 z => rb Q9 (rc _ z)
  obtain ⟨σ4, h, ok, fr9, rc⟩ := e14_put ok h
  have fr := fr.tr (fr9.sub (mF_sub rfl sub_nil rfl sud_nil))
  have rb := fun Q9 z => rb Q9 (rc _ z)
  obtain ⟨σ5, h, ok, fr9, rc⟩ := e14_put ok h
  have fr := fr.tr (fr9.sub (mF_sub rfl sub_nil rfl sud_nil))
  have rb := fun Q9 z => rb Q9 (rc _ z)
  obtain ⟨σ6, h, ok, fr9, rc⟩ := e14_put ok h
  have fr := fr.tr (fr9.sub (mF_sub rfl sub_nil rfl sud_nil))
  have rb := fun Q9 z => rb Q9 (rc _ z)
  obtain ⟨σ7, h, ok, fr9, rc⟩ := e14_put ok h
  have fr := fr.tr (fr9.sub (mF_sub rfl sub_nil rfl sud_nil))
  have rb := fun Q9 z => rb Q9 (rc _ z)
  obtain ⟨σ8, h, ok, fr9, rc⟩ := e14_put ok h
  have fr := fr.tr (fr9.sub (mF_sub rfl sub_nil rfl sud_nil))
  have rb := fun Q9 z => rb Q9 (rc _ z)
  obtain ⟨σ9, h, ok, fr9, rc⟩ := e14_put ok h
  have fr := fr.tr (fr9.sub (mF_sub rfl sub_nil rfl sud_nil))
  have rb := fun Q9 z => rb Q9 (rc _ z)
  obtain ⟨r10, h, rc⟩ := e14_added (by decide) ok h
  have rb := fun Q9 z => rb Q9 (rc _ z)
  obtain ⟨r11, h, rc⟩ := e14_sixteen ok h
  have rb := fun Q9 z => rb Q9 (rc _ z)
  obtain ⟨σ12, h, ok, fr9, rc⟩ := e14_put ok h
  have fr := fr.tr (fr9.sub (mF_sub rfl sub_nil rfl sud_nil))
  have rb := fun Q9 z => rb Q9 (rc _ z)
  obtain ⟨r13, h, rc⟩ := e14_net ok h
  have rb := fun Q9 z => rb Q9 (rc _ z)
  obtain ⟨r14, h, rc⟩ := e14_net ok h
  have rb := fun Q9 z => rb Q9 (rc _ z)
  by_cases hc : r13 = r14
  · have h := h.2 hc
    have rb := fun Q9 z => rb Q9 (br_u hc z)
    obtain ⟨σ9, h, ok, fr9, rc⟩ := e14_ipOut_J140 ok h
    exact ⟨σ9, h, ok, fr.tr (fr9.sub (mF_sub rfl sub_nil rfl sud_nil)), fun Q9 hq => rb Q9 (rc Q9 hq)⟩
  have h := h.1 hc
  have rb := fun Q9 z => rb Q9 (br_v hc z)
  obtain ⟨σ9, h, ok, fr9, rc⟩ := e14_ipOut_J140 ok h
  exact ⟨σ9, h, ok, fr.tr (fr9.sub (mF_sub rfl sub_nil rfl sud_nil)), fun Q9 hq => rb Q9 (rc Q9 hq)⟩
/-! WebHostModel.say(LWebHostModel$Connection;Ljava/lang/String;)V -/
set_option maxHeartbeats 4000000 in
theorem e14_say_L2 {o1 : Nat} {t2 : Nat} {Q : St → Prop} {K26 : St → Prop} (ho1 : o1 < 16) (ht2 : t2 < nS) :
    ∀ (n : Nat) {σ : St} {x3 : Int32} (ok : okS σ), w14_say_L2 o1 t2 Q K26 n σ x3 → (∃ (σ' : St), K26 σ' ∧ okS σ' ∧ Fr (mF [] [(71, o1)] [] [(15, o1, [26])]) σ σ' ∧ ∀ (Q9 : St → Prop) (K9_26 : St → Prop), K9_26 σ' → w14_say_L2 o1 t2 Q9 K9_26 n σ x3) := by
  intro n
  induction n with
  | zero =>
    intro σ x3 ok h
    exact False.elim h
  | succ n ih =>
    intro σ x3 ok h
    have fr : Fr (mF [] [(71, o1)] [] [(15, o1, [26])]) σ σ := Fr.rf
    have rb : ∀ (Q9 : St → Prop) (K9_26 : St → Prop), w14_say_L2 o1 t2 Q9 K9_26 (n + 1) σ x3 → w14_say_L2 o1 t2 Q9 K9_26 (n + 1) σ x3 := fun _ _ z => z
    obtain ⟨r1, h, rc⟩ := eJ1_length ht2 h
    have rb := fun Q9 K9_26 z => rb Q9 K9_26 (rc _ z)
    by_cases hc : r1 ≤ x3
    · have h := h.1 hc
      have rb := fun Q9 K9_26 z => rb Q9 K9_26 (br_t hc z)
      exact ⟨σ, h, ok, fr, fun Q9 K9_26 hq => rb Q9 K9_26 hq⟩
    have h := h.2 hc
    have rb := fun Q9 K9_26 z => rb Q9 K9_26 (br_f hc z)
    obtain ⟨r2, h, rc⟩ := eJ1_charAt ht2 h
    have rb := fun Q9 K9_26 z => rb Q9 K9_26 (rc _ z)
    obtain ⟨σ3, h, ok, fr9, rc⟩ := e14_code ho1 ok h
    have fr := fr.tr (fr9.sub (mF_sub rfl (sub_c (Or.inr (List.mem_of_getElem? (i := 0) rfl)) sub_nil) rfl (sud_c (Or.inr ⟨_, List.mem_of_getElem? (i := 0) rfl, rfl⟩) sud_nil)))
    have rb := fun Q9 K9_26 z => rb Q9 K9_26 (rc _ z)
    rcases ih ok h with ⟨σ', h, ok, fr9, rc⟩
    · exact ⟨σ', h, ok, fr.tr fr9, fun Q9 K9_26 hq => rb Q9 K9_26 (rc Q9 K9_26 hq)⟩
set_option maxHeartbeats 4000000 in
theorem e14_say {σ : St} {o1 : Nat} {t2 : Nat} {Q : St → Prop} (ho1 : o1 < 16) (ht2 : t2 < nS) (ok : okS σ) (h : w14_say σ o1 t2 Q) : (∃ (σ' : St), Q σ' ∧ okS σ' ∧ Fr (mF [] [(71, o1)] [] [(15, o1, [26])]) σ σ' ∧ ∀ (Q9 : St → Prop), Q9 σ' → w14_say σ o1 t2 Q9) := by
  have fr : Fr (mF [] [(71, o1)] [] [(15, o1, [26])]) σ σ := Fr.rf
  have rb : ∀ (Q9 : St → Prop), w14_say σ o1 t2 Q9 → w14_say σ o1 t2 Q9 := fun _ z => z
  obtain ⟨n9, h⟩ := h
  rcases e14_say_L2 ho1 ht2 n9 ok h with ⟨σ5, h, ok, fr9, rc⟩
  · have rb := fun Q9 z => rb Q9 (Exists.intro n9 (rc _ _ z))
    have fr := fr.tr (fr9.sub (mF_sub rfl (sub_c (Or.inr (List.mem_of_getElem? (i := 0) rfl)) sub_nil) rfl (sud_c (Or.inr ⟨_, List.mem_of_getElem? (i := 0) rfl, rfl⟩) sud_nil)))
    exact ⟨σ5, h, ok, fr, fun Q9 hq => rb Q9 hq⟩
/-! WebHostModel.says(IILjava/lang/String;)Z -/
set_option maxHeartbeats 4000000 in
theorem e14_says_L15 {σ : St} {x1 : Int32} {x2 : Int32} {t3 : Nat} {Q : Int32 → Prop} {K38 : Prop} {K46 : Prop} (ht3 : t3 < nS) (ok : okS σ) :
    ∀ (n : Nat) {x4 : Int32}, w14_says_L15 σ x1 x2 t3 Q K38 K46 n x4 → (K38 ∧ ∀ (Q9 : Int32 → Prop) (K9_38 : Prop) (K9_46 : Prop), K9_38 → w14_says_L15 σ x1 x2 t3 Q9 K9_38 K9_46 n x4) ∨ (K46 ∧ ∀ (Q9 : Int32 → Prop) (K9_38 : Prop) (K9_46 : Prop), K9_46 → w14_says_L15 σ x1 x2 t3 Q9 K9_38 K9_46 n x4) := by
  intro n
  induction n with
  | zero =>
    intro x4 h
    exact False.elim h
  | succ n ih =>
    intro x4 h
    have rb : ∀ (Q9 : Int32 → Prop) (K9_38 : Prop) (K9_46 : Prop), w14_says_L15 σ x1 x2 t3 Q9 K9_38 K9_46 (n + 1) x4 → w14_says_L15 σ x1 x2 t3 Q9 K9_38 K9_46 (n + 1) x4 := fun _ _ _ z => z
    by_cases hc : x2 ≤ x4
    · have h := h.1 hc
      have rb := fun Q9 K9_38 K9_46 z => rb Q9 K9_38 K9_46 (br_t hc z)
      exact (Or.inr ⟨h, fun Q9 K9_38 K9_46 hq => rb Q9 K9_38 K9_46 hq⟩)
    have h := h.2 hc
    have rb := fun Q9 K9_38 K9_46 z => rb Q9 K9_38 K9_46 (br_f hc z)
    obtain ⟨r2, h, rc⟩ := e14_headAt ok h
    have rb := fun Q9 K9_38 K9_46 z => rb Q9 K9_38 K9_46 (rc _ z)
    obtain ⟨r3, h, rc⟩ := eJ1_charAt ht3 h
    have rb := fun Q9 K9_38 K9_46 z => rb Q9 K9_38 K9_46 (rc _ z)
    by_cases hc : r2 = r3
    · have h := h.1 hc
      have rb := fun Q9 K9_38 K9_46 z => rb Q9 K9_38 K9_46 (br_t hc z)
      rcases ih h with ⟨h, rc⟩ | ⟨h, rc⟩
      · exact (Or.inl ⟨h, fun Q9 K9_38 K9_46 hq => rb Q9 K9_38 K9_46 (rc Q9 K9_38 K9_46 hq)⟩)
      · exact (Or.inr ⟨h, fun Q9 K9_38 K9_46 hq => rb Q9 K9_38 K9_46 (rc Q9 K9_38 K9_46 hq)⟩)
    have h := h.2 hc
    have rb := fun Q9 K9_38 K9_46 z => rb Q9 K9_38 K9_46 (br_f hc z)
    exact (Or.inl ⟨h, fun Q9 K9_38 K9_46 hq => rb Q9 K9_38 K9_46 hq⟩)
set_option maxHeartbeats 4000000 in
theorem e14_says {σ : St} {x1 : Int32} {x2 : Int32} {t3 : Nat} {Q : Int32 → Prop} (ht3 : t3 < nS) (ok : okS σ) (h : w14_says σ x1 x2 t3 Q) : (∃ r : Int32, Q r ∧ ∀ (Q9 : Int32 → Prop), Q9 r → w14_says σ x1 x2 t3 Q9) := by
  have rb : ∀ (Q9 : Int32 → Prop), w14_says σ x1 x2 t3 Q9 → w14_says σ x1 x2 t3 Q9 := fun _ z => z
  obtain ⟨r1, h, rc⟩ := eJ1_length ht3 h
  have rb := fun Q9 z => rb Q9 (rc _ z)
  by_cases hc : (x2 - x1) = r1
  · have h := h.1 hc
    have rb := fun Q9 z => rb Q9 (br_t hc z)
    obtain ⟨n9, h⟩ := h
    rcases e14_says_L15 ht3 ok n9 h with ⟨h, rc⟩ | ⟨h, rc⟩
    · have rb := fun Q9 z => rb Q9 (Exists.intro n9 (rc _ _ _ z))
      exact ⟨0, h, fun Q9 hq => rb Q9 hq⟩
    · have rb := fun Q9 z => rb Q9 (Exists.intro n9 (rc _ _ _ z))
      exact ⟨1, h, fun Q9 hq => rb Q9 hq⟩
  have h := h.2 hc
  have rb := fun Q9 z => rb Q9 (br_f hc z)
  exact ⟨0, h, fun Q9 hq => rb Q9 hq⟩
/-! WebHostModel.saysSmall(IILjava/lang/String;)Z -/
set_option maxHeartbeats 4000000 in
theorem e14_saysSmall_L15 {σ : St} {x1 : Int32} {x2 : Int32} {t3 : Nat} {Q : Int32 → Prop} {K41 : Prop} {K49 : Prop} (ht3 : t3 < nS) (ok : okS σ) :
    ∀ (n : Nat) {x4 : Int32}, w14_saysSmall_L15 σ x1 x2 t3 Q K41 K49 n x4 → (K41 ∧ ∀ (Q9 : Int32 → Prop) (K9_41 : Prop) (K9_49 : Prop), K9_41 → w14_saysSmall_L15 σ x1 x2 t3 Q9 K9_41 K9_49 n x4) ∨ (K49 ∧ ∀ (Q9 : Int32 → Prop) (K9_41 : Prop) (K9_49 : Prop), K9_49 → w14_saysSmall_L15 σ x1 x2 t3 Q9 K9_41 K9_49 n x4) := by
  intro n
  induction n with
  | zero =>
    intro x4 h
    exact False.elim h
  | succ n ih =>
    intro x4 h
    have rb : ∀ (Q9 : Int32 → Prop) (K9_41 : Prop) (K9_49 : Prop), w14_saysSmall_L15 σ x1 x2 t3 Q9 K9_41 K9_49 (n + 1) x4 → w14_saysSmall_L15 σ x1 x2 t3 Q9 K9_41 K9_49 (n + 1) x4 := fun _ _ _ z => z
    by_cases hc : x2 ≤ x4
    · have h := h.1 hc
      have rb := fun Q9 K9_41 K9_49 z => rb Q9 K9_41 K9_49 (br_t hc z)
      exact (Or.inr ⟨h, fun Q9 K9_41 K9_49 hq => rb Q9 K9_41 K9_49 hq⟩)
    have h := h.2 hc
    have rb := fun Q9 K9_41 K9_49 z => rb Q9 K9_41 K9_49 (br_f hc z)
    obtain ⟨r2, h, rc⟩ := e14_headAt ok h
    have rb := fun Q9 K9_41 K9_49 z => rb Q9 K9_41 K9_49 (rc _ z)
    obtain ⟨r3, h, rc⟩ := e14_small ok h
    have rb := fun Q9 K9_41 K9_49 z => rb Q9 K9_41 K9_49 (rc _ z)
    obtain ⟨r4, h, rc⟩ := eJ1_charAt ht3 h
    have rb := fun Q9 K9_41 K9_49 z => rb Q9 K9_41 K9_49 (rc _ z)
    by_cases hc : r3 = r4
    · have h := h.1 hc
      have rb := fun Q9 K9_41 K9_49 z => rb Q9 K9_41 K9_49 (br_t hc z)
      rcases ih h with ⟨h, rc⟩ | ⟨h, rc⟩
      · exact (Or.inl ⟨h, fun Q9 K9_41 K9_49 hq => rb Q9 K9_41 K9_49 (rc Q9 K9_41 K9_49 hq)⟩)
      · exact (Or.inr ⟨h, fun Q9 K9_41 K9_49 hq => rb Q9 K9_41 K9_49 (rc Q9 K9_41 K9_49 hq)⟩)
    have h := h.2 hc
    have rb := fun Q9 K9_41 K9_49 z => rb Q9 K9_41 K9_49 (br_f hc z)
    exact (Or.inl ⟨h, fun Q9 K9_41 K9_49 hq => rb Q9 K9_41 K9_49 hq⟩)
set_option maxHeartbeats 4000000 in
theorem e14_saysSmall {σ : St} {x1 : Int32} {x2 : Int32} {t3 : Nat} {Q : Int32 → Prop} (ht3 : t3 < nS) (ok : okS σ) (h : w14_saysSmall σ x1 x2 t3 Q) : (∃ r : Int32, Q r ∧ ∀ (Q9 : Int32 → Prop), Q9 r → w14_saysSmall σ x1 x2 t3 Q9) := by
  have rb : ∀ (Q9 : Int32 → Prop), w14_saysSmall σ x1 x2 t3 Q9 → w14_saysSmall σ x1 x2 t3 Q9 := fun _ z => z
  obtain ⟨r1, h, rc⟩ := eJ1_length ht3 h
  have rb := fun Q9 z => rb Q9 (rc _ z)
  by_cases hc : (x2 - x1) = r1
  · have h := h.1 hc
    have rb := fun Q9 z => rb Q9 (br_t hc z)
    obtain ⟨n9, h⟩ := h
    rcases e14_saysSmall_L15 ht3 ok n9 h with ⟨h, rc⟩ | ⟨h, rc⟩
    · have rb := fun Q9 z => rb Q9 (Exists.intro n9 (rc _ _ _ z))
      exact ⟨0, h, fun Q9 hq => rb Q9 hq⟩
    · have rb := fun Q9 z => rb Q9 (Exists.intro n9 (rc _ _ _ z))
      exact ⟨1, h, fun Q9 hq => rb Q9 hq⟩
  have h := h.2 hc
  have rb := fun Q9 z => rb Q9 (br_f hc z)
  exact ⟨0, h, fun Q9 hq => rb Q9 hq⟩
/-! WebHostModel.unfolded()Z -/
set_option maxHeartbeats 4000000 in
theorem e14_unfolded_J128 {σ : St} {x1 : Int32} {x2 : Int32} {Q : Int32 → St → Prop} {K10 : St → Int32 → Prop} (ok : okS σ) (h : w14_unfolded_J128 σ x1 x2 Q K10) : (∃ (σ' : St) (x1' : Int32), K10 σ' x1' ∧ okS σ' ∧ Fr (mF [67] [] [(14, [59])] []) σ σ' ∧ ∀ (Q9 : Int32 → St → Prop) (K9_10 : St → Int32 → Prop), K9_10 σ' x1' → w14_unfolded_J128 σ x1 x2 Q9 K9_10) := by
  have fr : Fr (mF [67] [] [(14, [59])] []) σ σ := Fr.rf
  have rb : ∀ (Q9 : Int32 → St → Prop) (K9_10 : St → Int32 → Prop), w14_unfolded_J128 σ x1 x2 Q9 K9_10 → w14_unfolded_J128 σ x1 x2 Q9 K9_10 := fun _ _ z => z
  obtain ⟨hc, h⟩ := h
  have rb := fun Q9 K9_10 z => rb Q9 K9_10 (And.intro hc z)
  obtain ⟨σ3, e9⟩ : ∃ s : St, s = up3 σ 67 0 (σ 14 0 59).toNatClampNeg x2.toInt8.toInt32.toInt8.toInt32 := ⟨_, rfl⟩
  have h := h σ3 e9
  have rb := fun Q9 K9_10 z => rb Q9 K9_10 (nm_n e9 z)
  have ok : okS σ3 := by rw [e9]; exact (ok_b ok (tyk_a 67 2 (by decide) (by decide) _))
  have fr : Fr (mF [67] [] [(14, [59])] []) σ σ3 := by rw [e9]; exact (Fr.up fr (mF_A rfl))
  obtain ⟨σ4, e9⟩ : ∃ s : St, s = up3 σ3 14 0 59 ((σ3 14 0 59) + 1) := ⟨_, rfl⟩
  have h := h σ4 e9
  have rb := fun Q9 K9_10 z => rb Q9 K9_10 (nm_n e9 z)
  have ok : okS σ4 := by rw [e9]; exact (ok_n ok (by decide))
  have fr : Fr (mF [67] [] [(14, [59])] []) σ σ4 := by rw [e9]; exact (Fr.up fr (mF_C (List.mem_of_getElem? (i := 0) rfl) rfl))
  exact ⟨σ4, x1, h, ok, fr, fun Q9 K9_10 hq => rb Q9 K9_10 hq⟩
set_option maxHeartbeats 4000000 in
theorem e14_unfolded_J89 {σ : St} {x1 : Int32} {x3 : Int32} {xs0 : Int32} {Q : Int32 → St → Prop} {K10 : St → Int32 → Prop} {K100 : St → Prop} {K122 : St → Prop} (ok : okS σ) (h : w14_unfolded_J89 σ x1 x3 xs0 Q K10 K100 K122) : (∃ (σ' : St) (x1' : Int32), K10 σ' x1' ∧ okS σ' ∧ Fr (mF [67] [] [(14, [59])] []) σ σ' ∧ ∀ (Q9 : Int32 → St → Prop) (K9_10 : St → Int32 → Prop) (K9_100 : St → Prop) (K9_122 : St → Prop), K9_10 σ' x1' → w14_unfolded_J89 σ x1 x3 xs0 Q9 K9_10 K9_100 K9_122) ∨ (∃ (σ' : St), K100 σ' ∧ okS σ' ∧ Fr (mF [67] [] [(14, [59])] []) σ σ' ∧ ∀ (Q9 : Int32 → St → Prop) (K9_10 : St → Int32 → Prop) (K9_100 : St → Prop) (K9_122 : St → Prop), K9_100 σ' → w14_unfolded_J89 σ x1 x3 xs0 Q9 K9_10 K9_100 K9_122) ∨ (∃ (σ' : St), K122 σ' ∧ okS σ' ∧ Fr (mF [67] [] [(14, [59])] []) σ σ' ∧ ∀ (Q9 : Int32 → St → Prop) (K9_10 : St → Int32 → Prop) (K9_100 : St → Prop) (K9_122 : St → Prop), K9_122 σ' → w14_unfolded_J89 σ x1 x3 xs0 Q9 K9_10 K9_100 K9_122) := by
  have fr : Fr (mF [67] [] [(14, [59])] []) σ σ := Fr.rf
  have rb : ∀ (Q9 : Int32 → St → Prop) (K9_10 : St → Int32 → Prop) (K9_100 : St → Prop) (K9_122 : St → Prop), w14_unfolded_J89 σ x1 x3 xs0 Q9 K9_10 K9_100 K9_122 → w14_unfolded_J89 σ x1 x3 xs0 Q9 K9_10 K9_100 K9_122 := fun _ _ _ _ z => z
  by_cases hc : x3 < 0
  · have h := h.1 hc
    have rb := fun Q9 K9_10 K9_100 K9_122 z => rb Q9 K9_10 K9_100 K9_122 (br_t hc z)
    exact (Or.inr (Or.inl ⟨σ, h, ok, fr, fun Q9 K9_10 K9_100 K9_122 hq => rb Q9 K9_10 K9_100 K9_122 hq⟩))
  have h := h.2 hc
  have rb := fun Q9 K9_10 K9_100 K9_122 z => rb Q9 K9_10 K9_100 K9_122 (br_f hc z)
  by_cases hc : 0 ≤ xs0
  · have h := h.1 hc
    have rb := fun Q9 K9_10 K9_100 K9_122 z => rb Q9 K9_10 K9_100 K9_122 (br_t hc z)
    by_cases hc : ((16 * x3) + xs0) < 33
    · have h := h.1 hc
      have rb := fun Q9 K9_10 K9_100 K9_122 z => rb Q9 K9_10 K9_100 K9_122 (br_t hc z)
      exact (Or.inr (Or.inr ⟨σ, h, ok, fr, fun Q9 K9_10 K9_100 K9_122 hq => rb Q9 K9_10 K9_100 K9_122 hq⟩))
    have h := h.2 hc
    have rb := fun Q9 K9_10 K9_100 K9_122 z => rb Q9 K9_10 K9_100 K9_122 (br_f hc z)
    by_cases hc : ((16 * x3) + xs0) ≤ 126
    · have h := h.1 hc
      have rb := fun Q9 K9_10 K9_100 K9_122 z => rb Q9 K9_10 K9_100 K9_122 (br_t hc z)
      rcases e14_unfolded_J128 ok h with ⟨σ', x1, h, ok, fr9, rc⟩
      · have fr := fr.tr (fr9.sub (mF_sub rfl sub_nil rfl sud_nil))
        exact (Or.inl ⟨σ', x1, h, ok, fr, fun Q9 K9_10 K9_100 K9_122 hq => rb Q9 K9_10 K9_100 K9_122 (rc _ _ hq)⟩)
    have h := h.2 hc
    have rb := fun Q9 K9_10 K9_100 K9_122 z => rb Q9 K9_10 K9_100 K9_122 (br_f hc z)
    exact (Or.inr (Or.inr ⟨σ, h, ok, fr, fun Q9 K9_10 K9_100 K9_122 hq => rb Q9 K9_10 K9_100 K9_122 hq⟩))
  have h := h.2 hc
  have rb := fun Q9 K9_10 K9_100 K9_122 z => rb Q9 K9_10 K9_100 K9_122 (br_f hc z)
  exact (Or.inr (Or.inl ⟨σ, h, ok, fr, fun Q9 K9_10 K9_100 K9_122 hq => rb Q9 K9_10 K9_100 K9_122 hq⟩))
set_option maxHeartbeats 4000000 in
theorem e14_unfolded_J64 {σ : St} {x1 : Int32} {xs0 : Int32} {Q : Int32 → St → Prop} {K10 : St → Int32 → Prop} {K100 : St → Prop} {K122 : St → Prop} (ok : okS σ) (h : w14_unfolded_J64 σ x1 xs0 Q K10 K100 K122) : (∃ (σ' : St) (x1' : Int32), K10 σ' x1' ∧ okS σ' ∧ Fr (mF [67] [] [(14, [59])] []) σ σ' ∧ ∀ (Q9 : Int32 → St → Prop) (K9_10 : St → Int32 → Prop) (K9_100 : St → Prop) (K9_122 : St → Prop), K9_10 σ' x1' → w14_unfolded_J64 σ x1 xs0 Q9 K9_10 K9_100 K9_122) ∨ (∃ (σ' : St), K100 σ' ∧ okS σ' ∧ Fr (mF [67] [] [(14, [59])] []) σ σ' ∧ ∀ (Q9 : Int32 → St → Prop) (K9_10 : St → Int32 → Prop) (K9_100 : St → Prop) (K9_122 : St → Prop), K9_100 σ' → w14_unfolded_J64 σ x1 xs0 Q9 K9_10 K9_100 K9_122) ∨ (∃ (σ' : St), K122 σ' ∧ okS σ' ∧ Fr (mF [67] [] [(14, [59])] []) σ σ' ∧ ∀ (Q9 : Int32 → St → Prop) (K9_10 : St → Int32 → Prop) (K9_100 : St → Prop) (K9_122 : St → Prop), K9_122 σ' → w14_unfolded_J64 σ x1 xs0 Q9 K9_10 K9_100 K9_122) := by
  have fr : Fr (mF [67] [] [(14, [59])] []) σ σ := Fr.rf
  have rb : ∀ (Q9 : Int32 → St → Prop) (K9_10 : St → Int32 → Prop) (K9_100 : St → Prop) (K9_122 : St → Prop), w14_unfolded_J64 σ x1 xs0 Q9 K9_10 K9_100 K9_122 → w14_unfolded_J64 σ x1 xs0 Q9 K9_10 K9_100 K9_122 := fun _ _ _ _ z => z
  by_cases hc : (σ 14 0 57) ≤ (x1 + 1)
  · have h := h.1 hc
    have rb := fun Q9 K9_10 K9_100 K9_122 z => rb Q9 K9_10 K9_100 K9_122 (br_t hc z)
    rcases e14_unfolded_J89 ok h with ⟨σ', x1, h, ok, fr9, rc⟩ | ⟨σ', h, ok, fr9, rc⟩ | ⟨σ', h, ok, fr9, rc⟩
    · have fr := fr.tr (fr9.sub (mF_sub rfl sub_nil rfl sud_nil))
      exact (Or.inl ⟨σ', x1, h, ok, fr, fun Q9 K9_10 K9_100 K9_122 hq => rb Q9 K9_10 K9_100 K9_122 (rc _ _ _ _ hq)⟩)
    · have fr := fr.tr (fr9.sub (mF_sub rfl sub_nil rfl sud_nil))
      exact (Or.inr (Or.inl ⟨σ', h, ok, fr, fun Q9 K9_10 K9_100 K9_122 hq => rb Q9 K9_10 K9_100 K9_122 (rc _ _ _ _ hq)⟩))
    · have fr := fr.tr (fr9.sub (mF_sub rfl sub_nil rfl sud_nil))
      exact (Or.inr (Or.inr ⟨σ', h, ok, fr, fun Q9 K9_10 K9_100 K9_122 hq => rb Q9 K9_10 K9_100 K9_122 (rc _ _ _ _ hq)⟩))
  have h := h.2 hc
  have rb := fun Q9 K9_10 K9_100 K9_122 z => rb Q9 K9_10 K9_100 K9_122 (br_f hc z)
  obtain ⟨r5, h, rc⟩ := e14_headAt ok h
  have rb := fun Q9 K9_10 K9_100 K9_122 z => rb Q9 K9_10 K9_100 K9_122 (rc _ z)
  obtain ⟨r6, h, rc⟩ := e14_hexadecimal ok h
  have rb := fun Q9 K9_10 K9_100 K9_122 z => rb Q9 K9_10 K9_100 K9_122 (rc _ z)
  rcases e14_unfolded_J89 ok h with ⟨σ', x1, h, ok, fr9, rc⟩ | ⟨σ', h, ok, fr9, rc⟩ | ⟨σ', h, ok, fr9, rc⟩
  · have fr := fr.tr (fr9.sub (mF_sub rfl sub_nil rfl sud_nil))
    exact (Or.inl ⟨σ', x1, h, ok, fr, fun Q9 K9_10 K9_100 K9_122 hq => rb Q9 K9_10 K9_100 K9_122 (rc _ _ _ _ hq)⟩)
  · have fr := fr.tr (fr9.sub (mF_sub rfl sub_nil rfl sud_nil))
    exact (Or.inr (Or.inl ⟨σ', h, ok, fr, fun Q9 K9_10 K9_100 K9_122 hq => rb Q9 K9_10 K9_100 K9_122 (rc _ _ _ _ hq)⟩))
  · have fr := fr.tr (fr9.sub (mF_sub rfl sub_nil rfl sud_nil))
    exact (Or.inr (Or.inr ⟨σ', h, ok, fr, fun Q9 K9_10 K9_100 K9_122 hq => rb Q9 K9_10 K9_100 K9_122 (rc _ _ _ _ hq)⟩))
set_option maxHeartbeats 4000000 in
theorem e14_unfolded_L10 {Q : Int32 → St → Prop} {K100 : St → Prop} {K122 : St → Prop} {K152 : St → Prop} :
    ∀ (n : Nat) {σ : St} {x1 : Int32} (ok : okS σ), w14_unfolded_L10 Q K100 K122 K152 n σ x1 → (∃ (σ' : St), K100 σ' ∧ okS σ' ∧ Fr (mF [67] [] [(14, [59])] []) σ σ' ∧ ∀ (Q9 : Int32 → St → Prop) (K9_100 : St → Prop) (K9_122 : St → Prop) (K9_152 : St → Prop), K9_100 σ' → w14_unfolded_L10 Q9 K9_100 K9_122 K9_152 n σ x1) ∨ (∃ (σ' : St), K122 σ' ∧ okS σ' ∧ Fr (mF [67] [] [(14, [59])] []) σ σ' ∧ ∀ (Q9 : Int32 → St → Prop) (K9_100 : St → Prop) (K9_122 : St → Prop) (K9_152 : St → Prop), K9_122 σ' → w14_unfolded_L10 Q9 K9_100 K9_122 K9_152 n σ x1) ∨ (∃ (σ' : St), K152 σ' ∧ okS σ' ∧ Fr (mF [67] [] [(14, [59])] []) σ σ' ∧ ∀ (Q9 : Int32 → St → Prop) (K9_100 : St → Prop) (K9_122 : St → Prop) (K9_152 : St → Prop), K9_152 σ' → w14_unfolded_L10 Q9 K9_100 K9_122 K9_152 n σ x1) := by
  intro n
  induction n with
  | zero =>
    intro σ x1 ok h
    exact False.elim h
  | succ n ih =>
    intro σ x1 ok h
    have fr : Fr (mF [67] [] [(14, [59])] []) σ σ := Fr.rf
    have rb : ∀ (Q9 : Int32 → St → Prop) (K9_100 : St → Prop) (K9_122 : St → Prop) (K9_152 : St → Prop), w14_unfolded_L10 Q9 K9_100 K9_122 K9_152 (n + 1) σ x1 → w14_unfolded_L10 Q9 K9_100 K9_122 K9_152 (n + 1) σ x1 := fun _ _ _ _ z => z
    by_cases hc : (σ 14 0 57) ≤ x1
    · have h := h.1 hc
      have rb := fun Q9 K9_100 K9_122 K9_152 z => rb Q9 K9_100 K9_122 K9_152 (br_t hc z)
      exact (Or.inr (Or.inr ⟨σ, h, ok, fr, fun Q9 K9_100 K9_122 K9_152 hq => rb Q9 K9_100 K9_122 K9_152 hq⟩))
    have h := h.2 hc
    have rb := fun Q9 K9_100 K9_122 K9_152 z => rb Q9 K9_100 K9_122 K9_152 (br_f hc z)
    obtain ⟨hc, h⟩ := h
    have rb := fun Q9 K9_100 K9_122 K9_152 z => rb Q9 K9_100 K9_122 K9_152 (And.intro hc z)
    have h := h ((ok 66 0 _).2 (tyk_a 66 2 (by decide) (by decide) _))
    have rb := fun Q9 K9_100 K9_122 K9_152 z => rb Q9 K9_100 K9_122 K9_152 (im_n z)
    by_cases hc : (σ 66 0 x1.toNatClampNeg) = 63
    · have h := h.1 hc
      have rb := fun Q9 K9_100 K9_122 K9_152 z => rb Q9 K9_100 K9_122 K9_152 (br_t hc z)
      exact (Or.inr (Or.inr ⟨σ, h, ok, fr, fun Q9 K9_100 K9_122 K9_152 hq => rb Q9 K9_100 K9_122 K9_152 hq⟩))
    have h := h.2 hc
    have rb := fun Q9 K9_100 K9_122 K9_152 z => rb Q9 K9_100 K9_122 K9_152 (br_f hc z)
    obtain ⟨r2, h, rc⟩ := e14_headAt ok h
    have rb := fun Q9 K9_100 K9_122 K9_152 z => rb Q9 K9_100 K9_122 K9_152 (rc _ z)
    by_cases hc : r2 = 37
    · have h := h.2 hc
      have rb := fun Q9 K9_100 K9_122 K9_152 z => rb Q9 K9_100 K9_122 K9_152 (br_u hc z)
      by_cases hc : (σ 14 0 57) ≤ (x1 + 1)
      · have h := h.1 hc
        have rb := fun Q9 K9_100 K9_122 K9_152 z => rb Q9 K9_100 K9_122 K9_152 (br_t hc z)
        rcases e14_unfolded_J64 ok h with ⟨σ', x1, h, ok, fr9, rc⟩ | ⟨σ', h, ok, fr9, rc⟩ | ⟨σ', h, ok, fr9, rc⟩
        · have fr := fr.tr (fr9.sub (mF_sub rfl sub_nil rfl sud_nil))
          rcases ih ok h with ⟨σ', h, ok, fr9, rd⟩ | ⟨σ', h, ok, fr9, rd⟩ | ⟨σ', h, ok, fr9, rd⟩
          · exact (Or.inl ⟨σ', h, ok, fr.tr fr9, fun Q9 K9_100 K9_122 K9_152 hq => rb Q9 K9_100 K9_122 K9_152 (rc _ _ _ _ (rd Q9 K9_100 K9_122 K9_152 hq))⟩)
          · exact (Or.inr (Or.inl ⟨σ', h, ok, fr.tr fr9, fun Q9 K9_100 K9_122 K9_152 hq => rb Q9 K9_100 K9_122 K9_152 (rc _ _ _ _ (rd Q9 K9_100 K9_122 K9_152 hq))⟩))
          · exact (Or.inr (Or.inr ⟨σ', h, ok, fr.tr fr9, fun Q9 K9_100 K9_122 K9_152 hq => rb Q9 K9_100 K9_122 K9_152 (rc _ _ _ _ (rd Q9 K9_100 K9_122 K9_152 hq))⟩))
        · have fr := fr.tr (fr9.sub (mF_sub rfl sub_nil rfl sud_nil))
          exact (Or.inl ⟨σ', h, ok, fr, fun Q9 K9_100 K9_122 K9_152 hq => rb Q9 K9_100 K9_122 K9_152 (rc _ _ _ _ hq)⟩)
        · have fr := fr.tr (fr9.sub (mF_sub rfl sub_nil rfl sud_nil))
          exact (Or.inr (Or.inl ⟨σ', h, ok, fr, fun Q9 K9_100 K9_122 K9_152 hq => rb Q9 K9_100 K9_122 K9_152 (rc _ _ _ _ hq)⟩))
      have h := h.2 hc
      have rb := fun Q9 K9_100 K9_122 K9_152 z => rb Q9 K9_100 K9_122 K9_152 (br_f hc z)
      obtain ⟨r7, h, rc⟩ := e14_headAt ok h
      have rb := fun Q9 K9_100 K9_122 K9_152 z => rb Q9 K9_100 K9_122 K9_152 (rc _ z)
      obtain ⟨r8, h, rc⟩ := e14_hexadecimal ok h
      have rb := fun Q9 K9_100 K9_122 K9_152 z => rb Q9 K9_100 K9_122 K9_152 (rc _ z)
      rcases e14_unfolded_J64 ok h with ⟨σ', x1, h, ok, fr9, rc⟩ | ⟨σ', h, ok, fr9, rc⟩ | ⟨σ', h, ok, fr9, rc⟩
      · have fr := fr.tr (fr9.sub (mF_sub rfl sub_nil rfl sud_nil))
        rcases ih ok h with ⟨σ', h, ok, fr9, rd⟩ | ⟨σ', h, ok, fr9, rd⟩ | ⟨σ', h, ok, fr9, rd⟩
        · exact (Or.inl ⟨σ', h, ok, fr.tr fr9, fun Q9 K9_100 K9_122 K9_152 hq => rb Q9 K9_100 K9_122 K9_152 (rc _ _ _ _ (rd Q9 K9_100 K9_122 K9_152 hq))⟩)
        · exact (Or.inr (Or.inl ⟨σ', h, ok, fr.tr fr9, fun Q9 K9_100 K9_122 K9_152 hq => rb Q9 K9_100 K9_122 K9_152 (rc _ _ _ _ (rd Q9 K9_100 K9_122 K9_152 hq))⟩))
        · exact (Or.inr (Or.inr ⟨σ', h, ok, fr.tr fr9, fun Q9 K9_100 K9_122 K9_152 hq => rb Q9 K9_100 K9_122 K9_152 (rc _ _ _ _ (rd Q9 K9_100 K9_122 K9_152 hq))⟩))
      · have fr := fr.tr (fr9.sub (mF_sub rfl sub_nil rfl sud_nil))
        exact (Or.inl ⟨σ', h, ok, fr, fun Q9 K9_100 K9_122 K9_152 hq => rb Q9 K9_100 K9_122 K9_152 (rc _ _ _ _ hq)⟩)
      · have fr := fr.tr (fr9.sub (mF_sub rfl sub_nil rfl sud_nil))
        exact (Or.inr (Or.inl ⟨σ', h, ok, fr, fun Q9 K9_100 K9_122 K9_152 hq => rb Q9 K9_100 K9_122 K9_152 (rc _ _ _ _ hq)⟩))
    have h := h.1 hc
    have rb := fun Q9 K9_100 K9_122 K9_152 z => rb Q9 K9_100 K9_122 K9_152 (br_v hc z)
    rcases e14_unfolded_J128 ok h with ⟨σ', x1, h, ok, fr9, rc⟩
    · have fr := fr.tr (fr9.sub (mF_sub rfl sub_nil rfl sud_nil))
      rcases ih ok h with ⟨σ', h, ok, fr9, rd⟩ | ⟨σ', h, ok, fr9, rd⟩ | ⟨σ', h, ok, fr9, rd⟩
      · exact (Or.inl ⟨σ', h, ok, fr.tr fr9, fun Q9 K9_100 K9_122 K9_152 hq => rb Q9 K9_100 K9_122 K9_152 (rc _ _ (rd Q9 K9_100 K9_122 K9_152 hq))⟩)
      · exact (Or.inr (Or.inl ⟨σ', h, ok, fr.tr fr9, fun Q9 K9_100 K9_122 K9_152 hq => rb Q9 K9_100 K9_122 K9_152 (rc _ _ (rd Q9 K9_100 K9_122 K9_152 hq))⟩))
      · exact (Or.inr (Or.inr ⟨σ', h, ok, fr.tr fr9, fun Q9 K9_100 K9_122 K9_152 hq => rb Q9 K9_100 K9_122 K9_152 (rc _ _ (rd Q9 K9_100 K9_122 K9_152 hq))⟩))
set_option maxHeartbeats 4000000 in
theorem e14_unfolded_L174 {t2 : Nat} {Q : Int32 → St → Prop} {K205 : St → Prop} (ht2 : t2 < nS) :
    ∀ (n : Nat) {σ : St} {x3 : Int32} (ok : okS σ), w14_unfolded_L174 t2 Q K205 n σ x3 → (∃ (σ' : St), K205 σ' ∧ okS σ' ∧ Fr (mF [67] [] [] []) σ σ' ∧ ∀ (Q9 : Int32 → St → Prop) (K9_205 : St → Prop), K9_205 σ' → w14_unfolded_L174 t2 Q9 K9_205 n σ x3) := by
  intro n
  induction n with
  | zero =>
    intro σ x3 ok h
    exact False.elim h
  | succ n ih =>
    intro σ x3 ok h
    have fr : Fr (mF [67] [] [] []) σ σ := Fr.rf
    have rb : ∀ (Q9 : Int32 → St → Prop) (K9_205 : St → Prop), w14_unfolded_L174 t2 Q9 K9_205 (n + 1) σ x3 → w14_unfolded_L174 t2 Q9 K9_205 (n + 1) σ x3 := fun _ _ z => z
    obtain ⟨r13, h, rc⟩ := eJ1_length ht2 h
    have rb := fun Q9 K9_205 z => rb Q9 K9_205 (rc _ z)
    by_cases hc : r13 ≤ x3
    · have h := h.1 hc
      have rb := fun Q9 K9_205 z => rb Q9 K9_205 (br_t hc z)
      exact ⟨σ, h, ok, fr, fun Q9 K9_205 hq => rb Q9 K9_205 hq⟩
    have h := h.2 hc
    have rb := fun Q9 K9_205 z => rb Q9 K9_205 (br_f hc z)
    obtain ⟨r14, h, rc⟩ := eJ1_charAt ht2 h
    have rb := fun Q9 K9_205 z => rb Q9 K9_205 (rc _ z)
    obtain ⟨hc, h⟩ := h
    have rb := fun Q9 K9_205 z => rb Q9 K9_205 (And.intro hc z)
    obtain ⟨σ15, e9⟩ : ∃ s : St, s = up3 σ 67 0 ((σ 14 0 59) + x3).toNatClampNeg r14.toInt8.toInt32.toInt8.toInt32 := ⟨_, rfl⟩
    have h := h σ15 e9
    have rb := fun Q9 K9_205 z => rb Q9 K9_205 (nm_n e9 z)
    have ok : okS σ15 := by rw [e9]; exact (ok_b ok (tyk_a 67 2 (by decide) (by decide) _))
    have fr : Fr (mF [67] [] [] []) σ σ15 := by rw [e9]; exact (Fr.up fr (mF_A rfl))
    rcases ih ok h with ⟨σ', h, ok, fr9, rc⟩
    · exact ⟨σ', h, ok, fr.tr fr9, fun Q9 K9_205 hq => rb Q9 K9_205 (rc Q9 K9_205 hq)⟩
set_option maxHeartbeats 4000000 in
theorem e14_unfolded_J152 {σ : St} {Q : Int32 → St → Prop} (ok : okS σ) (h : w14_unfolded_J152 σ Q) : (∃ (r : Int32) (σ' : St), Q r σ' ∧ okS σ' ∧ Fr (mF [67] [] [(14, [59])] []) σ σ' ∧ ∀ (Q9 : Int32 → St → Prop), Q9 r σ' → w14_unfolded_J152 σ Q9) := by
  have fr : Fr (mF [67] [] [(14, [59])] []) σ σ := Fr.rf
  have rb : ∀ (Q9 : Int32 → St → Prop), w14_unfolded_J152 σ Q9 → w14_unfolded_J152 σ Q9 := fun _ z => z
  obtain ⟨hc, h⟩ := h
  have rb := fun Q9 z => rb Q9 (And.intro hc z)
  have h := h ((ok 67 0 _).2 (tyk_a 67 2 (by decide) (by decide) _))
  have rb := fun Q9 z => rb Q9 (im_n z)
  by_cases hc : (σ 67 0 ((σ 14 0 59) - 1).toNatClampNeg) = 47
  · have h := h.2 hc
    have rb := fun Q9 z => rb Q9 (br_u hc z)
    obtain ⟨n9, h⟩ := h
    rcases e14_unfolded_L174 (by decide) n9 ok h with ⟨σ17, h, ok, fr9, rc⟩
    · have rb := fun Q9 z => rb Q9 (Exists.intro n9 (rc _ _ z))
      have fr := fr.tr (fr9.sub (mF_sub rfl sub_nil rfl sud_nil))
      obtain ⟨r18, h, rc⟩ := eJ1_length (by decide) h
      have rb := fun Q9 z => rb Q9 (rc _ z)
      obtain ⟨σ19, e9⟩ : ∃ s : St, s = up3 σ17 14 0 59 ((σ17 14 0 59) + r18) := ⟨_, rfl⟩
      have h := h σ19 e9
      have rb := fun Q9 z => rb Q9 (nm_n e9 z)
      have ok : okS σ19 := by rw [e9]; exact (ok_n ok (by decide))
      have fr : Fr (mF [67] [] [(14, [59])] []) σ σ19 := by rw [e9]; exact (Fr.up fr (mF_C (List.mem_of_getElem? (i := 0) rfl) rfl))
      exact ⟨1, σ19, h, ok, fr, fun Q9 hq => rb Q9 hq⟩
  have h := h.1 hc
  have rb := fun Q9 z => rb Q9 (br_v hc z)
  exact ⟨1, σ, h, ok, fr, fun Q9 hq => rb Q9 hq⟩
set_option maxHeartbeats 4000000 in
theorem e14_unfolded {σ : St} {Q : Int32 → St → Prop} (ok : okS σ) (h : w14_unfolded σ Q) : (∃ (r : Int32) (σ' : St), Q r σ' ∧ okS σ' ∧ Fr (mF [67] [] [(14, [59])] []) σ σ' ∧ ∀ (Q9 : Int32 → St → Prop), Q9 r σ' → w14_unfolded σ Q9) := by
  have fr : Fr (mF [67] [] [(14, [59])] []) σ σ := Fr.rf
  have rb : ∀ (Q9 : Int32 → St → Prop), w14_unfolded σ Q9 → w14_unfolded σ Q9 := fun _ z => z
  obtain ⟨σ1, e9⟩ : ∃ s : St, s = up3 σ 14 0 59 0 := ⟨_, rfl⟩
  have h := h σ1 e9
  have rb := fun Q9 z => rb Q9 (nm_n e9 z)
  have ok : okS σ1 := by rw [e9]; exact (ok_n ok (by decide))
  have fr : Fr (mF [67] [] [(14, [59])] []) σ σ1 := by rw [e9]; exact (Fr.up fr (mF_C (List.mem_of_getElem? (i := 0) rfl) rfl))
  obtain ⟨n9, h⟩ := h
  rcases e14_unfolded_L10 n9 ok h with ⟨σ10, h, ok, fr9, rc⟩ | ⟨σ11, h, ok, fr9, rc⟩ | ⟨σ12, h, ok, fr9, rc⟩
  · have rb := fun Q9 z => rb Q9 (Exists.intro n9 (rc _ _ _ _ z))
    have fr := fr.tr (fr9.sub (mF_sub rfl sub_nil rfl sud_nil))
    exact ⟨0, σ10, h, ok, fr, fun Q9 hq => rb Q9 hq⟩
  · have rb := fun Q9 z => rb Q9 (Exists.intro n9 (rc _ _ _ _ z))
    have fr := fr.tr (fr9.sub (mF_sub rfl sub_nil rfl sud_nil))
    exact ⟨0, σ11, h, ok, fr, fun Q9 hq => rb Q9 hq⟩
  · have rb := fun Q9 z => rb Q9 (Exists.intro n9 (rc _ _ _ _ z))
    have fr := fr.tr (fr9.sub (mF_sub rfl sub_nil rfl sud_nil))
    obtain ⟨r9, σ9, h, ok, fr9, rc⟩ := e14_unfolded_J152 ok h
    exact ⟨r9, σ9, h, ok, fr.tr (fr9.sub (mF_sub rfl sub_nil rfl sud_nil)), fun Q9 hq => rb Q9 (rc Q9 hq)⟩
/-! WebHost.boot(IIIII)I -/
set_option maxHeartbeats 4000000 in
theorem e0_boot_L137 {x7 : Int32} {Q : Int32 → St → Prop} {K160 : St → Prop} :
    ∀ (n : Nat) {σ : St} {x8 : Int32} (ok : okS σ), w0_boot_L137 x7 Q K160 n σ x8 → (∃ (σ' : St), K160 σ' ∧ okS σ' ∧ Fr (mF [] [] [(11, [2, 29, 33])] []) σ σ' ∧ ∀ (Q9 : Int32 → St → Prop) (K9_160 : St → Prop), K9_160 σ' → w0_boot_L137 x7 Q9 K9_160 n σ x8) := by
  intro n
  induction n with
  | zero =>
    intro σ x8 ok h
    exact False.elim h
  | succ n ih =>
    intro σ x8 ok h
    have fr : Fr (mF [] [] [(11, [2, 29, 33])] []) σ σ := Fr.rf
    have rb : ∀ (Q9 : Int32 → St → Prop) (K9_160 : St → Prop), w0_boot_L137 x7 Q9 K9_160 (n + 1) σ x8 → w0_boot_L137 x7 Q9 K9_160 (n + 1) σ x8 := fun _ _ z => z
    by_cases hc : 16 ≤ x8
    · have h := h.1 hc
      have rb := fun Q9 K9_160 z => rb Q9 K9_160 (br_t hc z)
      exact ⟨σ, h, ok, fr, fun Q9 K9_160 hq => rb Q9 K9_160 hq⟩
    have h := h.2 hc
    have rb := fun Q9 K9_160 z => rb Q9 K9_160 (br_f hc z)
    obtain ⟨hc, h⟩ := h
    have rb := fun Q9 K9_160 z => rb Q9 K9_160 (And.intro hc z)
    have hq9 := vp_lt hc
    obtain ⟨σ10, h, ok, fr9, rc⟩ := e11_gone hq9 ok h
    have fr := fr.tr (fr9.sub (mF_sub rfl sub_nil rfl (sud_c (Or.inl ⟨_, List.mem_of_getElem? (i := 0) rfl, rfl⟩) sud_nil)))
    have rb := fun Q9 K9_160 z => rb Q9 K9_160 (rc _ z)
    rcases ih ok h with ⟨σ', h, ok, fr9, rc⟩
    · exact ⟨σ', h, ok, fr.tr fr9, fun Q9 K9_160 hq => rb Q9 K9_160 (rc Q9 K9_160 hq)⟩
set_option maxHeartbeats 4000000 in
theorem e0_boot {σ : St} {x1 : Int32} {x2 : Int32} {x3 : Int32} {x4 : Int32} {x5 : Int32} {Q : Int32 → St → Prop} (ok : okS σ) (h : w0_boot σ x1 x2 x3 x4 x5 Q) : (∃ (r : Int32) (σ' : St), Q r σ' ∧ okS σ' ∧ Fr (mF [22, 27] [] [(0, [11, 12, 13]), (1, [1, 3, 103]), (11, [2, 29, 33]), (2, [3, 4]), (3, [1, 2, 3, 7, 9]), (5, [1, 2]), (6, [1, 2]), (8, [2, 3, 4, 5, 6, 7, 8])] []) σ σ' ∧ ∀ (Q9 : Int32 → St → Prop), Q9 r σ' → w0_boot σ x1 x2 x3 x4 x5 Q9) := by
  have fr : Fr (mF [22, 27] [] [(0, [11, 12, 13]), (1, [1, 3, 103]), (11, [2, 29, 33]), (2, [3, 4]), (3, [1, 2, 3, 7, 9]), (5, [1, 2]), (6, [1, 2]), (8, [2, 3, 4, 5, 6, 7, 8])] []) σ σ := Fr.rf
  have rb : ∀ (Q9 : Int32 → St → Prop), w0_boot σ x1 x2 x3 x4 x5 Q9 → w0_boot σ x1 x2 x3 x4 x5 Q9 := fun _ z => z
  by_cases hc : x2 < 8
  · have h := h.1 hc
    have rb := fun Q9 z => rb Q9 (br_t hc z)
    exact ⟨(-1), σ, h, ok, fr, fun Q9 hq => rb Q9 hq⟩
  have h := h.2 hc
  have rb := fun Q9 z => rb Q9 (br_f hc z)
  by_cases hc : 30 < x2
  · have h := h.1 hc
    have rb := fun Q9 z => rb Q9 (br_t hc z)
    exact ⟨(-1), σ, h, ok, fr, fun Q9 hq => rb Q9 hq⟩
  have h := h.2 hc
  have rb := fun Q9 z => rb Q9 (br_f hc z)
  obtain ⟨r1, h, rc⟩ := e19_isUsual ok h
  have rb := fun Q9 z => rb Q9 (rc _ z)
  by_cases hc : r1 = 0
  · have h := h.2 hc
    have rb := fun Q9 z => rb Q9 (br_u hc z)
    exact ⟨(-1), σ, h, ok, fr, fun Q9 hq => rb Q9 hq⟩
  have h := h.1 hc
  have rb := fun Q9 z => rb Q9 (br_v hc z)
  by_cases hc : (x3 &&& ((-1) <<< ((32 - x2) &&& 31))) = (x1 &&& ((-1) <<< ((32 - x2) &&& 31)))
  · have h := h.2 hc
    have rb := fun Q9 z => rb Q9 (br_u hc z)
    by_cases hc : x3 = x1
    · have h := h.1 hc
      have rb := fun Q9 z => rb Q9 (br_t hc z)
      exact ⟨(-2), σ, h, ok, fr, fun Q9 hq => rb Q9 hq⟩
    have h := h.2 hc
    have rb := fun Q9 z => rb Q9 (br_f hc z)
    by_cases hc : ((x4 >>> ((8 : Int32) &&& 31)) &&& 1) = 1
    · have h := h.2 hc
      have rb := fun Q9 z => rb Q9 (br_u hc z)
      exact ⟨(-2), σ, h, ok, fr, fun Q9 hq => rb Q9 hq⟩
    have h := h.1 hc
    have rb := fun Q9 z => rb Q9 (br_v hc z)
    obtain ⟨r2, σ2, h, ok, fr9, rc⟩ := e1_open ok h
    have fr := fr.tr (fr9.sub (mF_sub rfl sub_nil rfl sud_nil))
    have rb := fun Q9 z => rb Q9 (rc _ z)
    by_cases hc : 0 ≤ r2
    · have h := h.1 hc
      have rb := fun Q9 z => rb Q9 (br_t hc z)
      obtain ⟨σ3, e9⟩ : ∃ s : St, s = up3 σ2 0 0 12 x1 := ⟨_, rfl⟩
      have h := h σ3 e9
      have rb := fun Q9 z => rb Q9 (nm_n e9 z)
      have ok : okS σ3 := by rw [e9]; exact (ok_n ok (by decide))
      have fr : Fr (mF [22, 27] [] [(0, [11, 12, 13]), (1, [1, 3, 103]), (11, [2, 29, 33]), (2, [3, 4]), (3, [1, 2, 3, 7, 9]), (5, [1, 2]), (6, [1, 2]), (8, [2, 3, 4, 5, 6, 7, 8])] []) σ σ3 := by rw [e9]; exact (Fr.up fr (mF_C (List.mem_of_getElem? (i := 0) rfl) rfl))
      obtain ⟨σ4, h, ok, fr9, rc⟩ := e2_begin ok h
      have fr := fr.tr (fr9.sub (mF_sub rfl sub_nil rfl sud_nil))
      have rb := fun Q9 z => rb Q9 (rc _ z)
      obtain ⟨σ5, h, ok, fr9, rc⟩ := e3_begin ok h
      have fr := fr.tr (fr9.sub (mF_sub rfl sub_nil rfl sud_nil))
      have rb := fun Q9 z => rb Q9 (rc _ z)
      obtain ⟨σ6, h, ok, fr9, rc⟩ := e5_begin ok h
      have fr := fr.tr (fr9.sub (mF_sub rfl sub_nil rfl sud_nil))
      have rb := fun Q9 z => rb Q9 (rc _ z)
      obtain ⟨σ7, h, ok, fr9, rc⟩ := e6_begin ok h
      have fr := fr.tr (fr9.sub (mF_sub rfl sub_nil rfl sud_nil))
      have rb := fun Q9 z => rb Q9 (rc _ z)
      obtain ⟨σ8, h, ok, fr9, rc⟩ := e8_begin ok h
      have fr := fr.tr (fr9.sub (mF_sub rfl sub_nil rfl sud_nil))
      have rb := fun Q9 z => rb Q9 (rc _ z)
      obtain ⟨n9, h⟩ := h
      rcases e0_boot_L137 n9 ok h with ⟨σ12, h, ok, fr9, rc⟩
      · have rb := fun Q9 z => rb Q9 (Exists.intro n9 (rc _ _ z))
        have fr := fr.tr (fr9.sub (mF_sub rfl sub_nil rfl sud_nil))
        obtain ⟨σ13, e9⟩ : ∃ s : St, s = up3 σ12 0 0 13 0 := ⟨_, rfl⟩
        have h := h σ13 e9
        have rb := fun Q9 z => rb Q9 (nm_n e9 z)
        have ok : okS σ13 := by rw [e9]; exact (ok_n ok (by decide))
        have fr : Fr (mF [22, 27] [] [(0, [11, 12, 13]), (1, [1, 3, 103]), (11, [2, 29, 33]), (2, [3, 4]), (3, [1, 2, 3, 7, 9]), (5, [1, 2]), (6, [1, 2]), (8, [2, 3, 4, 5, 6, 7, 8])] []) σ σ13 := by rw [e9]; exact (Fr.up fr (mF_C (List.mem_of_getElem? (i := 0) rfl) rfl))
        obtain ⟨σ14, e9⟩ : ∃ s : St, s = up3 σ13 0 0 11 1 := ⟨_, rfl⟩
        have h := h σ14 e9
        have rb := fun Q9 z => rb Q9 (nm_n e9 z)
        have ok : okS σ14 := by rw [e9]; exact (ok_z ok (by decide) (Or.inr rfl))
        have fr : Fr (mF [22, 27] [] [(0, [11, 12, 13]), (1, [1, 3, 103]), (11, [2, 29, 33]), (2, [3, 4]), (3, [1, 2, 3, 7, 9]), (5, [1, 2]), (6, [1, 2]), (8, [2, 3, 4, 5, 6, 7, 8])] []) σ σ14 := by rw [e9]; exact (Fr.up fr (mF_C (List.mem_of_getElem? (i := 0) rfl) rfl))
        exact ⟨r2, σ14, h, ok, fr, fun Q9 hq => rb Q9 hq⟩
    have h := h.2 hc
    have rb := fun Q9 z => rb Q9 (br_f hc z)
    exact ⟨(-3), σ2, h, ok, fr, fun Q9 hq => rb Q9 hq⟩
  have h := h.1 hc
  have rb := fun Q9 z => rb Q9 (br_v hc z)
  exact ⟨(-2), σ, h, ok, fr, fun Q9 hq => rb Q9 hq⟩
/-! WebHost.echo([BIII)V -/
set_option maxHeartbeats 4000000 in
theorem e0_echo {σ : St} {k1 : Nat} {i1 : Nat} {x2 : Int32} {x3 : Int32} {x4 : Int32} {Q : St → Prop} (hk1 : abc k1 i1 = true) (ok : okS σ) (h : w0_echo σ k1 i1 x2 x3 x4 Q) : (∃ (σ' : St), Q σ' ∧ okS σ' ∧ Fr (mF [23, 25, 26, 32, 35, 36] [] [(2, [3]), (3, [9]), (4, [0, 1, 2, 4]), (5, [2])] []) σ σ' ∧ ∀ (Q9 : St → Prop), Q9 σ' → w0_echo σ k1 i1 x2 x3 x4 Q9) := by
  have fr : Fr (mF [23, 25, 26, 32, 35, 36] [] [(2, [3]), (3, [9]), (4, [0, 1, 2, 4]), (5, [2])] []) σ σ := Fr.rf
  have rb : ∀ (Q9 : St → Prop), w0_echo σ k1 i1 x2 x3 x4 Q9 → w0_echo σ k1 i1 x2 x3 x4 Q9 := fun _ z => z
  by_cases hc : x3 < 8
  · have h := h.1 hc
    have rb := fun Q9 z => rb Q9 (br_t hc z)
    exact ⟨σ, h, ok, fr, fun Q9 hq => rb Q9 hq⟩
  have h := h.2 hc
  have rb := fun Q9 z => rb Q9 (br_f hc z)
  by_cases hc : 1480 < x3
  · have h := h.1 hc
    have rb := fun Q9 z => rb Q9 (br_t hc z)
    exact ⟨σ, h, ok, fr, fun Q9 hq => rb Q9 hq⟩
  have h := h.2 hc
  have rb := fun Q9 z => rb Q9 (br_f hc z)
  obtain ⟨hc, h⟩ := h
  have rb := fun Q9 z => rb Q9 (And.intro hc z)
  have h := h ((ok k1 i1 _).2 ((ab_spec (abc_spec hk1).1).2.2.2.2.2.2.2 _))
  have rb := fun Q9 z => rb Q9 (im_n z)
  by_cases hc : (σ k1 i1 x2.toNatClampNeg) = 8
  · have h := h.2 hc
    have rb := fun Q9 z => rb Q9 (br_u hc z)
    obtain ⟨hc, h⟩ := h
    have rb := fun Q9 z => rb Q9 (And.intro hc z)
    have h := h ((ok k1 i1 _).2 ((ab_spec (abc_spec hk1).1).2.2.2.2.2.2.2 _))
    have rb := fun Q9 z => rb Q9 (im_n z)
    by_cases hc : (σ k1 i1 (x2 + 1).toNatClampNeg) = 0
    · have h := h.2 hc
      have rb := fun Q9 z => rb Q9 (br_u hc z)
      obtain ⟨r1, h, rc⟩ := e19_added hk1 ok h
      have rb := fun Q9 z => rb Q9 (rc _ z)
      obtain ⟨r2, h, rc⟩ := e19_folded ok h
      have rb := fun Q9 z => rb Q9 (rc _ z)
      by_cases hc : r2 = 0
      · have h := h.1 hc
        have rb := fun Q9 z => rb Q9 (br_t hc z)
        obtain ⟨σ3, h, ok, fr9, rc⟩ := e19_copy hk1 (by decide) ok h
        have fr := fr.tr (fr9.sub (mF_mR (Or.inl rfl)))
        have rb := fun Q9 z => rb Q9 (rc _ z)
        obtain ⟨hc, h⟩ := h
        have rb := fun Q9 z => rb Q9 (And.intro hc z)
        obtain ⟨σ4, e9⟩ : ∃ s : St, s = up3 σ3 36 0 (20 : Int32).toNatClampNeg (0 : Int32).toInt8.toInt32 := ⟨_, rfl⟩
        have h := h σ4 e9
        have rb := fun Q9 z => rb Q9 (nm_n e9 z)
        have ok : okS σ4 := by rw [e9]; exact (ok_b ok (tyk_a 36 2 (by decide) (by decide) _))
        have fr : Fr (mF [23, 25, 26, 32, 35, 36] [] [(2, [3]), (3, [9]), (4, [0, 1, 2, 4]), (5, [2])] []) σ σ4 := by rw [e9]; exact (Fr.up fr (mF_A rfl))
        obtain ⟨σ5, h, ok, fr9, rc⟩ := e19_putTwo (by decide) ok h
        have fr := fr.tr (fr9.sub (mF_mR (Or.inl rfl)))
        have rb := fun Q9 z => rb Q9 (rc _ z)
        obtain ⟨r6, h, rc⟩ := e19_added (by decide) ok h
        have rb := fun Q9 z => rb Q9 (rc _ z)
        obtain ⟨r7, h, rc⟩ := e19_folded ok h
        have rb := fun Q9 z => rb Q9 (rc _ z)
        obtain ⟨σ8, h, ok, fr9, rc⟩ := e19_putTwo (by decide) ok h
        have fr := fr.tr (fr9.sub (mF_mR (Or.inl rfl)))
        have rb := fun Q9 z => rb Q9 (rc _ z)
        obtain ⟨σ9, h, ok, fr9, rc⟩ := e5_send ok h
        have fr := fr.tr (fr9.sub (mF_sub rfl sub_nil rfl sud_nil))
        have rb := fun Q9 z => rb Q9 (rc _ z)
        exact ⟨σ9, h, ok, fr, fun Q9 hq => rb Q9 hq⟩
      have h := h.2 hc
      have rb := fun Q9 z => rb Q9 (br_f hc z)
      exact ⟨σ, h, ok, fr, fun Q9 hq => rb Q9 hq⟩
    have h := h.1 hc
    have rb := fun Q9 z => rb Q9 (br_v hc z)
    exact ⟨σ, h, ok, fr, fun Q9 hq => rb Q9 hq⟩
  have h := h.1 hc
  have rb := fun Q9 z => rb Q9 (br_v hc z)
  exact ⟨σ, h, ok, fr, fun Q9 hq => rb Q9 hq⟩
/-! WebHost$Wire.send(IIIIIII[BII)V -/
set_option maxHeartbeats 4000000 in
theorem e8_send_J133 {σ : St} {x1 : Int32} {x10 : Int32} {x12 : Int32} {Q : St → Prop} (ok : okS σ) (h : w8_send_J133 σ x1 x10 x12 Q) : (∃ (σ' : St), Q σ' ∧ okS σ' ∧ Fr (mF [23, 25, 26, 32, 35, 36] [] [(2, [3]), (3, [9]), (4, [0, 1, 2, 4]), (5, [2])] []) σ σ' ∧ ∀ (Q9 : St → Prop), Q9 σ' → w8_send_J133 σ x1 x10 x12 Q9) := by
  have fr : Fr (mF [23, 25, 26, 32, 35, 36] [] [(2, [3]), (3, [9]), (4, [0, 1, 2, 4]), (5, [2])] []) σ σ := Fr.rf
  have rb : ∀ (Q9 : St → Prop), w8_send_J133 σ x1 x10 x12 Q9 → w8_send_J133 σ x1 x10 x12 Q9 := fun _ z => z
  obtain ⟨r9, h, rc⟩ := e19_added (by decide) ok h
  have rb := fun Q9 z => rb Q9 (rc _ z)
  obtain ⟨r10, h, rc⟩ := e19_folded ok h
  have rb := fun Q9 z => rb Q9 (rc _ z)
  obtain ⟨σ11, h, ok, fr9, rc⟩ := e19_putTwo (by decide) ok h
  have fr := fr.tr (fr9.sub (mF_mR (Or.inl rfl)))
  have rb := fun Q9 z => rb Q9 (rc _ z)
  obtain ⟨σ12, h, ok, fr9, rc⟩ := e5_send ok h
  have fr := fr.tr (fr9.sub (mF_sub rfl sub_nil rfl sud_nil))
  have rb := fun Q9 z => rb Q9 (rc _ z)
  exact ⟨σ12, h, ok, fr, fun Q9 hq => rb Q9 hq⟩
set_option maxHeartbeats 4000000 in
theorem e8_send_J112 {σ : St} {x1 : Int32} {k8 : Nat} {i8 : Nat} {x9 : Int32} {x10 : Int32} {x12 : Int32} {Q : St → Prop} (ok : okS σ) (h : w8_send_J112 σ x1 k8 i8 x9 x10 x12 Q) : (∃ (σ' : St), Q σ' ∧ okS σ' ∧ Fr (mF [23, 25, 26, 32, 35, 36] [] [(2, [3]), (3, [9]), (4, [0, 1, 2, 4]), (5, [2])] []) σ σ' ∧ ∀ (Q9 : St → Prop), Q9 σ' → w8_send_J112 σ x1 k8 i8 x9 x10 x12 Q9) := by
  have fr : Fr (mF [23, 25, 26, 32, 35, 36] [] [(2, [3]), (3, [9]), (4, [0, 1, 2, 4]), (5, [2])] []) σ σ := Fr.rf
  have rb : ∀ (Q9 : St → Prop), w8_send_J112 σ x1 k8 i8 x9 x10 x12 Q9 → w8_send_J112 σ x1 k8 i8 x9 x10 x12 Q9 := fun _ z => z
  by_cases hc : x10 ≤ 0
  · have h := h.1 hc
    have rb := fun Q9 z => rb Q9 (br_t hc z)
    obtain ⟨σ9, h, ok, fr9, rc⟩ := e8_send_J133 ok h
    exact ⟨σ9, h, ok, fr.tr (fr9.sub (mF_sub rfl sub_nil rfl sud_nil)), fun Q9 hq => rb Q9 (rc Q9 hq)⟩
  have h := h.2 hc
  have rb := fun Q9 z => rb Q9 (br_f hc z)
  obtain ⟨hq13, h⟩ := h
  have rb := fun Q9 z => rb Q9 (And.intro hq13 z)
  obtain ⟨σ14, h, ok, fr9, rc⟩ := e19_copy hq13 (by decide) ok h
  have fr := fr.tr (fr9.sub (mF_mR (Or.inl rfl)))
  have rb := fun Q9 z => rb Q9 (rc _ z)
  obtain ⟨σ9, h, ok, fr9, rc⟩ := e8_send_J133 ok h
  exact ⟨σ9, h, ok, fr.tr (fr9.sub (mF_sub rfl sub_nil rfl sud_nil)), fun Q9 hq => rb Q9 (rc Q9 hq)⟩
set_option maxHeartbeats 4000000 in
theorem e8_send_J23 {σ : St} {x1 : Int32} {x2 : Int32} {x3 : Int32} {x4 : Int32} {x5 : Int32} {x6 : Int32} {x7 : Int32} {k8 : Nat} {i8 : Nat} {x9 : Int32} {x10 : Int32} {xs0 : Int32} {Q : St → Prop} (ok : okS σ) (h : w8_send_J23 σ x1 x2 x3 x4 x5 x6 x7 k8 i8 x9 x10 xs0 Q) : (∃ (σ' : St), Q σ' ∧ okS σ' ∧ Fr (mF [23, 25, 26, 32, 35, 36] [] [(2, [3]), (3, [9]), (4, [0, 1, 2, 4]), (5, [2])] []) σ σ' ∧ ∀ (Q9 : St → Prop), Q9 σ' → w8_send_J23 σ x1 x2 x3 x4 x5 x6 x7 k8 i8 x9 x10 xs0 Q9) := by
  have fr : Fr (mF [23, 25, 26, 32, 35, 36] [] [(2, [3]), (3, [9]), (4, [0, 1, 2, 4]), (5, [2])] []) σ σ := Fr.rf
  have rb : ∀ (Q9 : St → Prop), w8_send_J23 σ x1 x2 x3 x4 x5 x6 x7 k8 i8 x9 x10 xs0 Q9 → w8_send_J23 σ x1 x2 x3 x4 x5 x6 x7 k8 i8 x9 x10 xs0 Q9 := fun _ z => z
  obtain ⟨σ1, h, ok, fr9, rc⟩ := e19_putTwo (by decide) ok h
  have fr := fr.tr (fr9.sub (mF_mR (Or.inl rfl)))
  have rb := fun Q9 z => rb Q9 (rc _ z)
  obtain ⟨σ2, h, ok, fr9, rc⟩ := e19_putTwo (by decide) ok h
  have fr := fr.tr (fr9.sub (mF_mR (Or.inl rfl)))
  have rb := fun Q9 z => rb Q9 (rc _ z)
  obtain ⟨σ3, h, ok, fr9, rc⟩ := e19_putFour (by decide) ok h
  have fr := fr.tr (fr9.sub (mF_mR (Or.inl rfl)))
  have rb := fun Q9 z => rb Q9 (rc _ z)
  obtain ⟨σ4, h, ok, fr9, rc⟩ := e19_putFour (by decide) ok h
  have fr := fr.tr (fr9.sub (mF_mR (Or.inl rfl)))
  have rb := fun Q9 z => rb Q9 (rc _ z)
  obtain ⟨hc, h⟩ := h
  have rb := fun Q9 z => rb Q9 (And.intro hc z)
  obtain ⟨σ5, e9⟩ : ∃ s : St, s = up3 σ4 36 0 (32 : Int32).toNatClampNeg (((xs0 / 4) <<< ((4 : Int32) &&& 31)).toInt8.toInt32).toInt8.toInt32 := ⟨_, rfl⟩
  have h := h σ5 e9
  have rb := fun Q9 z => rb Q9 (nm_n e9 z)
  have ok : okS σ5 := by rw [e9]; exact (ok_b ok (tyk_a 36 2 (by decide) (by decide) _))
  have fr : Fr (mF [23, 25, 26, 32, 35, 36] [] [(2, [3]), (3, [9]), (4, [0, 1, 2, 4]), (5, [2])] []) σ σ5 := by rw [e9]; exact (Fr.up fr (mF_A rfl))
  obtain ⟨hc, h⟩ := h
  have rb := fun Q9 z => rb Q9 (And.intro hc z)
  obtain ⟨σ6, e9⟩ : ∃ s : St, s = up3 σ5 36 0 (33 : Int32).toNatClampNeg x6.toInt8.toInt32.toInt8.toInt32 := ⟨_, rfl⟩
  have h := h σ6 e9
  have rb := fun Q9 z => rb Q9 (nm_n e9 z)
  have ok : okS σ6 := by rw [e9]; exact (ok_b ok (tyk_a 36 2 (by decide) (by decide) _))
  have fr : Fr (mF [23, 25, 26, 32, 35, 36] [] [(2, [3]), (3, [9]), (4, [0, 1, 2, 4]), (5, [2])] []) σ σ6 := by rw [e9]; exact (Fr.up fr (mF_A rfl))
  obtain ⟨σ7, h, ok, fr9, rc⟩ := e19_putTwo (by decide) ok h
  have fr := fr.tr (fr9.sub (mF_mR (Or.inl rfl)))
  have rb := fun Q9 z => rb Q9 (rc _ z)
  obtain ⟨σ8, h, ok, fr9, rc⟩ := e19_putFour (by decide) ok h
  have fr := fr.tr (fr9.sub (mF_mR (Or.inl rfl)))
  have rb := fun Q9 z => rb Q9 (rc _ z)
  by_cases hc : xs0 = 24
  · have h := h.2 hc
    have rb := fun Q9 z => rb Q9 (br_u hc z)
    obtain ⟨σ15, h, ok, fr9, rc⟩ := e19_putFour (by decide) ok h
    have fr := fr.tr (fr9.sub (mF_mR (Or.inl rfl)))
    have rb := fun Q9 z => rb Q9 (rc _ z)
    obtain ⟨σ9, h, ok, fr9, rc⟩ := e8_send_J112 ok h
    exact ⟨σ9, h, ok, fr.tr (fr9.sub (mF_sub rfl sub_nil rfl sud_nil)), fun Q9 hq => rb Q9 (rc Q9 hq)⟩
  have h := h.1 hc
  have rb := fun Q9 z => rb Q9 (br_v hc z)
  obtain ⟨σ9, h, ok, fr9, rc⟩ := e8_send_J112 ok h
  exact ⟨σ9, h, ok, fr.tr (fr9.sub (mF_sub rfl sub_nil rfl sud_nil)), fun Q9 hq => rb Q9 (rc Q9 hq)⟩
set_option maxHeartbeats 4000000 in
theorem e8_send {σ : St} {x1 : Int32} {x2 : Int32} {x3 : Int32} {x4 : Int32} {x5 : Int32} {x6 : Int32} {x7 : Int32} {k8 : Nat} {i8 : Nat} {x9 : Int32} {x10 : Int32} {Q : St → Prop} (ok : okS σ) (h : w8_send σ x1 x2 x3 x4 x5 x6 x7 k8 i8 x9 x10 Q) : (∃ (σ' : St), Q σ' ∧ okS σ' ∧ Fr (mF [23, 25, 26, 32, 35, 36] [] [(2, [3]), (3, [9]), (4, [0, 1, 2, 4]), (5, [2])] []) σ σ' ∧ ∀ (Q9 : St → Prop), Q9 σ' → w8_send σ x1 x2 x3 x4 x5 x6 x7 k8 i8 x9 x10 Q9) := by
  have fr : Fr (mF [23, 25, 26, 32, 35, 36] [] [(2, [3]), (3, [9]), (4, [0, 1, 2, 4]), (5, [2])] []) σ σ := Fr.rf
  have rb : ∀ (Q9 : St → Prop), w8_send σ x1 x2 x3 x4 x5 x6 x7 k8 i8 x9 x10 Q9 → w8_send σ x1 x2 x3 x4 x5 x6 x7 k8 i8 x9 x10 Q9 := fun _ z => z
  by_cases hc : (x6 &&& 2) = 0
  · have h := h.1 hc
    have rb := fun Q9 z => rb Q9 (br_t hc z)
    obtain ⟨σ9, h, ok, fr9, rc⟩ := e8_send_J23 ok h
    exact ⟨σ9, h, ok, fr.tr (fr9.sub (mF_sub rfl sub_nil rfl sud_nil)), fun Q9 hq => rb Q9 (rc Q9 hq)⟩
  have h := h.2 hc
  have rb := fun Q9 z => rb Q9 (br_f hc z)
  obtain ⟨σ9, h, ok, fr9, rc⟩ := e8_send_J23 ok h
  exact ⟨σ9, h, ok, fr.tr (fr9.sub (mF_sub rfl sub_nil rfl sud_nil)), fun Q9 hq => rb Q9 (rc Q9 hq)⟩
/-! WebHost$Requests.isMarked(I)Z -/
set_option maxHeartbeats 4000000 in
theorem e9_isMarked_L76 {σ : St} {x2 : Int32} {Q : Int32 → Prop} {K114 : Prop} {K122 : Prop} (ok : okS σ) :
    ∀ (n : Nat) {x3 : Int32}, w9_isMarked_L76 σ x2 Q K114 K122 n x3 → (K114 ∧ ∀ (Q9 : Int32 → Prop) (K9_114 : Prop) (K9_122 : Prop), K9_114 → w9_isMarked_L76 σ x2 Q9 K9_114 K9_122 n x3) ∨ (K122 ∧ ∀ (Q9 : Int32 → Prop) (K9_114 : Prop) (K9_122 : Prop), K9_122 → w9_isMarked_L76 σ x2 Q9 K9_114 K9_122 n x3) := by
  intro n
  induction n with
  | zero =>
    intro x3 h
    exact False.elim h
  | succ n ih =>
    intro x3 h
    have rb : ∀ (Q9 : Int32 → Prop) (K9_114 : Prop) (K9_122 : Prop), w9_isMarked_L76 σ x2 Q9 K9_114 K9_122 (n + 1) x3 → w9_isMarked_L76 σ x2 Q9 K9_114 K9_122 (n + 1) x3 := fun _ _ _ z => z
    by_cases hc : 8 ≤ x3
    · have h := h.1 hc
      have rb := fun Q9 K9_114 K9_122 z => rb Q9 K9_114 K9_122 (br_t hc z)
      exact (Or.inr ⟨h, fun Q9 K9_114 K9_122 hq => rb Q9 K9_114 K9_122 hq⟩)
    have h := h.2 hc
    have rb := fun Q9 K9_114 K9_122 z => rb Q9 K9_114 K9_122 (br_f hc z)
    obtain ⟨hc, h⟩ := h
    have rb := fun Q9 K9_114 K9_122 z => rb Q9 K9_114 K9_122 (And.intro hc z)
    have h := h ((ok 40 0 _).2 (tyk_a 40 2 (by decide) (by decide) _))
    have rb := fun Q9 K9_114 K9_122 z => rb Q9 K9_114 K9_122 (im_n z)
    obtain ⟨r3, h, rc⟩ := eJ1_charAt (by decide) h
    have rb := fun Q9 K9_114 K9_122 z => rb Q9 K9_114 K9_122 (rc _ z)
    by_cases hc : (σ 40 0 (((σ 9 0 11) + 1) + x3).toNatClampNeg) = r3
    · have h := h.1 hc
      have rb := fun Q9 K9_114 K9_122 z => rb Q9 K9_114 K9_122 (br_t hc z)
      rcases ih h with ⟨h, rc⟩ | ⟨h, rc⟩
      · exact (Or.inl ⟨h, fun Q9 K9_114 K9_122 hq => rb Q9 K9_114 K9_122 (rc Q9 K9_114 K9_122 hq)⟩)
      · exact (Or.inr ⟨h, fun Q9 K9_114 K9_122 hq => rb Q9 K9_114 K9_122 (rc Q9 K9_114 K9_122 hq)⟩)
    have h := h.2 hc
    have rb := fun Q9 K9_114 K9_122 z => rb Q9 K9_114 K9_122 (br_f hc z)
    exact (Or.inl ⟨h, fun Q9 K9_114 K9_122 hq => rb Q9 K9_114 K9_122 hq⟩)
set_option maxHeartbeats 4000000 in
theorem e9_isMarked {σ : St} {x1 : Int32} {Q : Int32 → Prop} (ok : okS σ) (h : w9_isMarked σ x1 Q) : (∃ r : Int32, Q r ∧ ∀ (Q9 : Int32 → Prop), Q9 r → w9_isMarked σ x1 Q9) := by
  have rb : ∀ (Q9 : Int32 → Prop), w9_isMarked σ x1 Q9 → w9_isMarked σ x1 Q9 := fun _ z => z
  obtain ⟨r1, h, rc⟩ := e9_isExactly (by decide) ok h
  have rb := fun Q9 z => rb Q9 (rc _ z)
  by_cases hc : r1 = 0
  · have h := h.1 hc
    have rb := fun Q9 z => rb Q9 (br_t hc z)
    by_cases hc : ((σ 9 0 12) - (σ 9 0 11)) = 10
    · have h := h.2 hc
      have rb := fun Q9 z => rb Q9 (br_u hc z)
      obtain ⟨hc, h⟩ := h
      have rb := fun Q9 z => rb Q9 (And.intro hc z)
      have h := h ((ok 40 0 _).2 (tyk_a 40 2 (by decide) (by decide) _))
      have rb := fun Q9 z => rb Q9 (im_n z)
      by_cases hc : (σ 40 0 (σ 9 0 11).toNatClampNeg) = 34
      · have h := h.2 hc
        have rb := fun Q9 z => rb Q9 (br_u hc z)
        obtain ⟨hc, h⟩ := h
        have rb := fun Q9 z => rb Q9 (And.intro hc z)
        have h := h ((ok 40 0 _).2 (tyk_a 40 2 (by decide) (by decide) _))
        have rb := fun Q9 z => rb Q9 (im_n z)
        by_cases hc : (σ 40 0 ((σ 9 0 12) - 1).toNatClampNeg) = 34
        · have h := h.1 hc
          have rb := fun Q9 z => rb Q9 (br_t hc z)
          obtain ⟨r2, h, rc⟩ := e1_mark ok h
          have rb := fun Q9 z => rb Q9 (rc _ z)
          obtain ⟨n9, h⟩ := h
          rcases e9_isMarked_L76 ok n9 h with ⟨h, rc⟩ | ⟨h, rc⟩
          · have rb := fun Q9 z => rb Q9 (Exists.intro n9 (rc _ _ _ z))
            exact ⟨0, h, fun Q9 hq => rb Q9 hq⟩
          · have rb := fun Q9 z => rb Q9 (Exists.intro n9 (rc _ _ _ z))
            exact ⟨1, h, fun Q9 hq => rb Q9 hq⟩
        have h := h.2 hc
        have rb := fun Q9 z => rb Q9 (br_f hc z)
        exact ⟨0, h, fun Q9 hq => rb Q9 hq⟩
      have h := h.1 hc
      have rb := fun Q9 z => rb Q9 (br_v hc z)
      exact ⟨0, h, fun Q9 hq => rb Q9 hq⟩
    have h := h.1 hc
    have rb := fun Q9 z => rb Q9 (br_v hc z)
    exact ⟨0, h, fun Q9 hq => rb Q9 hq⟩
  have h := h.2 hc
  have rb := fun Q9 z => rb Q9 (br_f hc z)
  exact ⟨1, h, fun Q9 hq => rb Q9 hq⟩
/-! WebHost$Requests.isRequestLine(I)Z -/
set_option maxHeartbeats 4000000 in
theorem e9_isRequestLine_L2 {σ : St} {x1 : Int32} {Q : Int32 → St → Prop} {K29 : Int32 → Prop} (ok : okS σ) :
    ∀ (n : Nat) {x2 : Int32}, w9_isRequestLine_L2 σ x1 Q K29 n x2 → (∃ (x2' : Int32), K29 x2' ∧ ∀ (Q9 : Int32 → St → Prop) (K9_29 : Int32 → Prop), K9_29 x2' → w9_isRequestLine_L2 σ x1 Q9 K9_29 n x2) := by
  intro n
  induction n with
  | zero =>
    intro x2 h
    exact False.elim h
  | succ n ih =>
    intro x2 h
    have rb : ∀ (Q9 : Int32 → St → Prop) (K9_29 : Int32 → Prop), w9_isRequestLine_L2 σ x1 Q9 K9_29 (n + 1) x2 → w9_isRequestLine_L2 σ x1 Q9 K9_29 (n + 1) x2 := fun _ _ z => z
    by_cases hc : x1 ≤ x2
    · have h := h.1 hc
      have rb := fun Q9 K9_29 z => rb Q9 K9_29 (br_t hc z)
      exact ⟨x2, h, fun Q9 K9_29 hq => rb Q9 K9_29 hq⟩
    have h := h.2 hc
    have rb := fun Q9 K9_29 z => rb Q9 K9_29 (br_f hc z)
    obtain ⟨hc, h⟩ := h
    have rb := fun Q9 K9_29 z => rb Q9 K9_29 (And.intro hc z)
    have h := h ((ok 40 0 _).2 (tyk_a 40 2 (by decide) (by decide) _))
    have rb := fun Q9 K9_29 z => rb Q9 K9_29 (im_n z)
    obtain ⟨r1, h, rc⟩ := e9_isIn ok h
    have rb := fun Q9 K9_29 z => rb Q9 K9_29 (rc _ z)
    by_cases hc : r1 = 0
    · have h := h.1 hc
      have rb := fun Q9 K9_29 z => rb Q9 K9_29 (br_t hc z)
      exact ⟨x2, h, fun Q9 K9_29 hq => rb Q9 K9_29 hq⟩
    have h := h.2 hc
    have rb := fun Q9 K9_29 z => rb Q9 K9_29 (br_f hc z)
    rcases ih h with ⟨x2, h, rc⟩
    · exact ⟨x2, h, fun Q9 K9_29 hq => rb Q9 K9_29 (rc Q9 K9_29 hq)⟩
set_option maxHeartbeats 4000000 in
theorem e9_isRequestLine_L83 {σ : St} {x1 : Int32} {Q : Int32 → St → Prop} {K110 : Int32 → Prop} (ok : okS σ) :
    ∀ (n : Nat) {x2 : Int32}, w9_isRequestLine_L83 σ x1 Q K110 n x2 → (∃ (x2' : Int32), K110 x2' ∧ ∀ (Q9 : Int32 → St → Prop) (K9_110 : Int32 → Prop), K9_110 x2' → w9_isRequestLine_L83 σ x1 Q9 K9_110 n x2) := by
  intro n
  induction n with
  | zero =>
    intro x2 h
    exact False.elim h
  | succ n ih =>
    intro x2 h
    have rb : ∀ (Q9 : Int32 → St → Prop) (K9_110 : Int32 → Prop), w9_isRequestLine_L83 σ x1 Q9 K9_110 (n + 1) x2 → w9_isRequestLine_L83 σ x1 Q9 K9_110 (n + 1) x2 := fun _ _ z => z
    by_cases hc : x1 ≤ x2
    · have h := h.1 hc
      have rb := fun Q9 K9_110 z => rb Q9 K9_110 (br_t hc z)
      exact ⟨x2, h, fun Q9 K9_110 hq => rb Q9 K9_110 hq⟩
    have h := h.2 hc
    have rb := fun Q9 K9_110 z => rb Q9 K9_110 (br_f hc z)
    obtain ⟨hc, h⟩ := h
    have rb := fun Q9 K9_110 z => rb Q9 K9_110 (And.intro hc z)
    have h := h ((ok 40 0 _).2 (tyk_a 40 2 (by decide) (by decide) _))
    have rb := fun Q9 K9_110 z => rb Q9 K9_110 (im_n z)
    obtain ⟨r5, h, rc⟩ := e9_isIn ok h
    have rb := fun Q9 K9_110 z => rb Q9 K9_110 (rc _ z)
    by_cases hc : r5 = 0
    · have h := h.1 hc
      have rb := fun Q9 K9_110 z => rb Q9 K9_110 (br_t hc z)
      exact ⟨x2, h, fun Q9 K9_110 hq => rb Q9 K9_110 hq⟩
    have h := h.2 hc
    have rb := fun Q9 K9_110 z => rb Q9 K9_110 (br_f hc z)
    rcases ih h with ⟨x2, h, rc⟩
    · exact ⟨x2, h, fun Q9 K9_110 hq => rb Q9 K9_110 (rc Q9 K9_110 hq)⟩
set_option maxHeartbeats 4000000 in
theorem e9_isRequestLine_J110 {σ : St} {x1 : Int32} {x2 : Int32} {Q : Int32 → St → Prop} (ok : okS σ) (h : w9_isRequestLine_J110 σ x1 x2 Q) : (∃ (r : Int32) (σ' : St), Q r σ' ∧ okS σ' ∧ Fr (mF [] [] [(9, [4, 6])] []) σ σ' ∧ ∀ (Q9 : Int32 → St → Prop), Q9 r σ' → w9_isRequestLine_J110 σ x1 x2 Q9) := by
  have fr : Fr (mF [] [] [(9, [4, 6])] []) σ σ := Fr.rf
  have rb : ∀ (Q9 : Int32 → St → Prop), w9_isRequestLine_J110 σ x1 x2 Q9 → w9_isRequestLine_J110 σ x1 x2 Q9 := fun _ z => z
  obtain ⟨σ8, e9⟩ : ∃ s : St, s = up3 σ 9 0 4 x2 := ⟨_, rfl⟩
  have h := h σ8 e9
  have rb := fun Q9 z => rb Q9 (nm_n e9 z)
  have ok : okS σ8 := by rw [e9]; exact (ok_n ok (by decide))
  have fr : Fr (mF [] [] [(9, [4, 6])] []) σ σ8 := by rw [e9]; exact (Fr.up fr (mF_C (List.mem_of_getElem? (i := 0) rfl) rfl))
  by_cases hc : x1 ≤ x2
  · have h := h.1 hc
    have rb := fun Q9 z => rb Q9 (br_t hc z)
    exact ⟨0, σ8, h, ok, fr, fun Q9 hq => rb Q9 hq⟩
  have h := h.2 hc
  have rb := fun Q9 z => rb Q9 (br_f hc z)
  obtain ⟨hc, h⟩ := h
  have rb := fun Q9 z => rb Q9 (And.intro hc z)
  have h := h ((ok 40 0 _).2 (tyk_a 40 2 (by decide) (by decide) _))
  have rb := fun Q9 z => rb Q9 (im_n z)
  by_cases hc : (σ8 40 0 x2.toNatClampNeg) = 32
  · have h := h.1 hc
    have rb := fun Q9 z => rb Q9 (br_t hc z)
    obtain ⟨r9, h, rc⟩ := e9_isExactly (by decide) ok h
    have rb := fun Q9 z => rb Q9 (rc _ z)
    obtain ⟨hbo, h⟩ := h
    have rb := fun Q9 z => rb Q9 (And.intro hbo z)
    obtain ⟨σ10, e9⟩ : ∃ s : St, s = up3 σ8 9 0 6 r9 := ⟨_, rfl⟩
    have h := h σ10 e9
    have rb := fun Q9 z => rb Q9 (nm_n e9 z)
    have ok : okS σ10 := by rw [e9]; exact (ok_z ok (by decide) hbo)
    have fr : Fr (mF [] [] [(9, [4, 6])] []) σ σ10 := by rw [e9]; exact (Fr.up fr (mF_C (List.mem_of_getElem? (i := 0) rfl) rfl))
    have h := h ((ok 9 0 6).1 (by decide))
    have rb := fun Q9 z => rb Q9 (im_n z)
    by_cases hc : (σ10 9 0 6) = 0
    · have h := h.2 hc
      have rb := fun Q9 z => rb Q9 (br_u hc z)
      obtain ⟨r11, h, rc⟩ := e9_isExactly (by decide) ok h
      have rb := fun Q9 z => rb Q9 (rc _ z)
      by_cases hc : r11 = 0
      · have h := h.1 hc
        have rb := fun Q9 z => rb Q9 (br_t hc z)
        exact ⟨0, σ10, h, ok, fr, fun Q9 hq => rb Q9 hq⟩
      have h := h.2 hc
      have rb := fun Q9 z => rb Q9 (br_f hc z)
      exact ⟨1, σ10, h, ok, fr, fun Q9 hq => rb Q9 hq⟩
    have h := h.1 hc
    have rb := fun Q9 z => rb Q9 (br_v hc z)
    exact ⟨1, σ10, h, ok, fr, fun Q9 hq => rb Q9 hq⟩
  have h := h.2 hc
  have rb := fun Q9 z => rb Q9 (br_f hc z)
  exact ⟨0, σ8, h, ok, fr, fun Q9 hq => rb Q9 hq⟩
set_option maxHeartbeats 4000000 in
theorem e9_isRequestLine_J29 {σ : St} {x1 : Int32} {x2 : Int32} {Q : Int32 → St → Prop} (ok : okS σ) (h : w9_isRequestLine_J29 σ x1 x2 Q) : (∃ (r : Int32) (σ' : St), Q r σ' ∧ okS σ' ∧ Fr (mF [] [] [(9, [3, 4, 6])] []) σ σ' ∧ ∀ (Q9 : Int32 → St → Prop), Q9 r σ' → w9_isRequestLine_J29 σ x1 x2 Q9) := by
  have fr : Fr (mF [] [] [(9, [3, 4, 6])] []) σ σ := Fr.rf
  have rb : ∀ (Q9 : Int32 → St → Prop), w9_isRequestLine_J29 σ x1 x2 Q9 → w9_isRequestLine_J29 σ x1 x2 Q9 := fun _ z => z
  obtain ⟨σ4, e9⟩ : ∃ s : St, s = up3 σ 9 0 3 x2 := ⟨_, rfl⟩
  have h := h σ4 e9
  have rb := fun Q9 z => rb Q9 (nm_n e9 z)
  have ok : okS σ4 := by rw [e9]; exact (ok_n ok (by decide))
  have fr : Fr (mF [] [] [(9, [3, 4, 6])] []) σ σ4 := by rw [e9]; exact (Fr.up fr (mF_C (List.mem_of_getElem? (i := 0) rfl) rfl))
  by_cases hc : x2 = 0
  · have h := h.1 hc
    have rb := fun Q9 z => rb Q9 (br_t hc z)
    exact ⟨0, σ4, h, ok, fr, fun Q9 hq => rb Q9 hq⟩
  have h := h.2 hc
  have rb := fun Q9 z => rb Q9 (br_f hc z)
  by_cases hc : 16 < x2
  · have h := h.1 hc
    have rb := fun Q9 z => rb Q9 (br_t hc z)
    exact ⟨0, σ4, h, ok, fr, fun Q9 hq => rb Q9 hq⟩
  have h := h.2 hc
  have rb := fun Q9 z => rb Q9 (br_f hc z)
  by_cases hc : x1 ≤ x2
  · have h := h.1 hc
    have rb := fun Q9 z => rb Q9 (br_t hc z)
    exact ⟨0, σ4, h, ok, fr, fun Q9 hq => rb Q9 hq⟩
  have h := h.2 hc
  have rb := fun Q9 z => rb Q9 (br_f hc z)
  obtain ⟨hc, h⟩ := h
  have rb := fun Q9 z => rb Q9 (And.intro hc z)
  have h := h ((ok 40 0 _).2 (tyk_a 40 2 (by decide) (by decide) _))
  have rb := fun Q9 z => rb Q9 (im_n z)
  by_cases hc : (σ4 40 0 x2.toNatClampNeg) = 32
  · have h := h.1 hc
    have rb := fun Q9 z => rb Q9 (br_t hc z)
    by_cases hc : x1 ≤ (x2 + 1)
    · have h := h.1 hc
      have rb := fun Q9 z => rb Q9 (br_t hc z)
      exact ⟨0, σ4, h, ok, fr, fun Q9 hq => rb Q9 hq⟩
    have h := h.2 hc
    have rb := fun Q9 z => rb Q9 (br_f hc z)
    obtain ⟨hc, h⟩ := h
    have rb := fun Q9 z => rb Q9 (And.intro hc z)
    have h := h ((ok 40 0 _).2 (tyk_a 40 2 (by decide) (by decide) _))
    have rb := fun Q9 z => rb Q9 (im_n z)
    by_cases hc : (σ4 40 0 (x2 + 1).toNatClampNeg) = 47
    · have h := h.1 hc
      have rb := fun Q9 z => rb Q9 (br_t hc z)
      obtain ⟨n9, h⟩ := h
      rcases e9_isRequestLine_L83 ok n9 h with ⟨x2_7, h, rc⟩
      · have rb := fun Q9 z => rb Q9 (Exists.intro n9 (rc _ _ z))
        obtain ⟨r9, σ9, h, ok, fr9, rc⟩ := e9_isRequestLine_J110 ok h
        exact ⟨r9, σ9, h, ok, fr.tr (fr9.sub (mF_sub rfl sub_nil rfl sud_nil)), fun Q9 hq => rb Q9 (rc Q9 hq)⟩
    have h := h.2 hc
    have rb := fun Q9 z => rb Q9 (br_f hc z)
    exact ⟨0, σ4, h, ok, fr, fun Q9 hq => rb Q9 hq⟩
  have h := h.2 hc
  have rb := fun Q9 z => rb Q9 (br_f hc z)
  exact ⟨0, σ4, h, ok, fr, fun Q9 hq => rb Q9 hq⟩
set_option maxHeartbeats 4000000 in
theorem e9_isRequestLine {σ : St} {x1 : Int32} {Q : Int32 → St → Prop} (ok : okS σ) (h : w9_isRequestLine σ x1 Q) : (∃ (r : Int32) (σ' : St), Q r σ' ∧ okS σ' ∧ Fr (mF [] [] [(9, [3, 4, 6])] []) σ σ' ∧ ∀ (Q9 : Int32 → St → Prop), Q9 r σ' → w9_isRequestLine σ x1 Q9) := by
  have fr : Fr (mF [] [] [(9, [3, 4, 6])] []) σ σ := Fr.rf
  have rb : ∀ (Q9 : Int32 → St → Prop), w9_isRequestLine σ x1 Q9 → w9_isRequestLine σ x1 Q9 := fun _ z => z
  obtain ⟨n9, h⟩ := h
  rcases e9_isRequestLine_L2 ok n9 h with ⟨x2_3, h, rc⟩
  · have rb := fun Q9 z => rb Q9 (Exists.intro n9 (rc _ _ z))
    obtain ⟨r9, σ9, h, ok, fr9, rc⟩ := e9_isRequestLine_J29 ok h
    exact ⟨r9, σ9, h, ok, fr.tr (fr9.sub (mF_sub rfl sub_nil rfl sud_nil)), fun Q9 hq => rb Q9 (rc Q9 hq)⟩
/-! WebHost$Requests.kind(I)Ljava/lang/String; -/
set_option maxHeartbeats 4000000 in
theorem e9_kind {σ : St} {x1 : Int32} {Q : Nat → Prop} (ok : okS σ) (h : w9_kind σ x1 Q) : (∃ r : Nat, Q r ∧ ∀ (Q9 : Nat → Prop), Q9 r → w9_kind σ x1 Q9) := by
  have rb : ∀ (Q9 : Nat → Prop), w9_kind σ x1 Q9 → w9_kind σ x1 Q9 := fun _ z => z
  obtain ⟨r1, h, rc⟩ := e1_endsWith (by decide) ok h
  have rb := fun Q9 z => rb Q9 (rc _ z)
  by_cases hc : r1 = 0
  · have h := h.1 hc
    have rb := fun Q9 z => rb Q9 (br_t hc z)
    obtain ⟨r2, h, rc⟩ := e1_endsWith (by decide) ok h
    have rb := fun Q9 z => rb Q9 (rc _ z)
    by_cases hc : r2 = 0
    · have h := h.1 hc
      have rb := fun Q9 z => rb Q9 (br_t hc z)
      obtain ⟨r3, h, rc⟩ := e1_endsWith (by decide) ok h
      have rb := fun Q9 z => rb Q9 (rc _ z)
      by_cases hc : r3 = 0
      · have h := h.1 hc
        have rb := fun Q9 z => rb Q9 (br_t hc z)
        obtain ⟨r4, h, rc⟩ := e1_endsWith (by decide) ok h
        have rb := fun Q9 z => rb Q9 (rc _ z)
        by_cases hc : r4 = 0
        · have h := h.1 hc
          have rb := fun Q9 z => rb Q9 (br_t hc z)
          obtain ⟨r5, h, rc⟩ := e1_endsWith (by decide) ok h
          have rb := fun Q9 z => rb Q9 (rc _ z)
          by_cases hc : r5 = 0
          · have h := h.1 hc
            have rb := fun Q9 z => rb Q9 (br_t hc z)
            exact ⟨41, h, fun Q9 hq => rb Q9 hq⟩
          have h := h.2 hc
          have rb := fun Q9 z => rb Q9 (br_f hc z)
          exact ⟨40, h, fun Q9 hq => rb Q9 hq⟩
        have h := h.2 hc
        have rb := fun Q9 z => rb Q9 (br_f hc z)
        exact ⟨38, h, fun Q9 hq => rb Q9 hq⟩
      have h := h.2 hc
      have rb := fun Q9 z => rb Q9 (br_f hc z)
      exact ⟨36, h, fun Q9 hq => rb Q9 hq⟩
    have h := h.2 hc
    have rb := fun Q9 z => rb Q9 (br_f hc z)
    exact ⟨34, h, fun Q9 hq => rb Q9 hq⟩
  have h := h.2 hc
  have rb := fun Q9 z => rb Q9 (br_f hc z)
  exact ⟨32, h, fun Q9 hq => rb Q9 hq⟩
/-! WebHost$Requests.words(II)V -/
set_option maxHeartbeats 4000000 in
theorem e9_words_L10 {σ : St} {x2 : Int32} {x4 : Int32} {Q : St → Prop} {K44 : Int32 → Prop} (ok : okS σ) :
    ∀ (n : Nat) {x3 : Int32}, w9_words_L10 σ x2 x4 Q K44 n x3 → (∃ (x3' : Int32), K44 x3' ∧ ∀ (Q9 : St → Prop) (K9_44 : Int32 → Prop), K9_44 x3' → w9_words_L10 σ x2 x4 Q9 K9_44 n x3) := by
  intro n
  induction n with
  | zero =>
    intro x3 h
    exact False.elim h
  | succ n ih =>
    intro x3 h
    have rb : ∀ (Q9 : St → Prop) (K9_44 : Int32 → Prop), w9_words_L10 σ x2 x4 Q9 K9_44 (n + 1) x3 → w9_words_L10 σ x2 x4 Q9 K9_44 (n + 1) x3 := fun _ _ z => z
    by_cases hc : x2 ≤ x3
    · have h := h.1 hc
      have rb := fun Q9 K9_44 z => rb Q9 K9_44 (br_t hc z)
      exact ⟨x3, h, fun Q9 K9_44 hq => rb Q9 K9_44 hq⟩
    have h := h.2 hc
    have rb := fun Q9 K9_44 z => rb Q9 K9_44 (br_f hc z)
    obtain ⟨hc, h⟩ := h
    have rb := fun Q9 K9_44 z => rb Q9 K9_44 (And.intro hc z)
    have h := h ((ok 40 0 _).2 (tyk_a 40 2 (by decide) (by decide) _))
    have rb := fun Q9 K9_44 z => rb Q9 K9_44 (im_n z)
    by_cases hc : (σ 40 0 x3.toNatClampNeg) = 44
    · have h := h.1 hc
      have rb := fun Q9 K9_44 z => rb Q9 K9_44 (br_t hc z)
      exact ⟨x3, h, fun Q9 K9_44 hq => rb Q9 K9_44 hq⟩
    have h := h.2 hc
    have rb := fun Q9 K9_44 z => rb Q9 K9_44 (br_f hc z)
    obtain ⟨hc, h⟩ := h
    have rb := fun Q9 K9_44 z => rb Q9 K9_44 (And.intro hc z)
    have h := h ((ok 40 0 _).2 (tyk_a 40 2 (by decide) (by decide) _))
    have rb := fun Q9 K9_44 z => rb Q9 K9_44 (im_n z)
    obtain ⟨r1, h, rc⟩ := e9_isBlank ok h
    have rb := fun Q9 K9_44 z => rb Q9 K9_44 (rc _ z)
    by_cases hc : r1 = 0
    · have h := h.2 hc
      have rb := fun Q9 K9_44 z => rb Q9 K9_44 (br_u hc z)
      rcases ih h with ⟨x3, h, rc⟩
      · exact ⟨x3, h, fun Q9 K9_44 hq => rb Q9 K9_44 (rc Q9 K9_44 hq)⟩
    have h := h.1 hc
    have rb := fun Q9 K9_44 z => rb Q9 K9_44 (br_v hc z)
    exact ⟨x3, h, fun Q9 K9_44 hq => rb Q9 K9_44 hq⟩
set_option maxHeartbeats 4000000 in
theorem e9_words_J69 {σ : St} {x2 : Int32} {x3 : Int32} {x4 : Int32} {xs0 : Int32} {Q : St → Prop} {K2 : St → Int32 → Prop} (ok : okS σ) (h : w9_words_J69 σ x2 x3 x4 xs0 Q K2) : (∃ (σ' : St) (x3' : Int32), K2 σ' x3' ∧ okS σ' ∧ Fr (mF [] [] [(9, [15, 16])] []) σ σ' ∧ ∀ (Q9 : St → Prop) (K9_2 : St → Int32 → Prop), K9_2 σ' x3' → w9_words_J69 σ x2 x3 x4 xs0 Q9 K9_2) := by
  have fr : Fr (mF [] [] [(9, [15, 16])] []) σ σ := Fr.rf
  have rb : ∀ (Q9 : St → Prop) (K9_2 : St → Int32 → Prop), w9_words_J69 σ x2 x3 x4 xs0 Q9 K9_2 → w9_words_J69 σ x2 x3 x4 xs0 Q9 K9_2 := fun _ _ z => z
  obtain ⟨hbo, h⟩ := h
  have rb := fun Q9 K9_2 z => rb Q9 K9_2 (And.intro hbo z)
  obtain ⟨σ4, e9⟩ : ∃ s : St, s = up3 σ 9 0 15 xs0 := ⟨_, rfl⟩
  have h := h σ4 e9
  have rb := fun Q9 K9_2 z => rb Q9 K9_2 (nm_n e9 z)
  have ok : okS σ4 := by rw [e9]; exact (ok_z ok (by decide) hbo)
  have fr : Fr (mF [] [] [(9, [15, 16])] []) σ σ4 := by rw [e9]; exact (Fr.up fr (mF_C (List.mem_of_getElem? (i := 0) rfl) rfl))
  have h := h ((ok 9 0 16).1 (by decide))
  have rb := fun Q9 K9_2 z => rb Q9 K9_2 (im_n z)
  by_cases hc : (σ4 9 0 16) = 0
  · have h := h.2 hc
    have rb := fun Q9 K9_2 z => rb Q9 K9_2 (br_u hc z)
    obtain ⟨r6, h, rc⟩ := e9_is (by decide) ok h
    have rb := fun Q9 K9_2 z => rb Q9 K9_2 (rc _ z)
    by_cases hc : r6 = 0
    · have h := h.1 hc
      have rb := fun Q9 K9_2 z => rb Q9 K9_2 (br_t hc z)
      obtain ⟨σ7, e9⟩ : ∃ s : St, s = up3 σ4 9 0 16 0 := ⟨_, rfl⟩
      have h := h σ7 e9
      have rb := fun Q9 K9_2 z => rb Q9 K9_2 (nm_n e9 z)
      have ok : okS σ7 := by rw [e9]; exact (ok_z ok (by decide) (Or.inl rfl))
      have fr : Fr (mF [] [] [(9, [15, 16])] []) σ σ7 := by rw [e9]; exact (Fr.up fr (mF_C (List.mem_of_getElem? (i := 0) rfl) rfl))
      exact ⟨σ7, x3 + 1, h, ok, fr, fun Q9 K9_2 hq => rb Q9 K9_2 hq⟩
    have h := h.2 hc
    have rb := fun Q9 K9_2 z => rb Q9 K9_2 (br_f hc z)
    obtain ⟨σ8, e9⟩ : ∃ s : St, s = up3 σ4 9 0 16 1 := ⟨_, rfl⟩
    have h := h σ8 e9
    have rb := fun Q9 K9_2 z => rb Q9 K9_2 (nm_n e9 z)
    have ok : okS σ8 := by rw [e9]; exact (ok_z ok (by decide) (Or.inr rfl))
    have fr : Fr (mF [] [] [(9, [15, 16])] []) σ σ8 := by rw [e9]; exact (Fr.up fr (mF_C (List.mem_of_getElem? (i := 0) rfl) rfl))
    exact ⟨σ8, x3 + 1, h, ok, fr, fun Q9 K9_2 hq => rb Q9 K9_2 hq⟩
  have h := h.1 hc
  have rb := fun Q9 K9_2 z => rb Q9 K9_2 (br_v hc z)
  obtain ⟨σ5, e9⟩ : ∃ s : St, s = up3 σ4 9 0 16 1 := ⟨_, rfl⟩
  have h := h σ5 e9
  have rb := fun Q9 K9_2 z => rb Q9 K9_2 (nm_n e9 z)
  have ok : okS σ5 := by rw [e9]; exact (ok_z ok (by decide) (Or.inr rfl))
  have fr : Fr (mF [] [] [(9, [15, 16])] []) σ σ5 := by rw [e9]; exact (Fr.up fr (mF_C (List.mem_of_getElem? (i := 0) rfl) rfl))
  exact ⟨σ5, x3 + 1, h, ok, fr, fun Q9 K9_2 hq => rb Q9 K9_2 hq⟩
set_option maxHeartbeats 4000000 in
theorem e9_words_J44 {σ : St} {x2 : Int32} {x3 : Int32} {x4 : Int32} {Q : St → Prop} {K2 : St → Int32 → Prop} (ok : okS σ) (h : w9_words_J44 σ x2 x3 x4 Q K2) : (∃ (σ' : St) (x3' : Int32), K2 σ' x3' ∧ okS σ' ∧ Fr (mF [] [] [(9, [15, 16])] []) σ σ' ∧ ∀ (Q9 : St → Prop) (K9_2 : St → Int32 → Prop), K9_2 σ' x3' → w9_words_J44 σ x2 x3 x4 Q9 K9_2) := by
  have fr : Fr (mF [] [] [(9, [15, 16])] []) σ σ := Fr.rf
  have rb : ∀ (Q9 : St → Prop) (K9_2 : St → Int32 → Prop), w9_words_J44 σ x2 x3 x4 Q9 K9_2 → w9_words_J44 σ x2 x3 x4 Q9 K9_2 := fun _ _ z => z
  have h := h ((ok 9 0 15).1 (by decide))
  have rb := fun Q9 K9_2 z => rb Q9 K9_2 (im_n z)
  by_cases hc : (σ 9 0 15) = 0
  · have h := h.2 hc
    have rb := fun Q9 K9_2 z => rb Q9 K9_2 (br_u hc z)
    obtain ⟨r9, h, rc⟩ := e9_is (by decide) ok h
    have rb := fun Q9 K9_2 z => rb Q9 K9_2 (rc _ z)
    by_cases hc : r9 = 0
    · have h := h.1 hc
      have rb := fun Q9 K9_2 z => rb Q9 K9_2 (br_t hc z)
      rcases e9_words_J69 ok h with ⟨σ', x3, h, ok, fr9, rc⟩
      · have fr := fr.tr (fr9.sub (mF_sub rfl sub_nil rfl sud_nil))
        exact ⟨σ', x3, h, ok, fr, fun Q9 K9_2 hq => rb Q9 K9_2 (rc _ _ hq)⟩
    have h := h.2 hc
    have rb := fun Q9 K9_2 z => rb Q9 K9_2 (br_f hc z)
    rcases e9_words_J69 ok h with ⟨σ', x3, h, ok, fr9, rc⟩
    · have fr := fr.tr (fr9.sub (mF_sub rfl sub_nil rfl sud_nil))
      exact ⟨σ', x3, h, ok, fr, fun Q9 K9_2 hq => rb Q9 K9_2 (rc _ _ hq)⟩
  have h := h.1 hc
  have rb := fun Q9 K9_2 z => rb Q9 K9_2 (br_v hc z)
  rcases e9_words_J69 ok h with ⟨σ', x3, h, ok, fr9, rc⟩
  · have fr := fr.tr (fr9.sub (mF_sub rfl sub_nil rfl sud_nil))
    exact ⟨σ', x3, h, ok, fr, fun Q9 K9_2 hq => rb Q9 K9_2 (rc _ _ hq)⟩
set_option maxHeartbeats 4000000 in
theorem e9_words_L2 {x2 : Int32} {Q : St → Prop} {K106 : St → Prop} :
    ∀ (n : Nat) {σ : St} {x3 : Int32} (ok : okS σ), w9_words_L2 x2 Q K106 n σ x3 → (∃ (σ' : St), K106 σ' ∧ okS σ' ∧ Fr (mF [] [] [(9, [15, 16])] []) σ σ' ∧ ∀ (Q9 : St → Prop) (K9_106 : St → Prop), K9_106 σ' → w9_words_L2 x2 Q9 K9_106 n σ x3) := by
  intro n
  induction n with
  | zero =>
    intro σ x3 ok h
    exact False.elim h
  | succ n ih =>
    intro σ x3 ok h
    have fr : Fr (mF [] [] [(9, [15, 16])] []) σ σ := Fr.rf
    have rb : ∀ (Q9 : St → Prop) (K9_106 : St → Prop), w9_words_L2 x2 Q9 K9_106 (n + 1) σ x3 → w9_words_L2 x2 Q9 K9_106 (n + 1) σ x3 := fun _ _ z => z
    by_cases hc : x2 ≤ x3
    · have h := h.1 hc
      have rb := fun Q9 K9_106 z => rb Q9 K9_106 (br_t hc z)
      exact ⟨σ, h, ok, fr, fun Q9 K9_106 hq => rb Q9 K9_106 hq⟩
    have h := h.2 hc
    have rb := fun Q9 K9_106 z => rb Q9 K9_106 (br_f hc z)
    obtain ⟨n9, h⟩ := h
    rcases e9_words_L10 ok n9 h with ⟨x3_3, h, rc⟩
    · have rb := fun Q9 K9_106 z => rb Q9 K9_106 (Exists.intro n9 (rc _ _ z))
      rcases e9_words_J44 ok h with ⟨σ', x3, h, ok, fr9, rc⟩
      · have fr := fr.tr (fr9.sub (mF_sub rfl sub_nil rfl sud_nil))
        rcases ih ok h with ⟨σ', h, ok, fr9, rd⟩
        · exact ⟨σ', h, ok, fr.tr fr9, fun Q9 K9_106 hq => rb Q9 K9_106 (rc _ _ (rd Q9 K9_106 hq))⟩
set_option maxHeartbeats 4000000 in
theorem e9_words {σ : St} {x1 : Int32} {x2 : Int32} {Q : St → Prop} (ok : okS σ) (h : w9_words σ x1 x2 Q) : (∃ (σ' : St), Q σ' ∧ okS σ' ∧ Fr (mF [] [] [(9, [15, 16])] []) σ σ' ∧ ∀ (Q9 : St → Prop), Q9 σ' → w9_words σ x1 x2 Q9) := by
  have fr : Fr (mF [] [] [(9, [15, 16])] []) σ σ := Fr.rf
  have rb : ∀ (Q9 : St → Prop), w9_words σ x1 x2 Q9 → w9_words σ x1 x2 Q9 := fun _ z => z
  obtain ⟨n9, h⟩ := h
  rcases e9_words_L2 n9 ok h with ⟨σ11, h, ok, fr9, rc⟩
  · have rb := fun Q9 z => rb Q9 (Exists.intro n9 (rc _ _ z))
    have fr := fr.tr (fr9.sub (mF_sub rfl sub_nil rfl sud_nil))
    exact ⟨σ11, h, ok, fr, fun Q9 hq => rb Q9 hq⟩
/-! WebHost$Answer.line(Ljava/lang/String;)V -/
set_option maxHeartbeats 4000000 in
theorem e13_line {σ : St} {o0 : Nat} {t1 : Nat} {Q : St → Prop} (ho0 : o0 < 16) (ht1 : t1 < nS) (ok : okS σ) (h : w13_line σ o0 t1 Q) : (∃ (σ' : St), Q σ' ∧ okS σ' ∧ Fr (mF [] [(44, o0)] [] [(13, o0, [1])]) σ σ' ∧ ∀ (Q9 : St → Prop), Q9 σ' → w13_line σ o0 t1 Q9) := by
  have fr : Fr (mF [] [(44, o0)] [] [(13, o0, [1])]) σ σ := Fr.rf
  have rb : ∀ (Q9 : St → Prop), w13_line σ o0 t1 Q9 → w13_line σ o0 t1 Q9 := fun _ z => z
  obtain ⟨σ1, h, ok, fr9, rc⟩ := e13_say ho0 ht1 ok h
  have fr := fr.tr (fr9.sub (mF_sub rfl (sub_c (Or.inr (List.mem_of_getElem? (i := 0) rfl)) sub_nil) rfl (sud_c (Or.inr ⟨_, List.mem_of_getElem? (i := 0) rfl, rfl⟩) sud_nil)))
  have rb := fun Q9 z => rb Q9 (rc _ z)
  obtain ⟨σ2, h, ok, fr9, rc⟩ := e13_put ho0 ok h
  have fr := fr.tr (fr9.sub (mF_sub rfl (sub_c (Or.inr (List.mem_of_getElem? (i := 0) rfl)) sub_nil) rfl (sud_c (Or.inr ⟨_, List.mem_of_getElem? (i := 0) rfl, rfl⟩) sud_nil)))
  have rb := fun Q9 z => rb Q9 (rc _ z)
  obtain ⟨σ3, h, ok, fr9, rc⟩ := e13_put ho0 ok h
  have fr := fr.tr (fr9.sub (mF_sub rfl (sub_c (Or.inr (List.mem_of_getElem? (i := 0) rfl)) sub_nil) rfl (sud_c (Or.inr ⟨_, List.mem_of_getElem? (i := 0) rfl, rfl⟩) sud_nil)))
  have rb := fun Q9 z => rb Q9 (rc _ z)
  exact ⟨σ3, h, ok, fr, fun Q9 hq => rb Q9 hq⟩
/-! WebHostModel.echo(I)V -/
set_option maxHeartbeats 4000000 in
theorem e14_echo_L52 {x1 : Int32} {Q : St → Prop} {K78 : St → Prop} :
    ∀ (n : Nat) {σ : St} {x2 : Int32} (ok : okS σ), w14_echo_L52 x1 Q K78 n σ x2 → (∃ (σ' : St), K78 σ' ∧ okS σ' ∧ Fr (mF [57] [] [] []) σ σ' ∧ ∀ (Q9 : St → Prop) (K9_78 : St → Prop), K9_78 σ' → w14_echo_L52 x1 Q9 K9_78 n σ x2) := by
  intro n
  induction n with
  | zero =>
    intro σ x2 ok h
    exact False.elim h
  | succ n ih =>
    intro σ x2 ok h
    have fr : Fr (mF [57] [] [] []) σ σ := Fr.rf
    have rb : ∀ (Q9 : St → Prop) (K9_78 : St → Prop), w14_echo_L52 x1 Q9 K9_78 (n + 1) σ x2 → w14_echo_L52 x1 Q9 K9_78 (n + 1) σ x2 := fun _ _ z => z
    by_cases hc : x1 ≤ x2
    · have h := h.1 hc
      have rb := fun Q9 K9_78 z => rb Q9 K9_78 (br_t hc z)
      exact ⟨σ, h, ok, fr, fun Q9 K9_78 hq => rb Q9 K9_78 hq⟩
    have h := h.2 hc
    have rb := fun Q9 K9_78 z => rb Q9 K9_78 (br_f hc z)
    obtain ⟨hc, h⟩ := h
    have rb := fun Q9 K9_78 z => rb Q9 K9_78 (And.intro hc z)
    have h := h ((ok 64 0 _).2 (tyk_a 64 2 (by decide) (by decide) _))
    have rb := fun Q9 K9_78 z => rb Q9 K9_78 (im_n z)
    obtain ⟨hc, h⟩ := h
    have rb := fun Q9 K9_78 z => rb Q9 K9_78 (And.intro hc z)
    obtain ⟨σ3, e9⟩ : ∃ s : St, s = up3 σ 57 0 (34 + x2).toNatClampNeg (σ 64 0 x2.toNatClampNeg).toInt8.toInt32 := ⟨_, rfl⟩
    have h := h σ3 e9
    have rb := fun Q9 K9_78 z => rb Q9 K9_78 (nm_n e9 z)
    have ok : okS σ3 := by rw [e9]; exact (ok_b ok (tyk_a 57 2 (by decide) (by decide) _))
    have fr : Fr (mF [57] [] [] []) σ σ3 := by rw [e9]; exact (Fr.up fr (mF_A rfl))
    rcases ih ok h with ⟨σ', h, ok, fr9, rc⟩
    · exact ⟨σ', h, ok, fr.tr fr9, fun Q9 K9_78 hq => rb Q9 K9_78 (rc Q9 K9_78 hq)⟩
set_option maxHeartbeats 4000000 in
theorem e14_echo {σ : St} {x1 : Int32} {Q : St → Prop} (ok : okS σ) (h : w14_echo σ x1 Q) : (∃ (σ' : St), Q σ' ∧ okS σ' ∧ Fr (mF [57, 58, 59, 60, 68] [] [(14, [18, 23, 24, 25]), (17, [0, 1, 2, 3, 4, 5])] []) σ σ' ∧ ∀ (Q9 : St → Prop), Q9 σ' → w14_echo σ x1 Q9) := by
  have fr : Fr (mF [57, 58, 59, 60, 68] [] [(14, [18, 23, 24, 25]), (17, [0, 1, 2, 3, 4, 5])] []) σ σ := Fr.rf
  have rb : ∀ (Q9 : St → Prop), w14_echo σ x1 Q9 → w14_echo σ x1 Q9 := fun _ z => z
  by_cases hc : x1 < 8
  · have h := h.1 hc
    have rb := fun Q9 z => rb Q9 (br_t hc z)
    exact ⟨σ, h, ok, fr, fun Q9 hq => rb Q9 hq⟩
  have h := h.2 hc
  have rb := fun Q9 z => rb Q9 (br_f hc z)
  by_cases hc : 1480 < x1
  · have h := h.1 hc
    have rb := fun Q9 z => rb Q9 (br_t hc z)
    exact ⟨σ, h, ok, fr, fun Q9 hq => rb Q9 hq⟩
  have h := h.2 hc
  have rb := fun Q9 z => rb Q9 (br_f hc z)
  obtain ⟨r1, h, rc⟩ := e14_added (by decide) ok h
  have rb := fun Q9 z => rb Q9 (rc _ z)
  obtain ⟨r2, h, rc⟩ := e14_sixteen ok h
  have rb := fun Q9 z => rb Q9 (rc _ z)
  by_cases hc : r2 = 0
  · have h := h.2 hc
    have rb := fun Q9 z => rb Q9 (br_u hc z)
    obtain ⟨hc, h⟩ := h
    have rb := fun Q9 z => rb Q9 (And.intro hc z)
    have h := h ((ok 64 0 _).2 (tyk_a 64 2 (by decide) (by decide) _))
    have rb := fun Q9 z => rb Q9 (im_n z)
    by_cases hc : (σ 64 0 (0 : Int32).toNatClampNeg) = 8
    · have h := h.2 hc
      have rb := fun Q9 z => rb Q9 (br_u hc z)
      obtain ⟨hc, h⟩ := h
      have rb := fun Q9 z => rb Q9 (And.intro hc z)
      have h := h ((ok 64 0 _).2 (tyk_a 64 2 (by decide) (by decide) _))
      have rb := fun Q9 z => rb Q9 (im_n z)
      by_cases hc : (σ 64 0 (1 : Int32).toNatClampNeg) = 0
      · have h := h.1 hc
        have rb := fun Q9 z => rb Q9 (br_t hc z)
        obtain ⟨n9, h⟩ := h
        rcases e14_echo_L52 n9 ok h with ⟨σ5, h, ok, fr9, rc⟩
        · have rb := fun Q9 z => rb Q9 (Exists.intro n9 (rc _ _ z))
          have fr := fr.tr (fr9.sub (mF_sub rfl sub_nil rfl sud_nil))
          obtain ⟨σ6, h, ok, fr9, rc⟩ := e14_put ok h
          have fr := fr.tr (fr9.sub (mF_sub rfl sub_nil rfl sud_nil))
          have rb := fun Q9 z => rb Q9 (rc _ z)
          obtain ⟨σ7, h, ok, fr9, rc⟩ := e14_put ok h
          have fr := fr.tr (fr9.sub (mF_sub rfl sub_nil rfl sud_nil))
          have rb := fun Q9 z => rb Q9 (rc _ z)
          obtain ⟨r8, h, rc⟩ := e14_added (by decide) ok h
          have rb := fun Q9 z => rb Q9 (rc _ z)
          obtain ⟨r9, h, rc⟩ := e14_sixteen ok h
          have rb := fun Q9 z => rb Q9 (rc _ z)
          obtain ⟨σ10, h, ok, fr9, rc⟩ := e14_put ok h
          have fr := fr.tr (fr9.sub (mF_sub rfl sub_nil rfl sud_nil))
          have rb := fun Q9 z => rb Q9 (rc _ z)
          obtain ⟨σ11, h, ok, fr9, rc⟩ := e14_ipOut ok h
          have fr := fr.tr (fr9.sub (mF_sub rfl sub_nil rfl sud_nil))
          have rb := fun Q9 z => rb Q9 (rc _ z)
          exact ⟨σ11, h, ok, fr, fun Q9 hq => rb Q9 hq⟩
      have h := h.2 hc
      have rb := fun Q9 z => rb Q9 (br_f hc z)
      exact ⟨σ, h, ok, fr, fun Q9 hq => rb Q9 hq⟩
    have h := h.1 hc
    have rb := fun Q9 z => rb Q9 (br_v hc z)
    exact ⟨σ, h, ok, fr, fun Q9 hq => rb Q9 hq⟩
  have h := h.1 hc
  have rb := fun Q9 z => rb Q9 (br_v hc z)
  exact ⟨σ, h, ok, fr, fun Q9 hq => rb Q9 hq⟩
/-! WebHostModel.fits(I)Z -/
set_option maxHeartbeats 4000000 in
theorem e14_fits_L68 {σ : St} {x1 : Int32} {Q : Int32 → Prop} {K99 : Prop} {K107 : Prop} (ok : okS σ) :
    ∀ (n : Nat) {x2 : Int32}, w14_fits_L68 σ x1 Q K99 K107 n x2 → (K99 ∧ ∀ (Q9 : Int32 → Prop) (K9_99 : Prop) (K9_107 : Prop), K9_99 → w14_fits_L68 σ x1 Q9 K9_99 K9_107 n x2) ∨ (K107 ∧ ∀ (Q9 : Int32 → Prop) (K9_99 : Prop) (K9_107 : Prop), K9_107 → w14_fits_L68 σ x1 Q9 K9_99 K9_107 n x2) := by
  intro n
  induction n with
  | zero =>
    intro x2 h
    exact False.elim h
  | succ n ih =>
    intro x2 h
    have rb : ∀ (Q9 : Int32 → Prop) (K9_99 : Prop) (K9_107 : Prop), w14_fits_L68 σ x1 Q9 K9_99 K9_107 (n + 1) x2 → w14_fits_L68 σ x1 Q9 K9_99 K9_107 (n + 1) x2 := fun _ _ _ z => z
    by_cases hc : 8 ≤ x2
    · have h := h.1 hc
      have rb := fun Q9 K9_99 K9_107 z => rb Q9 K9_99 K9_107 (br_t hc z)
      exact (Or.inr ⟨h, fun Q9 K9_99 K9_107 hq => rb Q9 K9_99 K9_107 hq⟩)
    have h := h.2 hc
    have rb := fun Q9 K9_99 K9_107 z => rb Q9 K9_99 K9_107 (br_f hc z)
    obtain ⟨r2, h, rc⟩ := e14_headAt ok h
    have rb := fun Q9 K9_99 K9_107 z => rb Q9 K9_99 K9_107 (rc _ z)
    obtain ⟨hc, h⟩ := h
    have rb := fun Q9 K9_99 K9_107 z => rb Q9 K9_99 K9_107 (And.intro hc z)
    obtain ⟨r3, h, rc⟩ := e14_hexDigit ok h
    have rb := fun Q9 K9_99 K9_107 z => rb Q9 K9_99 K9_107 (rc _ z)
    by_cases hc : r2 = r3
    · have h := h.1 hc
      have rb := fun Q9 K9_99 K9_107 z => rb Q9 K9_99 K9_107 (br_t hc z)
      rcases ih h with ⟨h, rc⟩ | ⟨h, rc⟩
      · exact (Or.inl ⟨h, fun Q9 K9_99 K9_107 hq => rb Q9 K9_99 K9_107 (rc Q9 K9_99 K9_107 hq)⟩)
      · exact (Or.inr ⟨h, fun Q9 K9_99 K9_107 hq => rb Q9 K9_99 K9_107 (rc Q9 K9_99 K9_107 hq)⟩)
    have h := h.2 hc
    have rb := fun Q9 K9_99 K9_107 z => rb Q9 K9_99 K9_107 (br_f hc z)
    exact (Or.inl ⟨h, fun Q9 K9_99 K9_107 hq => rb Q9 K9_99 K9_107 hq⟩)
set_option maxHeartbeats 4000000 in
theorem e14_fits {σ : St} {x1 : Int32} {Q : Int32 → Prop} (ok : okS σ) (h : w14_fits σ x1 Q) : (∃ r : Int32, Q r ∧ ∀ (Q9 : Int32 → Prop), Q9 r → w14_fits σ x1 Q9) := by
  have rb : ∀ (Q9 : Int32 → Prop), w14_fits σ x1 Q9 → w14_fits σ x1 Q9 := fun _ z => z
  obtain ⟨r1, h, rc⟩ := e14_says (by decide) ok h
  have rb := fun Q9 z => rb Q9 (rc _ z)
  by_cases hc : r1 = 0
  · have h := h.1 hc
    have rb := fun Q9 z => rb Q9 (br_t hc z)
    by_cases hc : ((σ 14 0 62) - (σ 14 0 61)) = 10
    · have h := h.2 hc
      have rb := fun Q9 z => rb Q9 (br_u hc z)
      obtain ⟨hc, h⟩ := h
      have rb := fun Q9 z => rb Q9 (And.intro hc z)
      have h := h ((ok 66 0 _).2 (tyk_a 66 2 (by decide) (by decide) _))
      have rb := fun Q9 z => rb Q9 (im_n z)
      by_cases hc : (σ 66 0 (σ 14 0 61).toNatClampNeg) = 34
      · have h := h.2 hc
        have rb := fun Q9 z => rb Q9 (br_u hc z)
        obtain ⟨hc, h⟩ := h
        have rb := fun Q9 z => rb Q9 (And.intro hc z)
        have h := h ((ok 66 0 _).2 (tyk_a 66 2 (by decide) (by decide) _))
        have rb := fun Q9 z => rb Q9 (im_n z)
        by_cases hc : (σ 66 0 ((σ 14 0 62) - 1).toNatClampNeg) = 34
        · have h := h.1 hc
          have rb := fun Q9 z => rb Q9 (br_t hc z)
          obtain ⟨n9, h⟩ := h
          rcases e14_fits_L68 ok n9 h with ⟨h, rc⟩ | ⟨h, rc⟩
          · have rb := fun Q9 z => rb Q9 (Exists.intro n9 (rc _ _ _ z))
            exact ⟨0, h, fun Q9 hq => rb Q9 hq⟩
          · have rb := fun Q9 z => rb Q9 (Exists.intro n9 (rc _ _ _ z))
            exact ⟨1, h, fun Q9 hq => rb Q9 hq⟩
        have h := h.2 hc
        have rb := fun Q9 z => rb Q9 (br_f hc z)
        exact ⟨0, h, fun Q9 hq => rb Q9 hq⟩
      have h := h.1 hc
      have rb := fun Q9 z => rb Q9 (br_v hc z)
      exact ⟨0, h, fun Q9 hq => rb Q9 hq⟩
    have h := h.1 hc
    have rb := fun Q9 z => rb Q9 (br_v hc z)
    exact ⟨0, h, fun Q9 hq => rb Q9 hq⟩
  have h := h.2 hc
  have rb := fun Q9 z => rb Q9 (br_f hc z)
  exact ⟨1, h, fun Q9 hq => rb Q9 hq⟩
/-! WebHostModel.requestLine(II)Z -/
set_option maxHeartbeats 4000000 in
theorem e14_requestLine_L11 {σ : St} {x1 : Int32} {x2 : Int32} {Q : Int32 → St → Prop} {K57 : Int32 → Int32 → Int32 → Prop} (ok : okS σ) :
    ∀ (n : Nat) {x3 : Int32} {x4 : Int32} {x5 : Int32} {x6 : Int32}, w14_requestLine_L11 σ x1 x2 Q K57 n x3 x4 x5 x6 → (∃ (x3' : Int32) (x4' : Int32) (x5' : Int32), K57 x3' x4' x5' ∧ ∀ (Q9 : Int32 → St → Prop) (K9_57 : Int32 → Int32 → Int32 → Prop), K9_57 x3' x4' x5' → w14_requestLine_L11 σ x1 x2 Q9 K9_57 n x3 x4 x5 x6) := by
  intro n
  induction n with
  | zero =>
    intro x3 x4 x5 x6 h
    exact False.elim h
  | succ n ih =>
    intro x3 x4 x5 x6 h
    have rb : ∀ (Q9 : Int32 → St → Prop) (K9_57 : Int32 → Int32 → Int32 → Prop), w14_requestLine_L11 σ x1 x2 Q9 K9_57 (n + 1) x3 x4 x5 x6 → w14_requestLine_L11 σ x1 x2 Q9 K9_57 (n + 1) x3 x4 x5 x6 := fun _ _ z => z
    by_cases hc : x2 ≤ x6
    · have h := h.1 hc
      have rb := fun Q9 K9_57 z => rb Q9 K9_57 (br_t hc z)
      exact ⟨x3, x4, x5, h, fun Q9 K9_57 hq => rb Q9 K9_57 hq⟩
    have h := h.2 hc
    have rb := fun Q9 K9_57 z => rb Q9 K9_57 (br_f hc z)
    obtain ⟨hc, h⟩ := h
    have rb := fun Q9 K9_57 z => rb Q9 K9_57 (And.intro hc z)
    have h := h ((ok 66 0 _).2 (tyk_a 66 2 (by decide) (by decide) _))
    have rb := fun Q9 K9_57 z => rb Q9 K9_57 (im_n z)
    by_cases hc : (σ 66 0 x6.toNatClampNeg) = 32
    · have h := h.2 hc
      have rb := fun Q9 K9_57 z => rb Q9 K9_57 (br_u hc z)
      by_cases hc : (x5 + 1) = 1
      · have h := h.2 hc
        have rb := fun Q9 K9_57 z => rb Q9 K9_57 (br_u hc z)
        by_cases hc : (x5 + 1) = 2
        · have h := h.2 hc
          have rb := fun Q9 K9_57 z => rb Q9 K9_57 (br_u hc z)
          rcases ih h with ⟨x3, x4, x5, h, rc⟩
          · exact ⟨x3, x4, x5, h, fun Q9 K9_57 hq => rb Q9 K9_57 (rc Q9 K9_57 hq)⟩
        have h := h.1 hc
        have rb := fun Q9 K9_57 z => rb Q9 K9_57 (br_v hc z)
        rcases ih h with ⟨x3, x4, x5, h, rc⟩
        · exact ⟨x3, x4, x5, h, fun Q9 K9_57 hq => rb Q9 K9_57 (rc Q9 K9_57 hq)⟩
      have h := h.1 hc
      have rb := fun Q9 K9_57 z => rb Q9 K9_57 (br_v hc z)
      by_cases hc : (x5 + 1) = 2
      · have h := h.2 hc
        have rb := fun Q9 K9_57 z => rb Q9 K9_57 (br_u hc z)
        rcases ih h with ⟨x3, x4, x5, h, rc⟩
        · exact ⟨x3, x4, x5, h, fun Q9 K9_57 hq => rb Q9 K9_57 (rc Q9 K9_57 hq)⟩
      have h := h.1 hc
      have rb := fun Q9 K9_57 z => rb Q9 K9_57 (br_v hc z)
      rcases ih h with ⟨x3, x4, x5, h, rc⟩
      · exact ⟨x3, x4, x5, h, fun Q9 K9_57 hq => rb Q9 K9_57 (rc Q9 K9_57 hq)⟩
    have h := h.1 hc
    have rb := fun Q9 K9_57 z => rb Q9 K9_57 (br_v hc z)
    rcases ih h with ⟨x3, x4, x5, h, rc⟩
    · exact ⟨x3, x4, x5, h, fun Q9 K9_57 hq => rb Q9 K9_57 (rc Q9 K9_57 hq)⟩
set_option maxHeartbeats 4000000 in
theorem e14_requestLine_L113 {σ : St} {x1 : Int32} {x2 : Int32} {x3 : Int32} {x4 : Int32} {Q : Int32 → St → Prop} {K141 : Prop} {K149 : Prop} (ok : okS σ) :
    ∀ (n : Nat) {x6 : Int32}, w14_requestLine_L113 σ x1 x2 x3 x4 Q K141 K149 n x6 → (K141 ∧ ∀ (Q9 : Int32 → St → Prop) (K9_141 : Prop) (K9_149 : Prop), K9_141 → w14_requestLine_L113 σ x1 x2 x3 x4 Q9 K9_141 K9_149 n x6) ∨ (K149 ∧ ∀ (Q9 : Int32 → St → Prop) (K9_141 : Prop) (K9_149 : Prop), K9_149 → w14_requestLine_L113 σ x1 x2 x3 x4 Q9 K9_141 K9_149 n x6) := by
  intro n
  induction n with
  | zero =>
    intro x6 h
    exact False.elim h
  | succ n ih =>
    intro x6 h
    have rb : ∀ (Q9 : Int32 → St → Prop) (K9_141 : Prop) (K9_149 : Prop), w14_requestLine_L113 σ x1 x2 x3 x4 Q9 K9_141 K9_149 (n + 1) x6 → w14_requestLine_L113 σ x1 x2 x3 x4 Q9 K9_141 K9_149 (n + 1) x6 := fun _ _ _ z => z
    by_cases hc : x3 ≤ x6
    · have h := h.1 hc
      have rb := fun Q9 K9_141 K9_149 z => rb Q9 K9_141 K9_149 (br_t hc z)
      exact (Or.inr ⟨h, fun Q9 K9_141 K9_149 hq => rb Q9 K9_141 K9_149 hq⟩)
    have h := h.2 hc
    have rb := fun Q9 K9_141 K9_149 z => rb Q9 K9_141 K9_149 (br_f hc z)
    obtain ⟨r3, h, rc⟩ := e14_headAt ok h
    have rb := fun Q9 K9_141 K9_149 z => rb Q9 K9_141 K9_149 (rc _ z)
    by_cases hc : r3 < 65
    · have h := h.1 hc
      have rb := fun Q9 K9_141 K9_149 z => rb Q9 K9_141 K9_149 (br_t hc z)
      exact (Or.inl ⟨h, fun Q9 K9_141 K9_149 hq => rb Q9 K9_141 K9_149 hq⟩)
    have h := h.2 hc
    have rb := fun Q9 K9_141 K9_149 z => rb Q9 K9_141 K9_149 (br_f hc z)
    obtain ⟨r4, h, rc⟩ := e14_headAt ok h
    have rb := fun Q9 K9_141 K9_149 z => rb Q9 K9_141 K9_149 (rc _ z)
    by_cases hc : r4 ≤ 90
    · have h := h.1 hc
      have rb := fun Q9 K9_141 K9_149 z => rb Q9 K9_141 K9_149 (br_t hc z)
      rcases ih h with ⟨h, rc⟩ | ⟨h, rc⟩
      · exact (Or.inl ⟨h, fun Q9 K9_141 K9_149 hq => rb Q9 K9_141 K9_149 (rc Q9 K9_141 K9_149 hq)⟩)
      · exact (Or.inr ⟨h, fun Q9 K9_141 K9_149 hq => rb Q9 K9_141 K9_149 (rc Q9 K9_141 K9_149 hq)⟩)
    have h := h.2 hc
    have rb := fun Q9 K9_141 K9_149 z => rb Q9 K9_141 K9_149 (br_f hc z)
    exact (Or.inl ⟨h, fun Q9 K9_141 K9_149 hq => rb Q9 K9_141 K9_149 hq⟩)
set_option maxHeartbeats 4000000 in
theorem e14_requestLine_L154 {σ : St} {x1 : Int32} {x2 : Int32} {x3 : Int32} {x4 : Int32} {Q : Int32 → St → Prop} {K183 : Prop} {K191 : Prop} (ok : okS σ) :
    ∀ (n : Nat) {x6 : Int32}, w14_requestLine_L154 σ x1 x2 x3 x4 Q K183 K191 n x6 → (K183 ∧ ∀ (Q9 : Int32 → St → Prop) (K9_183 : Prop) (K9_191 : Prop), K9_183 → w14_requestLine_L154 σ x1 x2 x3 x4 Q9 K9_183 K9_191 n x6) ∨ (K191 ∧ ∀ (Q9 : Int32 → St → Prop) (K9_183 : Prop) (K9_191 : Prop), K9_191 → w14_requestLine_L154 σ x1 x2 x3 x4 Q9 K9_183 K9_191 n x6) := by
  intro n
  induction n with
  | zero =>
    intro x6 h
    exact False.elim h
  | succ n ih =>
    intro x6 h
    have rb : ∀ (Q9 : Int32 → St → Prop) (K9_183 : Prop) (K9_191 : Prop), w14_requestLine_L154 σ x1 x2 x3 x4 Q9 K9_183 K9_191 (n + 1) x6 → w14_requestLine_L154 σ x1 x2 x3 x4 Q9 K9_183 K9_191 (n + 1) x6 := fun _ _ _ z => z
    by_cases hc : x4 ≤ x6
    · have h := h.1 hc
      have rb := fun Q9 K9_183 K9_191 z => rb Q9 K9_183 K9_191 (br_t hc z)
      exact (Or.inr ⟨h, fun Q9 K9_183 K9_191 hq => rb Q9 K9_183 K9_191 hq⟩)
    have h := h.2 hc
    have rb := fun Q9 K9_183 K9_191 z => rb Q9 K9_183 K9_191 (br_f hc z)
    obtain ⟨r8, h, rc⟩ := e14_headAt ok h
    have rb := fun Q9 K9_183 K9_191 z => rb Q9 K9_183 K9_191 (rc _ z)
    by_cases hc : r8 < 33
    · have h := h.1 hc
      have rb := fun Q9 K9_183 K9_191 z => rb Q9 K9_183 K9_191 (br_t hc z)
      exact (Or.inl ⟨h, fun Q9 K9_183 K9_191 hq => rb Q9 K9_183 K9_191 hq⟩)
    have h := h.2 hc
    have rb := fun Q9 K9_183 K9_191 z => rb Q9 K9_183 K9_191 (br_f hc z)
    obtain ⟨r9, h, rc⟩ := e14_headAt ok h
    have rb := fun Q9 K9_183 K9_191 z => rb Q9 K9_183 K9_191 (rc _ z)
    by_cases hc : r9 ≤ 126
    · have h := h.1 hc
      have rb := fun Q9 K9_183 K9_191 z => rb Q9 K9_183 K9_191 (br_t hc z)
      rcases ih h with ⟨h, rc⟩ | ⟨h, rc⟩
      · exact (Or.inl ⟨h, fun Q9 K9_183 K9_191 hq => rb Q9 K9_183 K9_191 (rc Q9 K9_183 K9_191 hq)⟩)
      · exact (Or.inr ⟨h, fun Q9 K9_183 K9_191 hq => rb Q9 K9_183 K9_191 (rc Q9 K9_183 K9_191 hq)⟩)
    have h := h.2 hc
    have rb := fun Q9 K9_183 K9_191 z => rb Q9 K9_183 K9_191 (br_f hc z)
    exact (Or.inl ⟨h, fun Q9 K9_183 K9_191 hq => rb Q9 K9_183 K9_191 hq⟩)
set_option maxHeartbeats 4000000 in
theorem e14_requestLine_J242 {σ : St} {x1 : Int32} {x3 : Int32} {x4 : Int32} {xs0 : Int32} {Q : Int32 → St → Prop} (ok : okS σ) (h : w14_requestLine_J242 σ x1 x3 x4 xs0 Q) : (∃ (r : Int32) (σ' : St), Q r σ' ∧ okS σ' ∧ Fr (mF [] [] [(14, [44, 45, 56, 57, 60])] []) σ σ' ∧ ∀ (Q9 : Int32 → St → Prop), Q9 r σ' → w14_requestLine_J242 σ x1 x3 x4 xs0 Q9) := by
  have fr : Fr (mF [] [] [(14, [44, 45, 56, 57, 60])] []) σ σ := Fr.rf
  have rb : ∀ (Q9 : Int32 → St → Prop), w14_requestLine_J242 σ x1 x3 x4 xs0 Q9 → w14_requestLine_J242 σ x1 x3 x4 xs0 Q9 := fun _ z => z
  obtain ⟨hbo, h⟩ := h
  have rb := fun Q9 z => rb Q9 (And.intro hbo z)
  obtain ⟨σ14, e9⟩ : ∃ s : St, s = up3 σ 14 0 45 xs0 := ⟨_, rfl⟩
  have h := h σ14 e9
  have rb := fun Q9 z => rb Q9 (nm_n e9 z)
  have ok : okS σ14 := by rw [e9]; exact (ok_z ok (by decide) hbo)
  have fr : Fr (mF [] [] [(14, [44, 45, 56, 57, 60])] []) σ σ14 := by rw [e9]; exact (Fr.up fr (mF_C (List.mem_of_getElem? (i := 0) rfl) rfl))
  obtain ⟨r15, h, rc⟩ := e14_says (by decide) ok h
  have rb := fun Q9 z => rb Q9 (rc _ z)
  obtain ⟨hbo, h⟩ := h
  have rb := fun Q9 z => rb Q9 (And.intro hbo z)
  obtain ⟨σ16, e9⟩ : ∃ s : St, s = up3 σ14 14 0 44 r15 := ⟨_, rfl⟩
  have h := h σ16 e9
  have rb := fun Q9 z => rb Q9 (nm_n e9 z)
  have ok : okS σ16 := by rw [e9]; exact (ok_z ok (by decide) hbo)
  have fr : Fr (mF [] [] [(14, [44, 45, 56, 57, 60])] []) σ σ16 := by rw [e9]; exact (Fr.up fr (mF_C (List.mem_of_getElem? (i := 0) rfl) rfl))
  have h := h ((ok 14 0 44).1 (by decide))
  have rb := fun Q9 z => rb Q9 (im_n z)
  by_cases hc : (σ16 14 0 44) = 0
  · have h := h.2 hc
    have rb := fun Q9 z => rb Q9 (br_u hc z)
    obtain ⟨r20, h, rc⟩ := e14_says (by decide) ok h
    have rb := fun Q9 z => rb Q9 (rc _ z)
    by_cases hc : r20 = 0
    · have h := h.2 hc
      have rb := fun Q9 z => rb Q9 (br_u hc z)
      obtain ⟨σ24, e9⟩ : ∃ s : St, s = up3 σ16 14 0 60 1 := ⟨_, rfl⟩
      have h := h σ24 e9
      have rb := fun Q9 z => rb Q9 (nm_n e9 z)
      have ok : okS σ24 := by rw [e9]; exact (ok_z ok (by decide) (Or.inr rfl))
      have fr : Fr (mF [] [] [(14, [44, 45, 56, 57, 60])] []) σ σ24 := by rw [e9]; exact (Fr.up fr (mF_C (List.mem_of_getElem? (i := 0) rfl) rfl))
      obtain ⟨σ25, e9⟩ : ∃ s : St, s = up3 σ24 14 0 56 (x3 + 1) := ⟨_, rfl⟩
      have h := h σ25 e9
      have rb := fun Q9 z => rb Q9 (nm_n e9 z)
      have ok : okS σ25 := by rw [e9]; exact (ok_n ok (by decide))
      have fr : Fr (mF [] [] [(14, [44, 45, 56, 57, 60])] []) σ σ25 := by rw [e9]; exact (Fr.up fr (mF_C (List.mem_of_getElem? (i := 0) rfl) rfl))
      obtain ⟨σ26, e9⟩ : ∃ s : St, s = up3 σ25 14 0 57 x4 := ⟨_, rfl⟩
      have h := h σ26 e9
      have rb := fun Q9 z => rb Q9 (nm_n e9 z)
      have ok : okS σ26 := by rw [e9]; exact (ok_n ok (by decide))
      have fr : Fr (mF [] [] [(14, [44, 45, 56, 57, 60])] []) σ σ26 := by rw [e9]; exact (Fr.up fr (mF_C (List.mem_of_getElem? (i := 0) rfl) rfl))
      exact ⟨1, σ26, h, ok, fr, fun Q9 hq => rb Q9 hq⟩
    have h := h.1 hc
    have rb := fun Q9 z => rb Q9 (br_v hc z)
    obtain ⟨σ21, e9⟩ : ∃ s : St, s = up3 σ16 14 0 60 0 := ⟨_, rfl⟩
    have h := h σ21 e9
    have rb := fun Q9 z => rb Q9 (nm_n e9 z)
    have ok : okS σ21 := by rw [e9]; exact (ok_z ok (by decide) (Or.inl rfl))
    have fr : Fr (mF [] [] [(14, [44, 45, 56, 57, 60])] []) σ σ21 := by rw [e9]; exact (Fr.up fr (mF_C (List.mem_of_getElem? (i := 0) rfl) rfl))
    obtain ⟨σ22, e9⟩ : ∃ s : St, s = up3 σ21 14 0 56 (x3 + 1) := ⟨_, rfl⟩
    have h := h σ22 e9
    have rb := fun Q9 z => rb Q9 (nm_n e9 z)
    have ok : okS σ22 := by rw [e9]; exact (ok_n ok (by decide))
    have fr : Fr (mF [] [] [(14, [44, 45, 56, 57, 60])] []) σ σ22 := by rw [e9]; exact (Fr.up fr (mF_C (List.mem_of_getElem? (i := 0) rfl) rfl))
    obtain ⟨σ23, e9⟩ : ∃ s : St, s = up3 σ22 14 0 57 x4 := ⟨_, rfl⟩
    have h := h σ23 e9
    have rb := fun Q9 z => rb Q9 (nm_n e9 z)
    have ok : okS σ23 := by rw [e9]; exact (ok_n ok (by decide))
    have fr : Fr (mF [] [] [(14, [44, 45, 56, 57, 60])] []) σ σ23 := by rw [e9]; exact (Fr.up fr (mF_C (List.mem_of_getElem? (i := 0) rfl) rfl))
    exact ⟨1, σ23, h, ok, fr, fun Q9 hq => rb Q9 hq⟩
  have h := h.1 hc
  have rb := fun Q9 z => rb Q9 (br_v hc z)
  obtain ⟨σ17, e9⟩ : ∃ s : St, s = up3 σ16 14 0 60 0 := ⟨_, rfl⟩
  have h := h σ17 e9
  have rb := fun Q9 z => rb Q9 (nm_n e9 z)
  have ok : okS σ17 := by rw [e9]; exact (ok_z ok (by decide) (Or.inl rfl))
  have fr : Fr (mF [] [] [(14, [44, 45, 56, 57, 60])] []) σ σ17 := by rw [e9]; exact (Fr.up fr (mF_C (List.mem_of_getElem? (i := 0) rfl) rfl))
  obtain ⟨σ18, e9⟩ : ∃ s : St, s = up3 σ17 14 0 56 (x3 + 1) := ⟨_, rfl⟩
  have h := h σ18 e9
  have rb := fun Q9 z => rb Q9 (nm_n e9 z)
  have ok : okS σ18 := by rw [e9]; exact (ok_n ok (by decide))
  have fr : Fr (mF [] [] [(14, [44, 45, 56, 57, 60])] []) σ σ18 := by rw [e9]; exact (Fr.up fr (mF_C (List.mem_of_getElem? (i := 0) rfl) rfl))
  obtain ⟨σ19, e9⟩ : ∃ s : St, s = up3 σ18 14 0 57 x4 := ⟨_, rfl⟩
  have h := h σ19 e9
  have rb := fun Q9 z => rb Q9 (nm_n e9 z)
  have ok : okS σ19 := by rw [e9]; exact (ok_n ok (by decide))
  have fr : Fr (mF [] [] [(14, [44, 45, 56, 57, 60])] []) σ σ19 := by rw [e9]; exact (Fr.up fr (mF_C (List.mem_of_getElem? (i := 0) rfl) rfl))
  exact ⟨1, σ19, h, ok, fr, fun Q9 hq => rb Q9 hq⟩
set_option maxHeartbeats 4000000 in
theorem e14_requestLine {σ : St} {x1 : Int32} {x2 : Int32} {Q : Int32 → St → Prop} (ok : okS σ) (h : w14_requestLine σ x1 x2 Q) : (∃ (r : Int32) (σ' : St), Q r σ' ∧ okS σ' ∧ Fr (mF [] [] [(14, [44, 45, 56, 57, 60])] []) σ σ' ∧ ∀ (Q9 : Int32 → St → Prop), Q9 r σ' → w14_requestLine σ x1 x2 Q9) := by
  have fr : Fr (mF [] [] [(14, [44, 45, 56, 57, 60])] []) σ σ := Fr.rf
  have rb : ∀ (Q9 : Int32 → St → Prop), w14_requestLine σ x1 x2 Q9 → w14_requestLine σ x1 x2 Q9 := fun _ z => z
  obtain ⟨n9, h⟩ := h
  rcases e14_requestLine_L11 ok n9 h with ⟨x3_2, x4_2, x5_2, h, rc⟩
  · have rb := fun Q9 z => rb Q9 (Exists.intro n9 (rc _ _ z))
    by_cases hc : x5_2 = 2
    · have h := h.2 hc
      have rb := fun Q9 z => rb Q9 (br_u hc z)
      by_cases hc : (x3_2 - x1) < 1
      · have h := h.1 hc
        have rb := fun Q9 z => rb Q9 (br_t hc z)
        exact ⟨0, σ, h, ok, fr, fun Q9 hq => rb Q9 hq⟩
      have h := h.2 hc
      have rb := fun Q9 z => rb Q9 (br_f hc z)
      by_cases hc : 16 < (x3_2 - x1)
      · have h := h.1 hc
        have rb := fun Q9 z => rb Q9 (br_t hc z)
        exact ⟨0, σ, h, ok, fr, fun Q9 hq => rb Q9 hq⟩
      have h := h.2 hc
      have rb := fun Q9 z => rb Q9 (br_f hc z)
      by_cases hc : x4_2 = (x3_2 + 1)
      · have h := h.1 hc
        have rb := fun Q9 z => rb Q9 (br_t hc z)
        exact ⟨0, σ, h, ok, fr, fun Q9 hq => rb Q9 hq⟩
      have h := h.2 hc
      have rb := fun Q9 z => rb Q9 (br_f hc z)
      obtain ⟨hc, h⟩ := h
      have rb := fun Q9 z => rb Q9 (And.intro hc z)
      have h := h ((ok 66 0 _).2 (tyk_a 66 2 (by decide) (by decide) _))
      have rb := fun Q9 z => rb Q9 (im_n z)
      by_cases hc : (σ 66 0 (x3_2 + 1).toNatClampNeg) = 47
      · have h := h.2 hc
        have rb := fun Q9 z => rb Q9 (br_u hc z)
        by_cases hc : (x2 - x4_2) = 9
        · have h := h.1 hc
          have rb := fun Q9 z => rb Q9 (br_t hc z)
          obtain ⟨n9, h⟩ := h
          rcases e14_requestLine_L113 ok n9 h with ⟨h, rc⟩ | ⟨h, rc⟩
          · have rb := fun Q9 z => rb Q9 (Exists.intro n9 (rc _ _ _ z))
            exact ⟨0, σ, h, ok, fr, fun Q9 hq => rb Q9 hq⟩
          · have rb := fun Q9 z => rb Q9 (Exists.intro n9 (rc _ _ _ z))
            obtain ⟨n9, h⟩ := h
            rcases e14_requestLine_L154 ok n9 h with ⟨h, rc⟩ | ⟨h, rc⟩
            · have rb := fun Q9 z => rb Q9 (Exists.intro n9 (rc _ _ _ z))
              exact ⟨0, σ, h, ok, fr, fun Q9 hq => rb Q9 hq⟩
            · have rb := fun Q9 z => rb Q9 (Exists.intro n9 (rc _ _ _ z))
              obtain ⟨r13, h, rc⟩ := e14_says (by decide) ok h
              have rb := fun Q9 z => rb Q9 (rc _ z)
              by_cases hc : r13 = 0
              · have h := h.2 hc
                have rb := fun Q9 z => rb Q9 (br_u hc z)
                obtain ⟨r27, h, rc⟩ := e14_says (by decide) ok h
                have rb := fun Q9 z => rb Q9 (rc _ z)
                by_cases hc : r27 = 0
                · have h := h.2 hc
                  have rb := fun Q9 z => rb Q9 (br_u hc z)
                  exact ⟨0, σ, h, ok, fr, fun Q9 hq => rb Q9 hq⟩
                have h := h.1 hc
                have rb := fun Q9 z => rb Q9 (br_v hc z)
                obtain ⟨hc, h⟩ := h
                have rb := fun Q9 z => rb Q9 (And.intro hc z)
                have h := h ((ok 66 0 _).2 (tyk_a 66 2 (by decide) (by decide) _))
                have rb := fun Q9 z => rb Q9 (im_n z)
                by_cases hc : (σ 66 0 (x2 - 1).toNatClampNeg) = 48
                · have h := h.2 hc
                  have rb := fun Q9 z => rb Q9 (br_u hc z)
                  obtain ⟨r9, σ9, h, ok, fr9, rc⟩ := e14_requestLine_J242 ok h
                  exact ⟨r9, σ9, h, ok, fr.tr (fr9.sub (mF_sub rfl sub_nil rfl sud_nil)), fun Q9 hq => rb Q9 (rc Q9 hq)⟩
                have h := h.1 hc
                have rb := fun Q9 z => rb Q9 (br_v hc z)
                obtain ⟨r9, σ9, h, ok, fr9, rc⟩ := e14_requestLine_J242 ok h
                exact ⟨r9, σ9, h, ok, fr.tr (fr9.sub (mF_sub rfl sub_nil rfl sud_nil)), fun Q9 hq => rb Q9 (rc Q9 hq)⟩
              have h := h.1 hc
              have rb := fun Q9 z => rb Q9 (br_v hc z)
              obtain ⟨hc, h⟩ := h
              have rb := fun Q9 z => rb Q9 (And.intro hc z)
              have h := h ((ok 66 0 _).2 (tyk_a 66 2 (by decide) (by decide) _))
              have rb := fun Q9 z => rb Q9 (im_n z)
              by_cases hc : (σ 66 0 (x2 - 1).toNatClampNeg) = 48
              · have h := h.2 hc
                have rb := fun Q9 z => rb Q9 (br_u hc z)
                obtain ⟨r9, σ9, h, ok, fr9, rc⟩ := e14_requestLine_J242 ok h
                exact ⟨r9, σ9, h, ok, fr.tr (fr9.sub (mF_sub rfl sub_nil rfl sud_nil)), fun Q9 hq => rb Q9 (rc Q9 hq)⟩
              have h := h.1 hc
              have rb := fun Q9 z => rb Q9 (br_v hc z)
              obtain ⟨r9, σ9, h, ok, fr9, rc⟩ := e14_requestLine_J242 ok h
              exact ⟨r9, σ9, h, ok, fr.tr (fr9.sub (mF_sub rfl sub_nil rfl sud_nil)), fun Q9 hq => rb Q9 (rc Q9 hq)⟩
        have h := h.2 hc
        have rb := fun Q9 z => rb Q9 (br_f hc z)
        exact ⟨0, σ, h, ok, fr, fun Q9 hq => rb Q9 hq⟩
      have h := h.1 hc
      have rb := fun Q9 z => rb Q9 (br_v hc z)
      exact ⟨0, σ, h, ok, fr, fun Q9 hq => rb Q9 hq⟩
    have h := h.1 hc
    have rb := fun Q9 z => rb Q9 (br_v hc z)
    exact ⟨0, σ, h, ok, fr, fun Q9 hq => rb Q9 hq⟩
/-! WebHostModel.segmentOut(IIIIIIIII)V -/
set_option maxHeartbeats 4000000 in
theorem e14_segmentOut_J91 {σ : St} {x1 : Int32} {x8 : Int32} {x9 : Int32} {Q : St → Prop} (ok : okS σ) (h : w14_segmentOut_J91 σ x1 x8 x9 Q) : (∃ (σ' : St), Q σ' ∧ okS σ' ∧ Fr (mF [57, 58, 59, 60, 68] [] [(14, [18, 23, 24, 25]), (17, [0, 1, 2, 3, 4, 5])] []) σ σ' ∧ ∀ (Q9 : St → Prop), Q9 σ' → w14_segmentOut_J91 σ x1 x8 x9 Q9) := by
  have fr : Fr (mF [57, 58, 59, 60, 68] [] [(14, [18, 23, 24, 25]), (17, [0, 1, 2, 3, 4, 5])] []) σ σ := Fr.rf
  have rb : ∀ (Q9 : St → Prop), w14_segmentOut_J91 σ x1 x8 x9 Q9 → w14_segmentOut_J91 σ x1 x8 x9 Q9 := fun _ z => z
  obtain ⟨r9, h, rc⟩ := e14_pseudo ok h
  have rb := fun Q9 z => rb Q9 (rc _ z)
  obtain ⟨r10, h, rc⟩ := e14_added (by decide) ok h
  have rb := fun Q9 z => rb Q9 (rc _ z)
  obtain ⟨r11, h, rc⟩ := e14_sixteen ok h
  have rb := fun Q9 z => rb Q9 (rc _ z)
  obtain ⟨σ12, h, ok, fr9, rc⟩ := e14_put ok h
  have fr := fr.tr (fr9.sub (mF_sub rfl sub_nil rfl sud_nil))
  have rb := fun Q9 z => rb Q9 (rc _ z)
  obtain ⟨σ13, h, ok, fr9, rc⟩ := e14_ipOut ok h
  have fr := fr.tr (fr9.sub (mF_sub rfl sub_nil rfl sud_nil))
  have rb := fun Q9 z => rb Q9 (rc _ z)
  exact ⟨σ13, h, ok, fr, fun Q9 hq => rb Q9 hq⟩
set_option maxHeartbeats 4000000 in
theorem e14_segmentOut {σ : St} {x1 : Int32} {x2 : Int32} {x3 : Int32} {x4 : Int32} {x5 : Int32} {x6 : Int32} {x7 : Int32} {x8 : Int32} {x9 : Int32} {Q : St → Prop} (ok : okS σ) (h : w14_segmentOut σ x1 x2 x3 x4 x5 x6 x7 x8 x9 Q) : (∃ (σ' : St), Q σ' ∧ okS σ' ∧ Fr (mF [57, 58, 59, 60, 68] [] [(14, [18, 23, 24, 25]), (17, [0, 1, 2, 3, 4, 5])] []) σ σ' ∧ ∀ (Q9 : St → Prop), Q9 σ' → w14_segmentOut σ x1 x2 x3 x4 x5 x6 x7 x8 x9 Q9) := by
  have fr : Fr (mF [57, 58, 59, 60, 68] [] [(14, [18, 23, 24, 25]), (17, [0, 1, 2, 3, 4, 5])] []) σ σ := Fr.rf
  have rb : ∀ (Q9 : St → Prop), w14_segmentOut σ x1 x2 x3 x4 x5 x6 x7 x8 x9 Q9 → w14_segmentOut σ x1 x2 x3 x4 x5 x6 x7 x8 x9 Q9 := fun _ z => z
  obtain ⟨σ1, h, ok, fr9, rc⟩ := e14_put ok h
  have fr := fr.tr (fr9.sub (mF_sub rfl sub_nil rfl sud_nil))
  have rb := fun Q9 z => rb Q9 (rc _ z)
  obtain ⟨σ2, h, ok, fr9, rc⟩ := e14_put ok h
  have fr := fr.tr (fr9.sub (mF_sub rfl sub_nil rfl sud_nil))
  have rb := fun Q9 z => rb Q9 (rc _ z)
  obtain ⟨σ3, h, ok, fr9, rc⟩ := e14_put ok h
  have fr := fr.tr (fr9.sub (mF_sub rfl sub_nil rfl sud_nil))
  have rb := fun Q9 z => rb Q9 (rc _ z)
  obtain ⟨σ4, h, ok, fr9, rc⟩ := e14_put ok h
  have fr := fr.tr (fr9.sub (mF_sub rfl sub_nil rfl sud_nil))
  have rb := fun Q9 z => rb Q9 (rc _ z)
  obtain ⟨σ5, h, ok, fr9, rc⟩ := e14_put ok h
  have fr := fr.tr (fr9.sub (mF_sub rfl sub_nil rfl sud_nil))
  have rb := fun Q9 z => rb Q9 (rc _ z)
  obtain ⟨σ6, h, ok, fr9, rc⟩ := e14_put ok h
  have fr := fr.tr (fr9.sub (mF_sub rfl sub_nil rfl sud_nil))
  have rb := fun Q9 z => rb Q9 (rc _ z)
  obtain ⟨σ7, h, ok, fr9, rc⟩ := e14_put ok h
  have fr := fr.tr (fr9.sub (mF_sub rfl sub_nil rfl sud_nil))
  have rb := fun Q9 z => rb Q9 (rc _ z)
  obtain ⟨σ8, h, ok, fr9, rc⟩ := e14_put ok h
  have fr := fr.tr (fr9.sub (mF_sub rfl sub_nil rfl sud_nil))
  have rb := fun Q9 z => rb Q9 (rc _ z)
  by_cases hc : x8 ≤ 0
  · have h := h.1 hc
    have rb := fun Q9 z => rb Q9 (br_t hc z)
    obtain ⟨σ9, h, ok, fr9, rc⟩ := e14_segmentOut_J91 ok h
    exact ⟨σ9, h, ok, fr.tr (fr9.sub (mF_sub rfl sub_nil rfl sud_nil)), fun Q9 hq => rb Q9 (rc Q9 hq)⟩
  have h := h.2 hc
  have rb := fun Q9 z => rb Q9 (br_f hc z)
  obtain ⟨σ14, h, ok, fr9, rc⟩ := e14_put ok h
  have fr := fr.tr (fr9.sub (mF_sub rfl sub_nil rfl sud_nil))
  have rb := fun Q9 z => rb Q9 (rc _ z)
  obtain ⟨σ9, h, ok, fr9, rc⟩ := e14_segmentOut_J91 ok h
  exact ⟨σ9, h, ok, fr.tr (fr9.sub (mF_sub rfl sub_nil rfl sud_nil)), fun Q9 hq => rb Q9 (rc Q9 hq)⟩
/-! WebHostModel.type(I)Ljava/lang/String; -/
set_option maxHeartbeats 4000000 in
theorem e14_type {σ : St} {x1 : Int32} {Q : Nat → Prop} (ok : okS σ) (h : w14_type σ x1 Q) : (∃ r : Nat, Q r ∧ ∀ (Q9 : Nat → Prop), Q9 r → w14_type σ x1 Q9) := by
  have rb : ∀ (Q9 : Nat → Prop), w14_type σ x1 Q9 → w14_type σ x1 Q9 := fun _ z => z
  by_cases hc : x1 < 0
  · have h := h.1 hc
    have rb := fun Q9 z => rb Q9 (br_t hc z)
    exact ⟨67, h, fun Q9 hq => rb Q9 hq⟩
  have h := h.2 hc
  have rb := fun Q9 z => rb Q9 (br_f hc z)
  obtain ⟨r1, h, rc⟩ := e14_endsWith (by decide) ok h
  have rb := fun Q9 z => rb Q9 (rc _ z)
  by_cases hc : r1 = 0
  · have h := h.1 hc
    have rb := fun Q9 z => rb Q9 (br_t hc z)
    obtain ⟨r2, h, rc⟩ := e14_endsWith (by decide) ok h
    have rb := fun Q9 z => rb Q9 (rc _ z)
    by_cases hc : r2 = 0
    · have h := h.1 hc
      have rb := fun Q9 z => rb Q9 (br_t hc z)
      obtain ⟨r3, h, rc⟩ := e14_endsWith (by decide) ok h
      have rb := fun Q9 z => rb Q9 (rc _ z)
      by_cases hc : r3 = 0
      · have h := h.1 hc
        have rb := fun Q9 z => rb Q9 (br_t hc z)
        obtain ⟨r4, h, rc⟩ := e14_endsWith (by decide) ok h
        have rb := fun Q9 z => rb Q9 (rc _ z)
        by_cases hc : r4 = 0
        · have h := h.1 hc
          have rb := fun Q9 z => rb Q9 (br_t hc z)
          obtain ⟨r5, h, rc⟩ := e14_endsWith (by decide) ok h
          have rb := fun Q9 z => rb Q9 (rc _ z)
          by_cases hc : r5 = 0
          · have h := h.1 hc
            have rb := fun Q9 z => rb Q9 (br_t hc z)
            exact ⟨76, h, fun Q9 hq => rb Q9 hq⟩
          have h := h.2 hc
          have rb := fun Q9 z => rb Q9 (br_f hc z)
          exact ⟨75, h, fun Q9 hq => rb Q9 hq⟩
        have h := h.2 hc
        have rb := fun Q9 z => rb Q9 (br_f hc z)
        exact ⟨73, h, fun Q9 hq => rb Q9 hq⟩
      have h := h.2 hc
      have rb := fun Q9 z => rb Q9 (br_f hc z)
      exact ⟨71, h, fun Q9 hq => rb Q9 hq⟩
    have h := h.2 hc
    have rb := fun Q9 z => rb Q9 (br_f hc z)
    exact ⟨69, h, fun Q9 hq => rb Q9 hq⟩
  have h := h.2 hc
  have rb := fun Q9 z => rb Q9 (br_f hc z)
  exact ⟨67, h, fun Q9 hq => rb Q9 hq⟩
