/-! what is due: the model -/
set_option maxRecDepth 100000
theorem lcmp3 {a b : Nat} (ha : a < 9223372036854775808) (hb : b < 9223372036854775808) : (b < a ∧ lg_cmp (lN a) (lN b) = 1) ∨ (a = b ∧ lg_cmp (lN a) (lN b) = 0) ∨ (a < b ∧ lg_cmp (lN a) (lN b) = -1) := by
  unfold lg_cmp
  have h1 := pk_lLT (a := b) (b := a) (by omega) (by omega)
  have h2 := pk_lEQ (a := a) (b := b) (by omega) (by omega)
  by_cases c1 : b < a
  · exact Or.inl ⟨c1, by rw [if_pos (h1.mpr c1)]⟩
  by_cases c2 : a = b
  · exact Or.inr (Or.inl ⟨c2, by rw [if_neg (fun z => c1 (h1.mp z)), if_pos (h2.mpr c2)]⟩)
  · exact Or.inr (Or.inr ⟨by omega, by rw [if_neg (fun z => c1 (h1.mp z)), if_neg (fun z => c2 (h2.mp z))]⟩)
theorem lcmp_lt {a b : Nat} (ha : a < 9223372036854775808) (hb : b < 9223372036854775808) : lg_cmp (lN a) (lN b) < 0 ↔ a < b := by
  rcases lcmp3 ha hb with ⟨z1, z2⟩ | ⟨z1, z2⟩ | ⟨z1, z2⟩ <;> rw [z2]
  · exact ⟨fun h => absurd h (by decide), fun h => by omega⟩
  · exact ⟨fun h => absurd h (by decide), fun h => by omega⟩
  · exact ⟨fun _ => z1, fun _ => by decide⟩
theorem lcmp_eq {a b : Nat} (ha : a < 9223372036854775808) (hb : b < 9223372036854775808) : lg_cmp (lN a) (lN b) = 0 ↔ a = b := by
  rcases lcmp3 ha hb with ⟨z1, z2⟩ | ⟨z1, z2⟩ | ⟨z1, z2⟩ <;> rw [z2]
  · exact ⟨fun h => absurd h (by decide), fun h => by omega⟩
  · exact ⟨fun _ => z1, fun _ => rfl⟩
  · exact ⟨fun h => absurd h (by decide), fun h => by omega⟩
theorem lcmp_ge {a b : Nat} (ha : a < 9223372036854775808) (hb : b < 9223372036854775808) : 0 ≤ lg_cmp (lN a) (lN b) ↔ b ≤ a := by
  rcases lcmp3 ha hb with ⟨z1, z2⟩ | ⟨z1, z2⟩ | ⟨z1, z2⟩ <;> rw [z2]
  · exact ⟨fun _ => by omega, fun _ => by decide⟩
  · exact ⟨fun _ => by omega, fun _ => by decide⟩
  · exact ⟨fun h => absurd h (by decide), fun h => by omega⟩
/-- when a packet is asked for again, and its order; when a datagram is given up, and its order -/
def pA (τ : St) (j : Nat) : Nat := ((τ 17 j 3)).toNatClampNeg + 1000 * ((τ 17 j 4)).toNatClampNeg
def pO (τ : St) (j : Nat) : Nat := ((τ 17 j 5)).toNatClampNeg
def dgA (τ : St) (j : Nat) : Nat := ((τ 18 j 5)).toNatClampNeg + 15000
def dgO (τ : St) (j : Nat) : Nat := ((τ 18 j 6)).toNatClampNeg
def PkF (τ : St) : Prop := (∀ j, j < 8 → (τ 17 j 0) ≠ 0 → ((τ 17 j 3)).toInt64 + (1000 * ((τ 17 j 4)).toInt64) = lN (pA τ j)) ∧ (∀ j, j < 8 → (τ 17 j 0) ≠ 0 → pA τ j < 2147483648) ∧ (∀ j, j < 8 → (τ 17 j 0) ≠ 0 → (τ 17 j 5) = nI (pO τ j)) ∧ (∀ j, j < 8 → (τ 17 j 0) ≠ 0 → pO τ j < 2147483648)
theorem PkF.due {τ : St} (h : PkF τ) : ∀ j, j < 8 → (τ 17 j 0) ≠ 0 → ((τ 17 j 3)).toInt64 + (1000 * ((τ 17 j 4)).toInt64) = lN (pA τ j) := h.1
theorem PkF.lim {τ : St} (h : PkF τ) : ∀ j, j < 8 → (τ 17 j 0) ≠ 0 → pA τ j < 2147483648 := h.2.1
theorem PkF.ord {τ : St} (h : PkF τ) : ∀ j, j < 8 → (τ 17 j 0) ≠ 0 → (τ 17 j 5) = nI (pO τ j) := h.2.2.1
theorem PkF.oli {τ : St} (h : PkF τ) : ∀ j, j < 8 → (τ 17 j 0) ≠ 0 → pO τ j < 2147483648 := h.2.2.2
theorem PkF.mk {τ : St} (due : ∀ j, j < 8 → (τ 17 j 0) ≠ 0 → ((τ 17 j 3)).toInt64 + (1000 * ((τ 17 j 4)).toInt64) = lN (pA τ j)) (lim : ∀ j, j < 8 → (τ 17 j 0) ≠ 0 → pA τ j < 2147483648) (ord : ∀ j, j < 8 → (τ 17 j 0) ≠ 0 → (τ 17 j 5) = nI (pO τ j)) (oli : ∀ j, j < 8 → (τ 17 j 0) ≠ 0 → pO τ j < 2147483648) : PkF τ := ⟨due, lim, ord, oli⟩
def GmF (τ : St) : Prop := (∀ j, j < 4 → (τ 18 j 0) ≠ 0 → ((τ 18 j 5)).toInt64 + 15000 = lN (dgA τ j)) ∧ (∀ j, j < 4 → (τ 18 j 0) ≠ 0 → dgA τ j < 2147483648) ∧ (∀ j, j < 4 → (τ 18 j 0) ≠ 0 → (τ 18 j 6) = nI (dgO τ j)) ∧ (∀ j, j < 4 → (τ 18 j 0) ≠ 0 → dgO τ j < 2147483648)
theorem GmF.due {τ : St} (h : GmF τ) : ∀ j, j < 4 → (τ 18 j 0) ≠ 0 → ((τ 18 j 5)).toInt64 + 15000 = lN (dgA τ j) := h.1
theorem GmF.lim {τ : St} (h : GmF τ) : ∀ j, j < 4 → (τ 18 j 0) ≠ 0 → dgA τ j < 2147483648 := h.2.1
theorem GmF.ord {τ : St} (h : GmF τ) : ∀ j, j < 4 → (τ 18 j 0) ≠ 0 → (τ 18 j 6) = nI (dgO τ j) := h.2.2.1
theorem GmF.oli {τ : St} (h : GmF τ) : ∀ j, j < 4 → (τ 18 j 0) ≠ 0 → dgO τ j < 2147483648 := h.2.2.2
theorem GmF.mk {τ : St} (due : ∀ j, j < 4 → (τ 18 j 0) ≠ 0 → ((τ 18 j 5)).toInt64 + 15000 = lN (dgA τ j)) (lim : ∀ j, j < 4 → (τ 18 j 0) ≠ 0 → dgA τ j < 2147483648) (ord : ∀ j, j < 4 → (τ 18 j 0) ≠ 0 → (τ 18 j 6) = nI (dgO τ j)) (oli : ∀ j, j < 4 → (τ 18 j 0) ≠ 0 → dgO τ j < 2147483648) : GmF τ := ⟨due, lim, ord, oli⟩
/-- all packets are behind D -/
theorem L19_gt {τ : St} {x1 : Int32} {Q : St → Prop} {K : Int64 → Int32 → Int32 → Prop} {D : Nat} (hP : PkF τ) (hgt : ∀ j, j < 8 → (τ 17 j 0) ≠ 0 → D < pA τ j) (hK : ∀ (Y : Nat) (x5 x6 : Int32), D < Y → Y < 9223372036854775808 → (x5 = -1 ∨ x5 = 0) → K (lN Y) x5 x6) : ∀ (m j Y : Nat) (x5 x6 : Int32), j + m = 8 → D < Y → Y < 9223372036854775808 → (x5 = -1 ∨ x5 = 0) → (Y < 2147483648 → ∃ s, s < 8 ∧ x6 = nI s) → w14_passTo_L19 τ x1 Q K (m + 1) (lN Y) x5 x6 (nI j) := by
  intro m
  induction m with
  | zero =>
    intro j Y x5 x6 hj h1 h2 h5 _
    exact br_t (nI_le (a := 8) (by omega) (by omega)) (hK Y x5 x6 h1 h2 h5)
  | succ m ih =>
    intro j Y x5 x6 hj h1 h2 h5 h6
    refine br_f (nI_ge (b := 8) (by omega) (by omega)) ⟨vin (by omega) (by omega), fun _ => ?_⟩
    rw [cl (by omega), nI_1]
    by_cases c0 : τ 17 j 0 = 0
    · exact br_t c0 (ih (j + 1) Y x5 x6 (by omega) h1 h2 h5 h6)
    refine br_f c0 ?_
    have hl := hP.lim j (by omega) c0
    have hg := hgt j (by omega) c0
    have up : w14_passTo_L19 τ x1 Q K (m + 1) (lN (pA τ j)) 0 (nI j) (nI (j + 1)) := ih (j + 1) _ _ _ (by omega) hg (by omega) (Or.inr rfl) (fun _ => ⟨j, by omega, rfl⟩)
    unfold w14_askDue
    rw [show (τ 17 j 3).toInt64 + (1000 * (τ 17 j 4).toInt64) = lN (pA τ j) from hP.due j (by omega) c0]
    by_cases c1 : pA τ j < Y
    · exact br_t ((lcmp_lt (by omega) h2).mpr c1) up
    refine br_f (fun z => c1 ((lcmp_lt (by omega) h2).mp z)) ?_
    by_cases c2 : pA τ j = Y
    rotate_left
    · exact br_v (fun z => c2 ((lcmp_eq (by omega) h2).mp z)) (ih (j + 1) Y x5 x6 (by omega) h1 h2 h5 h6)
    obtain ⟨s, hs, e6⟩ := h6 (by omega)
    refine br_u ((lcmp_eq (by omega) h2).mpr c2) ⟨by rw [e6]; exact vin (by omega) (by omega), ?_⟩
    by_cases c3 : τ 17 x6.toNatClampNeg 5 ≤ τ 17 j 5
    · exact br_t c3 (ih (j + 1) Y x5 x6 (by omega) h1 h2 h5 h6)
    · exact br_f c3 up
/-- the first of the packets that are due at D -/
theorem L19_at {τ : St} {x1 : Int32} {Q : St → Prop} {K : Int64 → Int32 → Int32 → Prop} {D p : Nat} (hP : PkF τ) (hp : p < 8) (hpu : (τ 17 p 0) ≠ 0) (hpD : pA τ p = D) (hge : ∀ j, j < 8 → (τ 17 j 0) ≠ 0 → D ≤ pA τ j) (hor : ∀ j, j < 8 → (τ 17 j 0) ≠ 0 → j ≠ p → pA τ j = D → pO τ p < pO τ j) (hK : K (lN D) 0 (nI p)) : ∀ (m j Y : Nat) (x5 x6 : Int32), j + m = 8 → Y < 9223372036854775808 → (Y < 2147483648 → ∃ s, s < 8 ∧ x6 = nI s) → (j ≤ p → D < Y ∨ Y = D ∧ ∃ s, s < 8 ∧ x6 = nI s ∧ s ≠ p ∧ (τ 17 s 0) ≠ 0 ∧ pA τ s = D) → (p < j → Y = D ∧ x5 = 0 ∧ x6 = nI p) → w14_passTo_L19 τ x1 Q K (m + 1) (lN Y) x5 x6 (nI j) := by
  have hDl := hP.lim p hp hpu
  intro m
  induction m with
  | zero =>
    intro j Y x5 x6 hj h2 _ _ h7
    obtain ⟨rfl, rfl, rfl⟩ := h7 (by omega)
    exact br_t (nI_le (a := 8) (by omega) (by omega)) hK
  | succ m ih =>
    intro j Y x5 x6 hj h2 h6 hb ha
    refine br_f (nI_ge (b := 8) (by omega) (by omega)) ⟨vin (by omega) (by omega), fun _ => ?_⟩
    rw [cl (by omega), nI_1]
    by_cases c0 : τ 17 j 0 = 0
    · have hne : j ≠ p := fun z => hpu (by rw [← z]; exact c0)
      exact br_t c0 (ih (j + 1) Y x5 x6 (by omega) h2 h6 (fun z => hb (by omega)) (fun z => ha (by omega)))
    refine br_f c0 ?_
    have hl := hP.lim j (by omega) c0
    have hg := hge j (by omega) c0
    unfold w14_askDue
    rw [show (τ 17 j 3).toInt64 + (1000 * (τ 17 j 4).toInt64) = lN (pA τ j) from hP.due j (by omega) c0]
    have same : (j ≠ p) → w14_passTo_L19 τ x1 Q K (m + 1) (lN Y) x5 x6 (nI (j + 1)) := fun hne => ih (j + 1) Y x5 x6 (by omega) h2 h6 (fun z => hb (by omega)) (fun z => ha (by omega))
    have up : j ≤ p → w14_passTo_L19 τ x1 Q K (m + 1) (lN (pA τ j)) 0 (nI j) (nI (j + 1)) := fun hjp => by
      refine ih (j + 1) _ _ _ (by omega) (by omega) (fun _ => ⟨j, by omega, rfl⟩) (fun z => ?_) (fun z => ?_)
      · by_cases y : D < pA τ j
        · exact Or.inl y
        · exact Or.inr ⟨by omega, j, by omega, rfl, by omega, c0, by omega⟩
      · obtain rfl : j = p := by omega
        exact ⟨hpD, rfl, rfl⟩
    by_cases c1 : pA τ j < Y
    · refine br_t ((lcmp_lt (by omega) h2).mpr c1) (up ?_)
      by_cases y : p < j
      · have := (ha y).1; omega
      · omega
    refine br_f (fun z => c1 ((lcmp_lt (by omega) h2).mp z)) ?_
    by_cases c2 : pA τ j = Y
    rotate_left
    · refine br_v (fun z => c2 ((lcmp_eq (by omega) h2).mp z)) (same (fun z => ?_))
      subst z
      rcases hb (Nat.le_refl _) with y | y <;> omega
    obtain ⟨s, hs, e6⟩ := h6 (by omega)
    refine br_u ((lcmp_eq (by omega) h2).mpr c2) ⟨by rw [e6]; exact vin (by omega) (by omega), ?_⟩
    by_cases c3 : τ 17 x6.toNatClampNeg 5 ≤ τ 17 j 5
    · refine br_t c3 (same (fun z => ?_))
      subst z
      rcases hb (Nat.le_refl _) with y | ⟨_, s', y1, y2, y3, y4, y5⟩
      · omega
      · rw [y2, cl (by omega), show τ 17 s' 5 = nI (pO τ s') from hP.ord s' y1 y4, show τ 17 j 5 = nI (pO τ j) from hP.ord j hp c0] at c3
        have o1 := hP.oli s' y1 y4
        have o2 := hP.oli j hp c0
        have := (nI_leI (by omega) (by omega)).mp c3
        have := hor s' y1 y4 y3 y5
        omega
    · refine br_f c3 (up ?_)
      by_cases y : p < j
      · obtain ⟨y1, y2, y3⟩ := ha y
        refine absurd ?_ c3
        rw [y3, cl (by omega), show τ 17 p 5 = nI (pO τ p) from hP.ord p hp hpu, show τ 17 j 5 = nI (pO τ j) from hP.ord j (by omega) c0]
        have o2 := hP.oli j (by omega) c0
        have := hor j (by omega) c0 (by omega) (by omega)
        exact nI_le (by omega) (by omega)
      · omega
/-- all datagrams are behind D -/
theorem L103_gt {τ : St} {x1 : Int32} {Q : St → Prop} {K : Int64 → Int32 → Int32 → Prop} {D : Nat} (hP : GmF τ) (hgt : ∀ j, j < 4 → (τ 18 j 0) ≠ 0 → D < dgA τ j) (hK : ∀ (Y : Nat) (x5 x6 : Int32), D < Y → Y < 9223372036854775808 → K (lN Y) x5 x6) : ∀ (m j Y : Nat) (x5 x6 : Int32), j + m = 4 → D < Y → Y < 9223372036854775808 → (x5 = 1 → ∃ s, s < 4 ∧ x6 = nI s) → w14_passTo_L103 τ x1 Q K (m + 1) (lN Y) x5 x6 (nI j) := by
  intro m
  induction m with
  | zero =>
    intro j Y x5 x6 hj h1 h2 _
    exact br_t (nI_le (a := 4) (by omega) (by omega)) (hK Y x5 x6 h1 h2)
  | succ m ih =>
    intro j Y x5 x6 hj h1 h2 h6
    refine br_f (nI_ge (b := 4) (by omega) (by omega)) ⟨vin (by omega) (by omega), fun _ => ?_⟩
    rw [cl (by omega), nI_1]
    by_cases c0 : τ 18 j 0 = 0
    · exact br_t c0 (ih (j + 1) Y x5 x6 (by omega) h1 h2 h6)
    refine br_f c0 ?_
    have hl := hP.lim j (by omega) c0
    have hg := hgt j (by omega) c0
    rw [show (τ 18 j 5).toInt64 + 15000 = lN (dgA τ j) from hP.due j (by omega) c0]
    have up : w14_passTo_L103 τ x1 Q K (m + 1) (lN (dgA τ j)) 1 (nI j) (nI (j + 1)) := ih (j + 1) _ _ _ (by omega) hg (by omega) (fun _ => ⟨j, by omega, rfl⟩)
    by_cases c1 : dgA τ j < Y
    · exact br_t ((lcmp_lt (by omega) h2).mpr c1) up
    refine br_f (fun z => c1 ((lcmp_lt (by omega) h2).mp z)) ?_
    by_cases c2 : dgA τ j = Y
    rotate_left
    · exact br_v (fun z => c2 ((lcmp_eq (by omega) h2).mp z)) (ih (j + 1) Y x5 x6 (by omega) h1 h2 h6)
    refine br_u ((lcmp_eq (by omega) h2).mpr c2) ?_
    by_cases c4 : x5 = 1
    rotate_left
    · exact br_v c4 (ih (j + 1) Y x5 x6 (by omega) h1 h2 h6)
    obtain ⟨s, hs, e6⟩ := h6 c4
    refine br_u c4 ⟨by rw [e6]; exact vin (by omega) (by omega), ?_⟩
    by_cases c3 : τ 18 x6.toNatClampNeg 6 ≤ τ 18 j 6
    · exact br_t c3 (ih (j + 1) Y x5 x6 (by omega) h1 h2 h6)
    · exact br_f c3 up
/-- a packet is chosen: it stays so -/
theorem L103_fix {τ : St} {x1 : Int32} {Q : St → Prop} {K : Int64 → Int32 → Int32 → Prop} {D : Nat} {x5 x6 : Int32} (hP : GmF τ) (hD : D < 2147483648) (hge : ∀ j, j < 4 → (τ 18 j 0) ≠ 0 → D ≤ dgA τ j) (h5 : x5 ≠ 1) (hK : K (lN D) x5 x6) : ∀ (m j : Nat), j + m = 4 → w14_passTo_L103 τ x1 Q K (m + 1) (lN D) x5 x6 (nI j) := by
  intro m
  induction m with
  | zero =>
    intro j hj
    exact br_t (nI_le (a := 4) (by omega) (by omega)) hK
  | succ m ih =>
    intro j hj
    refine br_f (nI_ge (b := 4) (by omega) (by omega)) ⟨vin (by omega) (by omega), fun _ => ?_⟩
    rw [cl (by omega), nI_1]
    by_cases c0 : τ 18 j 0 = 0
    · exact br_t c0 (ih (j + 1) (by omega))
    refine br_f c0 ?_
    have hl := hP.lim j (by omega) c0
    have hg := hge j (by omega) c0
    rw [show (τ 18 j 5).toInt64 + 15000 = lN (dgA τ j) from hP.due j (by omega) c0]
    refine br_f (fun z => by have := (lcmp_lt (by omega) (by omega)).mp z; omega) ?_
    by_cases c2 : dgA τ j = D
    · exact br_u ((lcmp_eq (by omega) (by omega)).mpr c2) (br_v h5 (ih (j + 1) (by omega)))
    · exact br_v (fun z => c2 ((lcmp_eq (by omega) (by omega)).mp z)) (ih (j + 1) (by omega))
/-- the first of the datagrams that are due at D -/
theorem L103_at {τ : St} {x1 : Int32} {Q : St → Prop} {K : Int64 → Int32 → Int32 → Prop} {D p : Nat} (hP : GmF τ) (hp : p < 4) (hpu : (τ 18 p 0) ≠ 0) (hpD : dgA τ p = D) (hge : ∀ j, j < 4 → (τ 18 j 0) ≠ 0 → D ≤ dgA τ j) (hor : ∀ j, j < 4 → (τ 18 j 0) ≠ 0 → j ≠ p → dgA τ j = D → dgO τ p < dgO τ j) (hK : K (lN D) 1 (nI p)) : ∀ (m j Y : Nat) (x5 x6 : Int32), j + m = 4 → Y < 9223372036854775808 → (x5 = 1 → ∃ s, s < 4 ∧ x6 = nI s) → (j ≤ p → D < Y ∨ Y = D ∧ x5 = 1 ∧ ∃ s, s < 4 ∧ x6 = nI s ∧ s ≠ p ∧ (τ 18 s 0) ≠ 0 ∧ dgA τ s = D) → (p < j → Y = D ∧ x5 = 1 ∧ x6 = nI p) → w14_passTo_L103 τ x1 Q K (m + 1) (lN Y) x5 x6 (nI j) := by
  have hDl := hP.lim p hp hpu
  intro m
  induction m with
  | zero =>
    intro j Y x5 x6 hj h2 _ _ h7
    obtain ⟨rfl, rfl, rfl⟩ := h7 (by omega)
    exact br_t (nI_le (a := 4) (by omega) (by omega)) hK
  | succ m ih =>
    intro j Y x5 x6 hj h2 h6 hb ha
    refine br_f (nI_ge (b := 4) (by omega) (by omega)) ⟨vin (by omega) (by omega), fun _ => ?_⟩
    rw [cl (by omega), nI_1]
    by_cases c0 : τ 18 j 0 = 0
    · have hne : j ≠ p := fun z => hpu (by rw [← z]; exact c0)
      exact br_t c0 (ih (j + 1) Y x5 x6 (by omega) h2 h6 (fun z => hb (by omega)) (fun z => ha (by omega)))
    refine br_f c0 ?_
    have hl := hP.lim j (by omega) c0
    have hg := hge j (by omega) c0
    rw [show (τ 18 j 5).toInt64 + 15000 = lN (dgA τ j) from hP.due j (by omega) c0]
    have same : (j ≠ p) → w14_passTo_L103 τ x1 Q K (m + 1) (lN Y) x5 x6 (nI (j + 1)) := fun hne => ih (j + 1) Y x5 x6 (by omega) h2 h6 (fun z => hb (by omega)) (fun z => ha (by omega))
    have up : j ≤ p → w14_passTo_L103 τ x1 Q K (m + 1) (lN (dgA τ j)) 1 (nI j) (nI (j + 1)) := fun hjp => by
      refine ih (j + 1) _ _ _ (by omega) (by omega) (fun _ => ⟨j, by omega, rfl⟩) (fun z => ?_) (fun z => ?_)
      · by_cases y : D < dgA τ j
        · exact Or.inl y
        · exact Or.inr ⟨by omega, rfl, j, by omega, rfl, by omega, c0, by omega⟩
      · obtain rfl : j = p := by omega
        exact ⟨hpD, rfl, rfl⟩
    by_cases c1 : dgA τ j < Y
    · refine br_t ((lcmp_lt (by omega) h2).mpr c1) (up ?_)
      by_cases y : p < j
      · have := (ha y).1; omega
      · omega
    refine br_f (fun z => c1 ((lcmp_lt (by omega) h2).mp z)) ?_
    by_cases c2 : dgA τ j = Y
    rotate_left
    · refine br_v (fun z => c2 ((lcmp_eq (by omega) h2).mp z)) (same (fun z => ?_))
      subst z
      rcases hb (Nat.le_refl _) with y | y <;> omega
    refine br_u ((lcmp_eq (by omega) h2).mpr c2) ?_
    by_cases c4 : x5 = 1
    rotate_left
    · refine br_v c4 (same (fun z => ?_))
      subst z
      rcases hb (Nat.le_refl _) with y | y
      · omega
      · exact c4 y.2.1
    obtain ⟨s, hs, e6⟩ := h6 c4
    refine br_u c4 ⟨by rw [e6]; exact vin (by omega) (by omega), ?_⟩
    by_cases c3 : τ 18 x6.toNatClampNeg 6 ≤ τ 18 j 6
    · refine br_t c3 (same (fun z => ?_))
      subst z
      rcases hb (Nat.le_refl _) with y | ⟨_, _, s', y1, y2, y3, y4, y5⟩
      · omega
      · rw [y2, cl (by omega), show τ 18 s' 6 = nI (dgO τ s') from hP.ord s' y1 y4, show τ 18 j 6 = nI (dgO τ j) from hP.ord j hp c0] at c3
        have o1 := hP.oli s' y1 y4
        have o2 := hP.oli j hp c0
        have := (nI_leI (by omega) (by omega)).mp c3
        have := hor s' y1 y4 y3 y5
        omega
    · refine br_f c3 (up ?_)
      by_cases y : p < j
      · obtain ⟨y1, y2, y3⟩ := ha y
        refine absurd ?_ c3
        rw [y3, cl (by omega), show τ 18 p 6 = nI (dgO τ p) from hP.ord p hp hpu, show τ 18 j 6 = nI (dgO τ j) from hP.ord j (by omega) c0]
        have o2 := hP.oli j (by omega) c0
        have := hor j (by omega) c0 (by omega) (by omega)
        exact nI_le (by omega) (by omega)
      · omega
