/-! the request line -/
set_option maxRecDepth 100000
theorem isW_44 {N : Nat → Nat} {a b : Nat} : isW N a b 44 ↔ isW N a b 3 := Iff.rfl
theorem isW_45 {N : Nat → Nat} {a b : Nat} : isW N a b 45 ↔ isW N a b 2 := Iff.rfl
theorem isW_46 {N : Nat → Nat} {a b : Nat} : isW N a b 46 ↔ isW N a b 12 := Iff.rfl
theorem isW_47 {N : Nat → Nat} {a b : Nat} : isW N a b 47 ↔ isW N a b 15 := Iff.rfl
/-- a right request line: where the two blanks stand, and the version -/
def RL (N : Nat → Nat) (e a b : Nat) (nw : Bool) : Prop := (1 ≤ a) ∧ (a ≤ 16) ∧ (a + 1 < b) ∧ (b + 9 = e) ∧ (∀ k, k < a → 65 ≤ N k ∧ N k ≤ 90) ∧ (N a = 32) ∧ (N (a + 1) = 47) ∧ (∀ k, a < k → k < b → 33 ≤ N k ∧ N k ≤ 126) ∧ (N b = 32) ∧ (nw = true → isW N (b + 1) e 2) ∧ (nw = false → isW N (b + 1) e 3)
theorem RL.a1 {N : Nat → Nat} {e a b : Nat} {nw : Bool} (h : RL N e a b nw) : 1 ≤ a := h.1
theorem RL.a16 {N : Nat → Nat} {e a b : Nat} {nw : Bool} (h : RL N e a b nw) : a ≤ 16 := h.2.1
theorem RL.ab {N : Nat → Nat} {e a b : Nat} {nw : Bool} (h : RL N e a b nw) : a + 1 < b := h.2.2.1
theorem RL.be {N : Nat → Nat} {e a b : Nat} {nw : Bool} (h : RL N e a b nw) : b + 9 = e := h.2.2.2.1
theorem RL.az {N : Nat → Nat} {e a b : Nat} {nw : Bool} (h : RL N e a b nw) : ∀ k, k < a → 65 ≤ N k ∧ N k ≤ 90 := h.2.2.2.2.1
theorem RL.na {N : Nat → Nat} {e a b : Nat} {nw : Bool} (h : RL N e a b nw) : N a = 32 := h.2.2.2.2.2.1
theorem RL.sl {N : Nat → Nat} {e a b : Nat} {nw : Bool} (h : RL N e a b nw) : N (a + 1) = 47 := h.2.2.2.2.2.2.1
theorem RL.vs {N : Nat → Nat} {e a b : Nat} {nw : Bool} (h : RL N e a b nw) : ∀ k, a < k → k < b → 33 ≤ N k ∧ N k ≤ 126 := h.2.2.2.2.2.2.2.1
theorem RL.nb {N : Nat → Nat} {e a b : Nat} {nw : Bool} (h : RL N e a b nw) : N b = 32 := h.2.2.2.2.2.2.2.2.1
theorem RL.n1 {N : Nat → Nat} {e a b : Nat} {nw : Bool} (h : RL N e a b nw) : nw = true → isW N (b + 1) e 2 := h.2.2.2.2.2.2.2.2.2.1
theorem RL.n0 {N : Nat → Nat} {e a b : Nat} {nw : Bool} (h : RL N e a b nw) : nw = false → isW N (b + 1) e 3 := h.2.2.2.2.2.2.2.2.2.2
theorem RL.mk {N : Nat → Nat} {e a b : Nat} {nw : Bool} (a1 : 1 ≤ a) (a16 : a ≤ 16) (ab : a + 1 < b) (be : b + 9 = e) (az : ∀ k, k < a → 65 ≤ N k ∧ N k ≤ 90) (na : N a = 32) (sl : N (a + 1) = 47) (vs : ∀ k, a < k → k < b → 33 ≤ N k ∧ N k ≤ 126) (nb : N b = 32) (n1 : nw = true → isW N (b + 1) e 2) (n0 : nw = false → isW N (b + 1) e 3) : RL N e a b nw := ⟨a1, a16, ab, be, az, na, sl, vs, nb, n1, n0⟩
theorem RL.u {N : Nat → Nat} {e a b a' b' : Nat} {nw nw' : Bool} (h : RL N e a b nw) (h' : RL N e a' b' nw') : a = a' ∧ b = b' ∧ nw = nw' := by
  have e1 : a = a' := by
    rcases Nat.lt_trichotomy a a' with z | z | z
    · have := h'.az a z; have := h.na; omega
    · exact z
    · have := h.az a' z; have := h'.na; omega
  have e2 : b = b' := by have := h.be; have := h'.be; omega
  refine ⟨e1, e2, ?_⟩
  have q := h.be
  subst e1
  subst e2
  cases nw with
  | true =>
    cases nw' with
    | true => rfl
    | false =>
      have x := (h.n1 rfl).2 7 (by decide)
      have y := (h'.n0 rfl).2 7 (by decide)
      rw [x] at y
      exact absurd y (by decide)
  | false =>
    cases nw' with
    | false => rfl
    | true =>
      have x := (h'.n1 rfl).2 7 (by decide)
      have y := (h.n0 rfl).2 7 (by decide)
      rw [x] at y
      exact absurd y (by decide)
theorem s9_rl_L2 {σ : St} {e : Nat} {Q : Int32 → St → Prop} {K : Int32 → Prop} (he : e ≤ 4096) : ∀ (m j : Nat), j + m = e → K (nI (scan (fun k => decide (65 ≤ nC σ k ∧ nC σ k ≤ 90)) m j)) → w9_isRequestLine_L2 σ (nI e) Q K (m + 1) (nI j) := by
  intro m
  induction m with
  | zero => intro j hj hK; exact br_t (nI_le (by omega) (by omega)) hK
  | succ m ih =>
    intro j hj hK
    refine br_f (nI_ge (by omega) (by omega)) ⟨vin (by omega) (by omega), fun hby => ?_⟩
    rw [cl (by omega)] at hby ⊢
    unfold scan at hK
    refine s9_isIn (a := 65) (b := 90) hby (by omega) (by omega) (fun c => ?_) (fun c => ?_)
    · rw [if_pos (decide_eq_true c)] at hK
      refine br_f (by decide) ?_
      rw [nI_1]
      exact ih (j + 1) (by omega) hK
    · rw [if_neg (by rw [decide_eq_false c]; decide)] at hK
      exact br_t rfl hK
theorem s9_rl_L83 {σ : St} {e : Nat} {Q : Int32 → St → Prop} {K : Int32 → Prop} (he : e ≤ 4096) : ∀ (m j : Nat), j + m = e → K (nI (scan (fun k => decide (33 ≤ nC σ k ∧ nC σ k ≤ 126)) m j)) → w9_isRequestLine_L83 σ (nI e) Q K (m + 1) (nI j) := by
  intro m
  induction m with
  | zero => intro j hj hK; exact br_t (nI_le (by omega) (by omega)) hK
  | succ m ih =>
    intro j hj hK
    refine br_f (nI_ge (by omega) (by omega)) ⟨vin (by omega) (by omega), fun hby => ?_⟩
    rw [cl (by omega)] at hby ⊢
    unfold scan at hK
    refine s9_isIn (a := 33) (b := 126) hby (by omega) (by omega) (fun c => ?_) (fun c => ?_)
    · rw [if_pos (decide_eq_true c)] at hK
      refine br_f (by decide) ?_
      rw [nI_1]
      exact ih (j + 1) (by omega) hK
    · rw [if_neg (by rw [decide_eq_false c]; decide)] at hK
      exact br_t rfl hK
theorem s9_isRequestLine {σ : St} {e : Nat} {Q : Int32 → St → Prop} (he : e ≤ 4096)
    (h1 : ∀ a b nw s, RL (nC σ) e a b nw → Fr (mF [] [] [(9, [3, 4, 6])] []) σ s → (s 9 0 3) = nI a → (s 9 0 4) = nI b → (s 9 0 6) = (if nw then 1 else 0) → Q 1 s)
    (h0 : ∀ s, (∀ a b nw, ¬ RL (nC σ) e a b nw) → Fr (mF [] [] [(9, [3, 4, 6])] []) σ s → Q 0 s) : w9_isRequestLine σ (nI e) Q := by
  refine ⟨e + 1, s9_rl_L2 he e 0 (by omega) ?_⟩
  have p1 := scan_le (fun k => decide (65 ≤ nC σ k ∧ nC σ k ≤ 90)) e 0
  have p2 := scan_all (fun k => decide (65 ≤ nC σ k ∧ nC σ k ≤ 90)) e 0
  have p3 := scan_stop (fun k => decide (65 ≤ nC σ k ∧ nC σ k ≤ 90)) e 0
  generalize scan (fun k => decide (65 ≤ nC σ k ∧ nC σ k ≤ 90)) e 0 = a at *
  have az : ∀ k, k < a → 65 ≤ nC σ k ∧ nC σ k ≤ 90 := fun k hk => of_decide_eq_true (p2 k (by omega) hk)
  -- where a right line has its first blank
  have ua : ∀ a' b' nw', RL (nC σ) e a' b' nw' → a = a' := by
    intro a' b' nw' r
    have q := r.be
    have q2 := r.ab
    rcases Nat.lt_trichotomy a a' with z | z | z
    · have y1 := of_decide_eq_false (p3 (by omega))
      exact absurd (r.az a z) y1
    · exact z
    · have := az a' z; have := r.na; omega
  intro s4 e4
  have f4 : Fr (mF [] [] [(9, [3, 4, 6])] []) σ s4 := by rw [e4]; exact fr_u rfl
  have c4 : s4 40 0 = σ 40 0 := f4.row fun _ => rfl
  by_cases g1 : a = 0
  · exact br_t (by rw [g1]; rfl) (h0 s4 (fun a' b' nw' r => by have := ua _ _ _ r; have := r.a1; omega) f4)
  refine br_f (nI_ne0 (by omega) (by omega)) ?_
  by_cases g2 : 16 < a
  · exact br_t (nI_lt (a := 16) g2 (by omega)) (h0 s4 (fun a' b' nw' r => by have := ua _ _ _ r; have := r.a16; omega) f4)
  refine br_f (nI_nlt (a := 16) (by omega) (by omega)) ?_
  by_cases g3 : e ≤ a
  · exact br_t (nI_le g3 (by omega)) (h0 s4 (fun a' b' nw' r => by have := ua _ _ _ r; have := r.be; have := r.ab; omega) f4)
  refine br_f (nI_ge (by omega) (by omega)) ?_
  rw [c4, cl (by omega)]
  refine ⟨vin (by omega) (by omega), fun hby => ?_⟩
  have q32 := by_eq (v := 32) hby (by omega)
  by_cases g4 : ub (σ 40 0 a) = 32
  rotate_left
  · exact br_f (fun z => g4 (q32.mp z)) (h0 s4 (fun a' b' nw' r => by have := ua _ _ _ r; subst this; exact g4 r.na) f4)
  refine br_t (q32.mpr g4) ?_
  rw [nI_1]
  by_cases g5 : e ≤ a + 1
  · exact br_t (nI_le g5 (by omega)) (h0 s4 (fun a' b' nw' r => by have := ua _ _ _ r; have := r.be; have := r.ab; omega) f4)
  refine br_f (nI_ge (by omega) (by omega)) ?_
  rw [cl (by omega)]
  refine ⟨vin (by omega) (by omega), fun hby => ?_⟩
  have q47 := by_eq (v := 47) hby (by omega)
  by_cases g6 : ub (σ 40 0 (a + 1)) = 47
  rotate_left
  · exact br_f (fun z => g6 (q47.mp z)) (h0 s4 (fun a' b' nw' r => by have := ua _ _ _ r; subst this; exact g6 r.sl) f4)
  refine br_t (q47.mpr g6) ⟨e - (a + 1) + 1, s9_rl_L83 he (e - (a + 1)) (a + 1) (by omega) ?_⟩
  have n4 : nC s4 = nC σ := by unfold nC; rw [c4]
  rw [n4]
  have r1 := scan_le (fun k => decide (33 ≤ nC σ k ∧ nC σ k ≤ 126)) (e - (a + 1)) (a + 1)
  have r2 := scan_all (fun k => decide (33 ≤ nC σ k ∧ nC σ k ≤ 126)) (e - (a + 1)) (a + 1)
  have r3 := scan_stop (fun k => decide (33 ≤ nC σ k ∧ nC σ k ≤ 126)) (e - (a + 1)) (a + 1)
  generalize scan (fun k => decide (33 ≤ nC σ k ∧ nC σ k ≤ 126)) (e - (a + 1)) (a + 1) = b at *
  have vs : ∀ k, a < k → k < b → 33 ≤ nC σ k ∧ nC σ k ≤ 126 := fun k h1 hk => of_decide_eq_true (r2 k (by omega) hk)
  have ub' : ∀ a' b' nw', RL (nC σ) e a' b' nw' → b = b' := by
    intro a' b' nw' r
    have ea := ua _ _ _ r
    subst ea
    have q := r.be
    have q2 := r.ab
    rcases Nat.lt_trichotomy b b' with z | z | z
    · have y1 := of_decide_eq_false (r3 (by omega))
      exact absurd (r.vs b (by omega) z) y1
    · exact z
    · have := vs b' (by omega) z; have := r.nb; omega
  intro s8 e8
  have f8 : Fr (mF [] [] [(9, [3, 4, 6])] []) σ s8 := by rw [e8]; exact f4.up rfl
  have c8 : s8 40 0 = σ 40 0 := f8.row fun _ => rfl
  have n8 : nC s8 = nC σ := by unfold nC; rw [c8]
  by_cases g7 : e ≤ b
  · exact br_t (nI_le g7 (by omega)) (h0 s8 (fun a' b' nw' r => by have := ub' _ _ _ r; have := r.be; omega) f8)
  refine br_f (nI_ge (by omega) (by omega)) ?_
  rw [c8, cl (by omega)]
  refine ⟨vin (by omega) (by omega), fun hby => ?_⟩
  have q32 := by_eq (v := 32) hby (by omega)
  by_cases g8 : ub (σ 40 0 b) = 32
  rotate_left
  · exact br_f (fun z => g8 (q32.mp z)) (h0 s8 (fun a' b' nw' r => by have := ub' _ _ _ r; subst this; exact g8 r.nb) f8)
  refine br_t (q32.mpr g8) ?_
  rw [nI_1]
  have gab : a + 1 < b := by
    rcases Nat.lt_or_ge (a + 1) b with z | z
    · exact z
    · have : b = a + 1 := by omega
      subst this
      rw [g6] at g8
      exact absurd g8 (by decide)
  have v3 : s8 9 0 3 = nI a := by rw [e8, up3_g, if_neg (by omega), e4, up3_g, if_pos ⟨rfl, rfl, rfl⟩]
  have v4 : s8 9 0 4 = nI b := by rw [e8, up3_g, if_pos ⟨rfl, rfl, rfl⟩]
  have mk : ∀ nw, (nw = true → isW (nC σ) (b + 1) e 2) → (nw = false → isW (nC σ) (b + 1) e 3) → RL (nC σ) e a b nw := by
    intro nw x1 x0
    have he9 : b + 9 = e := by
      cases nw with
      | true => have := (x1 rfl).1; have s8 : sn 2 = 8 := rfl; omega
      | false => have := (x0 rfl).1; have s8 : sn 3 = 8 := rfl; omega
    exact RL.mk (by omega) (by omega) gab he9 az g4 g6 vs g8 x1 x0
  refine s9_isExactly (by decide) (by omega) he (fun w => ?_) (fun w => ?_)
  · rw [n8] at w
    refine ⟨Or.inr rfl, fun s10 e10 => ?_⟩
    have v6 : s10 9 0 6 = 1 := by rw [e10, up3_g, if_pos ⟨rfl, rfl, rfl⟩]
    rw [v6]
    refine fun _ => br_v (by decide) (h1 a b true s10 (mk true (fun _ => w) (fun z => absurd z (by decide))) (by rw [e10]; exact f8.up rfl) ?_ ?_ v6)
    · rw [e10, up3_g, if_neg (by omega)]; exact v3
    · rw [e10, up3_g, if_neg (by omega)]; exact v4
  · rw [n8] at w
    refine ⟨Or.inl rfl, fun s10 e10 => ?_⟩
    have v6 : s10 9 0 6 = 0 := by rw [e10, up3_g, if_pos ⟨rfl, rfl, rfl⟩]
    have f10 : Fr (mF [] [] [(9, [3, 4, 6])] []) σ s10 := by rw [e10]; exact f8.up rfl
    have n10 : nC s10 = nC σ := by unfold nC; rw [f10.row (k := 40) fun _ => rfl]
    rw [v6]
    refine fun _ => br_u rfl (s9_isExactly (by decide) (by omega) he (fun w2 => ?_) (fun w2 => ?_))
    · rw [n10] at w2
      refine br_f (by decide) (h1 a b false s10 (mk false (fun z => absurd z (by decide)) (fun _ => w2)) f10 ?_ ?_ v6)
      · rw [e10, up3_g, if_neg (by omega)]; exact v3
      · rw [e10, up3_g, if_neg (by omega)]; exact v4
    · rw [n10] at w2
      refine br_t rfl (h0 s10 (fun a' b' nw' r => ?_) f10)
      have := ub' _ _ _ r
      subst this
      cases nw' with
      | true => exact w (r.n1 rfl)
      | false => exact w2 (r.n0 rfl)
