/-! a field of a head: where its parts stand -/
set_option maxRecDepth 100000
abbrev good (u : Nat) : Prop := u = 9 ∨ 32 ≤ u ∧ u ≠ 127
/-- the end without blanks -/
def bk (N : Nat → Nat) (a : Nat) : Nat → Nat
  | 0 => a
  | m + 1 => if blnk (N (a + m)) then bk N a m else a + (m + 1)
theorem bk_le (N : Nat → Nat) (a : Nat) : ∀ m, a ≤ bk N a m ∧ bk N a m ≤ a + m := by
  intro m
  induction m with
  | zero => exact ⟨Nat.le_refl _, Nat.le_refl _⟩
  | succ m ih => unfold bk; split <;> omega
/-- the name of a field ends -/
def fcol (N : Nat → Nat) (f e : Nat) : Nat := scan (fun k => decide (nmc (N k))) (e - f) f
def fa (N : Nat → Nat) (f e : Nat) : Nat := scan (fun k => decide (blnk (N k))) (e - (fcol N f e + 1)) (fcol N f e + 1)
def fb (N : Nat → Nat) (f e : Nat) : Nat := bk N (fa N f e) (e - fa N f e)
def fok (N : Nat → Nat) (f e : Nat) : Prop := fcol N f e ≠ f ∧ fcol N f e ≠ e ∧ N (fcol N f e) = 58 ∧ ∀ k, fcol N f e < k → k < e → good (N k)
theorem s9_fi_L2 {σ : St} {e : Nat} {x1 : Int32} {Q : Int32 → St → Prop} {K : Int32 → Prop} (he : e ≤ 4096) : ∀ (m j : Nat), j + m = e → K (nI (scan (fun k => decide (nmc (nC σ k))) m j)) → w9_isField_L2 σ x1 (nI e) Q K (m + 1) (nI j) := by
  intro m
  induction m with
  | zero => intro j hj hK; exact br_t (nI_le (by omega) (by omega)) hK
  | succ m ih =>
    intro j hj hK
    refine br_f (nI_ge (by omega) (by omega)) ⟨vin (by omega) (by omega), fun hby => ?_⟩
    rw [cl (by omega)] at hby ⊢
    unfold scan at hK
    refine s9_isNameCode hby (fun c => ?_) (fun c => ?_)
    · rw [if_pos (decide_eq_true c)] at hK
      refine br_f (by decide) ?_
      rw [nI_1]
      exact ih (j + 1) (by omega) hK
    · rw [if_neg (by rw [decide_eq_false c]; decide)] at hK
      exact br_t rfl hK
theorem s14_fi_L2 {σ : St} {e : Nat} {x1 : Int32} {Q : Int32 → St → Prop} {K : Int32 → Prop} (he : e ≤ 4096) : ∀ (m j : Nat), j + m = e → K (nI (scan (fun k => decide (nmc (nM σ k))) m j)) → w14_field_L2 σ x1 (nI e) Q K (m + 1) (nI j) := by
  intro m
  induction m with
  | zero => intro j hj hK; exact br_t (nI_le (by omega) (by omega)) hK
  | succ m ih =>
    intro j hj hK
    refine br_f (nI_ge (by omega) (by omega)) (s14_headAt (by omega) ?_)
    unfold scan at hK
    refine s14_isNameCode (ub_lt _) (fun c => ?_) (fun c => ?_)
    · rw [if_pos (decide_eq_true c)] at hK
      refine br_f (by decide) ?_
      rw [nI_1]
      exact ih (j + 1) (by omega) hK
    · rw [if_neg (by rw [decide_eq_false c]; decide)] at hK
      exact br_t rfl hK
theorem s9_fi_L56 {σ : St} {e : Nat} {x1 x2 x3 : Int32} {Q : Int32 → St → Prop} {K : Int32 → Prop} (he : e ≤ 4096) : ∀ (m j : Nat), j + m = e → K (nI (scan (fun k => decide (blnk (nC σ k))) m j)) → w9_isField_L56 σ x1 x2 x3 (nI e) Q K (m + 1) (nI j) := by
  intro m
  induction m with
  | zero => intro j hj hK; exact br_t (nI_le (by omega) (by omega)) hK
  | succ m ih =>
    intro j hj hK
    refine br_f (nI_ge (by omega) (by omega)) ⟨vin (by omega) (by omega), fun hby => ?_⟩
    rw [cl (by omega)] at hby ⊢
    unfold scan at hK
    refine s9_isBlank hby (fun c => ?_) (fun c => ?_)
    · rw [if_pos (decide_eq_true c)] at hK
      refine br_f (by decide) ?_
      rw [nI_1]
      exact ih (j + 1) (by omega) hK
    · rw [if_neg (by rw [decide_eq_false c]; decide)] at hK
      exact br_t rfl hK
theorem s14_fi_L103 {σ : St} {e : Nat} {x1 x3 : Int32} {Q : Int32 → St → Prop} {K : Int32 → Prop} (he : e ≤ 4096) : ∀ (m j : Nat), j + m = e → K (nI (scan (fun k => decide (blnk (nM σ k))) m j)) → w14_field_L103 σ x1 x3 (nI e) Q K (m + 1) (nI j) := by
  intro m
  induction m with
  | zero => intro j hj hK; exact br_t (nI_le (by omega) (by omega)) hK
  | succ m ih =>
    intro j hj hK
    refine br_f (nI_ge (by omega) (by omega)) (s14_headAt (by omega) ?_)
    unfold scan at hK
    refine s14_isBlank (ub_lt _) (fun c => ?_) (fun c => ?_)
    · rw [if_pos (decide_eq_true c)] at hK
      refine br_f (by decide) ?_
      rw [nI_1]
      exact ih (j + 1) (by omega) hK
    · rw [if_neg (by rw [decide_eq_false c]; decide)] at hK
      exact br_t rfl hK
theorem nI_m1 {n : Nat} (h : n + 1 < 2147483648) : nI (n + 1) + (-1) = nI n := by
  have e : nI (n + 1) = nI n + 1 := (nI_1 _).symm
  rw [e]
  grind
theorem s9_fi_L82 {σ : St} {a : Nat} {x1 x2 x3 : Int32} {Q : Int32 → St → Prop} {K : Int32 → Prop} : ∀ (m : Nat), a + m ≤ 4096 → K (nI (bk (nC σ) a m)) → w9_isField_L82 σ x1 x2 x3 (nI a) Q K (m + 1) (nI (a + m)) := by
  intro m
  induction m with
  | zero => intro hm hK; exact br_t (nI_le (by omega) (by omega)) hK
  | succ m ih =>
    intro hm hK
    have e1 : nI (a + (m + 1)) - 1 = nI (a + m) := pk_sub (b := 1) (by omega)
    refine br_f (nI_ge (by omega) (by omega)) ?_
    rw [e1, cl (by omega)]
    refine ⟨vin (by omega) (by omega), fun hby => ?_⟩
    unfold bk at hK
    refine s9_isBlank hby (fun c => ?_) (fun c => ?_)
    · rw [if_pos c] at hK
      refine br_f (by decide) ?_
      rw [← Nat.add_assoc, nI_m1 (by omega)]
      exact ih (by omega) hK
    · rw [if_neg c] at hK
      exact br_t rfl hK
theorem s14_fi_L128 {σ : St} {a : Nat} {x1 x3 : Int32} {Q : Int32 → St → Prop} {K : Int32 → Prop} : ∀ (m : Nat), a + m ≤ 4096 → K (nI (bk (nM σ) a m)) → w14_field_L128 σ x1 x3 (nI a) Q K (m + 1) (nI (a + m)) := by
  intro m
  induction m with
  | zero => intro hm hK; exact br_t (nI_le (by omega) (by omega)) hK
  | succ m ih =>
    intro hm hK
    have e1 : nI (a + (m + 1)) - 1 = nI (a + m) := pk_sub (b := 1) (by omega)
    refine br_f (nI_ge (by omega) (by omega)) ?_
    rw [e1]
    refine s14_headAt (by omega) ?_
    unfold bk at hK
    refine s14_isBlank (ub_lt _) (fun c => ?_) (fun c => ?_)
    · rw [if_pos c] at hK
      refine br_f (by decide) ?_
      rw [← Nat.add_assoc, nI_m1 (by omega)]
      exact ih (by omega) hK
    · rw [if_neg c] at hK
      exact br_t rfl hK
theorem s9_fi_L115 {σ : St} {e : Nat} {x1 x3 x4 x5 : Int32} {Q : Int32 → St → Prop} {K0 K1 : Prop} (he : e ≤ 4096) : ∀ (m j : Nat), j + m = e → ((∀ k, j ≤ k → k < e → good (nC σ k)) → K1) → (¬ (∀ k, j ≤ k → k < e → good (nC σ k)) → K0) → w9_isField_L115 σ x1 (nI e) x3 x4 x5 Q K0 K1 (m + 1) (nI j) := by
  intro m
  induction m with
  | zero => intro j hj h1 h0; exact br_t (nI_le (by omega) (by omega)) (h1 (fun k _ _ => by omega))
  | succ m ih =>
    intro j hj h1 h0
    have go : good (nC σ j) → w9_isField_L115 σ x1 (nI e) x3 x4 x5 Q K0 K1 (m + 1) (nI (j + 1)) := by
      intro g
      refine ih (j + 1) (by omega) (fun z => h1 (fun k a1 a2 => ?_)) (fun z => h0 (fun z2 => z (fun k a1 a2 => z2 k (by omega) a2)))
      by_cases ck : k = j
      · rw [ck]; exact g
      · exact z k (by omega) a2
    refine br_f (nI_ge (by omega) (by omega)) ⟨vin (by omega) (by omega), fun hby => ?_⟩
    rw [cl (by omega)] at hby ⊢
    rw [nI_1]
    have q9 := by_eq (v := 9) hby (by omega)
    by_cases c1 : ub (σ 40 0 j) = 9
    · exact br_t (q9.mpr c1) (go (Or.inl c1))
    refine br_f (fun z => c1 (q9.mp z)) ⟨vin (by omega) (by omega), fun _ => ?_⟩
    have hu := ub_lt (σ 40 0 j)
    have isin : ∀ P : Int32 → Prop, (32 ≤ ub (σ 40 0 j) ∧ ub (σ 40 0 j) ≤ 126 → P 1) → (¬ (32 ≤ ub (σ 40 0 j) ∧ ub (σ 40 0 j) ≤ 126) → P 0) → w9_isIn σ ((σ 40 0 j) &&& 255) 32 126 P := by
      intro P p1 p0
      rw [ub_and]
      by_cases d1 : ub (σ 40 0 j) < 32
      · exact br_t (nI_lt (b := 32) d1 (by omega)) (p0 (by omega))
      · refine br_f (nI_nlt (b := 32) (by omega) (by omega)) ?_
        by_cases d2 : 126 < ub (σ 40 0 j)
        · exact br_t (nI_lt (a := 126) d2 (by omega)) (p0 (by omega))
        · exact br_f (nI_nlt (a := 126) (by omega) (by omega)) (p1 (by omega))
    refine isin _ (fun d => br_v (by decide) (go (Or.inr ⟨d.1, by show ub _ ≠ _; omega⟩))) (fun d => br_u rfl ⟨vin (by omega) (by omega), fun _ => ?_⟩)
    rcases by_ub hby with ⟨u1, u2⟩ | ⟨u1, u2⟩
    · have nn : ¬ σ 40 0 j < 0 := by rw [u2]; exact nI_nlt (b := 0) (by omega) (by omega)
      refine br_f nn (h0 (fun z => ?_))
      rcases z j (Nat.le_refl _) (by omega) with y | y
      · exact c1 y
      · have y2 : ub (σ 40 0 j) ≠ 127 := y.2
        have y1 : 32 ≤ ub (σ 40 0 j) := y.1
        omega
    · exact br_t u2 (go (Or.inr ⟨by show 32 ≤ ub _; omega, by show ub _ ≠ _; omega⟩))
theorem s14_fi_L59 {σ : St} {e : Nat} {x1 x3 x4 : Int32} {Q : Int32 → St → Prop} {K0 K1 : Prop} (he : e ≤ 4096) : ∀ (m j : Nat), j + m = e → ((∀ k, j ≤ k → k < e → good (nM σ k)) → K1) → (¬ (∀ k, j ≤ k → k < e → good (nM σ k)) → K0) → w14_field_L59 σ x1 x3 x4 (nI e) Q K0 K1 (m + 1) (nI j) := by
  intro m
  induction m with
  | zero => intro j hj h1 h0; exact br_t (nI_le (by omega) (by omega)) (h1 (fun k _ _ => by omega))
  | succ m ih =>
    intro j hj h1 h0
    have go : good (nM σ j) → w14_field_L59 σ x1 x3 x4 (nI e) Q K0 K1 (m + 1) (nI (j + 1)) := by
      intro g
      refine ih (j + 1) (by omega) (fun z => h1 (fun k a1 a2 => ?_)) (fun z => h0 (fun z2 => z (fun k a1 a2 => z2 k (by omega) a2)))
      by_cases ck : k = j
      · rw [ck]; exact g
      · exact z k (by omega) a2
    refine br_f (nI_ge (by omega) (by omega)) (s14_headAt (by omega) ?_)
    have hu := ub_lt (σ 66 0 j)
    rw [nI_1]
    have no : ¬ good (nM σ j) → K0 := fun n => h0 (fun z => n (z j (Nat.le_refl _) (by omega)))
    have eg : good (nM σ j) ↔ (ub (σ 66 0 j) = 9 ∨ 32 ≤ ub (σ 66 0 j) ∧ ub (σ 66 0 j) ≠ 127) := Iff.rfl
    by_cases c1 : ub (σ 66 0 j) = 9
    · exact br_t ((nI_eq (b := 9) (by omega) (by omega)).mpr c1) (go (Or.inl c1))
    refine br_f (fun z => c1 ((nI_eq (b := 9) (by omega) (by omega)).mp z)) ?_
    by_cases c2 : ub (σ 66 0 j) < 32
    · exact br_t (nI_lt (b := 32) c2 (by omega)) (no (fun z => by have := eg.mp z; omega))
    refine br_f (nI_nlt (b := 32) (by omega) (by omega)) ?_
    by_cases c3 : ub (σ 66 0 j) = 127
    · exact br_u ((nI_eq (b := 127) (by omega) (by omega)).mpr c3) (no (fun z => by have := eg.mp z; omega))
    · exact br_v (fun z => c3 ((nI_eq (b := 127) (by omega) (by omega)).mp z)) (go (Or.inr ⟨by show 32 ≤ ub _; omega, c3⟩))
theorem fcol_le {N : Nat → Nat} {f e : Nat} (h : f ≤ e) : f ≤ fcol N f e ∧ fcol N f e ≤ e := by
  have := scan_le (fun k => decide (nmc (N k))) (e - f) f
  unfold fcol
  omega
theorem fa_le {N : Nat → Nat} {f e : Nat} (h : fcol N f e < e) : fcol N f e < fa N f e ∧ fa N f e ≤ e := by
  have := scan_le (fun k => decide (blnk (N k))) (e - (fcol N f e + 1)) (fcol N f e + 1)
  unfold fa
  omega
theorem fb_le {N : Nat → Nat} {f e : Nat} (h : fa N f e ≤ e) : fa N f e ≤ fb N f e ∧ fb N f e ≤ e := by
  have := bk_le N (fa N f e) (e - fa N f e)
  unfold fb
  omega
/-- a field, up to its name and its value -/
theorem s9_isField {σ : St} {f e : Nat} {Q : Int32 → St → Prop} (hfe : f ≤ e) (he : e ≤ 4096) (h0 : ¬ fok (nC σ) f e → Q 0 σ) (h1 : fok (nC σ) f e → w9_take σ (nI f) (nI (fcol (nC σ) f e)) (nI (fa (nC σ) f e)) (nI (fb (nC σ) f e)) (fun s => Q 1 s)) : w9_isField σ (nI f) (nI e) Q := by
  refine ⟨e - f + 1, s9_fi_L2 he (e - f) f (by omega) ?_⟩
  show w9_isField_J25 σ (nI f) (nI e) (nI (fcol (nC σ) f e)) Q
  have l := fcol_le (N := nC σ) hfe
  have fold : fok (nC σ) f e ↔ (fcol (nC σ) f e ≠ f ∧ fcol (nC σ) f e ≠ e ∧ nC σ (fcol (nC σ) f e) = 58 ∧ ∀ k, fcol (nC σ) f e < k → k < e → good (nC σ k)) := Iff.rfl
  have la := fun h => fa_le (N := nC σ) (f := f) (e := e) h
  have lb := fun h => fb_le (N := nC σ) (f := f) (e := e) h
  have ea : fa (nC σ) f e = scan (fun k => decide (blnk (nC σ k))) (e - (fcol (nC σ) f e + 1)) (fcol (nC σ) f e + 1) := rfl
  have eb : fb (nC σ) f e = bk (nC σ) (fa (nC σ) f e) (e - fa (nC σ) f e) := rfl
  generalize fcol (nC σ) f e = k at *
  generalize fa (nC σ) f e = a at *
  generalize fb (nC σ) f e = b at *
  by_cases c1 : k = f
  · exact br_t (by rw [c1]) (h0 (fun z => (fold.mp z).1 c1))
  refine br_f (fun z => c1 ((nI_eq (by omega) (by omega)).mp z)) ?_
  by_cases c2 : k = e
  · exact br_t (by rw [c2]) (h0 (fun z => (fold.mp z).2.1 c2))
  refine br_f (fun z => c2 ((nI_eq (by omega) (by omega)).mp z)) ?_
  rw [cl (by omega)]
  refine ⟨vin (by omega) (by omega), fun hby => ?_⟩
  have q58 := by_eq (v := 58) hby (by omega)
  by_cases c3 : ub (σ 40 0 k) = 58
  rotate_left
  · exact br_f (fun z => c3 (q58.mp z)) (h0 (fun z => c3 (fold.mp z).2.2.1))
  refine br_t (q58.mpr c3) ?_
  rw [nI_1]
  have la := la (by omega)
  have lb := lb (by omega)
  refine ⟨e - (k + 1) + 1, s9_fi_L56 he (e - (k + 1)) (k + 1) (by omega) ?_⟩
  rw [← ea]
  refine ⟨e - a + 1, ?_⟩
  have := s9_fi_L82 (σ := σ) (a := a) (x1 := nI f) (x2 := nI e) (x3 := nI k) (Q := Q) (K := fun x5_9 => ∃ z11, w9_isField_L115 σ (nI f) (nI e) (nI k) (nI a) x5_9 Q (Q 0 σ) (w9_take σ (nI f) (nI k) (nI a) x5_9 (fun σ14 => (Q 1 σ14))) z11 (nI (k + 1))) (e - a) (by omega) ?_
  · rw [show a + (e - a) = e by omega] at this
    exact this
  · rw [← eb]
    exact ⟨e - (k + 1) + 1, s9_fi_L115 he (e - (k + 1)) (k + 1) (by omega) (fun z => h1 (fold.mpr ⟨c1, c2, c3, fun j a1 a2 => z j (by omega) a2⟩)) (fun z => h0 (fun y => z (fun j a1 a2 => (fold.mp y).2.2.2 j (by omega) a2)))⟩
theorem s14_field {σ : St} {f e : Nat} {Q : Int32 → St → Prop} (hfe : f ≤ e) (he : e ≤ 4096) (h0 : ¬ fok (nM σ) f e → Q 0 σ) (h1 : fok (nM σ) f e → w14_field_J155 σ (nI f) (nI (fcol (nM σ) f e)) (nI (fa (nM σ) f e)) (nI (fb (nM σ) f e)) Q) : w14_field σ (nI f) (nI e) Q := by
  refine ⟨e - f + 1, s14_fi_L2 he (e - f) f (by omega) ?_⟩
  show w14_field_J24 σ (nI f) (nI e) (nI (fcol (nM σ) f e)) Q
  have l := fcol_le (N := nM σ) hfe
  have fold : fok (nM σ) f e ↔ (fcol (nM σ) f e ≠ f ∧ fcol (nM σ) f e ≠ e ∧ nM σ (fcol (nM σ) f e) = 58 ∧ ∀ k, fcol (nM σ) f e < k → k < e → good (nM σ k)) := Iff.rfl
  have la := fun h => fa_le (N := nM σ) (f := f) (e := e) h
  have lb := fun h => fb_le (N := nM σ) (f := f) (e := e) h
  have ea : fa (nM σ) f e = scan (fun k => decide (blnk (nM σ k))) (e - (fcol (nM σ) f e + 1)) (fcol (nM σ) f e + 1) := rfl
  have eb : fb (nM σ) f e = bk (nM σ) (fa (nM σ) f e) (e - fa (nM σ) f e) := rfl
  generalize fcol (nM σ) f e = k at *
  generalize fa (nM σ) f e = a at *
  generalize fb (nM σ) f e = b at *
  by_cases c1 : k = f
  · exact br_t (by rw [c1]) (h0 (fun z => (fold.mp z).1 c1))
  refine br_f (fun z => c1 ((nI_eq (by omega) (by omega)).mp z)) ?_
  by_cases c2 : k = e
  · exact br_t (by rw [c2]) (h0 (fun z => (fold.mp z).2.1 c2))
  refine br_f (fun z => c2 ((nI_eq (by omega) (by omega)).mp z)) ?_
  rw [cl (by omega)]
  refine ⟨vin (by omega) (by omega), fun hby => ?_⟩
  have q58 := by_eq (v := 58) hby (by omega)
  by_cases c3 : ub (σ 66 0 k) = 58
  rotate_left
  · exact br_f (fun z => c3 (q58.mp z)) (h0 (fun z => c3 (fold.mp z).2.2.1))
  refine br_t (q58.mpr c3) ?_
  rw [nI_1]
  have la := la (by omega)
  have lb := lb (by omega)
  refine ⟨e - (k + 1) + 1, s14_fi_L59 he (e - (k + 1)) (k + 1) (by omega) (fun z => ?_) (fun z => h0 (fun y => z (fun j a1 a2 => (fold.mp y).2.2.2 j (by omega) a2)))⟩
  refine ⟨e - (k + 1) + 1, s14_fi_L103 he (e - (k + 1)) (k + 1) (by omega) ?_⟩
  rw [← ea]
  refine ⟨e - a + 1, ?_⟩
  have := s14_fi_L128 (σ := σ) (a := a) (x1 := nI f) (x3 := nI k) (Q := Q) (K := fun x5_16 => w14_field_J155 σ (nI f) (nI k) (nI a) x5_16 Q) (e - a) (by omega) ?_
  · rw [show a + (e - a) = e by omega] at this
    exact this
  · rw [← eb]
    exact h1 (fold.mpr ⟨c1, c2, c3, fun j a1 a2 => z j (by omega) a2⟩)
