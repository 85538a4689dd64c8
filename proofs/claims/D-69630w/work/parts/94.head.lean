/-! the end of a head; its lines -/
set_option maxRecDepth 100000
/-- behind the first empty line; 0 if there is none -/
def hE (N : Nat → Nat) : Nat → Nat → Nat → Nat
  | 0, _, _ => 0
  | m + 1, f, k => if N k = 10 then (if k = f ∨ k = f + 1 ∧ N f = 13 then k + 1 else hE N m (k + 1) (k + 1)) else hE N m f (k + 1)
abbrev emp (N : Nat → Nat) (f e : Nat) : Prop := e = f ∨ e = f + 1 ∧ N f = 13
theorem hE_le {N : Nat → Nat} : ∀ m f k, hE N m f k ≤ k + m := by
  intro m
  induction m with
  | zero => intro f k; exact Nat.zero_le _
  | succ m ih =>
    intro f k
    unfold hE
    split
    · split
      · omega
      · have := ih (k + 1) (k + 1); omega
    · have := ih f (k + 1); omega
/-- each line of a head ends, and the last alone is empty -/
theorem hE_ln {N : Nat → Nat} : ∀ m f k n, hE N m f k = n → 0 < n → f ≤ k → (∀ j, f ≤ j → j < k → N j ≠ 10) → k < n ∧ ∀ g, f ≤ g → (g = f ∨ N (g - 1) = 10) → g < n → ∃ e, g ≤ e ∧ e < n ∧ N e = 10 ∧ (∀ j, g ≤ j → j < e → N j ≠ 10) ∧ (emp N g e ↔ e + 1 = n) := by
  intro m
  induction m with
  | zero => intro f k n h hn; unfold hE at h; omega
  | succ m ih =>
    intro f k n h hn hfk hno
    unfold hE at h
    by_cases c1 : N k = 10
    · rw [if_pos c1] at h
      by_cases c2 : k = f ∨ k = f + 1 ∧ N f = 13
      · rw [if_pos c2] at h
        subst h
        refine ⟨by omega, fun g h1 h2 h3 => ?_⟩
        have hg : g = f := by
          rcases h2 with z | z
          · exact z
          · by_cases c3 : g = f
            · exact c3
            · exact absurd z (hno (g - 1) (by omega) (by omega))
        subst hg
        exact ⟨k, hfk, by omega, c1, hno, ⟨fun _ => rfl, fun _ => c2⟩⟩
      · rw [if_neg c2] at h
        obtain ⟨i1, i2⟩ := ih (k + 1) (k + 1) n h hn (Nat.le_refl _) (fun j a b => by omega)
        refine ⟨by omega, fun g h1 h2 h3 => ?_⟩
        by_cases c3 : g = f
        · subst c3
          exact ⟨k, hfk, by omega, c1, hno, ⟨fun z => absurd z c2, fun z => by omega⟩⟩
        · have h4 : N (g - 1) = 10 := h2.resolve_left c3
          have h5 : k ≤ g - 1 := by
            rcases Nat.lt_or_ge (g - 1) k with z | z
            · exact absurd h4 (hno (g - 1) (by omega) z)
            · exact z
          exact i2 g (by omega) (by
            by_cases c4 : g = k + 1
            · exact Or.inl c4
            · exact Or.inr h4) h3
    · rw [if_neg c1] at h
      obtain ⟨i1, i2⟩ := ih f (k + 1) n h hn (by omega) (fun j a b => by
        by_cases cj : j = k
        · rw [cj]; exact c1
        · exact hno j a (by omega))
      exact ⟨by omega, i2⟩
theorem s9_hE_L {σ : St} {i hd : Nat} {Q : Int32 → Prop} {K1 : Int32 → Prop} {K0 : Prop} (hh : (σ 12 i 2) = nI hd) (hd4 : hd ≤ 4096) : ∀ (m f k : Nat), k + m = hd → f ≤ k → (∀ r, hE (fun j => ub (σ 42 i j)) m f k = r + 1 → K1 (nI r)) → (hE (fun j => ub (σ 42 i j)) m f k = 0 → K0) → w9_headEnd_L4 σ i Q K1 K0 (m + 1) (nI f) (nI k) := by
  intro m
  induction m with
  | zero =>
    intro f k hk hf _ h0
    exact br_t (by rw [hh]; exact nI_le (by omega) (by omega)) (h0 rfl)
  | succ m ih =>
    intro f k hk hf h1 h0
    refine br_f (by rw [hh]; exact nI_ge (by omega) (by omega)) ?_
    rw [cl (by omega)]
    refine ⟨vin (by omega) (by omega), fun hby => ?_⟩
    unfold hE at h1 h0
    have q10 := by_eq (v := 10) hby (by omega)
    rw [show nI k + 1 = nI (k + 1) from nI_1 _]
    by_cases c1 : ub (σ 42 i k) = 10
    · rw [if_pos c1] at h1 h0
      refine br_t (q10.mpr c1) ?_
      by_cases c2 : k = f
      · rw [if_pos (Or.inl c2)] at h1
        exact br_t (by rw [c2]) (h1 k rfl)
      · refine br_f (fun z => c2 ((nI_eq (by omega) (by omega)).mp z)) ?_
        rw [nI_1]
        by_cases c3 : k = f + 1
        · refine br_u (by rw [c3]) ?_
          rw [cl (by omega)]
          refine ⟨vin (by omega) (by omega), fun hby2 => ?_⟩
          have q13 := by_eq (v := 13) hby2 (by omega)
          by_cases c4 : ub (σ 42 i f) = 13
          · rw [if_pos (Or.inr ⟨c3, c4⟩)] at h1
            exact br_u (q13.mpr c4) (h1 k rfl)
          · rw [if_neg (fun z => z.elim c2 (fun y => c4 y.2))] at h1 h0
            exact br_v (fun z => c4 (q13.mp z)) (ih (k + 1) (k + 1) (by omega) (Nat.le_refl _) h1 h0)
        · rw [if_neg (fun z => z.elim c2 (fun y => c3 y.1))] at h1 h0
          exact br_v (fun z => c3 ((nI_eq (by omega) (by omega)).mp z)) (ih (k + 1) (k + 1) (by omega) (Nat.le_refl _) h1 h0)
    · rw [if_neg c1] at h1 h0
      exact br_f (fun z => c1 (q10.mp z)) (ih f (k + 1) (by omega) (by omega) h1 h0)
theorem s9_headEnd {σ : St} {i hd : Nat} {Q : Int32 → Prop} (hh : (σ 12 i 2) = nI hd) (hd4 : hd ≤ 4096) (h1 : 0 < hE (fun j => ub (σ 42 i j)) hd 0 0 → Q (nI (hE (fun j => ub (σ 42 i j)) hd 0 0))) (h0 : hE (fun j => ub (σ 42 i j)) hd 0 0 = 0 → Q (-1)) : w9_headEnd σ i Q := by
  refine ⟨hd + 1, s9_hE_L hh hd4 hd 0 0 (by omega) (Nat.le_refl _) (fun r hr => ?_) h0⟩
  have := h1 (by omega)
  rw [hr] at this
  rw [nI_1]
  exact this
theorem s14_byteAt {τ : St} {i hd k : Nat} {Q : Int32 → Prop} (e : mheld τ i hd) (hd4 : hd ≤ 4096) (hk : k < 5000) (h1 : k < hd → Q (nI (ub (τ 72 i k)))) (h0 : ¬ k < hd → Q (-1)) : w14_byteAt τ i (nI k) Q := by
  refine s15_held e ?_
  by_cases c : k < hd
  · refine br_f (nI_ge c (by omega)) ⟨vin (by omega) (by omega), fun _ => ?_⟩
    rw [cl (by omega), ub_and]
    exact h1 c
  · exact br_t (nI_le (by omega) (by omega)) (h0 c)
theorem s14_hE_L {τ : St} {i hd : Nat} {Q : Int32 → Prop} {K1 : Int32 → Prop} {K0 : Prop} (hh : mheld τ i hd) (hd4 : hd ≤ 4096) : ∀ (m f k : Nat), k + m = hd → f ≤ k → (∀ r, hE (fun j => ub (τ 72 i j)) m f k = r + 1 → K1 (nI r)) → (hE (fun j => ub (τ 72 i j)) m f k = 0 → K0) → w14_headBytes_L10 τ i (nI hd) Q K1 K0 (m + 1) (nI f) (nI k) := by
  intro m
  induction m with
  | zero =>
    intro f k hk hf _ h0
    exact br_t (nI_le (by omega) (by omega)) (h0 rfl)
  | succ m ih =>
    intro f k hk hf h1 h0
    have hu := ub_lt (τ 72 i k)
    have hu2 := ub_lt (τ 72 i f)
    refine br_f (nI_ge (by omega) (by omega)) (s14_byteAt hh hd4 (by omega) (fun _ => ?_) (fun z => absurd (by omega) z))
    unfold hE at h1 h0
    rw [nI_1]
    by_cases c1 : ub (τ 72 i k) = 10
    · rw [if_pos c1] at h1 h0
      refine br_u ((nI_eq (b := 10) (by omega) (by omega)).mpr c1) ?_
      by_cases c2 : k = f
      · rw [if_pos (Or.inl c2)] at h1
        exact br_t (by rw [c2]) (br_f (by decide) (h1 k rfl))
      · refine br_f (fun z => c2 ((nI_eq (by omega) (by omega)).mp z)) ?_
        rw [nI_1]
        have j55 : hE (fun j => ub (τ 72 i j)) m (k + 1) (k + 1) = hE (fun j => ub (τ 72 i j)) m (k + 1) (k + 1) → (∀ r, hE (fun j => ub (τ 72 i j)) m (k + 1) (k + 1) = r + 1 → K1 (nI r)) → (hE (fun j => ub (τ 72 i j)) m (k + 1) (k + 1) = 0 → K0) → w14_headBytes_J55 τ i (nI hd) (nI k) Q (fun x2z x4z => w14_headBytes_L10 τ i (nI hd) Q K1 K0 (m + 1) x2z x4z) K1 := by
          intro _ g1 g0
          refine br_t rfl ?_
          rw [nI_1]
          exact ih (k + 1) (k + 1) (by omega) (Nat.le_refl _) g1 g0
        by_cases c3 : k = f + 1
        · refine br_u (by rw [c3]) (s14_byteAt hh hd4 (by omega) (fun _ => ?_) (fun z => absurd (by omega) z))
          by_cases c4 : ub (τ 72 i f) = 13
          · rw [if_pos (Or.inr ⟨c3, c4⟩)] at h1
            exact br_u ((nI_eq (b := 13) (by omega) (by omega)).mpr c4) (br_f (by decide) (h1 k rfl))
          · rw [if_neg (fun z => z.elim c2 (fun y => c4 y.2))] at h1 h0
            exact br_v (fun z => c4 ((nI_eq (b := 13) (by omega) (by omega)).mp z)) (j55 rfl h1 h0)
        · rw [if_neg (fun z => z.elim c2 (fun y => c3 y.1))] at h1 h0
          exact br_v (fun z => c3 ((nI_eq (by omega) (by omega)).mp z)) (j55 rfl h1 h0)
    · rw [if_neg c1] at h1 h0
      exact br_v (fun z => c1 ((nI_eq (b := 10) (by omega) (by omega)).mp z)) (ih f (k + 1) (by omega) (by omega) h1 h0)
theorem s14_headBytes {τ : St} {i hd : Nat} {Q : Int32 → Prop} (hh : mheld τ i hd) (hd4 : hd ≤ 4096) (hq : Q (nI (hE (fun j => ub (τ 72 i j)) hd 0 0))) : w14_headBytes τ i Q := by
  refine s15_held hh ⟨hd + 1, s14_hE_L hh hd4 hd 0 0 (by omega) (Nat.le_refl _) (fun r hr => ?_) (fun h0 => ?_)⟩
  · rw [nI_1, ← hr]
    exact hq
  · rw [h0] at hq
    exact hq
/-- the end of a line -/
theorem s9_lineEnd_L {σ : St} {e : Nat} {Q K : Int32 → Prop} (he : e < 4096) (hN : nC σ e = 10) (hq : K (nI e)) : ∀ (m f : Nat), f + m = e → (∀ j, f ≤ j → j < e → nC σ j ≠ 10) → w9_lineEnd_L2 σ Q K (m + 1) (nI f) := by
  intro m
  induction m with
  | zero =>
    intro f hf _
    have : f = e := by omega
    subst this
    refine ⟨vin (by omega) (by omega), fun hby => ?_⟩
    rw [cl (by omega)] at hby ⊢
    exact br_t ((by_eq (v := 10) hby (by omega)).mpr hN) hq
  | succ m ih =>
    intro f hf hno
    refine ⟨vin (by omega) (by omega), fun hby => ?_⟩
    rw [cl (by omega)] at hby ⊢
    refine br_f (fun z => hno f (Nat.le_refl _) (by omega) ((by_eq (v := 10) hby (by omega)).mp z)) ?_
    rw [nI_1]
    exact ih (f + 1) (by omega) (fun j a b => hno j (by omega) b)
theorem s9_lineEnd {σ : St} {f e : Nat} {Q : Int32 → Prop} (hfe : f ≤ e) (he : e < 4096) (hN : nC σ e = 10) (hno : ∀ j, f ≤ j → j < e → nC σ j ≠ 10) (hq : Q (nI e)) : w9_lineEnd σ (nI f) Q := ⟨e - f + 1, s9_lineEnd_L he hN hq (e - f) f (by omega) hno⟩
theorem s14_lineEnd_L {τ : St} {e : Nat} {Q K : Int32 → Prop} (he : e < 4096) (hN : nM τ e = 10) (hq : K (nI e)) : ∀ (m f : Nat), f + m = e → (∀ j, f ≤ j → j < e → nM τ j ≠ 10) → w14_lineEnd_L2 τ Q K (m + 1) (nI f) := by
  intro m
  induction m with
  | zero =>
    intro f hf _
    have : f = e := by omega
    subst this
    refine ⟨vin (by omega) (by omega), fun hby => ?_⟩
    rw [cl (by omega)] at hby ⊢
    exact br_t ((by_eq (v := 10) hby (by omega)).mpr hN) hq
  | succ m ih =>
    intro f hf hno
    refine ⟨vin (by omega) (by omega), fun hby => ?_⟩
    rw [cl (by omega)] at hby ⊢
    refine br_f (fun z => hno f (Nat.le_refl _) (by omega) ((by_eq (v := 10) hby (by omega)).mp z)) ?_
    rw [nI_1]
    exact ih (f + 1) (by omega) (fun j a b => hno j (by omega) b)
theorem s14_lineEnd {τ : St} {f e : Nat} {Q : Int32 → Prop} (hfe : f ≤ e) (he : e < 4096) (hN : nM τ e = 10) (hno : ∀ j, f ≤ j → j < e → nM τ j ≠ 10) (hq : Q (nI e)) : w14_lineEnd τ (nI f) Q := ⟨e - f + 1, s14_lineEnd_L he hN hq (e - f) f (by omega) hno⟩
def te (N : Nat → Nat) (f e : Nat) : Nat := if f < e ∧ N (e - 1) = 13 then e - 1 else e
theorem te_emp {N : Nat → Nat} {f e : Nat} (h : f ≤ e) : te N f e ≤ f ↔ emp N f e := by
  unfold te
  by_cases c : f < e ∧ N (e - 1) = 13
  · rw [if_pos c]
    constructor
    · intro z
      right
      have : e = f + 1 := by omega
      refine ⟨this, ?_⟩
      have h2 := c.2
      rw [this] at h2
      exact h2
    · rintro (z | z)
      · omega
      · omega
  · rw [if_neg c]
    constructor
    · intro z; left; omega
    · rintro (z | ⟨z1, z2⟩)
      · omega
      · exact absurd ⟨by omega, by rw [z1]; exact z2⟩ c
theorem te_le {N : Nat → Nat} {f e : Nat} (h : f ≤ e) : f ≤ te N f e ∧ te N f e ≤ e := by
  unfold te
  split
  · omega
  · omega
theorem s9_textEnd {σ : St} {f e : Nat} {Q : Int32 → Prop} (hfe : f ≤ e) (he : e ≤ 4096) (hq : Q (nI (te (nC σ) f e))) : w9_textEnd σ (nI f) (nI e) Q := by
  unfold te at hq
  by_cases c1 : e ≤ f
  · rw [if_neg (by omega)] at hq
    exact br_t (nI_le c1 (by omega)) hq
  · refine br_f (nI_ge (by omega) (by omega)) ?_
    have e1 : nI e - 1 = nI (e - 1) := pk_sub (b := 1) (by omega)
    rw [e1, cl (by omega)]
    refine ⟨vin (by omega) (by omega), fun hby => ?_⟩
    have q13 := by_eq (v := 13) hby (by omega)
    by_cases c2 : ub (σ 40 0 (e - 1)) = 13
    · rw [if_pos ⟨by omega, c2⟩] at hq
      exact br_u (q13.mpr c2) hq
    · rw [if_neg (fun z => c2 z.2)] at hq
      exact br_v (fun z => c2 (q13.mp z)) hq
theorem s14_shown {τ : St} {f e : Nat} {Q : Int32 → Prop} (hfe : f ≤ e) (he : e ≤ 4096) (hq : Q (nI (te (nM τ) f e))) : w14_shown τ (nI f) (nI e) Q := by
  unfold te at hq
  by_cases c1 : e ≤ f
  · rw [if_neg (by omega)] at hq
    exact br_t (nI_le c1 (by omega)) hq
  · refine br_f (nI_ge (by omega) (by omega)) ?_
    have e1 : nI e - 1 = nI (e - 1) := pk_sub (b := 1) (by omega)
    rw [e1, cl (by omega)]
    refine ⟨vin (by omega) (by omega), fun hby => ?_⟩
    have q13 := by_eq (v := 13) hby (by omega)
    by_cases c2 : ub (τ 66 0 (e - 1)) = 13
    · rw [if_pos ⟨by omega, c2⟩] at hq
      exact br_u (q13.mpr c2) hq
    · rw [if_neg (fun z => c2 z.2)] at hq
      exact br_v (fun z => c2 (q13.mp z)) hq
