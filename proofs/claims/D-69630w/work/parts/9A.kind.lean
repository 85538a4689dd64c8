/-! kinds of files -/
set_option maxRecDepth 100000
/-- a name ends with a text -/
def ewd (f : Nat → Int32) (a nl t : Nat) : Prop := sn t ≤ nl ∧ ∀ k, k < sn t → ub (f (a + (nl - sn t + k))) = sc t k
theorem s1_endsWith {σ : St} {e t : Nat} {Q : Int32 → Prop} (hr : rowIs σ 22) (he : e < 64) (ht : t < 83) (h1 : ewd (σ 22 0) (8 + 64 * e) (nlen (σ 22 0) (8 + 64 * e)) t → Q 1) (h0 : ¬ ewd (σ 22 0) (8 + 64 * e) (nlen (σ 22 0) (8 + 64 * e)) t → Q 0) : w1_endsWith σ (nI e) t Q := by
  have hs := sn_le t ht
  have hl := nlen_le (σ 22 0) (8 + 64 * e)
  refine s1_nameLength hr (by omega) (by show _ ≤ 4104; omega) (sJ_length ?_)
  generalize nlen (σ 22 0) (8 + 64 * e) = nl at *
  by_cases c1 : sn t ≤ nl
  rotate_left
  · exact br_f (nI_ge (by omega) (by omega)) (h0 (fun z => c1 z.1))
  refine br_t (nI_le c1 (by omega)) ⟨sn t + 1, ?_⟩
  have L : ∀ (m k : Nat), k + m = sn t → ((∀ j, k ≤ j → j < sn t → ub (σ 22 0 (8 + 64 * e + (nl - sn t + j))) = sc t j) → Q 1) → (¬ (∀ j, k ≤ j → j < sn t → ub (σ 22 0 (8 + 64 * e + (nl - sn t + j))) = sc t j) → Q 0) → w1_endsWith_L19 σ (nI e) t (nI nl) Q (Q 0) (Q 1) (m + 1) (nI k) := by
    intro m
    induction m with
    | zero => intro k hk g1 g0; exact sJ_length (br_t (nI_le (by omega) (by omega)) (g1 (fun j _ _ => by omega)))
    | succ m ih =>
      intro k hk g1 g0
      obtain ⟨s2, s3, s4⟩ := sc_lt t ht k (by omega)
      refine sJ_length (br_f (nI_ge (by omega) (by omega)) ?_)
      unfold w1_entry
      refine sJ_length ?_
      rw [e64, nI_add, pk_sub (by omega), nI_add, show 8 + 64 * e + nl - sn t + k = 8 + 64 * e + (nl - sn t + k) by omega, show nI k + 1 = nI (k + 1) from nI_1 _]
      have hu := ub_lt (σ 22 0 (8 + 64 * e + (nl - sn t + k)))
      refine s1_look hr (by show _ < 4104; omega) (by omega) (sJ_charAt ht (by omega) ?_)
      by_cases c : ub (σ 22 0 (8 + 64 * e + (nl - sn t + k))) = sc t k
      · refine br_t (by rw [c]) (ih (k + 1) (by omega) (fun z => g1 (fun j a1 a2 => ?_)) (fun z => g0 (fun z2 => z (fun j a1 a2 => z2 j (by omega) a2))))
        by_cases cj : j = k
        · rw [cj]; exact c
        · exact z j (by omega) a2
      · exact br_f (fun z => c ((nI_eq (by omega) (by omega)).mp z)) (g0 (fun z => c (z k (Nat.le_refl _) (by omega))))
  exact L (sn t) 0 (by omega) (fun z => h1 ⟨c1, fun k hk => z k (by omega) hk⟩) (fun z => h0 (fun y => z (fun j _ hj => y.2 j hj)))
theorem s14_endsWith {τ : St} {e t : Nat} {Q : Int32 → Prop} (he : e < 64) (ht : t < 83) (h1 : ewd (τ 52 0) (48 * e) (nlen (τ 52 0) (48 * e)) t → Q 1) (h0 : ¬ ewd (τ 52 0) (48 * e) (nlen (τ 52 0) (48 * e)) t → Q 0) : w14_endsWith τ (nI e) t Q := by
  have hs := sn_le t ht
  have hl := nlen_le (τ 52 0) (48 * e)
  have e48 : (48 : Int32) * nI e = nI (48 * e) := pk_mul 48 e
  have L0 : ∀ (K : Int32 → Prop) (m j : Nat), j + m = 48 → K (nI (scan (fun j => decide (ub (τ 52 0 (48 * e + j)) ≠ 0)) m j)) → w14_endsWith_L2 τ (nI e) t Q K (m + 1) (nI j) := by
    intro K m
    induction m with
    | zero => intro j hj hK; exact br_t (nI_le (a := 48) (by omega) (by omega)) hK
    | succ m ih =>
      intro j hj hK
      refine br_f (nI_ge (b := 48) (by omega) (by omega)) ?_
      rw [e48, nI_add, cl (by omega)]
      refine ⟨vin (by omega) (by omega), fun hby => ?_⟩
      have q := by_eq (v := 0) hby (by omega)
      unfold scan at hK
      by_cases c : ub (τ 52 0 (48 * e + j)) = 0
      · rw [if_neg (by simp [c])] at hK
        exact br_t (q.mpr c) hK
      · rw [if_pos (by simp [c])] at hK
        refine br_f (fun z => c (q.mp z)) ?_
        rw [nI_1]
        exact ih (j + 1) (by omega) hK
  refine ⟨49, L0 _ 48 0 (by omega) ?_⟩
  show wJ1_length t (fun r3 => ((r3 ≤ nI (nlen (τ 52 0) (48 * e)) → (∃ z7, w14_endsWith_L41 τ (nI e) t (nI (nlen (τ 52 0) (48 * e))) Q (Q 0) (Q 1) z7 0)) ∧ (¬ r3 ≤ nI (nlen (τ 52 0) (48 * e)) → Q 0)))
  refine sJ_length ?_
  generalize nlen (τ 52 0) (48 * e) = nl at *
  by_cases c1 : sn t ≤ nl
  rotate_left
  · exact br_f (nI_ge (by omega) (by omega)) (h0 (fun z => c1 z.1))
  refine br_t (nI_le c1 (by omega)) ⟨sn t + 1, ?_⟩
  have L : ∀ (m k : Nat), k + m = sn t → ((∀ j, k ≤ j → j < sn t → ub (τ 52 0 (48 * e + (nl - sn t + j))) = sc t j) → Q 1) → (¬ (∀ j, k ≤ j → j < sn t → ub (τ 52 0 (48 * e + (nl - sn t + j))) = sc t j) → Q 0) → w14_endsWith_L41 τ (nI e) t (nI nl) Q (Q 0) (Q 1) (m + 1) (nI k) := by
    intro m
    induction m with
    | zero => intro k hk g1 g0; exact sJ_length (br_t (nI_le (by omega) (by omega)) (g1 (fun j _ _ => by omega)))
    | succ m ih =>
      intro k hk g1 g0
      obtain ⟨s2, s3, s4⟩ := sc_lt t ht k (by omega)
      refine sJ_length (br_f (nI_ge (by omega) (by omega)) (sJ_length ?_))
      rw [e48, nI_add, pk_sub (by omega), nI_add, show 48 * e + nl - sn t + k = 48 * e + (nl - sn t + k) by omega, show nI k + 1 = nI (k + 1) from nI_1 _, cl (by omega)]
      refine ⟨vin (by omega) (by omega), fun hby => sJ_charAt ht (by omega) ?_⟩
      have q := by_eq hby s3
      by_cases c : ub (τ 52 0 (48 * e + (nl - sn t + k))) = sc t k
      · refine br_t (q.mpr c) (ih (k + 1) (by omega) (fun z => g1 (fun j a1 a2 => ?_)) (fun z => g0 (fun z2 => z (fun j a1 a2 => z2 j (by omega) a2))))
        by_cases cj : j = k
        · rw [cj]; exact c
        · exact z j (by omega) a2
      · exact br_f (fun z => c (q.mp z)) (g0 (fun z => c (z k (Nat.le_refl _) (by omega))))
  exact L (sn t) 0 (by omega) (fun z => h1 ⟨c1, fun k hk => z k (by omega) hk⟩) (fun z => h0 (fun y => z (fun j _ hj => y.2 j hj)))
theorem ewd_66 {f : Nat → Int32} {a n : Nat} : ewd f a n 66 ↔ ewd f a n 37 := Iff.rfl
theorem ewd_68 {f : Nat → Int32} {a n : Nat} : ewd f a n 68 ↔ ewd f a n 31 := Iff.rfl
theorem ewd_70 {f : Nat → Int32} {a n : Nat} : ewd f a n 70 ↔ ewd f a n 33 := Iff.rfl
theorem ewd_72 {f : Nat → Int32} {a n : Nat} : ewd f a n 72 ↔ ewd f a n 35 := Iff.rfl
theorem ewd_74 {f : Nat → Int32} {a n : Nat} : ewd f a n 74 ↔ ewd f a n 39 := Iff.rfl
theorem ewd_l {f : Nat → Int32} {a n t : Nat} (h : ewd f a n t) (h0 : 0 < sn t) : ub (f (a + (n - 1))) = sc t (sn t - 1) := by
  have := h.2 (sn t - 1) (by omega)
  have h1 := h.1
  rw [← this, show n - sn t + (sn t - 1) = n - 1 by omega]
theorem nlen_x {f g : Nat → Int32} {a b : Nat} (h : ∀ j, j < 48 → f (a + j) = g (b + j)) : nlen f a = nlen g b := by
  unfold nlen
  have : ∀ m j, j + m = 48 → scan (fun j => decide (ub (f (a + j)) ≠ 0)) m j = scan (fun j => decide (ub (g (b + j)) ≠ 0)) m j := by
    intro m
    induction m with
    | zero => intro j _; rfl
    | succ m ih =>
      intro j hj
      unfold scan
      rw [h j (by omega), ih (j + 1) (by omega)]
  exact this 48 0 (by omega)
theorem ewd_x {f g : Nat → Int32} {a b n t : Nat} (h : ∀ j, j < 48 → f (a + j) = g (b + j)) (hn : n ≤ 48) (h0 : 0 < sn t) : ewd f a n t ↔ ewd g b n t := by
  constructor
  · rintro ⟨h1, h2⟩
    exact ⟨h1, fun k hk => by rw [← h _ (by omega)]; exact h2 k hk⟩
  · rintro ⟨h1, h2⟩
    exact ⟨h1, fun k hk => by rw [h _ (by omega)]; exact h2 k hk⟩
/-- the kinds of both are the same text -/
theorem R_kind {σ τ : St} {e n p l : Nat} {Q : Nat → Prop} (hr : rowIs σ 22) (he : e < 64) (h : FL σ τ e n p l) (hq : ∀ tC tM, tC < 83 → tM < 83 → tl tC = tl tM → sn tC ≤ 24 → (∀ τ', τ' 52 0 = τ 52 0 → ∀ R : Nat → Prop, R tM → w14_type τ' (nI e) R) → Q tC) : w9_kind σ (nI e) Q := by
  have hl := nlen_le (τ 52 0) (48 * e)
  have en := nlen_x (f := σ 22 0) (g := τ 52 0) h.nm
  have ex : ∀ t, 0 < sn t → (ewd (σ 22 0) (8 + 64 * e) (nlen (σ 22 0) (8 + 64 * e)) t ↔ ewd (τ 52 0) (48 * e) (nlen (τ 52 0) (48 * e)) t) := fun t h0 => by rw [en]; exact ewd_x h.nm hl h0
  generalize hE : ewd (τ 52 0) (48 * e) (nlen (τ 52 0) (48 * e)) = E at *
  have lst : ∀ t, 0 < sn t → E t → ub (τ 52 0 (48 * e + (nlen (τ 52 0) (48 * e) - 1))) = sc t (sn t - 1) := fun t h0 x => by rw [← hE] at x; exact ewd_l x h0
  have x66 : E 66 ↔ E 37 := by rw [← hE]; exact ewd_66
  have x68 : E 68 ↔ E 31 := by rw [← hE]; exact ewd_68
  have x70 : E 70 ↔ E 33 := by rw [← hE]; exact ewd_70
  have x72 : E 72 ↔ E 35 := by rw [← hE]; exact ewd_72
  have x74 : E 74 ↔ E 39 := by rw [← hE]; exact ewd_74
  have sM : ∀ (τ' : St), τ' 52 0 = τ 52 0 → ∀ (t : Nat) (R : Int32 → Prop), t < 83 → (E t → R 1) → (¬ E t → R 0) → w14_endsWith τ' (nI e) t R := fun τ' ht' t R ht r1 r0 => s14_endsWith he ht (by rw [ht', hE]; exact r1) (by rw [ht', hE]; exact r0)
  have mo : ∀ (τ' : St), τ' 52 0 = τ 52 0 → ∀ (R : Nat → Prop), (E 37 → R 67) → (¬ E 37 → w14_endsWith τ' (nI e) 68 (fun r2 => ((r2 = 0 → (w14_endsWith τ' (nI e) 70 (fun r3 => ((r3 = 0 → (w14_endsWith τ' (nI e) 72 (fun r4 => ((r4 = 0 → (w14_endsWith τ' (nI e) 74 (fun r5 => ((r5 = 0 → R 76) ∧ (¬ r5 = 0 → R 75))))) ∧ (¬ r4 = 0 → R 73))))) ∧ (¬ r3 = 0 → R 71))))) ∧ (¬ r2 = 0 → R 69)))) → w14_type τ' (nI e) R := by
    intro τ' ht' R r1 r0
    exact br_f (nI_nlt (b := 0) (by omega) (by omega)) (sM τ' ht' 66 _ (by decide) (fun x => br_f (by decide) (r1 (x66.mp x))) (fun x => br_t rfl (r0 (fun y => x (x66.mpr y)))))
  have no37 : ∀ t, 0 < sn t → sc t (sn t - 1) ≠ sc 37 (sn 37 - 1) → E t → ¬ E 37 := fun t h0 hne x y => hne ((lst t h0 x).symm.trans (lst 37 (by decide) y))
  refine s1_endsWith hr he (by decide) (fun x => br_f (by decide) ?_) (fun x => br_t rfl ?_)
  · have x := (ex 31 (by decide)).mp x
    refine hq 32 69 (by decide) (by decide) (by decide) (by decide) (fun τ' ht' R r => mo τ' ht' R (fun y => absurd y (no37 31 (by decide) (by decide) x)) (fun _ => sM τ' ht' 68 _ (by decide) (fun _ => br_f (by decide) r) (fun y => absurd (x68.mpr x) y)))
  have n31 : ¬ E 31 := fun y => x ((ex 31 (by decide)).mpr y)
  refine s1_endsWith hr he (by decide) (fun x => br_f (by decide) ?_) (fun x => br_t rfl ?_)
  · have x := (ex 33 (by decide)).mp x
    refine hq 34 71 (by decide) (by decide) (by decide) (by decide) (fun τ' ht' R r => mo τ' ht' R (fun y => absurd y (no37 33 (by decide) (by decide) x)) (fun _ => sM τ' ht' 68 _ (by decide) (fun y => absurd (x68.mp y) n31) (fun _ => br_t rfl (sM τ' ht' 70 _ (by decide) (fun _ => br_f (by decide) r) (fun y => absurd (x70.mpr x) y)))))
  have n33 : ¬ E 33 := fun y => x ((ex 33 (by decide)).mpr y)
  refine s1_endsWith hr he (by decide) (fun x => br_f (by decide) ?_) (fun x => br_t rfl ?_)
  · have x := (ex 35 (by decide)).mp x
    refine hq 36 73 (by decide) (by decide) (by decide) (by decide) (fun τ' ht' R r => mo τ' ht' R (fun y => absurd y (no37 35 (by decide) (by decide) x)) (fun _ => sM τ' ht' 68 _ (by decide) (fun y => absurd (x68.mp y) n31) (fun _ => br_t rfl (sM τ' ht' 70 _ (by decide) (fun y => absurd (x70.mp y) n33) (fun _ => br_t rfl (sM τ' ht' 72 _ (by decide) (fun _ => br_f (by decide) r) (fun y => absurd (x72.mpr x) y)))))))
  have n35 : ¬ E 35 := fun y => x ((ex 35 (by decide)).mpr y)
  refine s1_endsWith hr he (by decide) (fun x => br_f (by decide) ?_) (fun x => br_t rfl ?_)
  · have x := (ex 37 (by decide)).mp x
    exact hq 38 67 (by decide) (by decide) (by decide) (by decide) (fun τ' ht' R r => mo τ' ht' R (fun _ => r) (fun y => absurd x y))
  have n37 : ¬ E 37 := fun y => x ((ex 37 (by decide)).mpr y)
  have m4 : ∀ (τ' : St), τ' 52 0 = τ 52 0 → ∀ (R : Nat → Prop), (E 39 → R 75) → (¬ E 39 → R 76) → w14_type τ' (nI e) R := fun τ' ht' R r1 r0 => mo τ' ht' R (fun y => absurd y n37) (fun _ => sM τ' ht' 68 _ (by decide) (fun y => absurd (x68.mp y) n31) (fun _ => br_t rfl (sM τ' ht' 70 _ (by decide) (fun y => absurd (x70.mp y) n33) (fun _ => br_t rfl (sM τ' ht' 72 _ (by decide) (fun y => absurd (x72.mp y) n35) (fun _ => br_t rfl (sM τ' ht' 74 _ (by decide) (fun y => br_f (by decide) (r1 (x74.mp y))) (fun y => br_t rfl (r0 (fun z => y (x74.mpr z)))))))))))
  refine s1_endsWith hr he (by decide) (fun x => br_f (by decide) ?_) (fun x => br_t rfl ?_)
  · have x := (ex 39 (by decide)).mp x
    exact hq 40 75 (by decide) (by decide) (by decide) (by decide) (fun τ' ht' R r => m4 τ' ht' R (fun _ => r) (fun y => absurd x y))
  · have n39 : ¬ E 39 := fun y => x ((ex 39 (by decide)).mpr y)
    exact hq 41 76 (by decide) (by decide) (by decide) (by decide) (fun τ' ht' R r => m4 τ' ht' R (fun y => absurd y n39) (fun _ => r))
