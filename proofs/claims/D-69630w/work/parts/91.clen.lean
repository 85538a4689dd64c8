/-! the length of a body -/
set_option maxRecDepth 100000
/-- the value of digits -/
def dval (N : Nat → Nat) (a : Nat) : Nat → Nat
  | 0 => 0
  | n + 1 => 10 * dval N a n + (N (a + n) - 48)
theorem dval_lt {N : Nat → Nat} {a : Nat} : ∀ n, (∀ k, k < n → dgt (N (a + k))) → dval N a n < 10 ^ n := by
  intro n
  induction n with
  | zero => intro _; exact Nat.lt_succ_self 0
  | succ n ih =>
    intro h
    have h1 := ih (fun k hk => h k (by omega))
    have h2 := h n (by omega)
    unfold dgt at h2
    simp only [dval]
    rw [Nat.pow_succ]
    omega
/-- a right length -/
def clok (N : Nat → Nat) (a b : Nat) : Prop := a < b ∧ b ≤ a + 9 ∧ ∀ k, a ≤ k → k < b → dgt (N k)
theorem dval_9 {N : Nat → Nat} {a b : Nat} (h : clok N a b) : dval N a (b - a) < 1000000000 := by
  have h1 := dval_lt (N := N) (a := a) (b - a) (fun k hk => h.2.2 (a + k) (by omega) (by omega))
  have h2 : 10 ^ (b - a) ≤ 10 ^ 9 := Nat.pow_le_pow_right (by decide) (by have := h.2.1; omega)
  have h3 : (10 : Nat) ^ 9 = 1000000000 := by decide
  omega
theorem dv_step {v u : Nat} (hu : 48 ≤ u) : (10 * nI v + nI u) - 48 = nI (10 * v + (u - 48)) := by
  have e1 : (10 : Int32) * nI v = nI (10 * v) := pk_mul 10 v
  rw [e1, nI_add]
  have e2 : nI (10 * v + u) - 48 = nI (10 * v + u - 48) := pk_sub (b := 48) (by omega)
  rw [e2]
  congr 1
  omega
theorem s9_cl_L {a b : Nat} {N : Nat → Nat} {Q K : St → Prop} (hb : b ≤ 4096) : ∀ (m j : Nat) (σ : St), a + j + m = b → nC σ = N → (∀ k, k < j → dgt (N (a + k))) → σ 9 0 13 = 1 → σ 9 0 9 = nI (dval N a j) →
    (∀ s, Fr (mF [] [] [(9, [9, 13])] []) σ s → (∀ k, a ≤ k → k < b → dgt (N k)) → s 9 0 13 = 1 → s 9 0 9 = nI (dval N a (b - a)) → K s) → (∀ s, Fr (mF [] [] [(9, [9, 13])] []) σ s → ¬ (∀ k, a ≤ k → k < b → dgt (N k)) → s 9 0 13 = 0 → K s) → w9_length_2_L39 (nI b) Q K (m + 1) σ (nI (a + j)) := by
  intro m
  induction m with
  | zero =>
    intro j σ hj hN hd e13 e9 h1 h0
    refine br_t (nI_le (by omega) (by omega)) (h1 σ Fr.rf (fun k a1 a2 => ?_) e13 ?_)
    · have := hd (k - a) (by omega)
      rwa [show a + (k - a) = k by omega] at this
    · rw [show b - a = j by omega]; exact e9
  | succ m ih =>
    intro j σ hj hN hd e13 e9 h1 h0
    refine br_f (nI_ge (by omega) (by omega)) (fun _ => br_f (by rw [e13]; decide) ?_)
    rw [cl (by omega)]
    refine ⟨vin (by omega) (by omega), fun hby => ?_⟩
    have eu : ub (σ 40 0 (a + j)) = N (a + j) := by rw [← hN]
    have nx : nI (a + j) + 1 = nI (a + (j + 1)) := nI_1 _
    rw [nx]
    refine s9_isIn (a := 48) (b := 57) hby (by omega) (by omega) (fun c => ⟨Or.inr rfl, fun s5 e5 => ?_⟩) (fun c => ⟨Or.inl rfl, fun s5 e5 => ?_⟩)
    · have c40 : s5 40 0 = σ 40 0 := by rw [e5, up3_r, if_neg (by omega)]
      have c9 : s5 9 0 9 = nI (dval N a j) := by rw [e5, up3_g, if_neg (by omega)]; exact e9
      rw [c40, c9]
      refine ⟨vin (by omega) (by omega), fun _ s6 e6 => ?_⟩
      have ex : σ 40 0 (a + j) = nI (ub (σ 40 0 (a + j))) := by
        rcases by_ub hby with ⟨_, z⟩ | ⟨z, _⟩
        · exact z
        · omega
      rw [ex, eu, dv_step (by omega)] at e6
      rw [eu] at c
      have F6 : Fr (mF [] [] [(9, [9, 13])] []) σ s6 := by rw [e6, e5]; exact (fr_u rfl).up rfl
      refine ih (j + 1) s6 (by omega) ?_ (fun k hk => ?_) ?_ ?_ (fun s f => h1 s (F6.tr f)) (fun s f => h0 s (F6.tr f))
      · rw [← hN]; unfold nC; rw [F6.row (k := 40) fun _ => rfl]
      · by_cases ck : k = j
        · rw [ck]; exact c
        · exact hd k (by omega)
      · rw [e6, up3_g, if_neg (by omega), e5, up3_g, if_pos ⟨rfl, rfl, rfl⟩]
      · rw [e6, up3_g, if_pos ⟨rfl, rfl, rfl⟩]
        rfl
    · refine ⟨vin (by omega) (by omega), fun _ s6 e6 => ?_⟩
      have F6 : Fr (mF [] [] [(9, [9, 13])] []) σ s6 := by rw [e6, e5]; exact (fr_u rfl).up rfl
      have v13 : s6 9 0 13 = 0 := by rw [e6, up3_g, if_neg (by omega), e5, up3_g, if_pos ⟨rfl, rfl, rfl⟩]
      have nd : ¬ (∀ k, a ≤ k → k < b → dgt (N k)) := fun z => by
        have := z (a + j) (by omega) (by omega)
        rw [eu] at c
        exact c this
      have fin := h0 s6 F6 nd v13
      by_cases c2 : b ≤ a + (j + 1)
      · exact br_t (nI_le c2 (by omega)) fin
      · exact br_f (nI_ge (by omega) (by omega)) (fun _ => br_t v13 fin)
abbrev clF : Nat → Nat → Nat → Bool := mF [] [] [(9, [8, 9, 13])] []
theorem s9_length {σ : St} {a b : Nat} {Q : St → Prop} (hab : a ≤ b) (hb : b ≤ 4096)
    (h1 : ∀ s, Fr clF σ s → (s 9 0 8) = (σ 9 0 8) + 1 → clok (nC σ) a b → (s 9 0 13) = 1 → (s 9 0 9) = nI (dval (nC σ) a (b - a)) → Q s)
    (h0 : ∀ s, Fr clF σ s → (s 9 0 8) = (σ 9 0 8) + 1 → ¬ clok (nC σ) a b → (s 9 0 13) = 0 → Q s) : w9_length_2 σ (nI a) (nI b) Q := by
  intro s1 e1
  have f1 : Fr (mF [] [] [(9, [8])] []) σ s1 := by rw [e1]; exact fr_u rfl
  have l1 : s1 9 0 8 = (σ 9 0 8) + 1 := by rw [e1, up3_g, if_pos ⟨rfl, rfl, rfl⟩]
  -- nothing is read
  have no : ¬ clok (nC σ) a b → ∀ s2, s2 = up3 s1 9 0 13 0 → (∀ s3, s3 = up3 s2 9 0 9 0 → (∃ z7, w9_length_2_L39 (nI b) Q (fun s => Q s) z7 s3 (nI a))) := by
    intro nc s2 e2 s3 e3
    have F3 : Fr clF σ s3 := by rw [e3, e2]; exact ((f1.sub (mF_sub rfl sub_nil rfl sud_nil)).up rfl).up rfl
    have v13 : s3 9 0 13 = 0 := by rw [e3, up3_g, if_neg (by omega), e2, up3_g, if_pos ⟨rfl, rfl, rfl⟩]
    have v8 : s3 9 0 8 = (σ 9 0 8) + 1 := by rw [e3, up3_g, if_neg (by omega), e2, up3_g, if_neg (by omega)]; exact l1
    have fin := h0 s3 F3 v8 nc v13
    refine ⟨1, ?_⟩
    by_cases c : b ≤ a
    · exact br_t (nI_le c (by omega)) fin
    · exact br_f (nI_ge (by omega) (by omega)) (fun _ => br_t v13 fin)
  by_cases c1 : b ≤ a
  · exact br_t (nI_le c1 (by omega)) (no (fun z => by have := z.1; omega))
  refine br_f (nI_ge (by omega) (by omega)) ?_
  rw [pk_sub hab]
  by_cases c2 : 9 < b - a
  · exact br_t (nI_lt (a := 9) c2 (by omega)) (no (fun z => by have := z.2.1; omega))
  refine br_f (nI_nlt (a := 9) (by omega) (by omega)) (fun s2 e2 s3 e3 => ?_)
  have F3 : Fr clF σ s3 := by rw [e3, e2]; exact ((f1.sub (mF_sub rfl sub_nil rfl sud_nil)).up rfl).up rfl
  have v13 : s3 9 0 13 = 1 := by rw [e3, up3_g, if_neg (by omega), e2, up3_g, if_pos ⟨rfl, rfl, rfl⟩]
  have v9 : s3 9 0 9 = nI (dval (nC σ) a 0) := by rw [e3, up3_g, if_pos ⟨rfl, rfl, rfl⟩]; rfl
  have v8 : s3 9 0 8 = (σ 9 0 8) + 1 := by rw [e3, up3_g, if_neg (by omega), e2, up3_g, if_neg (by omega)]; exact l1
  have n3 : nC s3 = nC σ := by unfold nC; rw [F3.row (k := 40) fun _ => rfl]
  refine ⟨b - a + 1, s9_cl_L hb (b - a) 0 s3 (by omega) n3 (fun k hk => by omega) v13 v9 (fun s f hd x13 x9 => ?_) (fun s f hd x13 => ?_)⟩
  · exact h1 s (F3.tr (f.sub (mF_sub rfl sub_nil rfl sud_nil))) (by rw [f _ _ _ rfl]; exact v8) ⟨by omega, by omega, hd⟩ x13 x9
  · exact h0 s (F3.tr (f.sub (mF_sub rfl sub_nil rfl sud_nil))) (by rw [f _ _ _ rfl]; exact v8) (fun z => hd z.2.2) x13
theorem s14_cl_L {τ : St} {a b : Nat} {Q : St → Prop} {K : Int32 → Int32 → Prop} (hb : b ≤ 4096) : ∀ (m j : Nat), a + j + m = b → (∀ k, k < j → dgt (nM τ (a + k))) →
    ((∀ k, a ≤ k → k < b → dgt (nM τ k)) → K (nI (dval (nM τ) a (b - a))) 1) → (¬ (∀ k, a ≤ k → k < b → dgt (nM τ k)) → ∀ v, K v 0) → w14_contentLength_L37 τ (nI b) Q K (m + 1) (nI (dval (nM τ) a j)) 1 (nI (a + j)) := by
  intro m
  induction m with
  | zero =>
    intro j hj hd h1 h0
    have := h1 (fun k a1 a2 => by
      have := hd (k - a) (by omega)
      rwa [show a + (k - a) = k by omega] at this)
    rw [show b - a = j by omega] at this
    exact br_t (nI_le (by omega) (by omega)) this
  | succ m ih =>
    intro j hj hd h1 h0
    have hu := ub_lt (τ 66 0 (a + j))
    have nx : nI (a + j) + 1 = nI (a + (j + 1)) := nI_1 _
    refine br_f (nI_ge (by omega) (by omega)) (br_f (by decide) (s14_headAt (by omega) (s14_isDigit hu (fun c => s14_headAt (by omega) ?_) (fun c => s14_headAt (by omega) ?_))))
    · rw [nx, dv_step c.1]
      exact ih (j + 1) (by omega) (fun k hk => by
        by_cases ck : k = j
        · rw [ck]; exact c
        · exact hd k (by omega)) h1 h0
    · rw [nx]
      have fin := h0 (fun z => c (z (a + j) (by omega) (by omega)))
      by_cases c2 : b ≤ a + (j + 1)
      · exact br_t (nI_le c2 (by omega)) (fin _)
      · exact br_f (nI_ge (by omega) (by omega)) (br_t rfl (fin _))
abbrev clG : Nat → Nat → Nat → Bool := mF [] [] [(14, [49, 51, 52, 53])] []
theorem s14_contentLength {τ : St} {a b : Nat} {Q : St → Prop} (hab : a ≤ b) (hb : b ≤ 4096)
    (h1 : ∀ s, Fr clG τ s → (s 14 0 49) = (τ 14 0 49) + 1 → clok (nM τ) a b → dval (nM τ) a (b - a) ≤ 65536 → (s 14 0 52) = (τ 14 0 52) → (s 14 0 53) = (τ 14 0 53) → (s 14 0 51) = nI (dval (nM τ) a (b - a)) → Q s)
    (h2 : ∀ s, Fr clG τ s → (s 14 0 49) = (τ 14 0 49) + 1 → clok (nM τ) a b → 65536 < dval (nM τ) a (b - a) → (s 14 0 52) = (τ 14 0 52) → (s 14 0 53) = 1 → Q s)
    (h0 : ∀ s, Fr clG τ s → (s 14 0 49) = (τ 14 0 49) + 1 → ¬ clok (nM τ) a b → (s 14 0 52) = 1 → Q s) : w14_contentLength τ (nI a) (nI b) Q := by
  intro s1 e1
  have F1 : Fr clG τ s1 := by rw [e1]; exact fr_u rfl
  have l1 : s1 14 0 49 = (τ 14 0 49) + 1 := by rw [e1, up3_g, if_pos ⟨rfl, rfl, rfl⟩]
  have w1 : ∀ j, j ≠ 49 → s1 14 0 j = τ 14 0 j := fun j hj => by rw [e1, up3_g, if_neg (fun z => hj z.2.2)]
  have n1 : nM s1 = nM τ := by unfold nM; rw [F1.row (k := 66) fun _ => rfl]
  have fin0 : ¬ clok (nM τ) a b → ∀ v, w14_contentLength_J80 s1 v 0 Q := by
    intro nc v
    refine br_u rfl (fun s9 e9 => h0 s9 (by rw [e9]; exact F1.up rfl) ?_ nc ?_)
    · rw [e9, up3_g, if_neg (by omega)]; exact l1
    · rw [e9, up3_g, if_pos ⟨rfl, rfl, rfl⟩]
  have no : ¬ clok (nM τ) a b → ∃ z5, w14_contentLength_L37 s1 (nI b) Q (fun x3_6 x4_6 => w14_contentLength_J80 s1 x3_6 x4_6 Q) z5 0 0 (nI a) := by
    intro nc
    refine ⟨1, ?_⟩
    by_cases c : b ≤ a
    · exact br_t (nI_le c (by omega)) (fin0 nc _)
    · exact br_f (nI_ge (by omega) (by omega)) (br_t rfl (fin0 nc _))
  rw [pk_sub hab]
  by_cases c1 : b - a < 1
  · exact br_t (nI_lt (b := 1) c1 (by omega)) (no (fun z => by have := z.1; omega))
  refine br_f (nI_nlt (b := 1) (by omega) (by omega)) ?_
  by_cases c2 : 9 < b - a
  · exact br_t (nI_lt (a := 9) c2 (by omega)) (no (fun z => by have := z.2.1; omega))
  refine br_f (nI_nlt (a := 9) (by omega) (by omega)) ⟨b - a + 1, ?_⟩
  refine s14_cl_L (a := a) hb (b - a) 0 (by omega) (fun k hk => by omega) (fun hd => ?_) (fun hd => fin0 (fun z => hd (by rw [n1]; exact z.2.2)))
  rw [n1] at hd ⊢
  have ok : clok (nM τ) a b := ⟨by omega, by omega, hd⟩
  have lt := dval_9 ok
  refine br_v (by decide) ?_
  by_cases c3 : dval (nM τ) a (b - a) ≤ 65536
  · refine br_t (nI_le (b := 65536) c3 (by omega)) (fun s7 e7 => h1 s7 (by rw [e7]; exact F1.up rfl) ?_ ok c3 ?_ ?_ ?_)
    · rw [e7, up3_g, if_neg (by omega)]; exact l1
    · rw [e7, up3_g, if_neg (by omega)]; exact w1 52 (by decide)
    · rw [e7, up3_g, if_neg (by omega)]; exact w1 53 (by decide)
    · rw [e7, up3_g, if_pos ⟨rfl, rfl, rfl⟩]
  · refine br_f (nI_ge (a := 65536) (by omega) (by omega)) (fun s7 e7 => h2 s7 (by rw [e7]; exact F1.up rfl) ?_ ok (by omega) ?_ ?_)
    · rw [e7, up3_g, if_neg (by omega)]; exact l1
    · rw [e7, up3_g, if_neg (by omega)]; exact w1 52 (by decide)
    · rw [e7, up3_g, if_pos ⟨rfl, rfl, rfl⟩]
