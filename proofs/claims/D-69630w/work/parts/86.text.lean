/-! texts, and bytes of a head -/
set_option maxRecDepth 100000
theorem by_ub {x : Int32} (h : by8 x) : ub x < 128 ∧ x = nI (ub x) ∨ 128 ≤ ub x ∧ x < 0 := by
  have e : x.toInt = x.toInt8.toInt := by
    have h1 : x.toInt8.toInt32.toInt = x.toInt := congrArg Int32.toInt h
    rw [Int8.toInt_toInt32] at h1
    exact h1.symm
  have l1 := Int8.toInt_lt x.toInt8
  have l2 := Int8.le_toInt x.toInt8
  have e2 : x.toInt = x.toBitVec.toInt := rfl
  rw [BitVec.toInt_eq_toNat_cond] at e2
  have hlt := x.toBitVec.isLt
  unfold ub
  by_cases c : 2 * x.toBitVec.toNat < 2 ^ 32
  · rw [if_pos c] at e2
    left
    refine ⟨by omega, ?_⟩
    apply Int32.toInt_inj.mp
    rw [nI_toInt (by omega)]
    omega
  · rw [if_neg c] at e2
    right
    refine ⟨by omega, ?_⟩
    rw [Int32.lt_iff_toInt_lt]
    show x.toInt < 0
    omega
theorem by_eq {x : Int32} {v : Nat} (h : by8 x) (hv : v < 128) : x = nI v ↔ ub x = v := by
  rcases by_ub h with ⟨a, b⟩ | ⟨a, b⟩
  · constructor
    · intro e
      rw [b] at e
      exact (nI_eq (by omega) (by omega)).mp e
    · intro e; rw [b, e]
  · constructor
    · intro e
      rw [e] at b
      exact absurd b (nI_nlt (b := 0) (by omega) (by omega))
    · intro e; omega
theorem s9_isIn {σ : St} {x : Int32} {a b : Nat} {Q : Int32 → Prop} (h : by8 x) (hb : b < 128) (ha : a < 128) (h1 : a ≤ ub x ∧ ub x ≤ b → Q 1) (h0 : ¬ (a ≤ ub x ∧ ub x ≤ b) → Q 0) : w9_isIn σ x (nI a) (nI b) Q := by
  rcases by_ub h with ⟨c, e⟩ | ⟨c, e⟩
  · generalize hu : ub x = u at *
    subst e
    by_cases c1 : u < a
    · exact br_t (nI_lt c1 (by omega)) (h0 (by omega))
    · refine br_f (nI_nlt (by omega) (by omega)) ?_
      by_cases c2 : b < u
      · exact br_t (nI_lt c2 (by omega)) (h0 (by omega))
      · exact br_f (nI_nlt (by omega) (by omega)) (h1 (by omega))
  · refine br_t ?_ (h0 (by omega))
    exact Int32.lt_of_lt_of_le e (nI_le (a := 0) (by omega) (by omega))
/-- small letters -/
def sml (u : Nat) : Nat := if 65 ≤ u ∧ u ≤ 90 then u + 32 else u
theorem s9_small {σ : St} {x : Int32} {Q : Int32 → Prop} (h : by8 x) (hq : ∀ y, (∀ v, v < 128 → (y = nI v ↔ sml (ub x) = v)) → Q y) : w9_small σ x Q := by
  refine s9_isIn (a := 65) (b := 90) h (by omega) (by omega) (fun c => br_f (by decide) (hq _ ?_)) (fun c => br_t rfl (hq _ ?_))
  · intro v hv
    rcases by_ub h with ⟨d, e⟩ | ⟨d, e⟩
    · unfold sml
      rw [if_pos c]
      generalize ub x = u at *
      rw [e, show nI u + 32 = nI (u + 32) from nI_add u 32]
      exact nI_eq (by omega) (by omega)
    · omega
  · intro v hv
    unfold sml
    rw [if_neg c]
    exact by_eq h hv
theorem s14_small {σ : St} {u : Nat} {Q : Int32 → Prop} (hu : u < 256) (hq : Q (nI (sml u))) : w14_small σ (nI u) Q := by
  unfold sml at hq
  by_cases c1 : u < 65
  · rw [if_neg (by omega)] at hq
    exact br_t (nI_lt (b := 65) c1 (by omega)) hq
  · refine br_f (nI_nlt (b := 65) (by omega) (by omega)) ?_
    by_cases c2 : 90 < u
    · rw [if_neg (by omega)] at hq
      exact br_t (nI_lt (a := 90) c2 (by omega)) hq
    · rw [if_pos (by omega)] at hq
      refine br_f (nI_nlt (a := 90) (by omega) (by omega)) ?_
      rw [show nI u + 32 = nI (u + 32) from nI_add u 32]
      exact hq
theorem s14_headAt {σ : St} {k : Nat} {Q : Int32 → Prop} (hk : k < 4096) (hq : Q (nI (ub (σ 66 0 k)))) : w14_headAt σ (nI k) Q := by
  refine ⟨vin hk (by omega), fun _ => ?_⟩
  rw [cl (by omega), ub_and]
  exact hq
/-- a text's length and its codes -/
def sn (t : Nat) : Nat := sLen.getD t 0
def sc (t k : Nat) : Nat := ub ((sByt.getD t []).getD k 0)
theorem sn_le : ∀ t, t < 83 → sn t ≤ 31 := by decide +kernel
theorem sc_lt : ∀ t, t < 83 → ∀ k, k < sn t → 32 ≤ sc t k ∧ sc t k < 128 ∧ (sByt.getD t []).getD k 0 = nI (sc t k) := by decide +kernel
theorem shr0 (x : Int32) : x >>> ((0 : Int32) &&& 31) = x := by
  rw [sh0]
  apply Int32.toBitVec_inj.mp
  apply BitVec.eq_of_getLsbD_eq
  intro i hi
  rw [lb_sshr x 0 0 (by decide) (by omega) (by omega), Nat.zero_add]
theorem sJ_length {t : Nat} {Q : Int32 → Prop} (hq : Q (nI (sn t))) : wJ1_length t Q := by
  refine br_f (by decide) ⟨rfl, ?_⟩
  show Q (slI t >>> ((0 : Int32) &&& 31))
  rw [shr0]
  exact hq
theorem ch_n {v : Nat} (hv : v < 128) : ch16 (nI v) := by
  have : v < 128 → ch16 (nI v) := by
    intro h
    have : ∀ v, v < 128 → ch16 (nI v) := by
      intro v hv
      unfold ch16
      have e : ∀ v, v < 128 → (narrow .char (.int (nI v))) = .int (nI v) := by decide +kernel
      exact e v hv
    exact this v h
  exact this hv
theorem c16 : ∀ v, v < 128 → ((nI v &&& 255).toUInt32 % 65536).toInt32 = nI v := by decide +kernel
theorem sJ_charAt {t k : Nat} {Q : Int32 → Prop} (ht : t < 83) (hk : k < sn t) (hq : Q (nI (sc t k))) : wJ1_charAt t (nI k) Q := by
  have h1 := sn_le t ht
  obtain ⟨h2, h3, h4⟩ := sc_lt t ht k hk
  have e1 : sby t (nI k) = nI (sc t k) := by unfold sby; rw [cl (by omega)]; exact h4
  refine br_f (by decide) (br_u rfl (br_f (by decide) ?_))
  refine br_f (nI_nlt (b := 0) (by omega) (by omega)) (br_t (nI_lt (b := sn t) hk (by omega)) ?_)
  rw [e1, c16 _ h3]
  exact ⟨vin hk (by omega), ch_n h3, ch_n h3, hq⟩
/-- whether a part of a head is a word -/
def isW (N : Nat → Nat) (a b t : Nat) : Prop := b = a + sn t ∧ ∀ k, k < sn t → N (a + k) = sc t k
abbrev nC (σ : St) : Nat → Nat := fun k => ub (σ 40 0 k)
abbrev nM (τ : St) : Nat → Nat := fun k => ub (τ 66 0 k)
theorem s9_isExactly_L {σ : St} {a b t : Nat} {Q : Int32 → Prop} {K0 K1 : Prop} (ht : t < 83) (hb : b ≤ 4096) (hab : b = a + sn t) : ∀ (m j : Nat), j + m = sn t → ((∀ k, j ≤ k → k < sn t → nC σ (a + k) = sc t k) → K1) → (¬ (∀ k, j ≤ k → k < sn t → nC σ (a + k) = sc t k) → K0) → w9_isExactly_L15 σ (nI a) t Q K0 K1 (m + 1) (nI j) := by
  intro m
  have h1 := sn_le t ht
  induction m with
  | zero =>
    intro j hj hy _
    exact sJ_length (br_t (nI_le (by omega) (by omega)) (hy (fun k _ _ => by omega)))
  | succ m ih =>
    intro j hj hy hn
    obtain ⟨s2, s3, s4⟩ := sc_lt t ht j (by omega)
    refine sJ_length (br_f (nI_ge (by omega) (by omega)) ?_)
    rw [nI_add, cl (by omega)]
    refine ⟨vin (by omega) (by omega), fun hby => sJ_charAt ht (by omega) ?_⟩
    have e := by_eq hby s3
    by_cases c : ub (σ 40 0 (a + j)) = sc t j
    · refine br_t (e.mpr c) ?_
      rw [nI_1]
      refine ih (j + 1) (by omega) (fun z => hy (fun k a1 a2 => ?_)) (fun z => hn (fun z2 => z (fun k a1 a2 => z2 k (by omega) a2)))
      by_cases ck : k = j
      · rw [ck]; exact c
      · exact z k (by omega) a2
    · exact br_f (fun z => c (e.mp z)) (hn (fun z => c (z j (Nat.le_refl _) (by omega))))
theorem s9_isExactly {σ : St} {a b t : Nat} {Q : Int32 → Prop} (ht : t < 83) (hab : a ≤ b) (hb : b ≤ 4096) (h1 : isW (nC σ) a b t → Q 1) (h0 : ¬ isW (nC σ) a b t → Q 0) : w9_isExactly σ (nI a) (nI b) t Q := by
  have hs := sn_le t ht
  refine sJ_length ?_
  rw [pk_sub hab]
  by_cases c : b - a = sn t
  · refine br_t (by rw [c]) ⟨sn t + 1, s9_isExactly_L ht hb (by omega) (sn t) 0 (by omega) (fun z => h1 ⟨by omega, fun k hk => z k (by omega) hk⟩) (fun z => h0 (fun w => z (fun k _ hk => w.2 k hk)))⟩
  · exact br_f (fun z => c ((nI_eq (by omega) (by omega)).mp z)) (h0 (fun w => c (by have := w.1; omega)))
theorem s14_says_L {σ : St} {a b t : Nat} {Q : Int32 → Prop} {K0 K1 : Prop} (ht : t < 83) (hb : b ≤ 4096) (hab : b = a + sn t) : ∀ (m j : Nat), j + m = sn t → ((∀ k, j ≤ k → k < sn t → nM σ (a + k) = sc t k) → K1) → (¬ (∀ k, j ≤ k → k < sn t → nM σ (a + k) = sc t k) → K0) → w14_says_L15 σ (nI a) (nI b) t Q K0 K1 (m + 1) (nI (a + j)) := by
  intro m
  have h1 := sn_le t ht
  induction m with
  | zero =>
    intro j hj hy _
    exact br_t (nI_le (by omega) (by omega)) (hy (fun k _ _ => by omega))
  | succ m ih =>
    intro j hj hy hn
    obtain ⟨s2, s3, s4⟩ := sc_lt t ht j (by omega)
    refine br_f (nI_ge (by omega) (by omega)) (s14_headAt (by omega) ?_)
    rw [pk_sub (by omega), show a + j - a = j by omega]
    refine sJ_charAt ht (by omega) ?_
    have hu := ub_lt (σ 66 0 (a + j))
    by_cases c : ub (σ 66 0 (a + j)) = sc t j
    · refine br_t (by rw [c]) ?_
      rw [nI_1, Nat.add_assoc]
      refine ih (j + 1) (by omega) (fun z => hy (fun k a1 a2 => ?_)) (fun z => hn (fun z2 => z (fun k a1 a2 => z2 k (by omega) a2)))
      by_cases ck : k = j
      · rw [ck]; exact c
      · exact z k (by omega) a2
    · exact br_f (fun z => c ((nI_eq (by omega) (by omega)).mp z)) (hn (fun z => c (z j (Nat.le_refl _) (by omega))))
theorem s14_says {σ : St} {a b t : Nat} {Q : Int32 → Prop} (ht : t < 83) (hab : a ≤ b) (hb : b ≤ 4096) (h1 : isW (nM σ) a b t → Q 1) (h0 : ¬ isW (nM σ) a b t → Q 0) : w14_says σ (nI a) (nI b) t Q := by
  have hs := sn_le t ht
  refine sJ_length ?_
  rw [pk_sub hab]
  by_cases c : b - a = sn t
  · refine br_t (by rw [c]) ⟨sn t + 1, s14_says_L (b := b) ht hb (by omega) (sn t) 0 (by omega) (fun z => h1 ⟨by omega, fun k hk => z k (by omega) hk⟩) (fun z => h0 (fun w => z (fun k _ hk => w.2 k hk)))⟩
  · exact br_f (fun z => c ((nI_eq (by omega) (by omega)).mp z)) (h0 (fun w => c (by have := w.1; omega)))
theorem s9_is_L {σ : St} {a b t : Nat} {Q : Int32 → Prop} {K0 K1 : Prop} (ht : t < 83) (hb : b ≤ 4096) (hab : b = a + sn t) : ∀ (m j : Nat), j + m = sn t → ((∀ k, j ≤ k → k < sn t → sml (nC σ (a + k)) = sc t k) → K1) → (¬ (∀ k, j ≤ k → k < sn t → sml (nC σ (a + k)) = sc t k) → K0) → w9_is_L15 σ (nI a) t Q K0 K1 (m + 1) (nI j) := by
  intro m
  have h1 := sn_le t ht
  induction m with
  | zero =>
    intro j hj hy _
    exact sJ_length (br_t (nI_le (by omega) (by omega)) (hy (fun k _ _ => by omega)))
  | succ m ih =>
    intro j hj hy hn
    obtain ⟨s2, s3, s4⟩ := sc_lt t ht j (by omega)
    refine sJ_length (br_f (nI_ge (by omega) (by omega)) ?_)
    rw [nI_add, cl (by omega)]
    refine ⟨vin (by omega) (by omega), fun hby => s9_small hby (fun y hy2 => sJ_charAt ht (by omega) ?_)⟩
    have e := hy2 (sc t j) s3
    by_cases c : sml (ub (σ 40 0 (a + j))) = sc t j
    · refine br_t (e.mpr c) ?_
      rw [nI_1]
      refine ih (j + 1) (by omega) (fun z => hy (fun k a1 a2 => ?_)) (fun z => hn (fun z2 => z (fun k a1 a2 => z2 k (by omega) a2)))
      by_cases ck : k = j
      · rw [ck]; exact c
      · exact z k (by omega) a2
    · exact br_f (fun z => c (e.mp z)) (hn (fun z => c (z j (Nat.le_refl _) (by omega))))
/-- the same, letters great or small -/
abbrev isS (N : Nat → Nat) (a b t : Nat) : Prop := isW (fun k => sml (N k)) a b t
theorem s9_is {σ : St} {a b t : Nat} {Q : Int32 → Prop} (ht : t < 83) (hab : a ≤ b) (hb : b ≤ 4096) (h1 : isS (nC σ) a b t → Q 1) (h0 : ¬ isS (nC σ) a b t → Q 0) : w9_is σ (nI a) (nI b) t Q := by
  have hs := sn_le t ht
  refine sJ_length ?_
  rw [pk_sub hab]
  by_cases c : b - a = sn t
  · refine br_t (by rw [c]) ⟨sn t + 1, s9_is_L ht hb (by omega) (sn t) 0 (by omega) (fun z => h1 ⟨by omega, fun k hk => z k (by omega) hk⟩) (fun z => h0 (fun w => z (fun k _ hk => w.2 k hk)))⟩
  · exact br_f (fun z => c ((nI_eq (by omega) (by omega)).mp z)) (h0 (fun w => c (by have := w.1; omega)))
theorem sml_lt {u : Nat} (h : u < 256) : sml u < 256 := by unfold sml; split <;> omega
theorem s14_saysSmall_L {σ : St} {a b t : Nat} {Q : Int32 → Prop} {K0 K1 : Prop} (ht : t < 83) (hb : b ≤ 4096) (hab : b = a + sn t) : ∀ (m j : Nat), j + m = sn t → ((∀ k, j ≤ k → k < sn t → sml (nM σ (a + k)) = sc t k) → K1) → (¬ (∀ k, j ≤ k → k < sn t → sml (nM σ (a + k)) = sc t k) → K0) → w14_saysSmall_L15 σ (nI a) (nI b) t Q K0 K1 (m + 1) (nI (a + j)) := by
  intro m
  have h1 := sn_le t ht
  induction m with
  | zero =>
    intro j hj hy _
    exact br_t (nI_le (by omega) (by omega)) (hy (fun k _ _ => by omega))
  | succ m ih =>
    intro j hj hy hn
    obtain ⟨s2, s3, s4⟩ := sc_lt t ht j (by omega)
    have hu := ub_lt (σ 66 0 (a + j))
    have hu2 := sml_lt hu
    refine br_f (nI_ge (by omega) (by omega)) (s14_headAt (by omega) (s14_small hu ?_))
    rw [pk_sub (by omega), show a + j - a = j by omega]
    refine sJ_charAt ht (by omega) ?_
    by_cases c : sml (ub (σ 66 0 (a + j))) = sc t j
    · refine br_t (by rw [c]) ?_
      rw [nI_1, Nat.add_assoc]
      refine ih (j + 1) (by omega) (fun z => hy (fun k a1 a2 => ?_)) (fun z => hn (fun z2 => z (fun k a1 a2 => z2 k (by omega) a2)))
      by_cases ck : k = j
      · rw [ck]; exact c
      · exact z k (by omega) a2
    · exact br_f (fun z => c ((nI_eq (by omega) (by omega)).mp z)) (hn (fun z => c (z j (Nat.le_refl _) (by omega))))
theorem s14_saysSmall {σ : St} {a b t : Nat} {Q : Int32 → Prop} (ht : t < 83) (hab : a ≤ b) (hb : b ≤ 4096) (h1 : isS (nM σ) a b t → Q 1) (h0 : ¬ isS (nM σ) a b t → Q 0) : w14_saysSmall σ (nI a) (nI b) t Q := by
  have hs := sn_le t ht
  refine sJ_length ?_
  rw [pk_sub hab]
  by_cases c : b - a = sn t
  · refine br_t (by rw [c]) ⟨sn t + 1, s14_saysSmall_L (b := b) ht hb (by omega) (sn t) 0 (by omega) (fun z => h1 ⟨by omega, fun k hk => z k (by omega) hk⟩) (fun z => h0 (fun w => z (fun k _ hk => w.2 k hk)))⟩
  · exact br_f (fun z => c ((nI_eq (by omega) (by omega)).mp z)) (h0 (fun w => c (by have := w.1; omega)))
