/-! the request line: the model -/
set_option maxRecDepth 100000
/-- how many blanks there are -/
def cntb (N : Nat → Nat) : Nat → Nat
  | 0 => 0
  | k + 1 => cntb N k + (if N k = 32 then 1 else 0)
theorem cntb_mono {N : Nat → Nat} {a b : Nat} (h : a ≤ b) : cntb N a ≤ cntb N b := by
  induction b with
  | zero => have : a = 0 := by omega
            rw [this]; exact Nat.le_refl _
  | succ b ih =>
    by_cases c : a = b + 1
    · rw [c]; exact Nat.le_refl _
    · have := ih (by omega)
      simp only [cntb]
      omega
theorem cntb_lt {N : Nat → Nat} {a b : Nat} (h : a < b) (ha : N a = 32) : cntb N a + 1 ≤ cntb N b := by
  have := cntb_mono (N := N) (a := a + 1) (b := b) (by omega)
  simp only [cntb] at this
  rw [if_pos ha] at this
  exact this
theorem cntb_no {N : Nat → Nat} {a b : Nat} (h : a ≤ b) (hn : ∀ k, a ≤ k → k < b → N k ≠ 32) : cntb N b = cntb N a := by
  induction b with
  | zero => have : a = 0 := by omega
            rw [this]
  | succ b ih =>
    by_cases c : a = b + 1
    · rw [c]
    · simp only [cntb]
      rw [ih (by omega) (fun k h1 h2 => hn k h1 (by omega)), if_neg (hn b (by omega) (by omega))]
      rfl
theorem cntb_le {N : Nat → Nat} {k : Nat} : cntb N k ≤ k := by
  induction k with
  | zero => exact Nat.le_refl _
  | succ k ih => simp only [cntb]; split <;> omega
/-- what the model knows of the blanks so far -/
def blk (N : Nat → Nat) (k : Nat) (x3 x4 x5 : Int32) : Prop := x5 = nI (cntb N k) ∧ (1 ≤ cntb N k → ∃ a : Nat, x3 = nI a ∧ a < k ∧ N a = 32 ∧ cntb N a = 0) ∧ (2 ≤ cntb N k → ∃ b : Nat, x4 = nI b ∧ b < k ∧ N b = 32 ∧ cntb N b = 1)
theorem s14_rl_L11 {τ : St} {e : Nat} {x1 : Int32} {Q : Int32 → St → Prop} {K : Int32 → Int32 → Int32 → Prop} (he : e ≤ 4096) (hK : ∀ x3 x4 x5, blk (nM τ) e x3 x4 x5 → K x3 x4 x5) : ∀ (m j : Nat) (x3 x4 x5 : Int32), j + m = e → blk (nM τ) j x3 x4 x5 → w14_requestLine_L11 τ x1 (nI e) Q K (m + 1) x3 x4 x5 (nI j) := by
  intro m
  induction m with
  | zero =>
    intro j x3 x4 x5 hj hb
    have : j = e := by omega
    subst this
    exact br_t (nI_le (by omega) (by omega)) (hK _ _ _ hb)
  | succ m ih =>
    intro j x3 x4 x5 hj hb
    have hc := cntb_le (N := nM τ) (k := j)
    obtain ⟨b1, b2, b3⟩ := hb
    refine br_f (nI_ge (by omega) (by omega)) ⟨vin (by omega) (by omega), fun hby => ?_⟩
    rw [cl (by omega)] at hby ⊢
    have q32 := by_eq (v := 32) hby (by omega)
    rw [nI_1]
    by_cases c : ub (τ 66 0 j) = 32
    · have ce : cntb (nM τ) (j + 1) = cntb (nM τ) j + 1 := by simp only [cntb]; rw [if_pos c]
      refine br_u (q32.mpr c) ?_
      rw [b1, nI_1]
      have mo2 : ∀ y : Nat, 1 ≤ y → 2 ≤ y + 1 := fun y h => by omega
      by_cases d1 : cntb (nM τ) j = 0
      · refine br_u (by rw [d1]; rfl) (br_v (by rw [d1]; decide) (ih (j + 1) _ _ _ (by omega) ⟨by rw [ce], fun _ => ⟨j, rfl, by omega, c, d1⟩, fun z => ?_⟩))
        rw [ce] at z
        omega
      · refine br_v (fun z => d1 (by have := (nI_eq (b := 1) (by omega) (by omega)).mp z; omega)) ?_
        obtain ⟨a, a1, a2, a3, a4⟩ := b2 (by omega)
        by_cases d2 : cntb (nM τ) j = 1
        · refine br_u (by rw [d2]; rfl) (ih (j + 1) _ _ _ (by omega) ⟨by rw [ce], fun _ => ⟨a, a1, by omega, a3, a4⟩, fun _ => ⟨j, rfl, by omega, c, d2⟩⟩)
        · obtain ⟨b, b1', b2', b3', b4'⟩ := b3 (by omega)
          refine br_v (fun z => d2 (by have := (nI_eq (b := 2) (by omega) (by omega)).mp z; omega)) (ih (j + 1) _ _ _ (by omega) ⟨by rw [ce], fun _ => ⟨a, a1, by omega, a3, a4⟩, fun _ => ⟨b, b1', by omega, b3', b4'⟩⟩)
    · have ce : cntb (nM τ) (j + 1) = cntb (nM τ) j := by simp only [cntb]; rw [if_neg c]; rfl
      refine br_v (fun z => c (q32.mp z)) (ih (j + 1) _ _ _ (by omega) ⟨by rw [ce]; exact b1, fun z => ?_, fun z => ?_⟩)
      · rw [ce] at z
        obtain ⟨a, a1, a2, a3, a4⟩ := b2 z
        exact ⟨a, a1, by omega, a3, a4⟩
      · rw [ce] at z
        obtain ⟨a, a1, a2, a3, a4⟩ := b3 z
        exact ⟨a, a1, by omega, a3, a4⟩
theorem s14_rl_L113 {τ : St} {a : Nat} {x1 x2 x4 : Int32} {Q : Int32 → St → Prop} {K0 K1 : Prop} (ha : a ≤ 4096) : ∀ (m j : Nat), j + m = a → ((∀ k, j ≤ k → k < a → 65 ≤ nM τ k ∧ nM τ k ≤ 90) → K1) → (¬ (∀ k, j ≤ k → k < a → 65 ≤ nM τ k ∧ nM τ k ≤ 90) → K0) → w14_requestLine_L113 τ x1 x2 (nI a) x4 Q K0 K1 (m + 1) (nI j) := by
  intro m
  induction m with
  | zero => intro j hj h1 h0; exact br_t (nI_le (by omega) (by omega)) (h1 (fun k _ _ => by omega))
  | succ m ih =>
    intro j hj h1 h0
    have hu := ub_lt (τ 66 0 j)
    have en : nM τ j = ub (τ 66 0 j) := rfl
    refine br_f (nI_ge (by omega) (by omega)) (s14_headAt (by omega) ?_)
    by_cases c1 : ub (τ 66 0 j) < 65
    · exact br_t (nI_lt (b := 65) c1 (by omega)) (h0 (fun z => by have := z j (by omega) (by omega); omega))
    · refine br_f (nI_nlt (b := 65) (by omega) (by omega)) (s14_headAt (by omega) ?_)
      by_cases c2 : ub (τ 66 0 j) ≤ 90
      · refine br_t (nI_le (b := 90) c2 (by omega)) ?_
        rw [nI_1]
        refine ih (j + 1) (by omega) (fun z => h1 (fun k a1 a2 => ?_)) (fun z => h0 (fun z2 => z (fun k a1 a2 => z2 k (by omega) a2)))
        by_cases ck : k = j
        · rw [ck]; exact ⟨by omega, c2⟩
        · exact z k (by omega) a2
      · exact br_f (nI_ge (a := 90) (by omega) (by omega)) (h0 (fun z => by have := z j (by omega) (by omega); omega))
theorem s14_rl_L154 {τ : St} {b : Nat} {x1 x2 x3 : Int32} {Q : Int32 → St → Prop} {K0 K1 : Prop} (ha : b ≤ 4096) : ∀ (m j : Nat), j + m = b → ((∀ k, j ≤ k → k < b → 33 ≤ nM τ k ∧ nM τ k ≤ 126) → K1) → (¬ (∀ k, j ≤ k → k < b → 33 ≤ nM τ k ∧ nM τ k ≤ 126) → K0) → w14_requestLine_L154 τ x1 x2 x3 (nI b) Q K0 K1 (m + 1) (nI j) := by
  intro m
  induction m with
  | zero => intro j hj h1 h0; exact br_t (nI_le (by omega) (by omega)) (h1 (fun k _ _ => by omega))
  | succ m ih =>
    intro j hj h1 h0
    have hu := ub_lt (τ 66 0 j)
    have en : nM τ j = ub (τ 66 0 j) := rfl
    refine br_f (nI_ge (by omega) (by omega)) (s14_headAt (by omega) ?_)
    by_cases c1 : ub (τ 66 0 j) < 33
    · exact br_t (nI_lt (b := 33) c1 (by omega)) (h0 (fun z => by have := z j (by omega) (by omega); omega))
    · refine br_f (nI_nlt (b := 33) (by omega) (by omega)) (s14_headAt (by omega) ?_)
      by_cases c2 : ub (τ 66 0 j) ≤ 126
      · refine br_t (nI_le (b := 126) c2 (by omega)) ?_
        rw [nI_1]
        refine ih (j + 1) (by omega) (fun z => h1 (fun k a1 a2 => ?_)) (fun z => h0 (fun z2 => z (fun k a1 a2 => z2 k (by omega) a2)))
        by_cases ck : k = j
        · rw [ck]; exact ⟨by omega, c2⟩
        · exact z k (by omega) a2
      · exact br_f (nI_ge (a := 126) (by omega) (by omega)) (h0 (fun z => by have := z j (by omega) (by omega); omega))
theorem s14_requestLine {τ : St} {e : Nat} {Q : Int32 → St → Prop} (he : e ≤ 4096)
    (h1 : ∀ a b nw s, RL (nM τ) e a b nw → Fr (mF [] [] [(14, [44, 45, 56, 57, 60])] []) τ s → (s 14 0 45) = (if nw then 0 else 1) → ((s 14 0 44) = 1 ∧ isW (nM τ) 0 a 12 ∨ (s 14 0 44) = 0 ∧ ¬ isW (nM τ) 0 a 12) → ((s 14 0 60) = 0 ∧ (isW (nM τ) 0 a 12 ∨ isW (nM τ) 0 a 15) ∨ (s 14 0 60) = 1 ∧ ¬ (isW (nM τ) 0 a 12 ∨ isW (nM τ) 0 a 15)) → (s 14 0 56) = nI (a + 1) → (s 14 0 57) = nI b → Q 1 s)
    (h0 : (∀ a b nw, ¬ RL (nM τ) e a b nw) → Q 0 τ) : w14_requestLine τ 0 (nI e) Q := by
  refine ⟨e + 1, s14_rl_L11 he (fun x3 x4 x5 hb => ?_) e 0 (-1) (-1) 0 (by omega) ⟨rfl, fun z => absurd z (by simp [cntb]), fun z => absurd z (by simp [cntb])⟩⟩
  obtain ⟨b1, b2, b3⟩ := hb
  have hc := cntb_le (N := nM τ) (k := e)
  -- a right line has two blanks
  have two : ∀ a b nw, RL (nM τ) e a b nw → cntb (nM τ) e = 2 ∧ cntb (nM τ) a = 0 ∧ cntb (nM τ) b = 1 := by
    intro a b nw r
    have r1 := r.be
    have r2 := r.ab
    have k1 : cntb (nM τ) a = 0 := cntb_no (a := 0) (Nat.zero_le _) (fun k _ hk => by have := r.az k hk; omega)
    have k2 : cntb (nM τ) (a + 1) = 1 := by simp only [cntb]; rw [k1, if_pos r.na]
    have k3 : cntb (nM τ) b = 1 := by
      rw [cntb_no (a := a + 1) (by omega) (fun k g1 g2 => by have := r.vs k (by omega) g2; omega)]
      exact k2
    have k4 : cntb (nM τ) (b + 1) = 2 := by simp only [cntb]; rw [k3, if_pos r.nb]
    have k5 : cntb (nM τ) e = 2 := by
      rw [cntb_no (a := b + 1) (by omega) (fun k g1 g2 => ?_)]
      · exact k4
      · cases nw with
        | true =>
          have w := (r.n1 rfl).2 (k - (b + 1)) (by show _ < 8; omega)
          rw [show b + 1 + (k - (b + 1)) = k by omega] at w
          rw [w]
          have : ∀ j, j < 8 → sc 2 j ≠ 32 := by decide
          exact this _ (by omega)
        | false =>
          have w := (r.n0 rfl).2 (k - (b + 1)) (by show _ < 8; omega)
          rw [show b + 1 + (k - (b + 1)) = k by omega] at w
          rw [w]
          have : ∀ j, j < 8 → sc 3 j ≠ 32 := by decide
          exact this _ (by omega)
    exact ⟨k5, k1, k3⟩
  by_cases g0 : cntb (nM τ) e = 2
  rotate_left
  · exact br_v (fun z => g0 (by rw [b1] at z; exact (nI_eq (b := 2) (by omega) (by omega)).mp z)) (h0 (fun a b nw r => g0 (two a b nw r).1))
  obtain ⟨a, a1, a2, a3, a4⟩ := b2 (by omega)
  obtain ⟨b, c1, c2, c3, c4⟩ := b3 (by omega)
  subst a1
  subst c1
  have hab : a < b := by
    rcases Nat.lt_or_ge a b with z | z
    · exact z
    · have := cntb_mono (N := nM τ) z; omega
  have ua : ∀ a' b' nw', RL (nM τ) e a' b' nw' → a = a' ∧ b = b' := by
    intro a' b' nw' r
    obtain ⟨t1, t2, t3⟩ := two a' b' nw' r
    have r1 := r.na
    have r2 := r.nb
    constructor
    · rcases Nat.lt_trichotomy a a' with z | z | z
      · have := cntb_lt z a3; omega
      · exact z
      · have := cntb_lt z r1; omega
    · rcases Nat.lt_trichotomy b b' with z | z | z
      · have := cntb_lt z c3; omega
      · exact z
      · have := cntb_lt z r2; omega
  refine br_u (by rw [b1, g0]; rfl) ?_
  rw [Int32.sub_zero]
  by_cases g1 : a < 1
  · exact br_t (nI_lt (b := 1) g1 (by omega)) (h0 (fun a' b' nw' r => by have := (ua _ _ _ r).1; have := r.a1; omega))
  refine br_f (nI_nlt (b := 1) (by omega) (by omega)) ?_
  by_cases g2 : 16 < a
  · exact br_t (nI_lt (a := 16) g2 (by omega)) (h0 (fun a' b' nw' r => by have := (ua _ _ _ r).1; have := r.a16; omega))
  refine br_f (nI_nlt (a := 16) (by omega) (by omega)) ?_
  rw [nI_1]
  by_cases g3 : b = a + 1
  · exact br_t (by rw [g3]) (h0 (fun a' b' nw' r => by have := ua _ _ _ r; have := r.ab; omega))
  refine br_f (fun z => g3 ((nI_eq (by omega) (by omega)).mp z)) ?_
  rw [cl (by omega)]
  refine ⟨vin (by omega) (by omega), fun hby => ?_⟩
  have q47 := by_eq (v := 47) hby (by omega)
  by_cases g4 : ub (τ 66 0 (a + 1)) = 47
  rotate_left
  · exact br_v (fun z => g4 (q47.mp z)) (h0 (fun a' b' nw' r => by have := (ua _ _ _ r).1; subst this; exact g4 r.sl))
  refine br_u (q47.mpr g4) ?_
  rw [pk_sub (by omega)]
  by_cases g5 : e - b = 9
  rotate_left
  · exact br_f (fun z => g5 ((nI_eq (b := 9) (by omega) (by omega)).mp z)) (h0 (fun a' b' nw' r => by have := (ua _ _ _ r).2; have := r.be; omega))
  refine br_t (by rw [g5]; rfl) ⟨a + 1, s14_rl_L113 (by omega) a 0 (by omega) (fun az => ?_) (fun z => h0 (fun a' b' nw' r => by have := (ua _ _ _ r).1; subst this; exact z (fun k _ hk => r.az k hk)))⟩
  refine ⟨b - (a + 1) + 1, s14_rl_L154 (by omega) (b - (a + 1)) (a + 1) (by omega) (fun vs => ?_) (fun z => h0 (fun a' b' nw' r => by
    obtain ⟨x1, x2⟩ := ua _ _ _ r
    subst x1; subst x2
    exact z (fun k g1 g2 => r.vs k (by omega) g2)))⟩
  have mk : ∀ nw, (nw = true → isW (nM τ) (b + 1) e 2) → (nw = false → isW (nM τ) (b + 1) e 3) → RL (nM τ) e a b nw := fun nw x1 x0 => RL.mk (by omega) (by omega) (by omega) (by omega) (fun k hk => az k (by omega) hk) a3 g4 (fun k g1 g2 => vs k (by omega) g2) c3 x1 x0
  -- the rest of it
  have j242 : ∀ (nw : Bool) (xs : Int32), RL (nM τ) e a b nw → xs = (if nw then 0 else 1) → w14_requestLine_J242 τ 0 (nI a) (nI b) xs Q := by
    intro nw xs r hx
    have hbo : bo xs := by rw [hx]; cases nw with
      | true => exact Or.inl rfl
      | false => exact Or.inr rfl
    refine ⟨hbo, fun s14 e14 => ?_⟩
    have f14 : Fr (mF [] [] [(14, [44, 45, 56, 57, 60])] []) τ s14 := by rw [e14]; exact fr_u rfl
    have n14 : nM s14 = nM τ := by unfold nM; rw [f14.row (k := 66) fun _ => rfl]
    have v45 : s14 14 0 45 = if nw then 0 else 1 := by rw [e14, up3_g, if_pos ⟨rfl, rfl, rfl⟩]; exact hx
    have fin : ∀ (s16 : St) (hv ov : Int32), s16 = up3 s14 14 0 44 hv → (hv = 1 ∧ isW (nM τ) 0 a 12 ∨ hv = 0 ∧ ¬ isW (nM τ) 0 a 12) → (ov = 0 ∧ (isW (nM τ) 0 a 12 ∨ isW (nM τ) 0 a 15) ∨ ov = 1 ∧ ¬ (isW (nM τ) 0 a 12 ∨ isW (nM τ) 0 a 15)) → ∀ σ17, σ17 = up3 s16 14 0 60 ov → (∀ σ18, σ18 = up3 σ17 14 0 56 (nI a + 1) → (∀ σ19, σ19 = up3 σ18 14 0 57 (nI b) → (Q 1 σ19))) := by
      intro s16 hv ov e16 hh ho s17 e17 s18 e18 s19 e19
      rw [nI_1] at e18
      refine h1 a b nw s19 r ?_ ?_ ?_ ?_ ?_ ?_
      · rw [e19, e18, e17, e16]; exact (((f14.up rfl).up rfl).up rfl).up rfl
      · rw [e19, up3_g, if_neg (by omega), e18, up3_g, if_neg (by omega), e17, up3_g, if_neg (by omega), e16, up3_g, if_neg (by omega)]; exact v45
      · rw [e19, up3_g, if_neg (by omega), e18, up3_g, if_neg (by omega), e17, up3_g, if_neg (by omega), e16, up3_g, if_pos ⟨rfl, rfl, rfl⟩]; exact hh
      · rw [e19, up3_g, if_neg (by omega), e18, up3_g, if_neg (by omega), e17, up3_g, if_pos ⟨rfl, rfl, rfl⟩]; exact ho
      · rw [e19, up3_g, if_neg (by omega), e18, up3_g, if_pos ⟨rfl, rfl, rfl⟩]
      · rw [e19, up3_g, if_pos ⟨rfl, rfl, rfl⟩]
    refine s14_says (a := 0) (by decide) (by omega) (by omega) (fun w => ?_) (fun w => ?_)
    · rw [n14] at w
      refine ⟨Or.inr rfl, fun s16 e16 _ => ?_⟩
      have v44 : s16 14 0 44 = 1 := by rw [e16, up3_g, if_pos ⟨rfl, rfl, rfl⟩]
      rw [v44]
      exact br_v (by decide) (fin s16 1 0 e16 (Or.inl ⟨rfl, isW_46.mp w⟩) (Or.inl ⟨rfl, Or.inl (isW_46.mp w)⟩))
    · rw [n14] at w
      refine ⟨Or.inl rfl, fun s16 e16 _ => ?_⟩
      have v44 : s16 14 0 44 = 0 := by rw [e16, up3_g, if_pos ⟨rfl, rfl, rfl⟩]
      have n16 : nM s16 = nM τ := by rw [← n14]; unfold nM; rw [e16, up3_r, if_neg (by omega)]
      rw [v44]
      refine br_u rfl (s14_says (a := 0) (by decide) (by omega) (by omega) (fun w2 => ?_) (fun w2 => ?_))
      · rw [n16] at w2
        exact br_v (by decide) (fin s16 0 0 e16 (Or.inr ⟨rfl, fun z => w (isW_46.mpr z)⟩) (Or.inl ⟨rfl, Or.inr (isW_47.mp w2)⟩))
      · rw [n16] at w2
        exact br_u rfl (fin s16 0 1 e16 (Or.inr ⟨rfl, fun z => w (isW_46.mpr z)⟩) (Or.inr ⟨rfl, fun z => z.elim (fun q => w (isW_46.mpr q)) (fun q => w2 (isW_47.mpr q))⟩))
  have e1 : (nI e - 1 : Int32) = nI (e - 1) := pk_sub (b := 1) (by omega)
  rw [show nI b + 1 = nI (b + 1) from nI_1 _]
  refine s14_says (by decide) (by omega) he (fun w => ?_) (fun w => ?_)
  · have w := isW_44.mp w
    have l := w.2 7 (by decide)
    have l2 : ub (τ 66 0 (e - 1)) = 48 := by
      have : b + 1 + 7 = e - 1 := by omega
      rw [← this]
      exact l
    refine br_v (by decide) ?_
    rw [e1, cl (by omega)]
    refine ⟨vin (by omega) (by omega), fun hby => br_u ((by_eq (v := 48) hby (by omega)).mpr l2) (j242 false 1 (mk false (fun z => absurd z (by decide)) (fun _ => w)) rfl)⟩
  · refine br_u rfl (s14_says (by decide) (by omega) he (fun w2 => ?_) (fun w2 => ?_))
    · have w2 := isW_45.mp w2
      have l := w2.2 7 (by decide)
      have l2 : ub (τ 66 0 (e - 1)) = 49 := by
        have : b + 1 + 7 = e - 1 := by omega
        rw [← this]
        exact l
      refine br_v (by decide) ?_
      rw [e1, cl (by omega)]
      refine ⟨vin (by omega) (by omega), fun hby => br_v (fun z => by have := (by_eq (v := 48) hby (by omega)).mp z; omega) (j242 true 0 (mk true (fun _ => w2) (fun z => absurd z (by decide))) rfl)⟩
    · refine br_u rfl (h0 (fun a' b' nw' r => ?_))
      obtain ⟨x1, x2⟩ := ua _ _ _ r
      subst x1
      subst x2
      cases nw' with
      | true => exact w2 (isW_45.mpr (r.n1 rfl))
      | false => exact w (isW_44.mpr (r.n0 rfl))
