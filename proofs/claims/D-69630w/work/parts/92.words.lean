/-! the words of a field -/
set_option maxRecDepth 100000
abbrev sepr (u : Nat) : Prop := u = 44 ∨ blnk u
def wend (N : Nat → Nat) (b s : Nat) : Nat := scan (fun k => decide (¬ sepr (N k))) (b - s) s
/-- a word among those from a place on -/
def HW (N : Nat → Nat) (b t s : Nat) : Prop := ∃ x e, s ≤ x ∧ x ≤ e ∧ e ≤ b ∧ (x = s ∨ sepr (N (x - 1))) ∧ (e = b ∨ sepr (N e)) ∧ (∀ k, x ≤ k → k < e → ¬ sepr (N k)) ∧ isS N x e t
theorem HW_no {N : Nat → Nat} {b t s : Nat} (ht : 0 < sn t) (h : b ≤ s) : ¬ HW N b t s := by
  rintro ⟨x, e, h1, h2, h3, _, _, _, h7, _⟩
  omega
/-- the first word, up to a place where it ends -/
theorem HW_u {N : Nat → Nat} {b t s e : Nat} (ht : 0 < sn t) (hse : s ≤ e) (heb : e ≤ b) (h1 : ∀ k, s ≤ k → k < e → ¬ sepr (N k)) (h2 : e = b ∨ sepr (N e)) : HW N b t s ↔ isS N s e t ∨ HW N b t (e + 1) := by
  constructor
  · rintro ⟨x, e', g1, g2, g3, g4, g5, g6, g7⟩
    by_cases c : x = s
    · left
      subst c
      have : e' = e := by
        rcases Nat.lt_trichotomy e' e with z | z | z
        · rcases g5 with y | y
          · omega
          · exact absurd y (h1 e' g2 z)
        · exact z
        · rcases h2 with y | y
          · omega
          · exact absurd y (g6 e hse z)
      rw [← this]
      exact g7
    · right
      rcases g4 with y | y
      · exact absurd y c
      · have : e ≤ x - 1 := by
          rcases Nat.lt_or_ge (x - 1) e with z | z
          · exact absurd y (h1 (x - 1) (by omega) z)
          · exact z
        refine ⟨x, e', by omega, g2, g3, ?_, g5, g6, g7⟩
        by_cases c2 : x = e + 1
        · exact Or.inl c2
        · exact Or.inr y
  · rintro (g | ⟨x, e', g1, g2, g3, g4, g5, g6, g7⟩)
    · exact ⟨s, e, Nat.le_refl _, hse, heb, Or.inl rfl, h2, h1, g⟩
    · refine ⟨x, e', by omega, g2, g3, ?_, g5, g6, g7⟩
      right
      rcases g4 with y | y
      · rw [y, Nat.add_sub_cancel]
        rcases h2 with z | z
        · have := g7.1; omega
        · exact z
      · exact y
/-- a flag that says whether something holds -/
def flg (v : Int32) (P : Prop) : Prop := v = 1 ∧ P ∨ v = 0 ∧ ¬ P
theorem flg_eq {v w : Int32} {P : Prop} (h : flg v P) (g : flg w P) : v = w := by
  rcases h with ⟨a, b⟩ | ⟨a, b⟩
  · rcases g with ⟨d, e⟩ | ⟨d, e⟩
    · rw [a, d]
    · exact absurd b e
  · rcases g with ⟨d, e⟩ | ⟨d, e⟩
    · exact absurd e b
    · rw [a, d]
theorem flg_i {v : Int32} {P P' : Prop} (h : flg v P) (e : P ↔ P') : flg v P' := by
  rcases h with ⟨a, b⟩ | ⟨a, b⟩
  · exact Or.inl ⟨a, e.mp b⟩
  · exact Or.inr ⟨a, fun z => b (e.mpr z)⟩
theorem flg_nz {v : Int32} {P : Prop} (h : flg v P) : v ≠ 0 ↔ P := by
  rcases h with ⟨a, b⟩ | ⟨a, b⟩
  · rw [a]; exact ⟨fun _ => b, fun _ => by decide⟩
  · rw [a]; exact ⟨fun z => absurd rfl z, fun z => absurd z b⟩
theorem flg_bo {v : Int32} (h : bo v) : flg v (v ≠ 0) := by
  rcases h with a | a
  · exact Or.inr ⟨a, fun z => z a⟩
  · exact Or.inl ⟨a, by rw [a]; decide⟩
theorem s9_wd_L10 {σ : St} {b : Nat} {x4 : Int32} {Q : St → Prop} {K : Int32 → Prop} (hb : b ≤ 4096) : ∀ (m j : Nat), j + m = b → K (nI (scan (fun k => decide (¬ sepr (nC σ k))) m j)) → w9_words_L10 σ (nI b) x4 Q K (m + 1) (nI j) := by
  intro m
  induction m with
  | zero => intro j hj hK; exact br_t (nI_le (by omega) (by omega)) hK
  | succ m ih =>
    intro j hj hK
    refine br_f (nI_ge (by omega) (by omega)) ⟨vin (by omega) (by omega), fun hby => ?_⟩
    rw [cl (by omega)] at hby ⊢
    unfold scan at hK
    have q := by_eq (v := 44) hby (by omega)
    by_cases c1 : ub (σ 40 0 j) = 44
    · rw [if_neg (by rw [decide_eq_false (fun z => z (Or.inl c1))]; decide)] at hK
      exact br_t (q.mpr c1) hK
    · refine br_f (fun z => c1 (q.mp z)) ⟨vin (by omega) (by omega), fun _ => s9_isBlank hby (fun c => ?_) (fun c => ?_)⟩
      · rw [if_neg (by rw [decide_eq_false (fun z => z (Or.inr c))]; decide)] at hK
        exact br_v (by decide) hK
      · have hp : (fun k => decide (¬ sepr (nC σ k))) j = true := by
          simp only [decide_eq_true_eq]
          exact fun z => z.elim c1 c
        rw [if_pos hp] at hK
        refine br_u rfl ?_
        rw [nI_1]
        exact ih (j + 1) (by omega) hK
theorem wend_le {N : Nat → Nat} {b s : Nat} (h : s ≤ b) : s ≤ wend N b s ∧ wend N b s ≤ b := by
  have := scan_le (fun k => decide (¬ sepr (N k))) (b - s) s
  unfold wend
  omega
theorem wend_no {N : Nat → Nat} {b s : Nat} : ∀ k, s ≤ k → k < wend N b s → ¬ sepr (N k) := fun k h1 h2 => of_decide_eq_true (scan_all (fun k => decide (¬ sepr (N k))) (b - s) s k h1 h2)
theorem wend_e {N : Nat → Nat} {b s : Nat} (h : s ≤ b) : wend N b s = b ∨ sepr (N (wend N b s)) := by
  by_cases c : wend N b s = b
  · exact Or.inl c
  · right
    have l := wend_le (N := N) h
    have := scan_stop (fun k => decide (¬ sepr (N k))) (b - s) s (by unfold wend at *; omega)
    exact Classical.not_not.mp (of_decide_eq_false this)
abbrev wdF : Nat → Nat → Nat → Bool := mF [] [] [(9, [15, 16])] []
theorem s9_words_L {N : Nat → Nat} {b : Nat} {Q K : St → Prop} (hb : b ≤ 4096) : ∀ (m s : Nat) (σ : St), b ≤ s + m → s ≤ b + 1 → okS σ → nC σ = N → (∀ s', Fr wdF σ s' → flg ((s' 9 0 15)) ((σ 9 0 15) ≠ 0 ∨ HW N b 10 s) → flg ((s' 9 0 16)) ((σ 9 0 16) ≠ 0 ∨ HW N b 11 s) → K s') → w9_words_L2 (nI b) Q K (m + 1) σ (nI s) := by
  intro m
  induction m with
  | zero =>
    intro s σ h1 h2 ok hN hK
    refine br_t (nI_le (by omega) (by omega)) (hK σ Fr.rf ?_ ?_)
    · exact flg_i (flg_bo (ok_bo ok rfl)) ⟨Or.inl, fun z => z.elim id (fun y => absurd y (HW_no (by decide) (by omega)))⟩
    · exact flg_i (flg_bo (ok_bo ok rfl)) ⟨Or.inl, fun z => z.elim id (fun y => absurd y (HW_no (by decide) (by omega)))⟩
  | succ m ih =>
    intro s σ h1 h2 ok hN hK
    by_cases c : b ≤ s
    · refine br_t (nI_le c (by omega)) (hK σ Fr.rf ?_ ?_)
      · exact flg_i (flg_bo (ok_bo ok rfl)) ⟨Or.inl, fun z => z.elim id (fun y => absurd y (HW_no (by decide) (by omega)))⟩
      · exact flg_i (flg_bo (ok_bo ok rfl)) ⟨Or.inl, fun z => z.elim id (fun y => absurd y (HW_no (by decide) (by omega)))⟩
    refine br_f (nI_ge (by omega) (by omega)) ⟨b - s + 1, s9_wd_L10 hb (b - s) s (by omega) ?_⟩
    rw [hN]
    show w9_words_J44 σ (nI b) (nI (wend N b s)) (nI s) Q _
    have l := wend_le (N := N) (b := b) (s := s) (by omega)
    have ln := wend_no (N := N) (b := b) (s := s)
    have le := wend_e (N := N) (b := b) (s := s) (by omega)
    generalize wend N b s = e at *
    have u10 := HW_u (N := N) (b := b) (t := 10) (s := s) (e := e) (by decide) l.1 l.2 ln le
    have u11 := HW_u (N := N) (b := b) (t := 11) (s := s) (e := e) (by decide) l.1 l.2 ln le
    -- the second flag, and further on
    have j69 : ∀ xs0 : Int32, flg xs0 ((σ 9 0 15) ≠ 0 ∨ isS N s e 10) → w9_words_J69 σ (nI b) (nI e) (nI s) xs0 Q (fun σz x3z => w9_words_L2 (nI b) Q K (m + 1) σz x3z) := by
      intro xs0 hx
      have hbo : bo xs0 := by rcases hx with ⟨z, _⟩ | ⟨z, _⟩ <;> rw [z]; exact Or.inr rfl; exact Or.inl rfl
      refine ⟨hbo, fun s4 e4 _ => ?_⟩
      have ok4 : okS s4 := by rw [e4]; exact ok_z ok rfl hbo
      have n4 : nC s4 = N := by rw [← hN]; unfold nC; rw [e4, up3_r, if_neg (by omega)]
      have v15 : s4 9 0 15 = xs0 := by rw [e4, up3_g, if_pos ⟨rfl, rfl, rfl⟩]
      have v16 : s4 9 0 16 = (σ 9 0 16) := by rw [e4, up3_g, if_neg (by omega)]
      have go : ∀ y : Int32, flg y ((σ 9 0 16) ≠ 0 ∨ isS N s e 11) → ∀ s5, s5 = up3 s4 9 0 16 y → w9_words_L2 (nI b) Q K (m + 1) s5 (nI e + 1) := by
        intro y hy s5 e5
        have hbo : bo y := by rcases hy with ⟨z, _⟩ | ⟨z, _⟩ <;> rw [z]; exact Or.inr rfl; exact Or.inl rfl
        rw [nI_1]
        have F5 : Fr wdF σ s5 := by rw [e5, e4]; exact (fr_u rfl).up rfl
        have w15 : s5 9 0 15 = xs0 := by rw [e5, up3_g, if_neg (by omega)]; exact v15
        have w16 : s5 9 0 16 = y := by rw [e5, up3_g, if_pos ⟨rfl, rfl, rfl⟩]
        refine ih (e + 1) s5 (by omega) (by omega) (by rw [e5]; exact ok_z ok4 rfl hbo) (by rw [← n4]; unfold nC; rw [e5, up3_r, if_neg (by omega)]) (fun s' F' g1 g2 => hK s' (F5.tr F') ?_ ?_)
        · rw [w15] at g1
          refine flg_i g1 ?_
          rw [flg_nz hx, u10, or_assoc]
        · rw [w16] at g2
          refine flg_i g2 ?_
          rw [flg_nz hy, u11, or_assoc]
      rw [v16]
      by_cases c1 : (σ 9 0 16) = 0
      · refine br_u c1 (s9_is (by decide) l.1 (by omega) (fun w => br_f (by decide) (go 1 (Or.inl ⟨rfl, Or.inr (by rw [n4] at w; exact w)⟩))) (fun w => br_t rfl (go 0 (Or.inr ⟨rfl, fun z => z.elim (fun q => q c1) (fun q => w (by rw [n4]; exact q))⟩))))
      · exact br_v c1 (go 1 (Or.inl ⟨rfl, Or.inl c1⟩))
    intro _
    by_cases c1 : (σ 9 0 15) = 0
    · refine br_u c1 (s9_is (by decide) l.1 (by omega) (fun w => br_f (by decide) (j69 1 (Or.inl ⟨rfl, Or.inr (by rw [hN] at w; exact w)⟩))) (fun w => br_t rfl (j69 0 (Or.inr ⟨rfl, fun z => z.elim (fun q => q c1) (fun q => w (by rw [hN]; exact q))⟩))))
    · exact br_v c1 (j69 1 (Or.inl ⟨rfl, Or.inl c1⟩))
theorem s9_words {σ : St} {a b : Nat} {Q : St → Prop} (ok : okS σ) (hab : a ≤ b) (hb : b ≤ 4096) (hq : ∀ s', Fr wdF σ s' → flg ((s' 9 0 15)) ((σ 9 0 15) ≠ 0 ∨ HW (nC σ) b 10 a) → flg ((s' 9 0 16)) ((σ 9 0 16) ≠ 0 ∨ HW (nC σ) b 11 a) → Q s') : w9_words σ (nI a) (nI b) Q :=
  ⟨b - a + 1, s9_words_L hb (b - a) a σ (by omega) (by omega) ok rfl hq⟩
abbrev wdG : Nat → Nat → Nat → Bool := mF [] [] [(14, [46, 47])] []
theorem s14_words_L {N : Nat → Nat} {b : Nat} {Q K : St → Prop} (hb : b ≤ 4096) : ∀ (p k s : Nat) (τ : St), k + p = b + 1 → s ≤ k → (k = b + 1 → b + 1 ≤ s) → (∀ j, s ≤ j → j < k → ¬ sepr (N j)) → okS τ → nM τ = N → (∀ s', Fr wdG τ s' → flg ((s' 14 0 46)) ((τ 14 0 46) ≠ 0 ∨ HW N b 10 s) → flg ((s' 14 0 47)) ((τ 14 0 47) ≠ 0 ∨ HW N b 11 s) → K s') → w14_words_L5 (nI b) Q K (p + 1) τ (nI s) (nI k) := by
  intro p
  induction p with
  | zero =>
    intro k s τ h1 h2 h3 h4 ok hN hK
    refine br_t (nI_lt (by omega) (by omega)) (hK τ Fr.rf ?_ ?_)
    · exact flg_i (flg_bo (ok_bo ok rfl)) ⟨Or.inl, fun z => z.elim id (fun y => absurd y (HW_no (by decide) (by omega)))⟩
    · exact flg_i (flg_bo (ok_bo ok rfl)) ⟨Or.inl, fun z => z.elim id (fun y => absurd y (HW_no (by decide) (by omega)))⟩
  | succ p ih =>
    intro k s τ h1 h2 h3 h4 ok hN hK
    refine br_f (nI_nlt (by omega) (by omega)) ?_
    -- a word ends here
    have word : k = b ∨ sepr (N k) → w14_saysSmall τ (nI s) (nI k) 53 (fun r1 => ((r1 = 0 → (w14_words_J58 τ (nI b) (nI s) (nI k) Q (fun σz x3z x4z => w14_words_L5 (nI b) Q K (p + 1) σz x3z x4z))) ∧ (¬ r1 = 0 → (∀ σ4, σ4 = up3 τ 14 0 46 1 → (w14_words_J58 σ4 (nI b) (nI s) (nI k) Q (fun σz x3z x4z => w14_words_L5 (nI b) Q K (p + 1) σz x3z x4z)))))) := by
      intro he
      have u10 := HW_u (N := N) (b := b) (t := 10) (s := s) (e := k) (by decide) h2 (by omega) h4 he
      have u11 := HW_u (N := N) (b := b) (t := 11) (s := s) (e := k) (by decide) h2 (by omega) h4 he
      have j58 : ∀ s4, okS s4 → Fr wdG τ s4 → (s4 14 0 46 ≠ 0 ↔ (τ 14 0 46) ≠ 0 ∨ isS N s k 10) → s4 14 0 47 = (τ 14 0 47) → w14_words_J58 s4 (nI b) (nI s) (nI k) Q (fun σz x3z x4z => w14_words_L5 (nI b) Q K (p + 1) σz x3z x4z) := by
        intro s4 ok4 F4 v46 v47
        have n4 : nM s4 = N := by rw [← hN]; unfold nM; rw [F4.row (k := 66) fun _ => rfl]
        have go : ∀ s5, okS s5 → Fr wdG τ s5 → (s5 14 0 46 ≠ 0 ↔ (τ 14 0 46) ≠ 0 ∨ isS N s k 10) → (s5 14 0 47 ≠ 0 ↔ (τ 14 0 47) ≠ 0 ∨ isS N s k 11) → w14_words_L5 (nI b) Q K (p + 1) s5 (nI k + 1) (nI k + 1) := by
          intro s5 ok5 F5 w46 w47
          rw [nI_1]
          refine ih (k + 1) (k + 1) s5 (by omega) (Nat.le_refl _) (fun z => by omega) (fun j a1 a2 => by omega) ok5 (by rw [← hN]; unfold nM; rw [F5.row (k := 66) fun _ => rfl]) (fun s' F' g1 g2 => hK s' (F5.tr F') ?_ ?_)
          · refine flg_i g1 ?_
            rw [w46, u10, or_assoc]
          · refine flg_i g2 ?_
            rw [w47, u11, or_assoc]
        refine s14_saysSmall (by decide) h2 (by omega) (fun w => ?_) (fun w => ?_)
        · rw [n4] at w
          refine br_f (by decide) (fun s5 e5 => go s5 (by rw [e5]; exact ok_z ok4 rfl (Or.inr rfl)) (by rw [e5]; exact F4.up rfl) ?_ ?_)
          · rw [e5, up3_g, if_neg (by omega)]; exact v46
          · rw [e5, up3_g, if_pos ⟨rfl, rfl, rfl⟩]
            exact ⟨fun _ => Or.inr w, fun _ => by decide⟩
        · rw [n4] at w
          refine br_t rfl (go s4 ok4 F4 v46 ?_)
          rw [v47]
          exact ⟨Or.inl, fun z => z.elim id (fun q => absurd q w)⟩
      refine s14_saysSmall (by decide) h2 (by omega) (fun w => ?_) (fun w => ?_)
      · rw [hN] at w
        refine br_f (by decide) (fun s4 e4 => j58 s4 (by rw [e4]; exact ok_z ok rfl (Or.inr rfl)) (by rw [e4]; exact fr_u rfl) ?_ ?_)
        · rw [e4, up3_g, if_pos ⟨rfl, rfl, rfl⟩]
          exact ⟨fun _ => Or.inr w, fun _ => by decide⟩
        · rw [e4, up3_g, if_neg (by omega)]
      · rw [hN] at w
        exact br_t rfl (j58 τ ok Fr.rf ⟨Or.inl, fun z => z.elim id (fun q => absurd q w)⟩ rfl)
    by_cases c1 : k = b
    · exact br_t (by rw [c1]) (word (Or.inl c1))
    refine br_f (fun z => c1 ((nI_eq (by omega) (by omega)).mp z)) (s14_headAt (by omega) ?_)
    have hu := ub_lt (τ 66 0 k)
    have eu : ub (τ 66 0 k) = N k := by rw [← hN]
    by_cases c2 : ub (τ 66 0 k) = 44
    · exact br_t ((nI_eq (b := 44) (by omega) (by omega)).mpr c2) (word (Or.inr (Or.inl (by rw [← eu]; exact c2))))
    refine br_f (fun z => c2 ((nI_eq (b := 44) (by omega) (by omega)).mp z)) (s14_headAt (by omega) (s14_isBlank hu (fun c => ?_) (fun c => ?_)))
    · exact br_f (by decide) (word (Or.inr (Or.inr (by rw [← eu]; exact c))))
    · refine br_t rfl ?_
      rw [nI_1]
      refine ih (k + 1) s τ (by omega) (by omega) (fun z => by omega) (fun j a1 a2 => ?_) ok hN hK
      by_cases ck : j = k
      · rw [ck, ← eu]
        exact fun z => z.elim c2 c
      · exact h4 j a1 (by omega)
theorem s14_words {τ : St} {a b : Nat} {Q : St → Prop} (ok : okS τ) (hab : a ≤ b) (hb : b ≤ 4096) (hq : ∀ s', Fr wdG τ s' → flg ((s' 14 0 46)) ((τ 14 0 46) ≠ 0 ∨ HW (nM τ) b 10 a) → flg ((s' 14 0 47)) ((τ 14 0 47) ≠ 0 ∨ HW (nM τ) b 11 a) → Q s') : w14_words τ (nI a) (nI b) Q :=
  ⟨b + 1 - a + 1, s14_words_L hb (b + 1 - a) a a τ (by omega) (Nat.le_refl _) (by omega) (fun j a1 a2 => by omega) ok rfl hq⟩
