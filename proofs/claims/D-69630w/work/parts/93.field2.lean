/-! a field of a head: side by side -/
set_option maxRecDepth 100000
theorem isS_48 {N : Nat → Nat} {a b : Nat} : isS N a b 48 ↔ isS N a b 5 := Iff.rfl
theorem isS_49 {N : Nat → Nat} {a b : Nat} : isS N a b 49 ↔ isS N a b 6 := Iff.rfl
theorem isS_50 {N : Nat → Nat} {a b : Nat} : isS N a b 50 ↔ isS N a b 7 := Iff.rfl
theorem isS_51 {N : Nat → Nat} {a b : Nat} : isS N a b 51 ↔ isS N a b 8 := Iff.rfl
theorem isS_52 {N : Nat → Nat} {a b : Nat} : isS N a b 52 ↔ isS N a b 9 := Iff.rfl
/-- the length of the body as far as it was read: none, or one -/
def LZ (σ τ : St) : Prop := (σ 9 0 13) = 1 ∧ (σ 9 0 9) = 0 ∧ (τ 14 0 52) = 0 ∧ (τ 14 0 53) = 0 ∧ (τ 14 0 51) = 0
def L1 (σ τ : St) : Prop := (σ 9 0 13) = 0 ∧ (τ 14 0 52) = 1 ∨ (σ 9 0 13) = 1 ∧ (τ 14 0 52) = 0 ∧ ∃ v : Nat, v < 1000000000 ∧ (σ 9 0 9) = nI v ∧ (v ≤ 65536 ∧ (τ 14 0 53) = 0 ∧ (τ 14 0 51) = nI v ∨ 65536 < v ∧ (τ 14 0 53) = 1)
/-- what a head told so far -/
def PS (σ τ : St) (n : Nat) : Prop := (∃ k : Nat, k ≤ n ∧ (σ 9 0 7) = nI k ∧ (τ 14 0 48) = nI k) ∧ ((σ 9 0 10) = (τ 14 0 50)) ∧ ((σ 9 0 10) ≠ 0 → ∃ a b : Nat, (σ 9 0 11) = nI a ∧ (τ 14 0 61) = nI a ∧ (σ 9 0 12) = nI b ∧ (τ 14 0 62) = nI b ∧ a ≤ b ∧ b ≤ 4096) ∧ ((σ 9 0 14) = (τ 14 0 54)) ∧ ((σ 9 0 15) = (τ 14 0 46)) ∧ ((σ 9 0 16) = (τ 14 0 47)) ∧ (∃ l : Nat, l ≤ n ∧ (σ 9 0 8) = nI l ∧ (τ 14 0 49) = nI l ∧ (l = 0 → LZ σ τ) ∧ (l = 1 → L1 σ τ))
theorem PS.hosts {σ τ : St} {n : Nat} (h : PS σ τ n) : ∃ k : Nat, k ≤ n ∧ (σ 9 0 7) = nI k ∧ (τ 14 0 48) = nI k := h.1
theorem PS.marks {σ τ : St} {n : Nat} (h : PS σ τ n) : (σ 9 0 10) = (τ 14 0 50) := h.2.1
theorem PS.mk2 {σ τ : St} {n : Nat} (h : PS σ τ n) : (σ 9 0 10) ≠ 0 → ∃ a b : Nat, (σ 9 0 11) = nI a ∧ (τ 14 0 61) = nI a ∧ (σ 9 0 12) = nI b ∧ (τ 14 0 62) = nI b ∧ a ≤ b ∧ b ≤ 4096 := h.2.2.1
theorem PS.cod {σ τ : St} {n : Nat} (h : PS σ τ n) : (σ 9 0 14) = (τ 14 0 54) := h.2.2.2.1
theorem PS.clo {σ τ : St} {n : Nat} (h : PS σ τ n) : (σ 9 0 15) = (τ 14 0 46) := h.2.2.2.2.1
theorem PS.kp {σ τ : St} {n : Nat} (h : PS σ τ n) : (σ 9 0 16) = (τ 14 0 47) := h.2.2.2.2.2.1
theorem PS.ln {σ τ : St} {n : Nat} (h : PS σ τ n) : ∃ l : Nat, l ≤ n ∧ (σ 9 0 8) = nI l ∧ (τ 14 0 49) = nI l ∧ (l = 0 → LZ σ τ) ∧ (l = 1 → L1 σ τ) := h.2.2.2.2.2.2
theorem PS.mk {σ τ : St} {n : Nat} (hosts : ∃ k : Nat, k ≤ n ∧ (σ 9 0 7) = nI k ∧ (τ 14 0 48) = nI k) (marks : (σ 9 0 10) = (τ 14 0 50)) (mk2 : (σ 9 0 10) ≠ 0 → ∃ a b : Nat, (σ 9 0 11) = nI a ∧ (τ 14 0 61) = nI a ∧ (σ 9 0 12) = nI b ∧ (τ 14 0 62) = nI b ∧ a ≤ b ∧ b ≤ 4096) (cod : (σ 9 0 14) = (τ 14 0 54)) (clo : (σ 9 0 15) = (τ 14 0 46)) (kp : (σ 9 0 16) = (τ 14 0 47)) (ln : ∃ l : Nat, l ≤ n ∧ (σ 9 0 8) = nI l ∧ (τ 14 0 49) = nI l ∧ (l = 0 → LZ σ τ) ∧ (l = 1 → L1 σ τ)) : PS σ τ n := ⟨hosts, marks, mk2, cod, clo, kp, ln⟩
theorem PS.up {σ τ : St} {n n' : Nat} (h : PS σ τ n) (hn : n ≤ n') : PS σ τ n' := by
  obtain ⟨hosts, marks, mk2, cod, clo, kp, ln⟩ := id (h)
  obtain ⟨l, l1, l2⟩ := ln
  obtain ⟨k, k1, k2⟩ := hosts
  exact PS.mk ⟨k, by omega, k2⟩ marks mk2 cod clo kp ⟨l, by omega, l2⟩
abbrev fiF : Nat → Nat → Nat → Bool := mF [] [] [(9, [7, 8, 9, 10, 11, 12, 13, 14, 15, 16])] []
abbrev fiG : Nat → Nat → Nat → Bool := mF [] [] [(14, [46, 47, 48, 49, 50, 51, 52, 53, 54, 61, 62])] []
theorem R_field {σ τ : St} {n f e : Nat} (ok : okS σ) (ok' : okS τ) (hh : nC σ = nM τ) (h : PS σ τ n) (hn : n < 5000) (hfe : f ≤ e) (he : e ≤ 4096) :
    RunI σ τ (w9_isField σ (nI f) (nI e)) (w14_field τ (nI f) (nI e)) fiF fiG (fun r σ' τ' => r = 0 ∨ r = 1 ∧ PS σ' τ' (n + 1)) := by
  have hj : w9_isField σ (nI f) (nI e) (fun r σ' => w14_field τ (nI f) (nI e) (fun r' τ' => r = r' ∧ (r = 0 ∨ r = 1 ∧ PS σ' τ' (n + 1)))) := by
    generalize hN : nM τ = N at *
    refine s9_isField hfe he (fun z => ?_) (fun z => ?_)
    · refine s14_field hfe he (fun _ => ⟨rfl, Or.inl rfl⟩) (fun y => ?_)
      rw [hh] at z
      rw [hN] at y
      exact absurd y z
    rw [hh] at z ⊢
    have mo : ∀ (Q : Int32 → St → Prop), w14_field_J155 τ (nI f) (nI (fcol N f e)) (nI (fa N f e)) (nI (fb N f e)) Q → w14_field τ (nI f) (nI e) Q := by
      intro Q hq
      refine s14_field hfe he (fun y => absurd z (by rw [hN] at y; exact y)) (fun _ => ?_)
      rw [hN]
      exact hq
    have l1 := fcol_le (N := N) hfe
    have l2 := fa_le (N := N) (f := f) (e := e) (by have := z.2.1; omega)
    have l3 := fb_le (N := N) (f := f) (e := e) l2.2
    generalize fcol N f e = k at *
    generalize fa N f e = a at *
    generalize fb N f e = b at *
    -- the model, name by name
    have k234 : ∀ (s : St) (Q : Int32 → St → Prop), nM s = N → ¬ isS N f k 9 → Q 1 s → w14_field_J234 s (nI f) (nI k) (nI a) (nI b) Q := by
      intro s Q hs n9 hq
      exact s14_saysSmall (by decide) l1.1 (by omega) (fun w => absurd (by rw [hs] at w; exact isS_52.mp w) n9) (fun _ => br_t rfl hq)
    have k214 : ∀ (s : St) (Q : Int32 → St → Prop), nM s = N → ¬ isS N f k 8 → ¬ isS N f k 9 → Q 1 s → w14_field_J214 s (nI f) (nI k) (nI a) (nI b) Q := by
      intro s Q hs n8 n9 hq
      exact s14_saysSmall (by decide) l1.1 (by omega) (fun w => absurd (by rw [hs] at w; exact isS_51.mp w) n8) (fun _ => br_t rfl (k234 s Q hs n9 hq))
    have k194 : ∀ (s : St) (Q : Int32 → St → Prop), nM s = N → ¬ isS N f k 7 → ¬ isS N f k 8 → ¬ isS N f k 9 → Q 1 s → w14_field_J194 s (nI f) (nI k) (nI a) (nI b) Q := by
      intro s Q hs n7 n8 n9 hq
      exact s14_saysSmall (by decide) l1.1 (by omega) (fun w => absurd (by rw [hs] at w; exact isS_50.mp w) n7) (fun _ => br_t rfl (k214 s Q hs n8 n9 hq))
    have ex : ∀ t t', isS N f k t → isS N f k t' → sn t = sn t' := fun t t' x y => by have := x.1; have := y.1; omega
    obtain ⟨ln, ln1, ln2, ln3, ln4, ln5⟩ := h.ln
    obtain ⟨hk, hk1, hk2, hk3⟩ := h.hosts
    refine s9_is (by decide) l1.1 (by omega) (fun w5 => ?_) (fun w5 => ?_)
    · -- host
      rw [hh] at w5
      refine br_f (by decide) (fun s12 e12 => ?_)
      have n6 : ¬ isS N f k 6 := fun y => absurd (ex _ _ w5 y) (by decide)
      have n7 : ¬ isS N f k 7 := fun y => absurd (ex _ _ w5 y) (by decide)
      have n8 : ¬ isS N f k 8 := fun y => absurd (ex _ _ w5 y) (by decide)
      have n9 : ¬ isS N f k 9 := fun y => absurd (ex _ _ w5 y) (by decide)
      refine mo _ (s14_saysSmall (by decide) l1.1 (by omega) (fun _ => br_f (by decide) (fun t1 d1 => ?_)) (fun w => absurd (by rw [hN]; exact isS_48.mpr w5) w))
      have m1 : nM t1 = N := by rw [← hN]; unfold nM; rw [d1, up3_r, if_neg (by omega)]
      refine s14_saysSmall (by decide) l1.1 (by omega) (fun w => absurd (by rw [m1] at w; exact isS_49.mp w) n6) (fun _ => br_t rfl (k194 t1 _ m1 n7 n8 n9 ⟨rfl, Or.inr ⟨rfl, ?_⟩⟩))
      have F : ∀ j, j ≠ 7 → s12 9 0 j = σ 9 0 j := fun j hj => by rw [e12, up3_g, if_neg (fun z => hj z.2.2)]
      have G : ∀ j, j ≠ 48 → t1 14 0 j = τ 14 0 j := fun j hj => by rw [d1, up3_g, if_neg (fun z => hj z.2.2)]
      refine PS.mk ?_ ?_ ?_ ?_ ?_ ?_ ⟨ln, by omega, ?_, ?_, ?_, ?_⟩
      · exact ⟨hk + 1, by omega, by rw [e12, up3_g, if_pos ⟨rfl, rfl, rfl⟩, hk2, nI_1], by rw [d1, up3_g, if_pos ⟨rfl, rfl, rfl⟩, hk3, nI_1]⟩
      · rw [F 10 (by decide), G 50 (by decide)]; exact h.marks
      · rw [F 10 (by decide), F 11 (by decide), F 12 (by decide), G 61 (by decide), G 62 (by decide)]; exact h.mk2
      · rw [F 14 (by decide), G 54 (by decide)]; exact h.cod
      · rw [F 15 (by decide), G 46 (by decide)]; exact h.clo
      · rw [F 16 (by decide), G 47 (by decide)]; exact h.kp
      · rw [F 8 (by decide)]; exact ln2
      · rw [G 49 (by decide)]; exact ln3
      · unfold LZ; rw [F 13 (by decide), F 9 (by decide), G 52 (by decide), G 53 (by decide), G 51 (by decide)]; exact ln4
      · unfold L1; rw [F 13 (by decide), F 9 (by decide), G 52 (by decide), G 53 (by decide), G 51 (by decide)]; exact ln5
    rw [hh] at w5
    have mo48 : ∀ (Q : Int32 → St → Prop), (isS N f k 6 → ∀ σ27, σ27 = up3 τ 14 0 54 1 → (w14_field_J194 σ27 (nI f) (nI k) (nI a) (nI b) Q)) → (¬ isS N f k 6 → w14_field_J194 τ (nI f) (nI k) (nI a) (nI b) Q) → w14_field τ (nI f) (nI e) Q := by
      intro Q h1 h0
      refine mo Q (s14_saysSmall (by decide) l1.1 (by omega) (fun w => absurd (by rw [hN] at w; exact isS_48.mp w) w5) (fun _ => br_t rfl ?_))
      exact s14_saysSmall (by decide) l1.1 (by omega) (fun w => br_f (by decide) (h1 (by rw [hN] at w; exact isS_49.mp w))) (fun w => br_t rfl (h0 (fun y => w (by rw [hN]; exact isS_49.mpr y))))
    refine br_t rfl (s9_is (by decide) l1.1 (by omega) (fun w6 => ?_) (fun w6 => ?_))
    · -- transfer-encoding
      rw [hh] at w6
      refine br_f (by decide) (fun s12 e12 => ?_)
      have n7 : ¬ isS N f k 7 := fun y => absurd (ex _ _ w6 y) (by decide)
      have n8 : ¬ isS N f k 8 := fun y => absurd (ex _ _ w6 y) (by decide)
      have n9 : ¬ isS N f k 9 := fun y => absurd (ex _ _ w6 y) (by decide)
      refine mo48 _ (fun _ t1 d1 => ?_) (fun z => absurd w6 z)
      have m1 : nM t1 = N := by rw [← hN]; unfold nM; rw [d1, up3_r, if_neg (by omega)]
      refine k194 t1 _ m1 n7 n8 n9 ⟨rfl, Or.inr ⟨rfl, ?_⟩⟩
      have F : ∀ j, j ≠ 14 → s12 9 0 j = σ 9 0 j := fun j hj => by rw [e12, up3_g, if_neg (fun z => hj z.2.2)]
      have G : ∀ j, j ≠ 54 → t1 14 0 j = τ 14 0 j := fun j hj => by rw [d1, up3_g, if_neg (fun z => hj z.2.2)]
      refine PS.mk ?_ ?_ ?_ ?_ ?_ ?_ ⟨ln, by omega, ?_, ?_, ?_, ?_⟩
      · exact ⟨hk, by omega, by rw [F 7 (by decide)]; exact hk2, by rw [G 48 (by decide)]; exact hk3⟩
      · rw [F 10 (by decide), G 50 (by decide)]; exact h.marks
      · rw [F 10 (by decide), F 11 (by decide), F 12 (by decide), G 61 (by decide), G 62 (by decide)]; exact h.mk2
      · rw [e12, up3_g, if_pos ⟨rfl, rfl, rfl⟩, d1, up3_g, if_pos ⟨rfl, rfl, rfl⟩]
      · rw [F 15 (by decide), G 46 (by decide)]; exact h.clo
      · rw [F 16 (by decide), G 47 (by decide)]; exact h.kp
      · rw [F 8 (by decide)]; exact ln2
      · rw [G 49 (by decide)]; exact ln3
      · unfold LZ; rw [F 13 (by decide), F 9 (by decide), G 52 (by decide), G 53 (by decide), G 51 (by decide)]; exact ln4
      · unfold L1; rw [F 13 (by decide), F 9 (by decide), G 52 (by decide), G 53 (by decide), G 51 (by decide)]; exact ln5
    rw [hh] at w6
    have mo50 : ∀ (Q : Int32 → St → Prop), (isS N f k 7 → w14_contentLength τ (nI a) (nI b) (fun σ26 => (w14_field_J214 σ26 (nI f) (nI k) (nI a) (nI b) Q))) → (¬ isS N f k 7 → w14_field_J214 τ (nI f) (nI k) (nI a) (nI b) Q) → w14_field τ (nI f) (nI e) Q := by
      intro Q h1 h0
      refine mo48 Q (fun z => absurd z w6) (fun _ => ?_)
      exact s14_saysSmall (by decide) l1.1 (by omega) (fun w => br_f (by decide) (h1 (by rw [hN] at w; exact isS_50.mp w))) (fun w => br_t rfl (h0 (fun y => w (by rw [hN]; exact isS_50.mpr y))))
    refine br_t rfl (s9_is (by decide) l1.1 (by omega) (fun w7 => ?_) (fun w7 => ?_))
    · -- content-length
      rw [hh] at w7
      have n8 : ¬ isS N f k 8 := fun y => absurd (ex _ _ w7 y) (by decide)
      have n9 : ¬ isS N f k 9 := fun y => absurd (ex _ _ w7 y) (by decide)
      have PSl : ∀ s t1, Fr clF σ s → Fr clG τ t1 → (s 9 0 8) = (σ 9 0 8) + 1 → (t1 14 0 49) = (τ 14 0 49) + 1 → (ln = 0 → L1 s t1) → PS s t1 (n + 1) := by
        intro s t1 F G q1 q2 q3
        refine PS.mk ?_ ?_ ?_ ?_ ?_ ?_ ⟨ln + 1, by omega, ?_, ?_, fun z => absurd z (by omega), fun z => q3 (by omega)⟩
        · exact ⟨hk, by omega, by rw [F _ _ _ rfl]; exact hk2, by rw [G _ _ _ rfl]; exact hk3⟩
        · rw [F _ _ _ rfl, G _ _ _ rfl]; exact h.marks
        · rw [F _ _ _ rfl, F _ _ _ rfl, F _ _ _ rfl, G _ _ _ rfl, G _ _ _ rfl]; exact h.mk2
        · rw [F _ _ _ rfl, G _ _ _ rfl]; exact h.cod
        · rw [F _ _ _ rfl, G _ _ _ rfl]; exact h.clo
        · rw [F _ _ _ rfl, G _ _ _ rfl]; exact h.kp
        · rw [q1, ln2]; exact nI_1 _
        · rw [q2, ln3]; exact nI_1 _
      refine br_f (by decide) (s9_length l3.1 (by omega) (fun s F q1 q2 q3 q4 => ?_) (fun s F q1 q2 q3 => ?_))
      · rw [hh] at q2 q4
        refine mo50 _ (fun _ => ?_) (fun z => absurd w7 z)
        refine s14_contentLength l3.1 (by omega) (fun t1 G g1 g2 g3 g4 g5 g6 => ?_) (fun t1 G g1 g2 g3 g4 g5 => ?_) (fun t1 G g1 g2 => absurd (by rw [hN]; exact q2) g2)
        · rw [hN] at g3 g6
          have m1 : nM t1 = N := by rw [← hN]; unfold nM; rw [G.row (k := 66) fun _ => rfl]
          refine k214 t1 _ m1 n8 n9 ⟨rfl, Or.inr ⟨rfl, PSl s t1 F G q1 g1 (fun z => Or.inr ⟨q3, ?_, _, dval_9 q2, q4, Or.inl ⟨g3, ?_, g6⟩⟩)⟩⟩
          · rw [g4]; exact (ln4 z).2.2.1
          · rw [g5]; exact (ln4 z).2.2.2.1
        · rw [hN] at g3
          have m1 : nM t1 = N := by rw [← hN]; unfold nM; rw [G.row (k := 66) fun _ => rfl]
          refine k214 t1 _ m1 n8 n9 ⟨rfl, Or.inr ⟨rfl, PSl s t1 F G q1 g1 (fun z => Or.inr ⟨q3, ?_, _, dval_9 q2, q4, Or.inr ⟨g3, g5⟩⟩)⟩⟩
          rw [g4]; exact (ln4 z).2.2.1
      · rw [hh] at q2
        refine mo50 _ (fun _ => ?_) (fun z => absurd w7 z)
        refine s14_contentLength l3.1 (by omega) (fun t1 G g1 g2 => absurd (by rw [hN] at g2; exact g2) q2) (fun t1 G g1 g2 => absurd (by rw [hN] at g2; exact g2) q2) (fun t1 G g1 g2 g3 => ?_)
        have m1 : nM t1 = N := by rw [← hN]; unfold nM; rw [G.row (k := 66) fun _ => rfl]
        exact k214 t1 _ m1 n8 n9 ⟨rfl, Or.inr ⟨rfl, PSl s t1 F G q1 g1 (fun z => Or.inl ⟨q3, g3⟩)⟩⟩
    rw [hh] at w7
    have mo51 : ∀ (Q : Int32 → St → Prop), (isS N f k 8 → w14_words τ (nI a) (nI b) (fun σ25 => (w14_field_J234 σ25 (nI f) (nI k) (nI a) (nI b) Q))) → (¬ isS N f k 8 → w14_field_J234 τ (nI f) (nI k) (nI a) (nI b) Q) → w14_field τ (nI f) (nI e) Q := by
      intro Q h1 h0
      refine mo50 Q (fun z => absurd z w7) (fun _ => ?_)
      exact s14_saysSmall (by decide) l1.1 (by omega) (fun w => br_f (by decide) (h1 (by rw [hN] at w; exact isS_51.mp w))) (fun w => br_t rfl (h0 (fun y => w (by rw [hN]; exact isS_51.mpr y))))
    refine br_t rfl (s9_is (by decide) l1.1 (by omega) (fun w8 => ?_) (fun w8 => ?_))
    · -- connection
      rw [hh] at w8
      have n9 : ¬ isS N f k 9 := fun y => absurd (ex _ _ w8 y) (by decide)
      refine br_f (by decide) (s9_words ok l3.1 (by omega) (fun s F q1 q2 => ?_))
      rw [hh] at q1 q2
      refine mo51 _ (fun _ => s14_words ok' l3.1 (by omega) (fun t1 G g1 g2 => ?_)) (fun z => absurd w8 z)
      rw [hN] at g1 g2
      have m1 : nM t1 = N := by rw [← hN]; unfold nM; rw [G.row (k := 66) fun _ => rfl]
      refine k234 t1 _ m1 n9 ⟨rfl, Or.inr ⟨rfl, ?_⟩⟩
      rw [← h.clo] at g1
      rw [← h.kp] at g2
      refine PS.mk ?_ ?_ ?_ ?_ ?_ ?_ ⟨ln, by omega, ?_, ?_, ?_, ?_⟩
      · exact ⟨hk, by omega, by rw [F _ _ _ rfl]; exact hk2, by rw [G _ _ _ rfl]; exact hk3⟩
      · rw [F _ _ _ rfl, G _ _ _ rfl]; exact h.marks
      · rw [F _ _ _ rfl, F _ _ _ rfl, F _ _ _ rfl, G _ _ _ rfl, G _ _ _ rfl]; exact h.mk2
      · rw [F _ _ _ rfl, G _ _ _ rfl]; exact h.cod
      · exact flg_eq q1 g1
      · exact flg_eq q2 g2
      · rw [F _ _ _ rfl]; exact ln2
      · rw [G _ _ _ rfl]; exact ln3
      · unfold LZ; rw [F _ _ _ rfl, F _ _ _ rfl, G _ _ _ rfl, G _ _ _ rfl, G _ _ _ rfl]; exact ln4
      · unfold L1; rw [F _ _ _ rfl, F _ _ _ rfl, G _ _ _ rfl, G _ _ _ rfl, G _ _ _ rfl]; exact ln5
    rw [hh] at w8
    refine br_t rfl (s9_is (by decide) l1.1 (by omega) (fun w9 => ?_) (fun w9 => ?_))
    · -- if-none-match
      rw [hh] at w9
      refine br_f (by decide) (fun s6 e6 s7 e7 s8 e8 => ?_)
      refine mo51 _ (fun z => absurd z w8) (fun _ => s14_saysSmall (by decide) l1.1 (by omega) (fun _ => br_f (by decide) (fun t1 d1 t2 d2 t3 d3 => ⟨rfl, Or.inr ⟨rfl, ?_⟩⟩)) (fun w => absurd (by rw [hN]; exact isS_52.mpr w9) w))
      have F : Fr (mF [] [] [(9, [10, 11, 12])] []) σ s8 := by rw [e8, e7, e6]; exact ((fr_u rfl).up rfl).up rfl
      have G : Fr (mF [] [] [(14, [50, 61, 62])] []) τ t3 := by rw [d3, d2, d1]; exact ((fr_u rfl).up rfl).up rfl
      refine PS.mk ?_ ?_ ?_ ?_ ?_ ?_ ⟨ln, by omega, ?_, ?_, ?_, ?_⟩
      · exact ⟨hk, by omega, by rw [F _ _ _ rfl]; exact hk2, by rw [G _ _ _ rfl]; exact hk3⟩
      · rw [e8, up3_g, if_neg (by omega), e7, up3_g, if_neg (by omega), e6, up3_g, if_pos ⟨rfl, rfl, rfl⟩, d3, up3_g, if_neg (by omega), d2, up3_g, if_neg (by omega), d1, up3_g, if_pos ⟨rfl, rfl, rfl⟩, h.marks]
      · intro _
        refine ⟨a, b, ?_, ?_, ?_, ?_, l3.1, by omega⟩
        · rw [e8, up3_g, if_neg (by omega), e7, up3_g, if_pos ⟨rfl, rfl, rfl⟩]
        · rw [d3, up3_g, if_neg (by omega), d2, up3_g, if_pos ⟨rfl, rfl, rfl⟩]
        · rw [e8, up3_g, if_pos ⟨rfl, rfl, rfl⟩]
        · rw [d3, up3_g, if_pos ⟨rfl, rfl, rfl⟩]
      · rw [F _ _ _ rfl, G _ _ _ rfl]; exact h.cod
      · rw [F _ _ _ rfl, G _ _ _ rfl]; exact h.clo
      · rw [F _ _ _ rfl, G _ _ _ rfl]; exact h.kp
      · rw [F _ _ _ rfl]; exact ln2
      · rw [G _ _ _ rfl]; exact ln3
      · unfold LZ; rw [F _ _ _ rfl, F _ _ _ rfl, G _ _ _ rfl, G _ _ _ rfl, G _ _ _ rfl]; exact ln4
      · unfold L1; rw [F _ _ _ rfl, F _ _ _ rfl, G _ _ _ rfl, G _ _ _ rfl, G _ _ _ rfl]; exact ln5
    · rw [hh] at w9
      exact br_t rfl (mo51 _ (fun z => absurd z w8) (fun _ => k234 τ _ hN w9 ⟨rfl, Or.inr ⟨rfl, h.up (by omega)⟩⟩))
  obtain ⟨r, σ', h, k1, f1, g1⟩ := e9_isField ok hj
  obtain ⟨r', τ', h, k2, f2, g2⟩ := e14_field ok' h
  obtain ⟨h1, h2⟩ := h
  subst h1
  exact ⟨r, σ', τ', g1, g2, k1, k2, f1, f2, h2⟩
