/-! take ~ the end of tcp -/
set_option maxRecDepth 100000
/-- which row the segment at hand names -/
def SG (σ : St) : Prop := (σ 10 0 7).toNatClampNeg ≠ 21 ∧ (σ 10 0 7).toNatClampNeg ≠ 44
theorem SG.f {σ σ' : St} {X : Nat → Nat → Nat → Bool} (h : SG σ) (f : Fr X σ σ') (x : X 10 0 7 = false ∨ SG σ') : SG σ' := by
  rcases x with x | x
  · unfold SG; rw [f _ _ _ x]; exact h
  · exact x
/-- all but the fragments -/
def RZ (σ τ : St) (t l b B : Nat) : Prop := (NB σ τ t l b) ∧ (RK σ τ) ∧ (σ 40 0 = τ 66 0) ∧ ((σ 8 0 6) = (τ 14 0 12)) ∧ (RSt σ τ) ∧ (∀ i, i < 16 → RC0 σ τ i ∨ RCB σ τ t i B) ∧ (∀ i, i < 16 → (σ 90 (i + 1) 0 = 0 ∨ σ 90 (i + 1) 0 = 66047)) ∧ (∀ i j, i < 16 → j < 16 → i ≠ j → σ 11 i 2 ≠ 0 → σ 11 j 2 ≠ 0 → ¬ (σ 11 i 3 = σ 11 j 3 ∧ σ 11 i 4 = σ 11 j 4)) ∧ (SG σ)
theorem RZ.nb {σ τ : St} {t l b B : Nat} (h : RZ σ τ t l b B) : NB σ τ t l b := h.1
theorem RZ.rk {σ τ : St} {t l b B : Nat} (h : RZ σ τ t l b B) : RK σ τ := h.2.1
theorem RZ.hd {σ τ : St} {t l b B : Nat} (h : RZ σ τ t l b B) : σ 40 0 = τ 66 0 := h.2.2.1
theorem RZ.bg {σ τ : St} {t l b B : Nat} (h : RZ σ τ t l b B) : (σ 8 0 6) = (τ 14 0 12) := h.2.2.2.1
theorem RZ.st {σ τ : St} {t l b B : Nat} (h : RZ σ τ t l b B) : RSt σ τ := h.2.2.2.2.1
theorem RZ.pl {σ τ : St} {t l b B : Nat} (h : RZ σ τ t l b B) : ∀ i, i < 16 → RC0 σ τ i ∨ RCB σ τ t i B := h.2.2.2.2.2.1
theorem RZ.rm {σ τ : St} {t l b B : Nat} (h : RZ σ τ t l b B) : ∀ i, i < 16 → (σ 90 (i + 1) 0 = 0 ∨ σ 90 (i + 1) 0 = 66047) := h.2.2.2.2.2.2.1
theorem RZ.uq {σ τ : St} {t l b B : Nat} (h : RZ σ τ t l b B) : ∀ i j, i < 16 → j < 16 → i ≠ j → σ 11 i 2 ≠ 0 → σ 11 j 2 ≠ 0 → ¬ (σ 11 i 3 = σ 11 j 3 ∧ σ 11 i 4 = σ 11 j 4) := h.2.2.2.2.2.2.2.1
theorem RZ.sg {σ τ : St} {t l b B : Nat} (h : RZ σ τ t l b B) : SG σ := h.2.2.2.2.2.2.2.2
theorem RZ.mk {σ τ : St} {t l b B : Nat} (nb : NB σ τ t l b) (rk : RK σ τ) (hd : σ 40 0 = τ 66 0) (bg : (σ 8 0 6) = (τ 14 0 12)) (st : RSt σ τ) (pl : ∀ i, i < 16 → RC0 σ τ i ∨ RCB σ τ t i B) (rm : ∀ i, i < 16 → (σ 90 (i + 1) 0 = 0 ∨ σ 90 (i + 1) 0 = 66047)) (uq : ∀ i j, i < 16 → j < 16 → i ≠ j → σ 11 i 2 ≠ 0 → σ 11 j 2 ≠ 0 → ¬ (σ 11 i 3 = σ 11 j 3 ∧ σ 11 i 4 = σ 11 j 4)) (sg : SG σ) : RZ σ τ t l b B := ⟨nb, rk, hd, bg, st, pl, rm, uq, sg⟩
theorem pl_c {σ τ σ' τ' : St} {t i B B' : Nat} (h : RC0 σ τ i ∨ RCB σ τ t i B) (hB : B ≤ B') (a1 : σ' 11 i = σ 11 i) (a2 : σ' 12 i = σ 12 i) (a3 : σ' 13 i = σ 13 i) (a4 : σ' 42 i = σ 42 i) (a5 : σ' 43 i = σ 43 i) (a6 : σ' 44 i = σ 44 i) (a7 : σ' 90 (i + 1) 0 = σ 90 (i + 1) 0) (b1 : τ' 15 i = τ 15 i) (b2 : τ' 71 i = τ 71 i) (b3 : τ' 72 i = τ 72 i) (b4 : τ' 73 i = τ 73 i) (b5 : τ' 51 0 = τ 51 0) : RC0 σ' τ' i ∨ RCB σ' τ' t i B' := by
  rcases h with h | ⟨c, h1, h2, h3⟩
  · left
    unfold RC0 at h ⊢
    rw [a1, a4, a5, b1, b3, b4]
    exact h
  · exact Or.inr ⟨c, h1.c a1 a2 a3 a4 a5 a6 a7 b1 b2 b3 b4 b5, h2.c a1 b1, by omega⟩
theorem pl_f {σ τ σ' τ' : St} {t i B B' : Nat} {X Y : Nat → Nat → Nat → Bool} (h : RC0 σ τ i ∨ RCB σ τ t i B) (hB : B ≤ B') (f : Fr X σ σ') (g : Fr Y τ τ') (a : ∀ k j, (k = 11 ∨ k = 12 ∨ k = 13 ∨ k = 42 ∨ k = 43 ∨ k = 44) → X k i j = false) (a7 : X 90 (i + 1) 0 = false) (b : ∀ k j, (k = 15 ∨ k = 71 ∨ k = 72 ∨ k = 73) → Y k i j = false) (b5 : ∀ j, Y 51 0 j = false) : RC0 σ' τ' i ∨ RCB σ' τ' t i B' :=
  pl_c h hB (f.row fun j => a _ j (by simp)) (f.row fun j => a _ j (by simp)) (f.row fun j => a _ j (by simp)) (f.row fun j => a _ j (by simp)) (f.row fun j => a _ j (by simp)) (f.row fun j => a _ j (by simp)) (f _ _ _ a7) (g.row fun j => b _ j (by simp)) (g.row fun j => b _ j (by simp)) (g.row fun j => b _ j (by simp)) (g.row fun j => b _ j (by simp)) (g.row b5)
/-- a place that a segment is for -/
def mtC (σ : St) (k : Nat) : Prop := σ 11 k 2 ≠ 0 ∧ σ 11 k 3 = σ 10 0 0 ∧ σ 11 k 4 = σ 10 0 1
def mtM (τ : St) (k : Nat) : Prop := τ 15 k 0 ≠ 0 ∧ τ 15 k 1 = τ 14 0 30 ∧ τ 15 k 2 = τ 14 0 32
theorem mt_e {σ τ : St} {t i B : Nat} (hS : RS σ τ) (h : RC0 σ τ i ∨ RCB σ τ t i B) : mtC σ i ↔ mtM τ i := by
  obtain ⟨r0, r1, r2, r3, r4, r5, r6, r7⟩ := hS
  unfold mtC mtM
  rcases h with h | ⟨c, h1, h2, h3⟩
  · rw [h.1, h.2.1]; simp
  · have q1 := h1.s1
    have q8 := h1.s8
    rw [h1.est, h1.est', h1.eip, h1.ept, r0, r1]
theorem s0_find_L {σ : St} {Q K52 : Int32 → Prop} {K60 : Prop} (h0 : (∀ k, k < 16 → ¬ mtC σ k) → K60) (h1 : ∀ k, k < 16 → mtC σ k → K52 (nI k)) : ∀ (m j : Nat), j + m = 16 → (∀ k, k < j → ¬ mtC σ k) → w0_find_L2 σ Q K52 K60 (m + 1) (nI j) := by
  intro m
  induction m with
  | zero => intro j hj h; exact br_t (nI_le (a := 16) (by omega) (by omega)) (h0 (fun k hk => h k (by omega)))
  | succ m ih =>
    intro j hj h
    have nx : ¬ mtC σ j → w0_find_L2 σ Q K52 K60 (m + 1) (nI j + 1) := fun hn => by
      rw [nI_1]
      exact ih (j + 1) (by omega) (fun k hk => by by_cases c : k = j; · rw [c]; exact hn
                                                  · exact h k (by omega))
    have v : vp_in (nI j) 16 := vin (by omega) (by omega)
    refine br_f (nI_ge (b := 16) (by omega) (by decide)) ⟨v, ?_⟩
    rw [cl (by omega)]
    by_cases c1 : σ 11 j 2 = 0
    · exact br_t c1 (nx (fun z => z.1 c1))
    refine br_f c1 ⟨v, ?_⟩
    by_cases c2 : σ 11 j 3 = σ 10 0 0
    rotate_left
    · exact br_v c2 (nx (fun z => c2 z.2.1))
    refine br_u c2 ⟨v, ?_⟩
    by_cases c3 : σ 11 j 4 = σ 10 0 1
    · exact br_u c3 (h1 j (by omega) ⟨c1, c2, c3⟩)
    · exact br_v c3 (nx (fun z => c3 z.2.2))
theorem s0_find {σ : St} {Q : Int32 → Prop} (h0 : (∀ k, k < 16 → ¬ mtC σ k) → Q (-1)) (h1 : ∀ k, k < 16 → mtC σ k → Q (nI k)) : w0_find σ Q :=
  ⟨17, s0_find_L h0 h1 16 0 (by omega) (fun k hk => absurd hk (by omega))⟩
/-- none -/
theorem s14_tcp_L0 {τ : St} {Q : St → Prop} {K : Option Nat → Prop} (hp : τ 14 0 33 = 80) (h0 : ∀ k, k < 16 → ¬ mtM τ k) (hK : K none) : ∀ (m j : Nat), j + m = 16 → w14_tcp_L154 τ Q K (m + 1) none (nI j) := by
  intro m
  induction m with
  | zero => intro j hj; exact br_t (nI_le (a := 16) (by omega) (by omega)) hK
  | succ m ih =>
    intro j hj
    have nx : w14_tcp_L154 τ Q K (m + 1) none (nI j + 1) := by
      rw [nI_1]
      exact ih (j + 1) (by omega)
    refine br_f (nI_ge (b := 16) (by omega) (by decide)) (br_u hp ⟨vin (by omega) (by omega), ?_⟩)
    rw [cl (by omega)]
    by_cases c1 : τ 15 j 0 = 0
    · exact br_t c1 nx
    refine br_f c1 ?_
    by_cases c2 : τ 15 j 1 = τ 14 0 30
    rotate_left
    · exact br_v c2 nx
    refine br_u c2 ?_
    by_cases c3 : τ 15 j 2 = τ 14 0 32
    · exact absurd ⟨c1, c2, c3⟩ (h0 j (by omega))
    · exact br_v c3 nx
/-- one -/
theorem s14_tcp_L1 {τ : St} {Q : St → Prop} {K : Option Nat → Prop} {k : Nat} (hk : k < 16) (hp : τ 14 0 33 = 80) (h1 : mtM τ k) (h0 : ∀ k', k' < 16 → k' ≠ k → ¬ mtM τ k') (hK : K (some k)) : ∀ (m j : Nat), j + m = 16 → w14_tcp_L154 τ Q K (m + 1) (if k < j then some k else none) (nI j) := by
  intro m
  induction m with
  | zero =>
    intro j hj
    rw [if_pos (by omega)]
    exact br_t (nI_le (a := 16) (by omega) (by omega)) hK
  | succ m ih =>
    intro j hj
    refine br_f (nI_ge (b := 16) (by omega) (by decide)) (br_u hp ⟨vin (by omega) (by omega), ?_⟩)
    rw [cl (by omega)]
    have ih1 := ih (j + 1) (by omega)
    rw [nI_1]
    by_cases c : j = k
    · rw [if_pos (by omega)] at ih1
      rw [c] at ih1 ⊢
      exact br_f h1.1 (br_u h1.2.1 (br_u h1.2.2 ih1))
    have nx : w14_tcp_L154 τ Q K (m + 1) (if k < j then some k else none) (nI (j + 1)) := by
      by_cases c1 : k < j
      · rw [if_pos (by omega)] at ih1; rw [if_pos c1]; exact ih1
      · rw [if_neg (by omega)] at ih1; rw [if_neg c1]; exact ih1
    have hn := h0 j (by omega) c
    by_cases c1 : τ 15 j 0 = 0
    · exact br_t c1 nx
    refine br_f c1 ?_
    by_cases c2 : τ 15 j 1 = τ 14 0 30
    rotate_left
    · exact br_v c2 nx
    refine br_u c2 ?_
    by_cases c3 : τ 15 j 2 = τ 14 0 32
    · exact absurd ⟨c1, c2, c3⟩ hn
    · exact br_v c3 nx
def tcpT (τ : St) (Q : St → Prop) : Prop := ∃ z19, w14_tcp_L154 τ Q (fun p2_20 => w14_tcp_J218 τ p2_20 Q) z19 none 0
theorem tcpT_1 {τ : St} {Q : St → Prop} {k : Nat} (hk : k < 16) (hp : τ 14 0 33 = 80) (h1 : mtM τ k) (h0 : ∀ k', k' < 16 → k' ≠ k → ¬ mtM τ k') (hq : w14_segment τ k (fun s => Q s)) : tcpT τ Q :=
  ⟨17, s14_tcp_L1 hk hp h1 h0 ⟨fun z => absurd z (by simp), fun i z => by cases z; exact ⟨hk, hq⟩⟩ 16 0 (by omega)⟩
theorem tcpT_0 {τ : St} {Q : St → Prop} (hp : τ 14 0 33 = 80 → ∀ k, k < 16 → ¬ mtM τ k) (hq : w14_alone τ (fun s => Q s)) : tcpT τ Q := by
  have hK : w14_tcp_J218 τ none Q := ⟨fun _ => hq, fun i z => absurd z (by simp)⟩
  by_cases c : τ 14 0 33 = 80
  · exact ⟨17, s14_tcp_L0 c (hp c) hK 16 0 (by omega)⟩
  · exact ⟨1, br_f (nI_ge (a := 0) (b := 16) (by omega) (by decide)) (br_v c hK)⟩
/-- the first free place -/
theorem s0_take_L {σ : St} {Q : St → Prop} {K : Int32 → Prop} (h0 : (∀ k, k < 16 → σ 11 k 2 ≠ 0) → K 16) (h1 : ∀ k, k < 16 → σ 11 k 2 = 0 → (∀ k', k' < k → σ 11 k' 2 ≠ 0) → K (nI k)) : ∀ (m j : Nat), j + m = 16 → (∀ k, k < j → σ 11 k 2 ≠ 0) → w0_take_L94 σ Q K (m + 1) (nI j) := by
  intro m
  induction m with
  | zero =>
    intro j hj h
    refine br_t (nI_le (a := 16) (by omega) (by omega)) ?_
    rw [show j = 16 by omega]
    exact h0 (fun k hk => h k (by omega))
  | succ m ih =>
    intro j hj h
    refine br_f (nI_ge (b := 16) (by omega) (by decide)) ⟨vin (by omega) (by omega), ?_⟩
    rw [cl (by omega)]
    by_cases c1 : σ 11 j 2 = 0
    · exact br_t c1 (h1 j (by omega) c1 h)
    · refine br_f c1 ?_
      rw [nI_1]
      exact ih (j + 1) (by omega) (fun k hk => by by_cases c : k = j; · rw [c]; exact c1
                                                  · exact h k (by omega))
theorem s14_free_L {τ : St} {Q : St → Prop} {K : Option Nat → Prop} (q : Option Nat) (hK : K q) (h0 : q = none → ∀ k, k < 16 → τ 15 k 0 ≠ 0) (h1 : ∀ k, q = some k → k < 16 ∧ τ 15 k 0 = 0 ∧ ∀ k', k' < k → τ 15 k' 0 ≠ 0) : ∀ (m : Nat) (p : Option Nat), m ≤ 16 → ((∃ k, k < m ∧ τ 15 k 0 = 0) ∨ p = q) → w14_alone_L54 τ Q K (m + 1) p (nI m - 1) := by
  intro m
  induction m with
  | zero =>
    intro p hm hp
    rcases hp with ⟨k, hk, _⟩ | hp
    · exact absurd hk (by omega)
    · rw [hp]; exact br_t (by decide) hK
  | succ m ih =>
    intro p hm hp
    have e : nI (m + 1) - 1 = nI m := pk_sub (a := m + 1) (b := 1) (by omega)
    rw [e]
    have v : vp_in (nI m) 16 := vin (by omega) (by omega)
    have e1 : nI m + (-1) = nI m - 1 := by grind
    refine br_f (by rw [show (0 : Int32) = nI 0 from rfl]; exact nI_nlt (by omega) (by omega)) ⟨v, ?_⟩
    rw [cl (by omega), e1]
    by_cases c1 : τ 15 m 0 = 0
    · refine br_u c1 ⟨v, ih _ (by omega) ?_⟩
      by_cases c2 : ∃ k, k < m ∧ τ 15 k 0 = 0
      · exact Or.inl c2
      · right
        cases hq : q with
        | none => exact absurd c1 (h0 hq m (by omega))
        | some k =>
          obtain ⟨a1, a2, a3⟩ := h1 k hq
          have : k = m := by
            by_cases c3 : k < m
            · exact absurd ⟨k, c3, a2⟩ c2
            · by_cases c4 : k = m
              · exact c4
              · exact absurd c1 (a3 m (by omega))
          rw [this]
    · refine br_v c1 (ih _ (by omega) ?_)
      rcases hp with ⟨k, hk, hz⟩ | hp
      · by_cases c2 : k = m
        · rw [c2] at hz; exact absurd hz c1
        · exact Or.inl ⟨k, by omega, hz⟩
      · exact Or.inr hp
