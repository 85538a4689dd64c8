/-! fragments: the relation -/
set_option maxRecDepth 100000
/-- the component's making p and the model's datagram j are the same -/
def fpair (σ τ : St) (t p j : Nat) : Prop := (σ 7 p 0) = (τ 18 j 1) ∧ (σ 7 p 1) = (τ 18 j 2) ∧ (σ 7 p 2) = (τ 18 j 3) ∧ (σ 7 p 3) = (τ 18 j 5) ∧ (σ 7 p 7) = (τ 18 j 4) ∧ (∀ a, a < 4096 → (σ 39 p) a = (τ 70 j) a) ∧ (∀ a, a < 4096 → (τ 70 j) a ≠ 0 → (σ 38 p) a = (τ 69 j) a) ∧ ∃ u rr : Nat, (τ 18 j 5) = nI u ∧ u ≤ t ∧ t ≤ u + 15000 ∧ (σ 7 p 6) = nI rr ∧ rr ≤ 4096 ∧ (∀ a, rr ≤ a → a < 4096 → (τ 70 j) a = 0) ∧ ((τ 18 j 4) = -1 ∧ (rr = 0 ∨ (τ 70 j) (rr - 1) ≠ 0) ∨ ∃ e : Nat, (τ 18 j 4) = nI e ∧ e ≤ 4096 ∧ rr ≤ e)
theorem fpair.c {σ τ σ' τ' : St} {t p j : Nat} (h1 : σ' 7 p = σ 7 p) (h2 : σ' 38 p = σ 38 p) (h3 : σ' 39 p = σ 39 p) (g1 : τ' 18 j = τ 18 j) (g2 : τ' 69 j = τ 69 j) (g3 : τ' 70 j = τ 70 j) (h : fpair σ τ t p j) : fpair σ' τ' t p j := by
  unfold fpair
  rw [h1, h2, h3, g1, g2, g3]
  exact h
def fkey (τ : St) (j j' : Nat) : Prop := (τ 18 j 1) = (τ 18 j' 1) ∧ (τ 18 j 2) = (τ 18 j' 2) ∧ (τ 18 j 3) = (τ 18 j' 3)
def RFx (σ τ : St) (t l z : Nat) (q r : Nat → Nat) : Prop := z ≤ 4 ∧ (σ 6 0 1) = nI z ∧ cnt (fun j => (τ 18 j 0)) 4 = z ∧ (∀ k, k < z → q k < 4 ∧ (τ 18 (q k) 0) = 1 ∧ (τ 18 (q k) 6) = nI (r k) ∧ r k ≤ l ∧ fpair σ τ t (frw σ k) (q k)) ∧ (∀ k k', k < k' → k' < z → r k < r k' ∧ (τ 18 (q k) 5) ≤ (τ 18 (q k') 5)) ∧ (∀ j, j < 4 → (τ 18 j 0) ≠ 0 → ∃ k, k < z ∧ q k = j) ∧ (∀ k k', k < z → k' < z → k ≠ k' → ¬ fkey τ (q k) (q k')) ∧ RPf σ
def RF (σ τ : St) (t l : Nat) : Prop := ∃ z q r, RFx σ τ t l z q r
theorem RFx.qi {σ τ : St} {t l z : Nat} {q r : Nat → Nat} (h : RFx σ τ t l z q r) {k k' : Nat} (h1 : k < z) (h2 : k' < z) (e : q k = q k') : k = k' := by
  by_cases c : k = k'
  · exact c
  · exact absurd (by unfold fkey; rw [e]; exact ⟨rfl, rfl, rfl⟩) (h.2.2.2.2.2.2.1 k k' h1 h2 c)
theorem frw_c {σ σ' : St} (h : σ' 37 0 = σ 37 0) (k : Nat) : frw σ' k = frw σ k := by unfold frw; rw [h]
theorem RPf.c {σ σ' : St} (h1 : σ' 37 0 = σ 37 0) (h : RPf σ) : RPf σ' := by
  unfold RPf frw
  rw [h1]
  exact h
theorem RFx.c {σ τ σ' τ' : St} {t l z : Nat} {q r : Nat → Nat} (h : RFx σ τ t l z q r) (a1 : (σ' 6 0 1) = (σ 6 0 1)) (a2 : σ' 37 0 = σ 37 0) (a3 : σ' 7 = σ 7) (a4 : σ' 38 = σ 38) (a5 : σ' 39 = σ 39) (b1 : τ' 18 = τ 18) (b2 : τ' 69 = τ 69) (b3 : τ' 70 = τ 70) : RFx σ' τ' t l z q r := by
  unfold RFx fpair fkey RPf frw
  rw [a1, a2, a3, a4, a5, b1, b2, b3]
  exact h
theorem RF.f {σ τ σ' τ' : St} {t l : Nat} {A B : Nat → Nat → Nat → Bool} (h : RF σ τ t l) (f1 : Fr A σ σ') (f2 : Fr B τ τ') (a1 : A 6 0 1 = false := by rfl) (a2 : ∀ j, A 37 0 j = false := by intro _; rfl) (a3 : ∀ i j, A 7 i j = false := by intro _ _; rfl) (a4 : ∀ i j, A 38 i j = false := by intro _ _; rfl) (a5 : ∀ i j, A 39 i j = false := by intro _ _; rfl) (b1 : ∀ i j, B 18 i j = false := by intro _ _; rfl) (b2 : ∀ i j, B 69 i j = false := by intro _ _; rfl) (b3 : ∀ i j, B 70 i j = false := by intro _ _; rfl) : RF σ' τ' t l := by
  obtain ⟨z, q, r, h⟩ := h
  exact ⟨z, q, r, h.c (f1 _ _ _ a1) (f1.row a2) (f1.kind a3) (f1.kind a4) (f1.kind a5) (f2.kind b1) (f2.kind b2) (f2.kind b3)⟩
theorem RF.up {σ τ : St} {t l l' : Nat} (h : RF σ τ t l) (hl : l ≤ l') : RF σ τ t l' := by
  obtain ⟨z, q, r, h1, h2, h3, h4, h5⟩ := h
  exact ⟨z, q, r, h1, h2, h3, fun k hk => ⟨(h4 k hk).1, (h4 k hk).2.1, (h4 k hk).2.2.1, Nat.le_trans (h4 k hk).2.2.2.1 hl, (h4 k hk).2.2.2.2⟩, h5⟩
/-- the k-th has changed -/
theorem RF_at {σ τ σ' τ' : St} {t l z k : Nat} {q r : Nat → Nat} (h : RFx σ τ t l z q r) (hk : k < z) (h37 : σ' 37 0 = σ 37 0) (h1 : (σ' 6 0 1) = (σ 6 0 1)) (hc : ∀ p, p ≠ frw σ k → σ' 7 p = σ 7 p ∧ σ' 38 p = σ 38 p ∧ σ' 39 p = σ 39 p) (hm : ∀ j, j ≠ q k → τ' 18 j = τ 18 j ∧ τ' 69 j = τ 69 j ∧ τ' 70 j = τ 70 j) (h18 : ∀ j, j ≠ 4 → τ' 18 (q k) j = τ 18 (q k) j) (hp : fpair σ' τ' t (frw σ k) (q k)) : RFx σ' τ' t l z q r := by
  have hx := h
  obtain ⟨z1, z2, z3, z4, z5, z6, z7, z8⟩ := h
  have he : ∀ j f, f ≠ 4 → τ' 18 j f = τ 18 j f := by
    intro j f hf
    by_cases e : j = q k
    · rw [e]; exact h18 f hf
    · rw [(hm _ e).1]
  refine ⟨z1, h1.trans z2, ?_, fun k' hk' => ?_, fun k1 k2 a b => ?_, fun j hj hj2 => ?_, fun k1 k2 a b c => ?_, z8.c h37⟩
  · rw [← z3]
    exact cnt_ext (fun j _ => by rw [he j 0 (by decide)])
  · obtain ⟨a1, a2, a3, a4, a5⟩ := z4 k' hk'
    rw [frw_c h37, he _ _ (by decide), he _ _ (by decide)]
    refine ⟨a1, a2, a3, a4, ?_⟩
    by_cases e : k' = k
    · subst e
      exact hp
    · have e1 : q k' ≠ q k := fun z => e (hx.qi hk' hk z)
      have e2 : frw σ k' ≠ frw σ k := fun z => e (z8.2 k' k (by omega) (by omega) z)
      obtain ⟨m1, m2, m3⟩ := hm _ e1
      obtain ⟨c1, c2, c3⟩ := hc _ e2
      exact a5.c c1 c2 c3 m1 m2 m3
  · rw [he _ _ (by decide), he _ _ (by decide)]
    exact z5 k1 k2 a b
  · rw [he _ _ (by decide)] at hj2
    exact z6 j hj hj2
  · unfold fkey
    rw [he _ _ (by decide), he _ _ (by decide), he _ _ (by decide), he _ _ (by decide), he _ _ (by decide), he _ _ (by decide)]
    exact z7 k1 k2 a b c
/-- the k-th goes -/
theorem RF_del {σ τ σ' τ' : St} {t l z k : Nat} {q r : Nat → Nat} (h : RFx σ τ t l z q r) (hk : k < z) (hh : ∀ i, i < 4 → frw σ' i = rm (frw σ) k z i) (h9 : (σ' 6 0 1) = nI (z - 1)) (h7 : σ' 7 = σ 7) (h38 : σ' 38 = σ 38) (h39 : σ' 39 = σ 39) (hm : ∀ j, j ≠ q k → τ' 18 j = τ 18 j) (h69 : τ' 69 = τ 69) (h70 : τ' 70 = τ 70) (hu : (τ' 18 (q k) 0) = 0) : RF σ' τ' t l := by
  have hx := h
  obtain ⟨h1, h2, hc, h5, h6, hs, h8, hP⟩ := h
  have sh : ∀ i, i < z - 1 → ∃ i', i' < z ∧ i' ≠ k ∧ frw σ' i = frw σ i' ∧ i' = if i < k then i else i + 1 := by
    intro i hi
    refine ⟨if i < k then i else i + 1, ?_, ?_, ?_, rfl⟩
    · split <;> omega
    · split <;> omega
    · rw [hh i (by omega)]
      unfold rm
      by_cases c : i < k
      · rw [if_pos c, if_neg (by omega), if_neg (by omega)]
      · rw [if_neg c, if_pos (by omega)]
  refine ⟨z - 1, fun i => q (if i < k then i else i + 1), fun i => r (if i < k then i else i + 1), by omega, h9, ?_, fun i hi => ?_, fun a b hab hb => ?_, fun j hj hj2 => ?_, fun a b ha hb hab => ?_, RPf_rm hP h1 hk hh⟩
  · have := cnt_up (f := fun j => (τ' 18 j 0)) (g := fun j => (τ 18 j 0)) (n := 4) (k := q k) (h5 k hk).1 hu (by rw [(h5 k hk).2.1]; decide) (fun j _ e => by rw [hm j e])
    omega
  · obtain ⟨i', a1, a2, a3, a4⟩ := sh i hi
    obtain ⟨b1, b2, b3, b4, b5⟩ := h5 i' a1
    have e : q i' ≠ q k := fun z => a2 (hx.qi a1 hk z)
    dsimp only
    rw [← a4, hm _ e, a3]
    exact ⟨b1, b2, b3, b4, b5.c (by rw [h7]) (by rw [h38]) (by rw [h39]) (hm _ e) (by rw [h69]) (by rw [h70])⟩
  · obtain ⟨a', a1, a2, _, a4⟩ := sh a (by omega)
    obtain ⟨b', b1, b2, _, b4⟩ := sh b (by omega)
    dsimp only
    rw [← a4, ← b4, hm _ (fun z => a2 (hx.qi a1 hk z)), hm _ (fun z => b2 (hx.qi b1 hk z))]
    refine h6 a' b' ?_ b1
    rw [a4, b4]
    split <;> split <;> omega
  · have e : j ≠ q k := fun z => hj2 (by rw [z]; exact hu)
    rw [hm j e] at hj2
    obtain ⟨i, hi, hq⟩ := hs j hj hj2
    have hik : i ≠ k := fun z => e (by rw [← hq, z])
    refine ⟨if i < k then i else i - 1, by split <;> omega, ?_⟩
    rw [← hq]
    dsimp only
    by_cases c : i < k
    · rw [if_pos c, if_pos c]
    · rw [if_neg c, if_neg (by omega)]
      congr 1
      omega
  · obtain ⟨a', a1, a2, _, a4⟩ := sh a ha
    obtain ⟨b', b1, b2, _, b4⟩ := sh b hb
    dsimp only
    unfold fkey
    rw [← a4, ← b4, hm _ (fun z => a2 (hx.qi a1 hk z)), hm _ (fun z => b2 (hx.qi b1 hk z))]
    refine h8 a' b' a1 b1 ?_
    rw [a4, b4]
    split <;> split <;> omega
/-- one more -/
theorem RF_new {σ τ σ' τ' : St} {t l l' z j : Nat} {q r : Nat → Nat} (h : RFx σ τ t l z q r) (hz : z < 4) (hj : j < 4) (hj0 : (τ 18 j 0) = 0) (hl : l < l') (hx : ∀ k, k < z → ¬ ((τ 18 (q k) 1) = (τ' 18 j 1) ∧ (τ 18 (q k) 2) = (τ' 18 j 2) ∧ (τ 18 (q k) 3) = (τ' 18 j 3))) (h37 : σ' 37 0 = σ 37 0) (h1 : (σ' 6 0 1) = nI (z + 1)) (hc : ∀ p, p ≠ frw σ z → σ' 7 p = σ 7 p ∧ σ' 38 p = σ 38 p ∧ σ' 39 p = σ 39 p) (hm : ∀ j', j' ≠ j → τ' 18 j' = τ 18 j' ∧ τ' 69 j' = τ 69 j' ∧ τ' 70 j' = τ 70 j') (hu : (τ' 18 j 0) = 1) (ho : (τ' 18 j 6) = nI l') (hb : (τ' 18 j 5) = nI t) (ht : t < 2147483648) (hp : fpair σ' τ' t (frw σ z) j) : RFx σ' τ' t l' (z + 1) (fun k => if k = z then j else q k) (fun k => if k = z then l' else r k) := by
  have hxx := h
  obtain ⟨z1, z2, z3, z4, z5, z6, z7, z8⟩ := h
  have hne : ∀ k, k < z → q k ≠ j := fun k hk e => by
    have := (z4 k hk).2.1
    rw [e, hj0] at this
    exact absurd this (by decide)
  refine ⟨by omega, h1, ?_, fun k hk => ?_, fun a b hab hb' => ?_, fun i hi hi2 => ?_, fun a b ha hb' hab => ?_, z8.c h37⟩
  · rw [← z3]
    exact cnt_up (f := fun j => (τ 18 j 0)) (g := fun j => (τ' 18 j 0)) hj hj0 (by rw [hu]; decide) (fun i _ e => by rw [(hm i e).1])
  · dsimp only
    rw [frw_c h37]
    by_cases c : k = z
    · rw [if_pos c, if_pos c, c]
      exact ⟨hj, hu, ho, Nat.le_refl _, hp⟩
    · rw [if_neg c, if_neg c]
      obtain ⟨a1, a2, a3, a4, a5⟩ := z4 k (by omega)
      obtain ⟨m1, m2, m3⟩ := hm _ (hne k (by omega))
      obtain ⟨c1, c2, c3⟩ := hc (frw σ k) (fun e => c (z8.2 k z (by omega) (by omega) e))
      rw [m1]
      exact ⟨a1, a2, a3, by omega, a5.c c1 c2 c3 m1 m2 m3⟩
  · dsimp only
    rw [if_neg (show ¬ a = z by omega), if_neg (show ¬ a = z by omega), (hm _ (hne a (by omega))).1]
    by_cases c : b = z
    · rw [if_pos c, if_pos c, hb]
      obtain ⟨a1, a2, a3, a4, a5⟩ := z4 a (by omega)
      obtain ⟨_, _, _, _, _, _, _, u, rr, u1, u2, _⟩ := a5
      rw [u1]
      exact ⟨by omega, nI_le (by omega) (by omega)⟩
    · rw [if_neg c, if_neg c, (hm _ (hne b (by omega))).1]
      exact z5 a b hab (by omega)
  · by_cases c : i = j
    · exact ⟨z, by omega, by dsimp only; rw [if_pos rfl, c]⟩
    · rw [(hm i c).1] at hi2
      obtain ⟨k, hk, hq⟩ := z6 i hi hi2
      exact ⟨k, by omega, by dsimp only; rw [if_neg (by omega)]; exact hq⟩
  · dsimp only
    unfold fkey
    by_cases c : a = z
    · rw [if_pos c, if_neg (show ¬ b = z by omega), (hm _ (hne b (by omega))).1]
      exact fun e => hx b (by omega) ⟨e.1.symm, e.2.1.symm, e.2.2.symm⟩
    · rw [if_neg c, (hm _ (hne a (by omega))).1]
      by_cases c2 : b = z
      · rw [if_pos c2]
        exact hx a (by omega)
      · rw [if_neg c2, (hm _ (hne b (by omega))).1]
        exact z7 a b (by omega) (by omega) hab
theorem bad_iff {σ τ : St} {t p j to : Nat} {isL more : Int32} (h : fpair σ τ t p j) (hto : to ≤ 4096) (hm : isL = 0 ↔ ¬ more = 0) : badC ((σ 7 p 7)) ((σ 7 p 6)) to isL ↔ badM ((τ 18 j 4)) (τ 70 j) to more := by
  obtain ⟨_, _, _, _, p5, p6, p7, u, rr, u1, u2, u3, r1, r2, r3, r4⟩ := h
  rw [p5, r1]
  unfold badC badM
  have em : more = 0 ↔ ¬ isL = 0 := by
    constructor
    · exact fun a b => (hm.mp b) a
    · intro a
      by_cases c : more = 0
      · exact c
      · exact absurd (hm.mpr c) a
  have hreach : nI rr ≤ nI to ↔ rr ≤ to := nI_leI (by omega) (by omega)
  rcases r4 with ⟨e1, e2⟩ | ⟨e, e1, e2, e3⟩
  · rw [e1]
    have n1 : (-1 : Int32) < 0 := by decide
    constructor
    · rintro (h | h | h)
      · exact absurd n1 h.2.1
      · exact absurd n1 h.1
      · have hrr : ¬ rr ≤ to := fun z => h.2 (hreach.mpr z)
        refine Or.inr ⟨em.mpr h.1, rr - 1, by omega, by omega, ?_⟩
        rcases e2 with z | z
        · omega
        · exact z
    · rintro (h | h)
      · exact absurd n1 h.1
      · obtain ⟨h1, a, a1, a2, a3⟩ := h
        refine Or.inr (Or.inr ⟨em.mp h1, fun z => ?_⟩)
        have := hreach.mp z
        exact a3 (r3 a (by omega) a2)
  · rw [e1]
    have n1 : ¬ nI e < 0 := nI_nlt (b := 0) (by omega) (by omega)
    have n2 : nI e = nI to ↔ e = to := nI_eq (by omega) (by omega)
    have n3 : nI e < nI to ↔ e < to := nI_ltI (by omega) (by omega)
    have n4 : nI to ≤ nI e ↔ to ≤ e := nI_leI (by omega) (by omega)
    have n5 : nI to = nI e ↔ to = e := nI_eq (by omega) (by omega)
    rw [n2, n3, n4, n5, hreach]
    constructor
    · rintro (h | h | h)
      · exact Or.inl ⟨n1, Or.inl ⟨em.mpr h.1, fun z => h.2.2 z.symm⟩⟩
      · refine Or.inl ⟨n1, ?_⟩
        by_cases c : more = 0
        · exact Or.inl ⟨c, by omega⟩
        · exact Or.inr ⟨c, by omega⟩
      · exact Or.inl ⟨n1, Or.inl ⟨em.mpr h.1, by omega⟩⟩
    · rintro (h | h)
      · rcases h.2 with h | h
        · exact Or.inl ⟨em.mp h.1, n1, fun z => h.2 z.symm⟩
        · exact Or.inr (Or.inl ⟨n1, by omega⟩)
      · obtain ⟨h1, a, a1, a2, a3⟩ := h
        by_cases c : e = to
        · exact absurd (r3 a (by omega) a2) a3
        · exact Or.inl ⟨em.mp h1, n1, c⟩
/-- behind a fragment that was put in -/
theorem fpair_add {σ τ σ' τ' : St} {t p j off n at_ : Nat} {isL more : Int32} (h : fpair σ τ t p j) (hto : off + n ≤ 4096) (hm : isL = 0 ↔ ¬ more = 0) (hn : ¬ more = 0 → 0 < n) (hnb : ¬ badC ((σ 7 p 7)) ((σ 7 p 6)) (off + n) isL) (htr : σ 20 0 = τ 50 0)
    (a7 : ∀ f, f ≠ 6 → f ≠ 7 → σ' 7 p f = σ 7 p f) (a1 : (σ' 7 p 7) = (if isL = 0 then (σ 7 p 7) else nI (off + n))) (a2 : (σ' 7 p 6) = imax ((σ 7 p 6)) (nI (off + n))) (a3 : ∀ a, σ' 39 p a = if off ≤ a ∧ a < off + n then 1 else σ 39 p a) (a4 : ∀ a, σ' 38 p a = if off ≤ a ∧ a < off + n ∧ σ 39 p a = 0 then σ 20 0 (at_ + (a - off)) else σ 38 p a)
    (b18 : ∀ f, f ≠ 4 → τ' 18 j f = τ 18 j f) (b1 : (τ' 18 j 4) = (if more = 0 then nI (off + n) else (τ 18 j 4))) (b3 : ∀ a, τ' 70 j a = if off ≤ a ∧ a < off + n then 1 else τ 70 j a) (b4 : ∀ a, τ' 69 j a = if off ≤ a ∧ a < off + n ∧ τ 70 j a = 0 then τ 50 0 (at_ + (a - off)) else τ 69 j a) : fpair σ' τ' t p j := by
  obtain ⟨p1, p2, p3, p4, p5, p6, p7, u, rr, u1, u2, u3, r1, r2, r3, r4⟩ := h
  unfold fpair
  rw [a7 _ (by decide) (by decide), a7 _ (by decide) (by decide), a7 _ (by decide) (by decide), a7 _ (by decide) (by decide), b18 _ (by decide), b18 _ (by decide), b18 _ (by decide), b18 _ (by decide), a2, r1, imax_n (by omega) (by omega)]
  refine ⟨p1, p2, p3, p4, ?_, fun a ha => ?_, fun a ha hh => ?_, u, max rr (off + n), u1, u2, u3, rfl, by omega, fun a h1 h2 => ?_, ?_⟩
  · rw [a1, b1]
    by_cases c : isL = 0
    · rw [if_pos c, if_neg (hm.mp c)]; exact p5
    · have : more = 0 := by
        by_cases c2 : more = 0
        · exact c2
        · exact absurd (hm.mpr c2) c
      rw [if_neg c, if_pos this]
  · rw [a3, b3, p6 a ha]
  · rw [a4, b4, htr, p6 a ha]
    rw [b3] at hh
    by_cases c : off ≤ a ∧ a < off + n ∧ τ 70 j a = 0
    · rw [if_pos c, if_pos c]
    · rw [if_neg c, if_neg c]
      refine p7 a ha (fun z => ?_)
      by_cases c2 : off ≤ a ∧ a < off + n
      · exact c ⟨c2.1, c2.2, z⟩
      · rw [if_neg c2] at hh
        exact hh z
  · rw [b3, if_neg (by omega)]
    exact r3 a (by omega) h2
  · rw [b1]
    by_cases c : more = 0
    · rw [if_pos c]
      have cl : ¬ isL = 0 := fun z => hm.mp z c
      refine Or.inr ⟨off + n, rfl, hto, ?_⟩
      have h3 : ¬ (¬ isL = 0 ∧ ¬ (σ 7 p 6) ≤ nI (off + n)) := fun z => hnb (Or.inr (Or.inr z))
      rw [r1] at h3
      have : rr ≤ off + n := by
        by_cases c3 : rr ≤ off + n
        · exact c3
        · exact absurd ⟨cl, fun z => c3 ((nI_leI (by omega) (by omega)).mp z)⟩ h3
      omega
    · rw [if_neg c]
      rcases r4 with ⟨e1, e2⟩ | ⟨e, e1, e2, e3⟩
      · refine Or.inl ⟨e1, ?_⟩
        have hn0 := hn c
        by_cases c4 : rr ≤ off + n
        · rw [Nat.max_eq_right c4]
          refine Or.inr ?_
          rw [b3, if_pos (by omega)]
          decide
        · rw [Nat.max_eq_left (by omega)]
          refine Or.inr ?_
          rw [b3, if_neg (by omega)]
          exact e2.resolve_left (by omega)
      · refine Or.inr ⟨e, e1, e2, ?_⟩
        have h3 : ¬ (¬ (σ 7 p 7) < 0 ∧ (σ 7 p 7) < nI (off + n)) := fun z => hnb (Or.inr (Or.inl z))
        rw [p5, e1] at h3
        have : off + n ≤ e := by
          by_cases c3 : off + n ≤ e
          · exact c3
          · exact absurd ⟨nI_nlt (b := 0) (by omega) (by omega), nI_lt (by omega) (by omega)⟩ h3
        omega
