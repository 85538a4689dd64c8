/-! files: where they are found -/
set_option maxRecDepth 100000
/-- the store of both, opened -/
def RSt (σ τ : St) : Prop := RG σ τ ∧ RX σ τ ∧ σ 1 0 3 = nI 22 ∧ σ 1 0 103 = nI 0
theorem RSt.f {σ τ σ' τ' : St} {A B : Nat → Nat → Nat → Bool} (h : RSt σ τ) (f1 : Fr A σ σ') (f2 : Fr B τ τ') (a1 : ∀ j, A 1 0 j = false := by intro _; rfl) (a2 : ∀ j, A 21 0 j = false := by intro _; rfl) (a3 : ∀ j, A 22 0 j = false := by intro _; rfl) (a4 : A 90 0 0 = false := by rfl) (b1 : B 14 0 3 = false := by rfl) (b2 : B 14 0 11 = false := by rfl) (b3 : ∀ j, B 51 0 j = false := by intro _; rfl) (b4 : ∀ j, B 52 0 j = false := by intro _; rfl) (b5 : ∀ j, B 53 0 j = false := by intro _; rfl) (b6 : ∀ j, B 54 0 j = false := by intro _; rfl) (b7 : ∀ j, B 55 0 j = false := by intro _; rfl) : RSt σ' τ' := by
  obtain ⟨h1, h2, h3, h4⟩ := h
  refine ⟨h1.c (f1 _ _ _ a4) (f1.row a2) (f2 _ _ _ b1) (f2.row b3), h2.c (by rw [f1.row a1]) (f1.row a3) (f2 _ _ _ b1) (f2 _ _ _ b2) (f2.row b4) (f2.row b5) (f2.row b6) (f2.row b7), ?_, ?_⟩
  · rw [f1.row a1]; exact h3
  · rw [f1.row a1]; exact h4
/-- a file of both -/
def FL (σ τ : St) (e n p l : Nat) : Prop := (rig0 (σ 22 0) n e) ∧ (∀ j, j < 48 → σ 22 0 (8 + 64 * e + j) = τ 52 0 (48 * e + j)) ∧ (four (σ 22 0) (8 + 64 * e + 48) = nI p) ∧ (τ 53 0 e = nI p) ∧ (four (σ 22 0) (8 + 64 * e + 52) = nI l) ∧ (τ 54 0 e = nI l) ∧ (four (σ 22 0) (8 + 64 * e + 56) = τ 55 0 e) ∧ (p + l ≤ n)
theorem FL.rig {σ τ : St} {e n p l : Nat} (h : FL σ τ e n p l) : rig0 (σ 22 0) n e := h.1
theorem FL.nm {σ τ : St} {e n p l : Nat} (h : FL σ τ e n p l) : ∀ j, j < 48 → σ 22 0 (8 + 64 * e + j) = τ 52 0 (48 * e + j) := h.2.1
theorem FL.pl1 {σ τ : St} {e n p l : Nat} (h : FL σ τ e n p l) : four (σ 22 0) (8 + 64 * e + 48) = nI p := h.2.2.1
theorem FL.pl2 {σ τ : St} {e n p l : Nat} (h : FL σ τ e n p l) : τ 53 0 e = nI p := h.2.2.2.1
theorem FL.ln1 {σ τ : St} {e n p l : Nat} (h : FL σ τ e n p l) : four (σ 22 0) (8 + 64 * e + 52) = nI l := h.2.2.2.2.1
theorem FL.ln2 {σ τ : St} {e n p l : Nat} (h : FL σ τ e n p l) : τ 54 0 e = nI l := h.2.2.2.2.2.1
theorem FL.mk1 {σ τ : St} {e n p l : Nat} (h : FL σ τ e n p l) : four (σ 22 0) (8 + 64 * e + 56) = τ 55 0 e := h.2.2.2.2.2.2.1
theorem FL.sum {σ τ : St} {e n p l : Nat} (h : FL σ τ e n p l) : p + l ≤ n := h.2.2.2.2.2.2.2
theorem FL.mk {σ τ : St} {e n p l : Nat} (rig : rig0 (σ 22 0) n e) (nm : ∀ j, j < 48 → σ 22 0 (8 + 64 * e + j) = τ 52 0 (48 * e + j)) (pl1 : four (σ 22 0) (8 + 64 * e + 48) = nI p) (pl2 : τ 53 0 e = nI p) (ln1 : four (σ 22 0) (8 + 64 * e + 52) = nI l) (ln2 : τ 54 0 e = nI l) (mk1 : four (σ 22 0) (8 + 64 * e + 56) = τ 55 0 e) (sum : p + l ≤ n) : FL σ τ e n p l := ⟨rig, nm, pl1, pl2, ln1, ln2, mk1, sum⟩
theorem RSt.fl {σ τ : St} (h : RSt σ τ) : ∃ n c : Nat, n ≤ 65535 ∧ c ≤ 64 ∧ σ 90 0 0 = nI n ∧ (∀ j, j < n → σ 21 0 j = τ 51 0 j) ∧ (σ 1 0 1) = nI c ∧ (τ 14 0 11) = nI c ∧ rowIs σ 22 ∧ ∀ e, e < c → ∃ p l : Nat, FL σ τ e n p l := by
  obtain ⟨⟨n, n1, n2, n3, n4⟩, ⟨n', c, c1, c2, c3, c4, c5, c6⟩, h3, h4⟩ := h
  have hn : n' = n := by
    rw [n3] at c3
    exact ((nI_eq (by omega) (by omega)).mp c3).symm
  subst hn
  refine ⟨n', c, n1, c2, n2, n4, c4, c5, ⟨by rw [h3]; exact cl (by omega), by rw [h4]; exact cl (by omega), by decide⟩, fun e he => ?_⟩
  obtain ⟨d1, d2, d3, d4, d5⟩ := c6 e he
  refine ⟨fourN (σ 22 0) (8 + 64 * e + 48), fourN (σ 22 0) (8 + 64 * e + 52), FL.mk d1 d2 (four_n _ _) ?_ (four_n _ _) ?_ d5.symm d1.2.2.2.2.2.1⟩
  · rw [d3, four_n]
  · rw [d4, four_n]
/-- the same name -/
theorem same_n {σ τ : St} {e n p l pl : Nat} (ok : okS σ) (h : FL σ τ e n p l) (hpl : pl < 48) (hp : ∀ j, j < pl → σ 41 0 j = τ 67 0 j ∧ τ 67 0 j ≠ 0) : named (σ 22 0) e (σ 41 0) 0 pl ↔ ∀ k, k < 48 → τ 52 0 (48 * e + k) = if pl ≤ k then 0 else τ 67 0 k := by
  obtain ⟨r1, r2, r3, r4, r5, r6, r7⟩ := h.rig
  have nm := h.nm
  have hl := nlen_le (σ 22 0) (8 + 64 * e)
  have b22 : ∀ j, by8 (σ 22 0 j) := fun j => ok_by ok (tyk_a 22 2 (by decide) (by decide)) j
  have z0 : ∀ j, (σ 22 0 j = 0 ↔ ub (σ 22 0 j) = 0) := fun j => by_eq (v := 0) (b22 j) (by omega)
  constructor
  · rintro ⟨g1, g2⟩ k hk
    rw [← nm k hk]
    by_cases c : pl ≤ k
    · rw [if_pos c, z0]
      exact r5 k (by omega) hk
    · rw [if_neg c, g2 k (by omega), Nat.zero_add]
      exact (hp k (by omega)).1
  · intro g
    have e1 : nlen (σ 22 0) (8 + 64 * e) = pl := by
      rcases Nat.lt_trichotomy (nlen (σ 22 0) (8 + 64 * e)) pl with y | y | y
      · have q1 := r5 _ (Nat.le_refl _) (by omega)
        have q2 := g _ (show nlen (σ 22 0) (8 + 64 * e) < 48 by omega)
        rw [← nm _ (by omega), if_neg (by omega), (z0 _).mpr q1] at q2
        exact absurd q2.symm (hp _ y).2
      · exact y
      · have q1 := r4 pl y
        have q2 := g pl hpl
        rw [← nm _ hpl, if_pos (Nat.le_refl _), z0] at q2
        omega
    refine ⟨e1, fun j hj => ?_⟩
    rw [nm j (by omega), g j (by omega), if_neg (by omega), Nat.zero_add]
    exact (hp j hj).1.symm
theorem s14_fo_L23 {τ : St} {e pl : Nat} {Q K : Int32 → Prop} (he : e < 64) (hp : (τ 14 0 59) = nI pl) (hpl : pl < 48) : ∀ (m j : Nat) (s : Int32), j + m = 48 → (s = 0 ∨ s = 1) → ((s = 1 ∧ ∀ k, j ≤ k → k < 48 → τ 52 0 (48 * e + k) = if pl ≤ k then 0 else τ 67 0 k) → K 1) → (¬ (s = 1 ∧ ∀ k, j ≤ k → k < 48 → τ 52 0 (48 * e + k) = if pl ≤ k then 0 else τ 67 0 k) → K 0) → w14_found_L23 τ (nI e) Q K (m + 1) s (nI j) := by
  intro m
  induction m with
  | zero =>
    intro j s hj hs h1 h0
    refine br_t (nI_le (a := 48) (by omega) (by omega)) ?_
    rcases hs with z | z
    · rw [z]; exact h0 (fun y => by rw [z] at y; exact absurd y.1 (by decide))
    · rw [z]; exact h1 ⟨z, fun k a b => by omega⟩
  | succ m ih =>
    intro j s hj hs h1 h0
    refine br_f (nI_ge (b := 48) (by omega) (by omega)) ?_
    rw [nI_1]
    have no : ¬ (s = 1 ∧ ∀ k, j ≤ k → k < 48 → τ 52 0 (48 * e + k) = if pl ≤ k then 0 else τ 67 0 k) → w14_found_L23 τ (nI e) Q K (m + 1) 0 (nI (j + 1)) := fun n => ih (j + 1) 0 (by omega) (Or.inl rfl) (fun y => absurd y.1 (by decide)) (fun _ => h0 n)
    rcases hs with z | z
    · exact br_t z (no (fun y => by rw [z] at y; exact absurd y.1 (by decide)))
    refine br_f (by rw [z]; decide) ?_
    rw [show (48 : Int32) * nI e = nI (48 * e) from pk_mul 48 e, nI_add, cl (by omega), hp]
    refine ⟨vin (by omega) (by omega), fun _ => ?_⟩
    have yes : (τ 52 0 (48 * e + j) = if pl ≤ j then 0 else τ 67 0 j) → w14_found_L23 τ (nI e) Q K (m + 1) 1 (nI (j + 1)) := by
      intro hy
      refine ih (j + 1) 1 (by omega) (Or.inr rfl) (fun y => h1 ⟨z, fun k a b => ?_⟩) (fun y => h0 (fun x => y ⟨rfl, fun k a b => x.2 k (by omega) b⟩))
      by_cases ck : k = j
      · rw [ck]; exact hy
      · exact y.2 k (by omega) b
    by_cases c : pl ≤ j
    · refine br_t (nI_le c (by omega)) ?_
      rw [if_pos c] at yes
      by_cases c2 : τ 52 0 (48 * e + j) = 0
      · exact br_u c2 (yes c2)
      · refine br_v c2 (no (fun y => c2 ?_))
        have := y.2 j (Nat.le_refl _) (by omega)
        rwa [if_pos c] at this
    · refine br_f (nI_ge (by omega) (by omega)) ?_
      rw [cl (by omega)]
      refine ⟨vin (by omega) (by omega), fun _ => ?_⟩
      rw [if_neg c] at yes
      by_cases c2 : τ 52 0 (48 * e + j) = τ 67 0 j
      · exact br_u c2 (yes c2)
      · refine br_v c2 (no (fun y => c2 ?_))
        have := y.2 j (Nat.le_refl _) (by omega)
        rwa [if_neg c] at this
/-- the first file of a name, or -1 -/
def fndf (P : Nat → Prop) (c : Nat) (r : Int32) : Prop := (∃ e : Nat, e < c ∧ r = nI e ∧ P e ∧ ∀ g, g < e → ¬ P g) ∨ r = -1 ∧ ∀ g, g < c → ¬ P g
theorem fndf_u {P : Nat → Prop} {c : Nat} {r r' : Int32} (h : fndf P c r) (h' : fndf P c r') : r = r' := by
  rcases h with ⟨e, a1, a2, a3, a4⟩ | ⟨a1, a2⟩
  · rcases h' with ⟨e', b1, b2, b3, b4⟩ | ⟨b1, b2⟩
    · have : e = e' := by
        rcases Nat.lt_trichotomy e e' with z | z | z
        · exact absurd a3 (b4 e z)
        · exact z
        · exact absurd b3 (a4 e' z)
      rw [a2, b2, this]
    · exact absurd a3 (b2 e a1)
  · rcases h' with ⟨e', b1, b2, b3, b4⟩ | ⟨b1, b2⟩
    · exact absurd b3 (a2 e' b1)
    · rw [a1, b1]
theorem s1_find {σ : St} {c pl : Nat} {Q : Int32 → Prop} (hr : rowIs σ 22) (hf : (σ 1 0 1) = nI c) (hc : c ≤ 64) (hpl : pl < 48) (hq : ∀ r, fndf (fun e => named (σ 22 0) e (σ 41 0) 0 pl) c r → Q r) : w1_find σ 41 0 (nI pl) Q := by
  have L : ∀ (m j : Nat), j + m = c → (∀ g, g < j → ¬ named (σ 22 0) g (σ 41 0) 0 pl) → w1_find_L2 σ 41 0 (nI pl) Q (fun x3_3 => Q x3_3) (Q (-1)) (m + 1) (nI j) := by
    intro m
    induction m with
    | zero =>
      intro j hj hno
      exact br_t (by rw [hf]; exact nI_le (by omega) (by omega)) (hq _ (Or.inr ⟨rfl, fun g hg => hno g (by omega)⟩))
    | succ m ih =>
      intro j hj hno
      refine br_f (by rw [hf]; exact nI_ge (by omega) (by omega)) ?_
      refine s1_isNamed (b := 0) hr (by omega) (by show _ ≤ 4104; omega) (by show _ ≤ 48; omega) (by omega) (by omega) (fun y => br_f (by decide) (hq _ (Or.inl ⟨j, by omega, rfl, y, hno⟩))) (fun y => br_t rfl ?_)
      rw [nI_1]
      refine ih (j + 1) (by omega) (fun g hg => ?_)
      by_cases cg : g = j
      · rw [cg]; exact y
      · exact hno g (by omega)
  exact ⟨c + 1, L c 0 (by omega) (fun g hg => by omega)⟩
theorem s14_found {τ : St} {c pl : Nat} {Q : Int32 → Prop} (hf : (τ 14 0 11) = nI c) (hc : c ≤ 64) (hp : (τ 14 0 59) = nI pl) (hpl2 : pl < 10000) (h48 : 48 ≤ pl → Q (-1)) (hq : pl < 48 → ∀ r, fndf (fun e => ∀ k, k < 48 → τ 52 0 (48 * e + k) = if pl ≤ k then 0 else τ 67 0 k) c r → Q r) : w14_found τ Q := by
  by_cases c1 : 48 ≤ pl
  · refine ⟨1, ?_⟩
    by_cases c2 : c ≤ 0
    · exact br_t (by rw [hf]; exact nI_le (b := 0) (by omega) (by omega)) (h48 c1)
    · exact br_f (by rw [hf]; exact nI_ge (a := 0) (by omega) (by omega)) (br_t (by rw [hp]; exact nI_le (a := 48) c1 (by omega)) (h48 c1))
  have hpl : pl < 48 := by omega
  have hq := hq hpl
  have L : ∀ (m j : Nat), j + m = c → (∀ g, g < j → ¬ ∀ k, k < 48 → τ 52 0 (48 * g + k) = if pl ≤ k then 0 else τ 67 0 k) → w14_found_L2 τ Q (fun x1_4 => Q x1_4) (Q (-1)) (m + 1) (nI j) := by
    intro m
    induction m with
    | zero =>
      intro j hj hno
      exact br_t (by rw [hf]; exact nI_le (by omega) (by omega)) (hq _ (Or.inr ⟨rfl, fun g hg => hno g (by omega)⟩))
    | succ m ih =>
      intro j hj hno
      refine br_f (by rw [hf]; exact nI_ge (by omega) (by omega)) (br_f (by rw [hp]; exact nI_ge (b := 48) hpl (by omega)) ⟨49, s14_fo_L23 (by omega) hp hpl 48 0 1 (by omega) (Or.inr rfl) (fun y => br_f (by decide) (hq _ (Or.inl ⟨j, by omega, rfl, fun k hk => y.2 k (by omega) hk, hno⟩))) (fun y => br_t rfl ?_)⟩)
      rw [nI_1]
      refine ih (j + 1) (by omega) (fun g hg => ?_)
      by_cases cg : g = j
      · rw [cg]; exact fun x => y ⟨rfl, fun k _ hk => x k hk⟩
      · exact hno g (by omega)
  exact ⟨c + 1, L c 0 (by omega) (fun g hg => by omega)⟩
