/-! what is due: the two sides -/
set_option maxRecDepth 100000
theorem RWx.pk {σ τ : St} {t o w : Nat} {q r : Nat → Nat} (hX : RWx σ τ t o w q r) (ho : o < 2147483648) (ht : t ≤ 2000000000) : PkF τ ∧ (∀ k, k < w → wdue σ k = nI (pA τ (q k)) ∧ t ≤ pA τ (q k) ∧ pA τ (q k) < 2147483648) ∧ (∀ k, k < w → pO τ (q k) = r k) := by
  obtain ⟨w1, w2, w3, w4, w5, w6, w7, w8⟩ := hX
  have base : ∀ k, k < w → ∃ u a : Nat, (τ 17 (q k) 3) = nI u ∧ (τ 17 (q k) 4) = nI a ∧ pA τ (q k) = u + 1000 * a ∧ a ≤ 3 ∧ u ≤ t ∧ t ≤ u + 1000 * a ∧ wdue σ k = nI (u + 1000 * a) ∧ pO τ (q k) = r k := by
    intro k hk
    obtain ⟨a1, a2, a3, a4, b1, b2, b3, b4, u, a, l, c1, c2, c3, c4, c5, c6, c7, c8, c9⟩ := w5 k hk
    refine ⟨u, a, c1, c2, ?_, c5, c7, c8, ?_, ?_⟩
    · unfold pA; rw [c1, c2, cl (by omega), cl (by omega)]
    · unfold wdue; rw [b2, b3, c1, c2, show (1000 : Int32) * nI a = nI (1000 * a) from pk_mul 1000 a, nI_add]
    · unfold pO; rw [a3, cl (by omega)]
  refine ⟨PkF.mk ?_ ?_ ?_ ?_, fun k hk => ?_, fun k hk => ?_⟩
  · intro j hj hu
    obtain ⟨k, hk, rfl⟩ := w7 j hj hu
    obtain ⟨u, a, c1, c2, c3, c4, c5, c6, c7, c8⟩ := base k hk
    rw [c1, c2, c3, nI_l (by omega), nI_l (by omega), show (1000 : Int64) * lN a = lN (1000 * a) from lN_mul 1000 a, lN_add]
  · intro j hj hu
    obtain ⟨k, hk, rfl⟩ := w7 j hj hu
    obtain ⟨u, a, c1, c2, c3, c4, c5, c6, c7, c8⟩ := base k hk
    omega
  · intro j hj hu
    obtain ⟨k, hk, rfl⟩ := w7 j hj hu
    obtain ⟨u, a, c1, c2, c3, c4, c5, c6, c7, c8⟩ := base k hk
    rw [c8]
    exact (w5 k hk).2.2.1
  · intro j hj hu
    obtain ⟨k, hk, rfl⟩ := w7 j hj hu
    obtain ⟨u, a, c1, c2, c3, c4, c5, c6, c7, c8⟩ := base k hk
    have := (w5 k hk).2.2.2.1
    omega
  · obtain ⟨u, a, c1, c2, c3, c4, c5, c6, c7, c8⟩ := base k hk
    rw [c3]
    exact ⟨c7, c6, by omega⟩
  · obtain ⟨u, a, c1, c2, c3, c4, c5, c6, c7, c8⟩ := base k hk
    exact c8
theorem RFx.gm {σ τ : St} {t l z : Nat} {q r : Nat → Nat} (hX : RFx σ τ t l z q r) (hl : l < 2147483648) (ht : t ≤ 2000000000) : GmF τ ∧ (∀ k, k < z → (σ 7 (frw σ k) 3) + 15000 = nI (dgA τ (q k)) ∧ t ≤ dgA τ (q k) ∧ dgA τ (q k) < 2147483648) ∧ (∀ k, k < z → dgO τ (q k) = r k) ∧ (∀ k, k < z → dgA τ (q 0) ≤ dgA τ (q k)) := by
  obtain ⟨w1, w2, w3, w5, w6, w7, w8, w9⟩ := hX
  have base : ∀ k, k < z → ∃ u : Nat, (τ 18 (q k) 5) = nI u ∧ dgA τ (q k) = u + 15000 ∧ u ≤ t ∧ t ≤ u + 15000 ∧ (σ 7 (frw σ k) 3) + 15000 = nI (u + 15000) ∧ dgO τ (q k) = r k := by
    intro k hk
    obtain ⟨a1, a2, a3, a4, b1, b2, b3, b4, b5, b6, b7, u, rr, c1, c2, c3, c4⟩ := w5 k hk
    refine ⟨u, c1, ?_, c2, c3, ?_, ?_⟩
    · unfold dgA; rw [c1, cl (by omega)]
    · rw [b4, c1]; exact nI_add u 15000
    · unfold dgO; rw [a3, cl (by omega)]
  refine ⟨GmF.mk ?_ ?_ ?_ ?_, fun k hk => ?_, fun k hk => ?_, fun k hk => ?_⟩
  · intro j hj hu
    obtain ⟨k, hk, rfl⟩ := w7 j hj hu
    obtain ⟨u, c1, c3, c4, c5, c6, c7⟩ := base k hk
    rw [c1, c3, nI_l (by omega)]
    exact lN_add u 15000
  · intro j hj hu
    obtain ⟨k, hk, rfl⟩ := w7 j hj hu
    obtain ⟨u, c1, c3, c4, c5, c6, c7⟩ := base k hk
    omega
  · intro j hj hu
    obtain ⟨k, hk, rfl⟩ := w7 j hj hu
    obtain ⟨u, c1, c3, c4, c5, c6, c7⟩ := base k hk
    rw [c7]
    exact (w5 k hk).2.2.1
  · intro j hj hu
    obtain ⟨k, hk, rfl⟩ := w7 j hj hu
    obtain ⟨u, c1, c3, c4, c5, c6, c7⟩ := base k hk
    have := (w5 k hk).2.2.2.1
    omega
  · obtain ⟨u, c1, c3, c4, c5, c6, c7⟩ := base k hk
    rw [c3]
    exact ⟨c6, c5, by omega⟩
  · obtain ⟨u, c1, c3, c4, c5, c6, c7⟩ := base k hk
    exact c7
  · by_cases e : k = 0
    · rw [e]; exact Nat.le_refl _
    · obtain ⟨u, c1, c3, c4, c5, c6, c7⟩ := base k hk
      obtain ⟨u', c1', c3', c4', c5', c6', c7'⟩ := base 0 (by omega)
      have y := (w6 0 k (by omega) hk).2
      rw [c1, c1'] at y
      have := (nI_leI (by omega) (by omega)).mp y
      omega
theorem s14_life {σ τ : St} {t i : Nat} {c : CK} {Q : Int64 → Prop} (h : RCn σ τ t i c) (hl : RCl σ τ t i c) (ht : t ≤ 2000000000) (h1 : ∀ v : Nat, (σ 11 i 33) ≠ 0 → (σ 11 i 31) = nI v → t ≤ v → v < 2147483648 → Q (lN v)) (h0 : (σ 11 i 33) = 0 → Q 9223372036854775807) : w14_life τ i Q := by
  have q1 := h.s8
  have q2 := h.d1
  have q3 := h.bb
  have q4 := h.ax
  have q5 := h.xe
  have q6 := h.f1
  have q7 := h.ua
  have ne : ∀ k : Nat, k ≤ 8 → (c 0) ≠ k → ¬ nI (c 0) = nI k := fun k hk hn z => hn ((nI_eq (by omega) (by omega)).mp z)
  unfold w14_life
  rw [h.est']
  by_cases c6 : (c 0) = 6
  · obtain ⟨on, sn, a1, a2, a3, a4⟩ := hl.l4 (Or.inr c6)
    refine br_t (by rw [c6]; rfl) ?_
    rw [show τ 15 i 45 = nI sn from a1, nI_l (by omega), show lN sn + 60000 = lN (sn + 60000) from lN_add sn 60000]
    exact h1 _ on a2 a4 (by omega)
  refine br_f (ne 6 (by omega) c6) ?_
  by_cases c4 : (c 0) = 4
  · obtain ⟨on, sn, a1, a2, a3, a4⟩ := hl.l4 (Or.inl c4)
    refine br_u (by rw [c4]; rfl) ?_
    rw [show τ 15 i 45 = nI sn from a1, nI_l (by omega), show lN sn + 60000 = lN (sn + 60000) from lN_add sn 60000]
    exact h1 _ on a2 a4 (by omega)
  refine br_v (ne 4 (by omega) c4) ?_
  unfold w14_isIdle
  rw [h.est', h.ed', h.eun', h.emx']
  by_cases c2 : (c 0) = 2
  rotate_left
  · exact br_v (ne 2 (by omega) c2) (br_t rfl (h0 (hl.l0 c2 c4 c6)))
  have l2 := hl.l2 c2
  have no : ¬ ((c 17) = 0 ∧ (c 3) = (c 1) + (c 5) ∧ (c 4) = (c 2)) → Q 9223372036854775807 := fun z => h0 (Classical.byContradiction fun y => z (l2.mp y))
  refine br_u (by rw [c2]; rfl) (fun _ => ?_)
  by_cases cd : (c 17) = 0
  rotate_left
  · exact br_v (nI_ne0 (by omega) (by omega)) (br_t rfl (no (fun z => cd z.1)))
  refine br_u (by rw [cd]; rfl) ?_
  have e9 := so_9 ((τ 15 i 3)) (a := (c 2)) (b := (c 4)) (by omega) (by omega)
  by_cases cx : (c 2) = (c 4)
  rotate_left
  · exact br_v (fun z => cx (e9.mp z)) (br_t rfl (no (fun z => cx z.2.2.symm)))
  refine br_u (e9.mpr cx) (s15_left h ?_)
  by_cases ca : (c 1) + (c 5) + (c 17) - (c 3) = 0
  rotate_left
  · exact br_v (nI_ne0 (by omega) (by omega)) (br_t rfl (no (fun z => ca (by omega))))
  rw [ca]
  have hbu := h.bu (by omega)
  have on : (σ 11 i 33) ≠ 0 := l2.mpr ⟨cd, by omega, by omega⟩
  obtain ⟨ac, a1, a2, a3, a4⟩ := hl.l2' c2 on
  obtain ⟨ac', b1, b2, b3⟩ := h.eac (by omega)
  have : ac' = ac := by
    rw [b1] at a1
    exact (nI_eq (by omega) (by omega)).mp a1
  refine br_u rfl (br_f (by decide) ?_)
  rw [show τ 15 i 44 = nI ac' from b2, nI_l (by omega), this, show lN ac + 30000 = lN (ac + 30000) from lN_add ac 30000]
  exact h1 _ on a2 a3 (by omega)
def cT (τ : St) (i : Nat) : Nat := ((τ 15 i 22)).toNatClampNeg
def cL (σ : St) (i : Nat) : Nat := if (σ 11 i 33) = 0 then 9223372036854775807 else ((σ 11 i 31)).toNatClampNeg
theorem RZ.cn {σ τ : St} {t l b B : Nat} (hZ : RZ σ τ t l b B) (ht : t ≤ 2000000000) : CnF τ (cT τ) (cL σ) ∧ (∀ i, i < 16 → ((σ 11 i 29) ≠ 0 ↔ (τ 15 i 0) ≠ 0 ∧ (τ 15 i 21) ≠ 0)) ∧ (∀ i, i < 16 → (σ 11 i 29) ≠ 0 → (σ 11 i 30) = nI (cT τ i) ∧ t ≤ cT τ i ∧ cT τ i < 2147483648) ∧ (∀ i, i < 16 → (σ 11 i 33) ≠ 0 → (τ 15 i 0) ≠ 0 ∧ (σ 11 i 31) = nI (cL σ i) ∧ t ≤ cL σ i ∧ cL σ i < 2147483648) := by
  have key : ∀ i, i < 16 → ((τ 15 i 0) = 0 ∧ (σ 11 i 29) = 0 ∧ (σ 11 i 33) = 0) ∨ ((τ 15 i 0) ≠ 0 ∧ (σ 11 i 29) = (τ 15 i 21) ∧ ((σ 11 i 29) ≠ 0 → (τ 15 i 22) = nI (cT τ i) ∧ (σ 11 i 30) = nI (cT τ i) ∧ t ≤ cT τ i ∧ cT τ i < 2147483648) ∧ (∀ Q : Int64 → Prop, Q (lN (cL σ i)) → w14_life τ i Q) ∧ cL σ i < 9223372036854775808 ∧ ((σ 11 i 33) ≠ 0 → (σ 11 i 31) = nI (cL σ i) ∧ t ≤ cL σ i ∧ cL σ i < 2147483648)) := by
    intro i hi
    rcases hZ.pl i hi with z | ⟨c, h, hl, _⟩
    · exact Or.inl ⟨z.2.1, z.2.2.1, z.2.2.2.1⟩
    have q1 := h.s1
    have q8 := h.s8
    refine Or.inr ⟨by rw [h.est']; exact nI_ne0 (by omega) (by omega), h.eto, fun on => ?_, fun Q hq => ?_, ?_, fun on => ?_⟩
    · obtain ⟨tm, a1, a2, a3, a4⟩ := h.etm on
      have e : cT τ i = tm := by unfold cT; rw [a2, cl (by omega)]
      rw [e]
      exact ⟨a2, a1, a3, by omega⟩
    · refine s14_life h hl ht (fun v on e a b => ?_) (fun off => ?_)
      · unfold cL at hq
        rw [if_neg on, e, cl (by omega)] at hq
        exact hq
      · unfold cL at hq
        rw [if_pos off] at hq
        exact hq
    · unfold cL
      by_cases on : (σ 11 i 33) = 0
      · rw [if_pos on]; decide
      · rw [if_neg on]
        have := Int32.toNatClampNeg_lt ((σ 11 i 31))
        omega
    · have g : ∃ v : Nat, (σ 11 i 31) = nI v ∧ t ≤ v ∧ v < 2147483648 := by
        by_cases c2 : (c 0) = 2
        · obtain ⟨ac, a1, a2, a3, a4⟩ := hl.l2' c2 on
          exact ⟨_, a2, a3, by omega⟩
        by_cases c46 : (c 0) = 4 ∨ (c 0) = 6
        · obtain ⟨_, sn, a1, a2, a3, a4⟩ := hl.l4 c46
          exact ⟨_, a2, a4, by omega⟩
        · exact absurd (hl.l0 c2 (fun z => c46 (Or.inl z)) (fun z => c46 (Or.inr z))) on
      obtain ⟨v, a1, a2, a3⟩ := g
      have e : cL σ i = v := by unfold cL; rw [if_neg on, a1, cl (by omega)]
      rw [e]
      exact ⟨a1, a2, a3⟩
  refine ⟨CnF.mk ?_ ?_ ?_ ?_, fun i hi => ?_, fun i hi on => ?_, fun i hi on => ?_⟩
  · intro i hi hs on
    rcases key i hi with z | ⟨y1, y2, y3, y4, y5, y6⟩
    · exact absurd z.1 hs
    · obtain ⟨x1, x2, x3, x4⟩ := y3 (by rw [y2]; exact on)
      rw [x1, nI_l (by omega)]
  · intro i hi hs on
    rcases key i hi with z | ⟨y1, y2, y3, y4, y5, y6⟩
    · exact absurd z.1 hs
    · exact (y3 (by rw [y2]; exact on)).2.2.2
  · intro i hi hs
    rcases key i hi with z | ⟨y1, y2, y3, y4, y5, y6⟩
    · exact absurd z.1 hs
    · exact y4
  · intro i hi hs
    rcases key i hi with z | ⟨y1, y2, y3, y4, y5, y6⟩
    · exact absurd z.1 hs
    · exact y5
  · rcases key i hi with z | ⟨y1, y2, y3, y4, y5, y6⟩
    · rw [z.1, z.2.1]; simp
    · rw [y2]; exact ⟨fun w => ⟨y1, w⟩, fun w => w.2⟩
  · rcases key i hi with z | ⟨y1, y2, y3, y4, y5, y6⟩
    · exact absurd z.2.1 on
    · exact (y3 on).2
  · rcases key i hi with z | ⟨y1, y2, y3, y4, y5, y6⟩
    · exact absurd z.2.2 on
    · exact ⟨y1, y6 on⟩
