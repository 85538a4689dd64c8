/-! what is due: the model's connections; what it picks -/
set_option maxRecDepth 100000
def CnF (τ : St) (T Lv : Nat → Nat) : Prop := (∀ i, i < 16 → (τ 15 i 0) ≠ 0 → (τ 15 i 21) ≠ 0 → ((τ 15 i 22)).toInt64 = lN (T i)) ∧ (∀ i, i < 16 → (τ 15 i 0) ≠ 0 → (τ 15 i 21) ≠ 0 → T i < 2147483648) ∧ (∀ i, i < 16 → (τ 15 i 0) ≠ 0 → ∀ Q : Int64 → Prop, Q (lN (Lv i)) → w14_life τ i Q) ∧ (∀ i, i < 16 → (τ 15 i 0) ≠ 0 → Lv i < 9223372036854775808)
theorem CnF.tm {τ : St} {T Lv : Nat → Nat} (h : CnF τ T Lv) : ∀ i, i < 16 → (τ 15 i 0) ≠ 0 → (τ 15 i 21) ≠ 0 → ((τ 15 i 22)).toInt64 = lN (T i) := h.1
theorem CnF.tl {τ : St} {T Lv : Nat → Nat} (h : CnF τ T Lv) : ∀ i, i < 16 → (τ 15 i 0) ≠ 0 → (τ 15 i 21) ≠ 0 → T i < 2147483648 := h.2.1
theorem CnF.lf {τ : St} {T Lv : Nat → Nat} (h : CnF τ T Lv) : ∀ i, i < 16 → (τ 15 i 0) ≠ 0 → ∀ Q : Int64 → Prop, Q (lN (Lv i)) → w14_life τ i Q := h.2.2.1
theorem CnF.ll {τ : St} {T Lv : Nat → Nat} (h : CnF τ T Lv) : ∀ i, i < 16 → (τ 15 i 0) ≠ 0 → Lv i < 9223372036854775808 := h.2.2.2
theorem CnF.mk {τ : St} {T Lv : Nat → Nat} (tm : ∀ i, i < 16 → (τ 15 i 0) ≠ 0 → (τ 15 i 21) ≠ 0 → ((τ 15 i 22)).toInt64 = lN (T i)) (tl : ∀ i, i < 16 → (τ 15 i 0) ≠ 0 → (τ 15 i 21) ≠ 0 → T i < 2147483648) (lf : ∀ i, i < 16 → (τ 15 i 0) ≠ 0 → ∀ Q : Int64 → Prop, Q (lN (Lv i)) → w14_life τ i Q) (ll : ∀ i, i < 16 → (τ 15 i 0) ≠ 0 → Lv i < 9223372036854775808) : CnF τ T Lv := ⟨tm, tl, lf, ll⟩
theorem J255_l {τ : St} {x1 x5 x6 x7 : Int32} {i L Y : Nat} {Q : St → Prop} {K : Int64 → Int32 → Int32 → Int32 → Prop} (hl : ∀ Q : Int64 → Prop, Q (lN L) → w14_life τ i Q) (hL : L < 9223372036854775808) (hY : Y < 9223372036854775808) (h1 : L < Y → K (lN L) 3 x7 (x7 + 1)) (h0 : ¬ L < Y → K (lN Y) x5 x6 (x7 + 1)) : w14_passTo_J255 τ x1 (lN Y) x5 x6 x7 i Q K := by
  refine hl _ ?_
  by_cases c : L < Y
  · exact br_f (fun z => by have := (lcmp_ge hL hY).mp z; omega) (hl _ (h1 c))
  · exact br_t ((lcmp_ge hL hY).mpr (by omega)) (h0 c)
theorem L195_gt {τ : St} {x1 : Int32} {Q : St → Prop} {K : Int64 → Int32 → Int32 → Prop} {D : Nat} {T Lv : Nat → Nat} (hC : CnF τ T Lv) (hgt : ∀ i, i < 16 → (τ 15 i 0) ≠ 0 → (τ 15 i 21) ≠ 0 → D < T i) (hgl : ∀ i, i < 16 → (τ 15 i 0) ≠ 0 → D < Lv i) (hK : ∀ (Y : Nat) (x5 x6 : Int32), D < Y → Y < 9223372036854775808 → K (lN Y) x5 x6) : ∀ (m j Y : Nat) (x5 x6 : Int32), j + m = 16 → D < Y → Y < 9223372036854775808 → w14_passTo_L195 τ x1 Q K (m + 1) (lN Y) x5 x6 (nI j) := by
  intro m
  induction m with
  | zero =>
    intro j Y x5 x6 hj h1 h2
    exact br_t (nI_le (a := 16) (by omega) (by omega)) (hK Y x5 x6 h1 h2)
  | succ m ih =>
    intro j Y x5 x6 hj h1 h2
    refine br_f (nI_ge (b := 16) (by omega) (by omega)) ⟨vin (by omega) (by omega), ?_⟩
    rw [cl (by omega)]
    by_cases c0 : τ 15 j 0 = 0
    · refine br_u c0 ?_
      rw [nI_1]
      exact ih (j + 1) Y x5 x6 (by omega) h1 h2
    refine br_v c0 (fun _ => ?_)
    have gl := hgl j (by omega) c0
    have ll := hC.ll j (by omega) c0
    have rest : ∀ (Y : Nat) (x5 x6 : Int32), D < Y → Y < 9223372036854775808 → w14_passTo_J255 τ x1 (lN Y) x5 x6 (nI j) j Q (fun y3z x5z x6z x7z => w14_passTo_L195 τ x1 Q K (m + 1) y3z x5z x6z x7z) := fun Y x5 x6 a1 a2 =>
      J255_l (hC.lf j (by omega) c0) ll a2 (fun _ => by rw [nI_1]; exact ih (j + 1) _ _ _ (by omega) gl ll) (fun _ => by rw [nI_1]; exact ih (j + 1) _ _ _ (by omega) a1 a2)
    by_cases c1 : τ 15 j 21 = 0
    · exact br_t c1 (rest Y x5 x6 h1 h2)
    refine br_f c1 ?_
    have gt := hgt j (by omega) c0 c1
    have tl := hC.tl j (by omega) c0 c1
    rw [show (τ 15 j 22).toInt64 = lN (T j) from hC.tm j (by omega) c0 c1]
    by_cases c2 : Y ≤ T j
    · exact br_t ((lcmp_ge (by omega) h2).mpr c2) (rest Y x5 x6 h1 h2)
    · exact br_f (fun z => c2 ((lcmp_ge (by omega) h2).mp z)) (rest _ _ _ gt (by omega))
theorem L195_fix {τ : St} {x1 : Int32} {Q : St → Prop} {K : Int64 → Int32 → Int32 → Prop} {D i0 : Nat} {T Lv : Nat → Nat} {x5 x6 : Int32} (hC : CnF τ T Lv) (hD : D < 2147483648) (hgt : ∀ i, i < 16 → i0 ≤ i → (τ 15 i 0) ≠ 0 → (τ 15 i 21) ≠ 0 → D ≤ T i) (hgl : ∀ i, i < 16 → i0 ≤ i → (τ 15 i 0) ≠ 0 → D ≤ Lv i) (hK : K (lN D) x5 x6) : ∀ (m j : Nat), j + m = 16 → i0 ≤ j → w14_passTo_L195 τ x1 Q K (m + 1) (lN D) x5 x6 (nI j) := by
  intro m
  induction m with
  | zero =>
    intro j hj _
    exact br_t (nI_le (a := 16) (by omega) (by omega)) hK
  | succ m ih =>
    intro j hj h0
    refine br_f (nI_ge (b := 16) (by omega) (by omega)) ⟨vin (by omega) (by omega), ?_⟩
    rw [cl (by omega)]
    by_cases c0 : τ 15 j 0 = 0
    · refine br_u c0 ?_
      rw [nI_1]
      exact ih (j + 1) (by omega) (by omega)
    refine br_v c0 (fun _ => ?_)
    have gl := hgl j (by omega) h0 c0
    have ll := hC.ll j (by omega) c0
    have rest : w14_passTo_J255 τ x1 (lN D) x5 x6 (nI j) j Q (fun y3z x5z x6z x7z => w14_passTo_L195 τ x1 Q K (m + 1) y3z x5z x6z x7z) :=
      J255_l (hC.lf j (by omega) c0) ll (by omega) (fun z => by omega) (fun _ => by rw [nI_1]; exact ih (j + 1) (by omega) (by omega))
    by_cases c1 : τ 15 j 21 = 0
    · exact br_t c1 rest
    have gt := hgt j (by omega) h0 c0 c1
    have tl := hC.tl j (by omega) c0 c1
    refine br_f c1 ?_
    rw [show (τ 15 j 22).toInt64 = lN (T j) from hC.tm j (by omega) c0 c1]
    exact br_t ((lcmp_ge (by omega) (by omega)).mpr gt) rest
theorem L195_at {τ : St} {x1 x : Int32} {Q : St → Prop} {K : Int64 → Int32 → Int32 → Prop} {D p : Nat} {T Lv : Nat → Nat} (hC : CnF τ T Lv) (hD : D < 2147483648) (hp : p < 16) (hps : (τ 15 p 0) ≠ 0) (hpx : (x = 2 ∧ (τ 15 p 21) ≠ 0 ∧ T p = D ∧ D ≤ Lv p) ∨ (x = 3 ∧ ((τ 15 p 21) ≠ 0 → D < T p) ∧ Lv p = D)) (hlt : ∀ i, i < p → (τ 15 i 0) ≠ 0 → (τ 15 i 21) ≠ 0 → D < T i) (hll : ∀ i, i < p → (τ 15 i 0) ≠ 0 → D < Lv i) (hgt : ∀ i, i < 16 → p + 1 ≤ i → (τ 15 i 0) ≠ 0 → (τ 15 i 21) ≠ 0 → D ≤ T i) (hgl : ∀ i, i < 16 → p + 1 ≤ i → (τ 15 i 0) ≠ 0 → D ≤ Lv i) (hK : K (lN D) x (nI p)) : ∀ (m j Y : Nat) (x5 x6 : Int32), j + m = 16 → j ≤ p → D < Y → Y < 9223372036854775808 → w14_passTo_L195 τ x1 Q K (m + 1) (lN Y) x5 x6 (nI j) := by
  intro m
  induction m with
  | zero =>
    intro j Y x5 x6 hj h0
    omega
  | succ m ih =>
    intro j Y x5 x6 hj h0 h1 h2
    refine br_f (nI_ge (b := 16) (by omega) (by omega)) ⟨vin (by omega) (by omega), ?_⟩
    rw [cl (by omega)]
    by_cases cp : j = p
    · subst cp
      have ll := hC.ll j hp hps
      have fin := L195_fix (x1 := x1) (Q := Q) (K := K) (i0 := j + 1) hC hD hgt hgl hK m (j + 1) (by omega) (Nat.le_refl _)
      refine br_v hps (fun _ => ?_)
      rcases hpx with ⟨rfl, y1, y2, y3⟩ | ⟨rfl, y1, y2⟩
      · refine br_f y1 ?_
        rw [show (τ 15 j 22).toInt64 = lN (T j) from hC.tm j hp hps y1, y2]
        refine br_f (fun z => by have := (lcmp_ge (by omega) h2).mp z; omega) ?_
        exact J255_l (hC.lf j hp hps) ll (by omega) (fun z => by omega) (fun _ => by rw [nI_1]; exact fin)
      · have rest : ∀ (Y : Nat) (x5 x6 : Int32), D < Y → Y < 9223372036854775808 → w14_passTo_J255 τ x1 (lN Y) x5 x6 (nI j) j Q (fun y3z x5z x6z x7z => w14_passTo_L195 τ x1 Q K (m + 1) y3z x5z x6z x7z) := fun Y x5 x6 a1 a2 =>
          J255_l (hC.lf j hp hps) ll a2 (fun _ => by rw [nI_1, y2]; exact fin) (fun z => by omega)
        by_cases c1 : τ 15 j 21 = 0
        · exact br_t c1 (rest Y x5 x6 h1 h2)
        refine br_f c1 ?_
        have gt := y1 c1
        have tl := hC.tl j hp hps c1
        rw [show (τ 15 j 22).toInt64 = lN (T j) from hC.tm j hp hps c1]
        by_cases c2 : Y ≤ T j
        · exact br_t ((lcmp_ge (by omega) h2).mpr c2) (rest Y x5 x6 h1 h2)
        · exact br_f (fun z => c2 ((lcmp_ge (by omega) h2).mp z)) (rest _ _ _ gt (by omega))
    by_cases c0 : τ 15 j 0 = 0
    · refine br_u c0 ?_
      rw [nI_1]
      exact ih (j + 1) Y x5 x6 (by omega) (by omega) h1 h2
    refine br_v c0 (fun _ => ?_)
    have gl := hll j (by omega) c0
    have ll := hC.ll j (by omega) c0
    have rest : ∀ (Y : Nat) (x5 x6 : Int32), D < Y → Y < 9223372036854775808 → w14_passTo_J255 τ x1 (lN Y) x5 x6 (nI j) j Q (fun y3z x5z x6z x7z => w14_passTo_L195 τ x1 Q K (m + 1) y3z x5z x6z x7z) := fun Y x5 x6 a1 a2 =>
      J255_l (hC.lf j (by omega) c0) ll a2 (fun _ => by rw [nI_1]; exact ih (j + 1) _ _ _ (by omega) (by omega) gl ll) (fun _ => by rw [nI_1]; exact ih (j + 1) _ _ _ (by omega) (by omega) a1 a2)
    by_cases c1 : τ 15 j 21 = 0
    · exact br_t c1 (rest Y x5 x6 h1 h2)
    refine br_f c1 ?_
    have gt := hlt j (by omega) c0 c1
    have tl := hC.tl j (by omega) c0 c1
    rw [show (τ 15 j 22).toInt64 = lN (T j) from hC.tm j (by omega) c0 c1]
    by_cases c2 : Y ≤ T j
    · exact br_t ((lcmp_ge (by omega) h2).mpr c2) (rest Y x5 x6 h1 h2)
    · exact br_f (fun z => c2 ((lcmp_ge (by omega) h2).mp z)) (rest _ _ _ gt (by omega))
/-- what the model picks -/
def pickM (τ : St) (x1 : Int32) (Q : St → Prop) (R : Int64 → Int32 → Int32 → Prop) : Prop := ∃ z7, w14_passTo_L19 τ x1 Q (fun y3_8 x5_8 x6_8 => ∃ z11, w14_passTo_L103 τ x1 Q (fun y3_12 x5_12 x6_12 => ∃ z16, w14_passTo_L195 τ x1 Q (fun y3_17 x5_17 x6_17 => R y3_17 x5_17 x6_17) z16 y3_12 x5_12 x6_12 0) z11 y3_8 x5_8 x6_8 0) z7 9223372036854775807 (-1) 0 0
theorem pick_gt {τ : St} {x1 : Int32} {Q : St → Prop} {R : Int64 → Int32 → Int32 → Prop} {D : Nat} {T Lv : Nat → Nat} (hD : D < 2147483648) (hP : PkF τ) (hG : GmF τ) (hC : CnF τ T Lv) (a1 : ∀ j, j < 8 → (τ 17 j 0) ≠ 0 → D < pA τ j) (a2 : ∀ j, j < 4 → (τ 18 j 0) ≠ 0 → D < dgA τ j) (a3 : ∀ i, i < 16 → (τ 15 i 0) ≠ 0 → (τ 15 i 21) ≠ 0 → D < T i) (a4 : ∀ i, i < 16 → (τ 15 i 0) ≠ 0 → D < Lv i) (hR : ∀ (Y : Nat) (x5 x6 : Int32), D < Y → Y < 9223372036854775808 → R (lN Y) x5 x6) : pickM τ x1 Q R := by
  refine ⟨9, L19_gt (D := D) hP a1 (fun Y x5 x6 y1 y2 y3 => ⟨5, ?_⟩) 8 0 9223372036854775807 (-1) 0 (by omega) (by omega) (by omega) (Or.inl rfl) (fun z => by omega)⟩
  refine L103_gt (D := D) hG a2 (fun Y x5 x6 y1 y2 => ⟨17, ?_⟩) 4 0 Y x5 x6 (by omega) y1 y2 (fun z => ?_)
  · rcases y3 with y | y <;> rw [y] at z <;> exact absurd z (by decide)
  · exact L195_gt (D := D) hC a3 a4 hR 16 0 Y x5 x6 (by omega) y1 y2
theorem pick_a {τ : St} {x1 : Int32} {Q : St → Prop} {R : Int64 → Int32 → Int32 → Prop} {D p : Nat} {T Lv : Nat → Nat} (hD : D < 2147483648) (hP : PkF τ) (hG : GmF τ) (hC : CnF τ T Lv) (hp : p < 8) (hpu : (τ 17 p 0) ≠ 0) (hpD : pA τ p = D) (a1 : ∀ j, j < 8 → (τ 17 j 0) ≠ 0 → D ≤ pA τ j) (hor : ∀ j, j < 8 → (τ 17 j 0) ≠ 0 → j ≠ p → pA τ j = D → pO τ p < pO τ j) (a2 : ∀ j, j < 4 → (τ 18 j 0) ≠ 0 → D ≤ dgA τ j) (a3 : ∀ i, i < 16 → (τ 15 i 0) ≠ 0 → (τ 15 i 21) ≠ 0 → D ≤ T i) (a4 : ∀ i, i < 16 → (τ 15 i 0) ≠ 0 → D ≤ Lv i) (hR : R (lN D) 0 (nI p)) : pickM τ x1 Q R := by
  refine ⟨9, L19_at (D := D) hP hp hpu hpD a1 hor ⟨5, ?_⟩ 8 0 9223372036854775807 (-1) 0 (by omega) (by omega) (fun z => by omega) (fun _ => Or.inl (by omega)) (fun z => by omega)⟩
  refine L103_fix hG hD a2 (by decide) ⟨17, ?_⟩ 4 0 (by omega)
  exact L195_fix (i0 := 0) hC hD (fun i hi _ => a3 i hi) (fun i hi _ => a4 i hi) hR 16 0 (by omega) (by omega)
theorem pick_b {τ : St} {x1 : Int32} {Q : St → Prop} {R : Int64 → Int32 → Int32 → Prop} {D p : Nat} {T Lv : Nat → Nat} (hD : D < 2147483648) (hP : PkF τ) (hG : GmF τ) (hC : CnF τ T Lv) (hp : p < 4) (hpu : (τ 18 p 0) ≠ 0) (hpD : dgA τ p = D) (a1 : ∀ j, j < 8 → (τ 17 j 0) ≠ 0 → D < pA τ j) (a2 : ∀ j, j < 4 → (τ 18 j 0) ≠ 0 → D ≤ dgA τ j) (hor : ∀ j, j < 4 → (τ 18 j 0) ≠ 0 → j ≠ p → dgA τ j = D → dgO τ p < dgO τ j) (a3 : ∀ i, i < 16 → (τ 15 i 0) ≠ 0 → (τ 15 i 21) ≠ 0 → D ≤ T i) (a4 : ∀ i, i < 16 → (τ 15 i 0) ≠ 0 → D ≤ Lv i) (hR : R (lN D) 1 (nI p)) : pickM τ x1 Q R := by
  refine ⟨9, L19_gt (D := D) hP a1 (fun Y x5 x6 y1 y2 y3 => ⟨5, ?_⟩) 8 0 9223372036854775807 (-1) 0 (by omega) (by omega) (by omega) (Or.inl rfl) (fun z => by omega)⟩
  refine L103_at (D := D) hG hp hpu hpD a2 hor ⟨17, ?_⟩ 4 0 Y x5 x6 (by omega) y2 (fun z => ?_) (fun _ => Or.inl y1) (fun z => by omega)
  · rcases y3 with y | y <;> rw [y] at z <;> exact absurd z (by decide)
  · exact L195_fix (i0 := 0) hC hD (fun i hi _ => a3 i hi) (fun i hi _ => a4 i hi) hR 16 0 (by omega) (by omega)
theorem pick_c {τ : St} {x1 x : Int32} {Q : St → Prop} {R : Int64 → Int32 → Int32 → Prop} {D p : Nat} {T Lv : Nat → Nat} (hD : D < 2147483648) (hP : PkF τ) (hG : GmF τ) (hC : CnF τ T Lv) (a1 : ∀ j, j < 8 → (τ 17 j 0) ≠ 0 → D < pA τ j) (a2 : ∀ j, j < 4 → (τ 18 j 0) ≠ 0 → D < dgA τ j) (hp : p < 16) (hps : (τ 15 p 0) ≠ 0) (hpx : (x = 2 ∧ (τ 15 p 21) ≠ 0 ∧ T p = D ∧ D ≤ Lv p) ∨ (x = 3 ∧ ((τ 15 p 21) ≠ 0 → D < T p) ∧ Lv p = D)) (hlt : ∀ i, i < p → (τ 15 i 0) ≠ 0 → (τ 15 i 21) ≠ 0 → D < T i) (hll : ∀ i, i < p → (τ 15 i 0) ≠ 0 → D < Lv i) (a3 : ∀ i, i < 16 → (τ 15 i 0) ≠ 0 → (τ 15 i 21) ≠ 0 → D ≤ T i) (a4 : ∀ i, i < 16 → (τ 15 i 0) ≠ 0 → D ≤ Lv i) (hR : R (lN D) x (nI p)) : pickM τ x1 Q R := by
  refine ⟨9, L19_gt (D := D) hP a1 (fun Y x5 x6 y1 y2 y3 => ⟨5, ?_⟩) 8 0 9223372036854775807 (-1) 0 (by omega) (by omega) (by omega) (Or.inl rfl) (fun z => by omega)⟩
  refine L103_gt (D := D) hG a2 (fun Y x5 x6 y1 y2 => ⟨17, ?_⟩) 4 0 Y x5 x6 (by omega) y1 y2 (fun z => ?_)
  · rcases y3 with y | y <;> rw [y] at z <;> exact absurd z (by decide)
  · exact L195_at (D := D) hC hD hp hps hpx hlt hll (fun i hi _ => a3 i hi) (fun i hi _ => a4 i hi) hR 16 0 Y x5 x6 (by omega) (by omega) y1 y2
