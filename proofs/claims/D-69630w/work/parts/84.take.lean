/-! bytes that are taken out: the walks -/
set_option maxRecDepth 100000
/-- a row that was moved down as far as a place -/
def prr (B : Nat → Int32) (n k : Nat) : Nat → Int32 := fun j => if j < k then B (j + n) else B j
theorem prr_0 (B : Nat → Int32) (n : Nat) : prr B n 0 = B := by funext j; unfold prr; rw [if_neg (by omega)]
theorem prr_s (B : Nat → Int32) (n k : Nat) : va_up (prr B n k) k (prr B n k (k + n)) = prr B n (k + 1) := by
  funext j
  rw [vu_g]
  unfold prr
  by_cases c1 : j = k
  · rw [if_pos c1, if_neg (by omega), if_pos (by omega), c1]
  · rw [if_neg c1]
    by_cases c2 : j < k
    · rw [if_pos c2, if_pos (by omega)]
    · rw [if_neg c2, if_neg (by omega)]
/-- marks that are taken away between two places -/
def clr (T : Nat → Int32) (a k : Nat) : Nat → Int32 := fun j => if a ≤ j ∧ j < k then 0 else T j
theorem clr_0 (T : Nat → Int32) (a : Nat) : clr T a a = T := by funext j; unfold clr; rw [if_neg (by omega)]
theorem clr_s (T : Nat → Int32) {a k : Nat} (h : a ≤ k) : va_up (clr T a k) k 0 = clr T a (k + 1) := by
  funext j
  rw [vu_g]
  unfold clr
  by_cases c1 : j = k
  · rw [if_pos c1, if_pos (by omega)]
  · rw [if_neg c1]
    by_cases c2 : a ≤ j ∧ j < k
    · rw [if_pos c2, if_pos (by omega)]
    · rw [if_neg c2, if_neg (by omega)]
def shB (B : Nat → Int32) (n : Nat) : Nat → Int32 := prr B n (4096 - n)
def shT (T : Nat → Int32) (n : Nat) : Nat → Int32 := clr (prr T n (4096 - n)) (4096 - n) 4096
theorem s12_take_L2 {i n : Nat} {Q K : St → Prop} {B T : Nat → Int32} (hn : n ≤ 4096) : ∀ (m k : Nat) (σ : St), k + m = 4096 - n → σ 42 i = prr B n k → σ 43 i = prr T n k → K (row3 (row3 σ 42 i (prr B n (4096 - n))) 43 i (prr T n (4096 - n))) → w12_take_L2 i (nI n) Q K (m + 1) σ (nI k) := by
  intro m
  induction m with
  | zero =>
    intro k σ hk e1 e2 hK
    have hk' : k = 4096 - n := by omega
    rw [← hk', ← e1, ← e2, rs] at hK
    refine br_t ?_ hK
    rw [nI_add]
    exact nI_le (a := 4096) (by omega) (by omega)
  | succ m ih =>
    intro k σ hk e1 e2 hK
    unfold w12_take_L2
    rw [nI_add, cl (by omega), cl (by omega), nI_1]
    refine br_f (nI_ge (b := 4096) (by omega) (by omega)) ⟨vin (by omega) (by omega), fun hb => ⟨vin (by omega) (by omega), fun s1 d1 => ⟨vin (by omega) (by omega), fun hbo => ⟨vin (by omega) (by omega), hbo, fun s2 d2 => ?_⟩⟩⟩⟩
    rw [show (σ 42 i (k + n)).toInt8.toInt32 = σ 42 i (k + n) from hb] at d1
    have x42 : s2 42 i = prr B n (k + 1) := by
      rw [d2, up3_r, if_neg (by omega), d1, up3_r, if_pos ⟨rfl, rfl⟩, e1, prr_s]
    have x43' : s1 43 i = prr T n k := by rw [d1, up3_r, if_neg (by omega)]; exact e2
    have x43 : s2 43 i = prr T n (k + 1) := by
      rw [d2, up3_r, if_pos ⟨rfl, rfl⟩, x43', prr_s]
    refine ih (k + 1) s2 (by omega) x42 x43 ?_
    have o1 : ∀ k' i', ¬ (k' = 42 ∧ i' = i) → ¬ (k' = 43 ∧ i' = i) → s2 k' i' = σ k' i' := fun k' i' z1 z2 => by rw [d2, up3_r, if_neg z2, d1, up3_r, if_neg z1]
    rw [rr o1]
    exact hK
theorem s12_take_L51 {i a : Nat} {x : Int32} {Q K : St → Prop} {T : Nat → Int32} : ∀ (m k : Nat) (σ : St), k + m = 4096 → a ≤ k → σ 43 i = clr T a k → K (row3 σ 43 i (clr T a 4096)) → w12_take_L51 i x Q K (m + 1) σ (nI k) := by
  intro m
  induction m with
  | zero =>
    intro k σ hk ha e hK
    have hk' : k = 4096 := by omega
    subst hk'
    rw [← e, row3_self] at hK
    exact br_t (nI_le (a := 4096) (by omega) (by omega)) hK
  | succ m ih =>
    intro k σ hk ha e hK
    refine br_f (nI_ge (b := 4096) (by omega) (by omega)) ⟨vin (by omega) (by omega), fun s1 d1 => ?_⟩
    rw [cl (by omega)] at d1
    rw [nI_1]
    refine ih (k + 1) s1 (by omega) (by omega) (by rw [d1, up3_r, if_pos ⟨rfl, rfl⟩, e, clr_s T ha]) ?_
    rw [d1, up3_as, row3_row3]
    exact hK
theorem s12_take {σ : St} {i n hd : Nat} {Q : St → Prop} (hn : n ≤ hd) (hd4 : hd ≤ 4096) (e : (σ 12 i 2) = nI hd) (hq : Q (up3 (row3 (row3 σ 42 i (shB (σ 42 i) n)) 43 i (shT (σ 43 i) n)) 12 i 2 (nI (hd - n)))) : w12_take σ i (nI n) Q := by
  refine ⟨4096 - n + 1, s12_take_L2 (B := σ 42 i) (T := σ 43 i) (by omega) (4096 - n) 0 σ (by omega) (prr_0 _ _).symm (prr_0 _ _).symm ?_⟩
  rw [show (4096 : Int32) - nI n = nI (4096 - n) from pk_sub (a := 4096) (by omega)]
  refine ⟨n + 1, s12_take_L51 (a := 4096 - n) (T := prr (σ 43 i) n (4096 - n)) n (4096 - n) _ (by omega) (Nat.le_refl _) (by rw [row3_s, clr_0]) ?_⟩
  rw [row3_row3]
  intro s8 e8
  rw [row3_o (by omega), row3_o (by omega), e, pk_sub hn] at e8
  rw [e8]
  exact hq
/-- the model's rows on the way -/
def mpB (B : Nat → Int32) (n k : Nat) : Nat → Int32 := fun j => if j < k ∧ j + n < 4096 then B (j + n) else B j
def mpT (T : Nat → Int32) (n k : Nat) : Nat → Int32 := fun j => if j < k then (if j + n < 4096 then T (j + n) else 0) else T j
theorem mpB_0 (B : Nat → Int32) (n : Nat) : mpB B n 0 = B := by funext j; unfold mpB; rw [if_neg (by omega)]
theorem mpT_0 (B : Nat → Int32) (n : Nat) : mpT B n 0 = B := by funext j; unfold mpT; rw [if_neg (by omega)]
theorem mpB_s {B : Nat → Int32} {n k : Nat} (h : k + n < 4096) : va_up (mpB B n k) k (mpB B n k (k + n)) = mpB B n (k + 1) := by
  funext j
  rw [vu_g]
  unfold mpB
  by_cases c1 : j = k
  · rw [if_pos c1, if_neg (by omega), if_pos (by omega), c1]
  · rw [if_neg c1]
    by_cases c2 : j < k ∧ j + n < 4096
    · rw [if_pos c2, if_pos (by omega)]
    · rw [if_neg c2, if_neg (by omega)]
theorem mpB_o {B : Nat → Int32} {n k : Nat} (h : ¬ k + n < 4096) : mpB B n k = mpB B n (k + 1) := by
  funext j
  unfold mpB
  by_cases c2 : j < k ∧ j + n < 4096
  · rw [if_pos c2, if_pos (by omega)]
  · rw [if_neg c2, if_neg (by omega)]
theorem mpT_s {T : Nat → Int32} {n k : Nat} {v : Int32} (h : v = if k + n < 4096 then T (k + n) else 0) : va_up (mpT T n k) k v = mpT T n (k + 1) := by
  funext j
  rw [vu_g]
  unfold mpT
  by_cases c1 : j = k
  · rw [if_pos c1, if_pos (show j < k + 1 by omega), c1]; exact h
  · rw [if_neg c1]
    by_cases c2 : j < k
    · rw [if_pos c2, if_pos (show j < k + 1 by omega)]
    · rw [if_neg c2, if_neg (show ¬ j < k + 1 by omega)]
theorem mpB_e {B : Nat → Int32} {n : Nat} : mpB B n 4096 = shB B n := by
  funext j
  unfold mpB shB prr
  by_cases c : j + n < 4096
  · rw [if_pos (by omega), if_pos (by omega)]
  · rw [if_neg (by omega), if_neg (by omega)]
theorem mpT_e {T : Nat → Int32} {n : Nat} : mpT T n 4096 = shT T n := by
  funext j
  unfold mpT shT clr prr
  by_cases c0 : j < 4096
  · rw [if_pos c0]
    by_cases c : j + n < 4096
    · rw [if_pos c, if_neg (by omega), if_pos (by omega)]
    · rw [if_neg c, if_pos (by omega)]
  · rw [if_neg c0, if_neg (by omega), if_neg (by omega)]
theorem s14_take_L2 {i n : Nat} {Q K : St → Prop} {B T : Nat → Int32} (hn : n ≤ 4096) : ∀ (m k : Nat) (τ : St), k + m = 4096 → τ 72 i = mpB B n k → τ 73 i = mpT T n k → K (row3 (row3 τ 72 i (shB B n)) 73 i (shT T n)) → w14_take_L2 i (nI n) Q K (m + 1) τ (nI k) := by
  intro m
  induction m with
  | zero =>
    intro k τ hk e1 e2 hK
    have hk' : k = 4096 := by omega
    subst hk'
    rw [← mpB_e, ← mpT_e, ← e1, ← e2, rs] at hK
    exact br_t (nI_le (a := 4096) (by omega) (by omega)) hK
  | succ m ih =>
    intro k τ hk e1 e2 hK
    refine br_f (nI_ge (b := 4096) (by omega) (by omega)) ?_
    have nk : nI k + nI n = nI (k + n) := nI_add k n
    rw [nk]
    -- the mark is set; the byte is moved
    have fin : ∀ (s : St) (x4 v : Int32), bo v → (v = if k + n < 4096 then T (k + n) else 0) → s = τ → ((x4 = 0 ∧ ¬ k + n < 4096) ∨ (¬ x4 = 0 ∧ k + n < 4096)) → w14_take_J51 s i (nI n) (nI k) x4 v (nI k) i Q (fun σz x3z => w14_take_L2 i (nI n) Q K (m + 1) σz x3z) := by
      intro s x4 v hbo hv hs hx
      subst hs
      refine ⟨vin (by omega) (by omega), hbo, fun s1 d1 => ?_⟩
      rw [cl (by omega)] at d1
      have y73 : s1 73 i = mpT T n (k + 1) := by rw [d1, up3_r, if_pos ⟨rfl, rfl⟩, e2, mpT_s hv]
      have y72 : s1 72 i = mpB B n k := by rw [d1, up3_r, if_neg (by omega)]; exact e1
      rw [nI_1]
      rcases hx with ⟨x0, hk2⟩ | ⟨x0, hk2⟩
      · refine br_t x0 (ih (k + 1) s1 (by omega) (by rw [y72]; exact mpB_o hk2) y73 ?_)
        have o1 : ∀ k' i', ¬ (k' = 72 ∧ i' = i) → ¬ (k' = 73 ∧ i' = i) → s1 k' i' = s k' i' := fun k' i' z1 z2 => by rw [d1, up3_r, if_neg z2]
        rw [rr o1]
        exact hK
      · refine br_f x0 ?_
        rw [nk, cl (by omega)]
        refine ⟨vin (by omega) (by omega), fun hb => ⟨vin (by omega) (by omega), fun s2 d2 => ?_⟩⟩
        rw [show (s1 72 i (k + n)).toInt8.toInt32 = s1 72 i (k + n) from hb, cl (by omega)] at d2
        refine ih (k + 1) s2 (by omega) (by rw [d2, up3_r, if_pos ⟨rfl, rfl⟩, y72, mpB_s hk2]) (by rw [d2, up3_r, if_neg (by omega)]; exact y73) ?_
        have o1 : ∀ k' i', ¬ (k' = 72 ∧ i' = i) → ¬ (k' = 73 ∧ i' = i) → s2 k' i' = s k' i' := fun k' i' z1 z2 => by rw [d2, up3_r, if_neg z1, d1, up3_r, if_neg z2]
        rw [rr o1]
        exact hK
    by_cases c1 : k + n < 4096
    · refine br_f (nI_ge (b := 4096) (by omega) (by omega)) (br_f (by decide) ?_)
      rw [nk, cl (by omega)]
      refine ⟨vin (by omega) (by omega), fun hb => ?_⟩
      have eT : τ 73 i (k + n) = T (k + n) := by rw [e2]; unfold mpT; rw [if_neg (by omega)]
      by_cases c2 : τ 73 i (k + n) = 0
      · exact br_t c2 (fin τ 1 0 (Or.inl rfl) (by rw [if_pos c1, ← eT, c2]) rfl (Or.inr ⟨by decide, c1⟩))
      · exact br_f c2 (fin τ 1 1 (Or.inr rfl) (by rw [if_pos c1, ← eT]; exact (hb.resolve_left c2).symm) rfl (Or.inr ⟨by decide, c1⟩))
    · refine br_t (nI_le (a := 4096) (by omega) (by omega)) (br_t rfl ?_)
      exact fin τ 0 0 (Or.inl rfl) (by rw [if_neg c1]) rfl (Or.inl ⟨rfl, c1⟩)
theorem s14_take {τ : St} {i n hd td : Nat} {Q : St → Prop} (hn : n ≤ hd) (hd4 : hd ≤ 4096) (htd : td ≤ 4096) (e : mheld τ i hd) (etd : (τ 15 i 37) = nI td)
    (hq : Q (row3 (row3 (row3 τ 72 i (shB (τ 72 i) n)) 73 i (shT (τ 73 i) n)) 15 i (va_up (va_up (τ 15 i) 35 ((τ 15 i 35) + nI n)) 39 (if td + 2048 ≤ 4096 - (hd - n) then 1 else (τ 15 i 39))))) : w14_take τ i (nI n) Q := by
  refine ⟨4096 + 1, s14_take_L2 (B := τ 72 i) (T := τ 73 i) (by omega) 4096 0 τ (by omega) (mpB_0 _ _).symm (mpT_0 _ _).symm ?_⟩
  intro s5 e5
  have r0 : row3 (row3 τ 72 i (shB (τ 72 i) n)) 73 i (shT (τ 73 i) n) 15 i = τ 15 i := by rw [row3_o (by omega), row3_o (by omega)]
  rw [r0] at e5
  have r5 : s5 15 i = (va_up (τ 15 i) 35 ((τ 15 i 35) + nI n)) := by rw [e5, up3_r, if_pos ⟨rfl, rfl⟩, r0]
  have h5 : mheld s5 i (hd - n) := by
    unfold mheld at e ⊢
    rw [r5]
    simp only [vu_g, Nat.reduceEqDiff, reduceIte]
    rw [e, so_5, show n + (hd - n) = hd by omega]
  refine s15_open h5 (by omega) ?_
  have v37 : s5 15 i 37 = nI td := by rw [r5]; simp only [vu_g, Nat.reduceEqDiff, reduceIte]; exact etd
  have v39 : s5 15 i 39 = (τ 15 i 39) := by rw [r5]; simp only [vu_g, Nat.reduceEqDiff, reduceIte]
  rw [v37]
  have ecmp : nI (4096 - (hd - n)) - nI td < 2048 ↔ ¬ td + 2048 ≤ 4096 - (hd - n) := by
    rw [Int32.lt_iff_toInt_lt, sub_toInt (by omega) (by omega)]
    show ((4096 - (hd - n) : Nat) : Int) - (td : Int) < 2048 ↔ _
    omega
  have e5' : s5 = row3 (row3 (row3 τ 72 i (shB (τ 72 i) n)) 73 i (shT (τ 73 i) n)) 15 i (va_up (τ 15 i) 35 ((τ 15 i 35) + nI n)) := by rw [e5, up3_as, r0]
  by_cases c1 : td + 2048 ≤ 4096 - (hd - n)
  · refine br_f (fun z => (ecmp.mp z) c1) (fun s7 e7 => ?_)
    rw [if_pos c1] at hq
    rw [e7, e5', row3_up]
    exact hq
  · refine br_t (ecmp.mpr c1) ?_
    rw [if_neg c1] at hq
    have x39 : (va_up (τ 15 i) 35 ((τ 15 i 35) + nI n)) 39 = (τ 15 i 39) := by simp only [vu_g, Nat.reduceEqDiff, reduceIte]
    rw [vu_eq x39] at hq
    rw [e5']
    exact hq
