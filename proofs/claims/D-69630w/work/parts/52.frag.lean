/-! fragments: what each side does with one -/
set_option maxRecDepth 100000
theorem imax_n {a b : Nat} (ha : a < 2147483648) (hb : b < 2147483648) : imax (nI a) (nI b) = nI (max a b) := by
  unfold imax
  by_cases c : a < b
  · rw [if_pos (nI_lt c (by omega)), Nat.max_eq_right (by omega)]
  · rw [if_neg (nI_nlt (by omega) (by omega)), Nat.max_eq_left (by omega)]
theorem imin_n {a b : Nat} (ha : a < 2147483648) (hb : b < 2147483648) : imin (nI a) (nI b) = nI (min a b) := by
  unfold imin
  by_cases c : b < a
  · rw [if_pos (nI_lt c (by omega)), Nat.min_eq_right (by omega)]
  · rw [if_neg (nI_nlt (by omega) (by omega)), Nat.min_eq_left (by omega)]
def frw (σ : St) (k : Nat) : Nat := ((σ 37 0) k).toNatClampNeg
def RPf (σ : St) : Prop := (∀ k, k < 4 → frw σ k < 4) ∧ ∀ k k', k < 4 → k' < 4 → frw σ k = frw σ k' → k = k'
theorem s6_find_L {σ : St} {x1 x2 x3 : Int32} {z : Nat} {Q K : Int32 → Prop} (hz : (σ 6 0 1) = nI z) (hz4 : z ≤ 4) (hp : ∀ k, k < 4 → frw σ k < 4) : ∀ (m j : Nat), j + m = z → K (nI (scan (fun j => decide (¬ (σ 7 (frw σ j) 0 = x1 ∧ σ 7 (frw σ j) 1 = x2 ∧ σ 7 (frw σ j) 2 = x3))) m j)) → w6_find_L3 σ x1 x2 x3 Q K (m + 1) (nI j) := by
  intro m
  induction m with
  | zero =>
    intro j hj hK
    exact br_t (by rw [hz]; exact nI_le (by omega) (by omega)) hK
  | succ m ih =>
    intro j hj hK
    refine br_f (by rw [hz]; exact nI_ge (by omega) (by omega)) ⟨vin (by omega) (by omega), ?_⟩
    rw [cl (by omega), nI_1]
    refine ⟨hp j (by omega), ?_⟩
    show (¬ σ 7 (frw σ j) 0 = x1 → _) ∧ (σ 7 (frw σ j) 0 = x1 → _ ∧ _ ∧ ((¬ σ 7 (frw σ j) 1 = x2 → _) ∧ (σ 7 (frw σ j) 1 = x2 → _ ∧ _ ∧ ((σ 7 (frw σ j) 2 = x3 → _) ∧ (¬ σ 7 (frw σ j) 2 = x3 → _)))))
    by_cases c : σ 7 (frw σ j) 0 = x1 ∧ σ 7 (frw σ j) 1 = x2 ∧ σ 7 (frw σ j) 2 = x3
    · rw [scan_f _ (decide_eq_false (fun h => h c))] at hK
      exact br_u c.1 ⟨vin (by omega) (by omega), hp j (by omega), br_u c.2.1 ⟨vin (by omega) (by omega), hp j (by omega), br_t c.2.2 hK⟩⟩
    · rw [scan_t _ (decide_eq_true c)] at hK
      have nx := ih (j + 1) (by omega) hK
      by_cases c1 : σ 7 (frw σ j) 0 = x1
      · refine br_u c1 ⟨vin (by omega) (by omega), hp j (by omega), ?_⟩
        by_cases c2 : σ 7 (frw σ j) 1 = x2
        · refine br_u c2 ⟨vin (by omega) (by omega), hp j (by omega), br_f (fun c3 => c ⟨c1, c2, c3⟩) nx⟩
        · exact br_v c2 nx
      · exact br_v c1 nx
/-- from m places down: the last that holds -/
def fm (P : Nat → Bool) : Nat → Option Nat → Option Nat
  | 0, p => p
  | m + 1, p => fm P m (if P m then some m else p)
theorem fm_some (P : Nat → Bool) : ∀ (m : Nat) (p : Option Nat) (j : Nat), fm P m p = some j → p = some j ∨ j < m ∧ P j = true := by
  intro m
  induction m with
  | zero => intro p j h; exact Or.inl h
  | succ m ih =>
    intro p j h
    rcases ih _ _ h with h1 | h1
    · by_cases c : P m = true
      · rw [if_pos c] at h1
        cases h1
        exact Or.inr ⟨by omega, c⟩
      · rw [if_neg c] at h1
        exact Or.inl h1
    · exact Or.inr ⟨by omega, h1.2⟩
theorem fm_none (P : Nat → Bool) : ∀ (m : Nat) (p : Option Nat), fm P m p = none → p = none ∧ ∀ j, j < m → P j = false := by
  intro m
  induction m with
  | zero => intro p h; exact ⟨h, fun j hj => by omega⟩
  | succ m ih =>
    intro p h
    obtain ⟨h1, h2⟩ := ih _ h
    by_cases c : P m = true
    · rw [if_pos c] at h1; cases h1
    · rw [if_neg c] at h1
      refine ⟨h1, fun j hj => ?_⟩
      by_cases e : j = m
      · rw [e]; exact Bool.not_eq_true _ ▸ c
      · exact h2 j (by omega)
theorem s14_fragment_L17 {τ : St} {x1 x2 x3 x4 x5 x6 x7 : Int32} {Q : St → Prop} {K : Option Nat → Option Nat → Prop} : ∀ (m : Nat) (p8 p9 : Option Nat), m ≤ 4 → K (fm (fun j => decide ((τ 18 j 0) ≠ 0 ∧ (τ 18 j 1) = x1 ∧ (τ 18 j 2) = x7 ∧ (τ 18 j 3) = x2)) m p8) (fm (fun j => decide ((τ 18 j 0) = 0)) m p9) → w14_fragment_L17 τ x1 x2 x3 x4 x5 x6 x7 Q K (m + 1) p8 p9 (nI m + (-1)) := by
  intro m
  induction m with
  | zero =>
    intro p8 p9 _ hK
    exact br_t (by decide) hK
  | succ m ih =>
    intro p8 p9 hm hK
    rw [pk_m1]
    refine br_f (by intro z; exact absurd z (by
      have := nI_le (a := 0) (b := m) (by omega) (by omega)
      exact nI_nlt (a := m) (b := 0) (by omega) (by omega))) ⟨vin (by omega) (by omega), fun _ => ?_⟩
    rw [cl (by omega)]
    simp only [fm] at hK
    by_cases c : (τ 18 m 0) = 0
    · rw [if_neg (by simp [c]), if_pos (decide_eq_true c)] at hK
      exact br_u c (ih _ _ (by omega) hK)
    · rw [if_neg (c := decide ((τ 18 m 0) = 0) = true) (by simp [c])] at hK
      refine br_v c ?_
      by_cases c1 : (τ 18 m 1) = x1
      · by_cases c2 : (τ 18 m 2) = x7
        · by_cases c3 : (τ 18 m 3) = x2
          · rw [if_pos (decide_eq_true ⟨c, c1, c2, c3⟩)] at hK
            exact br_u c1 (br_u c2 (br_u c3 (ih _ _ (by omega) hK)))
          · rw [if_neg (by simp [c3])] at hK
            exact br_u c1 (br_u c2 (br_v c3 (ih _ _ (by omega) hK)))
        · rw [if_neg (by simp [c2])] at hK
          exact br_u c1 (br_v c2 (ih _ _ (by omega) hK))
      · rw [if_neg (by simp [c1])] at hK
        exact br_v c1 (ih _ _ (by omega) hK)
/-- both clear what is there -/
theorem s7_begin_L {o0 : Nat} {Q K : St → Prop} (σ0 : St) (hK : ∀ σ', Fr (mF [] [(39, o0)] [] []) σ0 σ' → (∀ i, σ' 39 o0 i = if i < 4096 then 0 else σ0 39 o0 i) → K σ') : ∀ (m j : Nat) (σ : St), j + m = 4096 → Fr (mF [] [(39, o0)] [] []) σ0 σ → (∀ i, σ 39 o0 i = if i < j then 0 else σ0 39 o0 i) → w7_begin_L34 o0 Q K (m + 1) σ (nI j) := by
  intro m
  induction m with
  | zero =>
    intro j σ hj f h
    exact br_t (nI_le (a := 4096) (by omega) (by omega)) (hK σ f (fun i => by rw [h i, show j = 4096 by omega]))
  | succ m ih =>
    intro j σ hj f h
    refine br_f (nI_ge (b := 4096) (by omega) (by decide)) ⟨vin (by omega) (by omega), fun s1 e1 => ?_⟩
    rw [cl (by omega)] at e1
    rw [nI_1]
    refine ih (j + 1) s1 (by omega) (by rw [e1]; exact f.up (by simp [mF])) (fun i => ?_)
    rw [e1, up3_g]
    by_cases c : i = j
    · rw [if_pos ⟨rfl, rfl, c⟩, if_pos (by omega)]
    · rw [if_neg (fun z => c z.2.2), h i]
      by_cases c2 : i < j
      · rw [if_pos c2, if_pos (by omega)]
      · rw [if_neg c2, if_neg (by omega)]
theorem s14_fragment_L161 {x1 x2 x3 x4 x5 x6 : Int32} {o0 : Nat} {Q K : St → Prop} (σ0 : St) (hK : ∀ σ', Fr (mF [] [(70, o0)] [] []) σ0 σ' → (∀ i, σ' 70 o0 i = if i < 4096 then 0 else σ0 70 o0 i) → K σ') : ∀ (m j : Nat) (σ : St), j + m = 4096 → Fr (mF [] [(70, o0)] [] []) σ0 σ → (∀ i, σ 70 o0 i = if i < j then 0 else σ0 70 o0 i) → w14_fragment_L161 x1 x2 x3 x4 x5 x6 o0 Q K (m + 1) σ (nI j) := by
  intro m
  induction m with
  | zero =>
    intro j σ hj f h
    exact br_t (nI_le (a := 4096) (by omega) (by omega)) (hK σ f (fun i => by rw [h i, show j = 4096 by omega]))
  | succ m ih =>
    intro j σ hj f h
    refine br_f (nI_ge (b := 4096) (by omega) (by decide)) ⟨vin (by omega) (by omega), fun s1 e1 => ?_⟩
    rw [cl (by omega)] at e1
    rw [nI_1]
    refine ih (j + 1) s1 (by omega) (by rw [e1]; exact f.up (by simp [mF])) (fun i => ?_)
    rw [e1, up3_g]
    by_cases c : i = j
    · rw [if_pos ⟨rfl, rfl, c⟩, if_pos (by omega)]
    · rw [if_neg (fun z => c z.2.2), h i]
      by_cases c2 : i < j
      · rw [if_pos c2, if_pos (by omega)]
      · rw [if_neg c2, if_neg (by omega)]
/-- both put the bytes in that are not there -/
theorem s7_add_L {o0 k i at_ off n : Nat} {x6 : Int32} {Q : Int32 → St → Prop} {K : St → Prop} (σ0 : St) (hk : k ≠ 38 ∧ k ≠ 39) (hk90 : alen σ0 k i < 100000) (hno : off + n ≤ 4096) (hat : at_ + n ≤ alen σ0 k i)
    (hK : ∀ σ', Fr (mF [] [(38, o0), (39, o0)] [] []) σ0 σ' → (∀ a, σ' 39 o0 a = if off ≤ a ∧ a < off + n then 1 else σ0 39 o0 a) → (∀ a, σ' 38 o0 a = if off ≤ a ∧ a < off + n ∧ σ0 39 o0 a = 0 then σ0 k i (at_ + (a - off)) else σ0 38 o0 a) → K σ') :
    ∀ (m j : Nat) (σ : St), j + m = n → Fr (mF [] [(38, o0), (39, o0)] [] []) σ0 σ → (∀ a, σ 39 o0 a = if off ≤ a ∧ a < off + j then 1 else σ0 39 o0 a) → (∀ a, σ 38 o0 a = if off ≤ a ∧ a < off + j ∧ σ0 39 o0 a = 0 then σ0 k i (at_ + (a - off)) else σ0 38 o0 a) → w7_add_L73 o0 k i (nI at_) (nI off) (nI n) x6 Q K (m + 1) σ (nI j) := by
  intro m
  induction m with
  | zero =>
    intro j σ hj f h1 h2
    have e : j = n := by omega
    subst e
    exact br_t (nI_le (by omega) (by omega)) (hK σ f h1 h2)
  | succ m ih =>
    intro j σ hj f h1 h2
    refine br_f (nI_ge (by omega) (by omega)) ?_
    rw [nI_add, nI_add, nI_1, cl (by omega), cl (by omega)]
    have ral : alen σ k i = alen σ0 k i := by
      unfold alen
      rw [f.row (k := 90) (i := 0) (fun j => by simp [mF]), f.row (k := 90) (i := i + 1) (fun j => by simp [mF])]
    have rk : σ k i = σ0 k i := f.row (fun j => by simp [mF, Ne.symm hk.1, Ne.symm hk.2])
    refine ⟨vin (by omega) (by omega), fun _ => ?_⟩
    have e39 : σ 39 o0 (off + j) = σ0 39 o0 (off + j) := by rw [h1 _, if_neg (by omega)]
    rw [e39]
    have n39 : ∀ (s : St), s 39 o0 = va_up (σ 39 o0) (off + j) 1 → ∀ a, s 39 o0 a = if off ≤ a ∧ a < off + (j + 1) then 1 else σ0 39 o0 a := by
      intro s hs a
      rw [hs, vu_g]
      by_cases c : a = off + j
      · rw [if_pos c, if_pos (by omega)]
      · rw [if_neg c, h1 a]
        by_cases c2 : off ≤ a ∧ a < off + j
        · rw [if_pos c2, if_pos (by omega)]
        · rw [if_neg c2, if_neg (by omega)]
    by_cases c : σ0 39 o0 (off + j) = 0
    · refine br_u c ⟨vin (by rw [ral]; omega) (by omega), fun hb => ⟨vin (by omega) (by omega), fun s2 e2 => ⟨vin (by omega) (by omega), fun s3 e3 => ?_⟩⟩⟩
      rw [show (σ k i (at_ + j)).toInt8.toInt32 = σ k i (at_ + j) from hb, rk] at e2
      refine ih (j + 1) s3 (by omega) (by rw [e3, e2]; exact (f.up (by simp [mF])).up (by simp [mF])) (n39 s3 (by rw [e3, up3_r, if_pos ⟨rfl, rfl⟩, e2, up3_r, if_neg (by omega)])) (fun a => ?_)
      rw [e3, up3_g, if_neg (by omega), e2, up3_g]
      by_cases c2 : a = off + j
      · rw [if_pos ⟨rfl, rfl, c2⟩, if_pos ⟨by omega, by omega, by rw [c2]; exact c⟩, c2]
        congr 1
        omega
      · rw [if_neg (fun z => c2 z.2.2), h2 a]
        by_cases c3 : off ≤ a ∧ a < off + j ∧ σ0 39 o0 a = 0
        · rw [if_pos c3, if_pos ⟨c3.1, by omega, c3.2.2⟩]
        · rw [if_neg c3, if_neg (fun z => c3 ⟨z.1, by omega, z.2.2⟩)]
    · refine br_v c ⟨vin (by omega) (by omega), fun s1 e1 => ?_⟩
      refine ih (j + 1) s1 (by omega) (by rw [e1]; exact f.up (by simp [mF])) (n39 s1 (by rw [e1, up3_r, if_pos ⟨rfl, rfl⟩])) (fun a => ?_)
      rw [e1, up3_g, if_neg (by omega), h2 a]
      by_cases c3 : off ≤ a ∧ a < off + j ∧ σ0 39 o0 a = 0
      · rw [if_pos c3, if_pos ⟨c3.1, by omega, c3.2.2⟩]
      · rw [if_neg c3, if_neg (fun z => c3 ⟨z.1, (by
          by_cases e : a = off + j
          · exact absurd (e ▸ z.2.2) c
          · omega), z.2.2⟩)]
theorem s14_fragment_L306 {o0 at_ off n : Nat} {x1 x2 : Int32} {Q K : St → Prop} (σ0 : St) (hno : off + n ≤ 4096) (hat : at_ + n ≤ 65540)
    (hK : ∀ σ', Fr (mF [] [(69, o0), (70, o0)] [] []) σ0 σ' → (∀ a, σ' 70 o0 a = if off ≤ a ∧ a < off + n then 1 else σ0 70 o0 a) → (∀ a, σ' 69 o0 a = if off ≤ a ∧ a < off + n ∧ σ0 70 o0 a = 0 then σ0 50 0 (at_ + (a - off)) else σ0 69 o0 a) → K σ') (hbo : ∀ a, bo (σ0 70 o0 a)) :
    ∀ (m j : Nat) (σ : St), j + m = n → Fr (mF [] [(69, o0), (70, o0)] [] []) σ0 σ → (∀ a, σ 70 o0 a = if off ≤ a ∧ a < off + j then 1 else σ0 70 o0 a) → (∀ a, σ 69 o0 a = if off ≤ a ∧ a < off + j ∧ σ0 70 o0 a = 0 then σ0 50 0 (at_ + (a - off)) else σ0 69 o0 a) → w14_fragment_L306 x1 x2 (nI off) (nI at_) (nI n) o0 Q K (m + 1) σ (nI j) := by
  intro m
  induction m with
  | zero =>
    intro j σ hj f h1 h2
    have e : j = n := by omega
    subst e
    exact br_t (nI_le (by omega) (by omega)) (hK σ f h1 h2)
  | succ m ih =>
    intro j σ hj f h1 h2
    refine br_f (nI_ge (by omega) (by omega)) ?_
    rw [nI_add, nI_add, nI_1, cl (by omega), cl (by omega)]
    have rk : σ 50 0 = σ0 50 0 := f.row (fun j => by simp [mF])
    refine ⟨vin (by omega) (by omega), fun _ => ?_⟩
    have e39 : σ 70 o0 (off + j) = σ0 70 o0 (off + j) := by rw [h1 _, if_neg (by omega)]
    rw [e39]
    by_cases c : σ0 70 o0 (off + j) = 0
    · refine br_u c ⟨vin (by omega) (by omega), fun s2 e2 => ⟨vin (by omega) (by omega), fun hb => ⟨vin (by omega) (by omega), fun s3 e3 => ?_⟩⟩⟩
      rw [show (s2 50 0 (at_ + j)).toInt8.toInt32 = s2 50 0 (at_ + j) from hb] at e3
      rw [show s2 50 0 (at_ + j) = σ0 50 0 (at_ + j) by rw [e2, up3_g, if_neg (by omega), rk]] at e3
      refine ih (j + 1) s3 (by omega) (by rw [e3, e2]; exact (f.up (by simp [mF])).up (by simp [mF])) (fun a => ?_) (fun a => ?_)
      · rw [e3, up3_g, if_neg (by omega), e2, up3_g]
        by_cases c2 : a = off + j
        · rw [if_pos ⟨rfl, rfl, c2⟩, if_pos (by omega)]
        · rw [if_neg (fun z => c2 z.2.2), h1 a]
          by_cases c3 : off ≤ a ∧ a < off + j
          · rw [if_pos c3, if_pos (by omega)]
          · rw [if_neg c3, if_neg (by omega)]
      · rw [e3, up3_g]
        by_cases c2 : a = off + j
        · rw [if_pos ⟨rfl, rfl, c2⟩, if_pos ⟨by omega, by omega, by rw [c2]; exact c⟩, c2]
          congr 1
          omega
        · rw [if_neg (fun z => c2 z.2.2), e2, up3_g, if_neg (by omega), h2 a]
          by_cases c3 : off ≤ a ∧ a < off + j ∧ σ0 70 o0 a = 0
          · rw [if_pos c3, if_pos ⟨c3.1, by omega, c3.2.2⟩]
          · rw [if_neg c3, if_neg (fun z => c3 ⟨z.1, by omega, z.2.2⟩)]
    · have c1 : σ0 70 o0 (off + j) = 1 := by
        rcases hbo (off + j) with h | h
        · exact absurd h c
        · exact h
      refine br_v c (ih (j + 1) σ (by omega) f (fun a => ?_) (fun a => ?_))
      · rw [h1 a]
        by_cases c3 : off ≤ a ∧ a < off + j
        · rw [if_pos c3, if_pos (by omega)]
        · by_cases c2 : a = off + j
          · rw [if_neg c3, if_pos (by omega), c2, c1]
          · rw [if_neg c3, if_neg (by omega)]
      · rw [h2 a]
        by_cases c3 : off ≤ a ∧ a < off + j ∧ σ0 70 o0 a = 0
        · rw [if_pos c3, if_pos ⟨c3.1, by omega, c3.2.2⟩]
        · rw [if_neg c3, if_neg (fun z => c3 ⟨z.1, (by
            by_cases e : a = off + j
            · exact absurd (e ▸ z.2.2) c
            · omega), z.2.2⟩)]
