/-! what is due: the component -/
set_option maxRecDepth 100000
def mnw (f : Nat → Int32) (x : Int32) : Nat → Int32
  | 0 => x
  | n + 1 => imin (mnw f x n) (f n)
theorem imin_l (x y : Int32) : imin x y ≤ x := by
  unfold imin
  by_cases c : y < x
  · rw [if_pos c]; exact Int32.le_of_lt c
  · rw [if_neg c]; exact Int32.le_refl x
theorem imin_r (x y : Int32) : imin x y ≤ y := by
  unfold imin
  by_cases c : y < x
  · rw [if_pos c]; exact Int32.le_refl y
  · rw [if_neg c]; exact Int32.not_lt.mp c
theorem imin_o (x y : Int32) : imin x y = x ∨ imin x y = y := by
  unfold imin
  by_cases c : y < x
  · rw [if_pos c]; exact Or.inr rfl
  · rw [if_neg c]; exact Or.inl rfl
theorem mnw_x (f : Nat → Int32) (x : Int32) : ∀ n, mnw f x n ≤ x := by
  intro n
  induction n with
  | zero => exact Int32.le_refl x
  | succ n ih => exact Int32.le_trans (imin_l _ _) ih
theorem mnw_k (f : Nat → Int32) (x : Int32) : ∀ n k, k < n → mnw f x n ≤ f k := by
  intro n
  induction n with
  | zero => intro k hk; omega
  | succ n ih =>
    intro k hk
    by_cases c : k = n
    · rw [c]; exact imin_r _ _
    · exact Int32.le_trans (imin_l _ _) (ih k (by omega))
theorem mnw_o (f : Nat → Int32) (x : Int32) : ∀ n, mnw f x n = x ∨ ∃ k, k < n ∧ mnw f x n = f k := by
  intro n
  induction n with
  | zero => exact Or.inl rfl
  | succ n ih =>
    rcases imin_o (mnw f x n) (f n) with z | z
    · rcases ih with y | ⟨k, y1, y2⟩
      · exact Or.inl (z.trans y)
      · exact Or.inr ⟨k, by omega, z.trans y2⟩
    · exact Or.inr ⟨n, by omega, z⟩
def hD (σ : St) (w : Nat) : Int32 := mnw (wdue σ) 2147483647 w
def fD (σ : St) : Int32 := if (σ 6 0 1) = 0 then 2147483647 else (σ 7 (frw σ 0) 3) + 15000
def tD (σ : St) (i : Nat) : Int32 := if (σ 11 i 29) = 0 then 2147483647 else (σ 11 i 30)
def lD (σ : St) (i : Nat) : Int32 := if (σ 11 i 33) = 0 then 2147483647 else (σ 11 i 31)
def aD (σ : St) (w : Nat) : Int32 := mnw (fun i => imin (tD σ i) (lD σ i)) (imin (hD σ w) (fD σ)) 16
theorem s11_timerDue {σ : St} {i : Nat} {Q : Int32 → Prop} (h : Q (tD σ i)) : w11_timerDue σ i Q := by
  intro _
  unfold tD at h
  by_cases c : (σ 11 i 29) = 0
  · rw [if_pos c] at h; exact br_t c h
  · rw [if_neg c] at h; exact br_f c h
theorem s11_lifeDue {σ : St} {i : Nat} {Q : Int32 → Prop} (h : Q (lD σ i)) : w11_lifeDue σ i Q := by
  intro _
  unfold lD at h
  by_cases c : (σ 11 i 33) = 0
  · rw [if_pos c] at h; exact br_t c h
  · rw [if_neg c] at h; exact br_f c h
theorem s3_due {σ : St} {w : Nat} {Q : Int32 → Prop} (hw : (σ 3 0 9) = nI w) (hw8 : w ≤ 8) (hp : ∀ k, k < 8 → hrw σ k < 8) (hq : Q (hD σ w)) : w3_due σ Q := by
  have L : ∀ (m j : Nat), j + m = w → w3_due_L5 σ Q (fun x => Q x) (m + 1) (mnw (wdue σ) 2147483647 j) (nI j) := by
    intro m
    induction m with
    | zero =>
      intro j hj
      obtain rfl : j = w := by omega
      refine br_t (by rw [hw]; exact nI_le (Nat.le_refl _) (by omega)) hq
    | succ m ih =>
      intro j hj
      refine br_f (by rw [hw]; exact nI_ge (by omega) (by omega)) ⟨vin (by omega) (by omega), ?_⟩
      rw [cl (by omega), nI_1]
      exact ⟨hp j (by omega), ih (j + 1) (by omega)⟩
  exact ⟨w + 1, L w 0 (by omega)⟩
theorem s6_due {σ : St} {Q : Int32 → Prop} (hp : frw σ 0 < 4) (hq : Q (fD σ)) : w6_due σ Q := by
  unfold fD at hq
  by_cases c : (σ 6 0 1) = 0
  · rw [if_pos c] at hq; exact br_u c hq
  · rw [if_neg c] at hq
    exact br_v c ⟨show vp_in (nI 0) 4 from vin (by omega) (by omega), hp, hq⟩
theorem s0_due {σ : St} {w : Nat} {Q : Int32 → Prop} (hw : (σ 3 0 9) = nI w) (hw8 : w ≤ 8) (hp : ∀ k, k < 8 → hrw σ k < 8) (hf : frw σ 0 < 4) (hq : Q (aD σ w)) : w0_due σ Q := by
  refine s3_due hw hw8 hp (s6_due hf ?_)
  have L : ∀ (m j : Nat), j + m = 16 → w0_due_L20 σ Q (fun x => Q x) (m + 1) (mnw (fun i => imin (tD σ i) (lD σ i)) (imin (hD σ w) (fD σ)) j) (nI j) := by
    intro m
    induction m with
    | zero =>
      intro j hj
      obtain rfl : j = 16 := by omega
      exact br_t (nI_le (a := 16) (by omega) (by omega)) hq
    | succ m ih =>
      intro j hj
      refine br_f (nI_ge (b := 16) (by omega) (by omega)) ⟨vin (by omega) (by omega), ?_⟩
      rw [cl (by omega), nI_1]
      exact s11_timerDue ⟨vin (by omega) (by omega), s11_lifeDue (ih (j + 1) (by omega))⟩
  exact ⟨17, L 16 0 (by omega)⟩
/-- what the component does first -/
theorem aD_w {σ : St} {w k : Nat} (hk : k < w) : aD σ w ≤ wdue σ k := Int32.le_trans (mnw_x _ _ _) (Int32.le_trans (imin_l _ _) (mnw_k _ _ _ _ hk))
theorem aD_f {σ : St} {w : Nat} : aD σ w ≤ fD σ := Int32.le_trans (mnw_x _ _ _) (imin_r _ _)
theorem aD_t {σ : St} {w i : Nat} (hi : i < 16) : aD σ w ≤ tD σ i := Int32.le_trans (mnw_k _ _ _ _ hi) (imin_l _ _)
theorem aD_l {σ : St} {w i : Nat} (hi : i < 16) : aD σ w ≤ lD σ i := Int32.le_trans (mnw_k _ _ _ _ hi) (imin_r _ _)
theorem aD_o {σ : St} {w : Nat} : aD σ w = 2147483647 ∨ (∃ k, k < w ∧ aD σ w = wdue σ k) ∨ aD σ w = fD σ ∨ (∃ i, i < 16 ∧ (aD σ w = tD σ i ∨ aD σ w = lD σ i)) := by
  rcases mnw_o (fun i => imin (tD σ i) (lD σ i)) (imin (hD σ w) (fD σ)) 16 with z | ⟨i, hi, z⟩
  · rcases imin_o (hD σ w) (fD σ) with y | y
    · rcases mnw_o (wdue σ) 2147483647 w with x | ⟨k, hk, x⟩
      · exact Or.inl ((z.trans y).trans x)
      · exact Or.inr (Or.inl ⟨k, hk, (z.trans y).trans x⟩)
    · exact Or.inr (Or.inr (Or.inl (z.trans y)))
  · rcases imin_o (tD σ i) (lD σ i) with y | y
    · exact Or.inr (Or.inr (Or.inr ⟨i, hi, Or.inl (z.trans y)⟩))
    · exact Or.inr (Or.inr (Or.inr ⟨i, hi, Or.inr (z.trans y)⟩))
