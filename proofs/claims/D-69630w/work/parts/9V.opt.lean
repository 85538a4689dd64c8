/-! option ~ optionMss -/
set_option maxRecDepth 100000
def omss (f : Nat → Int32) (e : Nat) : Nat → Nat → Nat
  | 0, _ => 536
  | n + 1, k => if e ≤ k ∨ ub (f k) = 0 then 536 else if ub (f k) = 1 then omss f e n (k + 1) else if e ≤ k + 1 ∨ ub (f (k + 1)) < 2 ∨ e < k + ub (f (k + 1)) then 536 else if ub (f k) = 2 ∧ ub (f (k + 1)) = 4 then max 64 (min (twoN f (k + 2)) 1460) else omss f e n (k + ub (f (k + 1)))
theorem omss_b (f : Nat → Int32) (e : Nat) : ∀ n k, 64 ≤ omss f e n k ∧ omss f e n k ≤ 1460 := by
  intro n
  induction n with
  | zero => intro k; unfold omss; omega
  | succ n ih =>
    intro k
    unfold omss
    split
    · omega
    split
    · exact ih _
    split
    · omega
    split
    · omega
    · exact ih _
theorem s10_option_L {σ : St} {f : Nat → Int32} {K I pl e : Nat} {Q : Int32 → Prop} (hK : (σ 10 0 7).toNatClampNeg = K) (hI : (σ 10 0 107).toNatClampNeg = I) (hab : abc K I = true) (hf : ∀ j, j < e → σ K I (pl + j) = f j) (hl : pl + e ≤ alen σ K I) (hp : pl < 100000) (he : e ≤ 60) : ∀ (m k : Nat), e ≤ k + m → k ≤ e → Q (nI (omss f e m k)) → w10_option_L2 σ (nI (pl + e)) Q (Q 536) (Q 536) (fun x3_6 => abc (σ 10 0 7).toNatClampNeg (σ 10 0 107).toNatClampNeg = true ∧ (w19_two σ ((σ 10 0 7).toNatClampNeg) ((σ 10 0 107).toNatClampNeg) (x3_6 + 2) (fun r9 => (Q (imax 64 (imin r9 1460)))))) (Q 536) (m + 1) (nI (pl + k)) := by
  intro m
  induction m with
  | zero => intro k hk hke hq; exact br_t (nI_le (by omega) (by omega)) hq
  | succ m ih =>
    intro k hk hke hq
    unfold omss at hq
    by_cases c0 : e ≤ k
    · rw [if_pos (Or.inl c0)] at hq
      exact br_t (nI_le (by omega) (by omega)) hq
    unfold w10_option_L2
    rw [hK, hI]
    refine br_f (nI_ge (by omega) (by omega)) ⟨hab, vin (by omega) (by omega), fun _ => ?_⟩
    rw [cl (by omega), hf k (by omega), ub_and]
    have u0 := ub_lt (f k)
    have u1 := ub_lt (f (k + 1))
    have e0 : ∀ v, v < 1000 → (nI (ub (f k)) = nI v ↔ ub (f k) = v) := fun v hv => nI_eq (by omega) (by omega)
    by_cases c1 : ub (f k) = 0
    · rw [if_pos (Or.inr c1)] at hq
      exact br_u (by rw [c1]; rfl) hq
    rw [if_neg (by omega)] at hq
    refine br_v (fun z => c1 ((e0 0 (by omega)).mp z)) ?_
    by_cases c2 : ub (f k) = 1
    · rw [if_pos c2] at hq
      refine br_u (by rw [c2]; rfl) ?_
      rw [nI_1, Nat.add_assoc]
      have := ih (k + 1) (by omega) (by omega) hq
      rw [hK, hI] at this
      exact this
    rw [if_neg c2] at hq
    refine br_v (fun z => c2 ((e0 1 (by omega)).mp z)) ?_
    rw [nI_1, Nat.add_assoc]
    have j63 : ∀ x, x < 256 → (x < 2 ∨ e < k + x → Q 536) → (¬ (x < 2 ∨ e < k + x) → ub (f k) = 2 → x = 4 → Q (nI (max 64 (min (twoN f (k + 2)) 1460)))) → (¬ (x < 2 ∨ e < k + x) → ¬ (ub (f k) = 2 ∧ x = 4) → Q (nI (omss f e m (k + x)))) → w10_option_J63 σ (nI (pl + e)) (nI (pl + k)) (nI (ub (f k))) (nI x) Q (fun x3z => w10_option_L2 σ (nI (pl + e)) Q (Q 536) (Q 536) (fun x3_6 => abc K I = true ∧ (w19_two σ K I (x3_6 + 2) (fun r9 => (Q (imax 64 (imin r9 1460)))))) (Q 536) (m + 1) x3z) (Q 536) (fun x3_6 => abc K I = true ∧ (w19_two σ K I (x3_6 + 2) (fun r9 => (Q (imax 64 (imin r9 1460)))))) := by
      intro x hx q0 q1 q2
      unfold w10_option_J63
      by_cases d1 : x < 2
      · exact br_t (nI_lt (b := 2) d1 (by omega)) (q0 (Or.inl d1))
      refine br_f (nI_nlt (b := 2) (by omega) (by omega)) ?_
      rw [nI_add, Nat.add_assoc]
      by_cases d2 : e < k + x
      · exact br_f (nI_ge (by omega) (by omega)) (q0 (Or.inr d2))
      refine br_t (nI_le (by omega) (by omega)) ?_
      have go : ¬ (ub (f k) = 2 ∧ x = 4) → w10_option_L2 σ (nI (pl + e)) Q (Q 536) (Q 536) (fun x3_6 => abc K I = true ∧ (w19_two σ K I (x3_6 + 2) (fun r9 => (Q (imax 64 (imin r9 1460)))))) (Q 536) (m + 1) (nI (pl + (k + x))) := fun d => by
        have := ih (k + x) (by omega) (by omega) (q2 (by omega) d)
        rw [hK, hI] at this
        exact this
      by_cases d3 : ub (f k) = 2
      rotate_left
      · exact br_v (fun z => d3 ((e0 2 (by omega)).mp z)) (go (fun z => d3 z.1))
      refine br_u (by rw [d3]; rfl) ?_
      by_cases d4 : x = 4
      rotate_left
      · exact br_v (fun z => d4 ((nI_eq (b := 4) (by omega) (by omega)).mp z)) (go (fun z => d4 z.2))
      refine br_u (by rw [d4]; rfl) ⟨hab, ?_⟩
      rw [show nI (pl + k) + 2 = nI (pl + (k + 2)) from by rw [← Nat.add_assoc]; exact nI_add _ 2]
      refine s19_two (by omega) (by omega) ?_
      rw [show two (σ K I) (pl + (k + 2)) = two f (k + 2) from two_ext (fun j hj => by rw [Nat.add_assoc, hf _ (by omega)]), two_n]
      have ht := twoN_lt f (k + 2)
      rw [show imin (nI (twoN f (k + 2))) 1460 = nI (min (twoN f (k + 2)) 1460) from imin_n (b := 1460) (by omega) (by omega), show imax 64 (nI (min (twoN f (k + 2)) 1460)) = nI (max 64 (min (twoN f (k + 2)) 1460)) from imax_n (a := 64) (by omega) (by omega)]
      exact q1 (by omega) d3 d4
    by_cases c3 : e ≤ k + 1
    · rw [if_pos (Or.inl c3)] at hq
      exact br_t (nI_le (by omega) (by omega)) (j63 0 (by omega) (fun _ => hq) (fun z => absurd (Or.inl (by omega)) z) (fun z => absurd (Or.inl (by omega)) z))
    refine br_f (nI_ge (by omega) (by omega)) ⟨hab, vin (by omega) (by omega), fun _ => ?_⟩
    rw [cl (by omega), hf (k + 1) (by omega), ub_and]
    refine j63 _ u1 (fun z => ?_) (fun z z1 z2 => ?_) (fun z z1 => ?_)
    · rw [if_pos (by omega)] at hq; exact hq
    · rw [if_neg (by omega), if_pos ⟨z1, z2⟩] at hq; exact hq
    · rw [if_neg (by omega), if_neg z1] at hq; exact hq
theorem s10_option {σ : St} {f : Nat → Int32} {K I pl e : Nat} {Q : Int32 → Prop} (hK : (σ 10 0 7).toNatClampNeg = K) (hI : (σ 10 0 107).toNatClampNeg = I) (hab : abc K I = true) (hf : ∀ j, j < e → σ K I (pl + j) = f j) (hl : pl + e ≤ alen σ K I) (hp : pl < 100000) (he : e ≤ 60) (he2 : 20 ≤ e) (hq : Q (nI (omss f e 40 20))) : w10_option σ (nI (pl + 20)) (nI (pl + e)) Q :=
  ⟨41, s10_option_L hK hI hab hf hl hp he 40 20 (by omega) he2 hq⟩
theorem s14_option_L {s : St} {e : Nat} {Q : Int32 → Prop} (hb : ∀ j, by8 (s 64 0 j)) (h40 : s 14 0 40 = nI e) (he : e ≤ 60) : ∀ (m k : Nat), e ≤ k + m → k ≤ e → Q (nI (omss (s 64 0) e m k)) → w14_optionMss_L3 s Q (Q 536) (Q 536) (Q 536) (fun x1_5 => w14_half s (x1_5 + 2) (fun r7 => (Q (imax 64 (imin 1460 r7))))) (Q 536) (m + 1) (nI k) := by
  intro m
  induction m with
  | zero => intro k hk hke hq; exact br_t (by rw [h40]; exact nI_le (by omega) (by omega)) hq
  | succ m ih =>
    intro k hk hke hq
    unfold omss at hq
    unfold w14_optionMss_L3
    rw [h40]
    by_cases c0 : e ≤ k
    · rw [if_pos (Or.inl c0)] at hq
      exact br_t (nI_le (by omega) (by omega)) hq
    refine br_f (nI_ge (by omega) (by omega)) ⟨vin (by omega) (by omega), fun _ => ?_⟩
    generalize hf : s 64 0 = f at *
    rw [cl (by omega)]
    have u0 := ub_lt (f k)
    have u1 := ub_lt (f (k + 1))
    have e0 : ∀ v, v < 128 → (f k = nI v ↔ ub (f k) = v) := fun v hv => by8_c (hb k) hv
    by_cases c1 : ub (f k) = 0
    · rw [if_pos (Or.inr c1)] at hq
      exact br_u ((e0 0 (by omega)).mpr c1) hq
    rw [if_neg (by omega)] at hq
    refine br_v (fun z => c1 ((e0 0 (by omega)).mp z)) ?_
    by_cases c2 : ub (f k) = 1
    · rw [if_pos c2] at hq
      refine br_u ((e0 1 (by omega)).mpr c2) ?_
      rw [nI_1]
      exact ih (k + 1) (by omega) (by omega) hq
    rw [if_neg c2] at hq
    refine br_v (fun z => c2 ((e0 1 (by omega)).mp z)) ?_
    rw [nI_1]
    by_cases c3 : e ≤ k + 1
    · rw [if_pos (Or.inl c3)] at hq
      exact br_f (nI_nlt (by omega) (by omega)) hq
    refine br_t (nI_lt (by omega) (by omega)) ⟨vin (by omega) (by omega), fun _ => ?_⟩
    rw [cl (by omega), ub_and]
    by_cases c4 : ub (f (k + 1)) < 2
    · rw [if_pos (by omega)] at hq
      exact br_t (nI_lt (b := 2) c4 (by omega)) hq
    refine br_f (nI_nlt (b := 2) (by omega) (by omega)) ?_
    rw [nI_add]
    by_cases c5 : e < k + ub (f (k + 1))
    · rw [if_pos (by omega)] at hq
      exact br_f (nI_ge (by omega) (by omega)) hq
    refine br_t (nI_le (by omega) (by omega)) ?_
    rw [if_neg (by omega)] at hq
    by_cases d3 : ub (f k) = 2
    rotate_left
    · rw [if_neg (by omega)] at hq
      exact br_v (fun z => d3 ((e0 2 (by omega)).mp z)) (ih _ (by omega) (by omega) hq)
    refine br_u ((e0 2 (by omega)).mpr d3) ?_
    by_cases d4 : ub (f (k + 1)) = 4
    rotate_left
    · rw [if_neg (by omega)] at hq
      exact br_v (fun z => d4 ((nI_eq (b := 4) (by omega) (by omega)).mp z)) (ih _ (by omega) (by omega) hq)
    rw [if_pos ⟨d3, d4⟩] at hq
    refine br_u (by rw [d4]; rfl) ?_
    rw [show nI k + 2 = nI (k + 2) from nI_add _ 2]
    refine s14_half (by omega) ?_
    have ht := twoN_lt f (k + 2)
    rw [hf, two_n, show imin 1460 (nI (twoN f (k + 2))) = nI (min 1460 (twoN f (k + 2))) from imin_n (a := 1460) (by omega) (by omega), show imax 64 (nI (min 1460 (twoN f (k + 2)))) = nI (max 64 (min 1460 (twoN f (k + 2)))) from imax_n (a := 64) (by omega) (by omega), Nat.min_comm]
    exact hq
theorem s14_optionMss {s : St} {e : Nat} {Q : Int32 → Prop} (hb : ∀ j, by8 (s 64 0 j)) (h40 : s 14 0 40 = nI e) (he : e ≤ 60) (he2 : 20 ≤ e) (hq : Q (nI (omss (s 64 0) e 40 20))) : w14_optionMss s Q :=
  ⟨41, s14_option_L hb h40 he 40 20 (by omega) he2 hq⟩
