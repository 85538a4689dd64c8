/-! an answer, piece by piece -/
set_option maxRecDepth 100000
theorem wC.p {s0 : St} {i : Nat} {l : List Nat} (h : wC s0 i 0) : wC (aC s0 i 0 l) i (l.length) := by
  have := h.a (l := l)
  rwa [Nat.zero_add] at this
theorem aC_p {s0 : St} {i : Nat} {l l' : List Nat} : aC (aC s0 i 0 l) i l.length l' = aC s0 i 0 (l ++ l') := by
  have := aC_aC (σ := s0) (i := i) (L := 0) (l := l) (l' := l')
  rwa [Nat.zero_add] at this
theorem aM_p {s0 : St} {i : Nat} {l l' : List Nat} : aM (aM s0 i 0 l) i l.length l' = aM s0 i 0 (l ++ l') := by
  have := aM_aM (σ := s0) (i := i) (L := 0) (l := l) (l' := l')
  rwa [Nat.zero_add] at this
theorem aM_l {s0 : St} {i : Nat} {l : List Nat} : aM s0 i 0 l 15 i 26 = nI l.length := by
  rw [aM_26, Nat.zero_add]
section PC
variable {s0 : St} {i b : Nat} {l : List Nat} {Q : St → Prop}
theorem p_say {t : Nat} (h : wC s0 i 0) (hl : l.length ≤ b) (hb : b ≤ 440) (ht : t < 83) (hq : (l ++ tl t).length ≤ b + 31 → Q (aC s0 i 0 (l ++ tl t))) : w13_say (aC s0 i 0 l) i t Q := by
  have hs := sn_le t ht
  have h2 := tl_len t
  refine s13_say ht h.p (by omega) ?_
  rw [aC_p]
  exact hq (by rw [List.length_append]; omega)
theorem p_put {u : Nat} (h : wC s0 i 0) (hl : l.length ≤ b) (hb : b ≤ 440) (hu : u < 128) (hq : (l ++ [u]).length ≤ b + 1 → Q (aC s0 i 0 (l ++ [u]))) : w13_put (aC s0 i 0 l) i (nI u) Q := by
  refine s13_put h.p (by omega) hu ?_
  rw [aC_p]
  exact hq (by rw [List.length_append]; show _ + 1 ≤ _; omega)
theorem p_line {t : Nat} (h : wC s0 i 0) (hl : l.length ≤ b) (hb : b ≤ 440) (ht : t < 83) (hq : (l ++ (tl t ++ [13, 10])).length ≤ b + 33 → Q (aC s0 i 0 (l ++ (tl t ++ [13, 10])))) : w13_line (aC s0 i 0 l) i t Q := by
  have hs := sn_le t ht
  have h2 := tl_len t
  refine s13_line ht h.p (by omega) ?_
  rw [aC_p]
  exact hq (by rw [List.length_append, List.length_append]; show _ + (_ + 2) ≤ _; omega)
theorem p_num {n : Nat} (h : wC s0 i 0) (hl : l.length ≤ b) (hb : b ≤ 440) (hn : n < 100000) (hq : (l ++ dgs n).length ≤ b + 6 → Q (aC s0 i 0 (l ++ dgs n))) : w13_number (aC s0 i 0 l) i (nI n) Q := by
  have h2 := dgs_len n
  refine s13_number hn h.p (by omega) ?_
  rw [aC_p]
  exact hq (by rw [List.length_append]; omega)
theorem p_mark {v : Int32} (h : wC s0 i 0) (hl : l.length ≤ b) (hb : b ≤ 440) (hq : (l ++ ([34] ++ hxl v 0 8 ++ [34])).length ≤ b + 10 → Q (aC s0 i 0 (l ++ ([34] ++ hxl v 0 8 ++ [34])))) : w13_mark (aC s0 i 0 l) i v Q := by
  have h2 := hxl_len v 8 0
  refine s13_mark h.p (by omega) ?_
  rw [aC_p]
  exact hq (by simp only [List.length_append, List.length_cons, List.length_nil]; omega)
theorem q_say {t : Nat} (hl : l.length ≤ b) (hb : b ≤ 440) (ht : t < 83) (hq : (l ++ tl t).length ≤ b + 31 → Q (aM s0 i 0 (l ++ tl t))) : w14_say (aM s0 i 0 l) i t Q := by
  have hs := sn_le t ht
  have h2 := tl_len t
  refine s14_say ht aM_l (by omega) ?_
  rw [aM_p]
  exact hq (by rw [List.length_append]; omega)
theorem q_code {u : Nat} (hl : l.length ≤ b) (hb : b ≤ 440) (hu : u < 128) (hq : (l ++ [u]).length ≤ b + 1 → Q (aM s0 i 0 (l ++ [u]))) : w14_code (aM s0 i 0 l) i (nI u) Q := by
  refine s14_code aM_l (by omega) hu ?_
  rw [aM_p]
  exact hq (by rw [List.length_append]; show _ + 1 ≤ _; omega)
theorem q_line (hl : l.length ≤ b) (hb : b ≤ 440) (hq : (l ++ [13, 10]).length ≤ b + 2 → Q (aM s0 i 0 (l ++ [13, 10]))) : w14_line (aM s0 i 0 l) i Q := by
  refine s14_line aM_l (by omega) ?_
  rw [aM_p]
  exact hq (by rw [List.length_append]; show _ + 2 ≤ _; omega)
theorem q_num {n : Nat} (hl : l.length ≤ b) (hb : b ≤ 440) (hn : n < 100000) (hq : (l ++ dgs n).length ≤ b + 6 → Q (aM s0 i 0 (l ++ dgs n))) : w14_sayNumber (aM s0 i 0 l) i (nI n) Q := by
  have h2 := dgs_len n
  refine s14_sayNumber hn aM_l (by omega) ?_
  rw [aM_p]
  exact hq (by rw [List.length_append]; omega)
end PC
/-- the first line of an answer -/
def BG (n t : Nat) : List Nat := [] ++ tl 23 ++ dgs n ++ [32] ++ (tl t ++ [13, 10])
abbrev bgF (i : Nat) : Nat → Nat → Nat → Bool := mF [] [(44, i), (90, i + 1)] [] [(13, i, [1])]
theorem s9_begin {σ : St} {i n t : Nat} {Q : St → Prop} (hroom : σ 90 (i + 1) 0 = 0 ∨ σ 90 (i + 1) 0 = 66047) (hfre : fre σ 44) (hn : n < 100000) (ht : t < 83) (hq : ∀ s0, wC s0 i 0 → Fr (bgF i) σ s0 → (BG n t).length ≤ 71 → Q (aC s0 i 0 (BG n t))) : w9_begin σ i (nI n) t Q := by
  have go : ∀ s0, wC s0 i 0 → Fr (bgF i) σ s0 → w13_say s0 i 23 (fun σ2 => (w13_number σ2 i (nI n) (fun σ3 => (w13_put σ3 i 32 (fun σ4 => (w13_line σ4 i t (fun σ5 => (Q σ5)))))))) := by
    intro s0 h f
    have e0 : s0 = aC s0 i 0 [] := (aC_nil h.1).symm
    rw [e0]
    refine p_say (b := 0) h (Nat.le_refl _) (by omega) (by decide) (fun h1 => p_num h h1 (by omega) hn (fun h2 => p_put (u := 32) h h2 (by omega) (by omega) (fun h3 => p_line h h3 (by omega) ht (fun h4 => ?_))))
    exact hq s0 h f (by exact h4)
  rcases hroom with z | z
  · refine br_u (by rw [z]; decide) ⟨by decide, by decide, hfre, fun s2 e2 s3 e3 => go s3 ⟨?_, ?_⟩ ?_⟩
    · rw [e3, up3_g, if_pos ⟨rfl, rfl, rfl⟩]; rfl
    · rw [e3, up3_g, if_neg (by omega), e2]
      unfold nw44
      rw [up3_g, if_pos ⟨rfl, rfl, rfl⟩]
    · rw [e3, e2]
      unfold nw44
      exact ((fr_r (fun j => by simp [mF])).up (by simp [mF])).up (by simp [mF])
  · refine br_v (by rw [z]; decide) (fun s1 e1 => go s1 ⟨?_, ?_⟩ ?_)
    · rw [e1, up3_g, if_pos ⟨rfl, rfl, rfl⟩]; rfl
    · rw [e1, up3_g, if_neg (by omega)]; exact z
    · rw [e1]; exact fr_u (by simp [mF])
/-- the last lines of a head -/
def FN (d : Bool) : List Nat := if d then (tl 24 ++ [13, 10]) ++ [13, 10] else [13, 10]
theorem tl25 : tl 25 = [] := by decide
theorem p_fin {s0 : St} {i b : Nat} {l : List Nat} {d : Bool} {x : Int32} {Q : St → Prop} (h : wC s0 i 0) (hl : l.length ≤ b) (hb : b ≤ 400) (hx : x = if d then 1 else 0) (hq : (l ++ FN d).length ≤ b + 66 → Q (aC s0 i 0 (l ++ FN d))) : w9_finish (aC s0 i 0 l) i x Q := by
  unfold FN at hq
  cases d with
  | false =>
    refine br_t hx (p_line h hl (by omega) (by decide) (fun h1 => ?_))
    rw [tl25] at h1 ⊢
    exact hq (by simp only [Bool.false_eq_true, if_false]; exact Nat.le_trans h1 (by omega))
  | true =>
    refine br_f (by rw [hx]; decide) (p_line h hl (by omega) (by decide) (fun h1 => p_line h h1 (by omega) (by decide) (fun h2 => ?_)))
    rw [tl25, List.append_assoc] at h2 ⊢
    exact hq (by simp only [if_true]; exact h2)
/-- the length of what follows -/
def LN (n : Nat) : List Nat := tl 26 ++ dgs n ++ [13, 10]
theorem p_len {s0 : St} {i b n : Nat} {l : List Nat} {Q : St → Prop} (h : wC s0 i 0) (hl : l.length ≤ b) (hb : b ≤ 380) (hn : n < 100000) (hq : (l ++ LN n).length ≤ b + 39 → Q (aC s0 i 0 (l ++ LN n))) : w9_length (aC s0 i 0 l) i (nI n) Q := by
  unfold LN at hq
  have h3 : (tl 26).length ≤ 16 := by decide
  have h4 := dgs_len n
  refine p_say h hl (by omega) (by decide) (fun h1 => p_num h h1 (by omega) hn (fun h2 => p_line h h2 (by omega) (by decide) (fun h5 => ?_)))
  rw [tl25, List.append_assoc, List.append_assoc] at ⊢
  rw [List.append_assoc] at hq
  exact hq (by simp only [List.length_append, List.length_cons, List.length_nil]; omega)
/-- an answer that is its own first line -/
def PLN (n t : Nat) (d hd : Bool) : List Nat := BG n t ++ LN (sn t + 5) ++ (tl 27 ++ [13, 10]) ++ (if n = 405 then tl 28 ++ [13, 10] else []) ++ FN d ++ (if hd then [] else dgs n ++ [32] ++ tl t ++ [10])
theorem s9_plain {σ : St} {i n t : Nat} {d hd : Bool} {x4 : Int32} {Q : St → Prop} (hroom : σ 90 (i + 1) 0 = 0 ∨ σ 90 (i + 1) 0 = 66047) (hfre : fre σ 44) (hn : n < 1000) (ht : t < 83) (hx : x4 = if d then 1 else 0) (hhd : (σ 9 0 5) = if hd then 1 else 0) (hq : ∀ s0, wC s0 i 0 → Fr (bgF i) σ s0 → (PLN n t d hd).length ≤ 400 → Q (aC s0 i 0 (PLN n t d hd))) : w9_plain σ i (nI n) t x4 Q := by
  have hs := sn_le t ht
  refine s9_begin hroom hfre (by omega) ht (fun s0 h f h0 => sJ_length ?_)
  rw [show nI (sn t) + 5 = nI (sn t + 5) from nI_add _ 5]
  refine p_len h h0 (by omega) (by omega) (fun h1 => p_line h h1 (by omega) (by decide) (fun h2 => ?_))
  have hh : ∀ l, aC s0 i 0 l 9 0 5 = if hd then 1 else 0 := fun l => by rw [aC_o (by decide) (by decide), f.row (fun j => by simp [mF])]; exact hhd
  have fin : ∀ l, l.length ≤ 200 → (∀ s0', s0' = s0 → (l ++ FN d ++ (if hd then [] else dgs n ++ [32] ++ tl t ++ [10])).length ≤ 400 → Q (aC s0' i 0 (l ++ FN d ++ (if hd then [] else dgs n ++ [32] ++ tl t ++ [10])))) → w9_plain_J39 (aC s0 i 0 l) i (nI n) t x4 Q := by
    intro l hl hQ
    refine p_fin (b := 200) h hl (by omega) hx (fun h3 _ => ?_)
    rw [hh]
    cases hd with
    | true =>
      refine br_f (by decide) ?_
      have := hQ s0 rfl
      simp only [if_true, List.append_nil] at this
      exact this (by omega)
    | false =>
      refine br_t (by decide) (p_num h h3 (by omega) (by omega) (fun h4 => p_put (u := 32) h h4 (by omega) (by omega) (fun h5 => p_say h h5 (by omega) ht (fun h6 => p_put (u := 10) h h6 (by omega) (by omega) (fun h7 => ?_)))))
      have := hQ s0 rfl
      simp only [Bool.false_eq_true, if_false] at this
      have e : l ++ FN d ++ (dgs n ++ [32] ++ tl t ++ [10]) = l ++ FN d ++ dgs n ++ [32] ++ tl t ++ [10] := by simp only [List.append_assoc]
      rw [e] at this
      exact this (Nat.le_trans h7 (by omega))
  by_cases c : n = 405
  · refine br_u (by rw [c]; rfl) (p_line h h2 (by omega) (by decide) (fun h3 => fin _ (Nat.le_trans h3 (by omega)) (fun s0' e0 h4 => ?_)))
    subst e0
    have := hq s0' h f
    unfold PLN at this
    rw [if_pos c] at this
    exact this h4
  · refine br_v (fun z => c ((nI_eq (b := 405) (by omega) (by omega)).mp z)) (fin _ (Nat.le_trans h2 (by omega)) (fun s0' e0 h4 => ?_))
    subst e0
    have := hq s0' h f
    unfold PLN at this
    rw [if_neg c, List.append_nil] at this
    exact this h4
