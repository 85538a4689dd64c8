/-! answers: the model -/
set_option maxRecDepth 100000
theorem aM_up {τ : St} {i L j : Nat} {l : List Nat} {v : Int32} (h : j ≠ 26) : up3 (aM τ i L l) 15 i j v = aM (up3 τ 15 i j v) i L l := by
  have e71 : up3 τ 15 i j v 71 i = τ 71 i := by rw [up3_r, if_neg (by omega)]
  unfold aM
  rw [e71]
  funext k' i'
  by_cases c : k' = 15 ∧ i' = i
  · rw [up3_r, if_pos c, up3_r, if_pos ⟨rfl, rfl⟩, row3_o (by omega), up3_r, if_pos c, row3_o (by omega), up3_r, if_pos ⟨rfl, rfl⟩, vu_comm (Ne.symm h)]
  · rw [up3_r, if_neg c, up3_r, if_neg c, up3_r, if_neg c, row3_r, row3_r, up3_r, if_neg c]
/-- the phrase of a status -/
def phr (s : Nat) : Nat := if s = 200 then 57 else if s = 304 then 58 else if s = 400 then 59 else if s = 404 then 60 else if s = 405 then 61 else if s = 413 then 62 else if s = 431 then 63 else if s = 500 then 64 else 65
theorem phr_lt (s : Nat) : phr s < 83 := by
  unfold phr
  (repeat' split) <;> omega
theorem s14_phrase {τ : St} {s : Nat} {Q : Nat → Prop} (hs : s < 1000) (hq : Q (phr s)) : w14_phrase τ (nI s) Q := by
  unfold phr at hq
  have q : ∀ v : Nat, v < 1000 → (nI s = nI v ↔ s = v) := fun v hv => nI_eq (by omega) (by omega)
  by_cases c1 : s = 200
  · rw [if_pos c1] at hq; exact br_t ((q 200 (by omega)).mpr c1) hq
  rw [if_neg c1] at hq
  refine br_f (fun z => c1 ((q 200 (by omega)).mp z)) ?_
  by_cases c2 : s = 304
  · rw [if_pos c2] at hq; exact br_t ((q 304 (by omega)).mpr c2) hq
  rw [if_neg c2] at hq
  refine br_f (fun z => c2 ((q 304 (by omega)).mp z)) ?_
  by_cases c3 : s = 400
  · rw [if_pos c3] at hq; exact br_t ((q 400 (by omega)).mpr c3) hq
  rw [if_neg c3] at hq
  refine br_f (fun z => c3 ((q 400 (by omega)).mp z)) ?_
  by_cases c4 : s = 404
  · rw [if_pos c4] at hq; exact br_t ((q 404 (by omega)).mpr c4) hq
  rw [if_neg c4] at hq
  refine br_f (fun z => c4 ((q 404 (by omega)).mp z)) ?_
  by_cases c5 : s = 405
  · rw [if_pos c5] at hq; exact br_t ((q 405 (by omega)).mpr c5) hq
  rw [if_neg c5] at hq
  refine br_f (fun z => c5 ((q 405 (by omega)).mp z)) ?_
  by_cases c6 : s = 413
  · rw [if_pos c6] at hq; exact br_t ((q 413 (by omega)).mpr c6) hq
  rw [if_neg c6] at hq
  refine br_f (fun z => c6 ((q 413 (by omega)).mp z)) ?_
  by_cases c7 : s = 431
  · rw [if_pos c7] at hq; exact br_t ((q 431 (by omega)).mpr c7) hq
  rw [if_neg c7] at hq
  refine br_f (fun z => c7 ((q 431 (by omega)).mp z)) ?_
  by_cases c8 : s = 500
  · rw [if_pos c8] at hq; exact br_t ((q 500 (by omega)).mpr c8) hq
  rw [if_neg c8] at hq
  exact br_f (fun z => c8 ((q 500 (by omega)).mp z)) hq
theorem t77 : tl 77 = tl 23 := by decide
theorem t78 : tl 78 = tl 26 := by decide
theorem t79 : tl 79 = tl 43 := by decide
theorem t27 : tl 27 = tl 43 ++ tl 67 := by decide
theorem t80 : tl 80 = tl 29 ++ [34] := by decide
theorem t81 : tl 81 = tl 28 := by decide
theorem t82 : tl 82 = tl 24 := by decide
/-- where the model begins an answer -/
def mk0 (τ : St) (i : Nat) (x3 : Int32) : St := up3 (up3 (up3 (up3 τ 56 0 4 (τ 56 0 4 + 1)) 15 i 29 ((τ 15 i 5))) 15 i 26 0) 15 i 30 x3
theorem mk0_f {τ : St} {i : Nat} {x3 : Int32} : Fr (mF [] [] [(56, [4]), (15, [26, 29, 30])] []) τ (mk0 τ i x3) := by
  unfold mk0
  exact (((fr_u rfl).up rfl).up rfl).up rfl
theorem mk0_15 {τ : St} {i : Nat} {x3 : Int32} : mk0 τ i x3 15 i = (va_up (va_up (va_up (τ 15 i) 29 ((τ 15 i 5))) 26 0) 30 x3) := by
  unfold mk0
  rw [up3_r, if_pos ⟨rfl, rfl⟩, up3_r, if_pos ⟨rfl, rfl⟩, up3_r, if_pos ⟨rfl, rfl⟩, up3_r, if_neg (by omega)]
theorem mk0_56 {τ : St} {i : Nat} {x3 : Int32} : mk0 τ i x3 56 0 4 = τ 56 0 4 + 1 := by
  unfold mk0
  rw [up3_g, if_neg (by omega), up3_g, if_neg (by omega), up3_g, if_neg (by omega), up3_g, if_pos ⟨rfl, rfl, rfl⟩]
/-- the first line, up to what follows -/
theorem s14_make_b {τ : St} {i s t : Nat} {x2 x3 : Int32} {Q : St → Prop} (hs : s < 1000) (hst : (τ 14 0 43) = nI s) (hbo : bo x3) (ht : tl t = tl (phr s)) (hq : ∀ σ10, σ10 = aM (mk0 τ i x3) i 0 (BG s t) → (BG s t).length ≤ 71 → ((x2 < 0 → (w14_phrase σ10 (σ10 14 0 43) (fun t11 => (t11 < nS ∧ (wJ1_length t11 (fun r12 => (w14_make_J94 σ10 i x2 x3 (5 + r12) Q))))))) ∧ (¬ x2 < 0 → (vp_in x2 64 ∧ (w14_make_J94 σ10 i x2 x3 (σ10 54 0 x2.toNatClampNeg) Q))))) : w14_make τ i x2 x3 Q := by
  refine ⟨vin (n := 4) (by omega) (by omega), vin (n := 4) (by omega) (by omega), fun s1 e1 s2 e2 s3 e3 => ⟨hbo, fun s4 e4 => ?_⟩⟩
  rw [show (4 : Int32).toNatClampNeg = 4 by decide] at e1
  have v5 : s1 15 i 5 = (τ 15 i 5) := by rw [e1, up3_g, if_neg (by omega)]
  rw [v5, e1] at e2
  have e4' : s4 = mk0 τ i x3 := by rw [e4, e3, e2]; rfl
  subst e4'
  have h26 : mk0 τ i x3 15 i 26 = nI 0 := by rw [mk0_15]; simp only [vu_g, Nat.reduceEqDiff, reduceIte]; rfl
  have h43 : ∀ l, aM (mk0 τ i x3) i 0 l 14 0 43 = nI s := fun l => by rw [aM_o (by decide) (by decide), mk0_f.row (k := 14) fun _ => rfl]; exact hst
  have e0 : mk0 τ i x3 = aM (mk0 τ i x3) i 0 [] := (aM_nil h26).symm
  have hp := phr_lt s
  suffices hw : w14_say (aM (mk0 τ i x3) i 0 []) i 77 (fun σ5 => (w14_sayNumber σ5 i (σ5 14 0 43) (fun σ6 => (w14_code σ6 i 32 (fun σ7 => (w14_phrase σ7 (σ7 14 0 43) (fun t8 => (t8 < nS ∧ (w14_say σ7 i t8 (fun σ9 => (w14_line σ9 i (fun σ10 => ((x2 < 0 → (w14_phrase σ10 (σ10 14 0 43) (fun t11 => (t11 < nS ∧ (wJ1_length t11 (fun r12 => (w14_make_J94 σ10 i x2 x3 (5 + r12) Q))))))) ∧ (¬ x2 < 0 → (vp_in x2 64 ∧ (w14_make_J94 σ10 i x2 x3 (σ10 54 0 x2.toNatClampNeg) Q)))))))))))))))) by
    rw [← e0] at hw
    exact hw
  refine q_say (b := 0) (Nat.le_refl _) (by omega) (by decide) (fun h1 => ?_)
  rw [h43]
  refine q_num h1 (by omega) (by omega) (fun h2 => q_code (u := 32) h2 (by omega) (by omega) (fun h3 => ?_))
  rw [h43]
  refine s14_phrase hs ⟨hp, q_say h3 (by omega) hp (fun h4 => q_line h4 (by omega) (fun h5 => ?_))⟩
  have eb : [] ++ tl 77 ++ dgs s ++ [32] ++ tl (phr s) ++ [13, 10] = BG s t := by
    unfold BG
    rw [t77, ht]
    simp only [List.append_assoc]
  rw [eb] at h5 ⊢
  exact hq _ rfl (Nat.le_trans h5 (by omega))
/-- the last lines -/
theorem s14_make_e {t0 : St} {i b s : Nat} {l : List Nat} {x2 x3 x4 : Int32} {d hd : Bool} {Q : St → Prop} (hs : s < 1000) (hst : (t0 14 0 43) = nI s) (hhd : (t0 14 0 44) = if hd then 1 else 0) (hx : x3 = if d then 1 else 0) (hl : l.length ≤ b) (hb : b ≤ 300) (hq : (l ++ (if s = 405 then tl 28 ++ [13, 10] else []) ++ FN d).length ≤ b + 70 → ((hd = true ∨ s = 304) → w14_make_J272 (aM t0 i 0 (l ++ (if s = 405 then tl 28 ++ [13, 10] else []) ++ FN d)) i x2 x4 0 Q) ∧ (¬ (hd = true ∨ s = 304) → w14_make_J272 (aM t0 i 0 (l ++ (if s = 405 then tl 28 ++ [13, 10] else []) ++ FN d)) i x2 x4 1 Q)) : w14_make_J205 (aM t0 i 0 l) i x2 x3 x4 Q := by
  have h43 : ∀ l, aM t0 i 0 l 14 0 43 = nI s := fun l => by rw [aM_o (by decide) (by decide)]; exact hst
  have h44 : ∀ l, aM t0 i 0 l 14 0 44 = if hd then 1 else 0 := fun l => by rw [aM_o (by decide) (by decide)]; exact hhd
  have q405 : nI s = 405 ↔ s = 405 := nI_eq (b := 405) (by omega) (by omega)
  have q304 : nI s = 304 ↔ s = 304 := nI_eq (b := 304) (by omega) (by omega)
  have j228 : ∀ l', l'.length ≤ b + 33 → (∀ R : Prop, ((l' ++ FN d).length ≤ b + 70 → R) → R) → (((hd = true ∨ s = 304) → w14_make_J272 (aM t0 i 0 (l' ++ FN d)) i x2 x4 0 Q) ∧ (¬ (hd = true ∨ s = 304) → w14_make_J272 (aM t0 i 0 (l' ++ FN d)) i x2 x4 1 Q)) → w14_make_J228 (aM t0 i 0 l') i x2 x3 x4 Q := by
    intro l' hl' _ hQ
    have j245 : ∀ l2, l2.length ≤ b + 66 → l2 ++ [13, 10] = l' ++ FN d → w14_make_J245 (aM t0 i 0 l2) i x2 x4 Q := by
      intro l2 hl2 he
      refine q_line hl2 (by omega) (fun h1 _ => ?_)
      rw [he, h44, h43]
      cases hd with
      | true => exact br_v (by decide) (hQ.1 (Or.inl rfl))
      | false =>
        refine br_u (by decide) ?_
        by_cases c : s = 304
        · exact br_t (q304.mpr c) (hQ.1 (Or.inr c))
        · exact br_f (fun z => c (q304.mp z)) (hQ.2 (fun z => z.elim (fun y => absurd y (by decide)) c))
    cases d with
    | false =>
      exact br_t (by rw [hx]; rfl) (j245 l' (by omega) (by unfold FN; rfl))
    | true =>
      refine br_f (by rw [hx]; decide) (q_say hl' (by omega) (by decide) (fun h1 => q_line h1 (by omega) (fun h2 => j245 _ (Nat.le_trans h2 (by omega)) ?_)))
      unfold FN
      rw [t82]
      simp only [List.append_assoc, if_true]
  by_cases c : s = 405
  · refine br_u (by rw [h43]; exact q405.mpr c) (q_say hl (by omega) (by decide) (fun h1 => q_line h1 (by omega) (fun h2 => ?_)))
    rw [if_pos c] at hq
    rw [t81, List.append_assoc] at h2 ⊢
    have e28 : (tl 28).length = 16 := by decide
    have e24 : (FN d).length ≤ 21 := by cases d <;> decide
    have hlen : (l ++ (tl 28 ++ [13, 10]) ++ FN d).length ≤ b + 70 := by simp only [List.length_append, List.length_cons, List.length_nil]; omega
    exact j228 _ (Nat.le_trans h2 (by omega)) (fun R r => r hlen) (hq hlen)
  · refine br_v (fun z => c (by rw [h43] at z; exact q405.mp z)) ?_
    rw [if_neg c, List.append_nil] at hq
    have e24 : (FN d).length ≤ 21 := by cases d <;> decide
    have hlen : (l ++ FN d).length ≤ b + 70 := by simp only [List.length_append]; omega
    exact j228 l (by omega) (fun R r => r hlen) (hq hlen)
/-- an answer without a file -/
theorem s14_make0 {τ : St} {i s t : Nat} {x3 : Int32} {d hd : Bool} {Q : St → Prop} (hs : s < 1000) (hs3 : s ≠ 304) (hst : (τ 14 0 43) = nI s) (hhd : (τ 14 0 44) = if hd then 1 else 0) (hx : x3 = if d then 1 else 0) (ht : tl t = tl (phr s)) (hq : (PLN s t d hd).length ≤ 400 → Q (aM (up3 (up3 (mk0 τ i x3) 15 i 27 0) 15 i 28 0) i 0 (PLN s t d hd))) : w14_make τ i (-1) x3 Q := by
  have hp := phr_lt s
  have hsn : sn t = sn (phr s) := by rw [← tl_len, ← tl_len, ht]
  have hsp := sn_le (phr s) hp
  have hbo : bo x3 := by rw [hx]; cases d with
    | true => exact Or.inr rfl
    | false => exact Or.inl rfl
  have m14 : mk0 τ i x3 14 0 = τ 14 0 := mk0_f.row (k := 14) fun _ => rfl
  have h43 : ∀ l, aM (mk0 τ i x3) i 0 l 14 0 43 = nI s := fun l => by rw [aM_o (by decide) (by decide), m14]; exact hst
  refine s14_make_b hs hst hbo ht (fun σ10 e10 h0 => br_t (by decide) ?_)
  subst e10
  rw [h43]
  refine s14_phrase hs ⟨hp, sJ_length ?_⟩
  rw [show (5 : Int32) + nI (sn (phr s)) = nI (5 + sn (phr s)) from nI_add 5 _, Nat.add_comm 5, ← hsn]
  refine br_f (fun z => hs3 (by rw [h43] at z; exact (nI_eq (b := 304) (by omega) (by omega)).mp z)) (q_say h0 (by omega) (by decide) (fun h1 => q_num h1 (by omega) (by omega) (fun h2 => q_line h2 (by omega) (fun h3 => q_say h3 (by omega) (by decide) (fun h4 => br_t (by decide) ⟨by decide, q_say h4 (by omega) (by decide) (fun h5 => q_line h5 (by omega) (fun h6 => br_t (by decide) ?_))⟩)))))
  have e6 : BG s t ++ tl 78 ++ dgs (sn t + 5) ++ [13, 10] ++ tl 79 ++ tl 67 ++ [13, 10] = BG s t ++ LN (sn t + 5) ++ (tl 27 ++ [13, 10]) := by
    unfold LN
    rw [t78, t79, t27]
    simp only [List.append_assoc]
  rw [e6] at h6 ⊢
  refine s14_make_e (b := 200) hs (by rw [m14]; exact hst) (by rw [m14]; exact hhd) hx (Nat.le_trans h6 (by omega)) (by omega) (fun h7 => ?_)
  generalize hl7 : BG s t ++ LN (sn t + 5) ++ (tl 27 ++ [13, 10]) ++ (if s = 405 then tl 28 ++ [13, 10] else []) ++ FN d = l7 at h7
  have hPL : PLN s t d hd = l7 ++ (if hd then [] else dgs s ++ [32] ++ tl t ++ [10]) := by rw [← hl7]; rfl
  rw [hPL] at hq
  have em : ∀ l, up3 (up3 (aM (mk0 τ i x3) i 0 l) 15 i 27 0) 15 i 28 0 = aM (up3 (up3 (mk0 τ i x3) 15 i 27 0) 15 i 28 0) i 0 l := fun l => by rw [aM_up (by decide), aM_up (by decide)]
  refine ⟨fun c => br_t (by decide) (fun s14 e14 => br_t rfl (fun s15 e15 => br_t rfl ?_)), fun c => br_t (by decide) (fun s14 e14 => br_f (by decide) (br_t (by decide) (fun s15 e15 => br_f (by decide) (br_f (by decide) ?_))))⟩
  · have hd1 : hd = true := c.resolve_right hs3
    subst hd1
    simp only [if_true, List.append_nil] at hq
    rw [e15, e14, em]
    exact hq (by omega)
  · have hd1 : hd = false := by
      cases hd with
      | true => exact absurd (Or.inl rfl) c
      | false => rfl
    subst hd1
    simp only [Bool.false_eq_true, if_false] at hq
    rw [e14, em] at e15
    subst e15
    generalize ht1 : up3 (up3 (mk0 τ i x3) 15 i 27 0) 15 i 28 0 = t1 at hq ⊢
    have k43 : ∀ l, aM t1 i 0 l 14 0 43 = nI s := fun l => by rw [aM_o (by decide) (by decide), ← ht1, up3_r, if_neg (by omega), up3_r, if_neg (by omega), m14]; exact hst
    rw [k43]
    refine q_num h7 (by omega) (by omega) (fun h8 => q_code (u := 32) h8 (by omega) (by omega) (fun h9 => ?_))
    rw [k43]
    refine s14_phrase hs ⟨hp, q_say h9 (by omega) hp (fun h10 => q_code (u := 10) h10 (by omega) (by omega) (fun h11 => ?_))⟩
    have e11 : l7 ++ dgs s ++ [32] ++ tl (phr s) ++ [10] = l7 ++ (dgs s ++ [32] ++ tl t ++ [10]) := by rw [ht]; simp only [List.append_assoc]
    rw [e11] at h11 ⊢
    exact hq (Nat.le_trans h11 (by omega))
