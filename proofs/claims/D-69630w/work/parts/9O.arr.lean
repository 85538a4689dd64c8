/-! a segment of a connection -/
set_option maxRecDepth 100000
theorem RCn.lf2 {σ τ σ' τ' : St} {t i : Nat} {c : CK} {v w z : Int32} (h : RCn σ τ t i c) (hC : σ' 11 i = (va_up (va_up (σ 11 i) 33 v) 31 w)) (hM : τ' 15 i = (va_up (τ 15 i) 45 z)) (hr : crows σ σ' i) (hr' : mrows τ τ' i) : RCn σ' τ' t i c := by
  obtain ⟨h12, h13, h42, h43, h44, h90⟩ := hr
  obtain ⟨g71, g72, g73, g51⟩ := hr'
  obtain ⟨est, est', s1, s8, eip, ept, eiss, enx, ews, ewa, eun, eun', eat, eat', emx, emx', eba, eba', ua, ax, xe, syn, sy2, bu, bb, ewn, ewn', wn6, ems, ems', ms1, ms2, ecw, ecw', cw1, cw2, ess, ess', ss1, ss2, ert, ert', rt1, rt2, etr, etr', tr8, edu, erc, ehd, ehd', hd4, eft, etd, etd', td4, esk, esk', sk6, eow, efc, efn, eL, ehl, ebl, hL, bml, bmb, bmL, h5, epl, pl6, eab, eal, L6, ed, ed', d1, ef, ef', f1, fst, fin, eto, etm, tin, eti, etn, ets, eme, esr, eac, erow, ethr⟩ := id (h)
  apply RCn.mk <;> (try rw [hC]) <;> (try rw [hM]) <;> (try rw [h12]) <;> (try rw [h13]) <;> (try rw [h42]) <;> (try rw [h43]) <;> (try rw [h44]) <;> (try rw [h90]) <;> (try rw [g71]) <;> (try rw [g72]) <;> (try rw [g73]) <;> (try rw [g51]) <;> (try simp only [vu_g, cup_g, Nat.reduceEqDiff, reduceIte]) <;> (try assumption)
  all_goals rfl
theorem s14_lies {τ : St} {i : Nat} {x w : Int32} {Q : Int32 → Prop} (h1 : inw x ((τ 15 i 36)) w = true → Q 1) (h0 : inw x ((τ 15 i 36)) w = false → Q 0) : w14_lies τ i x w Q := by
  by_cases c1 : 0 ≤ x - (τ 15 i 36)
  · refine br_t c1 (br_u rfl ?_)
    by_cases c2 : 0 ≤ x - ((τ 15 i 36) + w)
    · exact br_t c2 (br_t rfl (h0 (decide_eq_false (fun z => z.2 c2))))
    · exact br_f c2 (br_f (by decide) (h1 (decide_eq_true ⟨c1, c2⟩)))
  · exact br_f c1 (br_v (by decide) (h0 (decide_eq_false (fun z => c1 z.1))))
theorem s_acc {σ τ : St} {t i : Nat} {c : CK} (hS : RS σ τ) (h : RCn σ τ t i c) : ∃ r : Int32, (r = 0 ∨ r = 1) ∧ (∀ Q, Q r → w11_isAcceptable σ i Q) ∧ (∀ Q, Q r → w14_isAcceptable τ i Q) := by
  obtain ⟨r0, r1, r2, r3, r4, r5, r6, r7⟩ := id hS
  have q := h.hd4
  have ew : (4096 : Int32) - (σ 12 i 2) = nI (4096 - (c 14)) := by rw [h.ehd]; exact pk_sub (a := 4096) q
  have hm : mheld τ i (c 14) := h.ehd'
  obtain ⟨sp, hsp⟩ : ∃ sp, sp = spn ((τ 14 0 36)) ((τ 14 0 39)) := ⟨_, rfl⟩
  have co : ∀ Q : Int32 → Prop, ((¬ nI (4096 - (c 14)) = 0 → (w11_isIn σ i (σ 10 0 3) (nI (4096 - (c 14))) (fun r3 => ((¬ r3 = 0 → Q 1) ∧ (r3 = 0 → ((sp ≤ 0 → Q 0) ∧ (¬ sp ≤ 0 → (w11_isIn σ i (((σ 10 0 3) + sp) - 1) (nI (4096 - (c 14))) (fun r4 => ((r4 = 0 → Q 0) ∧ (¬ r4 = 0 → Q 1))))))))))) ∧ (nI (4096 - (c 14)) = 0 → ((¬ sp = 0 → Q 0) ∧ (sp = 0 → ((¬ (σ 10 0 3) = (σ 11 i 6) → Q 0) ∧ ((σ 10 0 3) = (σ 11 i 6) → Q 1)))))) → w11_isAcceptable σ i Q := by
    intro Q hq
    show w10_span σ _
    refine s10_span ?_
    rw [ew, r5, r7, ← hsp]
    exact hq
  have mo : ∀ Q : Int32 → Prop, ((¬ nI (4096 - (c 14)) = 0 → (w14_lies τ i (τ 14 0 34) (nI (4096 - (c 14))) (fun r3 => ((¬ r3 = 0 → Q 1) ∧ (r3 = 0 → ((sp ≤ 0 → Q 0) ∧ (¬ sp ≤ 0 → (w14_lies τ i (((τ 14 0 34) + sp) - 1) (nI (4096 - (c 14))) (fun r4 => ((r4 = 0 → Q 0) ∧ (¬ r4 = 0 → Q 1))))))))))) ∧ (nI (4096 - (c 14)) = 0 → ((¬ sp = 0 → Q 0) ∧ (sp = 0 → ((¬ (τ 14 0 34) = (τ 15 i 36) → Q 0) ∧ ((τ 14 0 34) = (τ 15 i 36) → Q 1)))))) → w14_isAcceptable τ i Q := by
    intro Q hq
    refine s15_open hm q (s14_extent ?_)
    rw [← hsp]
    exact hq
  rw [r3, h.enx] at co
  by_cases c1 : nI (4096 - (c 14)) = 0
  · by_cases c2 : sp = 0
    · by_cases c3 : (τ 14 0 34) = (τ 15 i 36)
      · exact ⟨1, Or.inr rfl, fun Q hq => co Q (br_u c1 (br_u c2 (br_u c3 hq))), fun Q hq => mo Q (br_u c1 (br_u c2 (br_u c3 hq)))⟩
      · exact ⟨0, Or.inl rfl, fun Q hq => co Q (br_u c1 (br_u c2 (br_v c3 hq))), fun Q hq => mo Q (br_u c1 (br_u c2 (br_v c3 hq)))⟩
    · exact ⟨0, Or.inl rfl, fun Q hq => co Q (br_u c1 (br_v c2 hq)), fun Q hq => mo Q (br_u c1 (br_v c2 hq))⟩
  cases hi1 : inw ((τ 14 0 34)) ((τ 15 i 36)) (nI (4096 - (c 14))) with
  | true => exact ⟨1, Or.inr rfl, fun Q hq => co Q (br_v c1 (s11_isIn (fun _ => br_v (by decide) hq) (fun z => by rw [h.enx, hi1] at z; exact absurd z (by decide)))), fun Q hq => mo Q (br_v c1 (s14_lies (fun _ => br_v (by decide) hq) (fun z => by rw [hi1] at z; exact absurd z (by decide))))⟩
  | false =>
    have coF : ∀ Q : Int32 → Prop, ((sp ≤ 0 → Q 0) ∧ (¬ sp ≤ 0 → (w11_isIn σ i (((τ 14 0 34) + sp) - 1) (nI (4096 - (c 14))) (fun r4 => ((r4 = 0 → Q 0) ∧ (¬ r4 = 0 → Q 1)))))) → w11_isAcceptable σ i Q := fun Q hq => co Q (br_v c1 (s11_isIn (fun z => by rw [h.enx, hi1] at z; exact absurd z (by decide)) (fun _ => br_u rfl hq)))
    have moF : ∀ Q : Int32 → Prop, ((sp ≤ 0 → Q 0) ∧ (¬ sp ≤ 0 → (w14_lies τ i (((τ 14 0 34) + sp) - 1) (nI (4096 - (c 14))) (fun r4 => ((r4 = 0 → Q 0) ∧ (¬ r4 = 0 → Q 1)))))) → w14_isAcceptable τ i Q := fun Q hq => mo Q (br_v c1 (s14_lies (fun z => by rw [hi1] at z; exact absurd z (by decide)) (fun _ => br_u rfl hq)))
    by_cases c2 : sp ≤ 0
    · exact ⟨0, Or.inl rfl, fun Q hq => coF Q (br_t c2 hq), fun Q hq => moF Q (br_t c2 hq)⟩
    cases hi2 : inw ((τ 14 0 34) + sp - 1) ((τ 15 i 36)) (nI (4096 - (c 14))) with
    | true => exact ⟨1, Or.inr rfl, fun Q hq => coF Q (br_f c2 (s11_isIn (fun _ => br_f (by decide) hq) (fun z => by rw [h.enx, hi2] at z; exact absurd z (by decide)))), fun Q hq => moF Q (br_f c2 (s14_lies (fun _ => br_f (by decide) hq) (fun z => by rw [hi2] at z; exact absurd z (by decide))))⟩
    | false => exact ⟨0, Or.inl rfl, fun Q hq => coF Q (br_f c2 (s11_isIn (fun z => by rw [h.enx, hi2] at z; exact absurd z (by decide)) (fun _ => br_t rfl hq))), fun Q hq => moF Q (br_f c2 (s14_lies (fun z => by rw [hi2] at z; exact absurd z (by decide)) (fun _ => br_t rfl hq)))⟩
def ArrP (t l b i B : Nat) (σ' τ' : St) : Prop := NB σ' τ' t l b ∧ RK σ' τ' ∧ σ' 40 0 = τ' 66 0 ∧ (σ' 90 (i + 1) 0 = 0 ∨ σ' 90 (i + 1) 0 = 66047) ∧ (RC0 σ' τ' i ∨ RCB σ' τ' t i B)
/-- closed -/
theorem RC0.g {σ τ s1 s2 s3 t1 t2 : St} {i : Nat} (e1 : s1 = up3 σ 11 i 2 0) (e2 : s2 = up3 s1 11 i 29 0) (e3 : s3 = up3 s2 11 i 33 0) (d1 : t1 = up3 τ 15 i 0 0) (d2 : t2 = up3 t1 15 i 21 0) (x1 : (σ 42 i) = (τ 72 i)) (x3 : (σ 43 i) = (τ 73 i)) (x2 : ∃ p : Nat, (τ 15 i 27) = nI p ∧ p ≤ 65535) : RC0 s3 t2 i := by
  refine ⟨?_, ?_, ?_, ?_, ?_, ?_, ?_, ?_⟩
  · rw [e3, e2, e1]; simp [up3_g]
  · rw [d2, d1]; simp [up3_g]
  · rw [e3, e2, e1]; simp [up3_g]
  · rw [e3, e2, e1]; simp [up3_g]
  · rw [d2, d1]; simp [up3_g]
  · have F : Fr (mF [] [] [(11, [2, 29, 33])] []) σ s3 := by rw [e3, e2, e1]; exact ((fr_u rfl).up rfl).up rfl
    have G : Fr (mF [] [] [(15, [0, 21])] []) τ t2 := by rw [d2, d1]; exact (fr_u rfl).up rfl
    rw [F.row (k := 42) fun _ => rfl, G.row (k := 72) fun _ => rfl]; exact x1
  · have F : Fr (mF [] [] [(11, [2, 29, 33])] []) σ s3 := by rw [e3, e2, e1]; exact ((fr_u rfl).up rfl).up rfl
    have G : Fr (mF [] [] [(15, [0, 21])] []) τ t2 := by rw [d2, d1]; exact (fr_u rfl).up rfl
    rw [F.row (k := 43) fun _ => rfl, G.row (k := 73) fun _ => rfl]; exact x3
  · have G : Fr (mF [] [] [(15, [0, 21])] []) τ t2 := by rw [d2, d1]; exact (fr_u rfl).up rfl
    rw [G _ _ _ rfl]; exact x2
theorem RCn.x0 {σ τ : St} {t i : Nat} {c : CK} (h : RCn σ τ t i c) : (σ 42 i) = (τ 72 i) ∧ (σ 43 i) = (τ 73 i) ∧ ∃ p : Nat, (τ 15 i 27) = nI p ∧ p ≤ 65535 := ⟨h.erow, h.ethr, (c 7), h.epl, by have := h.pl6; omega⟩
