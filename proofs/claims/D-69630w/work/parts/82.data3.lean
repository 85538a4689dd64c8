/-! data that came: side by side -/
set_option maxRecDepth 100000
theorem fil_ext {s1 s2 : Nat → Int32} {sq nx w : Int32} {hd : Nat} : ∀ (m j : Nat) (B T : Nat → Int32), (∀ k, j ≤ k → k < j + m → s1 k = s2 k) → fil s1 sq nx w hd m j B T = fil s2 sq nx w hd m j B T := by
  intro m
  induction m with
  | zero => intro j B T _; rfl
  | succ m ih =>
    intro j B T h
    unfold fil
    rw [h j (Nat.le_refl _) (by omega)]
    split
    · exact ih _ _ _ (fun k a b => h k (by omega) (by omega))
    · exact ih _ _ _ (fun k a b => h k (by omega) (by omega))
theorem dtl_mono {σ : St} {i : Nat} {Q Q' : St → Prop} (hm : ∀ s, Q s → Q' s) (h : dtl σ i Q) : dtl σ i Q' := by
  intro hb
  have h := h hb
  refine ⟨fun z => hm _ (h.1 z), fun z => ⟨fun y s10 e10 s11 e11 => ?_, fun y => hm _ ((h.2 z).2 y)⟩⟩
  have h := (h.2 z).1 y s10 e10 s11 e11
  refine ⟨fun a => ⟨fun b => ?_, fun b s13 e13 => hm _ ((h.1 a).2 b s13 e13)⟩, fun a s14 e14 s15 e15 => hm _ (h.2 a s14 e14 s15 e15)⟩
  intro s1 e1 s2 e2 s3 e3 s4 e4
  exact hm _ ((h.1 a).1 b s1 e1 s2 e2 s3 e3 s4 e4)
/-- whether a FIN is new -/
def fnew (fin : Bool) (x nx w fc : Int32) : Bool := fin && inw x nx w && decide (fc = 0)
abbrev dF (i : Nat) : Nat → Nat → Nat → Bool := mF [] [(42, i), (43, i)] [] [(11, i, [6, 22, 23, 24, 32]), (12, i, [2])]
abbrev dG (i : Nat) : Nat → Nat → Nat → Bool := mF [] [(72, i), (73, i)] [] [(15, i, [36, 39, 40, 42, 44])]
theorem s10_end {σ : St} {Q : Int32 → Prop} (hsy : ((σ 10 0 5) &&& 2) = 0) (hq : Q ((σ 10 0 3) + (σ 10 0 9))) : w10_end σ Q := by
  refine br_t hsy (br_t rfl ?_)
  rw [Int32.add_zero]
  exact hq
theorem s11_takeData {σ : St} {t i k3 i3 pl n hd : Nat} {fin : Bool} (ok : okS σ) (hnow : (σ 2 0 4) = nI t) (hD : SgD σ k3 i3 pl n) (hsy : ((σ 10 0 5) &&& 2) = 0) (hfi : fin = decide (¬ ((σ 10 0 5) &&& 1) = 0)) (ehd : (σ 12 i 2) = nI hd) (hd4 : hd ≤ 4096) {B T : Nat → Int32}
    (hB : B = (fil (fun j => σ k3 i3 (pl + j)) ((σ 10 0 3)) ((σ 11 i 6)) (nI (4096 - hd)) hd n 0 (σ 42 i) (σ 43 i)).1) (hT : T = (fil (fun j => σ k3 i3 (pl + j)) ((σ 10 0 3)) ((σ 11 i 6)) (nI (4096 - hd)) hd n 0 (σ 42 i) (σ 43 i)).2) :
    ∃ s9, Fr (dF i) σ s9 ∧ s9 42 i = B ∧ s9 43 i = T ∧ s9 12 i = (va_up (σ 12 i) 2 (nI (adv T (4096 - hd) hd))) ∧ s9 11 i = (va_up (va_up (va_up (va_up (va_up (va_up (σ 11 i) 22 (if 0 < n then 1 else (σ 11 i 22))) 32 (if 0 < n then nI t else (σ 11 i 32))) 22 (if fin then 1 else if 0 < n then 1 else (σ 11 i 22))) 23 (if fnew fin ((σ 10 0 3) + nI n) ((σ 11 i 6)) (nI (4096 - hd)) ((σ 11 i 23)) then 1 else (σ 11 i 23))) 24 (if fnew fin ((σ 10 0 3) + nI n) ((σ 11 i 6)) (nI (4096 - hd)) ((σ 11 i 23)) then (σ 10 0 3) + nI n else (σ 11 i 24))) 6 ((σ 11 i 6) + nI (adv T (4096 - hd) hd - hd))) ∧ ∀ Q, dtl s9 i Q → w11_takeData σ i Q := by
  obtain ⟨a1, a2, a3, a4, a5, a6, a7, a8, a9, a10⟩ := id hD
  generalize hs6 : row3 (row3 σ 42 i B) 43 i T = s6
  have F6 : Fr (mF [] [(42, i), (43, i)] [] []) σ s6 := by
    rw [← hs6]
    exact (fr_r (fun j => by simp [mF])).tr (fr_r (fun j => by simp [mF]))
  have b42 : s6 42 i = B := by rw [← hs6, row3_o (by omega), row3_s]
  have b43 : s6 43 i = T := by rw [← hs6, row3_s]
  have g1 : ∀ Q, ((s6 10 0 9) ≤ 0 → w11_takeData_J94 s6 i (nI (4096 - hd)) Q) ∧ (¬ (s6 10 0 9) ≤ 0 → (∀ σ22, σ22 = up3 s6 11 i 22 1 → (w8_now σ22 (fun r23 => (∀ σ24, σ24 = up3 σ22 11 i 32 r23 → (w11_takeData_J94 σ24 i (nI (4096 - hd)) Q)))))) → w11_takeData σ i Q := by
    intro Q hq
    show ∃ z5, w11_takeData_L16 i (4096 - (σ 12 i 2)) _ Q _ z5 σ 0
    rw [ehd, show (4096 : Int32) - nI hd = nI (4096 - hd) from pk_sub (a := 4096) hd4]
    refine ⟨n + 1, s11_takeData_L16 (n := n) (k3 := k3) (i3 := i3) (pl := pl) rfl hd4 n 0 σ (by omega) hD ehd rfl ?_⟩
    rw [← hB, ← hT, hs6]
    exact hq
  obtain ⟨sA, FA, rA, okA, gA⟩ : ∃ sA, Fr (mF [] [(42, i), (43, i)] [] [(11, i, [22, 32])]) σ sA ∧ sA 11 i = (va_up (va_up (σ 11 i) 22 (if 0 < n then 1 else (σ 11 i 22))) 32 (if 0 < n then nI t else (σ 11 i 32))) ∧ (sA 42 i = B ∧ sA 43 i = T) ∧ ∀ Q, w11_takeData_J94 sA i (nI (4096 - hd)) Q → w11_takeData σ i Q := by
    have r6 : s6 11 i = σ 11 i := F6.row (fun j => by simp [mF])
    have l6 : s6 10 0 9 = nI n := by rw [F6 _ _ _ (by simp [mF])]; exact a1
    by_cases hn : 0 < n
    · rw [if_pos hn, if_pos hn]
      refine ⟨up3 (up3 s6 11 i 22 1) 11 i 32 (nI t), ?_, ?_, ⟨?_, ?_⟩, fun Q hq => g1 Q (br_f (by rw [l6]; exact nI_nle (by omega) (by omega)) (fun s22 e22 => ?_))⟩
      · exact ((F6.sub (mF_sub rfl (sub_c (Or.inr (List.mem_of_getElem? (i := 0) rfl)) (sub_c (Or.inr (List.mem_of_getElem? (i := 1) rfl)) sub_nil)) rfl sud_nil)).up (by simp [mF])).up (by simp [mF])
      · rw [up3_r, if_pos ⟨rfl, rfl⟩, up3_r, if_pos ⟨rfl, rfl⟩, r6]
      · rw [up3_r, if_neg (by omega), up3_r, if_neg (by omega)]; exact b42
      · rw [up3_r, if_neg (by omega), up3_r, if_neg (by omega)]; exact b43
      · intro s24 e24
        have nw : s22 2 0 4 = nI t := by rw [e22, up3_g, if_neg (by omega), F6 _ _ _ (by simp [mF])]; exact hnow
        rw [e24, nw, e22]
        exact hq
    · rw [if_neg hn, if_neg hn]
      have hn0 : n = 0 := by omega
      refine ⟨s6, F6.sub (mF_sub rfl (sub_c (Or.inr (List.mem_of_getElem? (i := 0) rfl)) (sub_c (Or.inr (List.mem_of_getElem? (i := 1) rfl)) sub_nil)) rfl sud_nil), ?_, ⟨b42, b43⟩, fun Q hq => g1 Q (br_t (by rw [l6, hn0]; decide) hq)⟩
      rw [r6, vu_self, vu_self]
  have wA : ∀ j, j ≠ 22 → j ≠ 32 → sA 11 i j = σ 11 i j := fun j a b => FA _ _ _ (by simp [mF, a, b])
  have tA10 : sA 10 0 = σ 10 0 := FA.row (fun j => by simp [mF])
  obtain ⟨sB, FB, rB, okB, gB⟩ : ∃ sB, Fr (mF [] [] [] [(11, i, [22, 23, 24])]) sA sB ∧ sB 11 i = (va_up (va_up (va_up (sA 11 i) 22 (if fin then 1 else if 0 < n then 1 else (σ 11 i 22))) 23 (if fnew fin ((σ 10 0 3) + nI n) ((σ 11 i 6)) (nI (4096 - hd)) ((σ 11 i 23)) then 1 else (σ 11 i 23))) 24 (if fnew fin ((σ 10 0 3) + nI n) ((σ 11 i 6)) (nI (4096 - hd)) ((σ 11 i 23)) then (σ 10 0 3) + nI n else (σ 11 i 24))) ∧ True ∧ ∀ Q, w11_takeData_J139 sB i Q → w11_takeData σ i Q := by
    have v22 : sA 11 i 22 = if 0 < n then 1 else (σ 11 i 22) := by rw [rA]; simp only [vu_g, Nat.reduceEqDiff, reduceIte]
    have v23 : sA 11 i 23 = (σ 11 i 23) := wA 23 (by decide) (by decide)
    have v24 : sA 11 i 24 = (σ 11 i 24) := wA 24 (by decide) (by decide)
    have v6 : sA 11 i 6 = (σ 11 i 6) := wA 6 (by decide) (by decide)
    have fA : sA 10 0 5 = (σ 10 0 5) := by rw [tA10]
    cases hf : fin with
    | false =>
      have nf : ((σ 10 0 5) &&& 1) = 0 := by
        rw [hf] at hfi
        exact Classical.not_not.mp (of_decide_eq_false hfi.symm)
      refine ⟨sA, Fr.rf, ?_, trivial, fun Q hq => gA Q (br_t (by rw [fA]; exact nf) (br_t rfl hq))⟩
      have k0 : fnew false ((σ 10 0 3) + nI n) ((σ 11 i 6)) (nI (4096 - hd)) ((σ 11 i 23)) = false := rfl
      rw [k0]
      simp only [Bool.false_eq_true, if_false]
      have e23 : ∀ f : Nat → Int32, f = sA 11 i → va_up f 23 ((σ 11 i 23)) = sA 11 i := fun f e => by rw [e, ← v23, vu_self]
      rw [← v22, vu_self, e23 _ rfl, ← v24, vu_self]
    | true =>
      have nf : ¬ ((σ 10 0 5) &&& 1) = 0 := by
        rw [hf] at hfi
        exact of_decide_eq_true hfi.symm
      generalize hsF : up3 sA 11 i 22 1 = sF
      have rF : sF 11 i = (va_up (sA 11 i) 22 1) := by rw [← hsF, up3_r, if_pos ⟨rfl, rfl⟩]
      have tF10 : sF 10 0 = σ 10 0 := by rw [← hsF, up3_r, if_neg (by omega)]; exact tA10
      have FF : Fr (mF [] [] [] [(11, i, [22, 23, 24])]) sA sF := by rw [← hsF]; exact fr_u (by simp [mF])
      have u23 : sF 11 i 23 = (σ 11 i 23) := by rw [rF, vu_g, if_neg (by decide)]; exact v23
      have u24 : sF 11 i 24 = (σ 11 i 24) := by rw [rF, vu_g, if_neg (by decide)]; exact v24
      have u6 : sF 11 i 6 = (σ 11 i 6) := by rw [rF, vu_g, if_neg (by decide)]; exact v6
      have gF : ∀ Q, (inw ((σ 10 0 3) + nI n) ((σ 11 i 6)) (nI (4096 - hd)) = true → bo (sF 11 i 23) → (¬ (sF 11 i 23) = 0 → w11_takeData_J139 sF i Q) ∧ ((sF 11 i 23) = 0 → ∀ σ19, σ19 = up3 sF 11 i 23 1 → w10_end σ19 (fun r20 => ∀ σ21, σ21 = up3 σ19 11 i 24 r20 → w11_takeData_J139 σ21 i Q))) → (inw ((σ 10 0 3) + nI n) ((σ 11 i 6)) (nI (4096 - hd)) = false → w11_takeData_J139 sF i Q) → w11_takeData σ i Q := by
        intro Q h1 h0
        refine gA Q (br_f (by rw [fA]; exact nf) (br_f (by decide) (fun s16 e16 => ?_)))
        rw [hsF] at e16
        subst e16
        refine s10_end (by rw [tF10]; exact hsy) (s11_isIn (fun z => ?_) (fun z => ?_))
        · rw [tF10, a1, u6] at z
          exact br_f (by decide) (h1 z)
        · rw [tF10, a1, u6] at z
          exact br_t rfl (h0 z)
      simp only [if_true]
      have old : fnew true ((σ 10 0 3) + nI n) ((σ 11 i 6)) (nI (4096 - hd)) ((σ 11 i 23)) = false → sF 11 i = (va_up (va_up (va_up (sA 11 i) 22 1) 23 (if fnew true ((σ 10 0 3) + nI n) ((σ 11 i 6)) (nI (4096 - hd)) ((σ 11 i 23)) then 1 else (σ 11 i 23))) 24 (if fnew true ((σ 10 0 3) + nI n) ((σ 11 i 6)) (nI (4096 - hd)) ((σ 11 i 23)) then (σ 10 0 3) + nI n else (σ 11 i 24))) := by
        intro k0
        rw [k0]
        simp only [Bool.false_eq_true, if_false]
        rw [← rF, ← u23, vu_self, ← u24, vu_self]
      cases hin : inw ((σ 10 0 3) + nI n) ((σ 11 i 6)) (nI (4096 - hd)) with
      | false =>
        refine ⟨sF, FF, old (by unfold fnew; rw [hin]; rfl), trivial, fun Q hq => gF Q (fun z => absurd (hin.symm.trans z) (by decide)) (fun _ => hq)⟩
      | true =>
        by_cases c1 : (σ 11 i 23) = 0
        · have k1 : fnew true ((σ 10 0 3) + nI n) ((σ 11 i 6)) (nI (4096 - hd)) ((σ 11 i 23)) = true := by unfold fnew; rw [hin, decide_eq_true c1]; rfl
          rw [k1]
          refine ⟨up3 (up3 sF 11 i 23 1) 11 i 24 ((σ 10 0 3) + nI n), (FF.up (by simp [mF])).up (by simp [mF]), ?_, trivial, fun Q hq => gF Q (fun _ _ => br_u (by rw [u23]; exact c1) (fun s19 e19 => ?_)) (fun z => absurd (hin.symm.trans z) (by decide))⟩
          · rw [up3_r, if_pos ⟨rfl, rfl⟩, up3_r, if_pos ⟨rfl, rfl⟩, rF]
            rfl
          · have t10 : s19 10 0 = σ 10 0 := by rw [e19, up3_r, if_neg (by omega)]; exact tF10
            refine s10_end (by rw [t10]; exact hsy) (fun s21 e21 => ?_)
            rw [t10, a1, e19] at e21
            rw [e21]
            exact hq
        · exact ⟨sF, FF, old (by unfold fnew; rw [decide_eq_false c1, Bool.and_false]), trivial, fun Q hq => gF Q (fun _ _ => br_v (by rw [u23]; exact c1) hq) (fun z => absurd (hin.symm.trans z) (by decide))⟩
  have c42 : sB 42 i = B := by rw [FB.row (fun j => by simp [mF])]; exact okA.1
  have c43 : sB 43 i = T := by rw [FB.row (fun j => by simp [mF])]; exact okA.2
  have c12 : sB 12 i = σ 12 i := by rw [FB.row (fun j => by simp [mF]), FA.row (fun j => by simp [mF])]
  have c6 : sB 11 i 6 = (σ 11 i 6) := by rw [FB _ _ _ (by simp [mF])]; exact wA 6 (by decide) (by decide)
  have FAB : Fr (dF i) σ sB := (FA.sub (mF_sub rfl (sub_c (Or.inr (List.mem_of_getElem? (i := 0) rfl)) (sub_c (Or.inr (List.mem_of_getElem? (i := 1) rfl)) sub_nil)) rfl (sud_c (Or.inr ⟨_, List.mem_of_getElem? (i := 0) rfl, rfl⟩) sud_nil))).tr (FB.sub (mF_sub rfl sub_nil rfl (sud_c (Or.inr ⟨_, List.mem_of_getElem? (i := 0) rfl, rfl⟩) sud_nil)))
  refine ⟨up3 (up3 sB 12 i 2 (nI (adv T (4096 - hd) hd))) 11 i 6 ((σ 11 i 6) + nI (adv T (4096 - hd) hd - hd)), (FAB.up (by simp [mF])).up (by simp [mF]), ?_, ?_, ?_, ?_, fun Q hq => gB Q (s12_advance hd4 (by rw [c12]; exact ehd) (fun s9 e9 => ?_))⟩
  · rw [up3_r, if_neg (by omega), up3_r, if_neg (by omega)]; exact c42
  · rw [up3_r, if_neg (by omega), up3_r, if_neg (by omega)]; exact c43
  · rw [up3_r, if_neg (by omega), up3_r, if_pos ⟨rfl, rfl⟩, c12]
  · rw [up3_r, if_pos ⟨rfl, rfl⟩, up3_r, if_neg (by omega), rB, rA]
  · rw [c43, c6] at e9
    rw [e9]
    exact hq
