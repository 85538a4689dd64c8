/-! data that came: the model, and both -/
set_option maxRecDepth 100000
theorem s14_arrived {τ : St} {t i n hd da st : Nat} {fin : Bool} (hnow : (τ 14 0 10) = nI t) (hdl : (τ 14 0 39) = nI n) (hda : (τ 14 0 38) = nI da) (hdn : da + n ≤ 4096) (hfi : fin = decide (¬ ((τ 14 0 36) &&& 1) = 0)) (est : (τ 15 i 0) = nI st) (hst : st = 2 ∨ st = 3 ∨ st = 4) (eft : (τ 15 i 41) = 0) (ehd : (τ 15 i 36) = (τ 15 i 35) + nI hd) (hd4 : hd ≤ 4096) {B T : Nat → Int32}
    (hB : B = (fil (fun j => τ 64 0 (da + j)) ((τ 14 0 34)) ((τ 15 i 36)) (nI (4096 - hd)) hd n 0 (τ 72 i) (τ 73 i)).1) (hT : T = (fil (fun j => τ 64 0 (da + j)) ((τ 14 0 34)) ((τ 15 i 36)) (nI (4096 - hd)) hd n 0 (τ 72 i) (τ 73 i)).2) :
    ∃ t9, Fr (dG i) τ t9 ∧ t9 72 i = B ∧ t9 73 i = T ∧ t9 15 i = (va_up (va_up (va_up (va_up (va_up (va_up (τ 15 i) 39 (if 0 < n then 1 else (τ 15 i 39))) 44 (if 0 < n then nI t else (τ 15 i 44))) 36 ((τ 15 i 35) + nI (adv T (4096 - hd) hd))) 40 (if fnew fin ((τ 14 0 34) + nI n) ((τ 15 i 36)) (nI (4096 - hd)) ((τ 15 i 40)) then 1 else (τ 15 i 40))) 42 (if fnew fin ((τ 14 0 34) + nI n) ((τ 15 i 36)) (nI (4096 - hd)) ((τ 15 i 40)) then (τ 14 0 34) + nI n else (τ 15 i 42))) 39 (if fin then 1 else if 0 < n then 1 else (τ 15 i 39))) ∧ ∀ Q, w14_arrived_J246 t9 i Q → w14_arrived τ i Q := by
  have hm : mheld τ i hd := by unfold mheld; rw [eft, ehd]; grind
  -- the beginning
  obtain ⟨tA, FA, rA, gA⟩ : ∃ tA, Fr (mF [] [] [] [(15, i, [39, 44])]) τ tA ∧ tA 15 i = (va_up (va_up (τ 15 i) 39 (if 0 < n then 1 else (τ 15 i 39))) 44 (if 0 < n then nI t else (τ 15 i 44))) ∧ ∀ Q, (∃ z7, w14_arrived_L41 i (nI (4096 - hd)) ((τ 15 i 36)) Q (fun σ8 => ∃ z10, w14_arrived_L131 i (nI (4096 - hd)) ((τ 15 i 36)) Q (fun σ11 => w14_arrived_J176 σ11 i (nI (4096 - hd)) ((τ 15 i 36)) Q) z10 σ8) z7 tA 0) → w14_arrived τ i Q := by
    have g0 : ∀ Q, (((τ 14 0 39) ≤ 0 → (∃ z7, w14_arrived_L41 i (nI (4096 - hd)) (τ 15 i 36) Q (fun σ8 => ∃ z10, w14_arrived_L131 i (nI (4096 - hd)) (τ 15 i 36) Q (fun σ11 => w14_arrived_J176 σ11 i (nI (4096 - hd)) (τ 15 i 36) Q) z10 σ8) z7 τ 0)) ∧ (¬ (τ 14 0 39) ≤ 0 → (∀ σ35, σ35 = up3 τ 15 i 39 1 → (∀ σ36, σ36 = up3 σ35 15 i 44 (σ35 14 0 10) → (∃ z37, w14_arrived_L41 i (nI (4096 - hd)) (τ 15 i 36) Q (fun σ38 => ∃ z39, w14_arrived_L131 i (nI (4096 - hd)) (τ 15 i 36) Q (fun σ40 => w14_arrived_J176 σ40 i (nI (4096 - hd)) (τ 15 i 36) Q) z39 σ38) z37 σ36 0))))) → w14_arrived τ i Q := by
      intro Q hq
      have h1 : ∀ R : Int32 → Prop, R 1 → w14_takesData τ i R := by
        intro R hr
        unfold w14_takesData
        rw [est]
        rcases hst with z | z | z
        · exact br_t (by rw [z]; rfl) hr
        · exact br_f (by rw [z]; decide) (br_t (by rw [z]; rfl) hr)
        · exact br_f (by rw [z]; decide) (br_f (by rw [z]; decide) (br_u (by rw [z]; rfl) hr))
      refine h1 _ (br_v (by decide) (s15_open hm hd4 hq))
    by_cases hn : 0 < n
    · rw [if_pos hn, if_pos hn]
      refine ⟨up3 (up3 τ 15 i 39 1) 15 i 44 (nI t), (fr_u (by simp [mF])).up (by simp [mF]), ?_, fun Q hq => g0 Q (br_f (by rw [hdl]; exact nI_nle (by omega) (by omega)) (fun s1 e1 s2 e2 => ?_))⟩
      · rw [up3_r, if_pos ⟨rfl, rfl⟩, up3_r, if_pos ⟨rfl, rfl⟩]
      · have nw : s1 14 0 10 = nI t := by rw [e1, up3_g, if_neg (by omega)]; exact hnow
        rw [e2, nw, e1]
        exact hq
    · rw [if_neg hn, if_neg hn]
      have hn0 : n = 0 := by omega
      refine ⟨τ, Fr.rf, ?_, fun Q hq => g0 Q (br_t (by rw [hdl, hn0]; decide) hq)⟩
      rw [vu_self, vu_self]
  have wA : ∀ j, j ≠ 39 → j ≠ 44 → tA 15 i j = τ 15 i j := fun j a b => FA _ _ _ (by simp [mF, a, b])
  have oA : ∀ k i', k ≠ 15 → tA k i' = τ k i' := fun k i' a => FA.row (fun j => by simp [mF, Ne.symm a])
  generalize htC : up3 (row3 (row3 tA 72 i B) 73 i T) 15 i 36 ((τ 15 i 35) + nI (adv T (4096 - hd) hd)) = tC
  have gC : ∀ Q, w14_arrived_J176 tC i (nI (4096 - hd)) ((τ 15 i 36)) Q → w14_arrived τ i Q := by
    intro Q hq
    refine gA Q ⟨n + 1, s14_arrived_L41 (n := n) (da := da) (sq := (τ 14 0 34)) rfl hd4 hdn n 0 tA (by omega) (by rw [oA _ _ (by decide)]; exact hdl) (by rw [oA _ _ (by decide)]; exact hda) (by rw [oA _ _ (by decide)]) (by rw [wA 35 (by decide) (by decide)]; exact ehd) ?_⟩
    rw [oA 64 _ (by decide), oA 72 _ (by decide), oA 73 _ (by decide), ← hB, ← hT]
    refine ⟨4096 - hd + 1, s14_arrived_L131 (4096 - hd) hd _ (by omega) ?_ ?_⟩
    · rw [row3_o (by omega), row3_o (by omega), wA 36 (by decide) (by decide), wA 35 (by decide) (by decide)]
      exact ehd
    · rw [row3_s]
      have e35 : row3 (row3 tA 72 i B) 73 i T 15 i 35 = (τ 15 i 35) := by
        rw [row3_o (by omega), row3_o (by omega)]; exact wA 35 (by decide) (by decide)
      rw [e35, htC]
      exact hq
  have FC : Fr (mF [] [(72, i), (73, i)] [] [(15, i, [36, 39, 44])]) τ tC := by
    rw [← htC]
    refine Fr.up (((FA.sub (mF_sub rfl sub_nil rfl (sud_c (Or.inr ⟨_, List.mem_of_getElem? (i := 0) rfl, rfl⟩) sud_nil))).tr (fr_r (fun j => by simp [mF]))).tr (fr_r (fun j => by simp [mF]))) (by simp [mF])
  have rC : tC 15 i = (va_up (tA 15 i) 36 ((τ 15 i 35) + nI (adv T (4096 - hd) hd))) := by
    rw [← htC, up3_r, if_pos ⟨rfl, rfl⟩, row3_o (by omega), row3_o (by omega)]
  have c72 : tC 72 i = B := by rw [← htC, up3_r, if_neg (by omega), row3_o (by omega), row3_s]
  have c73 : tC 73 i = T := by rw [← htC, up3_r, if_neg (by omega), row3_s]
  have wC : ∀ j, j ≠ 36 → j ≠ 39 → j ≠ 44 → tC 15 i j = τ 15 i j := fun j a b d => FC _ _ _ (by simp [mF, a, b, d])
  have oC : ∀ k, k ≠ 15 → k ≠ 72 → k ≠ 73 → tC k 0 = τ k 0 := fun k a b d => FC.row (fun j => by simp [mF, Ne.symm a, Ne.symm b, Ne.symm d])
  have c14 : tC 14 0 = τ 14 0 := oC 14 (by decide) (by decide) (by decide)
  have v40 : tC 15 i 40 = (τ 15 i 40) := wC 40 (by decide) (by decide) (by decide)
  have v42 : tC 15 i 42 = (τ 15 i 42) := wC 42 (by decide) (by decide) (by decide)
  have v39 : tC 15 i 39 = if 0 < n then 1 else (τ 15 i 39) := by rw [rC, rA]; simp only [vu_g, Nat.reduceEqDiff, reduceIte]
  -- the last, with marks
  have key : ∀ (t9 : St) (x y z : Int32), Fr (mF [] [] [] [(15, i, [39, 40, 42])]) tC t9 → t9 15 i = (va_up (va_up (va_up (tC 15 i) 40 x) 42 y) 39 z) → Fr (dG i) τ t9 ∧ t9 72 i = B ∧ t9 73 i = T ∧ t9 15 i = (va_up (va_up (va_up (va_up (va_up (va_up (τ 15 i) 39 (if 0 < n then 1 else (τ 15 i 39))) 44 (if 0 < n then nI t else (τ 15 i 44))) 36 ((τ 15 i 35) + nI (adv T (4096 - hd) hd))) 40 x) 42 y) 39 z) := by
    intro t9 x y z f hr
    refine ⟨(FC.sub (mF_sub rfl (sub_c (Or.inr (List.mem_of_getElem? (i := 0) rfl)) (sub_c (Or.inr (List.mem_of_getElem? (i := 1) rfl)) sub_nil)) rfl (sud_c (Or.inr ⟨_, List.mem_of_getElem? (i := 0) rfl, rfl⟩) sud_nil))).tr (f.sub (mF_sub rfl sub_nil rfl (sud_c (Or.inr ⟨_, List.mem_of_getElem? (i := 0) rfl, rfl⟩) sud_nil))), ?_, ?_, ?_⟩
    · rw [f.row (fun j => by simp [mF])]; exact c72
    · rw [f.row (fun j => by simp [mF])]; exact c73
    · rw [hr, rC, rA]
  cases hf : fin with
  | false =>
    have nf : ((τ 14 0 36) &&& 1) = 0 := by
      rw [hf] at hfi
      exact Classical.not_not.mp (of_decide_eq_false hfi.symm)
    have nfC : (tC 14 0 36 &&& 1) = 0 := by rw [c14]; exact nf
    have k0 : fnew false ((τ 14 0 34) + nI n) ((τ 15 i 36)) (nI (4096 - hd)) ((τ 15 i 40)) = false := rfl
    rw [k0]
    simp only [Bool.false_eq_true, if_false]
    obtain ⟨y1, y2, y3, y4⟩ := key tC ((τ 15 i 40)) ((τ 15 i 42)) (if 0 < n then 1 else (τ 15 i 39)) Fr.rf (by
      have x1 : va_up (tC 15 i) 40 ((τ 15 i 40)) = tC 15 i := by rw [← v40, vu_self]
      have x2 : va_up (tC 15 i) 42 ((τ 15 i 42)) = tC 15 i := by rw [← v42, vu_self]
      rw [x1, x2, ← v39, vu_self])
    exact ⟨tC, y1, y2, y3, y4, fun Q hq => gC Q (br_t nfC (br_t rfl (br_t nfC (br_t rfl hq))))⟩
  | true =>
    have nf : ¬ ((τ 14 0 36) &&& 1) = 0 := by
      rw [hf] at hfi
      exact of_decide_eq_true hfi.symm
    have nfC : ¬ (tC 14 0 36 &&& 1) = 0 := by rw [c14]; exact nf
    simp only [if_true]
    have eend : tC 14 0 34 + tC 14 0 39 = (τ 14 0 34) + nI n := by rw [c14, hdl]
    -- nothing new
    have old : fnew true ((τ 14 0 34) + nI n) ((τ 15 i 36)) (nI (4096 - hd)) ((τ 15 i 40)) = false → (∀ Q, (w14_is tC 1 (fun r23 => ((r23 = 0 → w14_arrived_J246 tC i Q) ∧ (¬ r23 = 0 → (∀ σ24, σ24 = up3 tC 15 i 39 1 → (w14_arrived_J246 σ24 i Q)))))) → w14_arrived_J176 tC i (nI (4096 - hd)) ((τ 15 i 36)) Q) → ∃ t9, Fr (dG i) τ t9 ∧ t9 72 i = B ∧ t9 73 i = T ∧ t9 15 i = (va_up (va_up (va_up (va_up (va_up (va_up (τ 15 i) 39 (if 0 < n then 1 else (τ 15 i 39))) 44 (if 0 < n then nI t else (τ 15 i 44))) 36 ((τ 15 i 35) + nI (adv T (4096 - hd) hd))) 40 (if fnew true ((τ 14 0 34) + nI n) ((τ 15 i 36)) (nI (4096 - hd)) ((τ 15 i 40)) then 1 else (τ 15 i 40))) 42 (if fnew true ((τ 14 0 34) + nI n) ((τ 15 i 36)) (nI (4096 - hd)) ((τ 15 i 40)) then (τ 14 0 34) + nI n else (τ 15 i 42))) 39 1) ∧ ∀ Q, w14_arrived_J246 t9 i Q → w14_arrived τ i Q := by
      intro k0 hj
      rw [k0]
      simp only [Bool.false_eq_true, if_false]
      obtain ⟨y1, y2, y3, y4⟩ := key (up3 tC 15 i 39 1) ((τ 15 i 40)) ((τ 15 i 42)) 1 (fr_u (by simp [mF])) (by
        have x1 : va_up (tC 15 i) 40 ((τ 15 i 40)) = tC 15 i := by rw [← v40, vu_self]
        have x2 : va_up (tC 15 i) 42 ((τ 15 i 42)) = tC 15 i := by rw [← v42, vu_self]
        rw [x1, x2, up3_r, if_pos ⟨rfl, rfl⟩])
      exact ⟨_, y1, y2, y3, y4, fun Q hq => gC Q (hj Q (br_f nfC (br_f (by decide) (fun s e => by rw [e]; exact hq))))⟩
    by_cases c1 : (τ 15 i 40) = 0
    rotate_left
    · refine old (by unfold fnew; rw [decide_eq_false c1, Bool.and_false]) (fun Q hq => br_f nfC (br_f (by decide) (fun _ => br_v (by rw [v40]; exact c1) hq)))
    by_cases c2 : 0 ≤ (τ 14 0 34) + nI n - (τ 15 i 36)
    rotate_left
    · refine old ?_ (fun Q hq => br_f nfC (br_f (by decide) (fun _ => br_u (by rw [v40]; exact c1) ?_)))
      · unfold fnew inw
        rw [decide_eq_false (fun z => c2 z.1)]
        rfl
      · rw [eend]
        exact br_f c2 (br_v (by decide) hq)
    by_cases c3 : 0 ≤ (τ 14 0 34) + nI n - ((τ 15 i 36) + nI (4096 - hd))
    · refine old ?_ (fun Q hq => br_f nfC (br_f (by decide) (fun _ => br_u (by rw [v40]; exact c1) ?_)))
      · unfold fnew inw
        rw [decide_eq_false (fun z => z.2 c3)]
        rfl
      · rw [eend]
        exact br_t c2 (br_u rfl (br_t c3 (br_t rfl hq)))
    have k1 : fnew true ((τ 14 0 34) + nI n) ((τ 15 i 36)) (nI (4096 - hd)) ((τ 15 i 40)) = true := by
      unfold fnew inw
      rw [decide_eq_true ⟨c2, c3⟩, decide_eq_true c1]
      rfl
    rw [k1]
    simp only [if_true]
    obtain ⟨y1, y2, y3, y4⟩ := key (up3 (up3 (up3 tC 15 i 40 1) 15 i 42 ((τ 14 0 34) + nI n)) 15 i 39 1) 1 ((τ 14 0 34) + nI n) 1 (((fr_u (by simp [mF])).up (by simp [mF])).up (by simp [mF])) (by rw [up3_r, if_pos ⟨rfl, rfl⟩, up3_r, if_pos ⟨rfl, rfl⟩, up3_r, if_pos ⟨rfl, rfl⟩])
    refine ⟨_, y1, y2, y3, y4, fun Q hq => gC Q (br_f nfC (br_f (by decide) (fun _ => br_u (by rw [v40]; exact c1) ?_)))⟩
    rw [eend]
    refine br_t c2 (br_u rfl (br_f c3 (br_f (by decide) (fun s1 e1 s2 e2 => ?_))))
    have d14 : s2 14 0 = τ 14 0 := by rw [e2, up3_r, if_neg (by omega), e1, up3_r, if_neg (by omega)]; exact c14
    refine br_f (by rw [d14]; exact nf) (br_f (by decide) (fun s3 e3 => ?_))
    rw [e3, e2, e1]
    exact hq
theorem R_data {σ τ : St} {t l b i B k3 i3 pl n da : Nat} {c : CK} (hi : i < 16) (ok : okS σ) (ok' : okS τ) (hN : NB σ τ t l b) (hK : RK σ τ) (hS : RS σ τ) (hD : SgD σ k3 i3 pl n) (hda : (τ 14 0 38) = nI da) (hdn : da + n ≤ 4096) (hdat : ∀ j, j < n → σ k3 i3 (pl + j) = τ 64 0 (da + j)) (hsy : ((τ 14 0 36) &&& 2) = 0) (h : RCn σ τ t i c) (hL : LV σ τ t i c) (hB : (c 1) + (c 5) ≤ B) (hst : (c 0) = 2 ∨ (c 0) = 3 ∨ (c 0) = 4) :
    RunV σ τ (w11_takeData σ i) (w14_arrived τ i) (mF [] [(42, i), (43, i)] [] [(11, i, [2, 6, 22, 23, 24, 29, 31, 32, 33]), (12, i, [2])]) (mF [] [(72, i), (73, i)] [] [(15, i, [0, 36, 39, 40, 41, 42, 44, 45])]) (DatP t l b i B) := by
  obtain ⟨s0, o0, n1, n2, n3, nl, n4, n5, n6⟩ := id hN
  have now1 : (σ 2 0 4) = nI t := n1.2.1.1
  have now2 : (τ 14 0 10) = nI t := n1.2.1.2.1
  obtain ⟨r0, r1, r2, r3, r4, r5, r6, r7⟩ := id hS
  have q2 : (τ 15 i 41) = 0 := by rw [h.eft, if_neg (by omega)]
  have q3 : (τ 15 i 36) = (τ 15 i 35) + nI (c 14) := by
    have := h.ehd'
    rw [q2] at this
    rw [this]; grind
  have hdl : (τ 14 0 39) = nI n := by rw [← r7]; exact hD.1
  obtain ⟨s9, F9, a42, a43, a12, a11, ga⟩ := s11_takeData (fin := decide (¬ ((τ 14 0 36) &&& 1) = 0)) ok now1 hD (by rw [r5]; exact hsy) (by rw [r5]) h.ehd h.hd4 rfl rfl
  obtain ⟨t9, G9, b72, b73, b15, gb⟩ := s14_arrived (fin := decide (¬ ((τ 14 0 36) &&& 1) = 0)) now2 hdl hda hdn rfl h.est' hst q2 q3 h.hd4 rfl rfl
  have ef : fil (fun j => σ k3 i3 (pl + j)) ((σ 10 0 3)) ((σ 11 i 6)) (nI (4096 - (c 14))) (c 14) n 0 (σ 42 i) (σ 43 i) = fil (fun j => τ 64 0 (da + j)) ((τ 14 0 34)) ((τ 15 i 36)) (nI (4096 - (c 14))) (c 14) n 0 (τ 72 i) (τ 73 i) := by
    rw [r3, h.enx, h.erow, h.ethr]
    exact fil_ext _ _ _ _ (fun k _ hk => hdat k (by omega))
  rw [ef] at a42 a43 a12 a11
  generalize hBT : fil (fun j => τ 64 0 (da + j)) ((τ 14 0 34)) ((τ 15 i 36)) (nI (4096 - (c 14))) (c 14) n 0 (τ 72 i) (τ 73 i) = BT at *
  obtain ⟨BB, TT⟩ := BT
  have hadv := adv_le TT (4096 - (c 14)) (c 14)
  have hd4 := h.hd4
  generalize hh' : adv TT (4096 - (c 14)) (c 14) = h' at *
  simp only at a42 a43 a12 a11 b72 b73 b15
  rw [r3, h.enx, h.eow, h.efc, q3, so_5, show (c 14) + (h' - (c 14)) = h' by omega] at a11
  rw [q3] at b15
  have F9' : Fr (mF [42, 43] [] [(11, [6, 22, 23, 24, 32]), (12, [2])] []) σ s9 := F9.sub (mF_sub rfl (sub_c (Or.inl rfl) (sub_c (Or.inl rfl) sub_nil)) rfl (sud_c (Or.inl ⟨_, List.mem_of_getElem? (i := 0) rfl, rfl⟩) (sud_c (Or.inl ⟨_, List.mem_of_getElem? (i := 1) rfl, rfl⟩) sud_nil)))
  have G9' : Fr (mF [72, 73] [] [(15, [36, 39, 40, 42, 44])] []) τ t9 := G9.sub (mF_sub rfl (sub_c (Or.inl rfl) (sub_c (Or.inl rfl) sub_nil)) rfl (sud_c (Or.inl ⟨_, List.mem_of_getElem? (i := 0) rfl, rfl⟩) sud_nil))
  have hR : RCn s9 t9 t i (cup c 14 h') := by
    refine h.dat hst (by omega) a11 b15 a12 (F9'.row fun _ => rfl) a42 a43 (F9'.row fun _ => rfl) (F9'.row fun _ => rfl) (G9'.row fun _ => rfl) b72 b73 (G9'.row fun _ => rfl) rfl ?_ ?_
    · intro z
      cases hk : fnew (decide (¬ ((τ 14 0 36) &&& 1) = 0)) ((τ 14 0 34) + nI n) ((τ 15 i 35) + nI (c 14)) (nI (4096 - (c 14))) ((τ 15 i 40)) with
      | true => rfl
      | false =>
        rw [hk] at z
        simp only [Bool.false_eq_true, if_false] at z ⊢
        exact h.efn (by rw [h.efc]; exact z)
    · by_cases hn : 0 < n
      · rw [if_pos hn, if_pos hn]; exact ⟨t, rfl, rfl, Nat.le_refl _⟩
      · rw [if_neg hn, if_neg hn]; exact h.eac (by omega)
  have hL9 : LV s9 t9 t i (cup c 14 h') := by
    refine LV.mk ?_ ?_ ?_ ?_
    · intro z1 z2 z3 z4
      rw [a11]
      simp only [vu_g, Nat.reduceEqDiff, reduceIte]
      by_cases hn : 0 < n
      · rw [if_pos hn]; exact ⟨t, rfl, by omega⟩
      · rw [if_neg hn]; exact hL.m2 z1 z2 z3 z4
    · rw [F9' _ _ _ rfl, F9' _ _ _ rfl, G9' _ _ _ rfl]; exact hL.m4
    · rw [F9' _ _ _ rfl]; exact hL.m0
    · simp only [cup_g, Nat.reduceEqDiff, reduceIte]
      have := hL.mtd
      omega
  have j := j_eof (B := B) (hN.f F9' G9') (hK.f F9' G9') hR hL9 hB hst
  have hj : w11_takeData σ i (fun σ' => w14_arrived τ i (fun τ' => DatP t l b i B σ' τ')) := ga _ (dtl_mono (fun s hq => gb _ hq) j)
  obtain ⟨σ', h, k1, f1, g1⟩ := e11_takeData hi ok hj
  obtain ⟨τ', h, k2, f2, g2⟩ := e14_arrived hi ok' h
  exact ⟨σ', τ', g1, g2, k1, k2, f1, f2, h⟩
