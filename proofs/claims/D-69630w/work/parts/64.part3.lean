/-! sending a part of the answer: the component's way -/
set_option maxRecDepth 100000
def pfl (psh : Prop) [Decidable psh] (fi : Nat) : Int32 := if psh then (if fi = 0 then 24 else 25) else (if fi = 0 then 16 else 17)
theorem pfl16 {psh : Prop} [Decidable psh] {fi : Nat} : ¬ (pfl psh fi &&& 16) = 0 := by unfold pfl; split <;> split <;> decide
theorem pfl2 {psh : Prop} [Decidable psh] {fi : Nat} : (pfl psh fi &&& 2) = 0 := by unfold pfl; split <;> split <;> decide
/-- whether something was sent before, as a number -/
def agn (a x : Nat) : Int32 := if a < x then 1 else 0
theorem agn_i {I : Int32} {a x : Nat} (ha : a < 2147483648) (hx : x < 2147483648) : agn a x = 0 ↔ 0 ≤ (I + nI a) - (I + nI x) := by
  unfold agn
  by_cases c : a < x
  · rw [if_pos c]
    refine ⟨fun h => absurd h (by decide), fun h => ?_⟩
    have := (so_7 I ha hx).mpr c
    exact absurd this (Int32.not_lt.mpr h)
  · rw [if_neg c]
    refine ⟨fun _ => ?_, fun _ => rfl⟩
    rw [so_4 _ _ _ (by omega)]
    exact nI_le (a := 0) (by omega) (by omega)
abbrev spF (i : Nat) : Nat → Nat → Nat → Bool := mF [] [] [(8, [4])] [(11, i, [2, 10, 11, 28, 29, 30, 33, 34, 36, 37])]
/-- the row of a connection that is about to send a part -/
abbrev prow (C : Nat → Int32) (I g now rto : Int32) (c : CK) (dn fi : Nat) : Nat → Int32 := (va_up (va_up (va_up (va_up (va_up (va_up (va_up (va_up (va_up (va_up C 34 (tgv g (C 34))) 36 (keepv g (C 34) (C 36) (I + nI (c 3)))) 37 (keepv g (C 34) (C 37) now)) 10 (I + nI ((c 3) + dn + fi))) 11 (I + nI (max (c 4) ((c 3) + dn + fi)))) 28 (nI (max (c 18) fi))) 33 (if fi = 1 ∧ (c 18) = 0 then 0 else C 33)) 2 (nI (if fi = 1 ∧ (c 18) = 0 then (if (c 0) = 7 then 8 else 3) else (c 0)))) 29 1) 30 (offv (C 29) (C 30) (now + rto)))
theorem s11_sendPart {σ : St} {i dn fi : Nat} {c : CK} {I : Int32} {Q : St → Prop} (ok : okS σ) (hfi : fi ≤ 1) (hdn : (c 3) + dn ≤ (c 1) + (c 5)) (hfd : fi = 1 → (c 3) + dn = (c 1) + (c 5)) (hbb : (c 1) + (c 5) + 2 < 1000000000) (hba : (c 1) ≤ (c 3)) (hx : (c 4) < 1000000000) (hf1 : (c 18) ≤ 1) (hst8 : (c 0) ≤ 8)
    (est : (σ 11 i 2) = nI (c 0)) (eat : (σ 11 i 10) = I + nI (c 3)) (emx : (σ 11 i 11) = I + nI (c 4)) (eba : (σ 11 i 26) = I + nI (c 1)) (eL : (σ 13 i 1) = nI (c 5)) (ef : (σ 11 i 28) = nI (c 18))
    (hq : ∀ s4, okS s4 → Fr (spF i) σ s4 → s4 8 0 4 = (if agn (c 3) (c 4) = 0 then (σ 8 0 4) else (σ 8 0 4) + 1) → s4 11 i = prow (σ 11 i) I (agn (c 3) (c 4)) ((σ 2 0 4)) ((σ 11 i 16)) c dn fi → w11_segment s4 i (I + nI (c 3)) (pfl (0 < dn ∧ (c 3) + dn = (c 1) + (c 5)) fi) 44 i (nI ((c 3) - (c 1))) (nI dn) Q) : w11_sendPart σ i (nI (dn + fi)) Q := by
  have eend : (σ 11 i 26) + (σ 13 i 1) = I + nI ((c 1) + (c 5)) := by rw [eba, eL, so_5]
  have eleft : (σ 11 i 26) + (σ 13 i 1) - (σ 11 i 10) = nI ((c 1) + (c 5) - (c 3)) := by rw [eend, eat, so_4 _ _ _ (by omega)]
  have emin : imin (nI (dn + fi)) (nI ((c 1) + (c 5) - (c 3))) = nI dn := by
    rw [imin_n (by omega) (by omega)]
    congr 1
    omega
  -- from the timer on
  have t185 : ∀ s : St, okS s → Fr (mF [] [] [(8, [4])] [(11, i, [2, 10, 11, 28, 33, 34, 36, 37])]) σ s → s 8 0 4 = (if agn (c 3) (c 4) = 0 then (σ 8 0 4) else (σ 8 0 4) + 1) → s 11 i = (va_up (va_up (va_up (va_up (va_up (va_up (va_up (va_up (σ 11 i) 34 (tgv (agn (c 3) (c 4)) ((σ 11 i 34)))) 36 (keepv (agn (c 3) (c 4)) ((σ 11 i 34)) ((σ 11 i 36)) (I + nI (c 3)))) 37 (keepv (agn (c 3) (c 4)) ((σ 11 i 34)) ((σ 11 i 37)) ((σ 2 0 4)))) 10 (I + nI ((c 3) + dn + fi))) 11 (I + nI (max (c 4) ((c 3) + dn + fi)))) 28 (nI (max (c 18) fi))) 33 (if fi = 1 ∧ (c 18) = 0 then 0 else (σ 11 i 33))) 2 (nI (if fi = 1 ∧ (c 18) = 0 then (if (c 0) = 7 then 8 else 3) else (c 0)))) → w11_sendPart_J185 s i (nI dn) (pfl (0 < dn ∧ (c 3) + dn = (c 1) + (c 5)) fi) (I + nI (c 3)) Q := by
    intro s oks f h8 hr
    refine s11_startTimer (fun s4 f4 ok4 hr4 => ?_) oks
    have e26 : s4 11 i 26 = I + nI (c 1) := by
      rw [f4 _ _ _ (by simp [mF]), f _ _ _ (by simp [mF])]
      exact eba
    rw [e26, so_4 _ _ _ hba]
    refine hq s4 ok4 ?_ ?_ ?_
    · exact (f.sub (mF_sub rfl sub_nil rfl (sud_c (Or.inr ⟨_, List.mem_of_getElem? (i := 0) rfl, rfl⟩) sud_nil))).tr (f4.sub (mF_sub rfl sub_nil rfl (sud_c (Or.inr ⟨_, List.mem_of_getElem? (i := 0) rfl, rfl⟩) sud_nil)))
    · rw [f4 _ _ _ (by simp [mF])]; exact h8
    · rw [f _ _ _ (by simp [mF]), f _ _ _ (by simp [mF]), f _ _ _ (by simp [mF]), f _ _ _ (by simp [mF]), hr] at hr4
      exact hr4
  have t145 : ∀ s : St, okS s → Fr (mF [] [] [(8, [4])] [(11, i, [10, 11, 34, 36, 37])]) σ s → s 8 0 4 = (if agn (c 3) (c 4) = 0 then (σ 8 0 4) else (σ 8 0 4) + 1) → s 11 i = (va_up (va_up (va_up (va_up (va_up (σ 11 i) 34 (tgv (agn (c 3) (c 4)) ((σ 11 i 34)))) 36 (keepv (agn (c 3) (c 4)) ((σ 11 i 34)) ((σ 11 i 36)) (I + nI (c 3)))) 37 (keepv (agn (c 3) (c 4)) ((σ 11 i 34)) ((σ 11 i 37)) ((σ 2 0 4)))) 10 (I + nI ((c 3) + dn + fi))) 11 (I + nI (max (c 4) ((c 3) + dn + fi)))) → w11_sendPart_J145 s i (nI dn) (nI fi) (pfl (0 < dn ∧ (c 3) + dn = (c 1) + (c 5)) fi) (I + nI (c 3)) Q := by
    intro s oks f h8 hr
    have r28 : s 11 i 28 = nI (c 18) := by rw [f _ _ _ (by simp [mF])]; exact ef
    have r33 : s 11 i 33 = (σ 11 i 33) := f _ _ _ (by simp [mF])
    have r2 : s 11 i 2 = nI (c 0) := by rw [f _ _ _ (by simp [mF])]; exact est
    have fs : Fr (mF [] [] [(8, [4])] [(11, i, [2, 10, 11, 28, 33, 34, 36, 37])]) σ s := f.sub (mF_sub rfl sub_nil rfl (sud_c (Or.inr ⟨_, List.mem_of_getElem? (i := 0) rfl, rfl⟩) sud_nil))
    have same : ¬ (fi = 1 ∧ (c 18) = 0) → w11_sendPart_J185 s i (nI dn) (pfl (0 < dn ∧ (c 3) + dn = (c 1) + (c 5)) fi) (I + nI (c 3)) Q := by
      intro hn
      refine t185 s oks fs h8 ?_
      rw [if_neg hn, if_neg hn, hr]
      rw [hr] at r28 r33 r2
      have hm : max (c 18) fi = (c 18) := by omega
      rw [hm, vu_eq r28, vu_eq r33, vu_eq r2]
    by_cases c1 : fi = 0
    · exact br_t (by rw [c1]; rfl) (same (by omega))
    · have c1' : fi = 1 := by omega
      refine br_f (by rw [c1']; decide) (fun _ => ?_)
      rw [r28]
      by_cases c2 : (c 18) = 0
      · refine br_u (by rw [c2]; rfl) (fun s6 e6 s7 e7 => ?_)
        have r72 : s7 11 i 2 = nI (c 0) := by rw [e7, up3_g, if_neg (by omega), e6, up3_g, if_neg (by omega)]; exact r2
        have go : ∀ (v : Nat), (if (c 0) = 7 then 8 else 3) = v → w11_sendPart_J185 (up3 s7 11 i 2 (nI v)) i (nI dn) (pfl (0 < dn ∧ (c 3) + dn = (c 1) + (c 5)) fi) (I + nI (c 3)) Q := by
          intro v hv
          refine t185 _ ?_ ?_ ?_ ?_
          · rw [e7, e6]; exact ok_n (ok_z (ok_z oks rfl (Or.inr rfl)) rfl (Or.inl rfl)) rfl
          · rw [e7, e6]; exact ((fs.up (by simp [mF])).up (by simp [mF])).up (by simp [mF])
          · rw [up3_g, if_neg (by omega), e7, up3_g, if_neg (by omega), e6, up3_g, if_neg (by omega)]; exact h8
          · rw [up3_r, if_pos ⟨rfl, rfl⟩, e7, up3_r, if_pos ⟨rfl, rfl⟩, e6, up3_r, if_pos ⟨rfl, rfl⟩, hr, if_pos ⟨c1', c2⟩, if_pos ⟨c1', c2⟩, hv, c1', c2]
            rfl
        rw [r72]
        by_cases c3 : (c 0) = 7
        · exact br_u (by rw [c3]; rfl) (fun s9 e9 => by rw [e9]; exact go 8 (by rw [if_pos c3]))
        · exact br_v (fun z => c3 ((nI_eq (b := 7) (by omega) (by decide)).mp z)) (fun s8 e8 => by rw [e8]; exact go 3 (by rw [if_neg c3]))
      · have c2' : (c 18) = 1 := by omega
        exact br_v (by rw [c2']; decide) (same (by omega))
  have t115 : ∀ s : St, okS s → Fr (mF [] [] [(8, [4])] [(11, i, [34, 36, 37])]) σ s → s 8 0 4 = (if agn (c 3) (c 4) = 0 then (σ 8 0 4) else (σ 8 0 4) + 1) → s 11 i = (va_up (va_up (va_up (σ 11 i) 34 (tgv (agn (c 3) (c 4)) ((σ 11 i 34)))) 36 (keepv (agn (c 3) (c 4)) ((σ 11 i 34)) ((σ 11 i 36)) (I + nI (c 3)))) 37 (keepv (agn (c 3) (c 4)) ((σ 11 i 34)) ((σ 11 i 37)) ((σ 2 0 4)))) → w11_sendPart_J115 s i (nI (dn + fi)) (nI dn) (nI fi) (pfl (0 < dn ∧ (c 3) + dn = (c 1) + (c 5)) fi) (I + nI (c 3)) Q := by
    intro s oks f h8 hr s3 e3
    have r10 : s 11 i 10 = I + nI (c 3) := by rw [f _ _ _ (by simp [mF])]; exact eat
    have r11 : s 11 i 11 = I + nI (c 4) := by rw [f _ _ _ (by simp [mF])]; exact emx
    rw [r10, so_5, ← Nat.add_assoc] at e3
    have r310 : s3 11 i 10 = I + nI ((c 3) + dn + fi) := by rw [e3, up3_g, if_pos ⟨rfl, rfl, rfl⟩]
    have r311 : s3 11 i 11 = I + nI (c 4) := by rw [e3, up3_g, if_neg (by omega)]; exact r11
    have ok3 : okS s3 := by rw [e3]; exact ok_n oks rfl
    have f3 : Fr (mF [] [] [(8, [4])] [(11, i, [10, 11, 34, 36, 37])]) σ s3 := by
      rw [e3]
      exact (f.sub (mF_sub rfl sub_nil rfl (sud_c (Or.inr ⟨_, List.mem_of_getElem? (i := 0) rfl, rfl⟩) sud_nil))).up (by simp [mF])
    have h83 : s3 8 0 4 = (if agn (c 3) (c 4) = 0 then (σ 8 0 4) else (σ 8 0 4) + 1) := by rw [e3, up3_g, if_neg (by omega)]; exact h8
    rw [r310, r311]
    have ecmp : (I + nI ((c 3) + dn + fi)) - (I + nI (c 4)) ≤ 0 ↔ (c 3) + dn + fi ≤ (c 4) := by
      rw [← Int32.not_lt, so_8 I (by omega) (by omega)]
      omega
    by_cases c1 : (c 3) + dn + fi ≤ (c 4)
    · refine br_t (ecmp.mpr c1) (t145 s3 ok3 f3 h83 ?_)
      rw [Nat.max_eq_left c1, ← hr]
      have e4 : s3 11 i = va_up (s 11 i) 10 (I + nI ((c 3) + dn + fi)) := by rw [e3, up3_r, if_pos ⟨rfl, rfl⟩]
      rw [← e4, vu_eq r311]
    · refine br_f (fun z => c1 (ecmp.mp z)) (fun s10 e10 => ?_)
      refine t145 s10 (by rw [e10]; exact ok_n ok3 rfl) (by rw [e10]; exact f3.up (by simp [mF])) (by rw [e10, up3_g, if_neg (by omega)]; exact h83) ?_
      rw [e10, up3_r, if_pos ⟨rfl, rfl⟩, e3, up3_r, if_pos ⟨rfl, rfl⟩, hr, Nat.max_eq_right (by omega)]
  have t63 : w11_sendPart_J63 σ i (nI (dn + fi)) (nI dn) (nI fi) (pfl (0 < dn ∧ (c 3) + dn = (c 1) + (c 5)) fi) Q := by
    unfold w11_sendPart_J63
    rw [eat, emx]
    have hag := agn_i (I := I) (a := (c 3)) (x := (c 4)) (by omega) (by omega)
    by_cases c1 : 0 ≤ (I + nI (c 3)) - (I + nI (c 4))
    · have g0 := hag.mpr c1
      refine br_t c1 (br_t rfl (fun hb => ?_))
      by_cases c2 : (σ 11 i 34) = 0
      · refine br_u c2 (fun s1 e1 s2 e2 s4 e4 => ?_)
        have e24 : s2 2 0 4 = (σ 2 0 4) := by rw [e2, up3_g, if_neg (by omega), e1, up3_g, if_neg (by omega)]
        rw [e24] at e4
        refine t115 s4 ?_ ?_ ?_ ?_
        · rw [e4, e2, e1]; exact ok_n (ok_n (ok_z ok rfl (Or.inr rfl)) rfl) rfl
        · rw [e4, e2, e1]; exact ((fr_u (by simp [mF])).up (by simp [mF])).up (by simp [mF])
        · rw [if_pos g0, e4, up3_g, if_neg (by omega), e2, up3_g, if_neg (by omega), e1, up3_g, if_neg (by omega)]
        · rw [e4, up3_r, if_pos ⟨rfl, rfl⟩, e2, up3_r, if_pos ⟨rfl, rfl⟩, e1, up3_r, if_pos ⟨rfl, rfl⟩]
          unfold keepv tgv
          rw [if_pos g0, if_pos ⟨g0, c2⟩, if_pos ⟨g0, c2⟩]
      · have c3 : (σ 11 i 34) = 1 := by
          rcases hb with z | z
          · exact absurd z c2
          · exact z
        refine br_v c2 (t115 σ ok Fr.rf (by rw [if_pos g0]) ?_)
        unfold keepv tgv
        rw [if_pos g0, if_neg (fun z => c2 z.2), if_neg (fun z => c2 z.2), vu_eq c3, vu_self, vu_self]
    · have g1 : ¬ agn (c 3) (c 4) = 0 := fun z => c1 (hag.mp z)
      refine br_f c1 (br_f (by decide) (fun s12 e12 s13 e13 => ?_))
      refine t115 s13 ?_ ?_ ?_ ?_
      · rw [e13, e12]; exact ok_z (ok_n ok rfl) rfl (Or.inl rfl)
      · rw [e13, e12]; exact (fr_u (by simp [mF])).up (by simp [mF])
      · rw [if_neg g1, e13, up3_g, if_neg (by omega), e12, up3_g, if_pos ⟨rfl, rfl, rfl⟩]
      · rw [e13, up3_r, if_pos ⟨rfl, rfl⟩, e12, up3_r, if_neg (by omega)]
        unfold keepv tgv
        rw [if_neg g1, if_neg (fun z => g1 z.1), if_neg (fun z => g1 z.1)]
        have h19 : va_up (σ 11 i) 34 0 36 = σ 11 i 36 := by rw [vu_g, if_neg (by decide)]
        have h20 : va_up (σ 11 i) 34 0 37 = σ 11 i 37 := by rw [vu_g, if_neg (by decide)]
        rw [vu_eq h19, vu_eq h20]
  have t24 : w11_sendPart_J24 σ i (nI (dn + fi)) (nI dn) (nI fi) Q := by
    have nof : ¬ (0 < dn ∧ (c 3) + dn = (c 1) + (c 5)) → ((nI fi = 0 → w11_sendPart_J63 σ i (nI (dn + fi)) (nI dn) (nI fi) 16 Q) ∧ (¬ nI fi = 0 → w11_sendPart_J63 σ i (nI (dn + fi)) (nI dn) (nI fi) (16 ||| 1) Q)) := by
      intro hn
      unfold pfl at t63
      rw [if_neg hn] at t63
      by_cases c1 : fi = 0
      · rw [if_pos c1] at t63; exact br_t (by rw [c1]; rfl) t63
      · rw [if_neg c1] at t63; exact br_f (nI_ne0 (by omega) (by omega)) t63
    by_cases c0 : dn = 0
    · exact br_t (by rw [c0]; decide) (nof (by omega))
    · refine br_f (nI_nle (by omega) (by omega)) ?_
      show (¬ (σ 11 i 10) + nI dn = (σ 11 i 26) + (σ 13 i 1) → _) ∧ _
      rw [eend, eat, so_5]
      have e9 := so_9 I (a := (c 3) + dn) (b := (c 1) + (c 5)) (by omega) (by omega)
      by_cases c2 : (c 3) + dn = (c 1) + (c 5)
      · refine br_u (e9.mpr c2) ?_
        unfold pfl at t63
        rw [if_pos ⟨by omega, c2⟩] at t63
        by_cases c1 : fi = 0
        · rw [if_pos c1] at t63; exact br_t (by rw [c1]; rfl) t63
        · rw [if_neg c1] at t63; exact br_f (nI_ne0 (by omega) (by omega)) t63
      · exact br_v (fun z => c2 (e9.mp z)) (nof (fun z => c2 z.2))
  show (nI (dn + fi) ≤ imin (nI (dn + fi)) ((σ 11 i 26) + (σ 13 i 1) - (σ 11 i 10)) → _) ∧ _
  rw [eleft, emin]
  by_cases c1 : fi = 0
  · rw [c1] at t24
    refine br_t (nI_le (by omega) (by omega)) ?_
    rw [c1]
    exact t24
  · have c2 : fi = 1 := by omega
    rw [c2] at t24
    refine br_f (nI_ge (by omega) (by omega)) ?_
    rw [c2]
    exact t24
