/-! a new acknowledgement: the model's way -/
set_option maxRecDepth 100000
theorem vu_vu {f : Nat → Int32} {k : Nat} {v w : Int32} : va_up (va_up f k v) k w = va_up f k w := by
  funext j
  simp only [vu_g]
  by_cases e : j = k
  · rw [if_pos e, if_pos e]
  · rw [if_neg e, if_neg e, if_neg e]
def cwM (rc : Int32) (st cw ss ms y : Nat) : Nat := if rc = 0 then (if st = 1 then cw else cwN 0 cw ss ms y) else ss
abbrev frsG (i : Nat) : Nat → Nat → Nat → Bool := mF [] [] [(56, [6, 7])] [(15, i, [4, 5, 11, 13, 14, 15, 16, 17, 18, 21, 22, 23, 24, 44])]
abbrev rnM (M : Nat → Int32) (I : Int32) (g : Bool) (c : CK) (y t ts sr sp rt' : Nat) : Nat → Int32 := (va_up (va_up (va_up (va_up (va_up (va_up (msM (va_up (va_up (va_up M 4 (I + nI ((c 2) + y))) 5 (I + nI (max (c 3) ((c 2) + y)))) 23 0) g t ts sr sp) 18 0) 11 (nI (cwM (M 18) (c 0) (c 10) (c 11) (c 9) y))) 24 0) 44 (nI t)) 21 (if (c 4) = (c 2) + y then 0 else 1)) 22 (if (c 4) = (c 2) + y then M 22 else nI (t + rt')))
theorem s14_fresh {τ : St} {i t ts sr sp y : Nat} {c : CK} {I : Int32} {Q : St → Prop} (ok' : okS τ) (ht : t ≤ 100000000) (hnow : (τ 14 0 10) = nI t) (hts : (τ 15 i 20) = nI ts) (hts2 : ts ≤ t) (hm : (τ 15 i 16) ≠ 0 → (τ 15 i 14) = nI sr ∧ (τ 15 i 15) = nI sp ∧ sr ≤ t ∧ sp ≤ t)
    (eack : (τ 14 0 35) = I + nI ((c 2) + y)) (est : (τ 15 i 0) = nI (c 0)) (hst8 : (c 0) ≤ 8) (eun : (τ 15 i 4) = I + nI (c 2)) (eat : (τ 15 i 5) = I + nI (c 3)) (emx : (τ 15 i 6) = I + nI (c 4)) (ems : (τ 15 i 10) = nI (c 9)) (ecw : (τ 15 i 11) = nI (c 10)) (ess : (τ 15 i 12) = nI (c 11)) (ert : (τ 15 i 13) = nI (c 12)) (hy1 : 1 ≤ y) (hyx : (c 2) + y ≤ (c 4)) (hax : (c 3) ≤ (c 4)) (hxx : (c 4) < 1000000000) (hy6 : y ≤ 66048) (hms : 64 ≤ (c 9) ∧ (c 9) ≤ 1460) (hcw : (c 9) ≤ (c 10) ∧ (c 10) ≤ 65535) (hss : (c 11) ≤ 65535) (hrt : (c 12) ≤ 60000)
    (hq : ∀ τ', okS τ' → Fr (frsG i) τ τ' → τ' 56 0 6 = τ 56 0 6 + 1 → τ' 56 0 7 = τ 56 0 7 + nI y → τ' 15 i = rnM (τ 15 i) I (gms ((τ 15 i 17)) (I + nI ((c 2) + y)) ((τ 15 i 19))) c y t ts sr sp (if gms ((τ 15 i 17)) (I + nI ((c 2) + y)) ((τ 15 i 19)) then mRT (mSR ((τ 15 i 16)) sr (t - ts)) (mSP ((τ 15 i 16)) sr sp (t - ts)) else (c 12)) → Q τ') : w14_fresh τ i Q := by
  generalize hgg : gms ((τ 15 i 17)) (I + nI ((c 2) + y)) ((τ 15 i 19)) = g at hq
  generalize hrt' : (if g then mRT (mSR ((τ 15 i 16)) sr (t - ts)) (mSP ((τ 15 i 16)) sr sp (t - ts)) else (c 12)) = rt' at hq
  have ed : (τ 14 0 35) - (τ 15 i 4) = nI y := by
    rw [eack, eun, so_4 _ _ _ (by omega)]
    congr 1
    omega
  unfold w14_fresh
  rw [ed, show (6 : Int32).toNatClampNeg = 6 by decide, show (7 : Int32).toNatClampNeg = 7 by decide]
  refine ⟨vin (n := 6) (by omega) (by omega), vin (n := 6) (by omega) (by omega), fun s1 e1 => ⟨vin (n := 7) (by omega) (by omega), vin (n := 7) (by omega) (by omega), fun s2 e2 s3 e3 => ?_⟩⟩
  have a2 : s2 14 0 35 = I + nI ((c 2) + y) := by rw [e2, up3_g, if_neg (by omega), e1, up3_g, if_neg (by omega)]; exact eack
  rw [a2] at e3
  have ok3 : okS s3 := by rw [e3, e2, e1]; exact ok_n (ok_n (ok_n ok' rfl) rfl) rfl
  have f3 : Fr (mF [] [] [(56, [6, 7])] [(15, i, [4])]) τ s3 := by
    rw [e3, e2, e1]
    exact ((fr_u (by simp [mF])).up (by simp [mF])).up (by simp [mF])
  have c36 : s3 56 0 6 = τ 56 0 6 + 1 := by rw [e3, up3_g, if_neg (by omega), e2, up3_g, if_neg (by omega), e1, up3_g, if_pos ⟨rfl, rfl, rfl⟩]
  have c37 : s3 56 0 7 = τ 56 0 7 + nI y := by rw [e3, up3_g, if_neg (by omega), e2, up3_g, if_pos ⟨rfl, rfl, rfl⟩, e1, up3_g, if_neg (by omega)]
  have r3 : s3 15 i = va_up (τ 15 i) 4 (I + nI ((c 2) + y)) := by rw [e3, up3_r, if_pos ⟨rfl, rfl⟩, e2, up3_r, if_neg (by omega), e1, up3_r, if_neg (by omega)]
  -- from the tries on
  have t67 : ∀ s : St, okS s → Fr (mF [] [] [] [(15, i, [5])]) s3 s → s 15 i = (va_up (va_up (τ 15 i) 4 (I + nI ((c 2) + y))) 5 (I + nI (max (c 3) ((c 2) + y)))) → w14_fresh_J67 s i (nI y) Q := by
    intro s oks f hr s5 e5
    have ok5 : okS s5 := by rw [e5]; exact ok_n oks rfl
    have f5 : Fr (mF [] [] [(56, [6, 7])] [(15, i, [4, 5, 23])]) τ s5 := by
      rw [e5]
      exact ((f3.sub (mF_sub rfl sub_nil rfl (sud_c (Or.inr ⟨_, List.mem_of_getElem? (i := 0) rfl, rfl⟩) sud_nil))).tr (f.sub (mF_sub rfl sub_nil rfl (sud_c (Or.inr ⟨_, List.mem_of_getElem? (i := 0) rfl, rfl⟩) sud_nil)))).up (by simp [mF])
    have hr5 : s5 15 i = (va_up (va_up (va_up (τ 15 i) 4 (I + nI ((c 2) + y))) 5 (I + nI (max (c 3) ((c 2) + y)))) 23 0) := by rw [e5, up3_r, if_pos ⟨rfl, rfl⟩, hr]
    have c56 : s5 56 0 6 = τ 56 0 6 + 1 := by rw [e5, up3_g, if_neg (by omega), f _ _ _ (by simp [mF])]; exact c36
    have c57 : s5 56 0 7 = τ 56 0 7 + nI y := by rw [e5, up3_g, if_neg (by omega), f _ _ _ (by simp [mF])]; exact c37
    have b5 : ∀ j, j ≠ 4 → j ≠ 5 → j ≠ 23 → s5 15 i j = τ 15 i j := fun j x1 x2 x3 => f5 _ _ _ (by simp [mF, x1, x2, x3])
    have b14 : ∀ j, s5 14 0 j = τ 14 0 j := fun j => f5 _ _ _ (by simp [mF])
    -- the window, and the timer
    have t111 : ∀ s9 : St, okS s9 → Fr (mF [] [] [] [(15, i, [13, 14, 15, 16, 17])]) s5 s9 → s9 15 i = msM (s5 15 i) g t ts sr sp → w14_fresh_J111 s9 i (nI y) Q := by
      intro s9 ok9 f9 hr9
      have b9 : ∀ j, j ≠ 4 → j ≠ 5 → j ≠ 23 → j ≠ 13 → j ≠ 14 → j ≠ 15 → j ≠ 16 → j ≠ 17 → s9 15 i j = τ 15 i j := fun j x1 x2 x3 x4 x5 x6 x7 x8 => by rw [f9 _ _ _ (by simp [mF, x4, x5, x6, x7, x8])]; exact b5 j x1 x2 x3
      have q18 : s9 15 i 18 = (τ 15 i 18) := b9 18 (by decide) (by decide) (by decide) (by decide) (by decide) (by decide) (by decide) (by decide)
      have q0 : s9 15 i 0 = nI (c 0) := (b9 0 (by decide) (by decide) (by decide) (by decide) (by decide) (by decide) (by decide) (by decide)).trans est
      have q12 : s9 15 i 12 = nI (c 11) := (b9 12 (by decide) (by decide) (by decide) (by decide) (by decide) (by decide) (by decide) (by decide)).trans ess
      have q11 : s9 15 i 11 = nI (c 10) := (b9 11 (by decide) (by decide) (by decide) (by decide) (by decide) (by decide) (by decide) (by decide)).trans ecw
      have q10 : s9 15 i 10 = nI (c 9) := (b9 10 (by decide) (by decide) (by decide) (by decide) (by decide) (by decide) (by decide) (by decide)).trans ems
      have q6 : s9 15 i 6 = I + nI (c 4) := (b9 6 (by decide) (by decide) (by decide) (by decide) (by decide) (by decide) (by decide) (by decide)).trans emx
      have q22 : s9 15 i 22 = (τ 15 i 22) := b9 22 (by decide) (by decide) (by decide) (by decide) (by decide) (by decide) (by decide) (by decide)
      have hr9' : s9 15 i = msM (va_up (va_up (va_up (τ 15 i) 4 (I + nI ((c 2) + y))) 5 (I + nI (max (c 3) ((c 2) + y)))) 23 0) g t ts sr sp := by rw [hr9, hr5]
      have q4 : s9 15 i 4 = I + nI ((c 2) + y) := by rw [hr9']; simp only [vu_g, Nat.reduceEqDiff, reduceIte]
      have q13 : s9 15 i 13 = nI rt' := by
        rw [hr9', ← hrt']
        simp only [vu_g, Nat.reduceEqDiff, reduceIte]
        unfold gmv
        split
        · rfl
        · exact ert
      have q1410 : s9 14 0 10 = nI t := by rw [f9 _ _ _ (by simp [mF]), b14]; exact hnow
      have F9 : Fr (frsG i) τ s9 := (f5.sub (mF_sub rfl sub_nil rfl (sud_c (Or.inr ⟨_, List.mem_of_getElem? (i := 0) rfl, rfl⟩) sud_nil))).tr (f9.sub (mF_sub rfl sub_nil rfl (sud_c (Or.inr ⟨_, List.mem_of_getElem? (i := 0) rfl, rfl⟩) sud_nil)))
      have t198 : ∀ s10 : St, okS s10 → Fr (mF [] [] [] [(15, i, [11, 18])]) s9 s10 → s10 15 i = (va_up (va_up (s9 15 i) 18 0) 11 (nI (cwM ((τ 15 i 18)) (c 0) (c 10) (c 11) (c 9) y))) → w14_fresh_J198 s10 i Q := by
        intro s10 ok10 f10 hr10 s6 e6 s7 e7 s8 e8
        have n6 : s6 14 0 10 = nI t := by rw [e6, up3_g, if_neg (by omega), f10 _ _ _ (by simp [mF])]; exact q1410
        rw [n6] at e7
        have ok8 : okS s8 := by rw [e8, e7, e6]; exact ok_z (ok_n (ok_n ok10 rfl) rfl) rfl (Or.inl rfl)
        have F8 : Fr (frsG i) τ s8 := by
          rw [e8, e7, e6]
          exact (((F9.tr (f10.sub (mF_sub rfl sub_nil rfl (sud_c (Or.inr ⟨_, List.mem_of_getElem? (i := 0) rfl, rfl⟩) sud_nil)))).up (by simp [mF])).up (by simp [mF])).up (by simp [mF])
        have hr8 : s8 15 i = (va_up (va_up (va_up (s10 15 i) 24 0) 44 (nI t)) 21 0) := by rw [e8, up3_r, if_pos ⟨rfl, rfl⟩, e7, up3_r, if_pos ⟨rfl, rfl⟩, e6, up3_r, if_pos ⟨rfl, rfl⟩]
        have w : ∀ j, j ≠ 24 → j ≠ 44 → j ≠ 21 → j ≠ 11 → j ≠ 18 → s8 15 i j = s9 15 i j := fun j x1 x2 x3 x4 x5 => by
          rw [hr8]
          simp only [vu_g]
          rw [if_neg x3, if_neg x2, if_neg x1, f10 _ _ _ (by simp [mF, x4, x5])]
        have w4 : s8 15 i 4 = I + nI ((c 2) + y) := (w 4 (by decide) (by decide) (by decide) (by decide) (by decide)).trans q4
        have w6 : s8 15 i 6 = I + nI (c 4) := (w 6 (by decide) (by decide) (by decide) (by decide) (by decide)).trans q6
        have w13 : s8 15 i 13 = nI rt' := (w 13 (by decide) (by decide) (by decide) (by decide) (by decide)).trans q13
        have w22 : s8 15 i 22 = (τ 15 i 22) := (w 22 (by decide) (by decide) (by decide) (by decide) (by decide)).trans q22
        have w10 : s8 14 0 10 = nI t := by rw [e8, up3_g, if_neg (by omega), e7, up3_g, if_neg (by omega)]; exact n6
        have d6 : ∀ j, s8 56 0 j = s5 56 0 j := fun j => by
          rw [e8, up3_g, if_neg (by omega), e7, up3_g, if_neg (by omega), e6, up3_g, if_neg (by omega), f10 _ _ _ (by simp [mF]), f9 _ _ _ (by simp [mF])]
        rw [w4, w6]
        have ecmp : 0 ≤ (I + nI ((c 2) + y)) - (I + nI (c 4)) ↔ ¬ (c 2) + y < (c 4) := by
          rw [← Int32.not_lt, so_7 _ (by omega) (by omega)]
        by_cases c5 : (c 4) = (c 2) + y
        · refine br_t (ecmp.mpr (by omega)) (br_t rfl (hq s8 ok8 F8 (by rw [d6]; exact c56) (by rw [d6]; exact c57) ?_))
          unfold rnM
          rw [if_pos c5, if_pos c5, ← hr9', ← hr10, ← hr8, vu_eq w22]
        · refine br_f (fun z => (ecmp.mp z) (by omega)) (br_f (by decide) (s14_timerSet ok8 (fun s11 f11 ok11 hr11 => ?_)))
          rw [w10, w13, nI_add] at hr11
          refine hq s11 ok11 (F8.tr (f11.sub (mF_sub rfl sub_nil rfl (sud_c (Or.inr ⟨_, List.mem_of_getElem? (i := 0) rfl, rfl⟩) sud_nil)))) (by rw [f11 _ _ _ (by simp [mF]), d6]; exact c56) (by rw [f11 _ _ _ (by simp [mF]), d6]; exact c57) ?_
          unfold rnM
          rw [if_neg c5, if_neg c5, ← hr9', ← hr10, hr11, hr8, vu_vu]
      show bo (s9 15 i 18) → _
      intro _
      rw [q18, q0, q12, q11, q10]
      by_cases c6 : (τ 15 i 18) = 0
      · have e18 : s9 15 i 18 = 0 := q18.trans c6
        refine br_t c6 ?_
        by_cases c8 : (c 0) = 1
        · refine br_t (by rw [c8]; rfl) (t198 s9 ok9 Fr.rf ?_)
          unfold cwM
          rw [if_pos c6, if_pos c8, vu_eq e18, vu_eq q11]
        · refine br_f (fun z => c8 ((nI_eq (b := 1) (by omega) (by decide)).mp z)) ?_
          have grow : ∀ v : Nat, v ≤ 66048 → min ((c 10) + v) 65535 = cwN 0 (c 10) (c 11) (c 9) y → ∀ s10, s10 = up3 s9 15 i 11 (imin 65535 (nI (c 10) + nI v)) → w14_fresh_J198 s10 i Q := by
            intro v hv hcwn s10 e10
            rw [nI_add, show imin 65535 (nI ((c 10) + v)) = nI (min 65535 ((c 10) + v)) from imin_n (a := 65535) (by omega) (by omega), Nat.min_comm, hcwn] at e10
            refine t198 s10 (by rw [e10]; exact ok_n ok9 rfl) (by rw [e10]; exact fr_u (by simp [mF])) ?_
            unfold cwM
            rw [e10, up3_r, if_pos ⟨rfl, rfl⟩, if_pos c6, if_neg c8, vu_eq e18]
          by_cases c7 : (c 11) ≤ (c 10)
          · refine br_t (nI_le c7 (by omega)) ⟨nI_ne0 (by omega) (by omega), ?_⟩
            have hmm : (c 9) * (c 9) ≤ 1460 * 1460 := Nat.mul_le_mul hms.2 hms.2
            have hdv : (c 9) * (c 9) / (c 10) ≤ (c 9) * (c 9) := Nat.div_le_self _ _
            have hdv2 : (c 9) * (c 9) / (c 10) ≤ (c 9) := by
              apply Nat.div_le_of_le_mul
              exact Nat.mul_le_mul_right _ hcw.1
            rw [pk_mul, pk_div (by omega) (by omega) (by omega), show imax 1 (nI ((c 9) * (c 9) / (c 10))) = nI (max 1 ((c 9) * (c 9) / (c 10))) from imax_n (a := 1) (by omega) (by omega)]
            refine grow _ (by omega) ?_
            unfold cwN
            rw [if_pos rfl, if_pos c7]
          · refine br_f (nI_ge (by omega) (by omega)) ?_
            rw [imin_n (by omega) (by omega)]
            refine grow _ (by omega) ?_
            unfold cwN
            rw [if_pos rfl, if_neg c7]
      · refine br_f c6 (fun s13 e13 s14 e14 => ?_)
        have w12 : s13 15 i 12 = nI (c 11) := by rw [e13, up3_g, if_neg (by omega)]; exact q12
        rw [w12] at e14
        refine t198 s14 (by rw [e14, e13]; exact ok_n (ok_z ok9 rfl (Or.inl rfl)) rfl) (by rw [e14, e13]; exact (fr_u (by simp [mF])).up (by simp [mF])) ?_
        unfold cwM
        rw [e14, up3_r, if_pos ⟨rfl, rfl⟩, e13, up3_r, if_pos ⟨rfl, rfl⟩, if_neg c6]
    have v17 : s5 15 i 17 = (τ 15 i 17) := b5 17 (by decide) (by decide) (by decide)
    have v19 : s5 15 i 19 = (τ 15 i 19) := b5 19 (by decide) (by decide) (by decide)
    have v20 : s5 15 i 20 = nI ts := (b5 20 (by decide) (by decide) (by decide)).trans hts
    have v16 : s5 15 i 16 = (τ 15 i 16) := b5 16 (by decide) (by decide) (by decide)
    have v14 : s5 15 i 14 = (τ 15 i 14) := b5 14 (by decide) (by decide) (by decide)
    have v15 : s5 15 i 15 = (τ 15 i 15) := b5 15 (by decide) (by decide) (by decide)
    have nomeas : g = false → w14_fresh_J111 s5 i (nI y) Q := by
      intro hg
      refine t111 s5 ok5 Fr.rf ?_
      unfold msM gmv
      rw [hg]
      simp only [Bool.false_eq_true, if_false]
      rw [vu_self, vu_self, vu_self, vu_self, vu_self]
    show bo (s5 15 i 17) → _
    intro _
    rw [v17, v19, b14, eack]
    have hgd : g = decide ((τ 15 i 17) ≠ 0 ∧ 0 < (I + nI ((c 2) + y)) - (τ 15 i 19)) := hgg.symm
    by_cases c1 : (τ 15 i 17) = 0
    · exact br_t c1 (nomeas (by rw [hgd]; exact decide_eq_false (fun z => z.1 c1)))
    · refine br_f c1 ?_
      by_cases c2 : 0 < (I + nI ((c 2) + y)) - (τ 15 i 19)
      · refine br_f (Int32.not_le.mpr c2) (br_f (by decide) (fun s16 e16 => ?_))
        have hg : g = true := by rw [hgd]; exact decide_eq_true ⟨c1, c2⟩
        have u20 : s16 15 i 20 = nI ts := by rw [e16, up3_g, if_neg (by omega)]; exact v20
        have u10 : s16 14 0 10 = nI t := by rw [e16, up3_g, if_neg (by omega), b14]; exact hnow
        have u16 : s16 15 i 16 = (τ 15 i 16) := by rw [e16, up3_g, if_neg (by omega)]; exact v16
        have u14 : s16 15 i 14 = (τ 15 i 14) := by rw [e16, up3_g, if_neg (by omega)]; exact v14
        have u15 : s16 15 i 15 = (τ 15 i 15) := by rw [e16, up3_g, if_neg (by omega)]; exact v15
        rw [u20, u10, pk_sub hts2]
        refine s14_measure (t := t) (r := t - ts) (sr := sr) (sp := sp) (by rw [e16]; exact ok_z ok5 rfl (Or.inl rfl)) ht (by omega) (by rw [u16, u14, u15]; exact hm) (fun s17 ok17 f17 hr17 => ?_)
        refine t111 s17 ok17 ?_ ?_
        · refine Fr.tr (σ1 := s16) ?_ (f17.sub (mF_sub rfl sub_nil rfl (sud_c (Or.inr ⟨_, List.mem_of_getElem? (i := 0) rfl, rfl⟩) sud_nil)))
          rw [e16]
          exact fr_u (by simp [mF])
        · rw [u16] at hr17
          rw [hr17, e16, up3_r, if_pos ⟨rfl, rfl⟩, hg]
          unfold msM
          rw [v16]
          rfl
      · exact br_t (Int32.not_lt.mp c2) (br_t rfl (nomeas (by rw [hgd]; exact decide_eq_false (fun z => c2 z.2))))
  have r10 : s3 15 i 5 = I + nI (c 3) := by rw [r3, vu_g, if_neg (by decide)]; exact eat
  have r9 : s3 15 i 4 = I + nI ((c 2) + y) := by rw [r3, vu_g, if_pos rfl]
  rw [r10, r9]
  have ecmp : 0 ≤ (I + nI (c 3)) - (I + nI ((c 2) + y)) ↔ ¬ (c 3) < (c 2) + y := by
    rw [← Int32.not_lt, so_7 _ (by omega) (by omega)]
  by_cases c1 : (c 3) < (c 2) + y
  · refine br_f (fun z => (ecmp.mp z) c1) (br_f (by decide) (fun s18 e18 => t67 s18 (by rw [e18]; exact ok_n ok3 rfl) (by rw [e18]; exact fr_u (by simp [mF])) ?_))
    rw [e18, up3_r, if_pos ⟨rfl, rfl⟩, r3, Nat.max_eq_right (by omega)]
  · refine br_t (ecmp.mpr c1) (br_t rfl (t67 s3 ok3 Fr.rf ?_))
    rw [Nat.max_eq_left (by omega), ← r3, vu_eq r10]
