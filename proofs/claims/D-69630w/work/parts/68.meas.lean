/-! measuring how long an answer takes -/
set_option maxRecDepth 100000
theorem vu_comm {f : Nat → Int32} {k k' : Nat} {v v' : Int32} (h : k ≠ k') : va_up (va_up f k v) k' v' = va_up (va_up f k' v') k v := by
  funext j
  simp only [vu_g]
  by_cases c : j = k'
  · rw [if_pos c, if_neg (by omega), if_pos c]
  · rw [if_neg c]
    by_cases c2 : j = k
    · rw [if_pos c2, if_pos c2]
    · rw [if_neg c2, if_neg c2, if_neg c]
theorem lmax_n {a b : Nat} (ha : a < 2147483648) (hb : b < 2147483648) : lmax (lN a) (lN b) = lN (max a b) := by
  unfold lmax
  by_cases c : b < a
  · rw [if_pos ((lN_lt (by omega) (by omega)).mpr c), Nat.max_eq_left (by omega)]
  · rw [if_neg (fun z => c ((lN_lt (by omega) (by omega)).mp z)), Nat.max_eq_right (by omega)]
theorem lmin_n {a b : Nat} (ha : a < 2147483648) (hb : b < 2147483648) : lmin (lN a) (lN b) = lN (min a b) := by
  unfold lmin
  by_cases c : b < a
  · rw [if_pos ((lN_lt (by omega) (by omega)).mpr c), Nat.min_eq_right (by omega)]
  · rw [if_neg (fun z => c ((lN_lt (by omega) (by omega)).mp z)), Nat.min_eq_left (by omega)]
/-- how far two numbers are apart -/
def apart (a b : Nat) : Nat := (a - b) + (b - a)
theorem sub_0le {a b : Nat} (ha : a < 2147483648) (hb : b < 2147483648) : 0 ≤ nI a - nI b ↔ b ≤ a := by
  rw [Int32.le_iff_toInt_le, sub_toInt ha hb]
  show (0 : Int) ≤ _ ↔ _
  omega
theorem neg_sub' {a b : Nat} (h : a ≤ b) : -(nI a - nI b) = nI (b - a) := by
  rw [← pk_sub h]
  grind
theorem iabs_n {a b : Nat} (ha : a < 2147483648) (hb : b < 2147483648) : iabs (nI a - nI b) = nI (apart a b) := by
  unfold iabs apart
  by_cases c : b ≤ a
  · rw [if_pos ((sub_0le ha hb).mpr c), pk_sub c]
    congr 1
    omega
  · rw [if_neg (fun z => c ((sub_0le ha hb).mp z)), show (0 : Int32) - (nI a - nI b) = -(nI a - nI b) by grind, neg_sub' (by omega)]
    congr 1
    omega
/-- the new numbers -/
def mSP (m : Int32) (sr sp r : Nat) : Nat := if m = 0 then r / 2 else (3 * sp + apart sr r) / 4
def mSR (m : Int32) (sr r : Nat) : Nat := if m = 0 then r else (7 * sr + r) / 8
def mRT (sr sp : Nat) : Nat := max 1000 (min (sr + max 10 (4 * sp)) 60000)
theorem mRT_le (sr sp : Nat) : 1000 ≤ mRT sr sp ∧ mRT sr sp ≤ 60000 := by unfold mRT; omega
theorem mSP_le {m : Int32} {sr sp r t : Nat} (h1 : m ≠ 0 → sr ≤ t ∧ sp ≤ t) (h2 : r ≤ t) : mSP m sr sp r ≤ t := by
  unfold mSP apart
  by_cases c : m = 0
  · rw [if_pos c]; omega
  · rw [if_neg c]; have := h1 c; omega
theorem mSR_le {m : Int32} {sr r t : Nat} (h1 : m ≠ 0 → sr ≤ t) (h2 : r ≤ t) : mSR m sr r ≤ t := by
  unfold mSR
  by_cases c : m = 0
  · rw [if_pos c]; omega
  · rw [if_neg c]; have := h1 c; omega
theorem s11_measure {σ : St} {i t ts sr sp : Nat} {x : Int32} {Q : St → Prop} (ok : okS σ) (ht : t ≤ 100000000) (hnow : (σ 2 0 4) = nI t) (hts : (σ 11 i 37) = nI ts) (hts2 : ts ≤ t) (hm : (σ 11 i 35) ≠ 0 → (σ 11 i 38) = nI sr ∧ (σ 11 i 39) = nI sp ∧ sr ≤ t ∧ sp ≤ t)
    (h1 : (σ 11 i 34) ≠ 0 → 0 < x - (σ 11 i 36) → ∀ σ', okS σ' → Fr (mF [] [] [] [(11, i, [16, 34, 35, 38, 39])]) σ σ' → σ' 11 i = (va_up (va_up (va_up (va_up (va_up (σ 11 i) 34 0) 35 1) 38 (nI (mSR ((σ 11 i 35)) sr (t - ts)))) 39 (nI (mSP ((σ 11 i 35)) sr sp (t - ts)))) 16 (nI (mRT (mSR ((σ 11 i 35)) sr (t - ts)) (mSP ((σ 11 i 35)) sr sp (t - ts))))) → Q σ') (h0 : ¬ ((σ 11 i 34) ≠ 0 ∧ 0 < x - (σ 11 i 36)) → Q σ) : w11_measure σ i x Q := by
  intro hb
  by_cases c1 : (σ 11 i 34) = 0
  · exact br_t c1 (h0 (fun z => z.1 c1))
  refine br_f c1 ?_
  by_cases c2 : 0 < x - (σ 11 i 36)
  rotate_left
  · exact br_f c2 (h0 (fun z => c2 z.2))
  refine br_t c2 (fun s1 e1 => ?_)
  have r24 : s1 2 0 4 = nI t := by rw [e1, up3_g, if_neg (by omega)]; exact hnow
  have r37 : s1 11 i 37 = nI ts := by rw [e1, up3_g, if_neg (by omega)]; exact hts
  have r35 : s1 11 i 35 = (σ 11 i 35) := by rw [e1, up3_g, if_neg (by omega)]
  have r38 : s1 11 i 38 = (σ 11 i 38) := by rw [e1, up3_g, if_neg (by omega)]
  have r39 : s1 11 i 39 = (σ 11 i 39) := by rw [e1, up3_g, if_neg (by omega)]
  have h1' := h1 c1 c2
  show bo (s1 11 i 35) → _
  intro hb2
  rw [r24, r37, pk_sub hts2, r35, r38, r39]
  rw [r35] at hb2
  by_cases c3 : (σ 11 i 35) = 0
  · refine br_u c3 (fun s6 e6 s7 e7 s8 e8 s5 e5 => ?_)
    rw [show nI (t - ts) / 2 = nI ((t - ts) / 2) from pk_div (d := 2) (by omega) (by decide) (by decide)] at e8
    have w38 : s8 11 i 38 = nI (t - ts) := by rw [e8, up3_g, if_neg (by omega), e7, up3_g, if_pos ⟨rfl, rfl, rfl⟩]
    have w39 : s8 11 i 39 = nI ((t - ts) / 2) := by rw [e8, up3_g, if_pos ⟨rfl, rfl, rfl⟩]
    rw [w38, w39, show (4 : Int32) * nI ((t - ts) / 2) = nI (4 * ((t - ts) / 2)) from pk_mul 4 _, show imax 10 (nI (4 * ((t - ts) / 2))) = nI (max 10 (4 * ((t - ts) / 2))) from imax_n (a := 10) (by omega) (by omega), nI_add, show imin (nI (t - ts + max 10 (4 * ((t - ts) / 2)))) 60000 = nI (min (t - ts + max 10 (4 * ((t - ts) / 2))) 60000) from imin_n (b := 60000) (by omega) (by omega), show imax 1000 (nI (min (t - ts + max 10 (4 * ((t - ts) / 2))) 60000)) = nI (max 1000 (min (t - ts + max 10 (4 * ((t - ts) / 2))) 60000)) from imax_n (a := 1000) (by omega) (by omega)] at e5
    refine h1' s5 ?_ ?_ ?_
    · rw [e5, e8, e7, e6, e1]; exact ok_n (ok_n (ok_n (ok_z (ok_z ok rfl (Or.inl rfl)) rfl (Or.inr rfl)) rfl) rfl) rfl
    · rw [e5, e8, e7, e6, e1]; exact ((((fr_u (by simp [mF])).up (by simp [mF])).up (by simp [mF])).up (by simp [mF])).up (by simp [mF])
    · rw [e5, up3_r, if_pos ⟨rfl, rfl⟩, e8, up3_r, if_pos ⟨rfl, rfl⟩, e7, up3_r, if_pos ⟨rfl, rfl⟩, e6, up3_r, if_pos ⟨rfl, rfl⟩, e1, up3_r, if_pos ⟨rfl, rfl⟩]
      unfold mRT mSR mSP
      rw [if_pos c3, if_pos c3]
  · have c4 : (σ 11 i 35) = 1 := by
      rcases hb2 with z | z
      · exact absurd z c3
      · exact z
    obtain ⟨m1, m2, m3, m4⟩ := hm c3
    refine br_v c3 (fun s3 e3 s4 e4 s5 e5 => ?_)
    have w38' : s3 11 i 38 = nI sr := by rw [e3, up3_g, if_neg (by omega), r38]; exact m1
    rw [w38', show (7 : Int32) * nI sr = nI (7 * sr) from pk_mul 7 _, nI_add, show nI (7 * sr + (t - ts)) / 8 = nI ((7 * sr + (t - ts)) / 8) from pk_div (d := 8) (by omega) (by decide) (by decide)] at e4
    rw [m1, m2, iabs_n (by omega) (by omega), show (3 : Int32) * nI sp = nI (3 * sp) from pk_mul 3 _, nI_add, show nI (3 * sp + apart sr (t - ts)) / 4 = nI ((3 * sp + apart sr (t - ts)) / 4) from pk_div (d := 4) (by unfold apart; omega) (by decide) (by decide)] at e3
    have eSP : (3 * sp + apart sr (t - ts)) / 4 = mSP ((σ 11 i 35)) sr sp (t - ts) := by unfold mSP; rw [if_neg c3]
    have eSR : (7 * sr + (t - ts)) / 8 = mSR ((σ 11 i 35)) sr (t - ts) := by unfold mSR; rw [if_neg c3]
    rw [eSP] at e3
    rw [eSR] at e4
    have bSP := mSP_le (m := (σ 11 i 35)) (sr := sr) (sp := sp) (r := t - ts) (t := t) (fun _ => ⟨m3, m4⟩) (by omega)
    have bSR := mSR_le (m := (σ 11 i 35)) (sr := sr) (r := t - ts) (t := t) (fun _ => m3) (by omega)
    have w38 : s4 11 i 38 = nI (mSR ((σ 11 i 35)) sr (t - ts)) := by rw [e4, up3_g, if_pos ⟨rfl, rfl, rfl⟩]
    have w39 : s4 11 i 39 = nI (mSP ((σ 11 i 35)) sr sp (t - ts)) := by rw [e4, up3_g, if_neg (by omega), e3, up3_g, if_pos ⟨rfl, rfl, rfl⟩]
    generalize mSP ((σ 11 i 35)) sr sp (t - ts) = SP at *
    generalize mSR ((σ 11 i 35)) sr (t - ts) = SR at *
    rw [w38, w39, show (4 : Int32) * nI SP = nI (4 * SP) from pk_mul 4 _, show imax 10 (nI (4 * SP)) = nI (max 10 (4 * SP)) from imax_n (a := 10) (by omega) (by omega), nI_add, show imin (nI (SR + max 10 (4 * SP))) 60000 = nI (min (SR + max 10 (4 * SP)) 60000) from imin_n (b := 60000) (by omega) (by omega), show imax 1000 (nI (min (SR + max 10 (4 * SP)) 60000)) = nI (max 1000 (min (SR + max 10 (4 * SP)) 60000)) from imax_n (a := 1000) (by omega) (by omega)] at e5
    refine h1' s5 ?_ ?_ ?_
    · rw [e5, e4, e3, e1]; exact ok_n (ok_n (ok_n (ok_z ok rfl (Or.inl rfl)) rfl) rfl) rfl
    · rw [e5, e4, e3, e1]; exact (((fr_u (by simp [mF])).up (by simp [mF])).up (by simp [mF])).up (by simp [mF])
    · rw [e5, up3_r, if_pos ⟨rfl, rfl⟩, e4, up3_r, if_pos ⟨rfl, rfl⟩, e3, up3_r, if_pos ⟨rfl, rfl⟩, e1, up3_r, if_pos ⟨rfl, rfl⟩]
      have c5 : va_up (σ 11 i) 34 0 35 = 1 := by rw [vu_g, if_neg (by decide)]; exact c4
      rw [vu_eq c5, vu_comm (k := 39) (k' := 38) (by decide)]
      rfl
theorem s14_measure {τ : St} {i t r sr sp : Nat} {Q : St → Prop} (ok' : okS τ) (ht : t ≤ 100000000) (hr : r ≤ t) (hm : (τ 15 i 16) ≠ 0 → (τ 15 i 14) = nI sr ∧ (τ 15 i 15) = nI sp ∧ sr ≤ t ∧ sp ≤ t)
    (h1 : ∀ τ', okS τ' → Fr (mF [] [] [] [(15, i, [13, 14, 15, 16])]) τ τ' → τ' 15 i = (va_up (va_up (va_up (va_up (τ 15 i) 16 1) 14 (nI (mSR ((τ 15 i 16)) sr r))) 15 (nI (mSP ((τ 15 i 16)) sr sp r))) 13 (nI (mRT (mSR ((τ 15 i 16)) sr r) (mSP ((τ 15 i 16)) sr sp r)))) → Q τ') : w14_measure τ i (nI r) Q := by
  have last : ∀ (s : St) (SR SP : Nat), SR ≤ t → SP ≤ t → s 15 i 14 = nI SR → s 15 i 15 = nI SP → (lmax 1000 (lmin 60000 (((s 15 i 14).toInt64) + (lmax 10 (4 * ((s 15 i 15).toInt64)))))).toInt32 = nI (mRT SR SP) := by
    intro s SR SP a1 a2 e1 e2
    rw [e1, e2, nI_l (by omega), nI_l (by omega), show (4 : Int64) * lN SP = lN (4 * SP) from lN_mul 4 _, show lmax 10 (lN (4 * SP)) = lN (max 10 (4 * SP)) from lmax_n (a := 10) (by omega) (by omega), lN_add, show lmin 60000 (lN (SR + max 10 (4 * SP))) = lN (min 60000 (SR + max 10 (4 * SP))) from lmin_n (a := 60000) (by omega) (by omega), show lmax 1000 (lN (min 60000 (SR + max 10 (4 * SP)))) = lN (max 1000 (min 60000 (SR + max 10 (4 * SP)))) from lmax_n (a := 1000) (by omega) (by omega), lN_i]
    unfold mRT
    congr 1
    omega
  intro hb
  by_cases c3 : (τ 15 i 16) = 0
  · refine br_t c3 (fun s1 e1 s2 e2 s3 e3 s4 e4 => ?_)
    rw [show nI r / 2 = nI (r / 2) from pk_div (d := 2) (by omega) (by decide) (by decide)] at e3
    have eSP : r / 2 = mSP ((τ 15 i 16)) sr sp r := by unfold mSP; rw [if_pos c3]
    have eSR : r = mSR ((τ 15 i 16)) sr r := by unfold mSR; rw [if_pos c3]
    have w14 : s3 15 i 14 = nI r := by rw [e3, up3_g, if_neg (by omega), e2, up3_g, if_pos ⟨rfl, rfl, rfl⟩]
    have w15 : s3 15 i 15 = nI (r / 2) := by rw [e3, up3_g, if_pos ⟨rfl, rfl, rfl⟩]
    rw [last s3 r (r / 2) hr (by omega) w14 w15] at e4
    refine h1 s4 ?_ ?_ ?_
    · rw [e4, e3, e2, e1]; exact ok_n (ok_n (ok_n (ok_z ok' rfl (Or.inr rfl)) rfl) rfl) rfl
    · rw [e4, e3, e2, e1]; exact (((fr_u (by simp [mF])).up (by simp [mF])).up (by simp [mF])).up (by simp [mF])
    · rw [← eSP, ← eSR, e4, up3_r, if_pos ⟨rfl, rfl⟩, e3, up3_r, if_pos ⟨rfl, rfl⟩, e2, up3_r, if_pos ⟨rfl, rfl⟩, e1, up3_r, if_pos ⟨rfl, rfl⟩]
  · have c4 : (τ 15 i 16) = 1 := by
      rcases hb with z | z
      · exact absurd z c3
      · exact z
    obtain ⟨m1, m2, m3, m4⟩ := hm c3
    have eSP : (3 * sp + apart sr r) / 4 = mSP ((τ 15 i 16)) sr sp r := by unfold mSP; rw [if_neg c3]
    have eSR : (7 * sr + r) / 8 = mSR ((τ 15 i 16)) sr r := by unfold mSR; rw [if_neg c3]
    have bSP := mSP_le (m := (τ 15 i 16)) (sr := sr) (sp := sp) (r := r) (t := t) (fun _ => ⟨m3, m4⟩) hr
    have bSR := mSR_le (m := (τ 15 i 16)) (sr := sr) (r := r) (t := t) (fun _ => m3) hr
    have j31 : ∀ y : Int32, y = nI (apart sr r) → w14_measure_J31 τ i (nI r) y (3 * nI sp) i Q := by
      intro y hy s5 e5 s6 e6 s4 e4
      rw [hy, show (3 : Int32) * nI sp = nI (3 * sp) from pk_mul 3 _, nI_add, show nI (3 * sp + apart sr r) / 4 = nI ((3 * sp + apart sr r) / 4) from pk_div (d := 4) (by unfold apart; omega) (by decide) (by decide), eSP] at e5
      have w14' : s5 15 i 14 = nI sr := by rw [e5, up3_g, if_neg (by omega)]; exact m1
      rw [w14', show (7 : Int32) * nI sr = nI (7 * sr) from pk_mul 7 _, nI_add, show nI (7 * sr + r) / 8 = nI ((7 * sr + r) / 8) from pk_div (d := 8) (by omega) (by decide) (by decide), eSR] at e6
      have w14 : s6 15 i 14 = nI (mSR ((τ 15 i 16)) sr r) := by rw [e6, up3_g, if_pos ⟨rfl, rfl, rfl⟩]
      have w15 : s6 15 i 15 = nI (mSP ((τ 15 i 16)) sr sp r) := by rw [e6, up3_g, if_neg (by omega), e5, up3_g, if_pos ⟨rfl, rfl, rfl⟩]
      rw [last s6 _ _ bSR bSP w14 w15] at e4
      refine h1 s4 ?_ ?_ ?_
      · rw [e4, e6, e5]; exact ok_n (ok_n (ok_n ok' rfl) rfl) rfl
      · rw [e4, e6, e5]; exact ((fr_u (by simp [mF])).up (by simp [mF])).up (by simp [mF])
      · rw [e4, up3_r, if_pos ⟨rfl, rfl⟩, e6, up3_r, if_pos ⟨rfl, rfl⟩, e5, up3_r, if_pos ⟨rfl, rfl⟩, vu_eq c4, vu_comm (k := 15) (k' := 14) (by decide)]
    refine br_f c3 ?_
    rw [m1, m2]
    have e0 := sub_0le (a := sr) (b := r) (by omega) (by omega)
    by_cases c5 : r ≤ sr
    · refine br_t (e0.mpr c5) (j31 _ ?_)
      rw [pk_sub c5]
      unfold apart
      congr 1
      omega
    · refine br_f (fun z => c5 (e0.mp z)) (j31 _ ?_)
      rw [neg_sub' (by omega)]
      unfold apart
      congr 1
      omega
