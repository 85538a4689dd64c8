/-! boot: the two side by side -/
set_option maxRecDepth 100000
def usual (x : Int32) : Prop := ¬ ushr x 24 < 1 ∧ ¬ 223 < ushr x 24 ∧ ¬ ushr x 24 = 127
theorem s19_isUsual {σ : St} {x : Int32} {Q : Int32 → Prop} (h1 : usual x → Q 1) (h0 : ¬ usual x → Q 0) : w19_isUsual σ x Q := by
  refine br_c (fun c => h0 (fun z => z.1 c)) (fun c1 => br_c (fun c => h0 (fun z => z.2.1 c)) (fun c2 => br_c (fun c => h0 (fun z => z.2.2 c)) (fun c3 => h1 ⟨c1, c2, c3⟩)))
theorem s14_isHost {σ : St} {x : Int32} {Q : Int32 → Prop} (h1 : usual x → Q 1) (h0 : ¬ usual x → Q 0) : w14_isHost σ x Q := by
  refine br_c (fun c => h0 (fun z => z.1 c)) (fun c1 => br_c (fun c => h0 (fun z => z.2.1 c)) (fun c2 => br_c (fun c => h0 (fun z => z.2.2 c)) (fun c3 => h1 ⟨c1, c2, c3⟩)))
/-- the component's part of a boot, behind the opening -/
theorem s0_boot_tail {σ : St} {c : Nat} {x1 x2 x3 x4 x5 : Int32} {Q : Int32 → St → Prop} (hq : ∀ σ' : St, (∀ k i j, k ≠ 0 → k ≠ 2 → k ≠ 3 → k ≠ 5 → k ≠ 6 → k ≠ 8 → k ≠ 11 → k ≠ 27 → σ' k i j = σ k i j) → (σ' 0 0 12) = x1 → (σ' 3 0 1) = x1 → (σ' 5 0 1) = x1 → (σ' 8 0 2) = x1 → (σ' 3 0 3) = x3 → (σ' 3 0 2) = (-1) <<< ((32 - x2) &&& 31) →
      (∀ j, j < 6 → (σ' 27 0) j = macb x4 x5 j) → ((σ' 0 0 11) = 1 ∧ (σ' 2 0 4) = 0 ∧ (σ' 2 0 3) = 0 ∧ (σ' 3 0 7) = 0 ∧ (σ' 3 0 9) = 0 ∧ (σ' 6 0 1) = 0 ∧ (σ' 5 0 2) = 0) → ((σ' 6 0 2) = 0 ∧ (σ' 0 0 13) = 0 ∧ (σ' 8 0 3) = 0 ∧ (σ' 8 0 4) = 0 ∧ (σ' 8 0 5) = 0 ∧ (σ' 8 0 6) = 0 ∧ (σ' 8 0 7) = 0 ∧ (σ' 8 0 8) = 0) → (∀ i, i < 16 → (σ' 11 i 2) = 0 ∧ (σ' 11 i 29) = 0 ∧ (σ' 11 i 33) = 0) → (σ' 0 0 1) = (σ 0 0 1) → Q (nI c) σ') :
    ∀ σ3, σ3 = up3 σ 0 0 12 x1 → (w2_begin σ3 x4 x5 (fun σ4 => (w3_begin σ4 (σ4 0 0 12) x2 x3 (fun σ5 => (w5_begin σ5 (σ5 0 0 12) (fun σ6 => (w6_begin σ6 (fun σ7 => (w8_begin σ7 (σ7 0 0 12) (fun σ8 => (∃ z11, w0_boot_L137 (nI c) Q (fun σ12 => ∀ σ13, σ13 = up3 σ12 0 0 13 0 → (∀ σ14, σ14 = up3 σ13 0 0 11 1 → (Q (nI c) σ14))) z11 σ8 0))))))))))) := by
  intro s3 e3 s4 e4 s5 e5
  refine s19_putTwo (a := 0) (by show _ ≤ 6; omega) (by omega) (by decide) ?_
  refine s19_putFour (a := 2) (by show _ ≤ 6; omega) (by omega) (by decide) ?_
  generalize hs6 : row3 (row3 s5 27 0 (put2 (s5 27 0) 0 x4)) 27 0 (put4 (row3 s5 27 0 (put2 (s5 27 0) 0 x4) 27 0) 2 x5) = s6
  rw [row3_s, row3_row3] at hs6
  intro s7 e7 s8 e8 s9 e9 s10 e10 s11 e11 s12 e12 s13 e13 s14 e14 s15 e15 s16 e16 s17 e17 s18 e18 s19 e19 s20 e20 s21 e21 s22 e22
  refine ⟨17, s0_boot_L137 16 0 _ rfl (fun i hi => by omega) (fun s23 q1 q2 s24 e24 s25 e25 => ?_)⟩
  have i6 : s6 0 0 12 = x1 := by
    rw [← hs6, row3_g, if_neg (by decide), e5, up3_g, if_neg (by decide), e4, up3_g, if_neg (by decide), e3, up3_g, if_pos ⟨rfl, rfl, rfl⟩]
  have i11 : s11 0 0 12 = x1 := by
    rw [e11, e10, e9, e8, e7]
    simp only [up3_g]
    simpa using i6
  have i15 : s15 0 0 12 = x1 := by
    rw [e15, e14, e13, e12]
    simp only [up3_g]
    simpa using i11
  have own : s25 27 0 = put4 (put2 (s5 27 0) 0 x4) 2 x5 := by
    rw [e25, up3_i (by decide), e24, up3_i (by decide), q1 27 0 (by decide), e22, e21, e20, e19, e18, e17, e16, e15, e14, e13, e12, e11, e10, e9, e8, e7]
    simp only [up3_r]
    simp
    rw [← hs6, row3_s]
  have ch : s22 = up3 (up3 (up3 (up3 (up3 (up3 (up3 (up3 (up3 (up3 (up3 (up3 (up3 (up3 (up3 (up3 s6 3 0 1 x1) 3 0 2 ((-1) <<< ((32 - x2) &&& 31))) 3 0 3 x3) 3 0 7 0) 3 0 9 0) 5 0 1 x1) 5 0 2 0) 6 0 1 0) 6 0 2 0) 8 0 2 x1) 8 0 3 0) 8 0 4 0) 8 0 5 0) 8 0 6 0) 8 0 7 0) 8 0 8 0 := by
    rw [e22, e21, e20, e19, e18, e17, e16, i15, e15, e14, e13, e12, i11, e11, e10, e9, e8, e7, i6]
  have b25 : ∀ k i j, k ≠ 0 → k ≠ 11 → s25 k i j = s22 k i j := by
    intro k i j h1 h2
    rw [e25, up3_j (by omega), e24, up3_j (by omega), q1 k i h2]
  have b6 : ∀ k i j, k ≠ 0 → k ≠ 2 → k ≠ 27 → s6 k i j = σ k i j := by
    intro k i j h1 h2 h3
    rw [← hs6, row3_o (by omega), e5, up3_j (by omega), e4, up3_j (by omega), e3, up3_j (by omega)]
  have c0 : ∀ j, j ≠ 11 → j ≠ 13 → s25 0 0 j = s6 0 0 j := by
    intro j h1 h2
    rw [e25, up3_j (by omega), e24, up3_j (by omega), q1 0 0 (by decide), ch]
    simp [up3_g]
  refine hq s25 (fun k i j h0 h2 h3 h5 h6 h8 h11 h27 => ?_) ?_ ?_ ?_ ?_ ?_ ?_ ?_ ?_ ?_ ?_ ?_
  · rw [b25 k i j h0 h11, ch]
    rw [up3_j (by omega), up3_j (by omega), up3_j (by omega), up3_j (by omega), up3_j (by omega), up3_j (by omega), up3_j (by omega), up3_j (by omega), up3_j (by omega), up3_j (by omega), up3_j (by omega), up3_j (by omega), up3_j (by omega), up3_j (by omega), up3_j (by omega), up3_j (by omega)]
    exact b6 k i j h0 h2 h27
  · rw [c0 _ (by decide) (by decide)]; exact i6
  · rw [b25 _ _ _ (by decide) (by decide), ch]; simp [up3_g]
  · rw [b25 _ _ _ (by decide) (by decide), ch]; simp [up3_g]
  · rw [b25 _ _ _ (by decide) (by decide), ch]; simp [up3_g]
  · rw [b25 _ _ _ (by decide) (by decide), ch]; simp [up3_g]
  · rw [b25 _ _ _ (by decide) (by decide), ch]; simp [up3_g]
  · intro j hj
    rw [own]
    unfold macb put4 put2
    simp only [vu_g]
    repeat' split
    all_goals first | rfl | omega
  · have n6 : s6 2 0 4 = 0 ∧ s6 2 0 3 = 0 := by
      rw [← hs6]
      constructor
      · rw [row3_g, if_neg (by decide), e5, up3_g, if_pos ⟨rfl, rfl, rfl⟩]
      · rw [row3_g, if_neg (by decide), e5, up3_g, if_neg (by decide), e4, up3_g, if_pos ⟨rfl, rfl, rfl⟩]
    refine ⟨by rw [e25, up3_g, if_pos ⟨rfl, rfl, rfl⟩], ?_, ?_, ?_, ?_, ?_, ?_⟩
    · rw [b25 _ _ _ (by decide) (by decide), ch]; simp [up3_g]; exact n6.1
    · rw [b25 _ _ _ (by decide) (by decide), ch]; simp [up3_g]; exact n6.2
    · rw [b25 _ _ _ (by decide) (by decide), ch]; simp [up3_g]
    · rw [b25 _ _ _ (by decide) (by decide), ch]; simp [up3_g]
    · rw [b25 _ _ _ (by decide) (by decide), ch]; simp [up3_g]
    · rw [b25 _ _ _ (by decide) (by decide), ch]; simp [up3_g]
  · refine ⟨?_, by rw [e25, up3_g, if_neg (by decide), e24, up3_g, if_pos ⟨rfl, rfl, rfl⟩], ?_, ?_, ?_, ?_, ?_, ?_⟩
    all_goals rw [b25 _ _ _ (by decide) (by decide), ch]; simp [up3_g]
  · intro i hi
    have h9 := q2 i hi
    rw [e25, up3_j (by simp), up3_j (by simp), up3_j (by simp), e24, up3_j (by simp), up3_j (by simp), up3_j (by simp)]
    exact h9
  · rw [c0 _ (by decide) (by decide), ← hs6, row3_g, if_neg (by decide), e5, up3_g, if_neg (by decide), e4, up3_g, if_neg (by decide), e3, up3_g, if_neg (by decide)]
/-- the model's part -/
theorem s14_boot_tail {σ : St} {c : Nat} {x1 x2 x3 x4 x5 : Int32} {Q : Int32 → St → Prop} (hc : c ≤ 64) (hq : ∀ σ' : St, (∀ k i j, k ≠ 14 → k ≠ 15 → k ≠ 16 → k ≠ 17 → k ≠ 18 → k ≠ 52 → k ≠ 53 → k ≠ 54 → k ≠ 55 → k ≠ 56 → σ' k i j = σ k i j) → (∀ e, e < c → filed σ' (σ 51 0) e) → ((σ' 14 0 5) = x1 ∧ (σ' 14 0 6) = x2 ∧ (σ' 14 0 7) = x3 ∧ (σ' 14 0 8) = x4 &&& 65535 ∧ (σ' 14 0 9) = x5 ∧ (σ' 14 0 11) = nI c) →
      ((σ' 14 0 4) = 1 ∧ (σ' 14 0 10) = 0 ∧ (σ' 14 0 23) = 0 ∧ (σ' 14 0 24) = 0 ∧ (σ' 14 0 12) = 0 ∧ (σ' 14 0 18) = 0 ∧ (σ' 14 0 25) = 0) → (∀ i, i < 8 → (σ' 56 0) i = 0) → (∀ i, i < 16 → (σ' 15 i 0) = 0) → (∀ i, i < 16 → (σ' 16 i 0) = 0) → (∀ i, i < 8 → (σ' 17 i 0) = 0) → (∀ i, i < 4 → (σ' 18 i 0) = 0) → (σ' 14 0 1) = (σ 14 0 1) ∧ (σ' 14 0 3) = (σ 14 0 3) → Q (nI c) σ') :
    ∀ σ3, σ3 = up3 σ 14 0 5 x1 → (∀ σ4, σ4 = up3 σ3 14 0 6 x2 → (∀ σ5, σ5 = up3 σ4 14 0 7 x3 → (∀ σ6, σ6 = up3 σ5 14 0 8 (x4 &&& 65535) → (∀ σ7, σ7 = up3 σ6 14 0 9 x5 → (∀ σ8, σ8 = up3 σ7 14 0 11 (nI c) → (∃ z18, w14_boot_L110 (nI c) Q (fun σ19 => ∀ σ20, σ20 = up3 σ19 14 0 4 1 → (∀ σ21, σ21 = up3 σ20 14 0 10 0 → (∀ σ22, σ22 = up3 σ21 14 0 23 0 → (∀ σ23, σ23 = up3 σ22 14 0 24 0 → (∀ σ24, σ24 = up3 σ23 14 0 12 0 → (∀ σ25, σ25 = up3 σ24 14 0 18 0 → (∀ σ26, σ26 = up3 σ25 14 0 25 0 → (∃ z28, w14_boot_L275 (nI c) Q (fun σ29 => ∃ z32, w14_boot_L299 (nI c) Q (fun σ33 => ∃ z36, w14_boot_L326 (nI c) Q (fun σ37 => ∃ z40, w14_boot_L353 (nI c) Q (fun σ41 => ∃ z44, w14_boot_L380 (nI c) Q (fun σ45 => Q (nI c) σ45) z44 σ41 0) z40 σ37 0) z36 σ33 0) z32 σ29 0) z28 σ26 0)))))))) z18 σ8 0)))))) := by
  intro s3 e3 s4 e4 s5 e5 s6 e6 s7 e7 s8 e8
  have f8 : s8 51 0 = σ 51 0 := by rw [e8, up3_i (by decide), e7, up3_i (by decide), e6, up3_i (by decide), e5, up3_i (by decide), e4, up3_i (by decide), e3, up3_i (by decide)]
  refine ⟨c + 1, s14_boot_L110 hc c 0 s8 (by omega) (fun e he => by omega) (fun s19 q1 q2 s20 e20 s21 e21 s22 e22 s23 e23 s24 e24 s25 e25 s26 e26 => ?_)⟩
  rw [f8] at q2
  refine ⟨9, s14_boot_L275 8 0 s26 rfl (fun i hi => by omega) (fun s29 q3 q4 => ⟨17, s14_boot_L299 16 0 s29 rfl (fun i hi => by omega) (fun s33 q5 q6 => ⟨17, s14_boot_L326 16 0 s33 rfl (fun i hi => by omega) (fun s37 q7 q8 => ⟨9, s14_boot_L353 8 0 s37 rfl (fun i hi => by omega) (fun s41 q9 q10 => ⟨5, s14_boot_L380 4 0 s41 rfl (fun i hi => by omega) (fun s45 q11 q12 => ?_)⟩)⟩)⟩)⟩)⟩
  have ch : ∀ j, s45 14 0 j = up3 (up3 (up3 (up3 (up3 (up3 (up3 (up3 (up3 (up3 (up3 (up3 (up3 σ 14 0 5 x1) 14 0 6 x2) 14 0 7 x3) 14 0 8 (x4 &&& 65535)) 14 0 9 x5) 14 0 11 (nI c)) 14 0 4 1) 14 0 10 0) 14 0 23 0) 14 0 24 0) 14 0 12 0) 14 0 18 0) 14 0 25 0 14 0 j := by
    intro j
    rw [q11 14 0 (by decide), q9 14 0 (by decide), q7 14 0 (by decide), q5 14 0 (by decide), q3 14 0 (by decide)]
    have h14 : s19 14 0 = s8 14 0 := q1 14 0 (by omega)
    rw [e26, e25, e24, e23, e22, e21, e20]
    simp only [up3_g, h14]
    rw [e8, e7, e6, e5, e4, e3]
    simp only [up3_g]
  have b : ∀ k i, k ≠ 14 → k ≠ 15 → k ≠ 16 → k ≠ 17 → k ≠ 18 → k ≠ 56 → s45 k i = s19 k i := by
    intro k i h1 h2 h3 h4 h5 h6
    rw [q11 k i h5, q9 k i h4, q7 k i h3, q5 k i h2, q3 k i h6, e26, up3_i (by omega), e25, up3_i (by omega), e24, up3_i (by omega), e23, up3_i (by omega), e22, up3_i (by omega), e21, up3_i (by omega), e20, up3_i (by omega)]
  refine hq s45 (fun k i j h14 h15 h16 h17 h18 h52 h53 h54 h55 h56 => ?_) (fun e he => ?_) ⟨?_, ?_, ?_, ?_, ?_, ?_⟩ ⟨?_, ?_, ?_, ?_, ?_, ?_, ?_⟩ (fun i hi => ?_) (fun i hi => ?_) (fun i hi => ?_) (fun i hi => ?_) q12 ⟨?_, ?_⟩
  · rw [b k i h14 h15 h16 h17 h18 h56, q1 k i (by omega), e8, up3_j (by omega), e7, up3_j (by omega), e6, up3_j (by omega), e5, up3_j (by omega), e4, up3_j (by omega), e3, up3_j (by omega)]
  · have h9 := q2 e he
    unfold filed at h9 ⊢
    rw [b 52 0 (by decide) (by decide) (by decide) (by decide) (by decide) (by decide), b 53 0 (by decide) (by decide) (by decide) (by decide) (by decide) (by decide), b 54 0 (by decide) (by decide) (by decide) (by decide) (by decide) (by decide), b 55 0 (by decide) (by decide) (by decide) (by decide) (by decide) (by decide)]
    exact h9
  · rw [ch]; simp [up3_g]
  · rw [ch]; simp [up3_g]
  · rw [ch]; simp [up3_g]
  · rw [ch]; simp [up3_g]
  · rw [ch]; simp [up3_g]
  · rw [ch]; simp [up3_g]
  · rw [ch]; simp [up3_g]
  · rw [ch]; simp [up3_g]
  · rw [ch]; simp [up3_g]
  · rw [ch]; simp [up3_g]
  · rw [ch]; simp [up3_g]
  · rw [ch]; simp [up3_g]
  · rw [ch]; simp [up3_g]
  · rw [q11 56 0 (by decide), q9 56 0 (by decide), q7 56 0 (by decide), q5 56 0 (by decide)]
    exact q4 i hi
  · rw [q11 15 i (by decide), q9 15 i (by decide), q7 15 i (by decide)]
    exact q6 i hi
  · rw [q11 16 i (by decide), q9 16 i (by decide)]
    exact q8 i hi
  · rw [q11 17 i (by decide)]
    exact q10 i hi
  · rw [ch]; simp [up3_g]
  · rw [ch]; simp [up3_g]
theorem b8_lo (v : Int32) : b8 (v &&& 65535) = b8 v := b8_ext fun i hi => by
  have h := b_and v 65535 i
  unfold bt at h
  rw [h]
  have h2 : ∀ i, i < 8 → (65535 : Int32).toBitVec.getLsbD i = true := by decide
  rw [h2 i hi, Bool.and_true]
theorem b8_lo8 (v : Int32) : b8 ((v &&& 65535) >>> 8) = b8 (v >>> 8) := b8_ext fun i hi => by
  rw [lb_sshr _ 8 8 (by decide) (by omega) (by omega), lb_sshr _ 8 8 (by decide) (by omega) (by omega)]
  have h := b_and v 65535 (8 + i)
  unfold bt at h
  rw [h]
  have h2 : ∀ i, i < 8 → (65535 : Int32).toBitVec.getLsbD (8 + i) = true := by decide
  rw [h2 i hi, Bool.and_true]
theorem macb_lo (h l : Int32) : macb (h &&& 65535) l = macb h l := by
  unfold macb
  congr 1
  unfold put2
  rw [b8_lo, b8_lo8]
theorem j_boot {σ τ : St} (ok : okS σ) (ok' : okS τ) (hT : RT σ τ) (hG : RG σ τ) (hr1 : σ 1 0 3 = nI 22) (hr2 : σ 1 0 103 = nI 0) (x1 x2 x3 x4 x5 : Int32) :
    w0_boot σ x1 x2 x3 x4 x5 (fun r σ' => w14_boot τ x1 x2 x3 x4 x5 (fun r' τ' => r = r' ∧ ((r < 0 ∧ σ' = σ ∧ τ' = τ) ∨ (¬ r < 0 ∧ RT σ' τ' ∧ RG σ' τ' ∧ RX σ' τ' ∧ RM σ' τ' ∧ Beg σ' τ' ∧ σ' 1 0 3 = nI 22 ∧ σ' 1 0 103 = nI 0)))) := by
  obtain ⟨n, hn, g1, g2, g3⟩ := hG
  obtain ⟨t, ht, t1, t2, t3⟩ := hT
  unfold w0_boot w14_boot
  by_cases c1 : x2 < 8
  · exact br_t c1 (br_t c1 ⟨rfl, Or.inl ⟨by decide, rfl, rfl⟩⟩)
  refine br_f c1 ?_
  by_cases c2 : 30 < x2
  · exact br_t c2 (br_f c1 (br_t c2 ⟨rfl, Or.inl ⟨by decide, rfl, rfl⟩⟩))
  refine br_f c2 ?_
  obtain ⟨bits, hb1, hb2, rfl⟩ : ∃ b : Nat, 8 ≤ b ∧ b ≤ 30 ∧ x2 = nI b := by
    obtain ⟨b, hb, rfl⟩ := nI_of (x := x2) (fun z => c1 (Int32.lt_of_lt_of_le z (by decide)))
    refine ⟨b, ?_, ?_, rfl⟩
    · exact Nat.le_of_not_lt fun z => c1 (nI_lt (b := 8) z (by decide))
    · exact Nat.le_of_not_lt fun z => c2 (nI_lt (a := 30) z (by omega))
  have e32 : (32 : Int32) - nI bits = nI (32 - bits) := pk_sub (a := 32) (by omega)
  refine s19_isUsual (fun u => ?_) (fun u => ?_)
  rotate_left
  · exact br_u rfl (br_f c1 (br_f c2 (s14_isHost (fun z => absurd z u) (fun _ => br_u rfl ⟨rfl, Or.inl ⟨by decide, rfl, rfl⟩⟩))))
  refine br_v (by decide) ?_
  rw [e32]
  by_cases c3 : hib (32 - bits) x3 x1
  rotate_left
  · refine br_v (fun z => c3 ((msk_iff (by omega) _ _).mp z)) (br_f c1 (br_f c2 (s14_isHost (fun _ => br_v (by decide) ?_) (fun z => absurd u z))))
    exact br_v (fun z => c3 ((sar_iff (by omega) _ _).mp z)) ⟨rfl, Or.inl ⟨by decide, rfl, rfl⟩⟩
  refine br_u ((msk_iff (by omega) _ _).mpr c3) ?_
  by_cases c4 : x3 = x1
  · refine br_t c4 (br_f c1 (br_f c2 (s14_isHost (fun _ => br_v (by decide) ?_) (fun z => absurd u z))))
    exact br_u ((sar_iff (by omega) _ _).mpr c3) (br_t c4 ⟨rfl, Or.inl ⟨by decide, rfl, rfl⟩⟩)
  refine br_f c4 ?_
  by_cases c5 : (x4 >>> ((8 : Int32) &&& 31)) &&& 1 = 1
  · refine br_u c5 (br_f c1 (br_f c2 (s14_isHost (fun _ => br_v (by decide) ?_) (fun z => absurd u z))))
    exact br_u ((sar_iff (by omega) _ _).mpr c3) (br_f c4 (br_u c5 ⟨rfl, Or.inl ⟨by decide, rfl, rfl⟩⟩))
  refine br_v c5 ?_
  have hf : ∀ j, by8 (σ 21 0 j) := fun j => abc_by ok (k := 21) (i := 0) (by decide) j
  have hf' : ∀ j, by8 (τ 51 0 j) := fun j => abm_by ok' (k := 51) (i := 0) (by decide) j
  refine s1_open hf hr1 hr2 g1 hn (fun good => ?_) (fun bad => ?_)
  rotate_left
  · refine br_f (by decide) (br_f c1 (br_f c2 (s14_isHost (fun _ => br_v (by decide) ?_) (fun z => absurd u z))))
    refine br_u ((sar_iff (by omega) _ _).mpr c3) (br_f c4 (br_v c5 ?_))
    exact s14_files hf' g2 hn (fun z => absurd (goodI_ext (fun j hj => (g3 j hj).symm) z) bad) (fun _ => br_f (by decide) ⟨rfl, Or.inl ⟨by decide, rfl, rfl⟩⟩)
  have t4 := twoN_lt (σ 21 0) 4
  have hc64 := good.2.2.2.1
  have hcn := good.2.2.2.2.1
  have e4 : twoN (τ 51 0) 4 = twoN (σ 21 0) 4 := twoN_ext (fun j hj => (g3 _ (by omega)).symm)
  refine br_t (nI_pos' (by omega)) (s0_boot_tail (fun σ' a1 a2 a3 a4 a5 a6 a7 a8 a9 a10 a11 a12 => ?_))
  refine br_f c1 (br_f c2 (s14_isHost (fun _ => br_v (by decide) ?_) (fun z => absurd u z)))
  refine br_u ((sar_iff (by omega) _ _).mpr c3) (br_f c4 (br_v c5 ?_))
  refine s14_files hf' g2 hn (fun _ => ?_) (fun z => absurd (goodI_ext g3 good) z)
  rw [e4]
  refine br_t (nI_pos' (by omega)) (s14_boot_tail hc64 (fun τ' b1 b2 b3 b4 b5 b6 b7 b8 b9 b10 => ?_))
  generalize hs2 : up3 (row3 σ 22 0 (va_cpy (σ 21 0) (σ 22 0) 0 0 (8 + 64 * twoN (σ 21 0) 4))) 1 0 1 (nI (twoN (σ 21 0) 4)) = s2 at a1 a12
  have k21 : σ' 21 0 = σ 21 0 := by
    funext j
    rw [a1 21 0 j (by decide) (by decide) (by decide) (by decide) (by decide) (by decide) (by decide) (by decide), ← hs2, up3_i (by decide), row3_o (by decide)]
  have k90 : σ' 90 0 0 = nI n := by
    rw [a1 90 0 0 (by decide) (by decide) (by decide) (by decide) (by decide) (by decide) (by decide) (by decide), ← hs2, up3_i (by decide), row3_o (by decide)]
    exact g1
  have k20 : σ' 20 0 = σ 20 0 := by
    funext j
    rw [a1 20 0 j (by decide) (by decide) (by decide) (by decide) (by decide) (by decide) (by decide) (by decide), ← hs2, up3_i (by decide), row3_o (by decide)]
  have k22 : σ' 22 0 = va_cpy (σ 21 0) (σ 22 0) 0 0 (8 + 64 * twoN (σ 21 0) 4) := by
    funext j
    rw [a1 22 0 j (by decide) (by decide) (by decide) (by decide) (by decide) (by decide) (by decide) (by decide), ← hs2, up3_i (by decide), row3_s]
  have k1 : σ' 1 0 1 = nI (twoN (σ 21 0) 4) := by
    rw [a1 1 0 1 (by decide) (by decide) (by decide) (by decide) (by decide) (by decide) (by decide) (by decide), ← hs2, up3_g, if_pos ⟨rfl, rfl, rfl⟩]
  have m51 : τ' 51 0 = τ 51 0 := funext fun j => b1 51 0 j (by decide) (by decide) (by decide) (by decide) (by decide) (by decide) (by decide) (by decide) (by decide) (by decide)
  have m50 : τ' 50 0 = τ 50 0 := funext fun j => b1 50 0 j (by decide) (by decide) (by decide) (by decide) (by decide) (by decide) (by decide) (by decide) (by decide) (by decide)
  have kb : ∀ j, j < 8 + 64 * twoN (σ 21 0) 4 → σ' 22 0 j = σ 21 0 j := by
    intro j hj
    rw [k22, pk_cpy_in (by omega) (by omega)]
    congr 1
    omega
  refine ⟨rfl, Or.inr ⟨nI_pos (by omega), ⟨t, ht, ?_, ?_, ?_⟩, ⟨n, hn, k90, by rw [b10.2]; exact g2, fun j hj => by rw [k21, m51]; exact g3 j hj⟩, ⟨n, twoN (σ 21 0) 4, hn, hc64, by rw [b10.2]; exact g2, k1, b3.2.2.2.2.2, fun e he => ⟨rig0_ext (fun j hj => (kb j (by omega)).symm) (good.rig e he), fun j hj => ?_, ?_, ?_, ?_⟩⟩, ?_, ?_, ?_, ?_⟩⟩
  · rw [a12, ← hs2, up3_g, if_neg (by decide), row3_g, if_neg (by decide)]; exact t1
  · rw [b10.1]; exact t2
  · rw [k20, m50]; exact t3
  · rw [(b2 e he).1 j hj, kb _ (by omega), g3 _ (by omega)]
  · rw [(b2 e he).2.1]
    exact four_ext (fun j hj => by rw [kb _ (by omega), g3 _ (by omega)])
  · rw [(b2 e he).2.2.1]
    exact four_ext (fun j hj => by rw [kb _ (by omega), g3 _ (by omega)])
  · rw [(b2 e he).2.2.2]
    exact four_ext (fun j hj => by rw [kb _ (by omega), g3 _ (by omega)])
  · refine ⟨by rw [a2, b3.1], by rw [a3, b3.1], by rw [a4, b3.1], by rw [a5, b3.1], by rw [a6, b3.2.2.1], ⟨bits, hb1, hb2, b3.2.1, by rw [a7, e32]⟩, fun j hj => ?_, x4, b3.2.2.2.1⟩
    rw [a8 j hj, b3.2.2.2.1, b3.2.2.2.2.1, macb_lo]
  · exact ⟨⟨a9.1, b4.1⟩, ⟨a9.2.1, b4.2.1⟩, ⟨a9.2.2.1, b4.2.2.1⟩, ⟨a9.2.2.2.1, b7⟩, ⟨a9.2.2.2.2.1, b8⟩, ⟨a9.2.2.2.2.2.1, b9⟩, ⟨a9.2.2.2.2.2.2, b4.2.2.2.1⟩, b4.2.2.2.2.2.2, b4.2.2.2.2.1, b4.2.2.2.2.2.1, a10, b5, fun i hi => ⟨(a11 i hi).1, (a11 i hi).2.1, (a11 i hi).2.2, b6 i hi⟩⟩
  · rw [a1 1 0 3 (by decide) (by decide) (by decide) (by decide) (by decide) (by decide) (by decide) (by decide), ← hs2, up3_g, if_neg (by decide), row3_g, if_neg (by decide)]
    exact hr1
  · rw [a1 1 0 103 (by decide) (by decide) (by decide) (by decide) (by decide) (by decide) (by decide) (by decide), ← hs2, up3_g, if_neg (by decide), row3_g, if_neg (by decide)]
    exact hr2
